/-! orders of the cases, by number -/
def fac : Nat → Nat
  | 0 => 1
  | n + 1 => (n + 1) * fac n
def lowB (r : Nat) : Nat := ((List.range 6).find? fun i => r.testBit i).getD 6
def clrT (r : Nat) : Nat → Nat
  | 0 => r
  | t + 1 => clr (clrT r t)
def pck (l t : Nat) : Nat := lowB (clrT l t)
def rmv (l c : Nat) : Nat := if l.testBit c then l - 2 ^ c else l
/-- what is left, the unit, the rest, k places being known -/
def ordS (n N : Nat) : Nat → Nat × Nat × Nat
  | 0 => (2 ^ n - 1, fac n, N)
  | k + 1 => match ordS n N k with
    | (l, u, r) => (rmv l (pck l (r / (u / (n - k)))), u / (n - k), r % (u / (n - k)))
def permF (n N k : Nat) : Nat := match ordS n N k with
  | (l, u, r) => pck l (r / (u / (n - k)))
def findA (f : Nat → Nat) : Nat → Nat
  | 0 => 0
  | a + 1 => if f (a + 1) < f a then findA f a else a + 1
def findJ (f : Nat → Nat) (i : Nat) : Nat → Nat
  | 0 => 0
  | j + 1 => if f (j + 1) < f i then findJ f i j else j + 1
def swp (f : Nat → Nat) (i j : Nat) : Nat → Nat := fun k => if k = j then f i else if k = i then f j else f k
def revF : Nat → (Nat → Nat) → Nat → Nat → Nat → Nat
  | 0, f, _, _ => f
  | k + 1, f, a, b => if a < b then revF k (swp f a b) (a + 1) (b - 1) else f
def nxt (f : Nat → Nat) (n : Nat) : Option (Nat → Nat) := match findA f (n - 1) with
  | 0 => none
  | i + 1 => some (revF 3 (swp f i (findJ f i (n - 1))) (i + 1) (n - 1))
/-- a row of an order, for looking up -/
def rowL (n N : Nat) : List Nat := (List.range n).map (permF n N)
def nxL (n N : Nat) : Bool := match nxt (fun k => (rowL n N).getD k 0) n with
  | none => decide (N + 1 = fac n)
  | some g => decide (N + 1 < fac n) && ((List.range n).map g == rowL n (N + 1))
def orL (n N k : Nat) : Bool := match ordS n N k with
  | (l, u, r) => decide (l < 64) && decide (0 < u / (n - k)) && decide (u < 1000) && decide (r < 1000) && decide (r / (u / (n - k)) < 6) && decide (permF n N k < n) && (List.range 6).all (fun t => decide (r / (u / (n - k)) < t) || decide (clrT l t ≠ 0))
theorem or_all : ∀ n, n < 7 → ∀ N, N < fac n → ∀ k, k < n → orL n N k = true := by decide +kernel
theorem nx_all : ∀ n, n < 7 → 0 < n → ∀ N, N < fac n → nxL n N = true := by decide +kernel
theorem perm_0 : ∀ n, n < 7 → ∀ c, c < n → permF n 0 c = c := by decide +kernel
theorem fac_7 : ∀ n, n < 7 → 0 < fac n ∧ fac n ≤ 720 := by decide
