/-! both constructors, run -/
def vEq : Value → Value → Bool
  | .null, .null => true
  | .ref a, .ref b => a == b
  | _, _ => false
theorem vEq_t : ∀ {a b : Value}, vEq a b = true → a = b
  | .null, .null, _ => rfl
  | .ref a, .ref b, h => by
    have : a = b := by simpa [vEq] using h
    rw [this]
  | .null, .ref _, h => by cases h
  | .null, .int _, h => by cases h
  | .null, .long _, h => by cases h
  | .null, .double _, h => by cases h
  | .null, .retAddr _, h => by cases h
  | .int _, _, h => by cases h
  | .long _, _, h => by cases h
  | .double _, _, h => by cases h
  | .retAddr _, _, h => by cases h
  | .ref _, .null, h => by cases h
  | .ref _, .int _, h => by cases h
  | .ref _, .long _, h => by cases h
  | .ref _, .double _, h => by cases h
  | .ref _, .retAddr _, h => by cases h
def nEq : List Value → Bool
  | [] => true
  | y :: b => vEq y .null && nEq b
theorem nEq_t : ∀ {b : List Value}, nEq b = true → ∀ j, b.getD j .null = .null
  | [], _, _ => rfl
  | y :: b, h, j => by
    have h' : (vEq y .null && nEq b) = true := h
    rw [Bool.and_eq_true] at h'
    cases j with
    | zero => exact vEq_t h'.1
    | succ j => exact nEq_t (b := b) h'.2 j
def lEq : List Value → List Value → Bool
  | [], b => nEq b
  | x :: a, [] => vEq x .null && nEq a
  | x :: a, y :: b => vEq x y && lEq a b
theorem lEq_t : ∀ {a b : List Value}, lEq a b = true → ∀ j, a.getD j .null = b.getD j .null
  | [], b, h, j => (nEq_t (b := b) h j).symm
  | x :: a, [], h, j => by
    have h' : (vEq x .null && nEq a) = true := h
    rw [Bool.and_eq_true] at h'
    cases j with
    | zero => exact vEq_t h'.1
    | succ j => exact nEq_t (b := a) h'.2 j
  | x :: a, y :: b, h, j => by
    have h' : (vEq x y && lEq a b) = true := h
    rw [Bool.and_eq_true] at h'
    cases j with
    | zero => exact vEq_t h'.1
    | succ j => exact lEq_t (a := a) (b := b) h'.2 j
def t00 (j : Nat) : Int32 := if j = 3 then 99 else if j = 5 then -4 else if j = 6 then 1 else 0
def cRl (c : List Cel) (k : Nat) : List Value := match c[k]? with
  | some x => x.2.1
  | none => []
def chk2 (c : List Cel) : Bool := c.length == 192 && ((List.range 192).all (fun k => decide (cS c k = S0 k)) && ((List.range 192).all (fun k => isV k || lEq (cRl c k) (R0l k)) && ((List.range 8).all (fun k => vEq (cR c 25 k) (.ref (51 + 16 * k))) && ((List.range 4).all (fun s => vEq (cR c (47 + s) 0) .null) && ((List.range 49).all (fun j => decide (cI c (7 + (ta j).1) (ta j).2 = t00 j)) && ((List.range 49).all (fun j => decide (cI c 180 j = t00 j)) && (decide (cI c 0 4 = 0 ∧ cI c 0 8 = 0 ∧ cI c 0 16 = 0 ∧ cI c 179 2 = 0 ∧ cI c 179 8 = 0 ∧ cI c 179 13 = 0) && (List.range 4).all (fun s => decide (cI c 188 s = -1)))))))))
def chk1 : Bool := match runC 4000 0 0 (entL (mloc 0) [.ref 0]) [] (0, 0) [(.inl 0, [], [])] with
  | some c1 => c1.length == 179 && (match runC 1000 94 0 (entL (mloc 94) [.ref 179]) [] (0, 0) (c1 ++ [(.inl 9, [], [])]) with
    | some c2 => chk2 c2
    | none => false)
  | none => false
set_option maxRecDepth 1000000
theorem chk1_t : chk1 = true := by decide +kernel
theorem made : ∃ c1 c2, runC 4000 0 0 (entL (mloc 0) [.ref 0]) [] (0, 0) [(.inl 0, [], [])] = some c1 ∧ c1.length = 179 ∧ runC 1000 94 0 (entL (mloc 94) [.ref 179]) [] (0, 0) (c1 ++ [(.inl 9, [], [])]) = some c2 ∧ chk2 c2 = true := by
  have h := chk1_t
  unfold chk1 at h
  split at h
  · rename_i c1 h1
    rw [Bool.and_eq_true] at h
    have hl : c1.length = 179 := by simpa using h.1
    have h2 := h.2
    split at h2
    · rename_i c2 h3
      exact ⟨c1, c2, h1, hl, h3, h2⟩
    · cases h2
  · cases h
