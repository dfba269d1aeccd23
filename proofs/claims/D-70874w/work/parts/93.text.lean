/-! a text is read: the spec -/
def sk (T : Nat → Int32) (q i : Nat) : Nat := if h : i < q ∧ T i = 32 then sk T q (i + 1) else i
termination_by q - i
decreasing_by omega
theorem sk_t {T : Nat → Int32} {q i : Nat} (h : i < q ∧ T i = 32) : sk T q i = sk T q (i + 1) := by rw [sk, dif_pos h]
theorem sk_f {T : Nat → Int32} {q i : Nat} (h : ¬ (i < q ∧ T i = 32)) : sk T q i = i := by rw [sk, dif_neg h]
theorem sk_all (T : Nat → Int32) (q : Nat) : ∀ n i, q - i = n → (i ≤ q → sk T q i ≤ q) ∧ ¬ (sk T q i < q ∧ T (sk T q i) = 32) := by
  intro n
  induction n with
  | zero =>
    intro i hi
    have : ¬ (i < q ∧ T i = 32) := by omega
    rw [sk_f this]
    exact ⟨id, this⟩
  | succ n ih =>
    intro i hi
    by_cases h : i < q ∧ T i = 32
    · rw [sk_t h]
      have := ih (i + 1) (by omega)
      exact ⟨fun _ => this.1 (by omega), this.2⟩
    · rw [sk_f h]
      exact ⟨id, h⟩
theorem sk_le {T : Nat → Int32} {q i : Nat} (h : i ≤ q) : sk T q i ≤ q := (sk_all T q _ i rfl).1 h
theorem sk_no {T : Nat → Int32} {q i : Nat} : ¬ (sk T q i < q ∧ T (sk T q i) = 32) := (sk_all T q _ i rfl).2
theorem sk_sk {T : Nat → Int32} {q i : Nat} : sk T q (sk T q i) = sk T q i := sk_f sk_no
/-- what is read, up to where; or where it went wrong -/
abbrev Rd (α : Type) : Type := Sum Nat (α × Nat)
def bnd {α β : Type} (r : Rd α) (f : α → Nat → Rd β) : Rd β := match r with
  | .inl p => .inl p
  | .inr (v, k) => f v k
theorem bnd_l {α β : Type} {r : Rd α} {f : α → Nat → Rd β} {p : Nat} (h : r = .inl p) : bnd r f = .inl p := by rw [h]; rfl
theorem bnd_r {α β : Type} {r : Rd α} {f : α → Nat → Rd β} {v : α} {k : Nat} (h : r = .inr (v, k)) : bnd r f = f v k := by rw [h]; rfl
/-- a sign stands at a place -/
abbrev isC (T : Nat → Int32) (q k : Nat) (c : Int32) : Prop := k < q ∧ T k = c
abbrev isD (T : Nat → Int32) (q k : Nat) : Prop := k < q ∧ inl (T k).toInt64 48 57
def digs (T : Nat → Int32) (q : Nat) : Nat → Nat → Int32 → Int32 × Nat
  | 0, k, v => (v, k)
  | j + 1, k, v => if isD T q k then digs T q j (k + 1) (10 * v + T k - 48) else (v, k)
def num (T : Nat → Int32) (q : Nat) (lo hi : Int32) (i : Nat) : Rd Int32 :=
  if isD T q (sk T q i) then (if inl (digs T q 3 (sk T q i) 0).1.toInt64 lo.toInt64 hi.toInt64 then .inr (digs T q 3 (sk T q i) 0) else .inl (sk T q i)) else .inl (sk T q i)
def sgn (T : Nat → Int32) (q : Nat) (c : Int32) (i : Nat) : Rd Unit := if isC T q (sk T q i) c then .inr ((), sk T q i + 1) else .inl (sk T q i)
def dig (T : Nat → Int32) (q : Nat) (lo hi : Int32) (i : Nat) : Rd Int32 := if sk T q i < q ∧ inl (T (sk T q i) - 48).toInt64 lo.toInt64 hi.toInt64 then .inr (T (sk T q i) - 48, sk T q i + 1) else .inl (sk T q i)
/-- kin, rising: so many may still come, the last one, the set -/
def kinA (T : Nat → Int32) (q p : Nat) : Nat → Nat → Nat → Nat → Rd Int32
  | 0, _, a, i => if isD T q (sk T q i) then .inl (sk T q i) else .inr (nI a, sk T q i)
  | r + 1, l, a, i => if isD T q (sk T q i) then
      (if inl (T (sk T q i) - 48).toInt64 (nI l + 1).toInt64 (nI p - 1).toInt64 then kinA T q p r (T (sk T q i) - 48).toNatClampNeg (a + 2 ^ (T (sk T q i) - 48).toNatClampNeg) (sk T q i + 1) else .inl (sk T q i))
    else .inr (nI a, sk T q i)
def kinR (T : Nat → Int32) (q p i : Nat) : Rd Int32 := bnd (dig T q 0 (nI p - 1) i) fun v k => kinA T q p p v.toNatClampNeg (2 ^ v.toNatClampNeg) k
def kindS (c : Int32) : Int32 := if c = 112 then 0 else if c = 104 then 1 else if c = 109 then 2 else if c = 98 then 3 else if c = 103 then 4 else -4
def kndR (T : Nat → Int32) (q i : Nat) : Rd Int32 := if sk T q i < q ∧ ¬ kindS (T (sk T q i)) < 0 then .inr (kindS (T (sk T q i)), sk T q i + 1) else .inl (sk T q i)
def linR (T : Nat → Int32) (q i : Nat) : Rd Int32 := if isC T q (sk T q i) 43 then num T q 0 60 (sk T q i + 1) else .inr (0, sk T q i)
def knR (T : Nat → Int32) (q p i : Nat) : Rd Int32 := if isC T q (sk T q i) 47 then kinR T q p (sk T q i + 1) else .inr (0, sk T q i)
abbrev Prs : Type := Int32 × Int32 × Int32 × Int32
def pers (T : Nat → Int32) (q n i : Nat) : Rd Prs := bnd (kndR T q i) fun kd i0 => bnd (num T q 1 99 i0) fun w i1 => bnd (linR T q i1) fun l i2 => bnd (knR T q n i2) fun kn i3 => .inr ((kd, w, l, kn), i3)
def plist (T : Nat → Int32) (q : Nat) : Nat → Nat → Nat → Rd (List Prs)
  | 0, _, i => .inr ([], i)
  | r + 1, n, i => if isC T q (sk T q i) 44 then bnd (pers T q n (sk T q i + 1)) fun x k => bnd (plist T q r (n + 1) k) fun xs k' => .inr (x :: xs, k') else .inr ([], sk T q i)
def accR (T : Nat → Int32) (q p i : Nat) : Rd Int32 := if isC T q (sk T q i) 64 then dig T q 0 (nI p - 1) (sk T q i + 1) else .inr (-4, sk T q i)
abbrev Cas : Type := Int32 × Int32
def casR (T : Nat → Int32) (q p i : Nat) : Rd Cas := bnd (num T q 0 20 i) fun v i1 => bnd (accR T q p i1) fun a i2 => .inr ((v, a), i2)
def clist (T : Nat → Int32) (q p : Nat) : Nat → Nat → Rd (List Cas)
  | 0, i => .inr ([], i)
  | r + 1, i => if isC T q (sk T q i) 44 then bnd (casR T q p (sk T q i + 1)) fun x k => bnd (clist T q p r k) fun xs k' => .inr (x :: xs, k') else .inr ([], sk T q i)
/-- nothing may follow -/
def finR (T : Nat → Int32) (q : Nat) (cs : List Cas) (k : Nat) : Rd (List Cas) := if sk T q k < q then .inl (sk T q k) else .inr (cs, sk T q k)
def rest (T : Nat → Int32) (q p i : Nat) : Rd (List Cas) := if isC T q (sk T q i) 59 then bnd (casR T q p (sk T q i + 1)) fun x k => bnd (clist T q p 5 k) fun xs k' => finR T q (x :: xs) k' else finR T q [] (sk T q i)
def townR (T : Nat → Int32) (q : Nat) : Rd (Int32 × List Prs × List Cas) := bnd (num T q 10 200 0) fun d i1 => bnd (sgn T q 59 i1) fun _ i2 => bnd (pers T q 0 i2) fun x i3 => bnd (plist T q 5 1 i3) fun xs i4 => bnd (rest T q (xs.length + 1) i4) fun cs k => .inr ((d, x :: xs, cs), k)
def bgn (t : Nat → Int32) (d : Int32) : Nat → Int32 := up1 (up1 (up1 (up1 (up1 (up1 t 0 0) 1 0) 2 0) 3 d) 4 0) 5 (-4)
def addN : (Nat → Int32) → Nat → List Prs → (Nat → Int32)
  | t, _, [] => t
  | t, n, x :: xs => addN (newP t n x.1 x.2.1 x.2.2.1 x.2.2.2) (n + 1) xs
def addC : (Nat → Int32) → Nat → List Cas → (Nat → Int32)
  | t, _, [] => t
  | t, m, x :: xs => addC (newC t m x.1 x.2) (m + 1) xs
def townF (σ : Sg) : Int32 × Sg := match townR σ.2.2.1.2 σ.2.2.1.1 with
  | .inl p => (-20 - nI p, (σ.1, σ.2.1, (0, σ.2.2.1.2), σ.2.2.2))
  | .inr ((d, xs, cs), _) => (nI xs.length, (addC (addN (bgn σ.1 d) 0 xs) 0 cs, (0, σ.2.1.2), (0, σ.2.2.1.2), σ.2.2.2))
/-! sets of kin: small facts -/
theorem ks_1 : ∀ v, v < 6 → ∀ a, a < 2 ^ v → (nI a < 1 <<< (nI v &&& 31) ∧ nI a ||| (1 <<< (nI v &&& 31)) = nI (a + 2 ^ v)) := by decide +kernel
theorem ks_2 : ∀ l, l < 6 → ∀ a, a < 2 ^ (l + 1) → 2 ^ l ≤ a → ∀ v, v ≤ l → ¬ nI a < 1 <<< (nI v &&& 31) := by decide +kernel
theorem ks_3 : ∀ v, v < 6 → ∀ a, a < 2 ^ v → ∀ k, k < 6 → (((nI (a + 2 ^ v)) >>> (nI k &&& 31)) &&& 1) = (if k = v then 1 else ((nI a) >>> (nI k &&& 31)) &&& 1) := by decide +kernel
theorem ks_4 : ∀ v, v < 6 → ∀ a, a < 2 ^ v → ((nI a) >>> (nI v &&& 31)) &&& 1 = 0 := by decide +kernel
theorem ks_5 : ∀ p, p < 6 → ((0 : Int32) <<< (nI p &&& 31) = 0 ∧ (1 : Int32) <<< (nI p &&& 31) = 1 <<< (nI p &&& 31)) := by decide +kernel
/-- one more of the kin -/
theorem join_newP {t : Nat → Int32} {n v a : Nat} {k w l : Int32} (hn : n < 6) (hv : v < n) (ha : a < 2 ^ v) :
    up1 (up1 (newP t n k w l (nI a)) (11 + 5 * n) (newP t n k w l (nI a) (11 + 5 * n) ||| (1 <<< (nI v &&& 31)))) (11 + 5 * v) (newP t n k w l (nI a) (11 + 5 * v) ||| (1 <<< (nI n &&& 31))) = newP t n k w l (nI (a + 2 ^ v)) := by
  have ek : ∀ kn q, q < n → newP t n k w l kn (11 + 5 * q) = t (11 + 5 * q) ||| (((kn >>> (nI q &&& 31)) &&& 1) <<< (nI n &&& 31)) := fun kn q hq => by
    unfold newP
    rw [up1_ne (by omega), kinL_at hq, addP_ne (by omega)]
  have en : ∀ kn, newP t n k w l kn (11 + 5 * n) = kn := fun kn => by
    unfold newP
    rw [up1_ne (by omega), kinL_ne (fun q hq => by omega)]
    exact up1_at
  have eo : ∀ kn j, (∀ q, q ≤ n → j ≠ 11 + 5 * q) → newP t n k w l kn j = newP t n k w l (nI a) j := fun kn j hj => by
    unfold newP
    by_cases h0 : j = 0
    · subst h0; rw [up1_at, up1_at]
    · rw [up1_ne h0, up1_ne h0, kinL_ne (fun q hq => hj q (by omega)), kinL_ne (fun q hq => hj q (by omega))]
      unfold addP
      rw [up1_ne (hj n (by omega)), up1_ne (hj n (by omega))]
  funext j
  by_cases h1 : j = 11 + 5 * v
  · subst h1
    rw [up1_at, ek _ v hv, ek _ v hv, ks_4 v (by omega) a ha, (ks_5 n hn).1, ks_3 v (by omega) a ha v (by omega), if_pos rfl, or_0]
  · rw [up1_ne h1]
    by_cases h2 : j = 11 + 5 * n
    · subst h2
      rw [up1_at, en, en, (ks_1 v (by omega) a ha).2]
    · rw [up1_ne h2]
      by_cases h3 : ∃ q, q < n ∧ j = 11 + 5 * q
      · obtain ⟨r, hr, rfl⟩ := h3
        rw [ek _ r hr, ek _ r hr, ks_3 v (by omega) a ha r (by omega), if_neg (by omega)]
      · refine (eo _ j fun q hq => ?_).symm
        by_cases h4 : q = n
        · subst h4; exact h2
        · exact fun h => h3 ⟨q, by omega, h⟩
