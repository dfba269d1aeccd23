/-! the pure phase: its small words -/
def bz (P : Prop) [Decidable P] : Int32 := if P then 1 else 0
theorem bz_f {P : Prop} [Decidable P] (h : bz P = 0) : ¬ P := by
  unfold bz at h
  split at h
  · exact absurd h (by decide)
  · assumption
theorem bz_t {P : Prop} [Decidable P] (h : ¬ bz P = 0) : P := by
  unfold bz at h
  split at h
  · assumption
  · exact absurd rfl h
theorem bz_01 {P : Prop} [Decidable P] : bz P = 0 ∨ bz P = 1 := by
  unfold bz
  split
  · exact Or.inr rfl
  · exact Or.inl rfl
theorem bz_1 {P : Prop} [Decidable P] (h : P) : bz P = 1 := if_pos h
theorem bz_0 {P : Prop} [Decidable P] (h : ¬ P) : bz P = 0 := if_neg h
theorem vin {i : Int32} {n : Nat} (h : (decide (i < 0) || decide (n ≤ i.toNatClampNeg)) = false) : vp_in i n := by
  rw [Bool.or_eq_false_iff, decide_eq_false_iff_not, decide_eq_false_iff_not] at h
  exact fun q => q.elim h.1 h.2
theorem sw_3 {C D : Nat → Prop} (h0 : C 0 → D 0) (h1 : C 1 → D 1) (h2 : C 2 → D 2) : ∀ i, i < 3 → C i → D i
  | 0, _ => h0 | 1, _ => h1 | 2, _ => h2 | n + 3, h => absurd h (by omega)
theorem sw_4 {C D : Nat → Prop} (h0 : C 0 → D 0) (h1 : C 1 → D 1) (h2 : C 2 → D 2) (h3 : C 3 → D 3) : ∀ i, i < 4 → C i → D i
  | 0, _ => h0 | 1, _ => h1 | 2, _ => h2 | 3, _ => h3 | n + 4, h => absurd h (by omega)
theorem sw_6 {C D : Nat → Prop} (h0 : C 0 → D 0) (h1 : C 1 → D 1) (h2 : C 2 → D 2) (h3 : C 3 → D 3) (h4 : C 4 → D 4) (h5 : C 5 → D 5) : ∀ i, i < 6 → C i → D i
  | 0, _ => h0 | 1, _ => h1 | 2, _ => h2 | 3, _ => h3 | 4, _ => h4 | 5, _ => h5 | n + 6, h => absurd h (by omega)
theorem sw_9 {C D : Nat → Prop} (h0 : C 0 → D 0) (h1 : C 1 → D 1) (h2 : C 2 → D 2) (h3 : C 3 → D 3) (h4 : C 4 → D 4) (h5 : C 5 → D 5) (h6 : C 6 → D 6) (h7 : C 7 → D 7) (h8 : C 8 → D 8) : ∀ i, i < 9 → C i → D i
  | 0, _ => h0 | 1, _ => h1 | 2, _ => h2 | 3, _ => h3 | 4, _ => h4 | 5, _ => h5 | 6, _ => h6 | 7, _ => h7 | 8, _ => h8 | n + 9, h => absurd h (by omega)
/-- in a range, of longs -/
abbrev inl (v a b : Int64) : Prop := a ≤ v ∧ v ≤ b
/-- a bit of a set -/
abbrev bit (v k : Int32) : Prop := ((v >>> (k &&& 31)) &&& 1) = 1
theorem cmp_lt {x y : Int64} : lg_cmp x y < 0 ↔ ¬ y ≤ x := by
  rw [← lg_cmp_ge, Int32.not_le]
theorem cmp_gt {x y : Int64} : 0 < lg_cmp x y ↔ ¬ x ≤ y := by
  rw [← lg_cmp_le, Int32.not_le]
theorem rwk : WkT Rn Rn := fun _ _ _ _ _ _ _ _ hl q => Rn.weak q hl
