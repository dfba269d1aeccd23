/-! why not; an item is laid: the twin -/
def whyF (o : Option (Nat × Nat × (Nat → Int64))) (lane a n : Int32) : Int32 := match o with
  | none => -11
  | some (l, z, _) => if nI l ≠ lane then -12 else if a < 0 ∨ n < 0 ∨ z < a.toNatClampNeg + n.toNatClampNeg then -13 else 0
theorem nn_toInt {x : Int32} (h : ¬ x < 0) : x.toInt = (x.toNatClampNeg : Int) := by
  rw [Int32.lt_iff_toInt_lt] at h
  have h0 : (0 : Int32).toInt = 0 := by decide
  rw [h0] at h
  show x.toInt = (x.toInt.toNat : Int)
  omega
theorem wy_gt {a n : Int32} {z : Nat} (hz : z ≤ 24) (ha : ¬ a < 0) (hn : ¬ n < 0) : (0 < lg_cmp (a.toInt64 + n.toInt64) (nI z).toInt64) ↔ z < a.toNatClampNeg + n.toNatClampNeg := by
  rw [cmp_gt, Int64.le_iff_toInt_le, Int64.toInt_add, Int32.toInt_toInt64, Int32.toInt_toInt64, Int32.toInt_toInt64, nn_toInt ha, nn_toInt hn, nI_toInt (by omega)]
  have b1 : a.toInt < 2 ^ 31 := Int32.toInt_lt a
  have b2 : n.toInt < 2 ^ 31 := Int32.toInt_lt n
  rw [nn_toInt ha] at b1
  rw [nn_toInt hn] at b2
  rw [Int.bmod_eq_of_le (by omega) (by omega)]
  omega
theorem m_why {σ : Sg} {e : En} {I : Nat → Nat → Int32} {G : Nat → Nat → Int64} {Q : Po} {s : Nat} {lane a n : Int32} (hM : MR σ I G) (hO : OkG σ) (hs : s < 4) (hQ : Q (.returned (some (.int (whyF (σ.2.2.2.2 s) lane a n)))) (mX e I G)) : Rn 156 0 [some (.ref 179), some (.int (nI s)), some (.int lane), some (.int a), some (.int n)] [] (0, 0) (mX e I G) Q := by
  obtain ⟨-, -, -, g4, g5⟩ := shr_fact (e := e) hs
  have hS := hM.2.2.2.2 s hs
  cases hsh : σ.2.2.2.2 s with
  | none =>
    rw [hsh] at hQ
    have h1 := hS.1 hsh
    have hl : I 188 (nI s).toNatClampNeg < 0 := by rw [g4, h1]; decide
    exact g_X9_why_0 g5 (fun _ => hQ) (fun q => absurd hl q) (fun q => absurd hl q) (fun q => absurd hl q) (fun q => absurd hl q) (fun q => absurd hl q) (fun q => absurd hl q) (fun q => absurd hl q)
  | some t =>
    obtain ⟨l, z, f⟩ := t
    rw [hsh] at hQ
    obtain ⟨h1, h2, h3⟩ := hS.2 l z f hsh
    obtain ⟨hl4, hz24⟩ := hO.2.2.2 s hs l z f hsh
    unfold whyF at hQ
    dsimp only at hQ
    refine g_X9_why_0 g5 (fun q => ?_) (fun _ => g5) (fun _ q c1 => ?_) (fun _ q c1 c2 => ?_) (fun _ _ _ _ => g5) (fun _ q c1 c2 c3 => ?_) (fun _ q c1 c2 c3 => ?_) (fun _ q => ?_)
    · rw [g4, h1] at q
      exact absurd q (nI_nn l hl4)
    · rw [g4, h1] at q
      rw [if_neg (fun k => k q), if_pos (Or.inl c1)] at hQ
      exact hQ
    · rw [g4, h1] at q
      rw [if_neg (fun k => k q), if_pos (Or.inr (Or.inl c2))] at hQ
      exact hQ
    · rw [g4, h1] at q
      rw [g4, h2] at c3
      rw [if_neg (fun k => k q), if_pos (Or.inr (Or.inr ((wy_gt hz24 c1 c2).mp c3)))] at hQ
      exact hQ
    · rw [g4, h1] at q
      rw [g4, h2] at c3
      rw [if_neg (fun k => k q), if_neg (fun k => k.elim c1 (fun k => k.elim c2 (fun k => c3 ((wy_gt hz24 c1 c2).mpr k))))] at hQ
      exact hQ
    · rw [g4, h1] at q
      rw [if_pos q] at hQ
      exact hQ
