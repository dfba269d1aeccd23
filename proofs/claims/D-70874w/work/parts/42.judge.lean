/-! who judges -/
section S42
variable {e : En} {I : Nat → Nat → Int32} {G : Nat → Nat → Int64} {Q : Po}
theorem cby_late {h : Int32} {p : Nat} (hp : p < 6) : cbyE I (nI p) h = late (twn I 7) h p := by
  unfold cbyE cmsE late
  rw [nI_clamp (by omega), (twn_k I 7 p hp).2.1, (twn_k I 7 p hp).2.2.1]
  rfl
theorem or_0 (x : Int32) : x ||| 0 = x := by
  rw [← Int32.toBitVec_inj]
  show x.toBitVec ||| 0#32 = _
  simp
/-- the test of a case's judges, case known -/
def mayB (t : Nat → Int32) (h : Int32) (c : Int32) : Nat → Bool := fun p => decide (¬ c = -4) && decide (mayP t h c.toNatClampNeg p)
theorem c_judgesLoop {n m d : Nat} {h x5 : Int32} {f : Nat → Bool} (ok : Ok (twn I 7) n m d)
    (hf : ∀ p, p < n → (f p = true ↔ ¬ bit x5 (nI p) ∧ ¬ I 7 9 < late (twn I 7) h p)) (hQ : Q (.returned (some (.int (setB f n)))) (mX e I G)) :
    ∀ j k, k + j = n → Rn 27 42 [some (.ref 0), none, some (.int h), some (.int (setB f k)), none, some (.int x5), some (.int (nI k))] [] (0, 0) (mX e I G) Q := by
  have hn : I 7 7 = nI n := ok.hn
  have h6 := ok.n6
  intro j
  induction j with
  | zero =>
    intro k hk
    have : k = n := by omega
    subst this
    refine g_X0_judgesOf_42 ?_ ?_ ?_ ?_ ?_
    all_goals intro h1
    all_goals rw [hn] at h1
    iterate 4 exact absurd h1 (nI_nlt (Nat.le_refl _) (by omega))
    exact hQ
  | succ j ih =>
    intro k hk
    have ih2 := ih (k + 1) (by omega)
    have hkn : k < n := by omega
    have hff := hf k hkn
    refine g_X0_judgesOf_42 ?_ ?_ ?_ ?_ ?_
    · intro _ _; exact vp_in_nI (by omega) (by omega)
    · intro _ h2 h3
      rw [cby_late (by omega)] at h3
      have : f k = false := Bool.eq_false_iff.mpr fun q => (hff.mp q).2 h3
      rw [nI_1]
      have e2 : setB f (k + 1) = setB f k ||| 0 := by rw [setB, this]; rfl
      rw [← e2]; exact ih2
    · intro _ h2 h3
      rw [cby_late (by omega)] at h3
      have : f k = true := hff.mpr ⟨h2, h3⟩
      rw [nI_1]
      have e2 : setB f (k + 1) = setB f k ||| (1 <<< (nI k &&& 31)) := by rw [setB, this]; rfl
      rw [← e2]; exact ih2
    · intro _ h2
      have : f k = false := Bool.eq_false_iff.mpr fun q => (hff.mp q).1 h2
      rw [nI_1]
      have e2 : setB f (k + 1) = setB f k ||| 0 := by rw [setB, this]; rfl
      rw [← e2]; exact ih2
    · intro h1
      rw [hn] at h1
      exact absurd (nI_lt hkn (by omega)) h1
theorem c_judgesOf {n m d c : Nat} {h : Int32} (ok : Ok (twn I 7) n m d) (hc : c < m) (hQ : Q (.returned (some (.int (maySet (twn I 7) h (nI c) n)))) (mX e I G)) :
    Rn 27 0 [some (.ref 0), some (.int (nI c)), some (.int h), none, none, none, none] [] (0, 0) (mX e I G) Q := by
  have h6 := ok.n6
  have hm6 := ok.m6
  have hcl : (nI c).toNatClampNeg = c := nI_clamp (by omega)
  have ha : I 14 c = twn I 7 (38 + 2 * c) := ((twn_c I 7 c (by omega)).2).symm
  have hc4 : decide (¬ nI c = -4) = true := decide_eq_true (nI_m4 (by omega))
  refine g_X0_judgesOf_0 (vp_in_nI (by omega) (by omega)) ?_ ?_ ?_
  · intro h1
    rw [hcl, ha] at h1
    have h2 : twn I 7 (38 + 2 * c) = -4 := by
      rcases ok.acc c hc with h2 | ⟨k, hk, h2⟩
      · exact h2
      · rw [h2] at h1; exact absurd h1 (nI_pos (by omega))
    refine c_judgesLoop (f := fun p => decide (¬ nI c = -4) && decide (mayP (twn I 7) h (nI c).toNatClampNeg p)) ok ?_ hQ n 0 (by omega)
    intro p hp
    rw [hc4, Bool.true_and, decide_eq_true_eq, hcl]
    constructor
    · intro h3; exact ⟨bit_0 (by omega), h3.1⟩
    · intro h3; exact ⟨h3.2, Or.inl h2⟩
  · intro h1
    rw [hcl, ha] at h1 ⊢
    rcases ok.acc c hc with h2 | ⟨k, hk, h2⟩
    · rw [h2] at h1; exact absurd (by decide) h1
    · rw [h2]; exact vp_in_nI (by omega) (by omega)
  · intro h1
    rw [hcl, ha] at h1 ⊢
    rcases ok.acc c hc with h2 | ⟨k, hk, h2⟩
    · rw [h2] at h1; exact absurd (by decide) h1
    · refine c_judgesLoop (f := fun p => decide (¬ nI c = -4) && decide (mayP (twn I 7) h (nI c).toNatClampNeg p)) ok ?_ hQ n 0 (by omega)
      intro p hp
      rw [hc4, Bool.true_and, decide_eq_true_eq, hcl, h2, bit_or (by omega), bit_sh k (by omega) p (by omega), nI_clamp (by omega)]
      have hk3 : I 10 k = twn I 7 (11 + 5 * k) := ((twn_k I 7 k (by omega)).2.2.2.2).symm
      rw [hk3]
      unfold mayP
      rw [h2, nI_clamp (by omega), nI_eq (by omega) (by omega)]
      constructor
      · rintro ⟨h3, h4 | h4⟩
        · exact absurd h4 (nI_m4 (by omega))
        · exact ⟨fun q => q.elim (fun q => h4.1 q.symm) h4.2, h3⟩
      · rintro ⟨h3, h4⟩
        exact ⟨h4, Or.inr ⟨fun q => h3 (Or.inl q.symm), fun q => h3 (Or.inr q)⟩⟩
end S42
