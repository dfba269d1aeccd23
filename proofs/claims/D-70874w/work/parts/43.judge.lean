/-! who judges: the one -/
section S43
variable {e : En} {I : Nat → Nat → Int32} {G : Nat → Nat → Int64} {Q : Po}
theorem judB_lt {f : Nat → Bool} {v : Nat → Int32} : ∀ {n b : Nat}, judB f v n = some b → b < n
  | 0, _, h => by cases h
  | n + 1, b, h => by
    unfold judB at h
    split at h
    · split at h
      · cases h; exact Nat.lt_succ_self _
      · rename_i b2 h2
        have := judB_lt h2
        split at h
        · cases h; omega
        · cases h; omega
    · have := judB_lt h; omega
theorem c_judgeLoop {n m d : Nat} {h S : Int32} {f : Nat → Bool} (ok : Ok (twn I 7) n m d)
    (hf : ∀ p, p < n → (f p = true ↔ bit S (nI p))) (hQ : Q (.returned (some (.int (noI (judB f (late (twn I 7) h) n))))) (mX e I G)) :
    ∀ j k, k + j = n → Rn 34 22 [some (.ref 0), none, some (.int h), some (.int S), some (.int (noI (judB f (late (twn I 7) h) k))), some (.int (nI k))] [] (0, 0) (mX e I G) Q := by
  have hn : I 7 7 = nI n := ok.hn
  have h6 := ok.n6
  intro j
  induction j with
  | zero =>
    intro k hk
    have : k = n := by omega
    subst this
    refine g_X0_judgeOf_22 ?_ ?_ ?_ ?_ ?_ ?_ ?_
    all_goals intro h1
    all_goals rw [hn] at h1
    iterate 6 exact absurd h1 (nI_nlt (Nat.le_refl _) (by omega))
    exact hQ
  | succ j ih =>
    intro k hk
    have ih2 := ih (k + 1) (by omega)
    have hkn : k < n := by omega
    have hff := hf k hkn
    have hx : nI k < I 7 7 := by rw [hn]; exact nI_lt hkn (by omega)
    cases hj : judB f (late (twn I 7) h) k with
    | none =>
      refine g_X0_judgeOf_22 ?_ ?_ ?_ ?_ ?_ ?_ ?_
      · intro _ h2
        have : f k = false := Bool.eq_false_iff.mpr fun q => h2 (hff.mp q)
        rw [judB, this, hj] at ih2
        rw [nI_1]; exact ih2
      · intro _ h2 _
        rw [judB, hff.mpr h2, hj] at ih2
        rw [nI_1]; exact ih2
      · intro _ _ h3; exact absurd (by decide) h3
      · intro _ _ h3; exact absurd (by decide) h3
      · intro _ _ h3; exact absurd (by decide) h3
      · intro _ _ h3; exact absurd (by decide) h3
      · intro h1; exact absurd hx h1
    | some b =>
      have hb := judB_lt hj
      refine g_X0_judgeOf_22 ?_ ?_ ?_ ?_ ?_ ?_ ?_
      · intro _ h2
        have : f k = false := Bool.eq_false_iff.mpr fun q => h2 (hff.mp q)
        rw [judB, this, hj] at ih2
        rw [nI_1]; exact ih2
      · intro _ h2 h3; exact absurd h3 (nI_pos (by omega))
      · intro _ _ _; exact vp_in_nI (by omega) (by omega)
      · intro _ _ _; exact vp_in_nI (by omega) (by omega)
      · intro _ h2 _ h4
        rw [cby_late (by omega)] at h4
        have h5 : late (twn I 7) h k < late (twn I 7) h b := by rw [← cby_late (by omega : b < 6)]; exact h4
        rw [judB, hff.mpr h2, hj] at ih2
        simp only [if_true, h5] at ih2
        rw [nI_1]; exact ih2
      · intro _ h2 _ h4
        rw [cby_late (by omega)] at h4
        have h5 : ¬ late (twn I 7) h k < late (twn I 7) h b := by rw [← cby_late (by omega : b < 6)]; exact h4
        rw [judB, hff.mpr h2, hj] at ih2
        simp only [if_true, h5, if_false] at ih2
        rw [nI_1]; exact ih2
      · intro h1; exact absurd hx h1
theorem c_judgeOf {n m d : Nat} {c h : Int32} (ok : Ok (twn I 7) n m d) (hc : caseP m c) (hQ : Q (.returned (some (.int (noI (judg (twn I 7) h c))))) (mX e I G)) :
    Rn 34 0 [some (.ref 0), some (.int c), some (.int h), none, none, none] [] (0, 0) (mX e I G) Q := by
  have h6 := ok.n6
  have hm6 := ok.m6
  have h0 : (twn I 7 0).toNatClampNeg = n := by rw [ok.hn, nI_clamp (by omega)]
  unfold judg at hQ
  rw [h0] at hQ
  refine g_X0_judgeOf_0 ?_ ?_
  · intro h1
    have h2 : c = -4 := by
      rcases hc with h2 | ⟨k, hk, h2⟩
      · exact h2
      · rw [h2] at h1; exact absurd h1 (nI_pos (by omega))
    refine c_judgeLoop ok ?_ hQ n 0 (by omega)
    intro p hp
    refine iff_of_false ?_ (bit_0 (by omega))
    rw [show decide (¬ c = -4) = false from decide_eq_false (fun q => q h2), Bool.false_and]
    exact Bool.false_ne_true
  · intro h1
    rcases hc with h2 | ⟨k, hk, h2⟩
    · rw [h2] at h1; exact absurd (by decide) h1
    · subst h2
      refine c_judgesOf ok hk ?_
      refine g_X0_judgeOf_14 (c_judgeLoop ok ?_ hQ n 0 (by omega))
      intro p hp
      rw [maySet, setB_bit h6 (by omega)]
      exact ⟨fun q => ⟨hp, q⟩, fun q => q.2⟩
end S43
