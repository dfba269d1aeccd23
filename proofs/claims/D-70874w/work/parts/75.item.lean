/-! an item is laid -/
theorem c_item {w lane i : Int32} {v : Int64} : oC 67 [some (.ref 0), some (.int w), some (.int lane), some (.int i), some (.long v), none, none] (itemF w lane i v) := by
  intro e I G Q σ hC hO hQ
  by_cases hv : inl w.toInt64 0 3 ∧ inl lane.toInt64 0 3
  · have hv0 := hv
    obtain ⟨s, -, hs, rfl⟩ := inR (lo := 0) (hi := 3) hv.1
    obtain ⟨m, -, hm, rfl⟩ := inR (lo := 0) (hi := 3) hv.2
    have hs4 : s < 4 := by omega
    have hm4 : m < 4 := by omega
    have hn := hC.2.2.2.2.1
    obtain ⟨g1, g2, g3, g4, g5⟩ := shr_fact (e := e) hs4
    have hF : ∀ e' I' G', CR (itemF (nI s) (nI m) i v σ).2 e' I' G' → keepC e I G e' I' G' → Q (.returned (some (.int (itemF (nI s) (nI m) i v σ).1))) (mX e' I' G') := hQ
    unfold itemF at hF
    rw [if_pos hv0, g4] at hF
    refine g_X0_item_0 (q1 := 47 + s) (fun q => absurd hv0 q) (fun _ => g5) (fun _ => by rw [g4]; exact g1) (fun _ => g2) (fun _ => ?_)
    cases hsh : σ.2.2.2.2 s with
    | none =>
      rw [hsh] at hF
      refine s_layN (X := mX e I G) hm4 g2 (g3.trans ((hC.2.2.2.2.2.1 s hs4).1 hsh)) ?_
      rw [mX_new hn]
      exact ⟨rfl, 11, new_at hn, Rn.go 3 ⟨-11, rfl, (fun h => by cases h), hF _ _ _ hC.new (keepC_new hn)⟩⟩
    | some q =>
      obtain ⟨l, z, f⟩ := q
      rw [hsh] at hF
      dsimp only at hF
      obtain ⟨r, r1, r2, r3, r4, r5⟩ := (hC.2.2.2.2.2.1 s hs4).2 l z f hsh
      obtain ⟨hl4, hz24⟩ := hO.2.2.2 s hs4 l z f hsh
      have q4 : (mkE e).1 r = some (.inr (ltp l, z)) := (row_fact r1).trans r4
      by_cases hlm : nI l ≠ nI m
      · rw [if_pos hlm] at hF
        refine s_layC (X := mX e I G) (l' := l) (r := r) (z := z) hm4 hl4 (fun q => hlm (by rw [q])) g2 (g3.trans r3) q4 ?_
        rw [mX_new hn]
        exact ⟨rfl, 12, new_at hn, Rn.go 3 ⟨-12, rfl, (fun h => by cases h), hF _ _ _ hC.new (keepC_new hn)⟩⟩
      · rw [if_neg hlm] at hF
        have el : l = m := nI4 l hl4 m hm4 (Classical.not_not.mp hlm)
        subst el
        by_cases hi : vp_in i z
        · rw [if_pos hi] at hF
          refine s_lay (X := mX e I G) (r := r) (z := z) hm4 g2 (g3.trans r3) q4 hi ?_
          rw [layX_mX]
          exact g_X0_item_23 (hF _ _ _ (hC.lay hs4 hl4 hsh r3 r1 r2 r4 r5) ⟨rfl, fun k h1 h2 => ⟨layI_o (by omega), layG_o (by omega)⟩⟩)
        · rw [if_neg hi] at hF
          refine s_layO (X := mX e I G) (r := r) (z := z) hm4 g2 (g3.trans r3) q4 hi (by omega) ?_
          rw [mX_new hn]
          exact ⟨rfl, 13, new_at hn, Rn.go 3 ⟨-13, rfl, (fun h => by cases h), hF _ _ _ hC.new (keepC_new hn)⟩⟩
  · refine g_X0_item_0 (q1 := 47) (fun _ => ?_) (fun q => absurd q hv) (fun q => absurd q hv) (fun q => absurd q hv) (fun q => absurd q hv)
    have := hQ e I G
    unfold itemF at this
    rw [if_neg hv] at this
    exact this hC ⟨rfl, fun k _ _ => ⟨rfl, rfl⟩⟩
