/-! items are copied -/
theorem c_copy {w i w' j n : Int32} : oC 68 [some (.ref 0), some (.int w), some (.int i), some (.int w'), some (.int j), some (.int n), none] (copyF w i w' j n) := by
  intro e I G Q σ hC hO hQ
  have hF : ∀ e' I' G', CR (copyF w i w' j n σ).2 e' I' G' → keepC e I G e' I' G' → Q (.returned (some (.int (copyF w i w' j n σ).1))) (mX e' I' G') := hQ
  unfold copyF at hF
  have hn := hC.2.2.2.2.1
  refine c_copy0 (fun hv => ?_) (fun a b ha hb ea eb => ?_)
  · rw [if_neg hv] at hF
    exact hF e I G hC ⟨rfl, fun k _ _ => ⟨rfl, rfl⟩⟩
  · have hv : inl w.toInt64 0 3 ∧ inl w'.toInt64 0 3 := by
      rw [ea, eb]
      exact ⟨inR' (lo := 0) (hi := 3) (by omega) (by omega), inR' (lo := 0) (hi := 3) (by omega) (by omega)⟩
    rw [if_pos hv] at hF
    subst ea
    subst eb
    have a4 : (nI a).toNatClampNeg = a := (shr_fact (e := e) ha).2.2.2.1
    have b4 : (nI b).toNatClampNeg = b := (shr_fact (e := e) hb).2.2.2.1
    rw [a4, b4] at hF
    have thr : ∀ (ci : Nat) (c : Int32), CR σ e I G → (∀ e' I' G', CR σ e' I' G' → keepC e I G e' I' G' → Q (.returned (some (.int c))) (mX e' I' G')) → Q (.returned (some (.int c))) (sN (mX e I G) (.inl ci)) := fun ci c h k => by
      rw [mX_new hn]
      exact k _ _ _ h.new (keepC_new hn)
    have at1 : ∀ ci, (sN (mX e I G) (.inl ci)).1.1 e.2.2.1 = some (.inl ci) := fun ci => va_up_self _ _ _
    cases ha1 : σ.2.2.2.2 a with
    | none =>
      rw [ha1] at hF
      have na := (hC.2.2.2.2.2.1 a ha).1 ha1
      have fin := thr 11 (-11) hC hF
      rw [na]
      cases hb1 : σ.2.2.2.2 b with
      | none =>
        rw [(hC.2.2.2.2.2.1 b hb).1 hb1]
        exact Rn.go 1 ⟨rfl, rfl, Or.inl rfl, ⟨by decide, by decide, Nat.le_of_ble_eq_true rfl⟩, 11, at1 11, Rn.go 3 ⟨-11, rfl, (fun h => by cases h), fin⟩⟩
      | some t =>
        obtain ⟨l, z, f⟩ := t
        obtain ⟨r, r1, r2, r3, r4, r5⟩ := (hC.2.2.2.2.2.1 b hb).2 l z f hb1
        rw [r3]
        exact Rn.go 1 ⟨rfl, rfl, Or.inr rfl, ⟨by decide, by decide, Nat.le_of_ble_eq_true rfl⟩, 11, at1 11, Rn.go 3 ⟨-11, rfl, (fun h => by cases h), fin⟩⟩
    | some t =>
      obtain ⟨l, z, f⟩ := t
      rw [ha1] at hF
      obtain ⟨r, r1, r2, r3, r4, r5⟩ := (hC.2.2.2.2.2.1 a ha).2 l z f ha1
      obtain ⟨hl4, hz24⟩ := hO.2.2.2 a ha l z f ha1
      rw [r3]
      cases hb1 : σ.2.2.2.2 b with
      | none =>
        rw [hb1] at hF
        have fin := thr 11 (-11) hC hF
        rw [(hC.2.2.2.2.2.1 b hb).1 hb1]
        exact Rn.go 1 ⟨rfl, rfl, Or.inl rfl, ⟨by decide, by decide, Nat.le_of_ble_eq_true rfl⟩, 11, at1 11, Rn.go 3 ⟨-11, rfl, (fun h => by cases h), fin⟩⟩
      | some t =>
        obtain ⟨l', z', g⟩ := t
        rw [hb1] at hF
        dsimp only at hF
        obtain ⟨q, q1, q2, q3, q4, q5⟩ := (hC.2.2.2.2.2.1 b hb).2 l' z' g hb1
        obtain ⟨hl4', hz24'⟩ := hO.2.2.2 b hb l' z' g hb1
        rw [q3]
        have sr : (mkE e).1 r = some (.inr (ltp l, z)) := (row_fact r1).trans r4
        have sq : (mkE e).1 q = some (.inr (ltp l', z')) := (row_fact q1).trans q4
        by_cases hne : l ≠ l'
        · rw [if_pos hne] at hF
          have fin := thr 14 (-12) hC hF
          exact Rn.go 1 ⟨Nat.le_of_ble_eq_true rfl, Or.inr ⟨ltp l, z, ltp l', z', sr, sq, ltp_lt l, ltp_lt l', ltp_inj l' hl4' l hl4 (Ne.symm hne), ⟨by decide, by decide, Nat.le_of_ble_eq_true rfl⟩, 14, at1 14, Rn.go 3 ⟨-12, rfl, (fun h => by cases h), fin⟩⟩⟩
        · rw [if_neg hne] at hF
          have el : l = l' := Classical.not_not.mp hne
          subst el
          by_cases hbd : i < 0 ∨ j < 0 ∨ n < 0 ∨ z < i.toNatClampNeg + n.toNatClampNeg ∨ z' < j.toNatClampNeg + n.toNatClampNeg
          · rw [if_pos hbd] at hF
            have fin := thr 13 (-13) hC hF
            exact Rn.go 1 ⟨Nat.le_of_ble_eq_true rfl, Or.inl ⟨ltp l, z, z', sr, sq, Or.inr ⟨ltp_lt l, hbd, ⟨by omega, by omega⟩, ⟨by decide, by decide, Nat.le_of_ble_eq_true rfl⟩, 13, at1 13, Rn.go 3 ⟨-13, rfl, (fun h => by cases h), fin⟩⟩⟩⟩
          · rw [if_neg hbd] at hF
            have c1 : ¬ i < 0 := fun k => hbd (Or.inl k)
            have c2 : ¬ j < 0 := fun k => hbd (Or.inr (Or.inl k))
            have c3 : ¬ n < 0 := fun k => hbd (Or.inr (Or.inr (Or.inl k)))
            have c4 : i.toNatClampNeg + n.toNatClampNeg ≤ z := Nat.le_of_not_lt (fun k => hbd (Or.inr (Or.inr (Or.inr (Or.inl k)))))
            have c5 : j.toNatClampNeg + n.toNatClampNeg ≤ z' := Nat.le_of_not_lt (fun k => hbd (Or.inr (Or.inr (Or.inr (Or.inr k)))))
            have fin := hF _ _ _ (hC.cpy (ra := r) (a := i.toNatClampNeg) (b := j.toNatClampNeg) (n := n.toNatClampNeg) hb q3 q1 q2 q4 r5 q5 c4) ⟨rfl, fun k _ h9 => ⟨cpI_o (by omega), cpG_o (by omega)⟩⟩
            have fa : l < 3 → fitA (ltp l) (I r) i.toNatClampNeg n.toNatClampNeg := fun h3 k hk => fit_aty h3 (r5 _ (by omega)).2
            rcases (show l = 0 ∨ l = 1 ∨ l = 2 ∨ l = 3 by omega) with rfl | rfl | rfl | rfl
            · exact Rn.go 1 ⟨Nat.le_of_ble_eq_true rfl, Or.inl ⟨3, z, z', sr, sq, Or.inl ⟨c1, c2, c3, c4, c5, by decide, fa (by omega), Rn.go 3 ⟨n, rfl, (fun h => by cases h), fin⟩⟩⟩⟩
            · exact Rn.go 1 ⟨Nat.le_of_ble_eq_true rfl, Or.inl ⟨4, z, z', sr, sq, Or.inl ⟨c1, c2, c3, c4, c5, by decide, fa (by omega), Rn.go 3 ⟨n, rfl, (fun h => by cases h), fin⟩⟩⟩⟩
            · exact Rn.go 1 ⟨Nat.le_of_ble_eq_true rfl, Or.inl ⟨0, z, z', sr, sq, Or.inl ⟨c1, c2, c3, c4, c5, by decide, fa (by omega), Rn.go 3 ⟨n, rfl, (fun h => by cases h), fin⟩⟩⟩⟩
            · exact Rn.go 1 ⟨Nat.le_of_ble_eq_true rfl, Or.inl ⟨1, z, z', sr, sq, Or.inl ⟨c1, c2, c3, c4, c5, Rn.go 3 ⟨n, rfl, (fun h => by cases h), fin⟩⟩⟩⟩
