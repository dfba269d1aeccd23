/-! a new row -/
theorem n24 {n : Int32} (h1 : ¬ n < 0) (h2 : ¬ 24 < n) : n.toNatClampNeg ≤ 24 ∧ n = nI n.toNatClampNeg := by
  have b1 := nn_toInt h1
  rw [Int32.lt_iff_toInt_lt] at h2
  have h0 : (24 : Int32).toInt = 24 := by decide
  rw [h0] at h2
  have b2 : n.toNatClampNeg ≤ 24 := by omega
  refine ⟨b2, ?_⟩
  apply Int32.toInt_inj.mp
  rw [nI_toInt (by omega)]
  exact b1
theorem c_sheet {w lane n : Int32} : oC 65 [some (.ref 0), some (.int w), some (.int lane), some (.int n), none] (sheetF w lane n) := by
  intro e I G Q σ hC hO hQ
  have bad : ¬ ((inl w.toInt64 0 3 ∧ inl lane.toInt64 0 3) ∧ ¬ 24 < n) → Q (.returned (some (.int (-1)))) (mX e I G) := fun hv => by
    have := hQ e I G
    unfold sheetF at this
    rw [if_neg hv] at this
    exact this hC ⟨rfl, fun k _ _ => ⟨rfl, rfl⟩⟩
  refine Rn.go 3 ⟨Nat.le_of_ble_eq_true rfl, trivial, fun o X' => o = .returned (some (.int (bz (inl w.toInt64 0 3 ∧ inl lane.toInt64 0 3)))) ∧ X' = mX e I G, f_isSheet ⟨rfl, rfl⟩, ⟨Nat.le_of_ble_eq_true rfl, Nat.le_of_ble_eq_true rfl, Nat.le_of_ble_eq_true rfl, Nat.le_of_ble_eq_true rfl, Nat.le_of_ble_eq_true rfl, Nat.le_of_ble_eq_true rfl⟩, fun o X' hq => ?_⟩
  obtain ⟨rfl, rfl⟩ := hq
  show Rn 65 5 [some (.ref 0), some (.int w), some (.int lane), some (.int n), none] [.int (bz (inl w.toInt64 0 3 ∧ inl lane.toInt64 0 3))] (0, 0) (mX e I G) Q
  refine Rn.go 1 ⟨fun h0 => ?_, fun h0 => ?_⟩
  · exact Rn.go 2 ⟨-1, rfl, (fun h => by cases h), bad (fun q => bz_f h0 q.1)⟩
  · have hv := bz_t h0
    refine Rn.go 3 ⟨fun h1 => ?_, fun h1 => ?_⟩
    · exact Rn.go 2 ⟨-1, rfl, (fun h => by cases h), bad (fun q => q.2 h1)⟩
    · have hv0 : (inl w.toInt64 0 3 ∧ inl lane.toInt64 0 3) ∧ ¬ 24 < n := ⟨hv, h1⟩
      obtain ⟨s, -, hs, rfl⟩ := inR (lo := 0) (hi := 3) hv.1
      obtain ⟨m, -, hm, rfl⟩ := inR (lo := 0) (hi := 3) hv.2
      have hs4 : s < 4 := by omega
      have hn := hC.2.2.2.2.1
      obtain ⟨g1, g2, g3, g4, g5⟩ := shr_fact (e := e) hs4
      have m4 : (nI m).toNatClampNeg = m := (shr_fact (e := e) (show m < 4 by omega)).2.2.2.1
      have hF : ∀ e' I' G', CR (sheetF (nI s) (nI m) n σ).2 e' I' G' → keepC e I G e' I' G' → Q (.returned (some (.int (sheetF (nI s) (nI m) n σ).1))) (mX e' I' G') := hQ
      unfold sheetF at hF
      rw [if_pos hv0, g4, m4] at hF
      refine Rn.go 4 ⟨rfl, 7, 4, rfl, Nat.le_of_ble_eq_true rfl, g5, ?_⟩
      show Rn 65 22 [some (.ref 0), some (.int (nI s)), some (.int (nI m)), some (.int n), none] [(mkE e).2.1 46 (nI s).toNatClampNeg] (0, 0) (mX e I G) Q
      rw [g4, g1]
      by_cases h2 : n < 0
      · rw [if_pos h2] at hF
        have fin := hF _ _ _ (hC.new (h := .inl 10)) (keepC_new hn)
        rw [← mX_new hn] at fin
        have at1 : (sN (mX e I G) (.inl 10)).1.1 e.2.2.1 = some (.inl 10) := va_up_self _ _ _
        rcases (show m = 0 ∨ m = 1 ∨ m = 2 ∨ m = 3 by omega) with rfl | rfl | rfl | rfl
        · exact Rn.go 4 ⟨fun _ => Or.inr ⟨h2, ⟨by decide, by decide, Nat.le_of_ble_eq_true rfl⟩, 10, at1, Rn.go 3 ⟨-14, rfl, (fun h => by cases h), fin⟩⟩, fun h => absurd rfl h⟩
        · exact Rn.go 7 ⟨fun h => absurd h (by decide), fun _ => ⟨fun _ => Or.inr ⟨h2, ⟨by decide, by decide, Nat.le_of_ble_eq_true rfl⟩, 10, at1, Rn.go 3 ⟨-14, rfl, (fun h => by cases h), fin⟩⟩, fun h => absurd rfl h⟩⟩
        · exact Rn.go 10 ⟨fun h => absurd h (by decide), fun _ => ⟨fun h => absurd h (by decide), fun _ => ⟨fun _ => Or.inr ⟨h2, ⟨by decide, by decide, Nat.le_of_ble_eq_true rfl⟩, 10, at1, Rn.go 3 ⟨-14, rfl, (fun h => by cases h), fin⟩⟩, fun h => absurd rfl h⟩⟩⟩
        · exact Rn.go 10 ⟨fun h => absurd h (by decide), fun _ => ⟨fun h => absurd h (by decide), fun _ => ⟨fun h => absurd h (by decide), fun _ => Or.inr ⟨h2, ⟨by decide, by decide, Nat.le_of_ble_eq_true rfl⟩, 10, at1, Rn.go 3 ⟨-14, rfl, (fun h => by cases h), fin⟩⟩⟩⟩⟩
      · rw [if_neg h2] at hF
        obtain ⟨z1, z2⟩ := n24 h2 h1
        have z3 : n.toNatClampNeg ≤ 1000 := by omega
        have hr : 0 + n.toNatClampNeg ≤ mms 65 := Nat.le_trans (show 0 + n.toNatClampNeg ≤ 24 by omega) (by decide)
        have fin := hF _ _ _ (hC.row (l := m) (z := n.toNatClampNeg) hs4) ⟨rfl, fun k _ h9 => ⟨va_up_ne _ _ (by omega), va_up_ne _ _ (by omega)⟩⟩
        rw [← row_mX hs4 hn] at fin
        rcases (show m = 0 ∨ m = 1 ∨ m = 2 ∨ m = 3 by omega) with rfl | rfl | rfl | rfl
        · exact Rn.go 9 ⟨fun _ => Or.inl ⟨h2, z3, ⟨by decide, hr⟩, row_cl hs4 hn, rfl, n, rfl, (fun h => by cases h), fin⟩, fun h => absurd rfl h⟩
        · exact Rn.go 12 ⟨fun h => absurd h (by decide), fun _ => ⟨fun _ => Or.inl ⟨h2, z3, ⟨by decide, hr⟩, row_cl hs4 hn, rfl, n, rfl, (fun h => by cases h), fin⟩, fun h => absurd rfl h⟩⟩
        · exact Rn.go 15 ⟨fun h => absurd h (by decide), fun _ => ⟨fun h => absurd h (by decide), fun _ => ⟨fun _ => Or.inl ⟨h2, z3, ⟨by decide, hr⟩, row_cl hs4 hn, rfl, n, rfl, (fun h => by cases h), fin⟩, fun h => absurd rfl h⟩⟩⟩
        · exact Rn.go 14 ⟨fun h => absurd h (by decide), fun _ => ⟨fun h => absurd h (by decide), fun _ => ⟨fun h => absurd h (by decide), fun _ => Or.inl ⟨h2, z3, ⟨by decide, hr⟩, row_cl hs4 hn, rfl, n, rfl, (fun h => by cases h), fin⟩⟩⟩⟩
