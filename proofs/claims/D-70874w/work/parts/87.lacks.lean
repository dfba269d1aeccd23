/-! what a sheet lacks: the component -/
theorem sub24 : ∀ z, z < 25 → ∀ k, k < 25 → (nI z - nI k).toInt = (z : Int) - k := by decide +kernel
theorem c_lacks {σ : Sg} {e : En} {I : Nat → Nat → Int32} {G : Nat → Nat → Int64} {Q : Po} {s k : Nat} {lane i : Int32} (hC : CR σ e I G) (hO : OkG σ) (hs : s < 4) (hk : k ≤ 24) (hQ : Q (.returned (some (.int (whyF (σ.2.2.2.2 s) lane i (nI k))))) (mX e I G)) : Rn 62 0 [some (.ref 0), some (.int (nI s)), some (.int lane), some (.int i), some (.int (nI k)), none] [] (0, 0) (mX e I G) Q := by
  obtain ⟨g1, g2, g3, g4, g5⟩ := shr_fact (e := e) hs
  have e9 : fv (mX e I G) 8 (47 + s) 0 = e.2.1 (47 + s) 0 := g3
  refine Rn.go 4 ⟨rfl, 7, 4, rfl, Nat.le_of_ble_eq_true rfl, g5, ?_⟩
  show Rn 62 6 [some (.ref 0), some (.int (nI s)), some (.int lane), some (.int i), some (.int (nI k)), none] [(mkE e).2.1 46 (nI s).toNatClampNeg] (0, 0) (mX e I G) Q
  rw [g4, g1]
  refine Rn.go 3 ⟨g2, ?_⟩
  show Rn 62 13 [some (.ref 0), some (.int (nI s)), some (.int lane), some (.int i), some (.int (nI k)), some (.ref (47 + s))] [fv (mX e I G) 8 (47 + s) 0] (0, 0) (mX e I G) Q
  rw [e9]
  cases hsh : σ.2.2.2.2 s with
  | none =>
    rw [hsh] at hQ
    rw [(hC.2.2.2.2.2.1 s hs).1 hsh]
    exact Rn.go 3 ⟨-11, rfl, (fun h => by cases h), hQ⟩
  | some q =>
    obtain ⟨l, z, f⟩ := q
    rw [hsh] at hQ
    obtain ⟨r, r1, r2, r3, r4, r5⟩ := (hC.2.2.2.2.2.1 s hs).2 l z f hsh
    obtain ⟨hl4, hz24⟩ := hO.2.2.2 s hs l z f hsh
    rw [r3]
    unfold whyF at hQ
    dsimp only at hQ
    have sr : (mkE e).1 r = some (.inr (ltp l, z)) := (row_fact r1).trans r4
    refine Rn.go 3 ⟨Nat.le_of_ble_eq_true rfl, ⟨47 + s, rfl, g2⟩, fun o X' => o = .returned (some (.int (nI l))) ∧ X' = mX e I G, s_lane (X := mX e I G) (r := r) (z := z) hl4 g2 (g3.trans r3) sr ⟨rfl, rfl⟩, ⟨Nat.le_of_ble_eq_true rfl, Nat.le_of_ble_eq_true rfl, Nat.le_of_ble_eq_true rfl, Nat.le_of_ble_eq_true rfl, Nat.le_of_ble_eq_true rfl, Nat.le_of_ble_eq_true rfl⟩, fun o X' hq => ?_⟩
    obtain ⟨rfl, rfl⟩ := hq
    show Rn 62 24 [some (.ref 0), some (.int (nI s)), some (.int lane), some (.int i), some (.int (nI k)), some (.ref (47 + s))] [.int (nI l)] (0, 0) (mX e I G) Q
    refine Rn.go 2 ⟨fun h1 => ?_, fun h1 => ?_⟩
    · rw [if_neg (fun q => q h1)] at hQ
      refine Rn.go 2 ⟨fun h2 => ?_, fun h2 => ?_⟩
      · rw [if_pos (Or.inl h2)] at hQ
        exact Rn.go 3 ⟨-13, rfl, (fun h => by cases h), hQ⟩
      · refine Rn.go 3 ⟨Nat.le_of_ble_eq_true rfl, ⟨47 + s, rfl, g2⟩, fun o X' => o = .returned (some (.int (Int32.ofNat z))) ∧ X' = mX e I G, s_size (X := mX e I G) (r := r) (z := z) hl4 g2 (g3.trans r3) sr ⟨rfl, rfl⟩, ⟨Nat.le_of_ble_eq_true rfl, Nat.le_of_ble_eq_true rfl, Nat.le_of_ble_eq_true rfl, Nat.le_of_ble_eq_true rfl, Nat.le_of_ble_eq_true rfl, Nat.le_of_ble_eq_true rfl⟩, fun o X' hq => ?_⟩
        obtain ⟨rfl, rfl⟩ := hq
        show Rn 62 41 [some (.ref 0), some (.int (nI s)), some (.int lane), some (.int i), some (.int (nI k)), some (.ref (47 + s))] [.int (nI z), .int i] (0, 0) (mX e I G) Q
        have hcmp : (nI z - nI k < i) ↔ (i < 0 ∨ nI k < 0 ∨ z < i.toNatClampNeg + (nI k).toNatClampNeg) := by
          have hk0 : ¬ nI k < 0 := by
            rw [Int32.lt_iff_toInt_lt, nI_toInt (by omega)]
            have h0 : (0 : Int32).toInt = 0 := by decide
            omega
          have hkn : (nI k).toNatClampNeg = k := by
            have := nn_toInt hk0
            rw [nI_toInt (by omega)] at this
            omega
          rw [Int32.lt_iff_toInt_lt, sub24 z (by omega) k (by omega), nn_toInt h2, hkn]
          constructor
          · intro q
            exact Or.inr (Or.inr (by omega))
          · rintro (q | q | q)
            · exact absurd q h2
            · exact absurd q hk0
            · omega
        refine Rn.go 3 ⟨fun h3 => ?_, fun h3 => ?_⟩
        · rw [if_pos (hcmp.mp h3)] at hQ
          exact Rn.go 3 ⟨-13, rfl, (fun h => by cases h), hQ⟩
        · rw [if_neg (fun q => h3 (hcmp.mpr q))] at hQ
          exact Rn.go 2 ⟨0, rfl, (fun h => by cases h), hQ⟩
    · rw [if_pos h1] at hQ
      exact Rn.go 2 ⟨-12, rfl, (fun h => by cases h), hQ⟩
