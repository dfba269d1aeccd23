section La1
variable {e : En} {I : Nat → Nat → Int32} {G : Nat → Nat → Int64} {Q : Po} {σ : Sg} {i u1 u2 : Nat}
set_option maxRecDepth 100000
theorem l_newCase (hS : lwI σ e I G) (hi : i + 7 ≤ e.2.2.2.2) (hL : e.2.2.2.2 ≤ 448) (h1 : u1 + 1000 ≤ 605614) (h2 : u2 + 100000 ≤ 7254687) (hQ : lwN e i u1 u2 Q) : Rn 169 213 (lwL i) [] (u1, u2) (mX e I G) Q := by
  obtain ⟨hC, hM, hO⟩ := hS
  obtain ⟨F, hc, hm, hk⟩ : ∃ F, oC 3 [some (.ref 0), some (.int (ag e i 1)), some (.int (ag e i 2))] F ∧ oM 98 [some (.ref 179), some (.int (ag e i 1)), some (.int (ag e i 2))] F ∧ oK F := ⟨_, c_newCase (ag e i 1) (ag e i 2), m_newCase (ag e i 1) (ag e i 2), k_newCase (ag e i 1) (ag e i 2)⟩
  refine Rn.go 6 ⟨rfl, vpS (j := 1) hi hL (by decide), ?_⟩
  show Rn 169 219 (lwL i) [.int (ag e i 1), .ref 0] (u1, u2) (mX e I G) Q
  refine Rn.go 5 ⟨rfl, vpS (j := 2) hi hL (by decide), ?_⟩
  show Rn 169 224 (lwL i) [.int (ag e i 2), .int (ag e i 1), .ref 0] (u1, u2) (mX e I G) Q
  refine Rn.go 1 ⟨Nat.le_of_ble_eq_true rfl, ⟨0, rfl, rfl⟩, fun o X' => conF Rn 169 224 3 (lwL i) [] (u1 + mmc 3, u2 + mms 3) X' Q o, hc hC hO (fun e1 I1 G1 hC1 hk1 => ?_), ⟨Nat.le_of_ble_eq_true rfl, Nat.le_of_ble_eq_true rfl, uo1 h1 rfl, uo2 h2 rfl, Nat.le_of_ble_eq_true rfl, Nat.le_of_ble_eq_true rfl⟩, fun _ _ hq => hq⟩
  obtain ⟨S1, R1, n1, sc⟩ := e1
  obtain rfl : sc = e.2.2.2 := hk1.1
  show Rn 169 227 (lwL i) [.int (F σ).1] (u1 + mmc 3, u2 + mms 3) (mX (S1, R1, n1, e.2.2.2) I1 G1) Q
  refine Rn.go 6 ⟨rfl, vpS (j := 1) hi hL (by decide), ?_⟩
  show Rn 169 233 (lwL i) [.int (ag e i 1), .ref 179, .int (F σ).1] (u1 + mmc 3, u2 + mms 3) (mX (S1, R1, n1, e.2.2.2) I1 G1) Q
  refine Rn.go 5 ⟨rfl, vpS (j := 2) hi hL (by decide), ?_⟩
  show Rn 169 238 (lwL i) [.int (ag e i 2), .int (ag e i 1), .ref 179, .int (F σ).1] (u1 + mmc 3, u2 + mms 3) (mX (S1, R1, n1, e.2.2.2) I1 G1) Q
  refine Rn.go 1 ⟨Nat.le_of_ble_eq_true rfl, ⟨179, rfl, rfl⟩, fun o X' => conF Rn 169 238 98 (lwL i) [.int (F σ).1] (u1 + mmc 3 + mmc 98, u2 + mms 3 + mms 98) X' Q o, hm (hM.kC hk1) hO (fun I2 G2 hM2 hk2 => ?_), ⟨Nat.le_of_ble_eq_true rfl, Nat.le_of_ble_eq_true rfl, uo3 h1 rfl, uo4 h2 rfl, Nat.le_of_ble_eq_true rfl, Nat.le_of_ble_eq_true rfl⟩, fun _ _ hq => hq⟩
  show Rn 169 241 (lwL i) [.int (F σ).1, .int (F σ).1] (u1 + mmc 3 + mmc 98, u2 + mms 3 + mms 98) (mX (S1, R1, n1, e.2.2.2) I2 G2) Q
  exact Rn.go 1 ⟨fun _ => hQ _ I2 G2 _ _ _ ⟨hC1.kM hk2, hM2, hk σ hO⟩ rfl (uf1 rfl) (uf2 rfl), fun h => absurd rfl h⟩
theorem l_kin (hS : lwI σ e I G) (hi : i + 7 ≤ e.2.2.2.2) (hL : e.2.2.2.2 ≤ 448) (h1 : u1 + 1000 ≤ 605614) (h2 : u2 + 100000 ≤ 7254687) (hQ : lwN e i u1 u2 Q) : Rn 169 246 (lwL i) [] (u1, u2) (mX e I G) Q := by
  obtain ⟨hC, hM, hO⟩ := hS
  obtain ⟨F, hc, hm, hk⟩ : ∃ F, oC 5 [some (.ref 0), some (.int (ag e i 1)), some (.int (ag e i 2)), some (.int (ag e i 3)), none] F ∧ oM 101 [some (.ref 179), some (.int (ag e i 1)), some (.int (ag e i 2)), some (.int (ag e i 3)), none] F ∧ oK F := ⟨_, c_kin (ag e i 1) (ag e i 2) (ag e i 3), m_kin (ag e i 1) (ag e i 2) (ag e i 3), k_kin (ag e i 1) (ag e i 2) (ag e i 3)⟩
  refine Rn.go 6 ⟨rfl, vpS (j := 1) hi hL (by decide), ?_⟩
  show Rn 169 252 (lwL i) [.int (ag e i 1), .ref 0] (u1, u2) (mX e I G) Q
  refine Rn.go 5 ⟨rfl, vpS (j := 2) hi hL (by decide), ?_⟩
  show Rn 169 257 (lwL i) [.int (ag e i 2), .int (ag e i 1), .ref 0] (u1, u2) (mX e I G) Q
  refine Rn.go 5 ⟨rfl, vpS (j := 3) hi hL (by decide), ?_⟩
  show Rn 169 262 (lwL i) [.int (ag e i 3), .int (ag e i 2), .int (ag e i 1), .ref 0] (u1, u2) (mX e I G) Q
  refine Rn.go 1 ⟨Nat.le_of_ble_eq_true rfl, ⟨0, rfl, rfl⟩, fun o X' => conF Rn 169 262 5 (lwL i) [] (u1 + mmc 5, u2 + mms 5) X' Q o, hc hC hO (fun e1 I1 G1 hC1 hk1 => ?_), ⟨Nat.le_of_ble_eq_true rfl, Nat.le_of_ble_eq_true rfl, uo1 h1 rfl, uo2 h2 rfl, Nat.le_of_ble_eq_true rfl, Nat.le_of_ble_eq_true rfl⟩, fun _ _ hq => hq⟩
  obtain ⟨S1, R1, n1, sc⟩ := e1
  obtain rfl : sc = e.2.2.2 := hk1.1
  show Rn 169 265 (lwL i) [.int (F σ).1] (u1 + mmc 5, u2 + mms 5) (mX (S1, R1, n1, e.2.2.2) I1 G1) Q
  refine Rn.go 6 ⟨rfl, vpS (j := 1) hi hL (by decide), ?_⟩
  show Rn 169 271 (lwL i) [.int (ag e i 1), .ref 179, .int (F σ).1] (u1 + mmc 5, u2 + mms 5) (mX (S1, R1, n1, e.2.2.2) I1 G1) Q
  refine Rn.go 5 ⟨rfl, vpS (j := 2) hi hL (by decide), ?_⟩
  show Rn 169 276 (lwL i) [.int (ag e i 2), .int (ag e i 1), .ref 179, .int (F σ).1] (u1 + mmc 5, u2 + mms 5) (mX (S1, R1, n1, e.2.2.2) I1 G1) Q
  refine Rn.go 5 ⟨rfl, vpS (j := 3) hi hL (by decide), ?_⟩
  show Rn 169 281 (lwL i) [.int (ag e i 3), .int (ag e i 2), .int (ag e i 1), .ref 179, .int (F σ).1] (u1 + mmc 5, u2 + mms 5) (mX (S1, R1, n1, e.2.2.2) I1 G1) Q
  refine Rn.go 1 ⟨Nat.le_of_ble_eq_true rfl, ⟨179, rfl, rfl⟩, fun o X' => conF Rn 169 281 101 (lwL i) [.int (F σ).1] (u1 + mmc 5 + mmc 101, u2 + mms 5 + mms 101) X' Q o, hm (hM.kC hk1) hO (fun I2 G2 hM2 hk2 => ?_), ⟨Nat.le_of_ble_eq_true rfl, Nat.le_of_ble_eq_true rfl, uo3 h1 rfl, uo4 h2 rfl, Nat.le_of_ble_eq_true rfl, Nat.le_of_ble_eq_true rfl⟩, fun _ _ hq => hq⟩
  show Rn 169 284 (lwL i) [.int (F σ).1, .int (F σ).1] (u1 + mmc 5 + mmc 101, u2 + mms 5 + mms 101) (mX (S1, R1, n1, e.2.2.2) I2 G2) Q
  exact Rn.go 1 ⟨fun _ => hQ _ I2 G2 _ _ _ ⟨hC1.kM hk2, hM2, hk σ hO⟩ rfl (uf1 rfl) (uf2 rfl), fun h => absurd rfl h⟩
theorem l_of (hS : lwI σ e I G) (hi : i + 7 ≤ e.2.2.2.2) (hL : e.2.2.2.2 ≤ 448) (h1 : u1 + 1000 ≤ 605614) (h2 : u2 + 100000 ≤ 7254687) (hQ : lwN e i u1 u2 Q) : Rn 169 289 (lwL i) [] (u1, u2) (mX e I G) Q := by
  obtain ⟨hC, hM, hO⟩ := hS
  obtain ⟨F, hc, hm, hk⟩ : ∃ F, oC 7 [some (.ref 0), some (.int (ag e i 1)), some (.int (ag e i 2))] F ∧ oM 103 [some (.ref 179), some (.int (ag e i 1)), some (.int (ag e i 2))] F ∧ oK F := qq (@c_of (ag e i 1) (ag e i 2)) (@m_of (ag e i 1) (ag e i 2))
  refine Rn.go 6 ⟨rfl, vpS (j := 1) hi hL (by decide), ?_⟩
  show Rn 169 295 (lwL i) [.int (ag e i 1), .ref 0] (u1, u2) (mX e I G) Q
  refine Rn.go 5 ⟨rfl, vpS (j := 2) hi hL (by decide), ?_⟩
  show Rn 169 300 (lwL i) [.int (ag e i 2), .int (ag e i 1), .ref 0] (u1, u2) (mX e I G) Q
  refine Rn.go 1 ⟨Nat.le_of_ble_eq_true rfl, ⟨0, rfl, rfl⟩, fun o X' => conF Rn 169 300 7 (lwL i) [] (u1 + mmc 7, u2 + mms 7) X' Q o, hc hC hO (fun e1 I1 G1 hC1 hk1 => ?_), ⟨Nat.le_of_ble_eq_true rfl, Nat.le_of_ble_eq_true rfl, uo1 h1 rfl, uo2 h2 rfl, Nat.le_of_ble_eq_true rfl, Nat.le_of_ble_eq_true rfl⟩, fun _ _ hq => hq⟩
  obtain ⟨S1, R1, n1, sc⟩ := e1
  obtain rfl : sc = e.2.2.2 := hk1.1
  show Rn 169 303 (lwL i) [.int (F σ).1] (u1 + mmc 7, u2 + mms 7) (mX (S1, R1, n1, e.2.2.2) I1 G1) Q
  refine Rn.go 6 ⟨rfl, vpS (j := 1) hi hL (by decide), ?_⟩
  show Rn 169 309 (lwL i) [.int (ag e i 1), .ref 179, .int (F σ).1] (u1 + mmc 7, u2 + mms 7) (mX (S1, R1, n1, e.2.2.2) I1 G1) Q
  refine Rn.go 5 ⟨rfl, vpS (j := 2) hi hL (by decide), ?_⟩
  show Rn 169 314 (lwL i) [.int (ag e i 2), .int (ag e i 1), .ref 179, .int (F σ).1] (u1 + mmc 7, u2 + mms 7) (mX (S1, R1, n1, e.2.2.2) I1 G1) Q
  refine Rn.go 1 ⟨Nat.le_of_ble_eq_true rfl, ⟨179, rfl, rfl⟩, fun o X' => conF Rn 169 314 103 (lwL i) [.int (F σ).1] (u1 + mmc 7 + mmc 103, u2 + mms 7 + mms 103) X' Q o, hm (hM.kC hk1) hO (fun I2 G2 hM2 hk2 => ?_), ⟨Nat.le_of_ble_eq_true rfl, Nat.le_of_ble_eq_true rfl, uo3 h1 rfl, uo4 h2 rfl, Nat.le_of_ble_eq_true rfl, Nat.le_of_ble_eq_true rfl⟩, fun _ _ hq => hq⟩
  show Rn 169 317 (lwL i) [.int (F σ).1, .int (F σ).1] (u1 + mmc 7 + mmc 103, u2 + mms 7 + mms 103) (mX (S1, R1, n1, e.2.2.2) I2 G2) Q
  exact Rn.go 1 ⟨fun _ => hQ _ I2 G2 _ _ _ ⟨hC1.kM hk2, hM2, hk σ hO⟩ rfl (uf1 rfl) (uf2 rfl), fun h => absurd rfl h⟩
theorem l_at (hS : lwI σ e I G) (hi : i + 7 ≤ e.2.2.2.2) (hL : e.2.2.2.2 ≤ 448) (h1 : u1 + 1000 ≤ 605614) (h2 : u2 + 100000 ≤ 7254687) (hQ : lwN e i u1 u2 Q) : Rn 169 322 (lwL i) [] (u1, u2) (mX e I G) Q := by
  obtain ⟨hC, hM, hO⟩ := hS
  obtain ⟨F, hc, hm, hk⟩ : ∃ F, oC 8 [some (.ref 0), some (.int (ag e i 1)), some (.int (ag e i 2))] F ∧ oM 105 [some (.ref 179), some (.int (ag e i 1)), some (.int (ag e i 2))] F ∧ oK F := qq (@c_at (ag e i 1) (ag e i 2)) (@m_at (ag e i 1) (ag e i 2))
  refine Rn.go 6 ⟨rfl, vpS (j := 1) hi hL (by decide), ?_⟩
  show Rn 169 328 (lwL i) [.int (ag e i 1), .ref 0] (u1, u2) (mX e I G) Q
  refine Rn.go 5 ⟨rfl, vpS (j := 2) hi hL (by decide), ?_⟩
  show Rn 169 333 (lwL i) [.int (ag e i 2), .int (ag e i 1), .ref 0] (u1, u2) (mX e I G) Q
  refine Rn.go 1 ⟨Nat.le_of_ble_eq_true rfl, ⟨0, rfl, rfl⟩, fun o X' => conF Rn 169 333 8 (lwL i) [] (u1 + mmc 8, u2 + mms 8) X' Q o, hc hC hO (fun e1 I1 G1 hC1 hk1 => ?_), ⟨Nat.le_of_ble_eq_true rfl, Nat.le_of_ble_eq_true rfl, uo1 h1 rfl, uo2 h2 rfl, Nat.le_of_ble_eq_true rfl, Nat.le_of_ble_eq_true rfl⟩, fun _ _ hq => hq⟩
  obtain ⟨S1, R1, n1, sc⟩ := e1
  obtain rfl : sc = e.2.2.2 := hk1.1
  show Rn 169 336 (lwL i) [.int (F σ).1] (u1 + mmc 8, u2 + mms 8) (mX (S1, R1, n1, e.2.2.2) I1 G1) Q
  refine Rn.go 6 ⟨rfl, vpS (j := 1) hi hL (by decide), ?_⟩
  show Rn 169 342 (lwL i) [.int (ag e i 1), .ref 179, .int (F σ).1] (u1 + mmc 8, u2 + mms 8) (mX (S1, R1, n1, e.2.2.2) I1 G1) Q
  refine Rn.go 5 ⟨rfl, vpS (j := 2) hi hL (by decide), ?_⟩
  show Rn 169 347 (lwL i) [.int (ag e i 2), .int (ag e i 1), .ref 179, .int (F σ).1] (u1 + mmc 8, u2 + mms 8) (mX (S1, R1, n1, e.2.2.2) I1 G1) Q
  refine Rn.go 1 ⟨Nat.le_of_ble_eq_true rfl, ⟨179, rfl, rfl⟩, fun o X' => conF Rn 169 347 105 (lwL i) [.int (F σ).1] (u1 + mmc 8 + mmc 105, u2 + mms 8 + mms 105) X' Q o, hm (hM.kC hk1) hO (fun I2 G2 hM2 hk2 => ?_), ⟨Nat.le_of_ble_eq_true rfl, Nat.le_of_ble_eq_true rfl, uo3 h1 rfl, uo4 h2 rfl, Nat.le_of_ble_eq_true rfl, Nat.le_of_ble_eq_true rfl⟩, fun _ _ hq => hq⟩
  show Rn 169 350 (lwL i) [.int (F σ).1, .int (F σ).1] (u1 + mmc 8 + mmc 105, u2 + mms 8 + mms 105) (mX (S1, R1, n1, e.2.2.2) I2 G2) Q
  exact Rn.go 1 ⟨fun _ => hQ _ I2 G2 _ _ _ ⟨hC1.kM hk2, hM2, hk σ hO⟩ rfl (uf1 rfl) (uf2 rfl), fun h => absurd rfl h⟩
theorem l_door (hS : lwI σ e I G) (hi : i + 7 ≤ e.2.2.2.2) (hL : e.2.2.2.2 ≤ 448) (h1 : u1 + 1000 ≤ 605614) (h2 : u2 + 100000 ≤ 7254687) (hQ : lwN e i u1 u2 Q) : Rn 169 355 (lwL i) [] (u1, u2) (mX e I G) Q := by
  obtain ⟨hC, hM, hO⟩ := hS
  obtain ⟨F, hc, hm, hk⟩ : ∃ F, oC 11 [some (.ref 0), some (.int (ag e i 1)), none] F ∧ oM 107 [some (.ref 179), some (.int (ag e i 1)), none] F ∧ oK F := ⟨_, c_door (ag e i 1), m_door (ag e i 1), k_door (ag e i 1)⟩
  refine Rn.go 6 ⟨rfl, vpS (j := 1) hi hL (by decide), ?_⟩
  show Rn 169 361 (lwL i) [.int (ag e i 1), .ref 0] (u1, u2) (mX e I G) Q
  refine Rn.go 1 ⟨Nat.le_of_ble_eq_true rfl, ⟨0, rfl, rfl⟩, fun o X' => conF Rn 169 361 11 (lwL i) [] (u1 + mmc 11, u2 + mms 11) X' Q o, hc hC hO (fun e1 I1 G1 hC1 hk1 => ?_), ⟨Nat.le_of_ble_eq_true rfl, Nat.le_of_ble_eq_true rfl, uo1 h1 rfl, uo2 h2 rfl, Nat.le_of_ble_eq_true rfl, Nat.le_of_ble_eq_true rfl⟩, fun _ _ hq => hq⟩
  obtain ⟨S1, R1, n1, sc⟩ := e1
  obtain rfl : sc = e.2.2.2 := hk1.1
  show Rn 169 364 (lwL i) [.int (F σ).1] (u1 + mmc 11, u2 + mms 11) (mX (S1, R1, n1, e.2.2.2) I1 G1) Q
  refine Rn.go 6 ⟨rfl, vpS (j := 1) hi hL (by decide), ?_⟩
  show Rn 169 370 (lwL i) [.int (ag e i 1), .ref 179, .int (F σ).1] (u1 + mmc 11, u2 + mms 11) (mX (S1, R1, n1, e.2.2.2) I1 G1) Q
  refine Rn.go 1 ⟨Nat.le_of_ble_eq_true rfl, ⟨179, rfl, rfl⟩, fun o X' => conF Rn 169 370 107 (lwL i) [.int (F σ).1] (u1 + mmc 11 + mmc 107, u2 + mms 11 + mms 107) X' Q o, hm (hM.kC hk1) hO (fun I2 G2 hM2 hk2 => ?_), ⟨Nat.le_of_ble_eq_true rfl, Nat.le_of_ble_eq_true rfl, uo3 h1 rfl, uo4 h2 rfl, Nat.le_of_ble_eq_true rfl, Nat.le_of_ble_eq_true rfl⟩, fun _ _ hq => hq⟩
  show Rn 169 373 (lwL i) [.int (F σ).1, .int (F σ).1] (u1 + mmc 11 + mmc 107, u2 + mms 11 + mms 107) (mX (S1, R1, n1, e.2.2.2) I2 G2) Q
  exact Rn.go 1 ⟨fun _ => hQ _ I2 G2 _ _ _ ⟨hC1.kM hk2, hM2, hk σ hO⟩ rfl (uf1 rfl) (uf2 rfl), fun h => absurd rfl h⟩
theorem l_type (hS : lwI σ e I G) (hi : i + 7 ≤ e.2.2.2.2) (hL : e.2.2.2.2 ≤ 448) (h1 : u1 + 1000 ≤ 605614) (h2 : u2 + 100000 ≤ 7254687) (hQ : lwN e i u1 u2 Q) : Rn 169 378 (lwL i) [] (u1, u2) (mX e I G) Q := by
  obtain ⟨hC, hM, hO⟩ := hS
  obtain ⟨F, hc, hm, hk⟩ : ∃ F, oC 12 [some (.ref 0), some (.int (ag e i 1))] F ∧ oM 113 [some (.ref 179), some (.int (ag e i 1))] F ∧ oK F := ⟨_, c_type (ag e i 1), m_type (ag e i 1), k_type (ag e i 1)⟩
  refine Rn.go 6 ⟨rfl, vpS (j := 1) hi hL (by decide), ?_⟩
  show Rn 169 384 (lwL i) [.int (ag e i 1), .ref 0] (u1, u2) (mX e I G) Q
  refine Rn.go 1 ⟨Nat.le_of_ble_eq_true rfl, ⟨0, rfl, rfl⟩, fun o X' => conF Rn 169 384 12 (lwL i) [] (u1 + mmc 12, u2 + mms 12) X' Q o, hc hC hO (fun e1 I1 G1 hC1 hk1 => ?_), ⟨Nat.le_of_ble_eq_true rfl, Nat.le_of_ble_eq_true rfl, uo1 h1 rfl, uo2 h2 rfl, Nat.le_of_ble_eq_true rfl, Nat.le_of_ble_eq_true rfl⟩, fun _ _ hq => hq⟩
  obtain ⟨S1, R1, n1, sc⟩ := e1
  obtain rfl : sc = e.2.2.2 := hk1.1
  show Rn 169 387 (lwL i) [.int (F σ).1] (u1 + mmc 12, u2 + mms 12) (mX (S1, R1, n1, e.2.2.2) I1 G1) Q
  refine Rn.go 6 ⟨rfl, vpS (j := 1) hi hL (by decide), ?_⟩
  show Rn 169 393 (lwL i) [.int (ag e i 1), .ref 179, .int (F σ).1] (u1 + mmc 12, u2 + mms 12) (mX (S1, R1, n1, e.2.2.2) I1 G1) Q
  refine Rn.go 1 ⟨Nat.le_of_ble_eq_true rfl, ⟨179, rfl, rfl⟩, fun o X' => conF Rn 169 393 113 (lwL i) [.int (F σ).1] (u1 + mmc 12 + mmc 113, u2 + mms 12 + mms 113) X' Q o, hm (hM.kC hk1) hO (fun I2 G2 hM2 hk2 => ?_), ⟨Nat.le_of_ble_eq_true rfl, Nat.le_of_ble_eq_true rfl, uo3 h1 rfl, uo4 h2 rfl, Nat.le_of_ble_eq_true rfl, Nat.le_of_ble_eq_true rfl⟩, fun _ _ hq => hq⟩
  show Rn 169 396 (lwL i) [.int (F σ).1, .int (F σ).1] (u1 + mmc 12 + mmc 113, u2 + mms 12 + mms 113) (mX (S1, R1, n1, e.2.2.2) I2 G2) Q
  exact Rn.go 1 ⟨fun _ => hQ _ I2 G2 _ _ _ ⟨hC1.kM hk2, hM2, hk σ hO⟩ rfl (uf1 rfl) (uf2 rfl), fun h => absurd rfl h⟩
theorem l_town (hS : lwI σ e I G) (hi : i + 7 ≤ e.2.2.2.2) (hL : e.2.2.2.2 ≤ 448) (h1 : u1 + 1000 ≤ 605614) (h2 : u2 + 100000 ≤ 7254687) (hQ : lwN e i u1 u2 Q) : Rn 169 401 (lwL i) [] (u1, u2) (mX e I G) Q := by
  obtain ⟨hC, hM, hO⟩ := hS
  obtain ⟨F, hc, hm, hk⟩ : ∃ F, oC 13 [some (.ref 0), none] F ∧ oM 114 [some (.ref 179), none, none, none, none] F ∧ oK F := ⟨_, c_town, m_town, k_town⟩
  refine Rn.go 2 ⟨Nat.le_of_ble_eq_true rfl, ⟨0, rfl, rfl⟩, fun o X' => conF Rn 169 402 13 (lwL i) [] (u1 + mmc 13, u2 + mms 13) X' Q o, hc hC hO (fun e1 I1 G1 hC1 hk1 => ?_), ⟨Nat.le_of_ble_eq_true rfl, Nat.le_of_ble_eq_true rfl, uo1 h1 rfl, uo2 h2 rfl, Nat.le_of_ble_eq_true rfl, Nat.le_of_ble_eq_true rfl⟩, fun _ _ hq => hq⟩
  obtain ⟨S1, R1, n1, sc⟩ := e1
  obtain rfl : sc = e.2.2.2 := hk1.1
  show Rn 169 405 (lwL i) [.int (F σ).1] (u1 + mmc 13, u2 + mms 13) (mX (S1, R1, n1, e.2.2.2) I1 G1) Q
  refine Rn.go 2 ⟨Nat.le_of_ble_eq_true rfl, ⟨179, rfl, rfl⟩, fun o X' => conF Rn 169 406 114 (lwL i) [.int (F σ).1] (u1 + mmc 13 + mmc 114, u2 + mms 13 + mms 114) X' Q o, hm (hM.kC hk1) hO (fun I2 G2 hM2 hk2 => ?_), ⟨Nat.le_of_ble_eq_true rfl, Nat.le_of_ble_eq_true rfl, uo3 h1 rfl, uo4 h2 rfl, Nat.le_of_ble_eq_true rfl, Nat.le_of_ble_eq_true rfl⟩, fun _ _ hq => hq⟩
  show Rn 169 409 (lwL i) [.int (F σ).1, .int (F σ).1] (u1 + mmc 13 + mmc 114, u2 + mms 13 + mms 114) (mX (S1, R1, n1, e.2.2.2) I2 G2) Q
  exact Rn.go 1 ⟨fun _ => hQ _ I2 G2 _ _ _ ⟨hC1.kM hk2, hM2, hk σ hO⟩ rfl (uf1 rfl) (uf2 rfl), fun h => absurd rfl h⟩
end La1
