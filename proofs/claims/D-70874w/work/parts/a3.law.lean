section La3
variable {e : En} {I : Nat → Nat → Int32} {G : Nat → Nat → Int64} {Q : Po} {σ : Sg} {i u1 u2 : Nat}
set_option maxRecDepth 100000
theorem l_ahead (hS : lwI σ e I G) (hi : i + 7 ≤ e.2.2.2.2) (hL : e.2.2.2.2 ≤ 448) (h1 : u1 + 1000 ≤ 605614) (h2 : u2 + 100000 ≤ 7254687) (hQ : lwN e i u1 u2 Q) : Rn 169 585 (lwL i) [] (u1, u2) (mX e I G) Q := by
  obtain ⟨hC, hM, hO⟩ := hS
  obtain ⟨F, hc, hm, hk⟩ : ∃ F, oC 41 [some (.ref 0), some (.int (ag e i 1)), some (.int (ag e i 2)), none] F ∧ oM 132 [some (.ref 179), some (.int (ag e i 1)), some (.int (ag e i 2)), none, none] F ∧ oK F := qq (@c_ahead (ag e i 1) (ag e i 2)) (@m_ahead (ag e i 1) (ag e i 2))
  refine Rn.go 6 ⟨rfl, vpS (j := 1) hi hL (by decide), ?_⟩
  show Rn 169 591 (lwL i) [.int (ag e i 1), .ref 0] (u1, u2) (mX e I G) Q
  refine Rn.go 5 ⟨rfl, vpS (j := 2) hi hL (by decide), ?_⟩
  show Rn 169 596 (lwL i) [.int (ag e i 2), .int (ag e i 1), .ref 0] (u1, u2) (mX e I G) Q
  refine Rn.go 1 ⟨Nat.le_of_ble_eq_true rfl, ⟨0, rfl, rfl⟩, fun o X' => conF Rn 169 596 41 (lwL i) [] (u1 + mmc 41, u2 + mms 41) X' Q o, hc hC hO (fun e1 I1 G1 hC1 hk1 => ?_), ⟨Nat.le_of_ble_eq_true rfl, Nat.le_of_ble_eq_true rfl, uo1 h1 rfl, uo2 h2 rfl, Nat.le_of_ble_eq_true rfl, Nat.le_of_ble_eq_true rfl⟩, fun _ _ hq => hq⟩
  obtain ⟨S1, R1, n1, sc⟩ := e1
  obtain rfl : sc = e.2.2.2 := hk1.1
  show Rn 169 599 (lwL i) [.int (F σ).1] (u1 + mmc 41, u2 + mms 41) (mX (S1, R1, n1, e.2.2.2) I1 G1) Q
  refine Rn.go 6 ⟨rfl, vpS (j := 1) hi hL (by decide), ?_⟩
  show Rn 169 605 (lwL i) [.int (ag e i 1), .ref 179, .int (F σ).1] (u1 + mmc 41, u2 + mms 41) (mX (S1, R1, n1, e.2.2.2) I1 G1) Q
  refine Rn.go 5 ⟨rfl, vpS (j := 2) hi hL (by decide), ?_⟩
  show Rn 169 610 (lwL i) [.int (ag e i 2), .int (ag e i 1), .ref 179, .int (F σ).1] (u1 + mmc 41, u2 + mms 41) (mX (S1, R1, n1, e.2.2.2) I1 G1) Q
  refine Rn.go 1 ⟨Nat.le_of_ble_eq_true rfl, ⟨179, rfl, rfl⟩, fun o X' => conF Rn 169 610 132 (lwL i) [.int (F σ).1] (u1 + mmc 41 + mmc 132, u2 + mms 41 + mms 132) X' Q o, hm (hM.kC hk1) hO (fun I2 G2 hM2 hk2 => ?_), ⟨Nat.le_of_ble_eq_true rfl, Nat.le_of_ble_eq_true rfl, uo3 h1 rfl, uo4 h2 rfl, Nat.le_of_ble_eq_true rfl, Nat.le_of_ble_eq_true rfl⟩, fun _ _ hq => hq⟩
  show Rn 169 613 (lwL i) [.int (F σ).1, .int (F σ).1] (u1 + mmc 41 + mmc 132, u2 + mms 41 + mms 132) (mX (S1, R1, n1, e.2.2.2) I2 G2) Q
  exact Rn.go 1 ⟨fun _ => hQ _ I2 G2 _ _ _ ⟨hC1.kM hk2, hM2, hk σ hO⟩ rfl (uf1 rfl) (uf2 rfl), fun h => absurd rfl h⟩
theorem l_years (hS : lwI σ e I G) (hi : i + 7 ≤ e.2.2.2.2) (hL : e.2.2.2.2 ≤ 448) (h1 : u1 + 1000 ≤ 605614) (h2 : u2 + 100000 ≤ 7254687) (hQ : lwN e i u1 u2 Q) : Rn 169 618 (lwL i) [] (u1, u2) (mX e I G) Q := by
  obtain ⟨hC, hM, hO⟩ := hS
  obtain ⟨F, hc, hm, hk⟩ : ∃ F, oC 45 [some (.ref 0), some (.int (ag e i 1)), none] F ∧ oM 137 [some (.ref 179), some (.int (ag e i 1)), none] F ∧ oK F := qq (@c_years (ag e i 1)) (@m_years (ag e i 1))
  refine Rn.go 6 ⟨rfl, vpS (j := 1) hi hL (by decide), ?_⟩
  show Rn 169 624 (lwL i) [.int (ag e i 1), .ref 0] (u1, u2) (mX e I G) Q
  refine Rn.go 1 ⟨Nat.le_of_ble_eq_true rfl, ⟨0, rfl, rfl⟩, fun o X' => conF Rn 169 624 45 (lwL i) [] (u1 + mmc 45, u2 + mms 45) X' Q o, hc hC hO (fun e1 I1 G1 hC1 hk1 => ?_), ⟨Nat.le_of_ble_eq_true rfl, Nat.le_of_ble_eq_true rfl, uo1 h1 rfl, uo2 h2 rfl, Nat.le_of_ble_eq_true rfl, Nat.le_of_ble_eq_true rfl⟩, fun _ _ hq => hq⟩
  obtain ⟨S1, R1, n1, sc⟩ := e1
  obtain rfl : sc = e.2.2.2 := hk1.1
  show Rn 169 627 (lwL i) [.int (F σ).1] (u1 + mmc 45, u2 + mms 45) (mX (S1, R1, n1, e.2.2.2) I1 G1) Q
  refine Rn.go 6 ⟨rfl, vpS (j := 1) hi hL (by decide), ?_⟩
  show Rn 169 633 (lwL i) [.int (ag e i 1), .ref 179, .int (F σ).1] (u1 + mmc 45, u2 + mms 45) (mX (S1, R1, n1, e.2.2.2) I1 G1) Q
  refine Rn.go 1 ⟨Nat.le_of_ble_eq_true rfl, ⟨179, rfl, rfl⟩, fun o X' => conF Rn 169 633 137 (lwL i) [.int (F σ).1] (u1 + mmc 45 + mmc 137, u2 + mms 45 + mms 137) X' Q o, hm (hM.kC hk1) hO (fun I2 G2 hM2 hk2 => ?_), ⟨Nat.le_of_ble_eq_true rfl, Nat.le_of_ble_eq_true rfl, uo3 h1 rfl, uo4 h2 rfl, Nat.le_of_ble_eq_true rfl, Nat.le_of_ble_eq_true rfl⟩, fun _ _ hq => hq⟩
  show Rn 169 636 (lwL i) [.int (F σ).1, .int (F σ).1] (u1 + mmc 45 + mmc 137, u2 + mms 45 + mms 137) (mX (S1, R1, n1, e.2.2.2) I2 G2) Q
  exact Rn.go 1 ⟨fun _ => hQ _ I2 G2 _ _ _ ⟨hC1.kM hk2, hM2, hk σ hO⟩ rfl (uf1 rfl) (uf2 rfl), fun h => absurd rfl h⟩
theorem l_first (hS : lwI σ e I G) (hi : i + 7 ≤ e.2.2.2.2) (hL : e.2.2.2.2 ≤ 448) (h1 : u1 + 1000 ≤ 605614) (h2 : u2 + 100000 ≤ 7254687) (hQ : lwN e i u1 u2 Q) : Rn 169 641 (lwL i) [] (u1, u2) (mX e I G) Q := by
  obtain ⟨hC, hM, hO⟩ := hS
  obtain ⟨F, hc, hm, hk⟩ : ∃ F, oC 46 [some (.ref 0), some (.int (ag e i 1)), none, none] F ∧ oM 138 [some (.ref 179), some (.int (ag e i 1)), none, none] F ∧ oK F := qq (@c_first (ag e i 1)) (@m_first (ag e i 1))
  refine Rn.go 6 ⟨rfl, vpS (j := 1) hi hL (by decide), ?_⟩
  show Rn 169 647 (lwL i) [.int (ag e i 1), .ref 0] (u1, u2) (mX e I G) Q
  refine Rn.go 1 ⟨Nat.le_of_ble_eq_true rfl, ⟨0, rfl, rfl⟩, fun o X' => conF Rn 169 647 46 (lwL i) [] (u1 + mmc 46, u2 + mms 46) X' Q o, hc hC hO (fun e1 I1 G1 hC1 hk1 => ?_), ⟨Nat.le_of_ble_eq_true rfl, Nat.le_of_ble_eq_true rfl, uo1 h1 rfl, uo2 h2 rfl, Nat.le_of_ble_eq_true rfl, Nat.le_of_ble_eq_true rfl⟩, fun _ _ hq => hq⟩
  obtain ⟨S1, R1, n1, sc⟩ := e1
  obtain rfl : sc = e.2.2.2 := hk1.1
  show Rn 169 650 (lwL i) [.int (F σ).1] (u1 + mmc 46, u2 + mms 46) (mX (S1, R1, n1, e.2.2.2) I1 G1) Q
  refine Rn.go 6 ⟨rfl, vpS (j := 1) hi hL (by decide), ?_⟩
  show Rn 169 656 (lwL i) [.int (ag e i 1), .ref 179, .int (F σ).1] (u1 + mmc 46, u2 + mms 46) (mX (S1, R1, n1, e.2.2.2) I1 G1) Q
  refine Rn.go 1 ⟨Nat.le_of_ble_eq_true rfl, ⟨179, rfl, rfl⟩, fun o X' => conF Rn 169 656 138 (lwL i) [.int (F σ).1] (u1 + mmc 46 + mmc 138, u2 + mms 46 + mms 138) X' Q o, hm (hM.kC hk1) hO (fun I2 G2 hM2 hk2 => ?_), ⟨Nat.le_of_ble_eq_true rfl, Nat.le_of_ble_eq_true rfl, uo3 h1 rfl, uo4 h2 rfl, Nat.le_of_ble_eq_true rfl, Nat.le_of_ble_eq_true rfl⟩, fun _ _ hq => hq⟩
  show Rn 169 659 (lwL i) [.int (F σ).1, .int (F σ).1] (u1 + mmc 46 + mmc 138, u2 + mms 46 + mms 138) (mX (S1, R1, n1, e.2.2.2) I2 G2) Q
  exact Rn.go 1 ⟨fun _ => hQ _ I2 G2 _ _ _ ⟨hC1.kM hk2, hM2, hk σ hO⟩ rfl (uf1 rfl) (uf2 rfl), fun h => absurd rfl h⟩
theorem l_lingers (hS : lwI σ e I G) (hi : i + 7 ≤ e.2.2.2.2) (hL : e.2.2.2.2 ≤ 448) (h1 : u1 + 1000 ≤ 605614) (h2 : u2 + 100000 ≤ 7254687) (hQ : lwN e i u1 u2 Q) : Rn 169 664 (lwL i) [] (u1, u2) (mX e I G) Q := by
  obtain ⟨hC, hM, hO⟩ := hS
  obtain ⟨F, hc, hm, hk⟩ : ∃ F, oC 47 [some (.ref 0), some (.int (ag e i 1)), none, none, none] F ∧ oM 139 [some (.ref 179), some (.int (ag e i 1)), none, none] F ∧ oK F := qq (@c_lingers (ag e i 1)) (@m_lingers (ag e i 1))
  refine Rn.go 6 ⟨rfl, vpS (j := 1) hi hL (by decide), ?_⟩
  show Rn 169 670 (lwL i) [.int (ag e i 1), .ref 0] (u1, u2) (mX e I G) Q
  refine Rn.go 1 ⟨Nat.le_of_ble_eq_true rfl, ⟨0, rfl, rfl⟩, fun o X' => conF Rn 169 670 47 (lwL i) [] (u1 + mmc 47, u2 + mms 47) X' Q o, hc hC hO (fun e1 I1 G1 hC1 hk1 => ?_), ⟨Nat.le_of_ble_eq_true rfl, Nat.le_of_ble_eq_true rfl, uo1 h1 rfl, uo2 h2 rfl, Nat.le_of_ble_eq_true rfl, Nat.le_of_ble_eq_true rfl⟩, fun _ _ hq => hq⟩
  obtain ⟨S1, R1, n1, sc⟩ := e1
  obtain rfl : sc = e.2.2.2 := hk1.1
  show Rn 169 673 (lwL i) [.int (F σ).1] (u1 + mmc 47, u2 + mms 47) (mX (S1, R1, n1, e.2.2.2) I1 G1) Q
  refine Rn.go 6 ⟨rfl, vpS (j := 1) hi hL (by decide), ?_⟩
  show Rn 169 679 (lwL i) [.int (ag e i 1), .ref 179, .int (F σ).1] (u1 + mmc 47, u2 + mms 47) (mX (S1, R1, n1, e.2.2.2) I1 G1) Q
  refine Rn.go 1 ⟨Nat.le_of_ble_eq_true rfl, ⟨179, rfl, rfl⟩, fun o X' => conF Rn 169 679 139 (lwL i) [.int (F σ).1] (u1 + mmc 47 + mmc 139, u2 + mms 47 + mms 139) X' Q o, hm (hM.kC hk1) hO (fun I2 G2 hM2 hk2 => ?_), ⟨Nat.le_of_ble_eq_true rfl, Nat.le_of_ble_eq_true rfl, uo3 h1 rfl, uo4 h2 rfl, Nat.le_of_ble_eq_true rfl, Nat.le_of_ble_eq_true rfl⟩, fun _ _ hq => hq⟩
  show Rn 169 682 (lwL i) [.int (F σ).1, .int (F σ).1] (u1 + mmc 47 + mmc 139, u2 + mms 47 + mms 139) (mX (S1, R1, n1, e.2.2.2) I2 G2) Q
  exact Rn.go 1 ⟨fun _ => hQ _ I2 G2 _ _ _ ⟨hC1.kM hk2, hM2, hk σ hO⟩ rfl (uf1 rfl) (uf2 rfl), fun h => absurd rfl h⟩
theorem l_hurry (hS : lwI σ e I G) (hi : i + 7 ≤ e.2.2.2.2) (hL : e.2.2.2.2 ≤ 448) (h1 : u1 + 1000 ≤ 605614) (h2 : u2 + 100000 ≤ 7254687) (hQ : lwN e i u1 u2 Q) : Rn 169 687 (lwL i) [] (u1, u2) (mX e I G) Q := by
  obtain ⟨hC, hM, hO⟩ := hS
  obtain ⟨F, hc, hm, hk⟩ : ∃ F, oC 48 [some (.ref 0), some (.int (ag e i 1)), some (.int (ag e i 2)), none, none, none, none] F ∧ oM 141 [some (.ref 179), some (.int (ag e i 1)), some (.int (ag e i 2)), none, none, none] F ∧ oK F := qq (@c_hurry (ag e i 1) (ag e i 2)) (@m_hurry (ag e i 1) (ag e i 2))
  refine Rn.go 6 ⟨rfl, vpS (j := 1) hi hL (by decide), ?_⟩
  show Rn 169 693 (lwL i) [.int (ag e i 1), .ref 0] (u1, u2) (mX e I G) Q
  refine Rn.go 5 ⟨rfl, vpS (j := 2) hi hL (by decide), ?_⟩
  show Rn 169 698 (lwL i) [.int (ag e i 2), .int (ag e i 1), .ref 0] (u1, u2) (mX e I G) Q
  refine Rn.go 1 ⟨Nat.le_of_ble_eq_true rfl, ⟨0, rfl, rfl⟩, fun o X' => conF Rn 169 698 48 (lwL i) [] (u1 + mmc 48, u2 + mms 48) X' Q o, hc hC hO (fun e1 I1 G1 hC1 hk1 => ?_), ⟨Nat.le_of_ble_eq_true rfl, Nat.le_of_ble_eq_true rfl, uo1 h1 rfl, uo2 h2 rfl, Nat.le_of_ble_eq_true rfl, Nat.le_of_ble_eq_true rfl⟩, fun _ _ hq => hq⟩
  obtain ⟨S1, R1, n1, sc⟩ := e1
  obtain rfl : sc = e.2.2.2 := hk1.1
  show Rn 169 701 (lwL i) [.int (F σ).1] (u1 + mmc 48, u2 + mms 48) (mX (S1, R1, n1, e.2.2.2) I1 G1) Q
  refine Rn.go 6 ⟨rfl, vpS (j := 1) hi hL (by decide), ?_⟩
  show Rn 169 707 (lwL i) [.int (ag e i 1), .ref 179, .int (F σ).1] (u1 + mmc 48, u2 + mms 48) (mX (S1, R1, n1, e.2.2.2) I1 G1) Q
  refine Rn.go 5 ⟨rfl, vpS (j := 2) hi hL (by decide), ?_⟩
  show Rn 169 712 (lwL i) [.int (ag e i 2), .int (ag e i 1), .ref 179, .int (F σ).1] (u1 + mmc 48, u2 + mms 48) (mX (S1, R1, n1, e.2.2.2) I1 G1) Q
  refine Rn.go 1 ⟨Nat.le_of_ble_eq_true rfl, ⟨179, rfl, rfl⟩, fun o X' => conF Rn 169 712 141 (lwL i) [.int (F σ).1] (u1 + mmc 48 + mmc 141, u2 + mms 48 + mms 141) X' Q o, hm (hM.kC hk1) hO (fun I2 G2 hM2 hk2 => ?_), ⟨Nat.le_of_ble_eq_true rfl, Nat.le_of_ble_eq_true rfl, uo3 h1 rfl, uo4 h2 rfl, Nat.le_of_ble_eq_true rfl, Nat.le_of_ble_eq_true rfl⟩, fun _ _ hq => hq⟩
  show Rn 169 715 (lwL i) [.int (F σ).1, .int (F σ).1] (u1 + mmc 48 + mmc 141, u2 + mms 48 + mms 141) (mX (S1, R1, n1, e.2.2.2) I2 G2) Q
  exact Rn.go 1 ⟨fun _ => hQ _ I2 G2 _ _ _ ⟨hC1.kM hk2, hM2, hk σ hO⟩ rfl (uf1 rfl) (uf2 rfl), fun h => absurd rfl h⟩
theorem l_shut (hS : lwI σ e I G) (hi : i + 7 ≤ e.2.2.2.2) (hL : e.2.2.2.2 ≤ 448) (h1 : u1 + 1000 ≤ 605614) (h2 : u2 + 100000 ≤ 7254687) (hQ : lwN e i u1 u2 Q) : Rn 169 720 (lwL i) [] (u1, u2) (mX e I G) Q := by
  obtain ⟨hC, hM, hO⟩ := hS
  obtain ⟨F, hc, hm, hk⟩ : ∃ F, oC 49 [some (.ref 0), some (.int (ag e i 1)), none, none, none, none, none] F ∧ oM 143 [some (.ref 179), some (.int (ag e i 1)), none, none, none, none, none, none] F ∧ oK F := qq (@c_shut (ag e i 1)) (@m_shut (ag e i 1))
  refine Rn.go 6 ⟨rfl, vpS (j := 1) hi hL (by decide), ?_⟩
  show Rn 169 726 (lwL i) [.int (ag e i 1), .ref 0] (u1, u2) (mX e I G) Q
  refine Rn.go 1 ⟨Nat.le_of_ble_eq_true rfl, ⟨0, rfl, rfl⟩, fun o X' => conF Rn 169 726 49 (lwL i) [] (u1 + mmc 49, u2 + mms 49) X' Q o, hc hC hO (fun e1 I1 G1 hC1 hk1 => ?_), ⟨Nat.le_of_ble_eq_true rfl, Nat.le_of_ble_eq_true rfl, uo1 h1 rfl, uo2 h2 rfl, Nat.le_of_ble_eq_true rfl, Nat.le_of_ble_eq_true rfl⟩, fun _ _ hq => hq⟩
  obtain ⟨S1, R1, n1, sc⟩ := e1
  obtain rfl : sc = e.2.2.2 := hk1.1
  show Rn 169 729 (lwL i) [.int (F σ).1] (u1 + mmc 49, u2 + mms 49) (mX (S1, R1, n1, e.2.2.2) I1 G1) Q
  refine Rn.go 6 ⟨rfl, vpS (j := 1) hi hL (by decide), ?_⟩
  show Rn 169 735 (lwL i) [.int (ag e i 1), .ref 179, .int (F σ).1] (u1 + mmc 49, u2 + mms 49) (mX (S1, R1, n1, e.2.2.2) I1 G1) Q
  refine Rn.go 1 ⟨Nat.le_of_ble_eq_true rfl, ⟨179, rfl, rfl⟩, fun o X' => conF Rn 169 735 143 (lwL i) [.int (F σ).1] (u1 + mmc 49 + mmc 143, u2 + mms 49 + mms 143) X' Q o, hm (hM.kC hk1) hO (fun I2 G2 hM2 hk2 => ?_), ⟨Nat.le_of_ble_eq_true rfl, Nat.le_of_ble_eq_true rfl, uo3 h1 rfl, uo4 h2 rfl, Nat.le_of_ble_eq_true rfl, Nat.le_of_ble_eq_true rfl⟩, fun _ _ hq => hq⟩
  show Rn 169 738 (lwL i) [.int (F σ).1, .int (F σ).1] (u1 + mmc 49 + mmc 143, u2 + mms 49 + mms 143) (mX (S1, R1, n1, e.2.2.2) I2 G2) Q
  exact Rn.go 1 ⟨fun _ => hQ _ I2 G2 _ _ _ ⟨hC1.kM hk2, hM2, hk σ hO⟩ rfl (uf1 rfl) (uf2 rfl), fun h => absurd rfl h⟩
theorem l_list (hS : lwI σ e I G) (hi : i + 7 ≤ e.2.2.2.2) (hL : e.2.2.2.2 ≤ 448) (h1 : u1 + 1000 ≤ 605614) (h2 : u2 + 100000 ≤ 7254687) (hQ : lwN e i u1 u2 Q) : Rn 169 743 (lwL i) [] (u1, u2) (mX e I G) Q := by
  obtain ⟨hC, hM, hO⟩ := hS
  obtain ⟨F, hc, hm, hk⟩ : ∃ F, oC 50 [some (.ref 0), some (.int (ag e i 1)), none, none, none, none] F ∧ oM 144 [some (.ref 179), some (.int (ag e i 1)), none, none, none, none, none, none, none] F ∧ oK F := qq (@c_list (ag e i 1)) (@m_list (ag e i 1))
  refine Rn.go 6 ⟨rfl, vpS (j := 1) hi hL (by decide), ?_⟩
  show Rn 169 749 (lwL i) [.int (ag e i 1), .ref 0] (u1, u2) (mX e I G) Q
  refine Rn.go 1 ⟨Nat.le_of_ble_eq_true rfl, ⟨0, rfl, rfl⟩, fun o X' => conF Rn 169 749 50 (lwL i) [] (u1 + mmc 50, u2 + mms 50) X' Q o, hc hC hO (fun e1 I1 G1 hC1 hk1 => ?_), ⟨Nat.le_of_ble_eq_true rfl, Nat.le_of_ble_eq_true rfl, uo1 h1 rfl, uo2 h2 rfl, Nat.le_of_ble_eq_true rfl, Nat.le_of_ble_eq_true rfl⟩, fun _ _ hq => hq⟩
  obtain ⟨S1, R1, n1, sc⟩ := e1
  obtain rfl : sc = e.2.2.2 := hk1.1
  show Rn 169 752 (lwL i) [.int (F σ).1] (u1 + mmc 50, u2 + mms 50) (mX (S1, R1, n1, e.2.2.2) I1 G1) Q
  refine Rn.go 6 ⟨rfl, vpS (j := 1) hi hL (by decide), ?_⟩
  show Rn 169 758 (lwL i) [.int (ag e i 1), .ref 179, .int (F σ).1] (u1 + mmc 50, u2 + mms 50) (mX (S1, R1, n1, e.2.2.2) I1 G1) Q
  refine Rn.go 1 ⟨Nat.le_of_ble_eq_true rfl, ⟨179, rfl, rfl⟩, fun o X' => conF Rn 169 758 144 (lwL i) [.int (F σ).1] (u1 + mmc 50 + mmc 144, u2 + mms 50 + mms 144) X' Q o, hm (hM.kC hk1) hO (fun I2 G2 hM2 hk2 => ?_), ⟨Nat.le_of_ble_eq_true rfl, Nat.le_of_ble_eq_true rfl, uo3 h1 rfl, uo4 h2 rfl, Nat.le_of_ble_eq_true rfl, Nat.le_of_ble_eq_true rfl⟩, fun _ _ hq => hq⟩
  show Rn 169 761 (lwL i) [.int (F σ).1, .int (F σ).1] (u1 + mmc 50 + mmc 144, u2 + mms 50 + mms 144) (mX (S1, R1, n1, e.2.2.2) I2 G2) Q
  exact Rn.go 1 ⟨fun _ => hQ _ I2 G2 _ _ _ ⟨hC1.kM hk2, hM2, hk σ hO⟩ rfl (uf1 rfl) (uf2 rfl), fun h => absurd rfl h⟩
end La3
