section La4
variable {e : En} {I : Nat → Nat → Int32} {G : Nat → Nat → Int64} {Q : Po} {σ : Sg} {i u1 u2 : Nat}
set_option maxRecDepth 100000
theorem l_best (hS : lwI σ e I G) (hi : i + 7 ≤ e.2.2.2.2) (hL : e.2.2.2.2 ≤ 448) (h1 : u1 + 1000 ≤ 605614) (h2 : u2 + 100000 ≤ 7254687) (hQ : lwN e i u1 u2 Q) : Rn 169 766 (lwL i) [] (u1, u2) (mX e I G) Q := by
  obtain ⟨hC, hM, hO⟩ := hS
  obtain ⟨F, hc, hm, hk⟩ : ∃ F, oC 53 [some (.ref 0), some (.int (ag e i 1)), none, none, none, none, none] F ∧ oM 147 [some (.ref 179), some (.int (ag e i 1)), none, none] F ∧ oK F := qq (@c_best (ag e i 1)) (@m_best (ag e i 1))
  refine Rn.go 6 ⟨rfl, vpS (j := 1) hi hL (by decide), ?_⟩
  show Rn 169 772 (lwL i) [.int (ag e i 1), .ref 0] (u1, u2) (mX e I G) Q
  refine Rn.go 1 ⟨Nat.le_of_ble_eq_true rfl, ⟨0, rfl, rfl⟩, fun o X' => conF Rn 169 772 53 (lwL i) [] (u1 + mmc 53, u2 + mms 53) X' Q o, hc hC hO (fun e1 I1 G1 hC1 hk1 => ?_), ⟨Nat.le_of_ble_eq_true rfl, Nat.le_of_ble_eq_true rfl, uo1 h1 rfl, uo2 h2 rfl, Nat.le_of_ble_eq_true rfl, Nat.le_of_ble_eq_true rfl⟩, fun _ _ hq => hq⟩
  obtain ⟨S1, R1, n1, sc⟩ := e1
  obtain rfl : sc = e.2.2.2 := hk1.1
  show Rn 169 775 (lwL i) [.int (F σ).1] (u1 + mmc 53, u2 + mms 53) (mX (S1, R1, n1, e.2.2.2) I1 G1) Q
  refine Rn.go 6 ⟨rfl, vpS (j := 1) hi hL (by decide), ?_⟩
  show Rn 169 781 (lwL i) [.int (ag e i 1), .ref 179, .int (F σ).1] (u1 + mmc 53, u2 + mms 53) (mX (S1, R1, n1, e.2.2.2) I1 G1) Q
  refine Rn.go 1 ⟨Nat.le_of_ble_eq_true rfl, ⟨179, rfl, rfl⟩, fun o X' => conF Rn 169 781 147 (lwL i) [.int (F σ).1] (u1 + mmc 53 + mmc 147, u2 + mms 53 + mms 147) X' Q o, hm (hM.kC hk1) hO (fun I2 G2 hM2 hk2 => ?_), ⟨Nat.le_of_ble_eq_true rfl, Nat.le_of_ble_eq_true rfl, uo3 h1 rfl, uo4 h2 rfl, Nat.le_of_ble_eq_true rfl, Nat.le_of_ble_eq_true rfl⟩, fun _ _ hq => hq⟩
  show Rn 169 784 (lwL i) [.int (F σ).1, .int (F σ).1] (u1 + mmc 53 + mmc 147, u2 + mms 53 + mms 147) (mX (S1, R1, n1, e.2.2.2) I2 G2) Q
  exact Rn.go 1 ⟨fun _ => hQ _ I2 G2 _ _ _ ⟨hC1.kM hk2, hM2, hk σ hO⟩ rfl (uf1 rfl) (uf2 rfl), fun h => absurd rfl h⟩
theorem l_street (hS : lwI σ e I G) (hi : i + 7 ≤ e.2.2.2.2) (hL : e.2.2.2.2 ≤ 448) (h1 : u1 + 1000 ≤ 605614) (h2 : u2 + 100000 ≤ 7254687) (hQ : lwN e i u1 u2 Q) : Rn 169 789 (lwL i) [] (u1, u2) (mX e I G) Q := by
  obtain ⟨hC, hM, hO⟩ := hS
  obtain ⟨F, hc, hm, hk⟩ : ∃ F, oC 54 [some (.ref 0), some (.int (ag e i 1)), some (.int (ag e i 2)), some (.int (ag e i 3)), some (.int (ag e i 4)), some (.int (ag e i 5)), none, none, none, none, none] F ∧ oM 148 [some (.ref 179), some (.int (ag e i 1)), some (.int (ag e i 2)), some (.int (ag e i 3)), some (.int (ag e i 4)), some (.int (ag e i 5)), none, none, none, none, none, none, none] F ∧ oK F := qq (@c_street (ag e i 1) (ag e i 2) (ag e i 3) (ag e i 4) (ag e i 5)) (@m_street (ag e i 1) (ag e i 2) (ag e i 3) (ag e i 4) (ag e i 5))
  refine Rn.go 6 ⟨rfl, vpS (j := 1) hi hL (by decide), ?_⟩
  show Rn 169 795 (lwL i) [.int (ag e i 1), .ref 0] (u1, u2) (mX e I G) Q
  refine Rn.go 5 ⟨rfl, vpS (j := 2) hi hL (by decide), ?_⟩
  show Rn 169 800 (lwL i) [.int (ag e i 2), .int (ag e i 1), .ref 0] (u1, u2) (mX e I G) Q
  refine Rn.go 5 ⟨rfl, vpS (j := 3) hi hL (by decide), ?_⟩
  show Rn 169 805 (lwL i) [.int (ag e i 3), .int (ag e i 2), .int (ag e i 1), .ref 0] (u1, u2) (mX e I G) Q
  refine Rn.go 5 ⟨rfl, vpS (j := 4) hi hL (by decide), ?_⟩
  show Rn 169 810 (lwL i) [.int (ag e i 4), .int (ag e i 3), .int (ag e i 2), .int (ag e i 1), .ref 0] (u1, u2) (mX e I G) Q
  refine Rn.go 5 ⟨rfl, vpS (j := 5) hi hL (by decide), ?_⟩
  show Rn 169 815 (lwL i) [.int (ag e i 5), .int (ag e i 4), .int (ag e i 3), .int (ag e i 2), .int (ag e i 1), .ref 0] (u1, u2) (mX e I G) Q
  refine Rn.go 1 ⟨Nat.le_of_ble_eq_true rfl, ⟨0, rfl, rfl⟩, fun o X' => conF Rn 169 815 54 (lwL i) [] (u1 + mmc 54, u2 + mms 54) X' Q o, hc hC hO (fun e1 I1 G1 hC1 hk1 => ?_), ⟨Nat.le_of_ble_eq_true rfl, Nat.le_of_ble_eq_true rfl, uo1 h1 rfl, uo2 h2 rfl, Nat.le_of_ble_eq_true rfl, Nat.le_of_ble_eq_true rfl⟩, fun _ _ hq => hq⟩
  obtain ⟨S1, R1, n1, sc⟩ := e1
  obtain rfl : sc = e.2.2.2 := hk1.1
  show Rn 169 818 (lwL i) [.int (F σ).1] (u1 + mmc 54, u2 + mms 54) (mX (S1, R1, n1, e.2.2.2) I1 G1) Q
  refine Rn.go 6 ⟨rfl, vpS (j := 1) hi hL (by decide), ?_⟩
  show Rn 169 824 (lwL i) [.int (ag e i 1), .ref 179, .int (F σ).1] (u1 + mmc 54, u2 + mms 54) (mX (S1, R1, n1, e.2.2.2) I1 G1) Q
  refine Rn.go 5 ⟨rfl, vpS (j := 2) hi hL (by decide), ?_⟩
  show Rn 169 829 (lwL i) [.int (ag e i 2), .int (ag e i 1), .ref 179, .int (F σ).1] (u1 + mmc 54, u2 + mms 54) (mX (S1, R1, n1, e.2.2.2) I1 G1) Q
  refine Rn.go 5 ⟨rfl, vpS (j := 3) hi hL (by decide), ?_⟩
  show Rn 169 834 (lwL i) [.int (ag e i 3), .int (ag e i 2), .int (ag e i 1), .ref 179, .int (F σ).1] (u1 + mmc 54, u2 + mms 54) (mX (S1, R1, n1, e.2.2.2) I1 G1) Q
  refine Rn.go 5 ⟨rfl, vpS (j := 4) hi hL (by decide), ?_⟩
  show Rn 169 839 (lwL i) [.int (ag e i 4), .int (ag e i 3), .int (ag e i 2), .int (ag e i 1), .ref 179, .int (F σ).1] (u1 + mmc 54, u2 + mms 54) (mX (S1, R1, n1, e.2.2.2) I1 G1) Q
  refine Rn.go 5 ⟨rfl, vpS (j := 5) hi hL (by decide), ?_⟩
  show Rn 169 844 (lwL i) [.int (ag e i 5), .int (ag e i 4), .int (ag e i 3), .int (ag e i 2), .int (ag e i 1), .ref 179, .int (F σ).1] (u1 + mmc 54, u2 + mms 54) (mX (S1, R1, n1, e.2.2.2) I1 G1) Q
  refine Rn.go 1 ⟨Nat.le_of_ble_eq_true rfl, ⟨179, rfl, rfl⟩, fun o X' => conF Rn 169 844 148 (lwL i) [.int (F σ).1] (u1 + mmc 54 + mmc 148, u2 + mms 54 + mms 148) X' Q o, hm (hM.kC hk1) hO (fun I2 G2 hM2 hk2 => ?_), ⟨Nat.le_of_ble_eq_true rfl, Nat.le_of_ble_eq_true rfl, uo3 h1 rfl, uo4 h2 rfl, Nat.le_of_ble_eq_true rfl, Nat.le_of_ble_eq_true rfl⟩, fun _ _ hq => hq⟩
  show Rn 169 847 (lwL i) [.int (F σ).1, .int (F σ).1] (u1 + mmc 54 + mmc 148, u2 + mms 54 + mms 148) (mX (S1, R1, n1, e.2.2.2) I2 G2) Q
  exact Rn.go 1 ⟨fun _ => hQ _ I2 G2 _ _ _ ⟨hC1.kM hk2, hM2, hk σ hO⟩ rfl (uf1 rfl) (uf2 rfl), fun h => absurd rfl h⟩
theorem l_odds (hS : lwI σ e I G) (hi : i + 7 ≤ e.2.2.2.2) (hL : e.2.2.2.2 ≤ 448) (h1 : u1 + 1000 ≤ 605614) (h2 : u2 + 100000 ≤ 7254687) (hQ : lwN e i u1 u2 Q) : Rn 169 852 (lwL i) [] (u1, u2) (mX e I G) Q := by
  obtain ⟨hC, hM, hO⟩ := hS
  obtain ⟨F, hc, hm, hk⟩ : ∃ F, oC 57 [some (.ref 0), some (.int (ag e i 1)), some (.int (ag e i 2)), some (.int (ag e i 3)), none, none, none, none, none] F ∧ oM 150 [some (.ref 179), some (.int (ag e i 1)), some (.int (ag e i 2)), some (.int (ag e i 3)), none, none, none, none, none, none] F ∧ oK F := qqw (@c_odds (ag e i 1) (ag e i 2) (ag e i 3)) (@m_odds (ag e i 1) (ag e i 2) (ag e i 3))
  refine Rn.go 6 ⟨rfl, vpS (j := 1) hi hL (by decide), ?_⟩
  show Rn 169 858 (lwL i) [.int (ag e i 1), .ref 0] (u1, u2) (mX e I G) Q
  refine Rn.go 5 ⟨rfl, vpS (j := 2) hi hL (by decide), ?_⟩
  show Rn 169 863 (lwL i) [.int (ag e i 2), .int (ag e i 1), .ref 0] (u1, u2) (mX e I G) Q
  refine Rn.go 5 ⟨rfl, vpS (j := 3) hi hL (by decide), ?_⟩
  show Rn 169 868 (lwL i) [.int (ag e i 3), .int (ag e i 2), .int (ag e i 1), .ref 0] (u1, u2) (mX e I G) Q
  refine Rn.go 1 ⟨Nat.le_of_ble_eq_true rfl, ⟨0, rfl, rfl⟩, fun o X' => conF Rn 169 868 57 (lwL i) [] (u1 + mmc 57, u2 + mms 57) X' Q o, hc hC hO (fun e1 I1 G1 hC1 hk1 => ?_), ⟨Nat.le_of_ble_eq_true rfl, Nat.le_of_ble_eq_true rfl, uo1 h1 rfl, uo2 h2 rfl, Nat.le_of_ble_eq_true rfl, Nat.le_of_ble_eq_true rfl⟩, fun _ _ hq => hq⟩
  obtain ⟨S1, R1, n1, sc⟩ := e1
  obtain rfl : sc = e.2.2.2 := hk1.1
  show Rn 169 871 (lwL i) [.int (F σ).1] (u1 + mmc 57, u2 + mms 57) (mX (S1, R1, n1, e.2.2.2) I1 G1) Q
  refine Rn.go 6 ⟨rfl, vpS (j := 1) hi hL (by decide), ?_⟩
  show Rn 169 877 (lwL i) [.int (ag e i 1), .ref 179, .int (F σ).1] (u1 + mmc 57, u2 + mms 57) (mX (S1, R1, n1, e.2.2.2) I1 G1) Q
  refine Rn.go 5 ⟨rfl, vpS (j := 2) hi hL (by decide), ?_⟩
  show Rn 169 882 (lwL i) [.int (ag e i 2), .int (ag e i 1), .ref 179, .int (F σ).1] (u1 + mmc 57, u2 + mms 57) (mX (S1, R1, n1, e.2.2.2) I1 G1) Q
  refine Rn.go 5 ⟨rfl, vpS (j := 3) hi hL (by decide), ?_⟩
  show Rn 169 887 (lwL i) [.int (ag e i 3), .int (ag e i 2), .int (ag e i 1), .ref 179, .int (F σ).1] (u1 + mmc 57, u2 + mms 57) (mX (S1, R1, n1, e.2.2.2) I1 G1) Q
  refine Rn.go 1 ⟨Nat.le_of_ble_eq_true rfl, ⟨179, rfl, rfl⟩, fun o X' => conF Rn 169 887 150 (lwL i) [.int (F σ).1] (u1 + mmc 57 + mmc 150, u2 + mms 57 + mms 150) X' Q o, hm (hM.kC hk1) hO (fun I2 G2 hM2 hk2 => ?_), ⟨Nat.le_of_ble_eq_true rfl, Nat.le_of_ble_eq_true rfl, uo3 h1 rfl, uo4 h2 rfl, Nat.le_of_ble_eq_true rfl, Nat.le_of_ble_eq_true rfl⟩, fun _ _ hq => hq⟩
  show Rn 169 890 (lwL i) [.int (F σ).1, .int (F σ).1] (u1 + mmc 57 + mmc 150, u2 + mms 57 + mms 150) (mX (S1, R1, n1, e.2.2.2) I2 G2) Q
  exact Rn.go 1 ⟨fun _ => hQ _ I2 G2 _ _ _ ⟨hC1.kM hk2, hM2, hk σ hO⟩ rfl (uf1 rfl) (uf2 rfl), fun h => absurd rfl h⟩
theorem l_image (hS : lwI σ e I G) (hi : i + 7 ≤ e.2.2.2.2) (hL : e.2.2.2.2 ≤ 448) (h1 : u1 + 1000 ≤ 605614) (h2 : u2 + 100000 ≤ 7254687) (hQ : lwN e i u1 u2 Q) : Rn 169 895 (lwL i) [] (u1, u2) (mX e I G) Q := by
  obtain ⟨hC, hM, hO⟩ := hS
  obtain ⟨F, hc, hm, hk⟩ : ∃ F, oC 58 [some (.ref 0), none] F ∧ oM 151 [some (.ref 179), none] F ∧ oK F := ⟨_, c_image, m_image, k_image⟩
  refine Rn.go 2 ⟨Nat.le_of_ble_eq_true rfl, ⟨0, rfl, rfl⟩, fun o X' => conF Rn 169 896 58 (lwL i) [] (u1 + mmc 58, u2 + mms 58) X' Q o, hc hC hO (fun e1 I1 G1 hC1 hk1 => ?_), ⟨Nat.le_of_ble_eq_true rfl, Nat.le_of_ble_eq_true rfl, uo1 h1 rfl, uo2 h2 rfl, Nat.le_of_ble_eq_true rfl, Nat.le_of_ble_eq_true rfl⟩, fun _ _ hq => hq⟩
  obtain ⟨S1, R1, n1, sc⟩ := e1
  obtain rfl : sc = e.2.2.2 := hk1.1
  show Rn 169 899 (lwL i) [.int (F σ).1] (u1 + mmc 58, u2 + mms 58) (mX (S1, R1, n1, e.2.2.2) I1 G1) Q
  refine Rn.go 2 ⟨Nat.le_of_ble_eq_true rfl, ⟨179, rfl, rfl⟩, fun o X' => conF Rn 169 900 151 (lwL i) [.int (F σ).1] (u1 + mmc 58 + mmc 151, u2 + mms 58 + mms 151) X' Q o, hm (hM.kC hk1) hO (fun I2 G2 hM2 hk2 => ?_), ⟨Nat.le_of_ble_eq_true rfl, Nat.le_of_ble_eq_true rfl, uo3 h1 rfl, uo4 h2 rfl, Nat.le_of_ble_eq_true rfl, Nat.le_of_ble_eq_true rfl⟩, fun _ _ hq => hq⟩
  show Rn 169 903 (lwL i) [.int (F σ).1, .int (F σ).1] (u1 + mmc 58 + mmc 151, u2 + mms 58 + mms 151) (mX (S1, R1, n1, e.2.2.2) I2 G2) Q
  exact Rn.go 1 ⟨fun _ => hQ _ I2 G2 _ _ _ ⟨hC1.kM hk2, hM2, hk σ hO⟩ rfl (uf1 rfl) (uf2 rfl), fun h => absurd rfl h⟩
theorem l_restore (hS : lwI σ e I G) (hi : i + 7 ≤ e.2.2.2.2) (hL : e.2.2.2.2 ≤ 448) (h1 : u1 + 1000 ≤ 605614) (h2 : u2 + 100000 ≤ 7254687) (hQ : lwN e i u1 u2 Q) : Rn 169 908 (lwL i) [] (u1, u2) (mX e I G) Q := by
  obtain ⟨hC, hM, hO⟩ := hS
  obtain ⟨F, hc, hm, hk⟩ : ∃ F, oC 59 [some (.ref 0), none] F ∧ oM 152 [some (.ref 179), none] F ∧ oK F := ⟨_, c_restore, m_restore, k_restore⟩
  refine Rn.go 2 ⟨Nat.le_of_ble_eq_true rfl, ⟨0, rfl, rfl⟩, fun o X' => conF Rn 169 909 59 (lwL i) [] (u1 + mmc 59, u2 + mms 59) X' Q o, hc hC hO (fun e1 I1 G1 hC1 hk1 => ?_), ⟨Nat.le_of_ble_eq_true rfl, Nat.le_of_ble_eq_true rfl, uo1 h1 rfl, uo2 h2 rfl, Nat.le_of_ble_eq_true rfl, Nat.le_of_ble_eq_true rfl⟩, fun _ _ hq => hq⟩
  obtain ⟨S1, R1, n1, sc⟩ := e1
  obtain rfl : sc = e.2.2.2 := hk1.1
  show Rn 169 912 (lwL i) [.int (F σ).1] (u1 + mmc 59, u2 + mms 59) (mX (S1, R1, n1, e.2.2.2) I1 G1) Q
  refine Rn.go 2 ⟨Nat.le_of_ble_eq_true rfl, ⟨179, rfl, rfl⟩, fun o X' => conF Rn 169 913 152 (lwL i) [.int (F σ).1] (u1 + mmc 59 + mmc 152, u2 + mms 59 + mms 152) X' Q o, hm (hM.kC hk1) hO (fun I2 G2 hM2 hk2 => ?_), ⟨Nat.le_of_ble_eq_true rfl, Nat.le_of_ble_eq_true rfl, uo3 h1 rfl, uo4 h2 rfl, Nat.le_of_ble_eq_true rfl, Nat.le_of_ble_eq_true rfl⟩, fun _ _ hq => hq⟩
  show Rn 169 916 (lwL i) [.int (F σ).1, .int (F σ).1] (u1 + mmc 59 + mmc 152, u2 + mms 59 + mms 152) (mX (S1, R1, n1, e.2.2.2) I2 G2) Q
  exact Rn.go 1 ⟨fun _ => hQ _ I2 G2 _ _ _ ⟨hC1.kM hk2, hM2, hk σ hO⟩ rfl (uf1 rfl) (uf2 rfl), fun h => absurd rfl h⟩
end La4
