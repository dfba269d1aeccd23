section La5
variable {e : En} {I : Nat → Nat → Int32} {G : Nat → Nat → Int64} {Q : Po} {σ : Sg} {i u1 u2 : Nat}
set_option maxRecDepth 100000
theorem l_bench (hS : lwI σ e I G) (hi : i + 7 ≤ e.2.2.2.2) (hL : e.2.2.2.2 ≤ 448) (h1 : u1 + 1000 ≤ 605614) (h2 : u2 + 100000 ≤ 7254687) (hQ : lwN e i u1 u2 Q) : Rn 169 921 (lwL i) [] (u1, u2) (mX e I G) Q := by
  obtain ⟨hC, hM, hO⟩ := hS
  obtain ⟨F, hc, hm, hk⟩ : ∃ F, oC 60 [some (.ref 0), some (.int (ag e i 1)), some (.int (ag e i 2)), some (.int (ag e i 3)), some (.int (ag e i 4)), some (.int (ag e i 5)), some (.int (ag e i 6)), none, none, none, none, none, none] F ∧ oM 153 [some (.ref 179), some (.int (ag e i 1)), some (.int (ag e i 2)), some (.int (ag e i 3)), some (.int (ag e i 4)), some (.int (ag e i 5)), some (.int (ag e i 6)), none, none, none, none, none, none, none] F ∧ oK F := ⟨_, c_bench, m_bench, k_bench⟩
  refine Rn.go 6 ⟨rfl, vpS (j := 1) hi hL (by decide), ?_⟩
  show Rn 169 927 (lwL i) [.int (ag e i 1), .ref 0] (u1, u2) (mX e I G) Q
  refine Rn.go 5 ⟨rfl, vpS (j := 2) hi hL (by decide), ?_⟩
  show Rn 169 932 (lwL i) [.int (ag e i 2), .int (ag e i 1), .ref 0] (u1, u2) (mX e I G) Q
  refine Rn.go 5 ⟨rfl, vpS (j := 3) hi hL (by decide), ?_⟩
  show Rn 169 937 (lwL i) [.int (ag e i 3), .int (ag e i 2), .int (ag e i 1), .ref 0] (u1, u2) (mX e I G) Q
  refine Rn.go 5 ⟨rfl, vpS (j := 4) hi hL (by decide), ?_⟩
  show Rn 169 942 (lwL i) [.int (ag e i 4), .int (ag e i 3), .int (ag e i 2), .int (ag e i 1), .ref 0] (u1, u2) (mX e I G) Q
  refine Rn.go 5 ⟨rfl, vpS (j := 5) hi hL (by decide), ?_⟩
  show Rn 169 947 (lwL i) [.int (ag e i 5), .int (ag e i 4), .int (ag e i 3), .int (ag e i 2), .int (ag e i 1), .ref 0] (u1, u2) (mX e I G) Q
  refine Rn.go 5 ⟨rfl, vpS (j := 6) hi hL (by decide), ?_⟩
  show Rn 169 953 (lwL i) [.int (ag e i 6), .int (ag e i 5), .int (ag e i 4), .int (ag e i 3), .int (ag e i 2), .int (ag e i 1), .ref 0] (u1, u2) (mX e I G) Q
  refine Rn.go 1 ⟨Nat.le_of_ble_eq_true rfl, ⟨0, rfl, rfl⟩, fun o X' => conF Rn 169 953 60 (lwL i) [] (u1 + mmc 60, u2 + mms 60) X' Q o, hc hC hO (fun e1 I1 G1 hC1 hk1 => ?_), ⟨Nat.le_of_ble_eq_true rfl, Nat.le_of_ble_eq_true rfl, uo1 h1 rfl, uo2 h2 rfl, Nat.le_of_ble_eq_true rfl, Nat.le_of_ble_eq_true rfl⟩, fun _ _ hq => hq⟩
  obtain ⟨S1, R1, n1, sc⟩ := e1
  obtain rfl : sc = e.2.2.2 := hk1.1
  show Rn 169 956 (lwL i) [.int (F σ).1] (u1 + mmc 60, u2 + mms 60) (mX (S1, R1, n1, e.2.2.2) I1 G1) Q
  refine Rn.go 6 ⟨rfl, vpS (j := 1) hi hL (by decide), ?_⟩
  show Rn 169 962 (lwL i) [.int (ag e i 1), .ref 179, .int (F σ).1] (u1 + mmc 60, u2 + mms 60) (mX (S1, R1, n1, e.2.2.2) I1 G1) Q
  refine Rn.go 5 ⟨rfl, vpS (j := 2) hi hL (by decide), ?_⟩
  show Rn 169 967 (lwL i) [.int (ag e i 2), .int (ag e i 1), .ref 179, .int (F σ).1] (u1 + mmc 60, u2 + mms 60) (mX (S1, R1, n1, e.2.2.2) I1 G1) Q
  refine Rn.go 5 ⟨rfl, vpS (j := 3) hi hL (by decide), ?_⟩
  show Rn 169 972 (lwL i) [.int (ag e i 3), .int (ag e i 2), .int (ag e i 1), .ref 179, .int (F σ).1] (u1 + mmc 60, u2 + mms 60) (mX (S1, R1, n1, e.2.2.2) I1 G1) Q
  refine Rn.go 5 ⟨rfl, vpS (j := 4) hi hL (by decide), ?_⟩
  show Rn 169 977 (lwL i) [.int (ag e i 4), .int (ag e i 3), .int (ag e i 2), .int (ag e i 1), .ref 179, .int (F σ).1] (u1 + mmc 60, u2 + mms 60) (mX (S1, R1, n1, e.2.2.2) I1 G1) Q
  refine Rn.go 5 ⟨rfl, vpS (j := 5) hi hL (by decide), ?_⟩
  show Rn 169 982 (lwL i) [.int (ag e i 5), .int (ag e i 4), .int (ag e i 3), .int (ag e i 2), .int (ag e i 1), .ref 179, .int (F σ).1] (u1 + mmc 60, u2 + mms 60) (mX (S1, R1, n1, e.2.2.2) I1 G1) Q
  refine Rn.go 5 ⟨rfl, vpS (j := 6) hi hL (by decide), ?_⟩
  show Rn 169 988 (lwL i) [.int (ag e i 6), .int (ag e i 5), .int (ag e i 4), .int (ag e i 3), .int (ag e i 2), .int (ag e i 1), .ref 179, .int (F σ).1] (u1 + mmc 60, u2 + mms 60) (mX (S1, R1, n1, e.2.2.2) I1 G1) Q
  refine Rn.go 1 ⟨Nat.le_of_ble_eq_true rfl, ⟨179, rfl, rfl⟩, fun o X' => conF Rn 169 988 153 (lwL i) [.int (F σ).1] (u1 + mmc 60 + mmc 153, u2 + mms 60 + mms 153) X' Q o, hm (hM.kC hk1) hO (fun I2 G2 hM2 hk2 => ?_), ⟨Nat.le_of_ble_eq_true rfl, Nat.le_of_ble_eq_true rfl, uo3 h1 rfl, uo4 h2 rfl, Nat.le_of_ble_eq_true rfl, Nat.le_of_ble_eq_true rfl⟩, fun _ _ hq => hq⟩
  show Rn 169 991 (lwL i) [.int (F σ).1, .int (F σ).1] (u1 + mmc 60 + mmc 153, u2 + mms 60 + mms 153) (mX (S1, R1, n1, e.2.2.2) I2 G2) Q
  exact Rn.go 1 ⟨fun _ => hQ _ I2 G2 _ _ _ ⟨hC1.kM hk2, hM2, hk σ hO⟩ rfl (uf1 rfl) (uf2 rfl), fun h => absurd rfl h⟩
theorem l_film (hS : lwI σ e I G) (hi : i + 7 ≤ e.2.2.2.2) (hL : e.2.2.2.2 ≤ 448) (h1 : u1 + 1000 ≤ 605614) (h2 : u2 + 100000 ≤ 7254687) (hQ : lwN e i u1 u2 Q) : Rn 169 996 (lwL i) [] (u1, u2) (mX e I G) Q := by
  obtain ⟨hC, hM, hO⟩ := hS
  obtain ⟨F, hc, hm, hk⟩ : ∃ F, oC 64 [some (.ref 0), some (.int (ag e i 1)), some (.int (ag e i 2)), some (.int (ag e i 3)), some (.int (ag e i 4)), some (.int (ag e i 5)), none, none] F ∧ oM 158 [some (.ref 179), some (.int (ag e i 1)), some (.int (ag e i 2)), some (.int (ag e i 3)), some (.int (ag e i 4)), some (.int (ag e i 5)), none, none, none] F ∧ oK F := ⟨_, c_film, m_film, k_film⟩
  refine Rn.go 6 ⟨rfl, vpS (j := 1) hi hL (by decide), ?_⟩
  show Rn 169 1002 (lwL i) [.int (ag e i 1), .ref 0] (u1, u2) (mX e I G) Q
  refine Rn.go 5 ⟨rfl, vpS (j := 2) hi hL (by decide), ?_⟩
  show Rn 169 1007 (lwL i) [.int (ag e i 2), .int (ag e i 1), .ref 0] (u1, u2) (mX e I G) Q
  refine Rn.go 5 ⟨rfl, vpS (j := 3) hi hL (by decide), ?_⟩
  show Rn 169 1012 (lwL i) [.int (ag e i 3), .int (ag e i 2), .int (ag e i 1), .ref 0] (u1, u2) (mX e I G) Q
  refine Rn.go 5 ⟨rfl, vpS (j := 4) hi hL (by decide), ?_⟩
  show Rn 169 1017 (lwL i) [.int (ag e i 4), .int (ag e i 3), .int (ag e i 2), .int (ag e i 1), .ref 0] (u1, u2) (mX e I G) Q
  refine Rn.go 5 ⟨rfl, vpS (j := 5) hi hL (by decide), ?_⟩
  show Rn 169 1022 (lwL i) [.int (ag e i 5), .int (ag e i 4), .int (ag e i 3), .int (ag e i 2), .int (ag e i 1), .ref 0] (u1, u2) (mX e I G) Q
  refine Rn.go 1 ⟨Nat.le_of_ble_eq_true rfl, ⟨0, rfl, rfl⟩, fun o X' => conF Rn 169 1022 64 (lwL i) [] (u1 + mmc 64, u2 + mms 64) X' Q o, hc hC hO (fun e1 I1 G1 hC1 hk1 => ?_), ⟨Nat.le_of_ble_eq_true rfl, Nat.le_of_ble_eq_true rfl, uo1 h1 rfl, uo2 h2 rfl, Nat.le_of_ble_eq_true rfl, Nat.le_of_ble_eq_true rfl⟩, fun _ _ hq => hq⟩
  obtain ⟨S1, R1, n1, sc⟩ := e1
  obtain rfl : sc = e.2.2.2 := hk1.1
  show Rn 169 1025 (lwL i) [.int (F σ).1] (u1 + mmc 64, u2 + mms 64) (mX (S1, R1, n1, e.2.2.2) I1 G1) Q
  refine Rn.go 6 ⟨rfl, vpS (j := 1) hi hL (by decide), ?_⟩
  show Rn 169 1031 (lwL i) [.int (ag e i 1), .ref 179, .int (F σ).1] (u1 + mmc 64, u2 + mms 64) (mX (S1, R1, n1, e.2.2.2) I1 G1) Q
  refine Rn.go 5 ⟨rfl, vpS (j := 2) hi hL (by decide), ?_⟩
  show Rn 169 1036 (lwL i) [.int (ag e i 2), .int (ag e i 1), .ref 179, .int (F σ).1] (u1 + mmc 64, u2 + mms 64) (mX (S1, R1, n1, e.2.2.2) I1 G1) Q
  refine Rn.go 5 ⟨rfl, vpS (j := 3) hi hL (by decide), ?_⟩
  show Rn 169 1041 (lwL i) [.int (ag e i 3), .int (ag e i 2), .int (ag e i 1), .ref 179, .int (F σ).1] (u1 + mmc 64, u2 + mms 64) (mX (S1, R1, n1, e.2.2.2) I1 G1) Q
  refine Rn.go 5 ⟨rfl, vpS (j := 4) hi hL (by decide), ?_⟩
  show Rn 169 1046 (lwL i) [.int (ag e i 4), .int (ag e i 3), .int (ag e i 2), .int (ag e i 1), .ref 179, .int (F σ).1] (u1 + mmc 64, u2 + mms 64) (mX (S1, R1, n1, e.2.2.2) I1 G1) Q
  refine Rn.go 5 ⟨rfl, vpS (j := 5) hi hL (by decide), ?_⟩
  show Rn 169 1051 (lwL i) [.int (ag e i 5), .int (ag e i 4), .int (ag e i 3), .int (ag e i 2), .int (ag e i 1), .ref 179, .int (F σ).1] (u1 + mmc 64, u2 + mms 64) (mX (S1, R1, n1, e.2.2.2) I1 G1) Q
  refine Rn.go 1 ⟨Nat.le_of_ble_eq_true rfl, ⟨179, rfl, rfl⟩, fun o X' => conF Rn 169 1051 158 (lwL i) [.int (F σ).1] (u1 + mmc 64 + mmc 158, u2 + mms 64 + mms 158) X' Q o, hm (hM.kC hk1) hO (fun I2 G2 hM2 hk2 => ?_), ⟨Nat.le_of_ble_eq_true rfl, Nat.le_of_ble_eq_true rfl, uo3 h1 rfl, uo4 h2 rfl, Nat.le_of_ble_eq_true rfl, Nat.le_of_ble_eq_true rfl⟩, fun _ _ hq => hq⟩
  show Rn 169 1054 (lwL i) [.int (F σ).1, .int (F σ).1] (u1 + mmc 64 + mmc 158, u2 + mms 64 + mms 158) (mX (S1, R1, n1, e.2.2.2) I2 G2) Q
  exact Rn.go 1 ⟨fun _ => hQ _ I2 G2 _ _ _ ⟨hC1.kM hk2, hM2, hk σ hO⟩ rfl (uf1 rfl) (uf2 rfl), fun h => absurd rfl h⟩
theorem l_sheet (hS : lwI σ e I G) (hi : i + 7 ≤ e.2.2.2.2) (hL : e.2.2.2.2 ≤ 448) (h1 : u1 + 1000 ≤ 605614) (h2 : u2 + 100000 ≤ 7254687) (hQ : lwN e i u1 u2 Q) : Rn 169 1059 (lwL i) [] (u1, u2) (mX e I G) Q := by
  obtain ⟨hC, hM, hO⟩ := hS
  obtain ⟨F, hc, hm, hk⟩ : ∃ F, oC 65 [some (.ref 0), some (.int (ag e i 1)), some (.int (ag e i 2)), some (.int (ag e i 3)), none] F ∧ oM 159 [some (.ref 179), some (.int (ag e i 1)), some (.int (ag e i 2)), some (.int (ag e i 3)), none] F ∧ oK F := ⟨_, c_sheet, m_sheet, k_sheet⟩
  refine Rn.go 6 ⟨rfl, vpS (j := 1) hi hL (by decide), ?_⟩
  show Rn 169 1065 (lwL i) [.int (ag e i 1), .ref 0] (u1, u2) (mX e I G) Q
  refine Rn.go 5 ⟨rfl, vpS (j := 2) hi hL (by decide), ?_⟩
  show Rn 169 1070 (lwL i) [.int (ag e i 2), .int (ag e i 1), .ref 0] (u1, u2) (mX e I G) Q
  refine Rn.go 5 ⟨rfl, vpS (j := 3) hi hL (by decide), ?_⟩
  show Rn 169 1075 (lwL i) [.int (ag e i 3), .int (ag e i 2), .int (ag e i 1), .ref 0] (u1, u2) (mX e I G) Q
  refine Rn.go 1 ⟨Nat.le_of_ble_eq_true rfl, ⟨0, rfl, rfl⟩, fun o X' => conF Rn 169 1075 65 (lwL i) [] (u1 + mmc 65, u2 + mms 65) X' Q o, hc hC hO (fun e1 I1 G1 hC1 hk1 => ?_), ⟨Nat.le_of_ble_eq_true rfl, Nat.le_of_ble_eq_true rfl, uo1 h1 rfl, uo2 h2 rfl, Nat.le_of_ble_eq_true rfl, Nat.le_of_ble_eq_true rfl⟩, fun _ _ hq => hq⟩
  obtain ⟨S1, R1, n1, sc⟩ := e1
  obtain rfl : sc = e.2.2.2 := hk1.1
  show Rn 169 1078 (lwL i) [.int (F σ).1] (u1 + mmc 65, u2 + mms 65) (mX (S1, R1, n1, e.2.2.2) I1 G1) Q
  refine Rn.go 6 ⟨rfl, vpS (j := 1) hi hL (by decide), ?_⟩
  show Rn 169 1084 (lwL i) [.int (ag e i 1), .ref 179, .int (F σ).1] (u1 + mmc 65, u2 + mms 65) (mX (S1, R1, n1, e.2.2.2) I1 G1) Q
  refine Rn.go 5 ⟨rfl, vpS (j := 2) hi hL (by decide), ?_⟩
  show Rn 169 1089 (lwL i) [.int (ag e i 2), .int (ag e i 1), .ref 179, .int (F σ).1] (u1 + mmc 65, u2 + mms 65) (mX (S1, R1, n1, e.2.2.2) I1 G1) Q
  refine Rn.go 5 ⟨rfl, vpS (j := 3) hi hL (by decide), ?_⟩
  show Rn 169 1094 (lwL i) [.int (ag e i 3), .int (ag e i 2), .int (ag e i 1), .ref 179, .int (F σ).1] (u1 + mmc 65, u2 + mms 65) (mX (S1, R1, n1, e.2.2.2) I1 G1) Q
  refine Rn.go 1 ⟨Nat.le_of_ble_eq_true rfl, ⟨179, rfl, rfl⟩, fun o X' => conF Rn 169 1094 159 (lwL i) [.int (F σ).1] (u1 + mmc 65 + mmc 159, u2 + mms 65 + mms 159) X' Q o, hm (hM.kC hk1) hO (fun I2 G2 hM2 hk2 => ?_), ⟨Nat.le_of_ble_eq_true rfl, Nat.le_of_ble_eq_true rfl, uo3 h1 rfl, uo4 h2 rfl, Nat.le_of_ble_eq_true rfl, Nat.le_of_ble_eq_true rfl⟩, fun _ _ hq => hq⟩
  show Rn 169 1097 (lwL i) [.int (F σ).1, .int (F σ).1] (u1 + mmc 65 + mmc 159, u2 + mms 65 + mms 159) (mX (S1, R1, n1, e.2.2.2) I2 G2) Q
  exact Rn.go 1 ⟨fun _ => hQ _ I2 G2 _ _ _ ⟨hC1.kM hk2, hM2, hk σ hO⟩ rfl (uf1 rfl) (uf2 rfl), fun h => absurd rfl h⟩
end La5
