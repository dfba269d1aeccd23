section La6
variable {e : En} {I : Nat → Nat → Int32} {G : Nat → Nat → Int64} {Q : Po} {σ : Sg} {i u1 u2 : Nat}
set_option maxRecDepth 100000
theorem l_drop (hS : lwI σ e I G) (hi : i + 7 ≤ e.2.2.2.2) (hL : e.2.2.2.2 ≤ 448) (h1 : u1 + 1000 ≤ 605614) (h2 : u2 + 100000 ≤ 7254687) (hQ : lwN e i u1 u2 Q) : Rn 169 1102 (lwL i) [] (u1, u2) (mX e I G) Q := by
  obtain ⟨hC, hM, hO⟩ := hS
  obtain ⟨F, hc, hm, hk⟩ : ∃ F, oC 66 [some (.ref 0), some (.int (ag e i 1)), none] F ∧ oM 160 [some (.ref 179), some (.int (ag e i 1))] F ∧ oK F := ⟨_, c_drop, m_drop, k_drop⟩
  refine Rn.go 6 ⟨rfl, vpS (j := 1) hi hL (by decide), ?_⟩
  show Rn 169 1108 (lwL i) [.int (ag e i 1), .ref 0] (u1, u2) (mX e I G) Q
  refine Rn.go 1 ⟨Nat.le_of_ble_eq_true rfl, ⟨0, rfl, rfl⟩, fun o X' => conF Rn 169 1108 66 (lwL i) [] (u1 + mmc 66, u2 + mms 66) X' Q o, hc hC hO (fun e1 I1 G1 hC1 hk1 => ?_), ⟨Nat.le_of_ble_eq_true rfl, Nat.le_of_ble_eq_true rfl, uo1 h1 rfl, uo2 h2 rfl, Nat.le_of_ble_eq_true rfl, Nat.le_of_ble_eq_true rfl⟩, fun _ _ hq => hq⟩
  obtain ⟨S1, R1, n1, sc⟩ := e1
  obtain rfl : sc = e.2.2.2 := hk1.1
  show Rn 169 1111 (lwL i) [.int (F σ).1] (u1 + mmc 66, u2 + mms 66) (mX (S1, R1, n1, e.2.2.2) I1 G1) Q
  refine Rn.go 6 ⟨rfl, vpS (j := 1) hi hL (by decide), ?_⟩
  show Rn 169 1117 (lwL i) [.int (ag e i 1), .ref 179, .int (F σ).1] (u1 + mmc 66, u2 + mms 66) (mX (S1, R1, n1, e.2.2.2) I1 G1) Q
  refine Rn.go 1 ⟨Nat.le_of_ble_eq_true rfl, ⟨179, rfl, rfl⟩, fun o X' => conF Rn 169 1117 160 (lwL i) [.int (F σ).1] (u1 + mmc 66 + mmc 160, u2 + mms 66 + mms 160) X' Q o, hm (hM.kC hk1) hO (fun I2 G2 hM2 hk2 => ?_), ⟨Nat.le_of_ble_eq_true rfl, Nat.le_of_ble_eq_true rfl, uo3 h1 rfl, uo4 h2 rfl, Nat.le_of_ble_eq_true rfl, Nat.le_of_ble_eq_true rfl⟩, fun _ _ hq => hq⟩
  show Rn 169 1120 (lwL i) [.int (F σ).1, .int (F σ).1] (u1 + mmc 66 + mmc 160, u2 + mms 66 + mms 160) (mX (S1, R1, n1, e.2.2.2) I2 G2) Q
  exact Rn.go 1 ⟨fun _ => hQ _ I2 G2 _ _ _ ⟨hC1.kM hk2, hM2, hk σ hO⟩ rfl (uf1 rfl) (uf2 rfl), fun h => absurd rfl h⟩
theorem l_item (hS : lwI σ e I G) (hi : i + 7 ≤ e.2.2.2.2) (hL : e.2.2.2.2 ≤ 448) (h1 : u1 + 1000 ≤ 605614) (h2 : u2 + 100000 ≤ 7254687) (hQ : lwN e i u1 u2 Q) : Rn 169 1125 (lwL i) [] (u1, u2) (mX e I G) Q := by
  obtain ⟨hC, hM, hO⟩ := hS
  obtain ⟨F, hc, hm, hk⟩ : ∃ F, oC 67 [some (.ref 0), some (.int (ag e i 1)), some (.int (ag e i 2)), some (.int (ag e i 3)), some (.long (lwV e i)), none, none] F ∧ oM 161 [some (.ref 179), some (.int (ag e i 1)), some (.int (ag e i 2)), some (.int (ag e i 3)), some (.long (lwV e i)), none, none] F ∧ oK F := ⟨_, c_item, m_item, k_item⟩
  refine Rn.go 6 ⟨rfl, vpS (j := 1) hi hL (by decide), ?_⟩
  show Rn 169 1131 (lwL i) [.int (ag e i 1), .ref 0] (u1, u2) (mX e I G) Q
  refine Rn.go 5 ⟨rfl, vpS (j := 2) hi hL (by decide), ?_⟩
  show Rn 169 1136 (lwL i) [.int (ag e i 2), .int (ag e i 1), .ref 0] (u1, u2) (mX e I G) Q
  refine Rn.go 5 ⟨rfl, vpS (j := 3) hi hL (by decide), ?_⟩
  show Rn 169 1141 (lwL i) [.int (ag e i 3), .int (ag e i 2), .int (ag e i 1), .ref 0] (u1, u2) (mX e I G) Q
  refine Rn.go 5 ⟨rfl, vpS (j := 4) hi hL (by decide), ?_⟩
  show Rn 169 1146 (lwL i) [.int (ag e i 4), .int (ag e i 3), .int (ag e i 2), .int (ag e i 1), .ref 0] (u1, u2) (mX e I G) Q
  refine Rn.go 3 ?_
  show Rn 169 1150 (lwL i) [.long ((ag e i 4).toInt64 <<< ((32 : Int32).toInt64 &&& 63)), .int (ag e i 3), .int (ag e i 2), .int (ag e i 1), .ref 0] (u1, u2) (mX e I G) Q
  refine Rn.go 5 ⟨rfl, vpS (j := 5) hi hL (by decide), ?_⟩
  show Rn 169 1155 (lwL i) [.int (ag e i 5), .long ((ag e i 4).toInt64 <<< ((32 : Int32).toInt64 &&& 63)), .int (ag e i 3), .int (ag e i 2), .int (ag e i 1), .ref 0] (u1, u2) (mX e I G) Q
  refine Rn.go 4 ?_
  show Rn 169 1161 (lwL i) [.long (lwV e i), .int (ag e i 3), .int (ag e i 2), .int (ag e i 1), .ref 0] (u1, u2) (mX e I G) Q
  refine Rn.go 1 ⟨Nat.le_of_ble_eq_true rfl, ⟨0, rfl, rfl⟩, fun o X' => conF Rn 169 1161 67 (lwL i) [] (u1 + mmc 67, u2 + mms 67) X' Q o, hc hC hO (fun e1 I1 G1 hC1 hk1 => ?_), ⟨Nat.le_of_ble_eq_true rfl, Nat.le_of_ble_eq_true rfl, uo1 h1 rfl, uo2 h2 rfl, Nat.le_of_ble_eq_true rfl, Nat.le_of_ble_eq_true rfl⟩, fun _ _ hq => hq⟩
  obtain ⟨S1, R1, n1, sc⟩ := e1
  obtain rfl : sc = e.2.2.2 := hk1.1
  show Rn 169 1164 (lwL i) [.int (F σ).1] (u1 + mmc 67, u2 + mms 67) (mX (S1, R1, n1, e.2.2.2) I1 G1) Q
  refine Rn.go 6 ⟨rfl, vpS (j := 1) hi hL (by decide), ?_⟩
  show Rn 169 1170 (lwL i) [.int (ag e i 1), .ref 179, .int (F σ).1] (u1 + mmc 67, u2 + mms 67) (mX (S1, R1, n1, e.2.2.2) I1 G1) Q
  refine Rn.go 5 ⟨rfl, vpS (j := 2) hi hL (by decide), ?_⟩
  show Rn 169 1175 (lwL i) [.int (ag e i 2), .int (ag e i 1), .ref 179, .int (F σ).1] (u1 + mmc 67, u2 + mms 67) (mX (S1, R1, n1, e.2.2.2) I1 G1) Q
  refine Rn.go 5 ⟨rfl, vpS (j := 3) hi hL (by decide), ?_⟩
  show Rn 169 1180 (lwL i) [.int (ag e i 3), .int (ag e i 2), .int (ag e i 1), .ref 179, .int (F σ).1] (u1 + mmc 67, u2 + mms 67) (mX (S1, R1, n1, e.2.2.2) I1 G1) Q
  refine Rn.go 5 ⟨rfl, vpS (j := 4) hi hL (by decide), ?_⟩
  show Rn 169 1185 (lwL i) [.int (ag e i 4), .int (ag e i 3), .int (ag e i 2), .int (ag e i 1), .ref 179, .int (F σ).1] (u1 + mmc 67, u2 + mms 67) (mX (S1, R1, n1, e.2.2.2) I1 G1) Q
  refine Rn.go 3 ?_
  show Rn 169 1189 (lwL i) [.long ((ag e i 4).toInt64 <<< ((32 : Int32).toInt64 &&& 63)), .int (ag e i 3), .int (ag e i 2), .int (ag e i 1), .ref 179, .int (F σ).1] (u1 + mmc 67, u2 + mms 67) (mX (S1, R1, n1, e.2.2.2) I1 G1) Q
  refine Rn.go 5 ⟨rfl, vpS (j := 5) hi hL (by decide), ?_⟩
  show Rn 169 1194 (lwL i) [.int (ag e i 5), .long ((ag e i 4).toInt64 <<< ((32 : Int32).toInt64 &&& 63)), .int (ag e i 3), .int (ag e i 2), .int (ag e i 1), .ref 179, .int (F σ).1] (u1 + mmc 67, u2 + mms 67) (mX (S1, R1, n1, e.2.2.2) I1 G1) Q
  refine Rn.go 4 ?_
  show Rn 169 1200 (lwL i) [.long (lwV e i), .int (ag e i 3), .int (ag e i 2), .int (ag e i 1), .ref 179, .int (F σ).1] (u1 + mmc 67, u2 + mms 67) (mX (S1, R1, n1, e.2.2.2) I1 G1) Q
  refine Rn.go 1 ⟨Nat.le_of_ble_eq_true rfl, ⟨179, rfl, rfl⟩, fun o X' => conF Rn 169 1200 161 (lwL i) [.int (F σ).1] (u1 + mmc 67 + mmc 161, u2 + mms 67 + mms 161) X' Q o, hm (hM.kC hk1) hO (fun I2 G2 hM2 hk2 => ?_), ⟨Nat.le_of_ble_eq_true rfl, Nat.le_of_ble_eq_true rfl, uo3 h1 rfl, uo4 h2 rfl, Nat.le_of_ble_eq_true rfl, Nat.le_of_ble_eq_true rfl⟩, fun _ _ hq => hq⟩
  show Rn 169 1203 (lwL i) [.int (F σ).1, .int (F σ).1] (u1 + mmc 67 + mmc 161, u2 + mms 67 + mms 161) (mX (S1, R1, n1, e.2.2.2) I2 G2) Q
  exact Rn.go 1 ⟨fun _ => hQ _ I2 G2 _ _ _ ⟨hC1.kM hk2, hM2, hk σ hO⟩ rfl (uf1 rfl) (uf2 rfl), fun h => absurd rfl h⟩
theorem l_copy (hS : lwI σ e I G) (hi : i + 7 ≤ e.2.2.2.2) (hL : e.2.2.2.2 ≤ 448) (h1 : u1 + 1000 ≤ 605614) (h2 : u2 + 100000 ≤ 7254687) (hQ : lwN e i u1 u2 Q) : Rn 169 1208 (lwL i) [] (u1, u2) (mX e I G) Q := by
  obtain ⟨hC, hM, hO⟩ := hS
  obtain ⟨F, hc, hm, hk⟩ : ∃ F, oC 68 [some (.ref 0), some (.int (ag e i 1)), some (.int (ag e i 2)), some (.int (ag e i 3)), some (.int (ag e i 4)), some (.int (ag e i 5)), none] F ∧ oM 163 [some (.ref 179), some (.int (ag e i 1)), some (.int (ag e i 2)), some (.int (ag e i 3)), some (.int (ag e i 4)), some (.int (ag e i 5)), none, none] F ∧ oK F := ⟨_, c_copy, m_copy, k_copy⟩
  refine Rn.go 6 ⟨rfl, vpS (j := 1) hi hL (by decide), ?_⟩
  show Rn 169 1214 (lwL i) [.int (ag e i 1), .ref 0] (u1, u2) (mX e I G) Q
  refine Rn.go 5 ⟨rfl, vpS (j := 2) hi hL (by decide), ?_⟩
  show Rn 169 1219 (lwL i) [.int (ag e i 2), .int (ag e i 1), .ref 0] (u1, u2) (mX e I G) Q
  refine Rn.go 5 ⟨rfl, vpS (j := 3) hi hL (by decide), ?_⟩
  show Rn 169 1224 (lwL i) [.int (ag e i 3), .int (ag e i 2), .int (ag e i 1), .ref 0] (u1, u2) (mX e I G) Q
  refine Rn.go 5 ⟨rfl, vpS (j := 4) hi hL (by decide), ?_⟩
  show Rn 169 1229 (lwL i) [.int (ag e i 4), .int (ag e i 3), .int (ag e i 2), .int (ag e i 1), .ref 0] (u1, u2) (mX e I G) Q
  refine Rn.go 5 ⟨rfl, vpS (j := 5) hi hL (by decide), ?_⟩
  show Rn 169 1234 (lwL i) [.int (ag e i 5), .int (ag e i 4), .int (ag e i 3), .int (ag e i 2), .int (ag e i 1), .ref 0] (u1, u2) (mX e I G) Q
  refine Rn.go 1 ⟨Nat.le_of_ble_eq_true rfl, ⟨0, rfl, rfl⟩, fun o X' => conF Rn 169 1234 68 (lwL i) [] (u1 + mmc 68, u2 + mms 68) X' Q o, hc hC hO (fun e1 I1 G1 hC1 hk1 => ?_), ⟨Nat.le_of_ble_eq_true rfl, Nat.le_of_ble_eq_true rfl, uo1 h1 rfl, uo2 h2 rfl, Nat.le_of_ble_eq_true rfl, Nat.le_of_ble_eq_true rfl⟩, fun _ _ hq => hq⟩
  obtain ⟨S1, R1, n1, sc⟩ := e1
  obtain rfl : sc = e.2.2.2 := hk1.1
  show Rn 169 1237 (lwL i) [.int (F σ).1] (u1 + mmc 68, u2 + mms 68) (mX (S1, R1, n1, e.2.2.2) I1 G1) Q
  refine Rn.go 6 ⟨rfl, vpS (j := 1) hi hL (by decide), ?_⟩
  show Rn 169 1243 (lwL i) [.int (ag e i 1), .ref 179, .int (F σ).1] (u1 + mmc 68, u2 + mms 68) (mX (S1, R1, n1, e.2.2.2) I1 G1) Q
  refine Rn.go 5 ⟨rfl, vpS (j := 2) hi hL (by decide), ?_⟩
  show Rn 169 1248 (lwL i) [.int (ag e i 2), .int (ag e i 1), .ref 179, .int (F σ).1] (u1 + mmc 68, u2 + mms 68) (mX (S1, R1, n1, e.2.2.2) I1 G1) Q
  refine Rn.go 5 ⟨rfl, vpS (j := 3) hi hL (by decide), ?_⟩
  show Rn 169 1253 (lwL i) [.int (ag e i 3), .int (ag e i 2), .int (ag e i 1), .ref 179, .int (F σ).1] (u1 + mmc 68, u2 + mms 68) (mX (S1, R1, n1, e.2.2.2) I1 G1) Q
  refine Rn.go 5 ⟨rfl, vpS (j := 4) hi hL (by decide), ?_⟩
  show Rn 169 1258 (lwL i) [.int (ag e i 4), .int (ag e i 3), .int (ag e i 2), .int (ag e i 1), .ref 179, .int (F σ).1] (u1 + mmc 68, u2 + mms 68) (mX (S1, R1, n1, e.2.2.2) I1 G1) Q
  refine Rn.go 5 ⟨rfl, vpS (j := 5) hi hL (by decide), ?_⟩
  show Rn 169 1263 (lwL i) [.int (ag e i 5), .int (ag e i 4), .int (ag e i 3), .int (ag e i 2), .int (ag e i 1), .ref 179, .int (F σ).1] (u1 + mmc 68, u2 + mms 68) (mX (S1, R1, n1, e.2.2.2) I1 G1) Q
  refine Rn.go 1 ⟨Nat.le_of_ble_eq_true rfl, ⟨179, rfl, rfl⟩, fun o X' => conF Rn 169 1263 163 (lwL i) [.int (F σ).1] (u1 + mmc 68 + mmc 163, u2 + mms 68 + mms 163) X' Q o, hm (hM.kC hk1) hO (fun I2 G2 hM2 hk2 => ?_), ⟨Nat.le_of_ble_eq_true rfl, Nat.le_of_ble_eq_true rfl, uo3 h1 rfl, uo4 h2 rfl, Nat.le_of_ble_eq_true rfl, Nat.le_of_ble_eq_true rfl⟩, fun _ _ hq => hq⟩
  show Rn 169 1266 (lwL i) [.int (F σ).1, .int (F σ).1] (u1 + mmc 68 + mmc 163, u2 + mms 68 + mms 163) (mX (S1, R1, n1, e.2.2.2) I2 G2) Q
  exact Rn.go 1 ⟨fun _ => hQ _ I2 G2 _ _ _ ⟨hC1.kM hk2, hM2, hk σ hO⟩ rfl (uf1 rfl) (uf2 rfl), fun h => absurd rfl h⟩
end La6
