/-! the law: one call, on both sides -/
/-- the script's int -/
abbrev ag (e : En) (i : Nat) (j : Int32) : Int32 := e.2.2.2.1 (nI i + j).toNatClampNeg
abbrev lwV (e : En) (i : Nat) : Int64 := ((ag e i 4).toInt64 <<< ((32 : Int32).toInt64 &&& 63)) ||| ((ag e i 5).toInt64 &&& 4294967295)
def lwI (σ : Sg) (e : En) (I : Nat → Nat → Int32) (G : Nat → Nat → Int64) : Prop := CR σ e I G ∧ MR σ I G ∧ OkG σ
abbrev lwL (i : Nat) : Lo := [some (.retAddr 0), some (.ref 0), some (.ref 179), some (.int (nI i))]
def lwN (e : En) (i u1 u2 : Nat) (Q : Po) : Prop := ∀ e' I' G' σ' u1' u2', lwI σ' e' I' G' → e'.2.2.2 = e.2.2.2 → u1' ≤ u1 + 1000 → u2' ≤ u2 + 100000 → Rn 169 1271 (lwL i) [] (u1', u2') (mX e' I' G') Q
theorem vpS {i j L : Nat} (hi : i + 7 ≤ L) (hL : L ≤ 448) (hj : j < 7) : vp_in (nI i + nI j) L := by
  rw [nI_add]
  exact vp_in_nI (by omega) (by omega)
theorem qq {y y' : Nat} {L L' : Lo} {v : (Nat → Int32) → Prop} {f : (Nat → Int32) → Int32} (h1 : qC y L v f) (h2 : qM y' L' v f) : ∃ F, oC y L F ∧ oM y' L' F ∧ oK F := ⟨_, oC_q h1, oM_q h2, oK_q⟩
theorem qqw {y y' : Nat} {L L' : Lo} {v : (Nat → Int32) → Prop} {f : (Nat → Int32) → Int32} (h1 : qC y L v f) (h2 : qMw y' L' v f) : ∃ F, oC y L F ∧ oM y' L' F ∧ oK F := ⟨_, oC_q h1, oM_qw h2, oK_q⟩
theorem uo1 {u a : Nat} (h : u + 1000 ≤ 605614) (h1 : Nat.ble (mmc a) 1000 = true) : u + mmc a ≤ mmc 169 := Nat.le_trans (Nat.add_le_add_left (Nat.le_of_ble_eq_true h1) u) (Nat.le_trans h (Nat.le_of_ble_eq_true rfl))
theorem uo2 {u a : Nat} (h : u + 100000 ≤ 7254687) (h1 : Nat.ble (mms a) 100000 = true) : u + mms a ≤ mms 169 := Nat.le_trans (Nat.add_le_add_left (Nat.le_of_ble_eq_true h1) u) (Nat.le_trans h (Nat.le_of_ble_eq_true rfl))
theorem uf1 {u a b : Nat} (h1 : Nat.ble (mmc a + mmc b) 1000 = true) : u + mmc a + mmc b ≤ u + 1000 := by
  have := Nat.le_of_ble_eq_true h1
  omega
theorem uf2 {u a b : Nat} (h1 : Nat.ble (mms a + mms b) 100000 = true) : u + mms a + mms b ≤ u + 100000 := by
  have := Nat.le_of_ble_eq_true h1
  omega
theorem uo3 {u a b : Nat} (h : u + 1000 ≤ 605614) (h1 : Nat.ble (mmc a + mmc b) 1000 = true) : u + mmc a + mmc b ≤ mmc 169 := Nat.le_trans (uf1 h1) (Nat.le_trans h (Nat.le_of_ble_eq_true rfl))
theorem uo4 {u a b : Nat} (h : u + 100000 ≤ 7254687) (h1 : Nat.ble (mms a + mms b) 100000 = true) : u + mms a + mms b ≤ mms 169 := Nat.le_trans (uf2 h1) (Nat.le_trans h (Nat.le_of_ble_eq_true rfl))
section La0
variable {e : En} {I : Nat → Nat → Int32} {G : Nat → Nat → Int64} {Q : Po} {σ : Sg} {i u1 u2 : Nat}
set_option maxRecDepth 100000
theorem l_person (hS : lwI σ e I G) (hi : i + 7 ≤ e.2.2.2.2) (hL : e.2.2.2.2 ≤ 448) (h1 : u1 + 1000 ≤ 605614) (h2 : u2 + 100000 ≤ 7254687) (hQ : lwN e i u1 u2 Q) : Rn 169 180 (lwL i) [] (u1, u2) (mX e I G) Q := by
  obtain ⟨hC, hM, hO⟩ := hS
  obtain ⟨F, hc, hm, hk⟩ : ∃ F, oC 1 [some (.ref 0), some (.int (ag e i 1)), some (.int (ag e i 2))] F ∧ oM 95 [some (.ref 179), some (.int (ag e i 1)), some (.int (ag e i 2))] F ∧ oK F := ⟨_, c_person (ag e i 1) (ag e i 2), m_person (ag e i 1) (ag e i 2), k_person (ag e i 1) (ag e i 2)⟩
  refine Rn.go 6 ⟨rfl, vpS (j := 1) hi hL (by decide), ?_⟩
  show Rn 169 186 (lwL i) [.int (ag e i 1), .ref 0] (u1, u2) (mX e I G) Q
  refine Rn.go 5 ⟨rfl, vpS (j := 2) hi hL (by decide), ?_⟩
  show Rn 169 191 (lwL i) [.int (ag e i 2), .int (ag e i 1), .ref 0] (u1, u2) (mX e I G) Q
  refine Rn.go 1 ⟨Nat.le_of_ble_eq_true rfl, ⟨0, rfl, rfl⟩, fun o X' => conF Rn 169 191 1 (lwL i) [] (u1 + mmc 1, u2 + mms 1) X' Q o, hc hC hO (fun e1 I1 G1 hC1 hk1 => ?_), ⟨Nat.le_of_ble_eq_true rfl, Nat.le_of_ble_eq_true rfl, uo1 h1 rfl, uo2 h2 rfl, Nat.le_of_ble_eq_true rfl, Nat.le_of_ble_eq_true rfl⟩, fun _ _ hq => hq⟩
  obtain ⟨S1, R1, n1, sc⟩ := e1
  obtain rfl : sc = e.2.2.2 := hk1.1
  show Rn 169 194 (lwL i) [.int (F σ).1] (u1 + mmc 1, u2 + mms 1) (mX (S1, R1, n1, e.2.2.2) I1 G1) Q
  refine Rn.go 6 ⟨rfl, vpS (j := 1) hi hL (by decide), ?_⟩
  show Rn 169 200 (lwL i) [.int (ag e i 1), .ref 179, .int (F σ).1] (u1 + mmc 1, u2 + mms 1) (mX (S1, R1, n1, e.2.2.2) I1 G1) Q
  refine Rn.go 5 ⟨rfl, vpS (j := 2) hi hL (by decide), ?_⟩
  show Rn 169 205 (lwL i) [.int (ag e i 2), .int (ag e i 1), .ref 179, .int (F σ).1] (u1 + mmc 1, u2 + mms 1) (mX (S1, R1, n1, e.2.2.2) I1 G1) Q
  refine Rn.go 1 ⟨Nat.le_of_ble_eq_true rfl, ⟨179, rfl, rfl⟩, fun o X' => conF Rn 169 205 95 (lwL i) [.int (F σ).1] (u1 + mmc 1 + mmc 95, u2 + mms 1 + mms 95) X' Q o, hm (hM.kC hk1) hO (fun I2 G2 hM2 hk2 => ?_), ⟨Nat.le_of_ble_eq_true rfl, Nat.le_of_ble_eq_true rfl, uo3 h1 rfl, uo4 h2 rfl, Nat.le_of_ble_eq_true rfl, Nat.le_of_ble_eq_true rfl⟩, fun _ _ hq => hq⟩
  show Rn 169 208 (lwL i) [.int (F σ).1, .int (F σ).1] (u1 + mmc 1 + mmc 95, u2 + mms 1 + mms 95) (mX (S1, R1, n1, e.2.2.2) I2 G2) Q
  exact Rn.go 1 ⟨fun _ => hQ _ I2 G2 _ _ _ ⟨hC1.kM hk2, hM2, hk σ hO⟩ rfl (uf1 rfl) (uf2 rfl), fun h => absurd rfl h⟩
end La0
