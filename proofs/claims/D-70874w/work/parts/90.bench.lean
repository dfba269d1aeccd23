/-! whether judges are as told: the spec, the component -/
def soS (g : Nat → Int64) : Nat → Nat → (Nat → Int32) → Bool
  | 0, _, _ => true
  | j + 1, k, t => decide (g k = (jNow t).toInt64) && soS g j (k + 1) (goes t (plc t))
theorem soS_t {g : Nat → Int64} {j k : Nat} {t : Nat → Int32} (h : g k = (jNow t).toInt64) : soS g (j + 1) k t = soS g j (k + 1) (goes t (plc t)) := by
  show (decide (g k = (jNow t).toInt64) && _) = _
  rw [decide_eq_true h, Bool.true_and]
theorem soS_f {g : Nat → Int64} {j k : Nat} {t : Nat → Int32} (h : ¬ g k = (jNow t).toInt64) : soS g (j + 1) k t = false := by
  show (decide (g k = (jNow t).toInt64) && _) = _
  rw [decide_eq_false h, Bool.false_and]
theorem bI1_01 (b : Bool) : bI1 b = 0 ∨ bI1 b = 1 := by cases b <;> simp [bI1]
section B90
variable {e : En} {G : Nat → Nat → Int64} {Q : Po} {T : Nat → Int32} {N n m s l z i : Nat} {f : Nat → Int64}
theorem c_soEnd {I : Nat → Nat → Int32} {σ : Sg} {k : Int32} {b : Bool} (hC : CR σ e I G) (hT : twn I 26 = T) (hQ : ∀ I', CR (T, σ.2) e I' G → fr 7 14 I I' → Q (.returned (some (.int (bI1 b)))) (mX e I' G)) :
    Rn 63 55 [some (.ref 0), some (.ref (47 + s)), some (.int (nI i)), some (.int (nI N)), some (.int (bI1 b)), some (.int k)] [] (0, 0) (mX e I G) Q := by
  refine Rn.go 5 ⟨rfl, rfl, Nat.le_of_ble_eq_true rfl, ⟨7, rfl, rfl⟩, fun o X' => conF Rn 63 63 84 [some (.ref 0), some (.ref (47 + s)), some (.int (nI i)), some (.int (nI N)), some (.int (bI1 b)), some (.int k)] [] (0, 0) X' Q o, c_takeFrom stp_26 stp_7 (Or.inl (by decide)) fun I3 t3 f3 => ?_, ⟨Nat.le_of_ble_eq_true rfl, Nat.le_of_ble_eq_true rfl, Nat.le_of_ble_eq_true rfl, Nat.le_of_ble_eq_true rfl, Nat.le_of_ble_eq_true rfl, Nat.le_of_ble_eq_true rfl⟩, fun _ _ hq => hq⟩
  show Rn 63 66 [some (.ref 0), some (.ref (47 + s)), some (.int (nI i)), some (.int (nI N)), some (.int (bI1 b)), some (.int k)] [] (0, 0) (mX e I3 G) Q
  exact Rn.go 2 ⟨bI1 b, rfl, (fun _ => bI1_01 b), hQ I3 (hC.town (t3.trans hT) f3) f3⟩
theorem c_soLoop (hN : N ≤ 8) (hs : s < 4) (hl : l < 4) (hz : z ≤ 24) (hiz : i + N ≤ z) : ∀ j k {I : Nat → Nat → Int32} {σ : Sg} {d : Nat}, k + j = N → CR σ e I G → Ok σ.1 n m d → d + j ≤ 9999 + 60 → twn I 26 = T → σ.2.2.2.2 s = some (l, z, f) → (∀ I', CR (T, σ.2) e I' G → fr 7 14 I I' → Q (.returned (some (.int (bI1 (soS f j (i + k) σ.1))))) (mX e I' G)) →
    Rn 63 6 [some (.ref 0), some (.ref (47 + s)), some (.int (nI i)), some (.int (nI N)), some (.int 1), some (.int (nI k))] [] (0, 0) (mX e I G) Q := by
  intro j
  induction j with
  | zero =>
    intro k I σ d hk hC ok hd hT hf hQ
    have : k = N := by omega
    subst this
    refine Rn.go 3 ⟨fun h => absurd h (nI_nlt (Nat.le_refl _) (by omega)), fun _ => ?_⟩
    exact c_soEnd (b := true) hC hT hQ
  | succ j ih =>
    intro k I σ d hk hC ok hd hT hf hQ
    have yes : nI k < nI N := nI_lt (by omega) (by omega)
    obtain ⟨g1, g2, g3, g4, g5⟩ := shr_fact (e := e) hs
    obtain ⟨r, r1, r2, r3, r4, r5⟩ := (hC.2.2.2.2.2.1 s hs).2 l z f hf
    have h7 : twn I 7 = σ.1 := hC.2.1
    have hi : vp_in (nI i + nI k) z := by rw [nI_add]; exact vp_in_nI (by omega) (by omega)
    have hic : (nI i + nI k).toNatClampNeg = i + k := by rw [nI_add]; exact nI_clamp (by omega)
    refine Rn.go 3 ⟨fun _ => ?_, fun h => absurd yes h⟩
    refine Rn.go 2 ⟨fun h => absurd h (by decide), fun _ => ?_⟩
    refine Rn.go 5 ⟨Nat.le_of_ble_eq_true rfl, ⟨47 + s, rfl, g2⟩, fun o X' => o = .returned (some (.long (f (i + k)))) ∧ X' = mX e I G, s_get (X := mX e I G) (r := r) (z := z) hl g2 (g3.trans r3) ((row_fact r1).trans r4) hi ⟨?_, rfl⟩, ⟨Nat.le_of_ble_eq_true rfl, Nat.le_of_ble_eq_true rfl, Nat.le_of_ble_eq_true rfl, Nat.le_of_ble_eq_true rfl, Nat.le_of_ble_eq_true rfl, Nat.le_of_ble_eq_true rfl⟩, fun o X' hq => ?_⟩
    · show Outcome.returned (some (.long (rowV l I G r (nI i + nI k).toNatClampNeg))) = _
      rw [hic, (r5 (i + k) (by omega)).1]
    obtain ⟨rfl, rfl⟩ := hq
    show Rn 63 25 [some (.ref 0), some (.ref (47 + s)), some (.int (nI i)), some (.int (nI N)), some (.int 1), some (.int (nI k))] [.long (f (i + k))] (0, 0) (mX e I G) Q
    refine Rn.go 2 ⟨Nat.le_of_ble_eq_true rfl, ⟨0, rfl, rfl⟩, fun o X' => o = .returned (some (.int (jNow σ.1))) ∧ X' = mX e I G, c_judgeNow (n := n) (m := m) (d := d) (by rw [h7]; exact ok) ⟨by rw [h7], rfl⟩, ⟨Nat.le_of_ble_eq_true rfl, Nat.le_of_ble_eq_true rfl, Nat.le_of_ble_eq_true rfl, Nat.le_of_ble_eq_true rfl, Nat.le_of_ble_eq_true rfl, Nat.le_of_ble_eq_true rfl⟩, fun o X' hq => ?_⟩
    obtain ⟨rfl, rfl⟩ := hq
    show Rn 63 29 [some (.ref 0), some (.ref (47 + s)), some (.int (nI i)), some (.int (nI N)), some (.int 1), some (.int (nI k))] [.int (jNow σ.1), .long (f (i + k))] (0, 0) (mX e I G) Q
    have day : ∀ b : Int32, (∀ I2, CR (goes σ.1 (plc σ.1), σ.2) e I2 G → fr 7 14 I I2 → Rn 63 6 [some (.ref 0), some (.ref (47 + s)), some (.int (nI i)), some (.int (nI N)), some (.int b), some (.int (nI (k + 1)))] [] (0, 0) (mX e I2 G) Q) → Rn 63 41 [some (.ref 0), some (.ref (47 + s)), some (.int (nI i)), some (.int (nI N)), some (.int b), some (.int (nI k))] [] (0, 0) (mX e I G) Q := by
      intro b hb
      refine Rn.go 3 ⟨Nat.le_of_ble_eq_true rfl, ⟨0, rfl, rfl⟩, fun o X' => o = .returned (some (.int (cnwE I))) ∧ X' = (mX e I G), f_caseNow ⟨rfl, rfl⟩, ⟨Nat.le_of_ble_eq_true rfl, Nat.le_of_ble_eq_true rfl, Nat.le_of_ble_eq_true rfl, Nat.le_of_ble_eq_true rfl, Nat.le_of_ble_eq_true rfl, Nat.le_of_ble_eq_true rfl⟩, fun o X' hq => ?_⟩
      obtain ⟨rfl, rfl⟩ := hq
      show Rn 63 46 [some (.ref 0), some (.ref (47 + s)), some (.int (nI i)), some (.int (nI N)), some (.int b), some (.int (nI k))] [.int (cnwE I), .ref 0] (0, 0) (mX e I G) Q
      rw [cnw_plc]
      refine Rn.go 1 ⟨Nat.le_of_ble_eq_true rfl, ⟨0, rfl, rfl⟩, fun o X' => conF Rn 63 46 33 [some (.ref 0), some (.ref (47 + s)), some (.int (nI i)), some (.int (nI N)), some (.int b), some (.int (nI k))] [] (0, 0) X' Q o, c_oneDay (n := n) (m := m) (d := d) (by rw [h7]; exact ok) (ok_plc (by rw [h7]; exact ok)) fun I2 t2 f2 => ?_, ⟨Nat.le_of_ble_eq_true rfl, Nat.le_of_ble_eq_true rfl, Nat.le_of_ble_eq_true rfl, Nat.le_of_ble_eq_true rfl, Nat.le_of_ble_eq_true rfl, Nat.le_of_ble_eq_true rfl⟩, fun _ _ hq => hq⟩
      show Rn 63 49 [some (.ref 0), some (.ref (47 + s)), some (.int (nI i)), some (.int (nI N)), some (.int b), some (.int (nI k))] [] (0, 0) (mX e I2 G) Q
      rw [h7] at t2
      have := hb I2 (hC.town t2 f2) f2
      rw [← nI_1] at this
      exact Rn.go 2 this
    refine Rn.go 3 ⟨fun h0 => ?_, fun h0 => ?_⟩
    · have hv := soS_t (j := j) ((lg_cmp_eq _ _).mp h0)
      rw [hv] at hQ
      refine Rn.go 3 (day 1 fun I2 c2 f2 => ih (k + 1) (by omega) c2 (ok_goes ok (by omega)) (by omega) ((f2.twn (by omega)).trans hT) hf fun I' c' f' => hQ I' c' (f2.tr f'))
    · have hv := soS_f (j := j) (fun q => h0 ((lg_cmp_eq _ _).mpr q))
      rw [hv] at hQ
      refine Rn.go 2 (day 0 fun I2 c2 f2 => ?_)
      have en := c_soEnd (Q := Q) (s := s) (N := N) (i := i) (k := nI (k + 1)) (b := false) c2 ((f2.twn (by omega)).trans hT) fun I' c' f' => hQ I' c' (f2.tr f')
      exact Rn.go 3 ⟨fun _ => Rn.go 2 ⟨fun _ => en, fun h => absurd rfl h⟩, fun _ => en⟩
theorem c_isSo {I : Nat → Nat → Int32} {σ : Sg} {d : Nat} (hN : N ≤ 8) (hs : s < 4) (hl : l < 4) (hz : z ≤ 24) (hiz : i + N ≤ z) (hC : CR σ e I G) (ok : Ok σ.1 n m d) (hd : d ≤ 9999) (hT : twn I 26 = T) (hf : σ.2.2.2.2 s = some (l, z, f)) (hQ : ∀ I', CR (T, σ.2) e I' G → fr 7 14 I I' → Q (.returned (some (.int (bI1 (soS f N i σ.1))))) (mX e I' G)) :
    Rn 63 0 [some (.ref 0), some (.ref (47 + s)), some (.int (nI i)), some (.int (nI N)), none, none] [] (0, 0) (mX e I G) Q :=
  Rn.go 4 (c_soLoop hN hs hl hz hiz N 0 (by omega) hC ok (by omega) hT hf hQ)
end B90
