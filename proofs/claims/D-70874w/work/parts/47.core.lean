/-! the component's days -/
section S47
variable {e : En} {I : Nat → Nat → Int32} {G : Nat → Nat → Int64} {Q : Po}
def plC (a : Int32) : Int32 := if 0 < a - 9 then a - 9 else 0
theorem plC_n : ∀ k, k ≤ 20 → plC (nI k) = plain (nI k) := by decide +kernel
theorem y_70 {q : Nat} {a b : Int32} (hQ : Q (.returned (some (.int (plC a)))) (mX e I G)) : Rn 70 0 [some (.ref q), some (.int a), some (.int b)] [] (0, 0) (mX e I G) Q :=
  Rn.go 5 ⟨Nat.le_of_ble_eq_true rfl, trivial, fun o X' => o = .returned (some (.int (plC a))) ∧ X' = mX e I G, f_max ⟨rfl, rfl⟩, ⟨Nat.le_of_ble_eq_true rfl, Nat.le_of_ble_eq_true rfl, Nat.le_of_ble_eq_true rfl, Nat.le_of_ble_eq_true rfl, Nat.le_of_ble_eq_true rfl, Nat.le_of_ble_eq_true rfl⟩, fun o X' hq => by obtain ⟨rfl, rfl⟩ := hq; exact (show Rn 70 8 [some (.ref q), some (.int a), some (.int b)] [.int (plC a)] (0, 0) (mX e I G) Q from Rn.go 1 ⟨_, rfl, (fun h => by cases h), hQ⟩)⟩
theorem y_72 {q ci : Nat} {a b : Int32} (hq : (mkE e).1 q = some (.inl ci)) (hci : ci < 15) (hQ : Q (.returned (some (.int (if 0 < plC a then plC a + 3 else 0)))) (mX e I G)) : Rn 72 0 [some (.ref q), some (.int a), some (.int b), none] [] (0, 0) (mX e I G) Q :=
  Rn.go 4 ⟨Nat.le_of_ble_eq_true rfl, ⟨q, ci, rfl, hq, hci⟩, fun o X' => o = .returned (some (.int (plC a))) ∧ X' = mX e I G, y_70 ⟨rfl, rfl⟩, ⟨Nat.le_of_ble_eq_true rfl, Nat.le_of_ble_eq_true rfl, Nat.le_of_ble_eq_true rfl, Nat.le_of_ble_eq_true rfl, Nat.le_of_ble_eq_true rfl, Nat.le_of_ble_eq_true rfl⟩, fun o X' hq => by
    obtain ⟨rfl, rfl⟩ := hq
    exact (show Rn 72 6 [some (.ref q), some (.int a), some (.int b), none] [.int (plC a)] (0, 0) (mX e I G) Q from Rn.go 3 ⟨fun h => (show Rn 72 11 [some (.ref q), some (.int a), some (.int b), some (.int (plC a))] [] (0, 0) (mX e I G) Q from Rn.go 5 ⟨_, rfl, (fun h => by cases h), by rw [if_pos h] at hQ; exact hQ⟩), fun h => (show Rn 72 17 [some (.ref q), some (.int a), some (.int b), some (.int (plC a))] [] (0, 0) (mX e I G) Q from Rn.go 2 ⟨_, rfl, (fun h => by cases h), by rw [if_neg h] at hQ; exact hQ⟩)⟩)⟩
theorem y_74 {q ci : Nat} {a b : Int32} (hq : (mkE e).1 q = some (.inl ci)) (hci : ci < 15) (hQ : Q (.returned (some (.int (plC a / 2)))) (mX e I G)) : Rn 74 0 [some (.ref q), some (.int a), some (.int b)] [] (0, 0) (mX e I G) Q :=
  Rn.go 4 ⟨Nat.le_of_ble_eq_true rfl, ⟨q, ci, rfl, hq, hci⟩, fun o X' => o = .returned (some (.int (plC a))) ∧ X' = mX e I G, y_70 ⟨rfl, rfl⟩, ⟨Nat.le_of_ble_eq_true rfl, Nat.le_of_ble_eq_true rfl, Nat.le_of_ble_eq_true rfl, Nat.le_of_ble_eq_true rfl, Nat.le_of_ble_eq_true rfl, Nat.le_of_ble_eq_true rfl⟩, fun o X' hq => by
    obtain ⟨rfl, rfl⟩ := hq
    exact (show Rn 74 6 [some (.ref q), some (.int a), some (.int b)] [.int (plC a)] (0, 0) (mX e I G) Q from Rn.go 3 ⟨by decide, _, rfl, (fun h => by cases h), hQ⟩)⟩
theorem y_76 {q : Nat} {a b : Int32} (hQ : Q (.returned (some (.int 9))) (mX e I G)) : Rn 76 0 [some (.ref q), some (.int a), some (.int b)] [] (0, 0) (mX e I G) Q :=
  Rn.go 2 ⟨_, rfl, (fun h => by cases h), hQ⟩
theorem y_78 {q ci : Nat} {a b : Int32} (hq : (mkE e).1 q = some (.inl ci)) (hci : ci < 15) (hQ : Q (.returned (some (.int (plC a / 2 + b / 10)))) (mX e I G)) : Rn 78 0 [some (.ref q), some (.int a), some (.int b)] [] (0, 0) (mX e I G) Q :=
  Rn.go 4 ⟨Nat.le_of_ble_eq_true rfl, ⟨q, ci, rfl, hq, hci⟩, fun o X' => o = .returned (some (.int (plC a / 2))) ∧ X' = mX e I G, y_74 hq hci ⟨rfl, rfl⟩, ⟨Nat.le_of_ble_eq_true rfl, Nat.le_of_ble_eq_true rfl, Nat.le_of_ble_eq_true rfl, Nat.le_of_ble_eq_true rfl, Nat.le_of_ble_eq_true rfl, Nat.le_of_ble_eq_true rfl⟩, fun o X' hq => by
    obtain ⟨rfl, rfl⟩ := hq
    exact (show Rn 78 6 [some (.ref q), some (.int a), some (.int b)] [.int (plC a / 2)] (0, 0) (mX e I G) Q from Rn.go 5 ⟨by decide, _, rfl, (fun h => by cases h), hQ⟩)⟩
/-- the dispatch: who stands at which place -/
theorem y_disp {k : Nat} {v p : Int32} {c x : Int32} (hk : k < 5) (hQ : Q (.returned (some (.int (if k = 0 then plC v else if k = 1 then (if 0 < plC v then plC v + 3 else 0) else if k = 2 then plC v / 2 else if k = 3 then 9 else plC v / 2 + x / 10)))) (mX e I G)) : Rn 35 39 [some (.ref 0), some (.int p), some (.int c)] [.int x, .int v, .ref (2 + k)] (0, 0) (mX e I G) Q := by
  match k, hk with
  | 0, _ => exact Rn.go 1 ⟨Nat.le_of_ble_eq_true rfl, 2, 1, rfl, rfl, by decide, by decide, fun o X' => o = .returned (some (.int (plC v))) ∧ X' = mX e I G, y_70 ⟨rfl, rfl⟩, ⟨Nat.le_of_ble_eq_true rfl, Nat.le_of_ble_eq_true rfl, Nat.le_of_ble_eq_true rfl, Nat.le_of_ble_eq_true rfl, Nat.le_of_ble_eq_true rfl, Nat.le_of_ble_eq_true rfl⟩, fun o X' hq => by obtain ⟨rfl, rfl⟩ := hq; exact (show Rn 35 42 [some (.ref 0), some (.int p), some (.int c)] [.int (plC v)] (0, 0) (mX e I G) Q from Rn.go 1 ⟨_, rfl, (fun h => by cases h), hQ⟩)⟩
  | 1, _ => exact Rn.go 1 ⟨Nat.le_of_ble_eq_true rfl, 3, 2, rfl, rfl, by decide, by decide, fun o X' => o = .returned (some (.int (if 0 < plC v then plC v + 3 else 0))) ∧ X' = mX e I G, y_72 (ci := 2) rfl (by decide) ⟨rfl, rfl⟩, ⟨Nat.le_of_ble_eq_true rfl, Nat.le_of_ble_eq_true rfl, Nat.le_of_ble_eq_true rfl, Nat.le_of_ble_eq_true rfl, Nat.le_of_ble_eq_true rfl, Nat.le_of_ble_eq_true rfl⟩, fun o X' hq => by obtain ⟨rfl, rfl⟩ := hq; exact (show Rn 35 42 [some (.ref 0), some (.int p), some (.int c)] [.int (if 0 < plC v then plC v + 3 else 0)] (0, 0) (mX e I G) Q from Rn.go 1 ⟨_, rfl, (fun h => by cases h), hQ⟩)⟩
  | 2, _ => exact Rn.go 1 ⟨Nat.le_of_ble_eq_true rfl, 4, 3, rfl, rfl, by decide, by decide, fun o X' => o = .returned (some (.int (plC v / 2))) ∧ X' = mX e I G, y_74 (ci := 3) rfl (by decide) ⟨rfl, rfl⟩, ⟨Nat.le_of_ble_eq_true rfl, Nat.le_of_ble_eq_true rfl, Nat.le_of_ble_eq_true rfl, Nat.le_of_ble_eq_true rfl, Nat.le_of_ble_eq_true rfl, Nat.le_of_ble_eq_true rfl⟩, fun o X' hq => by obtain ⟨rfl, rfl⟩ := hq; exact (show Rn 35 42 [some (.ref 0), some (.int p), some (.int c)] [.int (plC v / 2)] (0, 0) (mX e I G) Q from Rn.go 1 ⟨_, rfl, (fun h => by cases h), hQ⟩)⟩
  | 3, _ => exact Rn.go 1 ⟨Nat.le_of_ble_eq_true rfl, 5, 4, rfl, rfl, by decide, by decide, fun o X' => o = .returned (some (.int (9))) ∧ X' = mX e I G, y_76 ⟨rfl, rfl⟩, ⟨Nat.le_of_ble_eq_true rfl, Nat.le_of_ble_eq_true rfl, Nat.le_of_ble_eq_true rfl, Nat.le_of_ble_eq_true rfl, Nat.le_of_ble_eq_true rfl, Nat.le_of_ble_eq_true rfl⟩, fun o X' hq => by obtain ⟨rfl, rfl⟩ := hq; exact (show Rn 35 42 [some (.ref 0), some (.int p), some (.int c)] [.int (9)] (0, 0) (mX e I G) Q from Rn.go 1 ⟨_, rfl, (fun h => by cases h), hQ⟩)⟩
  | 4, _ => exact Rn.go 1 ⟨Nat.le_of_ble_eq_true rfl, 6, 5, rfl, rfl, by decide, by decide, fun o X' => o = .returned (some (.int (plC v / 2 + x / 10))) ∧ X' = mX e I G, y_78 (ci := 5) rfl (by decide) ⟨rfl, rfl⟩, ⟨Nat.le_of_ble_eq_true rfl, Nat.le_of_ble_eq_true rfl, Nat.le_of_ble_eq_true rfl, Nat.le_of_ble_eq_true rfl, Nat.le_of_ble_eq_true rfl, Nat.le_of_ble_eq_true rfl⟩, fun o X' hq => by obtain ⟨rfl, rfl⟩ := hq; exact (show Rn 35 42 [some (.ref 0), some (.int p), some (.int c)] [.int (plC v / 2 + x / 10)] (0, 0) (mX e I G) Q from Rn.go 1 ⟨_, rfl, (fun h => by cases h), hQ⟩)⟩
  | n + 5, h => exact absurd h (by omega)
theorem kinds_at {k : Nat} (hk : k < 5) : (mkE e).2.1 1 k = .ref (2 + k) := by
  match k, hk with
  | 0, _ => rfl
  | 1, _ => rfl
  | 2, _ => rfl
  | 3, _ => rfl
  | 4, _ => rfl
  | n + 5, h => exact absurd h (by omega)
theorem c_yearsBy0 {p c : Int32} (hp : p < 0) (hQ : Q (.returned (some (.int 0))) (mX e I G)) : Rn 35 0 [some (.ref 0), some (.int p), some (.int c)] [] (0, 0) (mX e I G) Q :=
  Rn.go 2 ⟨fun _ => (show Rn 35 4 [some (.ref 0), some (.int p), some (.int c)] [] (0, 0) (mX e I G) Q from Rn.go 3 ⟨_, rfl, (fun h => by cases h), hQ⟩), fun h => absurd hp h⟩
theorem c_yearsByN {n m d p c : Nat} (ok : Ok (twn I 7) n m d) (hp : p < n) (hc : c < m) (hQ : Q (.returned (some (.int (yrs (twn I 7) p c)))) (mX e I G)) : Rn 35 0 [some (.ref 0), some (.int (nI p)), some (.int (nI c))] [] (0, 0) (mX e I G) Q := by
  have h6 := ok.n6
  have hm6 := ok.m6
  obtain ⟨k, hk, hk2⟩ := ok.kind p hp
  obtain ⟨v, hv, hv2⟩ := ok.prf c hc
  rw [(twn_k I 7 p (by omega)).1] at hk2
  rw [(twn_c I 7 c (by omega)).1] at hv2
  have e1 : I 8 (nI p).toNatClampNeg = nI k := by rw [nI_clamp (by omega)]; exact hk2
  have e2 : I 13 (nI c).toNatClampNeg = nI v := by rw [nI_clamp (by omega)]; exact hv2
  refine Rn.go 2 ⟨fun h => absurd h (nI_pos (by omega)), fun _ => (show Rn 35 8 [some (.ref 0), some (.int (nI p)), some (.int (nI c))] [] (0, 0) (mX e I G) Q from ?_)⟩
  refine Rn.go 7 ⟨rfl, rfl, rfl, 6, rfl, vp_in_nI (by omega) (by omega), ?_⟩
  show Rn 35 21 [some (.ref 0), some (.int (nI p)), some (.int (nI c))] [.int (I 8 (nI p).toNatClampNeg), .ref 1] (0, 0) (mX e I G) Q
  rw [e1]
  refine Rn.go 1 ⟨6, 5, rfl, by decide, vp_in_nI (by omega) (by omega), ?_⟩
  show Rn 35 22 [some (.ref 0), some (.int (nI p)), some (.int (nI c))] [(mkE e).2.1 1 (nI k).toNatClampNeg] (0, 0) (mX e I G) Q
  rw [nI_clamp (by omega), kinds_at hk]
  refine Rn.go 5 ⟨rfl, rfl, 6, rfl, vp_in_nI (by omega) (by omega), ?_⟩
  show Rn 35 31 [some (.ref 0), some (.int (nI p)), some (.int (nI c))] [.int (I 13 (nI c).toNatClampNeg), .ref (2 + k)] (0, 0) (mX e I G) Q
  rw [e2]
  refine Rn.go 4 ⟨rfl, Nat.le_of_ble_eq_true rfl, ⟨7, rfl, rfl⟩, fun o X' => o = .returned (some (.int (cmsE I (nI p)))) ∧ X' = mX e I G, f_comes (vp_in_nI (by omega) (by omega)) ⟨rfl, rfl⟩, ⟨Nat.le_of_ble_eq_true rfl, Nat.le_of_ble_eq_true rfl, Nat.le_of_ble_eq_true rfl, Nat.le_of_ble_eq_true rfl, Nat.le_of_ble_eq_true rfl, Nat.le_of_ble_eq_true rfl⟩, fun o X' hq => ?_⟩
  obtain ⟨rfl, rfl⟩ := hq
  show Rn 35 39 [some (.ref 0), some (.int (nI p)), some (.int (nI c))] [.int (cmsE I (nI p)), .int (nI v), .ref (2 + k)] (0, 0) (mX e I G) Q
  refine y_disp hk ?_
  rw [plC_n v hv]
  have hl : cmsE I (nI p) = late (twn I 7) 0 p := by
    have := cby_late (I := I) (h := 0) (show p < 6 by omega)
    rw [← this]
    unfold cbyE
    rw [if_neg (bit_0 (by omega)), Int32.add_zero]
  rw [hl]
  have hy : yrs (twn I 7) p c = (if k = 0 then plain (nI v) else if k = 1 then (if 0 < plain (nI v) then plain (nI v) + 3 else 0) else if k = 2 then plain (nI v) / 2 else if k = 3 then 9 else plain (nI v) / 2 + late (twn I 7) 0 p / 10) := by
    unfold yrs
    rw [(twn_k I 7 p (by omega)).1, (twn_c I 7 c (by omega)).1, hk2, hv2]
    match k, hk with
    | 0, _ => rfl
    | 1, _ => rfl
    | 2, _ => rfl
    | 3, _ => rfl
    | 4, _ => rfl
    | n + 5, h => exact absurd h (by omega)
  rw [← hy]
  exact hQ
theorem c_yearsBy {n m d : Nat} {o : Option Nat} {c : Int32} (ok : Ok (twn I 7) n m d) (ho : ∀ p, o = some p → p < n ∧ ∃ k, k < m ∧ c = nI k) (hQ : Q (.returned (some (.int (yrsO (twn I 7) o c)))) (mX e I G)) : Rn 35 0 [some (.ref 0), some (.int (noI o)), some (.int c)] [] (0, 0) (mX e I G) Q := by
  cases o with
  | none => exact c_yearsBy0 (by decide) hQ
  | some p =>
    obtain ⟨hp, k, hk, rfl⟩ := ho p rfl
    have hm6 := ok.m6
    refine c_yearsByN ok hp hk ?_
    have h2 : yrsO (twn I 7) (some p) (nI k) = yrs (twn I 7) p (nI k).toNatClampNeg := rfl
    rw [h2, nI_clamp (by omega)] at hQ
    exact hQ
/-- whoever judges is one, and there is a case -/
theorem judg_case {t : Nat → Int32} {n m d : Nat} {h c : Int32} (ok : Ok t n m d) (hc : caseP m c) : ∀ p, judg t h c = some p → p < n ∧ ∃ k, k < m ∧ c = nI k := by
  intro p hp
  refine ⟨judg_lt ok hp, ?_⟩
  rcases hc with q | q
  · exfalso
    subst q
    rw [judg_4] at hp
    cases hp
  · exact q
theorem cnw_plc : cnwE I = plc (twn I 7) := rfl
theorem c_judgeNow {n m d : Nat} (ok : Ok (twn I 7) n m d) (hQ : Q (.returned (some (.int (noI (judg (twn I 7) 0 (plc (twn I 7))))))) (mX e I G)) : Rn 43 0 [some (.ref 0)] [] (0, 0) (mX e I G) Q :=
  g_X0_judgeNow_0 (c_judgeOf ok (ok_plc ok) (g_X0_judgeNow_9 hQ))
theorem c_yearsNow {n m d : Nat} (ok : Ok (twn I 7) n m d) (hQ : Q (.returned (some (.int (yrsO (twn I 7) (judg (twn I 7) 0 (plc (twn I 7))) (plc (twn I 7)))))) (mX e I G)) : Rn 44 0 [some (.ref 0)] [] (0, 0) (mX e I G) Q :=
  g_X0_yearsNow_0 (c_judgeNow ok (g_X0_yearsNow_5 (c_yearsBy ok (judg_case ok (ok_plc ok)) (g_X0_yearsNow_12 hQ))))
theorem c_oneDay {n m d : Nat} {c : Int32} (ok : Ok (twn I 7) n m d) (hc : caseP m c) (hQ : ∀ I', twn I' 7 = goes (twn I 7) c → fr 7 14 I I' → Q (.returned none) (mX e I' G)) : Rn 33 0 [some (.ref 0), some (.int c), none] [] (0, 0) (mX e I G) Q := by
  have h6 := ok.n6
  refine g_X0_oneDay_0 (c_judgeOf ok hc (g_X0_oneDay_6 (c_yearsBy ok (judg_case ok hc) ?_)))
  refine g_X0_oneDay_21 ?_ ?_ ?_
  · intro h1
    have hn : judg (twn I 7) 0 c = none := by
      cases hj : judg (twn I 7) 0 c with
      | none => rfl
      | some b =>
        rw [hj] at h1
        exact absurd h1 (nI_pos (by have := judg_lt ok hj; omega))
    refine hQ _ ?_ ?_
    · unfold goes
      rw [hn, twn_f.2.2.1, twn_f.2.2.2.2.2.1, twn_f.2.2.2.2.1]
      rw [up1_comm (show (4 : Nat) ≠ 5 by omega)]
      rfl
    · exact ((fr.rf.up (by omega) (by omega)).up (by omega) (by omega)).up (by omega) (by omega)
  · intro h1
    cases hj : judg (twn I 7) 0 c with
    | none => rw [hj] at h1; exact absurd (by decide) h1
    | some b => exact vp_in_nI (by have := judg_lt ok hj; omega) (by omega)
  · intro h1
    cases hj : judg (twn I 7) 0 c with
    | none => rw [hj] at h1; exact absurd (by decide) h1
    | some b =>
      have hb := judg_lt ok hj
      have hcl : (noI (some b)).toNatClampNeg = b := nI_clamp (by omega)
      refine hQ _ ?_ ?_
      · unfold goes
        rw [hj, hcl, twn_f.2.2.1, twn_f.2.2.2.2.2.1, (twn_upk (show b < 6 by omega)).2.2.2.1 rfl, twn_f.2.2.2.2.1]
        have e5 : I 12 b = twn I 7 (10 + 5 * b) := ((twn_k I 7 b (by omega)).2.2.2.1).symm
        rw [e5, up1_comm (show (4 : Nat) ≠ 10 + 5 * b by omega), up1_comm (show (4 : Nat) ≠ 5 by omega)]
        rfl
      · rw [hcl]
        exact (((fr.rf.up (by omega) (by omega)).up (by omega) (by omega)).up (by omega) (by omega)).up (by omega) (by omega)
/-- n days from here on -/
def goN (t : Nat → Int32) : Nat → Nat → Int32
  | 0 => t
  | n + 1 => goN (goes t (plc t)) n
theorem c_goOn {n m : Nat} : ∀ j k {I : Nat → Nat → Int32} {d : Nat} {N : Nat}, k + j = N → N ≤ 60 → Ok (twn I 7) n m d → d + j ≤ 9999 + 60 → (∀ I', twn I' 7 = goN (twn I 7) j → fr 7 14 I I' → Q (.returned none) (mX e I' G)) → Rn 42 2 [some (.ref 0), some (.int (nI N)), some (.int (nI k))] [] (0, 0) (mX e I G) Q := by
  intro j
  induction j with
  | zero =>
    intro k I d N hk hN ok hd hQ
    have : k = N := by omega
    subst this
    refine g_X0_goOn_2 ?_ ?_
    · intro h1; exact absurd h1 (nI_nlt (Nat.le_refl _) (by omega))
    · intro _; exact hQ I rfl fr.rf
  | succ j ih =>
    intro k I d N hk hN ok hd hQ
    refine g_X0_goOn_2 ?_ ?_
    · intro _
      refine c_oneDay ok (ok_plc ok) fun I1 h1 h2 => g_X0_goOn_15 ?_
      rw [nI_1]
      refine ih (k + 1) (by omega) hN (d := d + 1) (by rw [h1]; exact ok_goes ok (by omega)) (by omega) fun I2 h3 h4 => hQ I2 ?_ (h2.tr h4)
      rw [h3, h1]; rfl
    · intro h1; exact absurd (nI_lt (by omega) (by omega)) h1
theorem ok_goN {n m : Nat} : ∀ j {t : Nat → Int32} {d : Nat}, Ok t n m d → d + j ≤ 9999 + 60 → Ok (goN t j) n m (d + j)
  | 0, _, _, h, _ => h
  | j + 1, t, d, h, hd => by
    have := ok_goN j (ok_goes (c := plc t) h (by omega)) (by omega)
    rw [show d + (j + 1) = d + 1 + j by omega]
    exact this
end S47
