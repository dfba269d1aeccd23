/-! days, linger, putOff, drift, undo -/
theorem shC_e {e e' : En} {I : Nat → Nat → Int32} {G : Nat → Nat → Int64} {sh : ShT} (h : shC e I G sh) (he : e' = e ∨ e' = rotE e) : shC e' I G sh := by
  rcases he with rfl | rfl
  · exact h
  · have q : ∀ s, s < 4 → (rotE e).2.1 (47 + s) 0 = e.2.1 (47 + s) 0 := fun s hs => by
      show (if 47 + s = 25 then _ else e.2.1 (47 + s) 0) = _
      rw [if_neg (by omega)]
    obtain ⟨a, b, c⟩ := h
    refine ⟨a, fun s hs => ?_, fun s s' hs hs' => ?_⟩
    · rw [q s hs]; exact b s hs
    · rw [q s hs, q s' hs']; exact c s s' hs hs'
theorem CR.note {σ : Sg} {e e' : En} {I I' : Nat → Nat → Int32} {G : Nat → Nat → Int64} {π' : Nat → Nat} {u' : Nat} {U' : Nat → Nat → Int32} (h : CR σ e I G) (hu : cUn e' I' π' u' U') (he : e' = e ∨ e' = rotE e) (f : frN I I') : CR (σ.1, (u', U'), σ.2.2) e' I' G := by
  obtain ⟨-, b, c, ⟨d1, d2⟩, g⟩ := h
  have np : ∀ k, (k < 51 ∨ 178 < k) → ¬ inPast k := fun k hk ⟨q, a1, a2, a3⟩ => by omega
  have kp : ∀ k o, k < 8 → o ≤ 7 → I' (59 + 16 * k + o) = I (59 + 16 * k + o) := fun k o hk ho => f.1 _ (by omega) (fun ⟨q, a1, a2, a3⟩ => by omega)
  refine ⟨⟨π', hu⟩, ?_, ?_, ⟨?_, fun hkp => ?_⟩, shC_con (shC_e g he) (fun k hk => f.1 k (by omega) (np k (by omega))) (fun _ _ => rfl)⟩
  · rw [← b]; exact twn_con fun o ho => f.1 _ (by omega) (np _ (by omega))
  · rw [f.2 4 (by omega), f.1 16 (by omega) (np 16 (by omega))]; exact c
  · rw [f.2 16 (by omega)]; exact d1
  · obtain ⟨e1, e2, e3, e4⟩ := d2 hkp
    refine ⟨?_, by rw [f.2 15 (by omega)]; exact e2, e3, fun k hk => ?_⟩
    · rw [← e1]; exact twn_con fun o ho => f.1 _ (by omega) (np _ (by omega))
    · rw [← e4 k hk]
      have hk' : k < σ.2.2.2.1.2.2.1 := hk
      rw [twn_con fun o ho => kp k o (by omega) ho]
theorem MR.note {σ : Sg} {I I' : Nat → Nat → Int32} {G : Nat → Nat → Int64} {u' : Nat} {U' : Nat → Nat → Int32} (h : MR σ I G) (hu : mUn I' u' U') (f : frO I I') : MR (σ.1, (u', U'), σ.2.2) I' G := by
  obtain ⟨-, b, c, ⟨d1, d2⟩, g⟩ := h
  refine ⟨hu, by rw [nw_con (f.1 180 (by omega) (by omega))]; exact b, by rw [f.2 2 (by omega), f.1 181 (by omega) (by omega)]; exact c, ⟨by rw [f.2 13 (by omega)]; exact d1, fun hkp => ?_⟩, fun s hs => ?_⟩
  · obtain ⟨e1, e2, e3⟩ := d2 hkp
    refine ⟨by rw [f.1 187 (by omega) (by omega)]; exact e1, by rw [f.2 12 (by omega)]; exact e2, fun k hk => ?_⟩
    rw [← e3 k hk]; unfold kU; rw [f.1 187 (by omega) (by omega)]
  · rw [f.1 188 (by omega) (by omega), f.1 189 (by omega) (by omega)]; exact g s hs
/-- what is noted -/
def notS (σ : Sg) : Sg := (σ.1, (noteN σ.2.1.1, noteU σ.2.1.1 σ.2.1.2 (dayT σ.1)), σ.2.2)
section S66
theorem c_noteS {e : En} {I : Nat → Nat → Int32} {G : Nat → Nat → Int64} {Q : Po} {σ : Sg} (h : CR σ e I G) (hQ : ∀ e' I', CR (notS σ) e' I' G → keepC e I G e' I' G → twn I' 7 = σ.1 → Q (.returned none) (mX e' I' G)) : Rn 32 0 [some (.ref 0), none] [] (0, 0) (mX e I G) Q := by
  obtain ⟨⟨π, a⟩, h2⟩ := id h
  refine c_note a fun e' I' π' b1 b2 b3 => ?_
  rw [h2.1] at b1
  have := h.note b1 b2 b3
  refine hQ e' I' this ?_ this.2.1
  rcases b2 with rfl | rfl
  · exact b3.kC
  · exact ⟨rfl, b3.kC (e := e).2⟩
theorem m_noteS {e : En} {I : Nat → Nat → Int32} {G : Nat → Nat → Int64} {Q : Po} {σ : Sg} (h : MR σ I G) (hQ : ∀ I', MR (notS σ) I' G → keepM I G I' G → nw I' = σ.1 → Q (.returned none) (mX e I' G)) : Rn 123 0 [some (.ref 179), none, none] [] (0, 0) (mX e I G) Q := by
  obtain ⟨a, h2⟩ := id h
  refine m_notes a fun I' b1 b3 => ?_
  rw [h2.1] at b1
  have := h.note b1 b3
  exact hQ I' this b3.kM this.2.1
/-- a day goes by, noted -/
def dayS (σ : Sg) : Sg := (goes σ.1 (plc σ.1), (notS σ).2)
def dayN : Nat → Sg → Sg
  | 0, σ => σ
  | j + 1, σ => dayN j (dayS σ)
theorem ok_dayS {σ : Sg} {n m d : Nat} (hO : OkG σ) (ok : Ok σ.1 n m d) (hd : d + 1 ≤ 9999) : OkG (dayS σ) ∧ Ok (dayS σ).1 n m (d + 1) := by
  obtain ⟨⟨n', m', d', ok', hd', hw, hu, hU⟩, h2⟩ := hO
  have en : n' = n := by
    have := ok'.n6; have := ok.n6
    exact (nI_eq (by omega) (by omega)).mp (ok'.hn.symm.trans ok.hn)
  have em : m' = m := by
    have := ok'.m6; have := ok.m6
    exact (nI_eq (by omega) (by omega)).mp (ok'.hm.symm.trans ok.hm)
  subst en; subst em
  have hg := ok_goes (c := plc σ.1) ok (by omega)
  refine ⟨⟨?_, h2⟩, hg⟩
  refine okV_note ok (by omega) hu hU hg hd ?_
  intro p hp
  have h6 := ok.n6
  have : goes σ.1 (plc σ.1) (8 + 5 * p) = σ.1 (8 + 5 * p) := by
    unfold goes
    rw [up1_ne (by omega), up1_ne (by omega), up1_ne (by omega), judd_ne ok (fun q _ => by omega)]
  show ∃ k, k < 100 ∧ goes σ.1 (plc σ.1) (8 + 5 * p) = nI k
  rw [this]; exact hw p hp
noncomputable def daysF (a1 : Int32) (σ : Sg) : Int32 × Sg := @ite _ (inl a1.toInt64 1 40) (Classical.propDecidable _)
  (if 9999 < σ.1 2 + a1 then (-3, σ) else ((dayN a1.toNatClampNeg σ).1 4 - σ.1 4, dayN a1.toNatClampNeg σ)) (-1, σ)
theorem c_dayLoop {y3 : Int32} {Q : Po} {N n m : Nat} (hN : N ≤ 40) : ∀ j k {e : En} {I : Nat → Nat → Int32} {G : Nat → Nat → Int64} {σ : Sg} {d : Nat}, k + j = N → CR σ e I G → OkG σ → Ok σ.1 n m d → d + j ≤ 9999 → (∀ e' I' G', CR (dayN j σ) e' I' G' → keepC e I G e' I' G' → Q (.returned (some (.int ((dayN j σ).1 4 - y3)))) (mX e' I' G')) →
    Rn 30 23 [some (.ref 0), some (.int (nI N)), none, some (.int y3), some (.int (nI k))] [] (0, 0) (mX e I G) Q := by
  intro j
  induction j with
  | zero =>
    intro k e I G σ d hk hC hO ok hd hQ
    have : k = N := by omega
    subst this
    refine g_X0_days_23 (fun h => absurd h (nI_nlt (Nat.le_refl _) (by omega))) (fun _ => ?_)
    rw [show I 7 11 = twn I 7 4 from rfl, hC.2.1]
    exact hQ e I G hC keepC.rf
  | succ j ih =>
    intro k e I G σ d hk hC hO ok hd hQ
    refine g_X0_days_23 (fun _ => ?_) (fun h => absurd (nI_lt (by omega) (by omega)) h)
    refine c_noteS hC fun e1 I1 h1 k1 t1 => g_X0_days_33 ?_
    rw [cnw_plc]
    refine c_oneDay (by rw [t1]; exact ok) (ok_plc (by rw [t1]; exact ok)) fun I2 t2 f2 => g_X0_days_41 ?_
    rw [nI_1]
    have hs : CR (dayS σ) e1 I2 G := h1.town (by rw [t2, t1]) f2
    obtain ⟨o1, o2⟩ := ok_dayS hO ok (by omega)
    exact ih (k + 1) (by omega) hs o1 o2 (by omega) fun e' I' G' c' k' => hQ e' I' G' c' ((k1.tr (f2.kC (by omega))).tr k')
theorem lt_day {d k : Nat} (hd : d ≤ 9999) (hk : k ≤ 40) : 9999 < nI d + nI k ↔ 9999 < d + k := by
  rw [nI_add]
  exact nI_ltI (a := 9999) (by omega) (by omega)
theorem c_days (a1 : Int32) : oC 30 [some (.ref 0), some (.int a1), none, none, none] (daysF a1) := by
  intro e I G Q σ hC hO hQ
  obtain ⟨⟨n, m, d, ok, hd, -⟩, -⟩ := id hO
  have h7 : twn I 7 = σ.1 := hC.2.1
  have e2 : I 7 12 = σ.1 2 := by rw [← h7]; rfl
  unfold daysF at hQ
  refine g_X0_days_0 (g_X0_lacksTime_0 (fun h => ?_) (fun h1 h2 => ?_) (fun h1 h2 => ?_))
  · rw [if_neg h] at hQ
    exact g_X0_days_5 (fun _ => hQ e I G hC keepC.rf) (fun h => absurd (by decide) h)
  · rw [e2] at h2
    rw [if_pos h1, if_pos h2] at hQ
    exact g_X0_days_5 (fun _ => hQ e I G hC keepC.rf) (fun h => absurd (by decide) h)
  · rw [e2] at h2
    rw [if_pos h1, if_neg h2] at hQ
    obtain ⟨k, hk1, hk2, rfl⟩ := inR (lo := 1) (hi := 40) h1
    rw [nI_clamp (by omega)] at hQ
    rw [ok.hd, lt_day hd hk2] at h2
    refine g_X0_days_5 (fun h => absurd h (by decide)) (fun _ => ?_)
    rw [show I 7 11 = twn I 7 4 from rfl, h7]
    exact c_dayLoop hk2 k 0 (by omega) hC hO ok (by omega) hQ
theorem sub_add' (a b c : Int32) : a - b + c = (a + c) - b := by
  rw [Int32.sub_eq_add_neg, Int32.sub_eq_add_neg, Int32.add_assoc, Int32.add_comm (-b), ← Int32.add_assoc]
theorem m_dayLoop {y3 : Int32} {e : En} {Q : Po} {N n m : Nat} (hN : N ≤ 40) : ∀ j k {I : Nat → Nat → Int32} {G : Nat → Nat → Int64} {σ : Sg} {d : Nat}, k + j = N → MR σ I G → OkG σ → Ok σ.1 n m d → d + j ≤ 9999 → (∀ I' G', MR (dayN j σ) I' G' → keepM I G I' G' → Q (.returned (some (.int ((dayN j σ).1 4 - y3)))) (mX e I' G')) →
    Rn 122 35 [some (.ref 179), some (.int (nI N)), some (.int (σ.1 4 - y3)), some (.int (nI k))] [] (0, 0) (mX e I G) Q := by
  intro j
  induction j with
  | zero =>
    intro k I G σ d hk hC hO ok hd hQ
    have : k = N := by omega
    subst this
    exact g_X9_days_35 (fun h => absurd h (nI_nlt (Nat.le_refl _) (by omega))) (fun _ => hQ I G hC keepM.rf)
  | succ j ih =>
    intro k I G σ d hk hC hO ok hd hQ
    refine g_X9_days_35 (fun _ => ?_) (fun h => absurd (nI_lt (by omega) (by omega)) h)
    refine m_noteS hC fun I1 h1 k1 t1 => g_X9_days_44 ?_
    rw [plc_E]
    refine m_goesBy (by rw [t1]; exact ok) (ok_plc (by rw [t1]; exact ok)) fun I2 t2 f2 => g_X9_days_53 ?_
    rw [t1] at t2 ⊢
    rw [nI_1, sub_add']
    have hs : MR (dayS σ) I2 G := h1.town t2 f2
    obtain ⟨o1, o2⟩ := ok_dayS hO ok (by omega)
    exact ih (k + 1) (σ := dayS σ) (by omega) hs o1 o2 (by omega) fun I' G' c' k' => hQ I' G' c' ((k1.tr (f2.kM (by omega) (by omega))).tr k')
theorem sub_self' (a : Int32) : a - a = 0 := Int32.sub_self a
theorem m_days (a1 : Int32) : oM 122 [some (.ref 179), some (.int a1), none, none] (daysF a1) := by
  intro e I G Q σ hC hO hQ
  obtain ⟨⟨n, m, d, ok, hd, -⟩, -⟩ := id hO
  have h7 : nw I = σ.1 := hC.2.1
  have e2 : I 180 2 = σ.1 2 := by rw [← h7]; rfl
  unfold daysF at hQ
  refine g_X9_days_0 (fun h => ?_) (fun h1 h2 => ?_) (fun h1 h2 => ?_)
  · rw [if_neg h] at hQ; exact hQ I G hC keepM.rf
  · rw [e2] at h2
    rw [if_pos h1, if_pos h2] at hQ; exact hQ I G hC keepM.rf
  · rw [e2] at h2
    rw [if_pos h1, if_neg h2] at hQ
    obtain ⟨k, hk1, hk2, rfl⟩ := inR (lo := 1) (hi := 40) h1
    rw [nI_clamp (by omega)] at hQ
    rw [ok.hd, lt_day hd hk2] at h2
    have := m_dayLoop (y3 := σ.1 4) hk2 k 0 (by omega) hC hO ok (by omega) hQ
    rw [sub_self'] at this
    exact this
theorem ok_dayN {n m : Nat} : ∀ j {σ : Sg} {d : Nat}, OkG σ → Ok σ.1 n m d → d + j ≤ 9999 → OkG (dayN j σ)
  | 0, _, _, h, _, _ => h
  | j + 1, σ, d, h, ok, hd => by
    obtain ⟨o1, o2⟩ := ok_dayS h ok (by omega)
    exact ok_dayN j o1 o2 (by omega)
theorem k_days (a1 : Int32) : oK (daysF a1) := by
  intro σ h
  obtain ⟨⟨n, m, d, ok, hd, -⟩, -⟩ := id h
  unfold daysF
  by_cases hv : inl a1.toInt64 1 40
  · rw [if_pos hv]
    by_cases h2 : 9999 < σ.1 2 + a1
    · rw [if_pos h2]; exact h
    · rw [if_neg h2]
      obtain ⟨k, hk1, hk2, rfl⟩ := inR (lo := 1) (hi := 40) hv
      rw [ok.hd, lt_day hd hk2] at h2
      dsimp only
      rw [nI_clamp (by omega)]
      exact ok_dayN k h ok (by omega)
  · rw [if_neg hv]; exact h
/-! linger -/
noncomputable def lingF (a1 a2 : Int32) (σ : Sg) : Int32 × Sg := @ite _ (inl a1.toInt64 0 ((σ.1 0 - 1).toInt64) ∧ inl a2.toInt64 0 60) (Classical.propDecidable _)
  (if σ.1 (9 + 5 * a1.toNatClampNeg) = a2 then (-2, σ) else (σ.1 (9 + 5 * a1.toNatClampNeg), (up1 σ.1 (9 + 5 * a1.toNatClampNeg) a2, (notS σ).2))) (-1, σ)
theorem c_linger (a1 a2 : Int32) : oC 36 [some (.ref 0), some (.int a1), some (.int a2), none] (lingF a1 a2) := by
  intro e I G Q σ hC hO hQ
  obtain ⟨⟨n, m, d, ok, hd, -⟩, -⟩ := id hO
  have h6 := ok.n6
  have h7 : twn I 7 = σ.1 := hC.2.1
  have e0 : I 7 7 = σ.1 0 := by rw [← h7]; rfl
  unfold lingF at hQ
  rw [← e0] at hQ
  refine g_X0_linger_0 (fun h => ?_) (fun h1 h => ?_) ?_ ?_ ?_
  · rw [if_neg (fun q => h q.1)] at hQ; exact hQ e I G hC keepC.rf
  · rw [if_neg (fun q => h q.2)] at hQ; exact hQ e I G hC keepC.rf
  all_goals intro h1 h2
  all_goals
    rw [if_pos ⟨h1, h2⟩] at hQ
    rw [e0, ok.hn] at h1
    obtain ⟨p, hp, rfl⟩ := isP h6 h1
  · exact vp_in_nI (by omega) (by omega)
  all_goals
    intro h3
    have k1 : I 11 p = σ.1 (9 + 5 * p) := by rw [← h7]; exact ((twn_k I 7 p (by omega)).2.2.1).symm
    rw [nI_clamp (by omega), k1] at h3
    rw [nI_clamp (by omega)] at hQ
  · rw [if_pos h3] at hQ; exact hQ e I G hC keepC.rf
  · rw [if_neg h3] at hQ
    rw [nI_clamp (by omega), k1]
    refine c_noteS hC fun e1 I1 h1 k1 t1 => g_X0_linger_44 (vp_in_nI (by omega) (by omega)) ?_
    rw [nI_clamp (by omega)]
    refine hQ e1 _ G (h1.town ?_ ?_) ?_
    · rw [(twn_upk (show p < 6 by omega)).2.2.1 rfl, t1]
    · exact fr.rf.up (by omega) (by omega)
    · exact k1.tr ((fr.rf.up (a := 7) (b := 14) (by omega) (by omega)).kC (by omega))
theorem m_linger (a1 a2 : Int32) : oM 127 [some (.ref 179), some (.int a1), some (.int a2), none] (lingF a1 a2) := by
  intro e I G Q σ hC hO hQ
  obtain ⟨⟨n, m, d, ok, hd, -⟩, -⟩ := id hO
  have h6 := ok.n6
  have h7 : nw I = σ.1 := hC.2.1
  have e0 : I 180 0 = σ.1 0 := by rw [← h7]; rfl
  unfold lingF at hQ
  rw [← e0] at hQ
  refine g_X9_linger_0 (fun h => ?_) (fun h1 h => ?_) ?_ ?_ ?_
  · rw [if_neg (fun q => h q.1)] at hQ; exact hQ I G hC keepM.rf
  · rw [if_neg (fun q => h q.2)] at hQ; exact hQ I G hC keepM.rf
  all_goals intro h1 h2
  all_goals
    rw [if_pos ⟨h1, h2⟩] at hQ
    rw [e0, ok.hn] at h1
    obtain ⟨p, hp, rfl⟩ := isP h6 h1
  · exact vi7 (w := 2) (by omega) (by omega)
  all_goals
    intro h3
    rw [tol_2 (by omega), h7] at h3
    rw [nI_clamp (by omega)] at hQ
  · rw [if_pos h3] at hQ; exact hQ I G hC keepM.rf
  · rw [if_neg h3] at hQ
    rw [tol_2 (by omega), h7]
    refine m_noteS hC fun I1 h1 k1 t1 => g_X9_linger_41 (vi7 (w := 2) (by omega) (by omega)) ?_
    rw [(ixw (show p < 6 by omega)).2.1]
    refine hQ _ G (h1.town ?_ ?_) ?_
    · rw [nw_up (by omega), t1]
    · exact fr.rf.up (by omega) (by omega)
    · exact k1.tr ((fr.rf.up (a := 180) (b := 180) (by omega) (by omega)).kM (by omega) (by omega))
theorem k_linger (a1 a2 : Int32) : oK (lingF a1 a2) := by
  intro σ h
  unfold lingF
  by_cases hv : inl a1.toInt64 0 ((σ.1 0 - 1).toInt64) ∧ inl a2.toInt64 0 60
  · rw [if_pos hv]
    by_cases h3 : σ.1 (9 + 5 * a1.toNatClampNeg) = a2
    · rw [if_pos h3]; exact h
    · rw [if_neg h3]
      obtain ⟨⟨n, m, d, ok, hd, hw, hu, hU⟩, h2⟩ := h
      have h6 := ok.n6
      obtain ⟨hv1, hv2⟩ := hv
      rw [ok.hn] at hv1
      obtain ⟨p, hp, rfl⟩ := isP h6 hv1
      obtain ⟨k, -, hk, rfl⟩ := inR (lo := 0) (hi := 60) hv2
      dsimp only
      rw [nI_clamp (by omega)]
      exact ⟨okV_note ok hd hu hU (ok.setL (by omega) rfl hk) hd (wy_up hw (fun q _ => by omega)), h2⟩
  · rw [if_neg hv]; exact h
/-! undo -/
def undoF (σ : Sg) : Int32 × Sg := if σ.2.1.1 = 0 then (-4, σ) else (nI (σ.2.1.1 - 1), (putD σ.1 (σ.2.1.2 (σ.2.1.1 - 1)), (σ.2.1.1 - 1, σ.2.1.2), σ.2.2))
theorem c_undo : oC 39 [some (.ref 0)] undoF := by
  intro e I G Q σ hC hO hQ
  have h7 : twn I 7 = σ.1 := hC.2.1
  obtain ⟨⟨π, a1, a2, a3, a4⟩, hC2⟩ := id hC
  unfold undoF at hQ
  by_cases h0 : σ.2.1.1 = 0
  · rw [if_pos h0] at hQ
    rw [h0] at a2
    exact g_X0_undo_0 (q1 := 0) (fun _ => hQ e I G hC keepC.rf) (fun h => absurd a2 h) (fun h => absurd a2 h) (fun h => absurd a2 h)
  · rw [if_neg h0] at hQ
    obtain ⟨u, hu⟩ : ∃ u, σ.2.1.1 = u + 1 := ⟨σ.2.1.1 - 1, by omega⟩
    rw [hu, Nat.add_sub_cancel] at hQ
    rw [hu] at a2 a3 a4
    have ne : ¬ I 0 8 = 0 := by rw [a2]; exact nI_ne0 (by omega) (by omega)
    obtain ⟨p1, p2⟩ := a1.1 u (by omega)
    refine g_X0_undo_0 (q1 := 51 + 16 * π u) (fun h => absurd h ne) (fun _ => ?_) (fun _ => ?_) (fun _ => ?_)
    · rw [a2, nI_pred]; exact vp_in_nI (by omega) (by omega)
    · rw [a2, nI_pred, nI_clamp (by omega)]; exact p1
    · rw [a2, nI_pred]
      refine c_takeDay (stp_past (π u) p2) stp_7 (Or.inl (by omega)) fun I1 t1 f1 => g_X0_undo_36 ?_
      have e8 : I1 0 8 = nI u := by rw [f1 0 (by omega), up2_v]
      rw [e8]
      rw [twn_ne (by omega), twn_ne (by omega), h7, a4 u (by omega)] at t1
      have fI : fr 0 14 I I1 := (fr.rf.up (by omega) (by omega)).tr (f1.wd (by omega) (by omega))
      refine hQ e I1 G ?_ (fI.kC (by omega))
      obtain ⟨-, c1, ⟨d1, d2⟩, g⟩ := hC2
      have f0 : ∀ f, f ≠ 8 → I1 0 f = I 0 f := fun f hf => by rw [f1 0 (by omega), up2_i hf]
      have fk : ∀ k, 14 < k → I1 k = I k := fun k hk => fI k (by omega)
      refine ⟨⟨π, a1, e8, by dsimp only; omega, fun k hk => ?_⟩, t1, ?_, ⟨?_, fun hkp => ?_⟩, shC_con g (fun k hk => fk k (by omega)) (fun _ _ => rfl)⟩
      · dsimp only at hk ⊢
        rw [twn_con fun o ho => fk _ (by omega)]
        exact a4 k (by omega)
      · rw [f0 4 (by omega), fk 16 (by omega)]; exact c1
      · rw [f0 16 (by omega)]; exact d1
      · obtain ⟨e1, e2, e3, e4⟩ := d2 hkp
        refine ⟨by rw [twn_con fun o ho => fk _ (by omega)]; exact e1, by rw [f0 15 (by omega)]; exact e2, e3, fun k hk => ?_⟩
        rw [twn_con fun o ho => fk _ (by omega)]; exact e4 k hk
theorem m_undo : oM 130 [some (.ref 179), none, none] undoF := by
  intro e I G Q σ hC hO hQ
  have h7 : nw I = σ.1 := hC.2.1
  obtain ⟨⟨a2, a3, a4⟩, hC2⟩ := id hC
  unfold undoF at hQ
  by_cases h0 : σ.2.1.1 = 0
  · rw [if_pos h0] at hQ
    rw [h0] at a2
    exact g_X9_undo_0 (fun _ => hQ I G hC keepM.rf) (fun h => absurd a2 h) (fun h => absurd a2 h) (fun h => absurd a2 h) (fun h => absurd a2 h) (fun h => absurd a2 h)
  · rw [if_neg h0] at hQ
    obtain ⟨u, hu⟩ : ∃ u, σ.2.1.1 = u + 1 := ⟨σ.2.1.1 - 1, by omega⟩
    rw [hu, Nat.add_sub_cancel] at hQ
    rw [hu] at a2 a3 a4
    refine m_undoS a2 (by omega) fun I1 t1 b1 b2 b3 => ?_
    rw [h7, a4 u (by omega)] at t1
    refine hQ I1 G ?_ (fun k hk => ⟨b2 k (by omega) (by omega), rfl⟩)
    obtain ⟨-, c1, ⟨d1, d2⟩, g⟩ := hC2
    refine ⟨⟨b1, by dsimp only; omega, fun k hk => ?_⟩, t1, ?_, ⟨?_, fun hkp => ?_⟩, fun s hs => ?_⟩
    · dsimp only at hk ⊢
      rw [← a4 k (by omega)]; unfold mU; rw [b2 184 (by omega) (by omega)]
    · rw [b3 2 (by omega), b2 181 (by omega) (by omega)]; exact c1
    · rw [b3 13 (by omega)]; exact d1
    · obtain ⟨e1, e2, e3⟩ := d2 hkp
      refine ⟨by rw [b2 187 (by omega) (by omega)]; exact e1, by rw [b3 12 (by omega)]; exact e2, fun k hk => ?_⟩
      rw [← e3 k hk]; unfold kU; rw [b2 187 (by omega) (by omega)]
    · rw [b2 188 (by omega) (by omega), b2 189 (by omega) (by omega)]; exact g s hs
theorem k_undo : oK undoF := by
  intro σ h
  unfold undoF
  by_cases h0 : σ.2.1.1 = 0
  · rw [if_pos h0]; exact h
  · rw [if_neg h0]
    obtain ⟨⟨n, m, d, ok, hd, hw, hu, hU⟩, h2⟩ := h
    obtain ⟨d', hd', ok'⟩ := ok_put ok (hU (σ.2.1.1 - 1) (by omega))
    exact ⟨⟨n, m, d', ok', hd', wy_put ok.n6 hw, by dsimp only; omega, fun k hk => hU k (by dsimp only at hk; omega)⟩, h2⟩
end S66
