/-! putOff, drift -/
/-- two cases change places -/
def swT (t : Nat → Int32) (c o : Nat) : Nat → Int32 := up1 (up1 (up1 (up1 t (37 + 2 * c) (t (37 + 2 * o))) (38 + 2 * c) (t (38 + 2 * o))) (37 + 2 * o) (t (37 + 2 * c))) (38 + 2 * o) (t (38 + 2 * c))
theorem swT_at {t : Nat → Int32} {c o : Nat} (h : c ≠ o) : swT t c o (37 + 2 * c) = t (37 + 2 * o) ∧ swT t c o (38 + 2 * c) = t (38 + 2 * o) ∧ swT t c o (37 + 2 * o) = t (37 + 2 * c) ∧ swT t c o (38 + 2 * o) = t (38 + 2 * c) := by
  unfold swT
  refine ⟨?_, ?_, ?_, up1_at⟩
  · rw [up1_ne (by omega), up1_ne (by omega), up1_ne (by omega), up1_at]
  · rw [up1_ne (by omega), up1_ne (by omega), up1_at]
  · rw [up1_ne (by omega), up1_at]
theorem swT_ne {t : Nat → Int32} {c o j : Nat} (h1 : j ≠ 37 + 2 * c) (h2 : j ≠ 38 + 2 * c) (h3 : j ≠ 37 + 2 * o) (h4 : j ≠ 38 + 2 * o) : swT t c o j = t j := by
  unfold swT
  rw [up1_ne h4, up1_ne h3, up1_ne h2, up1_ne h1]
theorem ok_swT {t : Nat → Int32} {n m d c o : Nat} (ok : Ok t n m d) (hc : c < m) (ho : o < m) (hco : c ≠ o) : Ok (swT t c o) n m d := by
  obtain ⟨h1, h2, h3, h4, h5, h6, h7, h8, h9, h10, h11, h12, h13, h14⟩ := ok
  have e : ∀ j, j < 37 → swT t c o j = t j := fun j hj => swT_ne (by omega) (by omega) (by omega) (by omega)
  obtain ⟨s1, s2, s3, s4⟩ := swT_at (t := t) hco
  refine ⟨h1, h2, ?_, ?_, ?_, h6, ?_, ?_, ?_, ?_, ?_, ?_, ?_, ?_⟩
  · rw [e 0 (by omega)]; exact h3
  · rw [e 1 (by omega)]; exact h4
  · rw [e 2 (by omega)]; exact h5
  · intro p hp; rw [e _ (by omega)]; exact h7 p hp
  · intro p hp; rw [e _ (by omega)]; exact h8 p hp
  · intro p hp; rw [e _ (by omega)]; exact h9 p hp
  · intro p q hp; rw [e _ (by omega)]; exact h10 p q hp
  · intro p q hp hq; rw [e _ (by omega), e _ (by omega)]; exact h11 p q hp hq
  · intro x hx
    by_cases hxc : x = c
    · subst hxc; rw [s1]; exact h12 o ho
    · by_cases hxo : x = o
      · subst hxo; rw [s3]; exact h12 c hc
      · rw [swT_ne (by omega) (by omega) (by omega) (by omega)]; exact h12 x hx
  · intro x hx
    by_cases hxc : x = c
    · subst hxc; rw [s2]; exact h13 o ho
    · by_cases hxo : x = o
      · subst hxo; rw [s4]; exact h13 c hc
      · rw [swT_ne (by omega) (by omega) (by omega) (by omega)]; exact h13 x hx
  · rw [e 6 (by omega)]; exact h14
noncomputable def putF (a1 a2 : Int32) (σ : Sg) : Int32 × Sg := @ite _ (twoP (σ.1 1) a1 a2) (Classical.propDecidable _)
  (σ.1 (37 + 2 * a2.toNatClampNeg), (swT σ.1 a1.toNatClampNeg a2.toNatClampNeg, (notS σ).2)) (-1, σ)
section S67
theorem c_putOff (a1 a2 : Int32) : oC 37 [some (.ref 0), some (.int a1), some (.int a2)] (putF a1 a2) := by
  intro e I G Q σ hC hO hQ
  obtain ⟨⟨n, m, d, ok, hd, -⟩, -⟩ := id hO
  have h6 := ok.m6
  have h7 : twn I 7 = σ.1 := hC.2.1
  have e0 : I 7 8 = σ.1 1 := by rw [← h7]; rfl
  unfold putF at hQ
  rw [← e0] at hQ
  have bad : ¬ twoP (I 7 8) a1 a2 → Q (.returned (some (.int (-1)))) (mX e I G) := fun h => by
    rw [if_neg h] at hQ; exact hQ e I G hC keepC.rf
  refine g_X0_putOff_0 (fun h => bad (fun q => h q.1)) (fun _ h => bad (fun q => h q.2.1)) (fun _ _ h => bad (fun q => q.2.2 h)) (fun h1 h2 h3 => ?_)
  rw [if_pos ⟨h1, h2, h3⟩] at hQ
  rw [e0, ok.hm] at h1 h2
  obtain ⟨c, hc, rfl⟩ := isP h6 h1
  obtain ⟨o, ho, rfl⟩ := isP h6 h2
  have hco : c ≠ o := fun q => h3 (by rw [q])
  rw [nI_clamp (by omega), nI_clamp (by omega)] at hQ
  refine c_noteS hC fun e1 I1 g1 k1 t1 => g_X0_putOff_27 (g_X6_swapCases_7_0 (vp_in_nI (by omega) (by omega)) (vp_in_nI (by omega) (by omega)) (g_X0_putOff_36 (vp_in_nI (by omega) (by omega)) ?_))
  rw [nI_clamp (by omega), nI_clamp (by omega)]
  have w1 : I1 13 c = σ.1 (37 + 2 * c) := by rw [← t1]; exact ((twn_c I1 7 c (by omega)).1).symm
  have w2 : I1 13 o = σ.1 (37 + 2 * o) := by rw [← t1]; exact ((twn_c I1 7 o (by omega)).1).symm
  have w3 : I1 14 c = σ.1 (38 + 2 * c) := by rw [← t1]; exact ((twn_c I1 7 c (by omega)).2).symm
  have w4 : I1 14 o = σ.1 (38 + 2 * o) := by rw [← t1]; exact ((twn_c I1 7 o (by omega)).2).symm
  rw [up2_ne (show (13 : Nat) ≠ 14 by omega), up2_i hco, up2_ne (show (13 : Nat) ≠ 14 by omega), up2_v, w1, w2, w3, w4]
  refine hQ e1 _ G (g1.town ?_ ?_) ?_
  · rw [(twn_upc (show o < 6 by omega)).2 rfl, (twn_upc (show o < 6 by omega)).1 rfl, (twn_upc (show c < 6 by omega)).2 rfl, (twn_upc (show c < 6 by omega)).1 rfl, t1]
    rfl
  · exact (((fr.rf.up (by omega) (by omega)).up (by omega) (by omega)).up (by omega) (by omega)).up (by omega) (by omega)
  · exact k1.tr (((((fr.rf.up (a := 7) (b := 14) (by omega) (by omega)).up (by omega) (by omega)).up (by omega) (by omega)).up (by omega) (by omega)).kC (by omega))
theorem m_putOff (a1 a2 : Int32) : oM 128 [some (.ref 179), some (.int a1), some (.int a2), none, none] (putF a1 a2) := by
  intro e I G Q σ hC hO hQ
  obtain ⟨⟨n, m, d, ok, hd, -⟩, -⟩ := id hO
  have h6 := ok.m6
  have h7 : nw I = σ.1 := hC.2.1
  have e0 : I 180 1 = σ.1 1 := by rw [← h7]; rfl
  unfold putF at hQ
  rw [← e0] at hQ
  have bad : ¬ twoP (I 180 1) a1 a2 → Q (.returned (some (.int (-1)))) (mX e I G) := fun h => by
    rw [if_neg h] at hQ; exact hQ I G hC keepM.rf
  refine g_X9_putOff_0 (fun h => bad (fun q => h q.1)) (fun _ h => bad (fun q => h q.2.1)) (fun _ _ h => bad (fun q => q.2.2 h)) (fun h1 h2 h3 => ?_)
  rw [if_pos ⟨h1, h2, h3⟩] at hQ
  rw [e0, ok.hm] at h1 h2
  obtain ⟨c, hc, rfl⟩ := isP h6 h1
  obtain ⟨o, ho, rfl⟩ := isP h6 h2
  have hco : c ≠ o := fun q => h3 (by rw [q])
  rw [nI_clamp (by omega), nI_clamp (by omega)] at hQ
  refine m_noteS hC fun I1 g1 k1 t1 => g_X9_putOff_27 ?_
  have c6 : c < 6 := by omega
  have o6 : o < 6 := by omega
  have i0 : ∀ x, x < 6 → (37 + 2 * nI x + 0 : Int32).toNatClampNeg = 37 + 2 * x := fun x hx => (ix37 x hx 0 (by omega)).2
  have i1 : ∀ x, x < 6 → (37 + 2 * nI x + 1 : Int32).toNatClampNeg = 38 + 2 * x := fun x hx => by rw [show 38 + 2 * x = 37 + 2 * x + 1 by omega]; exact (ix37 x hx 1 (by omega)).2
  refine g_X9_putOff_29 (fun _ => vi37 (w := 0) c6 (by omega)) (fun _ => vi37 (w := 0) o6 (by omega)) (fun _ => ?_) (fun h => absurd (by decide) h) (fun h => absurd (by decide) h)
  rw [i0 c c6, i0 o o6]
  refine g_X9_putOff_29 (x3 := 0 + 1) (fun _ => vi37 (w := 1) c6 (by omega)) (fun _ => vi37 (w := 1) o6 (by omega)) (fun _ => ?_) (fun h => absurd (by decide) h) (fun h => absurd (by decide) h)
  rw [show (0 + 1 : Int32) = 1 from rfl, i1 c c6, i1 o o6]
  refine g_X9_putOff_29 (x3 := 1 + 1) (fun h => absurd h (by decide)) (fun h => absurd h (by decide)) (fun h => absurd h (by decide)) (fun _ => vi37' c6) (fun _ => ?_)
  have ev : ∀ j, j < 49 → I1 180 j = σ.1 j := fun j hj => by rw [← t1]; exact (cut_at hj).symm
  rw [(ix37' c c6).2]
  rw [up2_i (show 38 + 2 * o ≠ 37 + 2 * o by omega), up2_i (show 38 + 2 * o ≠ 37 + 2 * c by omega), up2_i (show 38 + 2 * c ≠ 37 + 2 * o by omega), up2_i (show 38 + 2 * c ≠ 37 + 2 * c by omega), ev (37 + 2 * o) (by omega), ev (37 + 2 * c) (by omega), ev (38 + 2 * o) (by omega), ev (38 + 2 * c) (by omega)]
  have ea : (up2 (up2 (up2 (up2 I1 180 (37 + 2 * c) (σ.1 (37 + 2 * o))) 180 (37 + 2 * o) (σ.1 (37 + 2 * c))) 180 (38 + 2 * c) (σ.1 (38 + 2 * o))) 180 (38 + 2 * o) (σ.1 (38 + 2 * c))) 180 (37 + 2 * c) = σ.1 (37 + 2 * o) := by
    rw [up2_i (by omega), up2_i (by omega), up2_i (by omega), up2_v]
  rw [ea]
  refine hQ _ G (g1.town ?_ ?_) ?_
  · rw [nw_up (by omega), nw_up (by omega), nw_up (by omega), nw_up (by omega), t1]
    unfold swT
    rw [up1_comm (show 37 + 2 * o ≠ 38 + 2 * c by omega)]
  · exact (((fr.rf.up (by omega) (by omega)).up (by omega) (by omega)).up (by omega) (by omega)).up (by omega) (by omega)
  · exact k1.tr (((((fr.rf.up (a := 180) (b := 180) (by omega) (by omega)).up (by omega) (by omega)).up (by omega) (by omega)).up (by omega) (by omega)).kM (by omega) (by omega))
theorem k_putOff (a1 a2 : Int32) : oK (putF a1 a2) := by
  intro σ h
  unfold putF
  by_cases hv : twoP (σ.1 1) a1 a2
  · rw [if_pos hv]
    obtain ⟨⟨n, m, d, ok, hd, hw, hu, hU⟩, h2⟩ := h
    have h6 := ok.m6
    have n6 := ok.n6
    obtain ⟨v1, v2, v3⟩ := hv
    rw [ok.hm] at v1 v2
    obtain ⟨c, hc, rfl⟩ := isP h6 v1
    obtain ⟨o, ho, rfl⟩ := isP h6 v2
    have hco : c ≠ o := fun q => v3 (by rw [q])
    dsimp only
    rw [nI_clamp (by omega), nI_clamp (by omega)]
    exact ⟨okV_note ok hd hu hU (ok_swT ok hc ho hco) hd (fun p hp => by show ∃ k, k < 100 ∧ swT σ.1 c o (8 + 5 * p) = nI k; rw [swT_ne (by omega) (by omega) (by omega) (by omega)]; exact hw p hp), h2⟩
  · rw [if_neg hv]; exact h
/-! drift -/
def rnd (x : Int32) : Int32 := ((x.toInt64 * 1103515245 + 12345) &&& 2147483647).toInt32
theorem rndE (x : Int32) : ((x.toInt64 * 1103515245 + 12345) &&& 2147483647).toInt32 = rnd x := rfl
theorem rnd_n (x : Int32) : ∃ r, r < 2 ^ 31 ∧ rnd x = nI r := by
  have key : ∀ y : Int64, ∃ r, r < 2 ^ 31 ∧ (y &&& 2147483647) = lN r := by
    intro y
    refine ⟨(y.toBitVec &&& 2147483647#64).toNat, ?_, ?_⟩
    · rw [BitVec.toNat_and]
      exact Nat.lt_of_le_of_lt Nat.and_le_right (by decide)
    · apply Int64.toBitVec_inj.mp
      show y.toBitVec &&& 2147483647#64 = BitVec.ofNat 64 _
      rw [BitVec.ofNat_toNat, BitVec.setWidth_eq]
  obtain ⟨r, hr, e1⟩ := key (x.toInt64 * 1103515245 + 12345)
  refine ⟨r, hr, ?_⟩
  unfold rnd
  rw [e1, lN_i]
/-- who lingers otherwise by the draw, and how long -/
def drI (r n : Int32) : Int32 := r / 65536 - r / 65536 / n * n
def drV (r : Int32) : Int32 := r / 128 - r / 128 / 61 * 61
def drT (t : Nat → Int32) : Nat → Int32 := if 0 < t 0 then up1 (up1 t 6 (rnd (t 6))) (9 + 5 * (drI (rnd (t 6)) (t 0)).toNatClampNeg) (drV (rnd (t 6))) else up1 t 6 (rnd (t 6))
theorem drI_n {x : Int32} {n : Nat} (hn : 0 < n) (h6 : n ≤ 6) : ∃ p, p < n ∧ drI (rnd x) (nI n) = nI p := by
  obtain ⟨r, hr, e1⟩ := rnd_n x
  unfold drI
  rw [e1, show (65536 : Int32) = nI 65536 from rfl, pk_div hr (by omega) (by omega), pk_rem (Nat.lt_of_le_of_lt (Nat.div_le_self _ _) hr) hn (by omega)]
  exact ⟨_, Nat.mod_lt _ hn, rfl⟩
theorem drV_n {x : Int32} : ∃ k, k ≤ 60 ∧ drV (rnd x) = nI k := by
  obtain ⟨r, hr, e1⟩ := rnd_n x
  unfold drV
  rw [e1, show (128 : Int32) = nI 128 from rfl, show (61 : Int32) = nI 61 from rfl, pk_div hr (by omega) (by omega), pk_rem (Nat.lt_of_le_of_lt (Nat.div_le_self _ _) hr) (by omega) (by omega)]
  exact ⟨_, by have := Nat.mod_lt (r / 128) (show 61 > 0 by omega); omega, rfl⟩
theorem rnd_p (x : Int32) : ¬ rnd x < 0 := by
  obtain ⟨r, hr, e1⟩ := rnd_n x
  rw [e1]; exact nI_pos hr
theorem ok_drT {t : Nat → Int32} {n m d : Nat} (ok : Ok t n m d) : Ok (drT t) n m d := by
  unfold drT
  have o1 := ok.setD (rnd_p (t 6))
  have h6 := ok.n6
  by_cases h : 0 < t 0
  · rw [if_pos h]
    have hn : 0 < n := by
      rw [ok.hn] at h
      exact (nI_ltI (a := 0) (by omega) (by omega)).mp h
    obtain ⟨p, hp, e1⟩ := drI_n (x := t 6) hn h6
    obtain ⟨k, hk, e2⟩ := drV_n (x := t 6)
    rw [ok.hn, e1, e2, nI_clamp (by omega)]
    exact o1.setL (by omega) rfl hk
  · rw [if_neg h]; exact o1
theorem wy_drT {t : Nat → Int32} {n : Nat} (h : Wy t n) : Wy (drT t) n := by
  unfold drT
  split
  · exact wy_up (wy_up h (fun p _ => by omega)) (fun p _ => by omega)
  · exact wy_up h (fun p _ => by omega)
def drS (σ : Sg) : Sg := (goes (drT σ.1) (plc (drT σ.1)), (notS σ).2)
def drN : Nat → Sg → Sg
  | 0, σ => σ
  | j + 1, σ => drN j (drS σ)
theorem ok_drS {σ : Sg} {n m d : Nat} (hO : OkG σ) (ok : Ok σ.1 n m d) (hd : d + 1 ≤ 9999) : OkG (drS σ) ∧ Ok (drS σ).1 n m (d + 1) := by
  obtain ⟨⟨n', m', d', ok', hd', hw, hu, hU⟩, h2⟩ := hO
  have en : n' = n := by
    have := ok'.n6; have := ok.n6
    exact (nI_eq (by omega) (by omega)).mp (ok'.hn.symm.trans ok.hn)
  have em : m' = m := by
    have := ok'.m6; have := ok.m6
    exact (nI_eq (by omega) (by omega)).mp (ok'.hm.symm.trans ok.hm)
  subst en; subst em
  have od := ok_drT ok
  have hg := ok_goes (c := plc (drT σ.1)) od (by omega)
  refine ⟨⟨?_, h2⟩, hg⟩
  refine okV_note ok (by omega) hu hU hg hd ?_
  intro p hp
  have h6 := ok.n6
  have : goes (drT σ.1) (plc (drT σ.1)) (8 + 5 * p) = drT σ.1 (8 + 5 * p) := by
    unfold goes
    rw [up1_ne (by omega), up1_ne (by omega), up1_ne (by omega), judd_ne od (fun q _ => by omega)]
  show ∃ k, k < 100 ∧ goes (drT σ.1) (plc (drT σ.1)) (8 + 5 * p) = nI k
  rw [this]; exact wy_drT hw p hp
noncomputable def drF (a1 : Int32) (σ : Sg) : Int32 × Sg := @ite _ (inl a1.toInt64 1 40) (Classical.propDecidable _)
  (if 9999 < σ.1 2 + a1 then (-3, σ) else ((drN a1.toNatClampNeg σ).1 4 - σ.1 4, drN a1.toNatClampNeg σ)) (-1, σ)
theorem c_drLoop {y3 : Int32} {Q : Po} {N n m : Nat} (hN : N ≤ 40) : ∀ j k {e : En} {I : Nat → Nat → Int32} {G : Nat → Nat → Int64} {σ : Sg} {d : Nat}, k + j = N → CR σ e I G → OkG σ → Ok σ.1 n m d → d + j ≤ 9999 → (∀ e' I' G', CR (drN j σ) e' I' G' → keepC e I G e' I' G' → Q (.returned (some (.int ((drN j σ).1 4 - y3)))) (mX e' I' G')) →
    Rn 38 23 [some (.ref 0), some (.int (nI N)), none, some (.int y3), some (.int (nI k))] [] (0, 0) (mX e I G) Q := by
  intro j
  induction j with
  | zero =>
    intro k e I G σ d hk hC hO ok hd hQ
    have : k = N := by omega
    subst this
    refine g_X0_drift_23 (fun h => absurd h (nI_nlt (Nat.le_refl _) (by omega))) (fun _ => ?_)
    rw [show I 7 11 = twn I 7 4 from rfl, hC.2.1]
    exact hQ e I G hC keepC.rf
  | succ j ih =>
    intro k e I G σ d hk hC hO ok hd hQ
    have h6 := ok.n6
    refine g_X0_drift_23 (fun _ => ?_) (fun h => absurd (nI_lt (by omega) (by omega)) h)
    refine c_noteS hC fun e1 I1 h1 k1 t1 => ?_
    have d6 : I1 7 13 = σ.1 6 := by rw [← t1]; rfl
    have d0 : I1 7 7 = σ.1 0 := by rw [← t1]; rfl
    -- the day, behind the draw
    have go : ∀ I2, twn I2 7 = drT σ.1 → fr 7 14 I1 I2 → Rn 33 0 [some (.ref 0), some (.int (cnwE I2)), none] [] (0, 0) (mX e1 I2 G) (fun o X' => conF Rn 38 117 33 [some (.ref 0), some (.int (nI N)), none, some (.int y3), some (.int (nI k))] [] (0, 0) X' Q o) := by
      intro I2 t2 f2
      have od : Ok (twn I2 7) n m d := by rw [t2]; exact ok_drT ok
      rw [cnw_plc]
      refine c_oneDay od (ok_plc od) fun I3 t3 f3 => g_X0_drift_120 ?_
      rw [nI_1]
      have hs : CR (drS σ) e1 I3 G := h1.town (by rw [t3, t2]) (f2.tr f3)
      obtain ⟨o1, o2⟩ := ok_drS hO ok (by omega)
      exact ih (k + 1) (by omega) hs o1 o2 (by omega) fun e' I' G' c' k' => hQ e' I' G' c' ((k1.tr ((f2.tr f3).kC (by omega))).tr k')
    have n0 : 0 < I1 7 7 → 0 < n := fun h => by
      rw [d0, ok.hn] at h
      exact (nI_ltI (a := 0) (by omega) (by omega)).mp h
    have ix : 0 < I1 7 7 → ∃ p, p < n ∧ rnd (I1 7 13) / 65536 - rnd (I1 7 13) / 65536 / I1 7 7 * I1 7 7 = nI p ∧ drI (rnd (σ.1 6)) (σ.1 0) = nI p := fun h => by
      obtain ⟨p, hp, e2⟩ := drI_n (x := σ.1 6) (n0 h) h6
      refine ⟨p, hp, ?_, ?_⟩
      · rw [d6, d0, ok.hn]; exact e2
      · rw [ok.hn]; exact e2
    refine g_X0_drift_33 (fun h => ?_) (fun h => ?_) (fun h => ?_) (fun h => ?_)
    · rw [d0, ok.hn]; exact nI_ne0 (n0 h) (by omega)
    · obtain ⟨p, hp, e2, -⟩ := ix h
      rw [rndE, e2]; exact vp_in_nI (by omega) (by omega)
    · obtain ⟨p, hp, e2, e3⟩ := ix h
      rw [rndE, e2, nI_clamp (by omega)]
      refine go _ ?_ ((fr.rf.up (by omega) (by omega)).up (by omega) (by omega))
      rw [(twn_upk (show p < 6 by omega)).2.2.1 rfl, twn_f.2.2.2.2.2.2, t1]
      unfold drT
      rw [if_pos (by rw [← d0]; exact h), e3, nI_clamp (by omega), d6]
      rfl
    · rw [rndE]
      refine go _ ?_ (fr.rf.up (by omega) (by omega))
      rw [twn_f.2.2.2.2.2.2, t1]
      unfold drT
      rw [if_neg (by rw [← d0]; exact h), d6]
theorem c_drift (a1 : Int32) : oC 38 [some (.ref 0), some (.int a1), none, none, none] (drF a1) := by
  intro e I G Q σ hC hO hQ
  obtain ⟨⟨n, m, d, ok, hd, -⟩, -⟩ := id hO
  have h7 : twn I 7 = σ.1 := hC.2.1
  have e2 : I 7 12 = σ.1 2 := by rw [← h7]; rfl
  unfold drF at hQ
  refine g_X0_drift_0 (g_X0_lacksTime_0 (fun h => ?_) (fun h1 h2 => ?_) (fun h1 h2 => ?_))
  · rw [if_neg h] at hQ
    exact g_X0_drift_5 (fun _ => hQ e I G hC keepC.rf) (fun h => absurd (by decide) h)
  · rw [e2] at h2
    rw [if_pos h1, if_pos h2] at hQ
    exact g_X0_drift_5 (fun _ => hQ e I G hC keepC.rf) (fun h => absurd (by decide) h)
  · rw [e2] at h2
    rw [if_pos h1, if_neg h2] at hQ
    obtain ⟨k, hk1, hk2, rfl⟩ := inR (lo := 1) (hi := 40) h1
    rw [nI_clamp (by omega)] at hQ
    rw [ok.hd, lt_day hd hk2] at h2
    refine g_X0_drift_5 (fun h => absurd h (by decide)) (fun _ => ?_)
    rw [show I 7 11 = twn I 7 4 from rfl, h7]
    exact c_drLoop hk2 k 0 (by omega) hC hO ok (by omega) hQ
theorem m_drLoop {y3 : Int32} {e : En} {Q : Po} {N n m : Nat} (hN : N ≤ 40) : ∀ j k {I : Nat → Nat → Int32} {G : Nat → Nat → Int64} {σ : Sg} {d : Nat}, k + j = N → MR σ I G → OkG σ → Ok σ.1 n m d → d + j ≤ 9999 → (∀ I' G', MR (drN j σ) I' G' → keepM I G I' G' → Q (.returned (some (.int ((drN j σ).1 4 - y3)))) (mX e I' G')) →
    Rn 129 35 [some (.ref 179), some (.int (nI N)), some (.int (σ.1 4 - y3)), some (.int (nI k))] [] (0, 0) (mX e I G) Q := by
  intro j
  induction j with
  | zero =>
    intro k I G σ d hk hC hO ok hd hQ
    have : k = N := by omega
    subst this
    exact g_X9_drift_35 (fun h => absurd h (nI_nlt (Nat.le_refl _) (by omega))) (fun _ => hQ I G hC keepM.rf)
  | succ j ih =>
    intro k I G σ d hk hC hO ok hd hQ
    have h6 := ok.n6
    refine g_X9_drift_35 (fun _ => ?_) (fun h => absurd (nI_lt (by omega) (by omega)) h)
    refine m_noteS hC fun I1 h1 k1 t1 => ?_
    have d6 : I1 180 6 = σ.1 6 := by rw [← t1]; rfl
    have d0 : I1 180 0 = σ.1 0 := by rw [← t1]; rfl
    have t4 : drT σ.1 4 = σ.1 4 := by
      unfold drT
      split
      · rw [up1_ne (by omega), up1_ne (by omega)]
      · rw [up1_ne (by omega)]
    have go : ∀ I2, nw I2 = drT σ.1 → fr 180 180 I1 I2 → Rn 124 0 [some (.ref 179), some (.int (plcE I2)), none, none] [] (0, 0) (mX e I2 G) (fun o X' => conF Rn 129 130 124 [some (.ref 179), some (.int (nI N)), none, some (.int (nI k))] [.int (σ.1 4 - y3)] (0, 0) X' Q o) := by
      intro I2 t2 f2
      have od : Ok (nw I2) n m d := by rw [t2]; exact ok_drT ok
      rw [plc_E]
      refine m_goesBy od (ok_plc od) fun I3 t3 f3 => g_X9_drift_133 ?_
      rw [t2] at t3 ⊢
      rw [nI_1, sub_add', ← t4]
      have hs : MR (drS σ) I3 G := h1.town t3 (f2.tr f3)
      obtain ⟨o1, o2⟩ := ok_drS hO ok (by omega)
      exact ih (k + 1) (σ := drS σ) (by omega) hs o1 o2 (by omega) fun I' G' c' k' => hQ I' G' c' ((k1.tr ((f2.tr f3).kM (by omega) (by omega))).tr k')
    have n0 : 0 < I1 180 0 → 0 < n := fun h => by
      rw [d0, ok.hn] at h
      exact (nI_ltI (a := 0) (by omega) (by omega)).mp h
    have ix : 0 < I1 180 0 → ∃ p, p < n ∧ rnd (I1 180 6) / 65536 - rnd (I1 180 6) / 65536 / I1 180 0 * I1 180 0 = nI p ∧ drI (rnd (σ.1 6)) (σ.1 0) = nI p := fun h => by
      obtain ⟨p, hp, e2⟩ := drI_n (x := σ.1 6) (n0 h) h6
      refine ⟨p, hp, ?_, ?_⟩
      · rw [d6, d0, ok.hn]; exact e2
      · rw [ok.hn]; exact e2
    refine g_X9_drift_44 (fun h => ?_) (fun h => ?_) (fun h => ?_) (fun h => ?_)
    · rw [d0, ok.hn]; exact nI_ne0 (n0 h) (by omega)
    · obtain ⟨p, hp, e2, -⟩ := ix h
      rw [rndE, e2]; exact vi7 (w := 2) (by omega) (by omega)
    · obtain ⟨p, hp, e2, e3⟩ := ix h
      rw [rndE, e2, (ixw (show p < 6 by omega)).2.1]
      refine go _ ?_ ((fr.rf.up (by omega) (by omega)).up (by omega) (by omega))
      rw [nw_up (by omega), nw_up (by omega), t1]
      unfold drT
      rw [if_pos (by rw [← d0]; exact h), e3, nI_clamp (by omega), d6]
      rfl
    · rw [rndE]
      refine go _ ?_ (fr.rf.up (by omega) (by omega))
      rw [nw_up (by omega), t1]
      unfold drT
      rw [if_neg (by rw [← d0]; exact h), d6]
theorem m_drift (a1 : Int32) : oM 129 [some (.ref 179), some (.int a1), none, none] (drF a1) := by
  intro e I G Q σ hC hO hQ
  obtain ⟨⟨n, m, d, ok, hd, -⟩, -⟩ := id hO
  have h7 : nw I = σ.1 := hC.2.1
  have e2 : I 180 2 = σ.1 2 := by rw [← h7]; rfl
  unfold drF at hQ
  refine g_X9_drift_0 (fun h => ?_) (fun h1 h2 => ?_) (fun h1 h2 => ?_)
  · rw [if_neg h] at hQ; exact hQ I G hC keepM.rf
  · rw [e2] at h2
    rw [if_pos h1, if_pos h2] at hQ; exact hQ I G hC keepM.rf
  · rw [e2] at h2
    rw [if_pos h1, if_neg h2] at hQ
    obtain ⟨k, hk1, hk2, rfl⟩ := inR (lo := 1) (hi := 40) h1
    rw [nI_clamp (by omega)] at hQ
    rw [ok.hd, lt_day hd hk2] at h2
    have := m_drLoop (y3 := σ.1 4) hk2 k 0 (by omega) hC hO ok (by omega) hQ
    rw [sub_self'] at this
    exact this
theorem ok_drN {n m : Nat} : ∀ j {σ : Sg} {d : Nat}, OkG σ → Ok σ.1 n m d → d + j ≤ 9999 → OkG (drN j σ)
  | 0, _, _, h, _, _ => h
  | j + 1, σ, d, h, ok, hd => by
    obtain ⟨o1, o2⟩ := ok_drS h ok (by omega)
    exact ok_drN j o1 o2 (by omega)
theorem k_drift (a1 : Int32) : oK (drF a1) := by
  intro σ h
  obtain ⟨⟨n, m, d, ok, hd, -⟩, -⟩ := id h
  unfold drF
  by_cases hv : inl a1.toInt64 1 40
  · rw [if_pos hv]
    by_cases h2 : 9999 < σ.1 2 + a1
    · rw [if_pos h2]; exact h
    · rw [if_neg h2]
      obtain ⟨k, hk1, hk2, rfl⟩ := inR (lo := 1) (hi := 40) hv
      rw [ok.hd, lt_day hd hk2] at h2
      dsimp only
      rw [nI_clamp (by omega)]
      exact ok_drN k h ok (by omega)
  · rw [if_neg hv]; exact h
end S67
