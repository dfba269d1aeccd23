/-! the simple ones: of, at, count, door, seed, type -/
theorem CR.town {σ : Sg} {e : En} {I I' : Nat → Nat → Int32} {G : Nat → Nat → Int64} {t' : Nat → Int32} (h : CR σ e I G) (ht : twn I' 7 = t') (f : fr 7 14 I I') : CR (t', σ.2) e I' G := by
  have h2 : CR (twn I 7, σ.2) e I G := by
    obtain ⟨a, b, c⟩ := h
    exact ⟨a, rfl, c⟩
  have h3 : CR (twn I' 7, σ.2) e I' G := by
    obtain ⟨⟨π, a⟩, b, c, ⟨d1, d2⟩, g⟩ := h2
    refine ⟨⟨π, cUn_con a (by rw [f 0 (by omega)]) (fun k ⟨q, a1, a2, a3⟩ => f k (by omega))⟩, rfl, by rw [f 0 (by omega), f 16 (by omega)]; exact c, ⟨by rw [f 0 (by omega)]; exact d1, fun hkp => ?_⟩, shC_con g (fun k hk => f k (by omega)) (fun _ _ => rfl)⟩
    obtain ⟨e1, e2, e3, e4⟩ := d2 hkp
    refine ⟨by rw [f.twn (by omega)]; exact e1, by rw [f 0 (by omega)]; exact e2, e3, fun k hk2 => ?_⟩
    rw [f.twn (by omega)]
    exact e4 k hk2
  rw [ht] at h3
  exact h3
theorem CR.und0 {σ : Sg} {e : En} {I : Nat → Nat → Int32} {G : Nat → Nat → Int64} (h : CR σ e I G) : CR (σ.1, (0, σ.2.1.2), σ.2.2) e (up2 I 0 8 0) G := by
  obtain ⟨⟨π, a⟩, b, c, ⟨d1, d2⟩, g⟩ := h
  refine ⟨⟨π, a.1, up2_v, Nat.zero_le _, fun k hk => absurd hk (Nat.not_lt_zero _)⟩, by rw [twn_ne (by omega)]; exact b, ?_, ⟨?_, fun hkp => ?_⟩, shC_con g (fun k hk => up2_ne (by omega)) (fun _ _ => rfl)⟩
  · rw [up2_i (by omega), up2_ne (by omega)]; exact c
  · rw [up2_i (by omega)]; exact d1
  · obtain ⟨e1, e2, e3, e4⟩ := d2 hkp
    refine ⟨by rw [twn_ne (by omega)]; exact e1, by rw [up2_i (by omega)]; exact e2, e3, fun k hk2 => ?_⟩
    rw [twn_ne (by omega)]; exact e4 k hk2
theorem MR.town {σ : Sg} {I I' : Nat → Nat → Int32} {G : Nat → Nat → Int64} {t' : Nat → Int32} (h : MR σ I G) (ht : nw I' = t') (f : fr 180 180 I I') : MR (t', σ.2) I' G := by
  obtain ⟨⟨a1, a2, a3⟩, b, c, ⟨d1, d2⟩, g⟩ := h
  have e9 := f 179 (by omega)
  refine ⟨⟨by rw [e9]; exact a1, a2, fun k hk => ?_⟩, ht, by rw [e9, f 181 (by omega)]; exact c, ⟨by rw [e9]; exact d1, fun hkp => ?_⟩, fun s hs => ?_⟩
  · rw [← a3 k hk]; unfold mU; rw [f 184 (by omega)]
  · obtain ⟨e1, e2, e3⟩ := d2 hkp
    refine ⟨by rw [f 187 (by omega)]; exact e1, by rw [e9]; exact e2, fun k hk => ?_⟩
    rw [← e3 k hk]; unfold kU; rw [f 187 (by omega)]
  · rw [f 188 (by omega), f 189 (by omega)]; exact g s hs
theorem MR.und0 {σ : Sg} {I : Nat → Nat → Int32} {G : Nat → Nat → Int64} (h : MR σ I G) : MR (σ.1, (0, σ.2.1.2), σ.2.2) (up2 I 179 8 0) G := by
  obtain ⟨⟨a1, a2, a3⟩, b, c, ⟨d1, d2⟩, g⟩ := h
  refine ⟨⟨up2_v, Nat.zero_le _, fun k hk => absurd hk (Nat.not_lt_zero _)⟩, by rw [nw_ne (by omega)]; exact b, ?_, ⟨?_, fun hkp => ?_⟩, fun s hs => ?_⟩
  · rw [up2_i (by omega), up2_ne (by omega)]; exact c
  · rw [up2_i (by omega)]; exact d1
  · obtain ⟨e1, e2, e3⟩ := d2 hkp
    refine ⟨by rw [up2_ne (by omega)]; exact e1, by rw [up2_i (by omega)]; exact e2, fun k hk => ?_⟩
    rw [← e3 k hk]; unfold kU; rw [up2_ne (by omega)]
  · rw [up2_ne (by omega), up2_ne (by omega)]; exact g s hs
theorem l6 {a : Int32} (h : a < 0 ∨ nI 6 ≤ a) : ¬ inl a.toInt64 0 5 := fun q => by
  obtain ⟨k, -, hk, rfl⟩ := inR (lo := 0) (hi := 5) q
  rcases h with h | h
  · exact nI_pos (by omega) h
  · have := (nI_leI (by omega) (by omega)).mp h; omega
def ofR (t : Nat → Int32) (p : Nat) (a2 : Int32) : Int32 := if a2 = 5 then late t 0 p else t (7 + 5 * p + a2.toNatClampNeg)
theorem c_of (a1 a2 : Int32) : qC 7 [some (.ref 0), some (.int a1), some (.int a2)] (fun t => inl a1.toInt64 0 ((t 0 - 1).toInt64) ∧ inl a2.toInt64 0 5) (fun t => ofR t a1.toNatClampNeg a2) := by
  intro e I G Q n m d ok hd hb hQ
  dsimp only at hb hQ
  have h6 := ok.n6
  have key : ∀ {k : Nat}, k < 6 → inl a1.toInt64 0 ((I 7 7 - 1).toInt64) → a2 = nI k → ∃ p, p < 6 ∧ a1 = nI p ∧ Q (.returned (some (.int (ofR (twn I 7) p (nI k))))) (mX e I G) := by
    intro k hk h1 h2
    subst h2
    have hq := hQ ⟨h1, inR' (lo := 0) (hi := 5) (by omega) (by omega)⟩ I rfl frC.rf
    rw [show I 7 7 = nI n from ok.hn] at h1
    obtain ⟨p, hp, rfl⟩ := isP h6 h1
    rw [nI_clamp (by omega)] at hq
    exact ⟨p, by omega, rfl, hq⟩
  refine g_X0_of_0 (fun h => hb (fun q => h q.1)) (fun _ h => hb (fun q => l6 h q.2)) ?_ ?_ ?_ ?_ ?_ ?_ ?_ ?_ ?_ ?_ ?_ ?_
  all_goals intro h1 h2
  all_goals obtain ⟨p, hp, rfl, hq⟩ := key (by omega) h1 h2
  all_goals first
    | exact vp_in_nI hp (by omega)
    | skip
  all_goals try rw [nI_clamp (by omega)]
  · have e1 : I 8 p = ofR (twn I 7) p (nI 0) := by unfold ofR; rw [if_neg (by decide), nI_clamp (by omega)]; exact ((twn_k I 7 p hp).1).symm
    rw [e1]; exact hq
  · have e1 : I 9 p = ofR (twn I 7) p (nI 1) := by unfold ofR; rw [if_neg (by decide), nI_clamp (by omega), show 7 + 5 * p + 1 = 8 + 5 * p by omega]; exact ((twn_k I 7 p hp).2.1).symm
    rw [e1]; exact hq
  · have e1 : I 11 p = ofR (twn I 7) p (nI 2) := by unfold ofR; rw [if_neg (by decide), nI_clamp (by omega), show 7 + 5 * p + 2 = 9 + 5 * p by omega]; exact ((twn_k I 7 p hp).2.2.1).symm
    rw [e1]; exact hq
  · have e1 : I 12 p = ofR (twn I 7) p (nI 3) := by unfold ofR; rw [if_neg (by decide), nI_clamp (by omega), show 7 + 5 * p + 3 = 10 + 5 * p by omega]; exact ((twn_k I 7 p hp).2.2.2.1).symm
    rw [e1]; exact hq
  · have e1 : I 10 p = ofR (twn I 7) p (nI 4) := by unfold ofR; rw [if_neg (by decide), nI_clamp (by omega), show 7 + 5 * p + 4 = 11 + 5 * p by omega]; exact ((twn_k I 7 p hp).2.2.2.2).symm
    rw [e1]; exact hq
  · have e1 : cmsE I (nI p) = ofR (twn I 7) p (nI 5) := by
      unfold ofR
      rw [if_pos (show nI 5 = 5 from rfl)]
      have := cby_late (I := I) (h := 0) hp
      rw [← this]
      unfold cbyE
      rw [if_neg (bit_0 (by omega)), Int32.add_zero]
    rw [e1]; exact hq
theorem m_of (a1 a2 : Int32) : qM 103 [some (.ref 179), some (.int a1), some (.int a2)] (fun t => inl a1.toInt64 0 ((t 0 - 1).toInt64) ∧ inl a2.toInt64 0 5) (fun t => ofR t a1.toNatClampNeg a2) := by
  intro e I G Q n m d ok hd hb hQ
  dsimp only at hb hQ
  have h6 := ok.n6
  have key : inl a1.toInt64 0 ((I 180 0 - 1).toInt64) → inl a2.toInt64 0 5 → ∃ p k, p < 6 ∧ a1 = nI p ∧ k ≤ 5 ∧ a2 = nI k ∧ Q (.returned (some (.int (ofR (nw I) p (nI k))))) (mX e I G) := by
    intro h1 h2
    have hq := hQ ⟨h1, h2⟩ I rfl frM.rf
    rw [show I 180 0 = nI n from ok.hn] at h1
    obtain ⟨p, hp, rfl⟩ := isP h6 h1
    obtain ⟨k, -, hk, rfl⟩ := inR (lo := 0) (hi := 5) h2
    rw [nI_clamp (by omega)] at hq
    exact ⟨p, k, by omega, rfl, hk, rfl, hq⟩
  refine g_X9_of_0 (fun h => hb (fun q => h q.1)) (fun _ h => hb (fun q => h q.2)) ?_ ?_ ?_ ?_ ?_
  all_goals intro h1 h2 h3
  all_goals obtain ⟨p, k, hp, rfl, hk, rfl, hq⟩ := key h1 h2
  · have := (nI_ltI (b := 5) (by omega) (by omega)).mp h3
    exact vi7 hp (by omega)
  · have h5 := (nI_ltI (b := 5) (by omega) (by omega)).mp h3
    rw [tol_at hp h5]
    unfold ofR at hq
    rw [if_neg (fun q => by have := (nI_eq (b := 5) (by omega) (by omega)).mp q; omega), nI_clamp (by omega)] at hq
    exact hq
  · exact vi7 (w := 1) hp (by omega)
  · exact vi7 (w := 2) hp (by omega)
  · have : k = 5 := by
      rcases Nat.lt_or_ge k 5 with q | q
      · exact absurd (nI_lt (b := 5) q (by omega)) h3
      · omega
    subst this
    rw [lat_late hp]
    exact hq
theorem c_at (a1 a2 : Int32) : qC 8 [some (.ref 0), some (.int a1), some (.int a2)] (fun t => inl a1.toInt64 0 ((t 1 - 1).toInt64) ∧ inl a2.toInt64 0 1) (fun t => t (37 + 2 * a1.toNatClampNeg + a2.toNatClampNeg)) := by
  intro e I G Q n m d ok hd hb hQ
  dsimp only at hb hQ
  have hm := ok.m6
  have key : inl a1.toInt64 0 ((I 7 8 - 1).toInt64) → inl a2.toInt64 0 1 → ∃ c k, c < 6 ∧ a1 = nI c ∧ k ≤ 1 ∧ a2 = nI k ∧ Q (.returned (some (.int (twn I 7 (37 + 2 * c + k))))) (mX e I G) := by
    intro h1 h2
    have hq := hQ ⟨h1, h2⟩ I rfl frC.rf
    rw [show I 7 8 = nI m from ok.hm] at h1
    obtain ⟨p, hp, rfl⟩ := isP hm h1
    obtain ⟨k, -, hk, rfl⟩ := inR (lo := 0) (hi := 1) h2
    rw [nI_clamp (by omega), nI_clamp (by omega)] at hq
    exact ⟨p, k, by omega, rfl, hk, rfl, hq⟩
  refine g_X0_at_0 (fun h => hb (fun q => h q.1)) (fun _ h => hb (fun q => h q.2)) ?_ ?_ ?_ ?_
  all_goals intro h1 h2 h3
  all_goals obtain ⟨p, k, hp, rfl, hk, rfl, hq⟩ := key h1 h2
  · exact vp_in_nI hp (by omega)
  · have : k = 0 := (nI_eq (b := 0) (by omega) (by omega)).mp h3
    subst this
    rw [nI_clamp (by omega), ← (twn_c I 7 p hp).1]; exact hq
  · exact vp_in_nI hp (by omega)
  · have : k = 1 := by
      rcases (show k = 0 ∨ k = 1 by omega) with q | q
      · exact absurd (by rw [q]; rfl) h3
      · exact q
    subst this
    rw [nI_clamp (by omega), ← (twn_c I 7 p hp).2, show 38 + 2 * p = 37 + 2 * p + 1 by omega]; exact hq
theorem m_at (a1 a2 : Int32) : qM 105 [some (.ref 179), some (.int a1), some (.int a2)] (fun t => inl a1.toInt64 0 ((t 1 - 1).toInt64) ∧ inl a2.toInt64 0 1) (fun t => t (37 + 2 * a1.toNatClampNeg + a2.toNatClampNeg)) := by
  intro e I G Q n m d ok hd hb hQ
  dsimp only at hb hQ
  have hm := ok.m6
  refine g_X9_at_0 (fun h => hb (fun q => h q.1)) (fun _ h => hb (fun q => h q.2)) ?_ ?_
  all_goals intro h1 h2
  all_goals
    have hq := hQ ⟨h1, h2⟩ I rfl frM.rf
    rw [show I 180 1 = nI m from ok.hm] at h1
    obtain ⟨p, hp, rfl⟩ := isP hm h1
    obtain ⟨k, -, hk, rfl⟩ := inR (lo := 0) (hi := 1) h2
  · exact vi37 (by omega) (by omega)
  · rw [nI_clamp (by omega), nI_clamp (by omega)] at hq
    rw [(ix37 p (by omega) k (by omega)).2, show I 180 (37 + 2 * p + k) = nw I (37 + 2 * p + k) from (cut_at (by omega)).symm]
    exact hq
def cntS (t : Nat → Int32) (u : Nat) (a1 : Int32) : Int32 := if a1 = nI 0 then t 0 else if a1 = nI 1 then t 1 else if a1 = nI 2 then t 2 else if a1 = nI 3 then t 3 else if a1 = nI 4 then t 4 else if a1 = nI 5 then plc t else if a1 = nI 6 then t 5 else if a1 = nI 7 then maySet t 0 (plc t) (t 0).toNatClampNeg else if a1 = nI 8 then nI u else -1
theorem cnt_at (t : Nat → Int32) (u : Nat) : cntS t u (nI 0) = t 0 ∧ cntS t u (nI 1) = t 1 ∧ cntS t u (nI 2) = t 2 ∧ cntS t u (nI 3) = t 3 ∧ cntS t u (nI 4) = t 4 ∧ cntS t u (nI 5) = plc t ∧ cntS t u (nI 6) = t 5 ∧ cntS t u (nI 7) = maySet t 0 (plc t) (t 0).toNatClampNeg ∧ cntS t u (nI 8) = nI u := by
  have ne : ∀ a, a < 9 → ∀ b, b < 9 → a ≠ b → ¬ nI a = nI b := by decide +kernel
  unfold cntS
  refine ⟨?_, ?_, ?_, ?_, ?_, ?_, ?_, ?_, ?_⟩
  · rw [if_pos rfl]
  · rw [if_neg (ne 1 (by omega) 0 (by omega) (by omega)), if_pos rfl]
  · rw [if_neg (ne 2 (by omega) 0 (by omega) (by omega)), if_neg (ne 2 (by omega) 1 (by omega) (by omega)), if_pos rfl]
  · rw [if_neg (ne 3 (by omega) 0 (by omega) (by omega)), if_neg (ne 3 (by omega) 1 (by omega) (by omega)), if_neg (ne 3 (by omega) 2 (by omega) (by omega)), if_pos rfl]
  · rw [if_neg (ne 4 (by omega) 0 (by omega) (by omega)), if_neg (ne 4 (by omega) 1 (by omega) (by omega)), if_neg (ne 4 (by omega) 2 (by omega) (by omega)), if_neg (ne 4 (by omega) 3 (by omega) (by omega)), if_pos rfl]
  · rw [if_neg (ne 5 (by omega) 0 (by omega) (by omega)), if_neg (ne 5 (by omega) 1 (by omega) (by omega)), if_neg (ne 5 (by omega) 2 (by omega) (by omega)), if_neg (ne 5 (by omega) 3 (by omega) (by omega)), if_neg (ne 5 (by omega) 4 (by omega) (by omega)), if_pos rfl]
  · rw [if_neg (ne 6 (by omega) 0 (by omega) (by omega)), if_neg (ne 6 (by omega) 1 (by omega) (by omega)), if_neg (ne 6 (by omega) 2 (by omega) (by omega)), if_neg (ne 6 (by omega) 3 (by omega) (by omega)), if_neg (ne 6 (by omega) 4 (by omega) (by omega)), if_neg (ne 6 (by omega) 5 (by omega) (by omega)), if_pos rfl]
  · rw [if_neg (ne 7 (by omega) 0 (by omega) (by omega)), if_neg (ne 7 (by omega) 1 (by omega) (by omega)), if_neg (ne 7 (by omega) 2 (by omega) (by omega)), if_neg (ne 7 (by omega) 3 (by omega) (by omega)), if_neg (ne 7 (by omega) 4 (by omega) (by omega)), if_neg (ne 7 (by omega) 5 (by omega) (by omega)), if_neg (ne 7 (by omega) 6 (by omega) (by omega)), if_pos rfl]
  · rw [if_neg (ne 8 (by omega) 0 (by omega) (by omega)), if_neg (ne 8 (by omega) 1 (by omega) (by omega)), if_neg (ne 8 (by omega) 2 (by omega) (by omega)), if_neg (ne 8 (by omega) 3 (by omega) (by omega)), if_neg (ne 8 (by omega) 4 (by omega) (by omega)), if_neg (ne 8 (by omega) 5 (by omega) (by omega)), if_neg (ne 8 (by omega) 6 (by omega) (by omega)), if_neg (ne 8 (by omega) 7 (by omega) (by omega)), if_pos rfl]
theorem cnt_out {t : Nat → Int32} {u : Nat} {a1 : Int32} (h : a1 < 0 ∨ nI 9 ≤ a1) : cntS t u a1 = -1 := by
  have ne : ∀ a, a < 9 → ¬ a1 = nI a := fun a ha q => by
    subst q
    rcases h with h | h
    · exact nI_pos (by omega) h
    · have := (nI_leI (by omega) (by omega)).mp h; omega
  unfold cntS
  rw [if_neg (ne 0 (by omega)), if_neg (ne 1 (by omega)), if_neg (ne 2 (by omega)), if_neg (ne 3 (by omega)), if_neg (ne 4 (by omega)), if_neg (ne 5 (by omega)), if_neg (ne 6 (by omega)), if_neg (ne 7 (by omega)), if_neg (ne 8 (by omega))]
def cntF (a1 : Int32) (σ : Sg) : Int32 × Sg := (cntS σ.1 σ.2.1.1 a1, σ)
theorem may_4 {t : Nat → Int32} {h : Int32} : ∀ n, maySet t h (-4) n = 0
  | 0 => rfl
  | n + 1 => by
    show maySet t h (-4) n ||| (if (decide (¬ (-4 : Int32) = -4) && decide (mayP t h (-4 : Int32).toNatClampNeg n)) = true then _ else 0) = 0
    rw [may_4 n, show decide (¬ (-4 : Int32) = -4) = false from by decide, Bool.false_and, if_neg Bool.false_ne_true]
    decide
theorem c_count (a1 : Int32) : oC 25 [some (.ref 0), some (.int a1)] (cntF a1) := by
  intro e I G Q σ hC hO hQ
  obtain ⟨⟨n, m, d, ok, hd, -⟩, -⟩ := hO
  have h7 : twn I 7 = σ.1 := hC.2.1
  have h8 : I 0 8 = nI σ.2.1.1 := by obtain ⟨⟨π, a⟩, -⟩ := hC; exact a.2.1
  have hq := hQ e I G hC keepC.rf
  unfold cntF at hq
  dsimp only at hq
  rw [← h7] at ok hq
  obtain ⟨c0, c1, c2, c3, c4, c5, c6, c7, c8⟩ := cnt_at (twn I 7) σ.2.1.1
  refine g_X0_count_0 (fun h => ?_) (fun h => ?_) (fun h => ?_) (fun h => ?_) (fun h => ?_) (fun h => ?_) (fun h => ?_) (fun h => ?_) (fun h h2 => ?_) (fun h h2 => ?_) (fun h => ?_)
  · rw [cnt_out h] at hq; exact hq
  all_goals subst h
  · rw [c0] at hq; exact hq
  · rw [c1] at hq; exact hq
  · rw [c2] at hq; exact hq
  · rw [c3] at hq; exact hq
  · rw [c4] at hq; exact hq
  · rw [c5] at hq; exact hq
  · rw [c6] at hq; exact hq
  · rw [c7, show plc (twn I 7) = -4 from by unfold plc; rw [if_pos (show twn I 7 1 = 0 from h2)], may_4] at hq; exact hq
  · rw [cnw_plc]
    have m0 : m ≠ 0 := fun q => h2 (by rw [show I 7 8 = nI m from ok.hm, q]; rfl)
    obtain ⟨c, hc, hp⟩ := plc_some ok m0
    rw [hp]
    refine c_judgesOf ok hc (g_X0_count_128 ?_)
    rw [c7, hp, ok.clamp] at hq
    exact hq
  · rw [c8] at hq; rw [h8]; exact hq
theorem m_count (a1 : Int32) : oM 108 [some (.ref 179), some (.int a1)] (cntF a1) := by
  intro e I G Q σ hC hO hQ
  obtain ⟨⟨n, m, d, ok, hd, -⟩, -⟩ := hO
  have h7 : nw I = σ.1 := hC.2.1
  have h8 : I 179 8 = nI σ.2.1.1 := hC.1.1
  have hq := hQ I G hC keepM.rf
  unfold cntF at hq
  dsimp only at hq
  rw [← h7] at ok hq
  obtain ⟨c0, c1, c2, c3, c4, c5, c6, c7, c8⟩ := cnt_at (nw I) σ.2.1.1
  refine g_X9_count_0 (fun h => ?_) (fun h => ?_) (fun h => ?_) (fun h => ?_) (fun h => ?_) (fun h => ?_) (fun h => ?_) (fun h => ?_) (fun h => ?_) (fun h => ?_) (fun h => ?_) (fun h => ?_) (fun h => ?_) (fun h => ?_) (fun h => ?_)
  · rw [cnt_out h] at hq; exact hq
  all_goals subst h
  · exact vp_in_nI (by omega) (by omega)
  · rw [c0] at hq; exact hq
  · exact vp_in_nI (by omega) (by omega)
  · rw [c1] at hq; exact hq
  · exact vp_in_nI (by omega) (by omega)
  · rw [c2] at hq; exact hq
  · exact vp_in_nI (by omega) (by omega)
  · rw [c3] at hq; exact hq
  · exact vp_in_nI (by omega) (by omega)
  · rw [c4] at hq; exact hq
  · rw [c5] at hq; exact hq
  · rw [c6] at hq; exact hq
  · rw [plc_E]
    refine m_mayJudge ok (ok_plc ok) (g_X9_count_79 ?_)
    rw [c7, ok.clamp] at hq
    exact hq
  · rw [c8] at hq; rw [h8]; exact hq
theorem k_count (a1 : Int32) : oK (cntF a1) := fun _ h => h
noncomputable def doorF (a1 : Int32) (σ : Sg) : Int32 × Sg := @ite _ (inl a1.toInt64 10 200) (Classical.propDecidable _) (σ.1 3, (up1 σ.1 3 a1, σ.2)) (-1, σ)
theorem c_door (a1 : Int32) : oC 11 [some (.ref 0), some (.int a1), none] (doorF a1) := by
  intro e I G Q σ hC hO hQ
  have h7 : twn I 7 = σ.1 := hC.2.1
  unfold doorF at hQ
  refine g_X0_door_0 (fun h => ?_) (fun h => ?_)
  · rw [if_neg h] at hQ; exact hQ e I G hC keepC.rf
  · rw [if_pos h] at hQ
    have := hQ e (up2 I 7 9 a1) G (hC.town (by rw [twn_f.2.2.2.1, h7]) (fr.rf.up (by omega) (by omega))) ((fr.rf.up (a := 7) (b := 14) (by omega) (by omega)).kC (by omega))
    dsimp only at this
    rw [← h7] at this
    exact this
theorem m_door (a1 : Int32) : oM 107 [some (.ref 179), some (.int a1), none] (doorF a1) := by
  intro e I G Q σ hC hO hQ
  have h7 : nw I = σ.1 := hC.2.1
  unfold doorF at hQ
  refine g_X9_door_0 (fun h => ?_) (fun h => ?_)
  · rw [if_neg h] at hQ; exact hQ I G hC keepM.rf
  · rw [if_pos h] at hQ
    have := hQ (up2 I 180 3 a1) G (hC.town (by rw [nw_up (by omega), h7]) (fr.rf.up (by omega) (by omega))) ((fr.rf.up (a := 180) (b := 180) (by omega) (by omega)).kM (by omega) (by omega))
    dsimp only at this
    rw [← h7] at this
    exact this
theorem wy_up {t : Nat → Int32} {n j : Nat} {v : Int32} (h : Wy t n) (hj : ∀ p, p < n → j ≠ 8 + 5 * p) : Wy (up1 t j v) n := fun p hp => by
  rw [up1_ne (fun q => hj p hp q.symm)]; exact h p hp
theorem k_door (a1 : Int32) : oK (doorF a1) := by
  intro σ h
  unfold doorF
  by_cases hv : inl a1.toInt64 10 200
  · rw [if_pos hv]
    obtain ⟨⟨n, m, d, ok, hd, hw, hu⟩, h2⟩ := h
    exact ⟨⟨n, m, d, ok.door, hd, wy_up hw (fun p _ => by omega), hu⟩, h2⟩
  · rw [if_neg hv]; exact h
noncomputable def seedF (a1 : Int32) (σ : Sg) : Int32 × Sg := if a1 < 0 then (-1, σ) else (σ.1 6, (up1 σ.1 6 a1, σ.2))
theorem c_seed (a1 : Int32) : oC 40 [some (.ref 0), some (.int a1), none] (seedF a1) := by
  intro e I G Q σ hC hO hQ
  have h7 : twn I 7 = σ.1 := hC.2.1
  unfold seedF at hQ
  refine g_X0_seed_0 (fun h => ?_) (fun h => ?_)
  · rw [if_pos h] at hQ; exact hQ e I G hC keepC.rf
  · rw [if_neg h] at hQ
    have := hQ e (up2 I 7 13 a1) G (hC.town (by rw [twn_f.2.2.2.2.2.2, h7]) (fr.rf.up (by omega) (by omega))) ((fr.rf.up (a := 7) (b := 14) (by omega) (by omega)).kC (by omega))
    dsimp only at this
    rw [← h7] at this
    exact this
theorem m_seed (a1 : Int32) : oM 131 [some (.ref 179), some (.int a1), none] (seedF a1) := by
  intro e I G Q σ hC hO hQ
  have h7 : nw I = σ.1 := hC.2.1
  unfold seedF at hQ
  refine g_X9_seed_0 (fun h => ?_) (fun h => ?_)
  · rw [if_pos h] at hQ; exact hQ I G hC keepM.rf
  · rw [if_neg h] at hQ
    have := hQ (up2 I 180 6 a1) G (hC.town (by rw [nw_up (by omega), h7]) (fr.rf.up (by omega) (by omega))) ((fr.rf.up (a := 180) (b := 180) (by omega) (by omega)).kM (by omega) (by omega))
    dsimp only at this
    rw [← h7] at this
    exact this
theorem Ok.setD {t : Nat → Int32} {n m d : Nat} {v : Int32} (h : Ok t n m d) (hv : ¬ v < 0) : Ok (up1 t 6 v) n m d := by
  obtain ⟨h1, h2, h3, h4, h5, h6, h7, h8, h9, h10, h11, h12, h13, h14⟩ := h
  have e : ∀ j, j ≠ 6 → up1 t 6 v j = t j := fun j hj => up1_ne hj
  refine ⟨h1, h2, ?_, ?_, ?_, h6, ?_, ?_, ?_, ?_, ?_, ?_, ?_, ?_⟩
  · rw [e 0 (by omega)]; exact h3
  · rw [e 1 (by omega)]; exact h4
  · rw [e 2 (by omega)]; exact h5
  · intro p hp; rw [e _ (by omega)]; exact h7 p hp
  · intro p hp; rw [e _ (by omega)]; exact h8 p hp
  · intro p hp; rw [e _ (by omega)]; exact h9 p hp
  · intro p q hp; rw [e _ (by omega)]; exact h10 p q hp
  · intro p q hp hq; rw [e _ (by omega), e _ (by omega)]; exact h11 p q hp hq
  · intro c hc; rw [e _ (by omega)]; exact h12 c hc
  · intro c hc; rw [e _ (by omega)]; exact h13 c hc
  · rw [up1_at]; exact hv
theorem k_seed (a1 : Int32) : oK (seedF a1) := by
  intro σ h
  unfold seedF
  by_cases hv : a1 < 0
  · rw [if_pos hv]; exact h
  · rw [if_neg hv]
    obtain ⟨⟨n, m, d, ok, hd, hw, hu⟩, h2⟩ := h
    exact ⟨⟨n, m, d, ok.setD hv, hd, wy_up hw (fun p _ => by omega), hu⟩, h2⟩
