/-! person, newCase, kin, type -/
/-- one more person -/
def addP (t : Nat → Int32) (p : Nat) (k w l : Int32) (kn : Int32) : Nat → Int32 := up1 (up1 (up1 (up1 (up1 t (7 + 5 * p) k) (8 + 5 * p) w) (9 + 5 * p) l) (10 + 5 * p) 0) (11 + 5 * p) kn
noncomputable def persF (a1 a2 : Int32) (σ : Sg) : Int32 × Sg := @ite _ (inl a1.toInt64 0 4 ∧ inl a2.toInt64 1 99) (Classical.propDecidable _)
  (if σ.1 0 = 6 then (-3, σ) else (σ.1 0, (up1 (addP σ.1 (σ.1 0).toNatClampNeg a1 a2 0 0) 0 (σ.1 0 + 1), (0, σ.2.1.2), σ.2.2))) (-1, σ)
theorem add_sub (x : Int32) : x + 1 - 1 = x := Int32.add_sub_cancel x 1
theorem or_0' (x : Int32) : x ||| 0 = x := or_0 x
section S64
variable {e : En} {G : Nat → Nat → Int64} {Q : Po}
theorem c_person (a1 a2 : Int32) : oC 1 [some (.ref 0), some (.int a1), some (.int a2)] (persF a1 a2) := by
  intro e I G Q σ hC hO hQ
  obtain ⟨⟨n, m, d, ok, hd, -⟩, -⟩ := hO
  have h7 : twn I 7 = σ.1 := hC.2.1
  have h6 := ok.n6
  have hn : I 7 7 = nI n := by rw [show I 7 7 = twn I 7 0 from rfl, h7]; exact ok.hn
  unfold persF at hQ
  refine g_X0_person_0 (fun h => ?_) (fun h1 h => ?_) (fun h1 h2 h => ?_) (fun h1 h2 h => ?_)
  · rw [if_neg (fun q => h q.1)] at hQ; exact hQ e I G hC keepC.rf
  · rw [if_neg (fun q => h q.2)] at hQ; exact hQ e I G hC keepC.rf
  · rw [if_pos ⟨h1, h2⟩, if_pos (by rw [← h7]; exact h)] at hQ; exact hQ e I G hC keepC.rf
  · rw [if_pos ⟨h1, h2⟩, if_neg (by rw [← h7]; exact h)] at hQ
    have hn6 : n < 6 := by
      rcases Nat.lt_or_ge n 6 with q | q
      · exact q
      · exact absurd (by rw [hn, show n = 6 by omega]; rfl) h
    refine g_X6_addPerson_7_0 (by rw [hn]; exact vp_in_nI hn6 (by omega)) (g_X0_person_50 ?_)
    rw [hn, nI_clamp (by omega)]
    have et : twn (up2 (up2 (up2 (up2 (up2 (up2 I 8 n a1) 9 n a2) 10 n 0) 11 n 0) 12 n 0) 7 7 (nI n + 1)) 7 = up1 (addP σ.1 n a1 a2 0 0) 0 (nI n + 1) := by
      rw [twn_f.1, (twn_upk hn6).2.2.2.1 rfl, (twn_upk hn6).2.2.1 rfl, (twn_upk hn6).2.2.2.2 rfl, (twn_upk hn6).2.1 rfl, (twn_upk hn6).1 rfl, h7]
      unfold addP
      rw [up1_comm (show 11 + 5 * n ≠ 9 + 5 * n by omega), up1_comm (show 11 + 5 * n ≠ 10 + 5 * n by omega)]
    have fr1 : fr 7 14 I (up2 (up2 (up2 (up2 (up2 (up2 I 8 n a1) 9 n a2) 10 n 0) 11 n 0) 12 n 0) 7 7 (nI n + 1)) := (((((fr.rf.up (by omega) (by omega)).up (by omega) (by omega)).up (by omega) (by omega)).up (by omega) (by omega)).up (by omega) (by omega)).up (by omega) (by omega)
    have hC2 := (hC.town et fr1).und0
    have e0 : σ.1 0 = nI n := ok.hn
    rw [e0, nI_clamp (by omega)] at hQ
    have := hQ e _ G hC2 ((fr1.kC (by omega)).tr ((fr.rf.up (a := 0) (b := 14) (by omega) (by omega)).kC (by omega)))
    dsimp only at this
    rw [up2_v, add_sub]
    exact this
theorem c_newCaseT {a1 a2 : Int32} {I : Nat → Nat → Int32} {m : Nat} (hm : I 7 8 = nI m) (h6 : m < 6) (hQ : ∀ I', twn I' 7 = up1 (up1 (up1 (twn I 7) (37 + 2 * m) a1) (38 + 2 * m) a2) 1 (nI (m + 1)) → fr 7 14 I I' → I' 7 8 = nI (m + 1) → Q (.returned none) (mX e I' G)) : Rn 81 0 [some (.ref 7), some (.int a1), some (.int a2)] [] (0, 0) (mX e I G) Q := by
  refine g_X6_addCase_7_0 (by rw [hm]; exact vp_in_nI h6 (by omega)) ?_
  rw [hm, nI_clamp (by omega), nI_1]
  refine hQ _ ?_ (((fr.rf.up (by omega) (by omega)).up (by omega) (by omega)).up (by omega) (by omega)) up2_v
  rw [twn_f.2.1, (twn_upc h6).2 rfl, (twn_upc h6).1 rfl]
noncomputable def caseF (a1 a2 : Int32) (σ : Sg) : Int32 × Sg := @ite _ (inl a1.toInt64 0 20 ∧ (a2 = -4 ∨ inl a2.toInt64 0 ((σ.1 0 - 1).toInt64))) (Classical.propDecidable _)
  (if σ.1 1 = 6 then (-3, σ) else (σ.1 1, (up1 (up1 (up1 σ.1 (37 + 2 * (σ.1 1).toNatClampNeg) a1) (38 + 2 * (σ.1 1).toNatClampNeg) a2) 1 (σ.1 1 + 1), (0, σ.2.1.2), σ.2.2))) (-1, σ)
theorem c_newCase (a1 a2 : Int32) : oC 3 [some (.ref 0), some (.int a1), some (.int a2)] (caseF a1 a2) := by
  intro e I G Q σ hC hO hQ
  obtain ⟨⟨n, m, d, ok, hd, -⟩, -⟩ := hO
  have h7 : twn I 7 = σ.1 := hC.2.1
  have hm6 := ok.m6
  have e1 : σ.1 1 = nI m := ok.hm
  have hm : I 7 8 = nI m := by rw [show I 7 8 = twn I 7 1 from rfl, h7]; exact ok.hm
  have e0 : I 7 7 = σ.1 0 := by rw [← h7]; rfl
  unfold caseF at hQ
  have full : inl a1.toInt64 0 20 → (a2 = -4 ∨ inl a2.toInt64 0 ((σ.1 0 - 1).toInt64)) → I 7 8 = 6 → Q (.returned (some (.int (-3)))) (mX e I G) := by
    intro h1 h2 h3
    rw [if_pos ⟨h1, h2⟩, if_pos (by rw [e1, ← hm]; exact h3)] at hQ; exact hQ e I G hC keepC.rf
  have good : inl a1.toInt64 0 20 → (a2 = -4 ∨ inl a2.toInt64 0 ((σ.1 0 - 1).toInt64)) → ¬ I 7 8 = 6 → Rn 81 0 [some (.ref 7), some (.int a1), some (.int a2)] [] (0, 0) (mX e I G) (fun o X' => conF Rn 3 49 81 [some (.ref 0), none, none] [] (0, 0) X' Q o) := by
    intro h1 h2 h3
    rw [if_pos ⟨h1, h2⟩, if_neg (by rw [e1, ← hm]; exact h3)] at hQ
    have h6 : m < 6 := by
      rcases Nat.lt_or_ge m 6 with q | q
      · exact q
      · exact absurd (by rw [hm, show m = 6 by omega]; rfl) h3
    refine c_newCaseT hm h6 fun I' t' f' h8 => g_X0_newCase_52 ?_
    rw [e1, nI_clamp (by omega)] at hQ
    have et : twn I' 7 = up1 (up1 (up1 σ.1 (37 + 2 * m) a1) (38 + 2 * m) a2) 1 (nI m + 1) := by rw [t', h7, nI_1]
    have := hQ e _ G (hC.town et f').und0 ((f'.kC (by omega)).tr ((fr.rf.up (a := 0) (b := 14) (by omega) (by omega)).kC (by omega)))
    dsimp only at this
    rw [h8, nI_pred]
    exact this
  refine g_X0_newCase_0 (fun h => ?_) (fun h1 h2 h3 => full h1 (Or.inl h2) h3) (fun h1 h2 h3 => good h1 (Or.inl h2) h3) (fun h1 h2 h3 => ?_) (fun h1 _ h3 h4 => full h1 (Or.inr (by rw [← e0]; exact h3)) h4) (fun h1 _ h3 h4 => good h1 (Or.inr (by rw [← e0]; exact h3)) h4)
  · rw [if_neg (fun q => h q.1)] at hQ; exact hQ e I G hC keepC.rf
  · rw [if_neg (fun q => q.2.elim h2 (by rw [← e0]; exact h3))] at hQ; exact hQ e I G hC keepC.rf
/-- the kin that a newcomer is told of are told of it -/
def kinL (t : Nat → Int32) (p : Nat) (kn : Int32) : Nat → Nat → Int32
  | 0 => t
  | q + 1 => up1 (kinL t p kn q) (11 + 5 * q) (t (11 + 5 * q) ||| (((kn >>> (nI q &&& 31)) &&& 1) <<< (nI p &&& 31)))
theorem kinL_ne {t : Nat → Int32} {p : Nat} {kn : Int32} {j : Nat} : ∀ {k}, (∀ q, q < k → j ≠ 11 + 5 * q) → kinL t p kn k j = t j
  | 0, _ => rfl
  | k + 1, h => by
    unfold kinL
    rw [up1_ne (h k (by omega))]
    exact kinL_ne (fun q hq => h q (by omega))
theorem ix7' : ∀ p, p < 6 → (¬ ((7 + 5 * nI p) < 0 ∨ 49 ≤ (7 + 5 * nI p).toNatClampNeg) ∧ (7 + 5 * nI p).toNatClampNeg = 7 + 5 * p) := by decide +kernel
theorem ixw {p : Nat} (hp : p < 6) : ((7 + 5 * nI p) + 1 : Int32).toNatClampNeg = 8 + 5 * p ∧ ((7 + 5 * nI p) + 2 : Int32).toNatClampNeg = 9 + 5 * p ∧ ((7 + 5 * nI p) + 3 : Int32).toNatClampNeg = 10 + 5 * p ∧ ((7 + 5 * nI p) + 4 : Int32).toNatClampNeg = 11 + 5 * p := by
  refine ⟨?_, ?_, ?_, ?_⟩
  · rw [show 8 + 5 * p = 7 + 5 * p + 1 by omega]; exact (ix7 p hp 1 (by omega)).2
  · rw [show 9 + 5 * p = 7 + 5 * p + 2 by omega]; exact (ix7 p hp 2 (by omega)).2
  · rw [show 10 + 5 * p = 7 + 5 * p + 3 by omega]; exact (ix7 p hp 3 (by omega)).2
  · rw [show 11 + 5 * p = 7 + 5 * p + 4 by omega]; exact (ix7 p hp 4 (by omega)).2
theorem m_pcLoop {p : Nat} {kn : Int32} {T : Nat → Int32} (hp : p < 6) : ∀ j q {I : Nat → Nat → Int32}, q + j = p → nw I = kinL T p kn q → (∀ I', nw I' = up1 (kinL T p kn p) 0 (kinL T p kn p 0 + 1) → I' 179 = up2 I 179 8 0 179 → (∀ k, k ≠ 179 → k ≠ 180 → I' k = I k) → Q (.returned none) (mX e I' G)) →
    Rn 97 69 [some (.ref 179), none, none, none, some (.int kn), some (.int (nI p)), none, some (.int (nI q))] [] (0, 0) (mX e I G) Q := by
  intro j
  induction j with
  | zero =>
    intro q I hq ht hQ
    have : q = p := by omega
    subst this
    refine g_X9_personComes_69 (fun h => absurd h (nI_nlt (Nat.le_refl _) (by omega))) (fun h => absurd h (nI_nlt (Nat.le_refl _) (by omega))) (fun _ => hQ _ ?_ ?_ ?_)
    · rw [nw_ne (by omega), nw_up (by omega), show I 180 0 = nw I 0 from rfl, ht]
    · funext f; unfold up2; rfl
    · intro k h1 h2; rw [up2_ne h1, up2_ne h2]
  | succ j ih =>
    intro q I hq ht hQ
    refine g_X9_personComes_69 (fun _ => vi7 (w := 4) (by omega) (by omega)) (fun _ => ?_) (fun h => absurd (nI_lt (by omega) (by omega)) h)
    rw [(ixw (show q < 6 by omega)).2.2.2, nI_1]
    have ev : I 180 (11 + 5 * q) = T (11 + 5 * q) := by
      rw [show I 180 (11 + 5 * q) = nw I (11 + 5 * q) from (cut_at (by omega)).symm, ht, kinL_ne (fun r hr => by omega)]
    rw [ev]
    refine ih (q + 1) (by omega) (by rw [nw_up (by omega), ht]; rfl) fun I' a1 a2 a3 => hQ I' a1 ?_ ?_
    · rw [a2, up2_at, up2_at, up2_ne (by omega)]
    · intro k h1 h2; rw [a3 k h1 h2, up2_ne h2]
theorem m_personComes {I : Nat → Nat → Int32} {p : Nat} {k w l kn : Int32} (hp : p < 6) (hn : I 180 0 = nI p) (hQ : ∀ I', nw I' = up1 (kinL (addP (nw I) p k w l kn) p kn p) 0 (nI (p + 1)) → I' 179 = up2 I 179 8 0 179 → (∀ q, q ≠ 179 → q ≠ 180 → I' q = I q) → Q (.returned none) (mX e I' G)) :
    Rn 97 0 [some (.ref 179), some (.int k), some (.int w), some (.int l), some (.int kn), none, none, none] [] (0, 0) (mX e I G) Q := by
  refine g_X9_personComes_0 ?_ ?_ ?_ ?_ ?_ ?_
  all_goals rw [hn]
  · exact (ix7' p hp).1
  · exact vi7 (w := 1) hp (by omega)
  · exact vi7 (w := 2) hp (by omega)
  · exact vi7 (w := 3) hp (by omega)
  · exact vi7 (w := 4) hp (by omega)
  · rw [(ix7' p hp).2, (ixw hp).1, (ixw hp).2.1, (ixw hp).2.2.1, (ixw hp).2.2.2]
    refine m_pcLoop (T := addP (nw I) p k w l kn) hp p 0 (by omega) ?_ fun I' a1 a2 a3 => hQ I' ?_ ?_ ?_
    · rw [nw_up (by omega), nw_up (by omega), nw_up (by omega), nw_up (by omega), nw_up (by omega)]
      rfl
    · rw [a1, kinL_ne (fun r hr => by omega)]
      unfold addP
      rw [up1_ne (by omega), up1_ne (by omega), up1_ne (by omega), up1_ne (by omega), up1_ne (by omega), show nw I 0 = nI p from hn, nI_1]
    · rw [a2, up2_at, up2_at, up2_ne (by omega), up2_ne (by omega), up2_ne (by omega), up2_ne (by omega), up2_ne (by omega)]
    · intro q h1 h2; rw [a3 q h1 h2, up2_ne h2, up2_ne h2, up2_ne h2, up2_ne h2, up2_ne h2]
theorem kin0_6 : ∀ q, q < 6 → ∀ p, p < 6 → (((0 : Int32) >>> (nI q &&& 31)) &&& 1) <<< (nI p &&& 31) = 0 := by decide +kernel
theorem kinL_0 {t : Nat → Int32} {p : Nat} (hp : p < 6) : ∀ {k}, k ≤ 6 → kinL t p 0 k = t
  | 0, _ => rfl
  | k + 1, h => by
    unfold kinL
    rw [kinL_0 hp (by omega), kin0_6 k (by omega) p hp, or_0, up1_same]
/-- the twin's relation, by rows -/
theorem MR.by {σ : Sg} {I I' : Nat → Nat → Int32} {G : Nat → Nat → Int64} {t' : Nat → Int32} (h : MR σ I G) (ht : nw I' = t') (h1 : I' 179 = up2 I 179 8 0 179) (hk : ∀ q, q ≠ 179 → q ≠ 180 → I' q = I q) : MR (t', (0, σ.2.1.2), σ.2.2) I' G := by
  have h0 := h.und0
  obtain ⟨a, b, c, d, g⟩ := h0
  have key : ∀ q, q ≠ 180 → I' q = up2 I 179 8 0 q := fun q hq => by
    by_cases h9 : q = 179
    · subst h9; exact h1
    · rw [up2_ne h9]; exact hk q h9 hq
  have h2 : MR (nw I', (0, σ.2.1.2), σ.2.2) I' G := by
    refine ⟨?_, rfl, ?_, ?_, ?_⟩
    · exact ⟨by rw [key 179 (by omega)]; exact a.1, a.2.1, fun k hk2 => by rw [← a.2.2 k hk2]; unfold mU; rw [key 184 (by omega)]⟩
    · rw [key 179 (by omega), key 181 (by omega)]; exact c
    · refine ⟨by rw [key 179 (by omega)]; exact d.1, fun hkp => ?_⟩
      obtain ⟨e1, e2, e3⟩ := d.2 hkp
      exact ⟨by rw [key 187 (by omega)]; exact e1, by rw [key 179 (by omega)]; exact e2, fun k hk2 => by rw [← e3 k hk2]; unfold kU; rw [key 187 (by omega)]⟩
    · intro s hs; rw [key 188 (by omega), key 189 (by omega)]; exact g s hs
  rw [ht] at h2
  exact h2
theorem m_person (a1 a2 : Int32) : oM 95 [some (.ref 179), some (.int a1), some (.int a2)] (persF a1 a2) := by
  intro e I G Q σ hC hO hQ
  obtain ⟨⟨n, m, d, ok, hd, -⟩, -⟩ := hO
  have h7 : nw I = σ.1 := hC.2.1
  have h6 := ok.n6
  have e0 : σ.1 0 = nI n := ok.hn
  have hn : I 180 0 = nI n := by rw [show I 180 0 = nw I 0 from rfl, h7]; exact e0
  unfold persF at hQ
  refine g_X9_person_0 (fun h => ?_) (fun h1 h => ?_) (fun h1 h2 h => ?_) (fun h1 h2 h => ?_)
  · rw [if_neg (fun q => h q.1)] at hQ; exact hQ I G hC keepM.rf
  · rw [if_neg (fun q => h q.2)] at hQ; exact hQ I G hC keepM.rf
  · rw [if_pos ⟨h1, h2⟩, if_pos (by rw [← h7]; exact h)] at hQ; exact hQ I G hC keepM.rf
  · rw [if_pos ⟨h1, h2⟩, if_neg (by rw [← h7]; exact h)] at hQ
    have hn6 : n < 6 := by
      rcases Nat.lt_or_ge n 6 with q | q
      · exact q
      · exact absurd (by rw [hn, show n = 6 by omega]; rfl) h
    refine m_personComes hn6 hn fun I' t' b1 b2 => g_X9_person_48 ?_
    rw [kinL_0 hn6 (by omega), h7] at t'
    rw [e0, nI_clamp (by omega)] at hQ
    have := hQ I' G (hC.by (t' := up1 (addP σ.1 n a1 a2 0 0) 0 (nI n + 1)) (by rw [t', nI_1]) b1 b2) (fun k hk => ⟨b2 k (by omega) (by omega), rfl⟩)
    dsimp only at this
    rw [show I' 180 0 = nw I' 0 from rfl, t', up1_at, nI_pred]
    exact this
theorem m_caseComes {I : Nat → Nat → Int32} {m : Nat} {a1 a2 : Int32} (hm : m < 6) (h1 : I 180 1 = nI m) (hQ : ∀ I', nw I' = up1 (up1 (up1 (nw I) (37 + 2 * m) a1) (38 + 2 * m) a2) 1 (nI (m + 1)) → I' 179 = up2 I 179 8 0 179 → (∀ q, q ≠ 179 → q ≠ 180 → I' q = I q) → Q (.returned none) (mX e I' G)) :
    Rn 100 0 [some (.ref 179), some (.int a1), some (.int a2)] [] (0, 0) (mX e I G) Q := by
  have i1 : (37 + 2 * nI m + 1 : Int32).toNatClampNeg = 38 + 2 * m := by rw [show 38 + 2 * m = 37 + 2 * m + 1 by omega]; exact (ix37 m hm 1 (by omega)).2
  refine g_X9_caseComes_0 ?_ ?_ ?_
  · rw [h1]; exact (ix37' m hm).1
  · rw [h1, (ix37' m hm).2, up2_i (by omega), h1]; exact vi37 (w := 1) hm (by omega)
  · rw [h1, (ix37' m hm).2, up2_i (show (1 : Nat) ≠ 37 + 2 * m by omega), h1, i1, up2_i (show (1 : Nat) ≠ 38 + 2 * m by omega), up2_i (show (1 : Nat) ≠ 37 + 2 * m by omega), h1, nI_1]
    refine hQ _ ?_ ?_ ?_
    · rw [nw_ne (by omega), nw_up (by omega), nw_up (by omega), nw_up (by omega)]
    · funext f; unfold up2; rfl
    · intro q h2 h3; rw [up2_ne h2, up2_ne h3, up2_ne h3, up2_ne h3]
theorem m_newCase (a1 a2 : Int32) : oM 98 [some (.ref 179), some (.int a1), some (.int a2)] (caseF a1 a2) := by
  intro e I G Q σ hC hO hQ
  obtain ⟨⟨n, m, d, ok, hd, -⟩, -⟩ := hO
  have h7 : nw I = σ.1 := hC.2.1
  have hm6 := ok.m6
  have e1 : σ.1 1 = nI m := ok.hm
  have hm : I 180 1 = nI m := by rw [show I 180 1 = nw I 1 from rfl, h7]; exact ok.hm
  have e0 : I 180 0 = σ.1 0 := by rw [← h7]; rfl
  unfold caseF at hQ
  have full : inl a1.toInt64 0 20 → (a2 = -4 ∨ inl a2.toInt64 0 ((σ.1 0 - 1).toInt64)) → I 180 1 = 6 → Q (.returned (some (.int (-3)))) (mX e I G) := by
    intro h1 h2 h3
    rw [if_pos ⟨h1, h2⟩, if_pos (by rw [e1, ← hm]; exact h3)] at hQ; exact hQ I G hC keepM.rf
  have good : inl a1.toInt64 0 20 → (a2 = -4 ∨ inl a2.toInt64 0 ((σ.1 0 - 1).toInt64)) → ¬ I 180 1 = 6 → Rn 100 0 [some (.ref 179), some (.int a1), some (.int a2)] [] (0, 0) (mX e I G) (fun o X' => conF Rn 98 45 100 [some (.ref 179), none, none] [] (0, 0) X' Q o) := by
    intro h1 h2 h3
    rw [if_pos ⟨h1, h2⟩, if_neg (by rw [e1, ← hm]; exact h3)] at hQ
    have h6 : m < 6 := by
      rcases Nat.lt_or_ge m 6 with q | q
      · exact q
      · exact absurd (by rw [hm, show m = 6 by omega]; rfl) h3
    refine m_caseComes h6 hm fun I' t' b1 b2 => g_X9_newCase_48 ?_
    rw [e1, nI_clamp (by omega)] at hQ
    have := hQ I' G (hC.by (t' := up1 (up1 (up1 σ.1 (37 + 2 * m) a1) (38 + 2 * m) a2) 1 (nI m + 1)) (by rw [t', h7, nI_1]) b1 b2) (fun k hk => ⟨b2 k (by omega) (by omega), rfl⟩)
    dsimp only at this
    rw [show I' 180 1 = nw I' 1 from rfl, t', up1_at, nI_pred]
    exact this
  refine g_X9_newCase_0 (fun h => ?_) (fun h1 h2 h3 => full h1 (Or.inl h2) h3) (fun h1 h2 h3 => good h1 (Or.inl h2) h3) (fun h1 h2 h3 => ?_) (fun h1 _ h3 h4 => full h1 (Or.inr (by rw [← e0]; exact h3)) h4) (fun h1 _ h3 h4 => good h1 (Or.inr (by rw [← e0]; exact h3)) h4)
  · rw [if_neg (fun q => h q.1)] at hQ; exact hQ I G hC keepM.rf
  · rw [if_neg (fun q => q.2.elim h2 (by rw [← e0]; exact h3))] at hQ; exact hQ I G hC keepM.rf
end S64
