/-! shut, best -/
/-- the door from v on: best, least -/
def shuS (t : Nat → Int32) : Nat → Nat → Int32 → Int32 → Int32 × Int32
  | 0, _, b, l => (b, l)
  | j + 1, v, b, l => if yNow (up1 t 3 (nI v)) < l then shuS t j (v + 1) (nI v) (yNow (up1 t 3 (nI v))) else shuS t j (v + 1) b l
def shuR (t : Nat → Int32) (a1 : Int32) : Int32 := if a1 = 0 then (shuS t 190 11 10 (yNow (up1 t 3 (nI 10)))).1 else (shuS t 190 11 10 (yNow (up1 t 3 (nI 10)))).2
theorem Ok.door {t : Nat → Int32} {n m d : Nat} {v : Int32} (h : Ok t n m d) : Ok (up1 t 3 v) n m d := h.congr (fun j h3 _ _ _ => up1_ne h3)
section S52
variable {e : En} {G : Nat → Nat → Int64} {Q : Po}
theorem c_shuLoop {n m d : Nat} {a1 : Int32} {t : Nat → Int32} (ok : Ok t n m d) : ∀ j v {I : Nat → Nat → Int32} (b l : Int32), v + j = 201 → (∃ w, twn I 7 = up1 t 3 w) → (∀ I', twn I' 7 = t → frC I I' → Q (.returned (some (.int (if a1 = 0 then (shuS t j v b l).1 else (shuS t j v b l).2)))) (mX e I' G)) →
    Rn 49 28 [some (.ref 0), some (.int a1), some (.int (t 3)), some (.int b), some (.int l), some (.int (nI v)), none] [] (0, 0) (mX e I G) Q := by
  intro j
  induction j with
  | zero =>
    intro v I b l hv ht hQ
    obtain ⟨w, ht⟩ := ht
    have : v = 201 := by omega
    subst this
    have et : twn (up2 I 7 9 (t 3)) 7 = t := by rw [twn_f.2.2.2.1, ht, up1_up1, up1_same]
    have hq := hQ _ et (frC.rf.up (by omega))
    refine g_X0_shut_28 (fun _ h => ?_) (fun _ h => ?_) (fun h => absurd (show 200 < nI 201 by decide) h)
    · rw [if_pos h] at hq; exact hq
    · rw [if_neg h] at hq; exact hq
  | succ j ih =>
    intro v I b l hv ht hQ
    obtain ⟨w, ht⟩ := ht
    have no : ¬ 200 < nI v := nI_nlt (a := 200) (by omega) (by omega)
    have et : twn (up2 I 7 9 (nI v)) 7 = up1 t 3 (nI v) := by rw [twn_f.2.2.2.1, ht, up1_up1]
    refine g_X0_shut_28 (fun h => absurd h no) (fun h => absurd h no) (fun _ => ?_)
    refine c_yearsNow (n := n) (m := m) (d := d) (by rw [et]; exact ok.door) (g_X0_shut_49 (fun h => ?_) (fun h => ?_))
    · rw [if_pos h]
      rw [et] at h ⊢
      rw [nI_1]
      refine ih (v + 1) _ _ (by omega) ⟨_, et⟩ fun I' t' f' => ?_
      have := hQ I' t' ((frC.rf.up (by omega)).tr f')
      rw [shuS, if_pos h] at this
      exact this
    · rw [if_neg h]
      rw [et] at h
      rw [nI_1]
      refine ih (v + 1) _ _ (by omega) ⟨_, et⟩ fun I' t' f' => ?_
      have := hQ I' t' ((frC.rf.up (by omega)).tr f')
      rw [shuS, if_neg h] at this
      exact this
theorem c_shut (a1 : Int32) : qC 49 [some (.ref 0), some (.int a1), none, none, none, none, none] (fun _ => inl a1.toInt64 0 1) (fun t => shuR t a1) := by
  intro e I G Q n m d ok hd hb hQ
  dsimp only at hb hQ
  refine g_X0_shut_0 hb (fun h1 => ?_)
  have hQ := hQ h1
  show Rn 49 28 [some (.ref 0), some (.int a1), some (.int (twn I 7 3)), some (.int 0), some (.int 2147483647), some (.int (nI 10)), none] [] (0, 0) (mX e I G) Q
  refine c_shuLoop ok 191 10 _ _ (by omega) ⟨_, up1_same.symm⟩ fun I' t' f' => ?_
  obtain ⟨k, hk, hy⟩ := yrsO_ran (h := 0) (Ok.door (v := nI 10) ok) (ok_plc (Ok.door (v := nI 10) ok))
  have hlt : yNow (up1 (twn I 7) 3 (nI 10)) < 2147483647 := by
    rw [show yNow (up1 (twn I 7) 3 (nI 10)) = nI k from hy]
    exact nI_lt (b := 2147483647) (by omega) (by omega)
  have := hQ I' t' f'
  unfold shuR at this
  rw [shuS, if_pos hlt]
  exact this
theorem m_shuLoop {n m d : Nat} {a1 : Int32} {t : Nat → Int32} (ok : Ok t n m d) : ∀ j v {I : Nat → Nat → Int32} (b l : Int32), v + j = 201 → (∃ w, nw I = up1 t 3 w) → ¬ b = -4 → (∀ I', nw I' = t → frM I I' → Q (.returned (some (.int (if a1 = 0 then (shuS t j v b l).1 else (shuS t j v b l).2)))) (mX e I' G)) →
    Rn 143 30 [some (.ref 179), some (.int a1), some (.int (t 3)), some (.int b), some (.int l), some (.int (nI v)), none, none] [] (0, 0) (mX e I G) Q := by
  intro j
  induction j with
  | zero =>
    intro v I b l hv ht hb hQ
    obtain ⟨w, ht⟩ := ht
    have : v = 201 := by omega
    subst this
    have et : nw (up2 I 180 3 (t 3)) = t := by rw [nw_up (by omega), ht, up1_up1, up1_same]
    have hq := hQ _ et (frM.rf.up (by omega))
    refine g_X9_shut_30 (fun h => absurd h (by decide)) (fun _ h => ?_) (fun _ h => ?_)
    · rw [if_pos h] at hq; exact hq
    · rw [if_neg h] at hq; exact hq
  | succ j ih =>
    intro v I b l hv ht hb hQ
    obtain ⟨w, ht⟩ := ht
    have yes : nI v < 201 := nI_lt (b := 201) (by omega) (by omega)
    have et : nw (up2 I 180 3 (nI v)) = up1 t 3 (nI v) := by rw [nw_up (by omega), ht, up1_up1]
    have ok2 : Ok (nw (up2 I 180 3 (nI v))) n m d := by rw [et]; exact ok.door
    refine g_X9_shut_30 (fun _ => ?_) (fun h => absurd yes h) (fun h => absurd yes h)
    refine m_judgeNow ok2 (g_X9_shut_51 (m_yearsBy ok2 (judg_case ok2 (ok_plc (t := nw (up2 I 180 3 (nI v))) ok2)) (g_X9_shut_58 (fun h => absurd h hb) (fun _ h => ?_) (fun _ h => ?_))))
    · rw [plc_E, et] at h ⊢
      rw [nI_1]
      refine ih (v + 1) _ _ (by omega) ⟨_, et⟩ (nI_m4 (by omega)) fun I' t' f' => ?_
      have := hQ I' t' ((frM.rf.up (by omega)).tr f')
      rw [shuS, if_pos h] at this
      exact this
    · rw [plc_E, et] at h
      rw [nI_1]
      refine ih (v + 1) _ _ (by omega) ⟨_, et⟩ hb fun I' t' f' => ?_
      have := hQ I' t' ((frM.rf.up (by omega)).tr f')
      rw [shuS, if_neg h] at this
      exact this
theorem m_shut (a1 : Int32) : qM 143 [some (.ref 179), some (.int a1), none, none, none, none, none, none] (fun _ => inl a1.toInt64 0 1) (fun t => shuR t a1) := by
  intro e I G Q n m d ok hd hb hQ
  dsimp only at hb hQ
  refine g_X9_shut_0 hb (fun h1 => ?_)
  have hQ := hQ h1
  have et : nw (up2 I 180 3 (nI 10)) = up1 (nw I) 3 (nI 10) := nw_up (by omega)
  have ok2 : Ok (nw (up2 I 180 3 (nI 10))) n m d := by rw [et]; exact ok.door
  refine g_X9_shut_30 (fun _ => ?_) (fun h => absurd (by decide) h) (fun h => absurd (by decide) h)
  show Rn 135 0 [some (.ref 179)] [] (0, 0) (mX e (up2 I 180 3 (nI 10)) G) _
  refine m_judgeNow ok2 (g_X9_shut_51 (m_yearsBy ok2 (judg_case ok2 (ok_plc (t := nw (up2 I 180 3 (nI 10))) ok2)) (g_X9_shut_58 (fun _ => ?_) (fun h => absurd rfl h) (fun h => absurd rfl h))))
  rw [plc_E, et]
  refine m_shuLoop (t := nw I) ok 190 11 _ _ (by omega) ⟨_, et⟩ (by decide) fun I' t' f' => ?_
  exact hQ I' t' ((frM.rf.up (by omega)).tr f')
/-- who judges for the fewest years -/
def besW (t : Nat → Int32) (c : Nat) : Nat → Nat → Nat → Nat
  | 0, _, w => w
  | j + 1, p, w => besW t c j (p + 1) (if yrs t p c < yrs t w c then p else w)
def besR (t : Nat → Int32) (a1 : Int32) : Int32 := if t 0 = 0 ∨ t 1 = 0 then -4 else if a1 = 0 then nI (besW t (plc t).toNatClampNeg ((t 0).toNatClampNeg - 1) 1 0) else yrs t (besW t (plc t).toNatClampNeg ((t 0).toNatClampNeg - 1) 1 0) (plc t).toNatClampNeg
theorem c_besLoop {I : Nat → Nat → Int32} {n m d c : Nat} {a1 : Int32} (ok : Ok (twn I 7) n m d) (hc : c < m) : ∀ j p w, p + j = n → w < n → Q (.returned (some (.int (if a1 = 0 then nI (besW (twn I 7) c j p w) else yrs (twn I 7) (besW (twn I 7) c j p w) c)))) (mX e I G) →
    Rn 53 25 [some (.ref 0), some (.int a1), some (.int (nI c)), some (.int (nI w)), some (.int (yrs (twn I 7) w c)), some (.int (nI p)), none] [] (0, 0) (mX e I G) Q := by
  have h6 := ok.n6
  have hm6 := ok.m6
  have hn : I 7 7 = nI n := ok.hn
  intro j
  induction j with
  | zero =>
    intro p w hp hw hQ
    have : p = n := by omega
    subst this
    have no : ¬ nI p < I 7 7 := by rw [hn]; exact nI_nlt (Nat.le_refl _) (by omega)
    refine g_X0_best_25 (fun h => absurd h no) (fun h => absurd h no) (fun h => absurd h no) (fun h => absurd h no) (fun _ h => absurd h (nI_pos (by omega))) (fun _ _ h => ?_) (fun _ _ h => ?_)
    · rw [if_pos h] at hQ; exact hQ
    · rw [if_neg h] at hQ; exact hQ
  | succ j ih =>
    intro p w hp hw hQ
    have yes : nI p < I 7 7 := by rw [hn]; exact nI_lt (by omega) (by omega)
    refine g_X0_best_25 (fun _ h => absurd h (nI_pos (by omega))) (fun _ h => absurd h (nI_pos (by omega))) (fun _ h => absurd h (nI_pos (by omega))) (fun _ _ => ?_) (fun h => absurd yes h) (fun h => absurd yes h) (fun h => absurd yes h)
    refine c_yearsByN ok (by omega) hc (g_X0_best_48 (fun h => ?_) (fun h => ?_))
    · rw [if_pos h, nI_1]
      refine ih (p + 1) p (by omega) (by omega) ?_
      rw [besW, if_pos h] at hQ; exact hQ
    · rw [if_neg h, nI_1]
      refine ih (p + 1) w (by omega) hw ?_
      rw [besW, if_neg h] at hQ; exact hQ
theorem c_best (a1 : Int32) : qC 53 [some (.ref 0), some (.int a1), none, none, none, none, none] (fun _ => inl a1.toInt64 0 1) (fun t => besR t a1) := by
  intro e I G Q n m d ok hd hb hQ
  dsimp only at hb hQ
  have h6 := ok.n6
  have hm6 := ok.m6
  have hn : I 7 7 = nI n := ok.hn
  refine g_X0_best_0 hb (fun h1 => ?_)
  have hq := hQ h1 I rfl frC.rf
  rw [cnw_plc]
  by_cases h0 : n = 0
  · subst h0
    have no : ¬ (0 : Int32) < I 7 7 := by rw [hn]; decide
    refine g_X0_best_25 (fun h => absurd h no) (fun h => absurd h no) (fun h => absurd h no) (fun h => absurd h no) (fun _ _ => ?_) (fun _ h => absurd (by decide) h) (fun _ h => absurd (by decide) h)
    unfold besR at hq
    rw [if_pos (Or.inl (show twn I 7 0 = 0 from ok.hn))] at hq
    exact hq
  · have yes : (0 : Int32) < I 7 7 := by rw [hn]; exact nI_lt (a := 0) (by omega) (by omega)
    by_cases m0 : m = 0
    · subst m0
      have hp4 : plc (twn I 7) = -4 := by unfold plc; rw [if_pos (show twn I 7 1 = 0 from ok.hm)]
      rw [hp4]
      refine g_X0_best_25 (fun _ _ _ => ?_) (fun _ _ h => absurd (by decide) h) (fun _ _ h => absurd (by decide) h) (fun _ h => absurd (by decide) h) (fun h => absurd yes h) (fun h => absurd yes h) (fun h => absurd yes h)
      unfold besR at hq
      rw [if_pos (Or.inr (show twn I 7 1 = 0 from ok.hm))] at hq
      exact hq
    · obtain ⟨c, hc, hp⟩ := plc_some ok m0
      unfold besR at hq
      rw [if_neg (fun q => q.elim (fun q => nI_ne0 (n := n) (by omega) (by omega) (ok.hn.symm.trans q)) (fun q => nI_ne0 (n := m) (by omega) (by omega) (ok.hm.symm.trans q))), hp, nI_clamp (by omega), ok.clamp] at hq
      rw [hp]
      have npos : ¬ nI c < 0 := nI_pos (by omega)
      refine g_X0_best_25 (fun _ h => absurd h npos) (fun _ h => absurd h npos) (fun _ h => absurd h npos) (fun _ _ => ?_) (fun h => absurd yes h) (fun h => absurd yes h) (fun h => absurd yes h)
      obtain ⟨k, hk, hy⟩ := yrs_ran ok (show 0 < n by omega) hc
      have hlt : yrs (twn I 7) 0 c < 2147483647 := by rw [hy]; exact nI_lt (b := 2147483647) (by omega) (by omega)
      refine c_yearsByN (p := 0) ok (by omega) hc (g_X0_best_48 (fun h => ?_) (fun h => absurd hlt h))
      rw [if_pos h]
      exact c_besLoop ok hc (n - 1) 1 0 (by omega) (by omega) hq
theorem m_besLoop {I : Nat → Nat → Int32} {n m d c : Nat} {a1 : Int32} (ok : Ok (nw I) n m d) (hc : c < m) (hp : plc (nw I) = nI c) : ∀ j p w, p + j = n → w < n → Q (.returned (some (.int (if a1 = 0 then nI (besW (nw I) c j p w) else yrs (nw I) (besW (nw I) c j p w) c)))) (mX e I G) →
    Rn 147 37 [some (.ref 179), some (.int a1), some (.int (nI w)), some (.int (nI p))] [] (0, 0) (mX e I G) Q := by
  have h6 := ok.n6
  have hm6 := ok.m6
  have hn : I 180 0 = nI n := ok.hn
  intro j
  induction j with
  | zero =>
    intro p w hpj hw hQ
    have : p = n := by omega
    subst this
    have no : ¬ nI p < I 180 0 := by rw [hn]; exact nI_nlt (Nat.le_refl _) (by omega)
    refine g_X9_best_37 (fun h => absurd h no) (fun _ h => ?_) (fun _ h => ?_)
    · rw [if_pos h] at hQ; exact hQ
    · rw [if_neg h] at hQ
      rw [plc_E, hp]
      exact m_yearsByN ok hw hc (g_X9_best_97 hQ)
  | succ j ih =>
    intro p w hpj hw hQ
    have yes : nI p < I 180 0 := by rw [hn]; exact nI_lt (by omega) (by omega)
    refine g_X9_best_37 (fun _ => ?_) (fun h => absurd yes h) (fun h => absurd yes h)
    rw [plc_E, hp]
    refine m_yearsByN ok (by omega) hc (g_X9_best_56 ?_)
    rw [plc_E, hp]
    refine m_yearsByN ok hw hc (g_X9_best_65 (fun h => ?_) (fun h => ?_))
    · rw [nI_1]
      refine ih (p + 1) p (by omega) (by omega) ?_
      rw [besW, if_pos h] at hQ; exact hQ
    · rw [nI_1]
      refine ih (p + 1) w (by omega) hw ?_
      rw [besW, if_neg h] at hQ; exact hQ
theorem m_best (a1 : Int32) : qM 147 [some (.ref 179), some (.int a1), none, none] (fun _ => inl a1.toInt64 0 1) (fun t => besR t a1) := by
  intro e I G Q n m d ok hd hb hQ
  dsimp only at hb hQ
  have h6 := ok.n6
  have hm6 := ok.m6
  refine g_X9_best_0 hb (fun h1 h2 => ?_) (fun h1 h2 h3 => ?_) (fun h1 h2 h3 => ?_)
  · have hq := hQ h1 I rfl frM.rf
    unfold besR at hq
    rw [if_pos (Or.inl (show nw I 0 = 0 from h2))] at hq
    exact hq
  · have hq := hQ h1 I rfl frM.rf
    unfold besR at hq
    rw [if_pos (Or.inr (show nw I 1 = 0 from h3))] at hq
    exact hq
  · have hq := hQ h1 I rfl frM.rf
    have n0 : n ≠ 0 := fun q => h2 (by rw [show I 180 0 = nI n from ok.hn, q]; rfl)
    have m0 : m ≠ 0 := fun q => h3 (by rw [show I 180 1 = nI m from ok.hm, q]; rfl)
    obtain ⟨c, hc, hp⟩ := plc_some ok m0
    unfold besR at hq
    rw [if_neg (fun q => q.elim (fun q => nI_ne0 (n := n) (by omega) (by omega) (ok.hn.symm.trans q)) (fun q => nI_ne0 (n := m) (by omega) (by omega) (ok.hm.symm.trans q))), hp, nI_clamp (by omega), ok.clamp] at hq
    exact m_besLoop ok hc hp (n - 1) 1 0 (by omega) (by omega) hq
end S52
