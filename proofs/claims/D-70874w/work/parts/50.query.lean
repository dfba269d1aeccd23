/-! what is foretold, and put back: ahead, years, first, lingers -/
def frC (I I' : Nat → Nat → Int32) : Prop := ∀ k, (k < 7 ∨ (14 < k ∧ k < 26) ∨ 36 < k) → I' k = I k
def frM (I I' : Nat → Nat → Int32) : Prop := ∀ k, (k < 180 ∨ (180 < k ∧ k < 185) ∨ 186 < k) → I' k = I k
theorem frC.rf {I : Nat → Nat → Int32} : frC I I := fun _ _ => rfl
theorem frM.rf {I : Nat → Nat → Int32} : frM I I := fun _ _ => rfl
theorem frC.tr {I I' I'' : Nat → Nat → Int32} (h1 : frC I I') (h2 : frC I' I'') : frC I I'' := fun k hk => (h2 k hk).trans (h1 k hk)
theorem frM.tr {I I' I'' : Nat → Nat → Int32} (h1 : frM I I') (h2 : frM I' I'') : frM I I'' := fun k hk => (h2 k hk).trans (h1 k hk)
theorem fr.c7 {I I' : Nat → Nat → Int32} (h : fr 7 14 I I') : frC I I' := fun k hk => h k (by omega)
theorem fr.c26 {I I' : Nat → Nat → Int32} {a b : Nat} (h : fr a b I I') (ha : 26 ≤ a) (hb : b ≤ 36) : frC I I' := fun k hk => h k (by omega)
theorem fr.m {I I' : Nat → Nat → Int32} (h : fr 180 180 I I') : frM I I' := fun k hk => h k (by omega)
theorem fr.ma {I I' : Nat → Nat → Int32} (h : fr 185 185 I I') : frM I I' := fun k hk => h k (by omega)
theorem fr.mo {I I' : Nat → Nat → Int32} (h : fr 186 186 I I') : frM I I' := fun k hk => h k (by omega)
theorem frC.up {I I' : Nat → Nat → Int32} {k j : Nat} {v : Int32} (h : frC I I') (hk : (7 ≤ k ∧ k ≤ 14) ∨ (26 ≤ k ∧ k ≤ 36)) : frC I (up2 I' k j v) := fun q hq => by rw [up2_ne (by omega)]; exact h q hq
theorem frM.up {I I' : Nat → Nat → Int32} {k j : Nat} {v : Int32} (h : frM I I') (hk : k = 180 ∨ k = 185 ∨ k = 186) : frM I (up2 I' k j v) := fun q hq => by rw [up2_ne (by omega)]; exact h q hq
/-- a question's contract: who asks rightly has f's answer, and the town is as it was -/
def qC (y : Nat) (L : Lo) (v : (Nat → Int32) → Prop) (f : (Nat → Int32) → Int32) : Prop := ∀ {e : En} {I : Nat → Nat → Int32} {G : Nat → Nat → Int64} {Q : Po} {n m d : Nat}, Ok (twn I 7) n m d → d ≤ 9999 → (¬ v (twn I 7) → Q (.returned (some (.int (-1)))) (mX e I G)) → (v (twn I 7) → ∀ I', twn I' 7 = twn I 7 → frC I I' → Q (.returned (some (.int (f (twn I 7))))) (mX e I' G)) → Rn y 0 L [] (0, 0) (mX e I G) Q
def qM (y : Nat) (L : Lo) (v : (Nat → Int32) → Prop) (f : (Nat → Int32) → Int32) : Prop := ∀ {e : En} {I : Nat → Nat → Int32} {G : Nat → Nat → Int64} {Q : Po} {n m d : Nat}, Ok (nw I) n m d → d ≤ 9999 → (¬ v (nw I) → Q (.returned (some (.int (-1)))) (mX e I G)) → (v (nw I) → ∀ I', nw I' = nw I → frM I I' → Q (.returned (some (.int (f (nw I))))) (mX e I' G)) → Rn y 0 L [] (0, 0) (mX e I G) Q
/-- who judges now, for how many years -/
abbrev jNow (t : Nat → Int32) : Int32 := noI (judg t 0 (plc t))
abbrev yNow (t : Nat → Int32) : Int32 := yrsO t (judg t 0 (plc t)) (plc t)
def aheadS (t : Nat → Int32) (a1 a2 : Int32) : Int32 := if a2 = 0 then jNow (goN t a1.toNatClampNeg) else yNow (goN t a1.toNatClampNeg)
theorem c_ahead (a1 a2 : Int32) : qC 41 [some (.ref 0), some (.int a1), some (.int a2), none] (fun _ => inl a1.toInt64 0 60 ∧ inl a2.toInt64 0 1) (fun t => aheadS t a1 a2) := by
  intro e I G Q n m d ok hd hb hQ
  dsimp only at hb hQ
  refine g_X0_ahead_0 (fun h => hb (fun q => h q.1)) (fun _ h => hb (fun q => h q.2)) (fun h1 h2 => ?_)
  obtain ⟨k, -, hk, rfl⟩ := inR (lo := 0) (hi := 60) h1
  have hQ := hQ ⟨h1, h2⟩
  refine c_takeFrom stp_7 stp_26 (Or.inr (by decide)) fun I1 t1 f1 => ?_
  have e1 : twn I1 7 = twn I 7 := f1.twn (by omega)
  refine g_X0_ahead_32 (g_X0_goOn_0 (c_goOn (n := n) (m := m) k 0 (by omega) hk (by rw [e1]; exact ok) (by omega) fun I2 t2 f2 => ?_))
  have e2 : twn I2 7 = goN (twn I 7) k := by rw [t2, e1]
  have e3 : twn I2 26 = twn I 7 := by rw [f2.twn (by omega), t1]
  have ok2 : Ok (twn I2 7) n m (d + k) := by rw [e2]; exact ok_goN k ok (by omega)
  refine g_X0_ahead_37 (fun h0 => ?_) (fun h0 => ?_)
  · have hv : aheadS (twn I 7) (nI k) a2 = jNow (twn I2 7) := by unfold aheadS; rw [if_pos h0, nI_clamp (by omega), e2]
    rw [hv] at hQ
    refine c_judgeNow ok2 (g_X0_ahead_45 (c_takeFrom stp_26 stp_7 (Or.inl (by decide)) fun I3 t3 f3 => g_X0_ahead_64 (hQ I3 (t3.trans e3) ?_)))
    exact ((f1.c26 (by omega) (by omega)).tr f2.c7).tr f3.c7
  · have hv : aheadS (twn I 7) (nI k) a2 = yNow (twn I2 7) := by unfold aheadS; rw [if_neg h0, nI_clamp (by omega), e2]
    rw [hv] at hQ
    refine c_yearsNow ok2 (g_X0_ahead_52 (c_takeFrom stp_26 stp_7 (Or.inl (by decide)) fun I3 t3 f3 => g_X0_ahead_64 (hQ I3 (t3.trans e3) ?_)))
    exact ((f1.c26 (by omega) (by omega)).tr f2.c7).tr f3.c7
theorem m_ahead (a1 a2 : Int32) : qM 132 [some (.ref 179), some (.int a1), some (.int a2), none, none] (fun _ => inl a1.toInt64 0 60 ∧ inl a2.toInt64 0 1) (fun t => aheadS t a1 a2) := by
  intro e I G Q n m d ok hd hb hQ
  dsimp only at hb hQ
  refine g_X9_ahead_0 (fun h => hb (fun q => h q.1)) (fun _ h => hb (fun q => h q.2)) (fun h1 h2 => ?_)
  obtain ⟨k, -, hk, rfl⟩ := inR (lo := 0) (hi := 60) h1
  have hQ := hQ ⟨h1, h2⟩
  refine m_asides fun I1 t1 f1 => ?_
  have e1 : nw I1 = nw I := congrArg cut (f1 180 (by omega))
  refine g_X9_ahead_28 (g_X9_goesOn_0 (m_goesOn (n := n) (m := m) k 0 (by omega) hk (by rw [e1]; exact ok) (by omega) fun I2 t2 f2 => ?_))
  have e2 : nw I2 = goN (nw I) k := by rw [t2, e1]
  have e3 : cut (I2 185) = nw I := by rw [f2 185 (by omega), t1]
  have ok2 : Ok (nw I2) n m (d + k) := by rw [e2]; exact ok_goN k ok (by omega)
  refine g_X9_ahead_33 (m_judgeNow ok2 (g_X9_ahead_37 (fun h0 => ?_) (fun h0 => ?_)))
  · have hv : aheadS (nw I) (nI k) a2 = jNow (nw I2) := by unfold aheadS; rw [if_pos h0, nI_clamp (by omega), e2]
    rw [hv] at hQ
    refine m_backs fun I3 t3 f3 => g_X9_ahead_61 (hQ I3 (t3.trans e3) ?_)
    exact (f1.ma.tr f2.m).tr f3.m
  · have hv : aheadS (nw I) (nI k) a2 = yNow (nw I2) := by unfold aheadS; rw [if_neg h0, nI_clamp (by omega), e2]
    rw [hv] at hQ
    refine m_yearsBy ok2 (judg_case ok2 (ok_plc (t := nw I2) ok2)) (g_X9_ahead_55 (m_backs fun I3 t3 f3 => g_X9_ahead_61 (hQ I3 (t3.trans e3) ?_)))
    exact (f1.ma.tr f2.m).tr f3.m
theorem c_years (a1 : Int32) : qC 45 [some (.ref 0), some (.int a1), none] (fun _ => inl a1.toInt64 0 60) (fun t => goN t a1.toNatClampNeg 4 - t 4) := by
  intro e I G Q n m d ok hd hb hQ
  dsimp only at hb hQ
  refine g_X0_years_0 hb (fun h1 => ?_)
  obtain ⟨k, -, hk, rfl⟩ := inR (lo := 0) (hi := 60) h1
  have hQ := hQ h1
  refine c_takeFrom stp_7 stp_26 (Or.inr (by decide)) fun I1 t1 f1 => ?_
  have e1 : twn I1 7 = twn I 7 := f1.twn (by omega)
  refine g_X0_years_25 (g_X0_goOn_0 (c_goOn (n := n) (m := m) k 0 (by omega) hk (by rw [e1]; exact ok) (by omega) fun I2 t2 f2 => ?_))
  have e2 : twn I2 7 = goN (twn I 7) k := by rw [t2, e1]
  have e3 : twn I2 26 = twn I 7 := by rw [f2.twn (by omega), t1]
  have hv : goN (twn I 7) (nI k).toNatClampNeg 4 - twn I 7 4 = I2 7 11 - I2 26 11 := by
    rw [nI_clamp (by omega), ← e2, show twn I 7 4 = twn I2 26 4 from by rw [e3]]; rfl
  rw [hv] at hQ
  refine g_X0_years_30 (c_takeFrom stp_26 stp_7 (Or.inl (by decide)) fun I3 t3 f3 => g_X0_years_57 (hQ I3 (t3.trans e3) ?_))
  exact ((f1.c26 (by omega) (by omega)).tr f2.c7).tr f3.c7
theorem m_years (a1 : Int32) : qM 137 [some (.ref 179), some (.int a1), none] (fun _ => inl a1.toInt64 0 60) (fun t => goN t a1.toNatClampNeg 4 - t 4) := by
  intro e I G Q n m d ok hd hb hQ
  dsimp only at hb hQ
  refine g_X9_years_0 hb (fun h1 => ?_)
  obtain ⟨k, -, hk, rfl⟩ := inR (lo := 0) (hi := 60) h1
  have hQ := hQ h1
  refine m_asides fun I1 t1 f1 => ?_
  have e1 : nw I1 = nw I := congrArg cut (f1 180 (by omega))
  refine g_X9_years_18 (g_X9_goesOn_0 (m_goesOn (n := n) (m := m) k 0 (by omega) hk (by rw [e1]; exact ok) (by omega) fun I2 t2 f2 => ?_))
  have e2 : nw I2 = goN (nw I) k := by rw [t2, e1]
  have e3 : cut (I2 185) = nw I := by rw [f2 185 (by omega), t1]
  have hv : goN (nw I) (nI k).toNatClampNeg 4 - nw I 4 = I2 180 4 - I2 185 4 := by
    rw [nI_clamp (by omega), ← e2, show nw I 4 = cut (I2 185) 4 from by rw [e3]]; rfl
  rw [hv] at hQ
  refine g_X9_years_23 (m_backs fun I3 t3 f3 => g_X9_years_41 (hQ I3 (t3.trans e3) ?_))
  exact (f1.ma.tr f2.m).tr f3.m
/-- on which day somebody judges so many years, of j days -/
def firS (a : Int32) : Nat → Nat → (Nat → Int32) → Int32
  | 0, _, _ => -4
  | j + 1, k, t => if yNow t < a then firS a j (k + 1) (goes t (plc t)) else nI k
theorem c_firLoop {e : En} {G : Nat → Nat → Int64} {Q : Po} {n m : Nat} {a1 : Int32} {T : Nat → Int32} : ∀ j k {I : Nat → Nat → Int32} {d : Nat}, k + j = 60 → Ok (twn I 7) n m d → d + j ≤ 9999 + 60 → twn I 26 = T → (∀ I', twn I' 7 = T → frC I I' → Q (.returned (some (.int (firS a1 (j + 1) k (twn I 7))))) (mX e I' G)) → Rn 46 27 [some (.ref 0), some (.int a1), some (.int (nI k)), none] [] (0, 0) (mX e I G) Q := by
  intro j
  induction j with
  | zero =>
    intro k I d hk ok hd hT hQ
    have : k = 60 := by omega
    subst this
    refine g_X0_first_27 (c_yearsNow ok (g_X0_first_31 (fun _ h => absurd h (by decide)) (fun h1 _ => ?_) (fun h1 => ?_)))
    · have hv : firS a1 (0 + 1) 60 (twn I 7) = -4 := by unfold firS; rw [if_pos h1]; rfl
      rw [hv] at hQ
      refine c_yearsNow ok (g_X0_first_59 (fun _ => ?_) (fun h => absurd h1 h))
      exact c_takeFrom stp_26 stp_7 (Or.inl (by decide)) fun I3 t3 f3 => g_X0_first_80 (fun _ => hQ I3 (t3.trans hT) f3.c7) (fun h => absurd rfl h)
    · have hv : firS a1 (0 + 1) 60 (twn I 7) = nI 60 := by unfold firS; rw [if_neg h1]
      rw [hv] at hQ
      refine c_yearsNow ok (g_X0_first_59 (fun h => absurd h h1) (fun _ => ?_))
      exact c_takeFrom stp_26 stp_7 (Or.inl (by decide)) fun I3 t3 f3 => g_X0_first_80 (fun h => absurd h (by decide)) (fun _ => hQ I3 (t3.trans hT) f3.c7)
  | succ j ih =>
    intro k I d hk ok hd hT hQ
    refine g_X0_first_27 (c_yearsNow ok (g_X0_first_31 (fun h1 _ => ?_) (fun _ h => absurd (nI_lt (b := 60) (by omega) (by omega)) h) (fun h1 => ?_)))
    · have hv : firS a1 (j + 1 + 1) k (twn I 7) = firS a1 (j + 1) (k + 1) (goes (twn I 7) (plc (twn I 7))) := by
        show (if yNow (twn I 7) < a1 then _ else _) = _
        rw [if_pos h1]
      rw [hv] at hQ
      refine c_oneDay ok (ok_plc ok) fun I1 h2 h3 => g_X0_first_49 ?_
      rw [nI_1]
      refine ih (k + 1) (by omega) (d := d + 1) (by rw [h2]; exact ok_goes ok (by omega)) (by omega) (by rw [h3.twn (by omega)]; exact hT) fun I' t' f' => ?_
      rw [h2]
      exact hQ I' t' (h3.c7.tr f')
    · have hv : firS a1 (j + 1 + 1) k (twn I 7) = nI k := by
        show (if yNow (twn I 7) < a1 then _ else _) = _
        rw [if_neg h1]
      rw [hv] at hQ
      refine c_yearsNow ok (g_X0_first_59 (fun h => absurd h h1) (fun _ => ?_))
      exact c_takeFrom stp_26 stp_7 (Or.inl (by decide)) fun I3 t3 f3 => g_X0_first_80 (fun h => absurd h (by decide)) (fun _ => hQ I3 (t3.trans hT) f3.c7)
theorem c_first (a1 : Int32) : qC 46 [some (.ref 0), some (.int a1), none, none] (fun _ => inl a1.toInt64 1 99) (fun t => firS a1 61 0 t) := by
  intro e I G Q n m d ok hd hb hQ
  dsimp only at hb hQ
  refine g_X0_first_0 hb (fun h1 => ?_)
  refine c_takeFrom stp_7 stp_26 (Or.inr (by decide)) fun I1 t1 f1 => g_X0_first_25 ?_
  have e1 : twn I1 7 = twn I 7 := f1.twn (by omega)
  refine c_firLoop 60 0 (by omega) (n := n) (m := m) (d := d) (by rw [e1]; exact ok) (by omega) t1 fun I' t' f' => ?_
  rw [e1]
  exact hQ h1 I' t' ((f1.c26 (by omega) (by omega)).tr f')
theorem m_firLoop {e : En} {G : Nat → Nat → Int64} {Q : Po} {n m : Nat} {a1 : Int32} {T : Nat → Int32} : ∀ j k {I : Nat → Nat → Int32} {d : Nat}, k + j = 61 → Ok (nw I) n m d → d + j ≤ 9999 + 61 → cut (I 185) = T → (∀ I', nw I' = T → frM I I' → Q (.returned (some (.int (firS a1 j k (nw I))))) (mX e I' G)) → Rn 138 23 [some (.ref 179), some (.int a1), some (.int (-4)), some (.int (nI k))] [] (0, 0) (mX e I G) Q := by
  intro j
  induction j with
  | zero =>
    intro k I d hk ok hd hT hQ
    have : k = 61 := by omega
    subst this
    refine g_X9_first_23 (fun h => absurd h (by decide)) (fun h => absurd h (by decide)) (fun _ => ?_)
    exact m_backs fun I3 t3 f3 => g_X9_first_64 (hQ I3 (t3.trans hT) f3.m)
  | succ j ih =>
    intro k I d hk ok hd hT hQ
    refine g_X9_first_23 (fun _ _ => ?_) (fun _ h => absurd rfl h) (fun h => absurd (nI_lt (b := 61) (by omega) (by omega)) h)
    refine m_goesBy ok (ok_plc (t := nw I) ok) fun I1 h2 h3 => g_X9_first_43 (fun h1 => ?_) (fun h1 => ?_)
    · rw [plc_E] at h1 h2
      have hv : firS a1 (j + 1) k (nw I) = firS a1 j (k + 1) (goes (nw I) (plc (nw I))) := by
        show (if yNow (nw I) < a1 then _ else _) = _
        rw [if_pos h1]
      rw [hv] at hQ
      rw [nI_1]
      by_cases hj : j = 0
      · subst hj
        have : k = 60 := by omega
        subst this
        refine g_X9_first_23 (fun h => absurd h (by decide)) (fun h => absurd h (by decide)) (fun _ => ?_)
        refine m_backs fun I3 t3 f3 => g_X9_first_64 (hQ I3 (t3.trans ?_) (h3.m.tr f3.m))
        rw [h3 185 (by omega)]; exact hT
      · refine ih (k + 1) (by omega) (d := d + 1) (by rw [h2]; exact ok_goes ok (by omega)) (by omega) (by rw [h3 185 (by omega)]; exact hT) fun I' t' f' => ?_
        rw [h2]
        exact hQ I' t' (h3.m.tr f')
    · rw [plc_E] at h1 h2
      have hv : firS a1 (j + 1) k (nw I) = nI k := by
        show (if yNow (nw I) < a1 then _ else _) = _
        rw [if_neg h1]
      rw [hv] at hQ
      have no : ¬ nI k = -4 := nI_m4 (by omega)
      have go : ∀ I3, nw I3 = cut (I1 185) → fr 180 180 I1 I3 → Q (.returned (some (.int (nI k)))) (mX e I3 G) := fun I3 t3 f3 => hQ I3 (t3.trans (by rw [h3 185 (by omega)]; exact hT)) (h3.m.tr f3.m)
      refine g_X9_first_23 (fun _ h => absurd h no) (fun _ _ => ?_) (fun _ => ?_)
      · exact m_backs fun I3 t3 f3 => g_X9_first_64 (go I3 t3 f3)
      · exact m_backs fun I3 t3 f3 => g_X9_first_64 (go I3 t3 f3)
theorem m_first (a1 : Int32) : qM 138 [some (.ref 179), some (.int a1), none, none] (fun _ => inl a1.toInt64 1 99) (fun t => firS a1 61 0 t) := by
  intro e I G Q n m d ok hd hb hQ
  dsimp only at hb hQ
  refine g_X9_first_0 hb (fun h1 => ?_)
  refine m_asides fun I1 t1 f1 => g_X9_first_18 ?_
  have e1 : nw I1 = nw I := congrArg cut (f1 180 (by omega))
  refine m_firLoop 61 0 (by omega) (n := n) (m := m) (d := d) (by rw [e1]; exact ok) (by omega) t1 fun I' t' f' => ?_
  rw [e1]
  exact hQ h1 I' t' (f1.ma.tr f')
/-- from which lingering on one judges -/
def linS (t : Nat → Int32) (p : Nat) : Nat → Nat → Int32
  | 0, _ => -4
  | j + 1, k => if jNow (up1 t (9 + 5 * p) (nI k)) = nI p then nI k else linS t p j (k + 1)
theorem c_linLoop {e : En} {G : Nat → Nat → Int64} {Q : Po} {n m d p : Nat} {t : Nat → Int32} (ok : Ok t n m d) (hp : p < n) : ∀ j k {I : Nat → Nat → Int32}, k + j = 61 → (∃ w, twn I 7 = up1 t (9 + 5 * p) w) → (∀ I', twn I' 7 = t → frC I I' → Q (.returned (some (.int (linS t p j k)))) (mX e I' G)) → Rn 47 26 [some (.ref 0), some (.int (nI p)), some (.int (t (9 + 5 * p))), some (.int (-4)), some (.int (nI k))] [] (0, 0) (mX e I G) Q := by
  have h6 := ok.n6
  have hcl : (nI p).toNatClampNeg = p := nI_clamp (by omega)
  intro j
  induction j with
  | zero =>
    intro k I hk ht hQ
    obtain ⟨w, ht⟩ := ht
    have : k = 61 := by omega
    subst this
    refine g_X0_lingers_26 (fun _ => vp_in_nI (by omega) (by omega)) (fun _ => ?_) (fun h => absurd (show 60 < nI 61 by decide) h) (fun h => absurd (show 60 < nI 61 by decide) h) (fun h => absurd (show 60 < nI 61 by decide) h) (fun h => absurd (show 60 < nI 61 by decide) h)
    rw [hcl]
    refine hQ _ ?_ (frC.rf.up (by omega))
    rw [(twn_upk (show p < 6 by omega)).2.2.1 rfl, ht, up1_up1, up1_same]
  | succ j ih =>
    intro k I hk ht hQ
    obtain ⟨w, ht⟩ := ht
    have n60 : ¬ 60 < nI k := nI_nlt (b := k) (a := 60) (by omega) (by omega)
    refine g_X0_lingers_26 (fun h => absurd h n60) (fun h => absurd h n60) (fun _ _ => vp_in_nI (by omega) (by omega)) (fun _ _ => ?_) (fun _ h => absurd (by decide) h) (fun _ h => absurd (by decide) h)
    rw [hcl]
    have et : twn (up2 I 11 p (nI k)) 7 = up1 t (9 + 5 * p) (nI k) := by rw [(twn_upk (show p < 6 by omega)).2.2.1 rfl, ht, up1_up1]
    refine c_judgeNow (n := n) (m := m) (d := d) (by rw [et]; exact ok.setL (by omega) rfl (by omega)) (g_X0_lingers_52 (fun h1 => ?_) (fun h1 => ?_))
    · rw [et] at h1
      have hv : linS t p (j + 1) k = nI k := by unfold linS; rw [if_pos h1]
      rw [hv] at hQ
      have go : Q (.returned (some (.int (nI k)))) (mX e (up2 (up2 I 11 p (nI k)) 11 (nI p).toNatClampNeg (t (9 + 5 * p))) G) := by
        rw [hcl]
        refine hQ _ ?_ ((frC.rf.up (by omega)).up (by omega))
        rw [(twn_upk (show p < 6 by omega)).2.2.1 rfl, et, up1_up1, up1_same]
      refine g_X0_lingers_26 (fun _ => vp_in_nI (by omega) (by omega)) (fun _ => go) (fun _ h => absurd h (nI_pos (by omega))) (fun _ h => absurd h (nI_pos (by omega))) (fun _ _ => vp_in_nI (by omega) (by omega)) (fun _ _ => go)
    · rw [et] at h1
      have hv : linS t p (j + 1) k = linS t p j (k + 1) := by rw [linS, if_neg h1]
      rw [hv] at hQ
      rw [nI_1]
      exact ih (k + 1) (by omega) ⟨_, et⟩ fun I' t' f' => hQ I' t' ((frC.rf.up (by omega)).tr f')
theorem c_lingers (a1 : Int32) : qC 47 [some (.ref 0), some (.int a1), none, none, none] (fun t => inl a1.toInt64 0 ((t 0 - 1).toInt64)) (fun t => linS t a1.toNatClampNeg 61 0) := by
  intro e I G Q n m d ok hd hb hQ
  dsimp only at hb hQ
  have h6 := ok.n6
  refine g_X0_lingers_0 hb (fun h1 => ?_) (fun h1 => ?_)
  all_goals
    have h2 := h1
    rw [show I 7 7 = nI n from ok.hn] at h2
    obtain ⟨p, hp, rfl⟩ := isP h6 h2
  · exact vp_in_nI (by omega) (by omega)
  · have hQ := hQ h1
    have hcl : (nI p).toNatClampNeg = p := nI_clamp (by omega)
    rw [hcl] at hQ ⊢
    rw [show I 11 p = twn I 7 (9 + 5 * p) from ((twn_k I 7 p (by omega)).2.2.1).symm]
    exact c_linLoop ok hp 61 0 (by omega) ⟨_, up1_same.symm⟩ hQ
theorem m_linLoop {e : En} {G : Nat → Nat → Int64} {Q : Po} {n m d p : Nat} {t : Nat → Int32} (ok : Ok t n m d) (hp : p < n) : ∀ j k {I : Nat → Nat → Int32}, k + j = 61 → (∃ w, nw I = up1 t (9 + 5 * p) w) → cut (I 185) = t → (∀ I', nw I' = t → frM I I' → Q (.returned (some (.int (linS t p j k)))) (mX e I' G)) → Rn 139 19 [some (.ref 179), some (.int (nI p)), some (.int (-4)), some (.int (nI k))] [] (0, 0) (mX e I G) Q := by
  have h6 := ok.n6
  intro j
  induction j with
  | zero =>
    intro k I hk ht hT hQ
    have : k = 61 := by omega
    subst this
    refine g_X9_lingers_19 (fun h => absurd h (by decide)) (fun h => absurd h (by decide)) (fun _ => ?_)
    exact m_backs fun I3 t3 f3 => g_X9_lingers_62 (hQ I3 (t3.trans hT) f3.m)
  | succ j ih =>
    intro k I hk ht hT hQ
    obtain ⟨w, ht⟩ := ht
    refine g_X9_lingers_19 (fun _ _ => ?_) (fun _ h => absurd rfl h) (fun h => absurd (nI_lt (b := 61) (by omega) (by omega)) h)
    refine m_lingersBy (by omega) (g_X9_lingers_37 ?_)
    have et : nw (up2 I 180 (9 + 5 * p) (nI k)) = up1 t (9 + 5 * p) (nI k) := by rw [nw_up (by omega), ht, up1_up1]
    have eT : cut (up2 I 180 (9 + 5 * p) (nI k) 185) = t := by rw [up2_ne (by omega)]; exact hT
    refine m_judgeNow (n := n) (m := m) (d := d) (by rw [et]; exact ok.setL (by omega) rfl (by omega)) (g_X9_lingers_41 (fun h1 => ?_) (fun h1 => ?_))
    · rw [et] at h1
      have hv : linS t p (j + 1) k = nI k := by unfold linS; rw [if_pos h1]
      rw [hv] at hQ
      have no : ¬ nI k = -4 := nI_m4 (by omega)
      refine g_X9_lingers_19 (fun _ h => absurd h no) (fun _ _ => ?_) (fun _ => ?_)
      · exact m_backs fun I3 t3 f3 => g_X9_lingers_62 (hQ I3 (t3.trans eT) ((frM.rf.up (by omega)).tr f3.m))
      · exact m_backs fun I3 t3 f3 => g_X9_lingers_62 (hQ I3 (t3.trans eT) ((frM.rf.up (by omega)).tr f3.m))
    · rw [et] at h1
      have hv : linS t p (j + 1) k = linS t p j (k + 1) := by rw [linS, if_neg h1]
      rw [hv] at hQ
      rw [nI_1]
      exact ih (k + 1) (by omega) ⟨_, et⟩ eT fun I' t' f' => hQ I' t' ((frM.rf.up (by omega)).tr f')
theorem m_lingers (a1 : Int32) : qM 139 [some (.ref 179), some (.int a1), none, none] (fun t => inl a1.toInt64 0 ((t 0 - 1).toInt64)) (fun t => linS t a1.toNatClampNeg 61 0) := by
  intro e I G Q n m d ok hd hb hQ
  dsimp only at hb hQ
  have h6 := ok.n6
  refine g_X9_lingers_0 hb (fun h1 => ?_)
  have h2 := h1
  rw [show I 180 0 = nI n from ok.hn] at h2
  obtain ⟨p, hp, rfl⟩ := isP h6 h2
  have hQ := hQ h1
  rw [nI_clamp (by omega)] at hQ
  refine m_asides fun I1 t1 f1 => g_X9_lingers_14 ?_
  have e1 : nw I1 = nw I := congrArg cut (f1 180 (by omega))
  exact m_linLoop ok hp 61 0 (by omega) ⟨_, e1.trans up1_same.symm⟩ t1 fun I' t' f' => hQ I' t' (f1.ma.tr f')
