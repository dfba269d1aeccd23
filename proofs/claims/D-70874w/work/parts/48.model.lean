/-! the twin's days -/
section S48
variable {e : En} {I : Nat → Nat → Int32} {G : Nat → Nat → Int64} {Q : Po}
theorem ix7 : ∀ p, p < 6 → ∀ w, w < 5 → (¬ ((7 + 5 * nI p) + nI w < 0 ∨ 49 ≤ ((7 + 5 * nI p) + nI w).toNatClampNeg) ∧ ((7 + 5 * nI p) + nI w).toNatClampNeg = 7 + 5 * p + w) := by decide +kernel
theorem ix37 : ∀ c, c < 6 → ∀ w, w < 2 → (¬ ((37 + 2 * nI c) + nI w < 0 ∨ 49 ≤ ((37 + 2 * nI c) + nI w).toNatClampNeg) ∧ ((37 + 2 * nI c) + nI w).toNatClampNeg = 37 + 2 * c + w) := by decide +kernel
theorem ix37' : ∀ c, c < 6 → (¬ ((37 + 2 * nI c) < 0 ∨ 49 ≤ (37 + 2 * nI c).toNatClampNeg) ∧ (37 + 2 * nI c).toNatClampNeg = 37 + 2 * c) := by decide +kernel
theorem vi7 {p w : Nat} (hp : p < 6) (hw : w < 5) : vp_in ((7 + 5 * nI p) + nI w) 49 := (ix7 p hp w hw).1
theorem vi37 {c w : Nat} (hp : c < 6) (hw : w < 2) : vp_in ((37 + 2 * nI c) + nI w) 49 := (ix37 c hp w hw).1
theorem vi37' {c : Nat} (hp : c < 6) : vp_in (37 + 2 * nI c) 49 := (ix37' c hp).1
theorem tol_at {p w : Nat} (hp : p < 6) (hw : w < 5) : tolE I (nI p) (nI w) = nw I (7 + 5 * p + w) := by
  unfold tolE
  rw [(ix7 p hp w hw).2]
  exact (cut_at (by omega)).symm
theorem tol_0 {p : Nat} (hp : p < 6) : tolE I (nI p) 0 = nw I (7 + 5 * p) := tol_at (w := 0) hp (by omega)
theorem tol_1 {p : Nat} (hp : p < 6) : tolE I (nI p) 1 = nw I (8 + 5 * p) := by rw [show 8 + 5 * p = 7 + 5 * p + 1 by omega]; exact tol_at (w := 1) hp (by omega)
theorem tol_2 {p : Nat} (hp : p < 6) : tolE I (nI p) 2 = nw I (9 + 5 * p) := by rw [show 9 + 5 * p = 7 + 5 * p + 2 by omega]; exact tol_at (w := 2) hp (by omega)
theorem tol_4 {p : Nat} (hp : p < 6) : tolE I (nI p) 4 = nw I (11 + 5 * p) := by rw [show 11 + 5 * p = 7 + 5 * p + 4 by omega]; exact tol_at (w := 4) hp (by omega)
theorem lat_late {p : Nat} (hp : p < 6) : latE I (nI p) = late (nw I) 0 p := by
  unfold latE late
  rw [tol_1 hp, tol_2 hp, if_neg (bit_0 (by omega)), Int32.add_zero]
  rfl
theorem acc_at {c : Nat} (hc : c < 6) : accE I (nI c) = nw I (38 + 2 * c) := by
  unfold accE
  rw [show ((37 + 2 * nI c) + 1 : Int32).toNatClampNeg = 37 + 2 * c + 1 from (ix37 c hc 1 (by omega)).2, show 38 + 2 * c = 37 + 2 * c + 1 by omega]
  exact (cut_at (by omega)).symm
theorem prf_at {c : Nat} (hc : c < 6) : I 180 (37 + 2 * nI c).toNatClampNeg = nw I (37 + 2 * c) := by
  rw [(ix37' c hc).2]
  exact (cut_at (by omega)).symm
theorem and01 (x : Int32) : (x &&& 1 = 0) ↔ ¬ (x &&& 1 = 1) := by
  obtain ⟨j, hj, h⟩ := pk_andE x (m := 1) 1 (by decide)
  rw [h]
  rcases (show j = 0 ∨ j = 1 by omega) with rfl | rfl <;> decide
theorem m_isApart {n p : Nat} {a : Int32} (hn : n ≤ 6) (ha : a = -4 ∨ ∃ k, k < n ∧ a = nI k)
    (h1 : (a = -4 ∨ (¬ nI p = a ∧ ¬ bit (nw I (11 + 5 * a.toNatClampNeg)) (nI p))) → Q (.returned (some (.int 1))) (mX e I G)) (h0 : ¬ (a = -4 ∨ (¬ nI p = a ∧ ¬ bit (nw I (11 + 5 * a.toNatClampNeg)) (nI p))) → Q (.returned (some (.int 0))) (mX e I G)) :
    Rn 112 0 [some (.ref 179), some (.int (nI p)), some (.int a)] [] (0, 0) (mX e I G) Q := by
  refine g_X9_isApart_0 ?_ ?_ ?_ ?_ ?_
  · intro q; exact h1 (Or.inl q)
  · intro q1 q2; exact h0 (fun q => q.elim q1 (fun w => w.1 q2))
  all_goals intro q1 q2
  all_goals obtain ⟨k, hk, rfl⟩ := ha.resolve_left q1
  all_goals have hcl : (nI k).toNatClampNeg = k := nI_clamp (by omega)
  · exact vi7 (w := 4) (by omega) (by omega)
  · intro q3
    rw [tol_4 (by omega)] at q3
    refine h1 (Or.inr ⟨q2, ?_⟩)
    rw [hcl]
    exact (and01 _).mp q3
  · intro q3
    rw [tol_4 (by omega)] at q3
    refine h0 (fun q => q.elim q1 (fun w => q3 ((and01 _).mpr ?_)))
    have := w.2
    rw [hcl] at this
    exact this
theorem m_mayLoop {n m d : Nat} {c : Int32} (ok : Ok (nw I) n m d) (hc : caseP m c) (hQ : Q (.returned (some (.int (maySet (nw I) 0 c n)))) (mX e I G)) :
    ∀ j k, k + j = n → Rn 110 4 [some (.ref 179), some (.int c), some (.int (maySet (nw I) 0 c k)), some (.int (nI k))] [] (0, 0) (mX e I G) Q := by
  have hn : I 180 0 = nI n := ok.hn
  have h6 := ok.n6
  have hm6 := ok.m6
  intro j
  induction j with
  | zero =>
    intro k hk
    have : k = n := by omega
    subst this
    have hx : ¬ nI k < I 180 0 := by rw [hn]; exact nI_nlt (Nat.le_refl _) (by omega)
    refine g_X9_mayJudge_4 ?_ ?_ ?_ ?_ ?_ ?_ ?_
    all_goals intro h1
    iterate 6 exact absurd h1 hx
    exact hQ
  | succ j ih =>
    intro k hk
    have ih2 := ih (k + 1) (by omega)
    have hkn : k < n := by omega
    have hx : nI k < I 180 0 := by rw [hn]; exact nI_lt hkn (by omega)
    have s0 : (decide (¬ c = -4) && decide (mayP (nw I) 0 c.toNatClampNeg k)) = false → maySet (nw I) 0 c (k + 1) = maySet (nw I) 0 c k ||| 0 := fun h => by
      show setB _ k ||| (if (decide (¬ c = -4) && decide (mayP (nw I) 0 c.toNatClampNeg k)) = true then _ else _) = _
      rw [h]; rfl
    have s1 : (decide (¬ c = -4) && decide (mayP (nw I) 0 c.toNatClampNeg k)) = true → maySet (nw I) 0 c (k + 1) = maySet (nw I) 0 c k ||| (1 <<< (nI k &&& 31)) := fun h => by
      show setB _ k ||| (if (decide (¬ c = -4) && decide (mayP (nw I) 0 c.toNatClampNeg k)) = true then _ else _) = _
      rw [h]; rfl
    refine g_X9_mayJudge_4 ?_ ?_ ?_ ?_ ?_ ?_ ?_
    · intro _ h2
      rw [nI_1, ← s0 (by rw [show decide (¬ c = -4) = false from decide_eq_false (fun q => q h2), Bool.false_and])]
      exact ih2
    · intro _ _; exact vi7 (w := 1) (by omega) (by omega)
    · intro _ _; exact vi7 (w := 2) (by omega) (by omega)
    · intro _ h2 h3
      rw [lat_late (by omega)] at h3
      rw [nI_1, ← s0 (by rw [show decide (mayP (nw I) 0 c.toNatClampNeg k) = false from decide_eq_false (fun q => q.1 h3), Bool.and_false])]
      exact ih2
    · intro _ h2 _
      obtain ⟨q, hq, rfl⟩ := hc.resolve_left h2
      exact vi37 (w := 1) (by omega) (by omega)
    · intro _ h2 h3
      rw [lat_late (by omega)] at h3
      obtain ⟨q, hq, rfl⟩ := hc.resolve_left h2
      rw [acc_at (by omega)]
      have hcl : (nI q).toNatClampNeg = q := nI_clamp (by omega)
      refine m_isApart h6 (ok.acc q hq) ?_ ?_
      · intro h4
        refine g_X9_mayJudge_45 (fun h => absurd h (by decide)) (fun _ => ?_)
        rw [nI_1, ← s1 ?_]
        · exact ih2
        · rw [decide_eq_true h2, Bool.true_and, decide_eq_true_eq, hcl]
          exact ⟨h3, h4⟩
      · intro h4
        refine g_X9_mayJudge_45 (fun _ => ?_) (fun h => absurd rfl h)
        rw [nI_1, ← s0 ?_]
        · exact ih2
        · rw [decide_eq_true h2, Bool.true_and, decide_eq_false_iff_not, hcl]
          exact fun q => h4 q.2
    · intro h1; exact absurd hx h1
theorem m_mayJudge {n m d : Nat} {c : Int32} (ok : Ok (nw I) n m d) (hc : caseP m c) (hQ : Q (.returned (some (.int (maySet (nw I) 0 c n)))) (mX e I G)) : Rn 110 0 [some (.ref 179), some (.int c), none, none] [] (0, 0) (mX e I G) Q :=
  g_X9_mayJudge_0 (m_mayLoop ok hc hQ n 0 (by omega))
theorem m_judgeLoop {n m d : Nat} {S : Int32} {f : Nat → Bool} (ok : Ok (nw I) n m d)
    (hf : ∀ p, p < n → (f p = true ↔ bit S (nI p))) (hQ : Q (.returned (some (.int (noI (judB f (late (nw I) 0) n))))) (mX e I G)) :
    ∀ j k, k + j = n → Rn 125 12 [some (.ref 179), none, some (.int S), some (.int (noI (judB f (late (nw I) 0) k))), some (.int (nI k)), none] [] (0, 0) (mX e I G) Q := by
  have hn : I 180 0 = nI n := ok.hn
  have h6 := ok.n6
  intro j
  induction j with
  | zero =>
    intro k hk
    have : k = n := by omega
    subst this
    have hx : ¬ nI k < I 180 0 := by rw [hn]; exact nI_nlt (Nat.le_refl _) (by omega)
    refine g_X9_judgeOf_12 ?_ ?_ ?_ ?_ ?_ ?_ ?_ ?_ ?_
    all_goals intro h1
    iterate 8 exact absurd h1 hx
    exact hQ
  | succ j ih =>
    intro k hk
    have ih2 := ih (k + 1) (by omega)
    have hkn : k < n := by omega
    have hff := hf k hkn
    have hx : nI k < I 180 0 := by rw [hn]; exact nI_lt hkn (by omega)
    cases hj : judB f (late (nw I) 0) k with
    | none =>
      refine g_X9_judgeOf_12 ?_ ?_ ?_ ?_ ?_ ?_ ?_ ?_ ?_
      · intro _ h2 _
        rw [judB, hff.mpr h2, hj] at ih2
        rw [nI_1]; exact ih2
      iterate 6 exact fun _ _ h3 => absurd rfl h3
      · intro _ h2
        have : f k = false := Bool.eq_false_iff.mpr fun q => h2 (hff.mp q)
        rw [judB, this, hj] at ih2
        rw [nI_1]; exact ih2
      · intro h1; exact absurd hx h1
    | some b =>
      have hb := judB_lt hj
      refine g_X9_judgeOf_12 ?_ ?_ ?_ ?_ ?_ ?_ ?_ ?_ ?_
      · intro _ _ h3; exact absurd h3 (nI_m4 (by omega))
      · intro _ _ _; exact vi7 (w := 1) (by omega) (by omega)
      · intro _ _ _; exact vi7 (w := 2) (by omega) (by omega)
      · intro _ _ _; exact vi7 (w := 1) (by omega) (by omega)
      · intro _ _ _; exact vi7 (w := 2) (by omega) (by omega)
      · intro _ h2 _ h4
        rw [lat_late (by omega)] at h4
        have h5 : late (nw I) 0 k < late (nw I) 0 b := by rw [← lat_late (show b < 6 by omega)]; exact h4
        rw [judB, hff.mpr h2, hj] at ih2
        simp only [if_true, h5] at ih2
        rw [nI_1]; exact ih2
      · intro _ h2 _ h4
        rw [lat_late (by omega)] at h4
        have h5 : ¬ late (nw I) 0 k < late (nw I) 0 b := by rw [← lat_late (show b < 6 by omega)]; exact h4
        rw [judB, hff.mpr h2, hj] at ih2
        simp only [if_true, h5, if_false] at ih2
        rw [nI_1]; exact ih2
      · intro _ h2
        have : f k = false := Bool.eq_false_iff.mpr fun q => h2 (hff.mp q)
        rw [judB, this, hj] at ih2
        rw [nI_1]; exact ih2
      · intro h1; exact absurd hx h1
theorem m_judgeOf {n m d : Nat} {c : Int32} (ok : Ok (nw I) n m d) (hc : caseP m c) (hQ : Q (.returned (some (.int (noI (judg (nw I) 0 c))))) (mX e I G)) :
    Rn 125 0 [some (.ref 179), some (.int c), none, none, none, none] [] (0, 0) (mX e I G) Q := by
  have h6 := ok.n6
  unfold judg at hQ
  rw [ok.clamp] at hQ
  refine g_X9_judgeOf_0 (m_mayJudge ok hc (g_X9_judgeOf_5 (m_judgeLoop ok ?_ hQ n 0 (by omega))))
  intro p hp
  rw [maySet, setB_bit h6 (by omega)]
  exact ⟨fun q => ⟨hp, q⟩, fun q => q.2⟩
theorem plc_E : plcE I = plc (nw I) := rfl
theorem m_judgeNow {n m d : Nat} (ok : Ok (nw I) n m d) (hQ : Q (.returned (some (.int (noI (judg (nw I) 0 (plc (nw I))))))) (mX e I G)) : Rn 135 0 [some (.ref 179)] [] (0, 0) (mX e I G) Q :=
  g_X9_judgeNow_0 (m_judgeOf ok (ok_plc (t := nw I) ok) (g_X9_judgeNow_8 hQ))
theorem m_yearsByN {n m d p c : Nat} (ok : Ok (nw I) n m d) (hp : p < n) (hc : c < m) (hQ : Q (.returned (some (.int (yrs (nw I) p c)))) (mX e I G)) : Rn 126 0 [some (.ref 179), some (.int (nI p)), some (.int (nI c)), none, none] [] (0, 0) (mX e I G) Q := by
  have h6 := ok.n6
  have hm6 := ok.m6
  obtain ⟨k, hk, hk2⟩ := ok.kind p hp
  obtain ⟨v, hv, hv2⟩ := ok.prf c hc
  have ek : tolE I (nI p) 0 = nI k := by rw [tol_0 (by omega)]; exact hk2
  have ev : I 180 (37 + 2 * nI c).toNatClampNeg = nI v := by rw [prf_at (I := I) (c := c) (by omega)]; exact hv2
  have key : ∀ x, x = yrs (nw I) p c → Q (.returned (some (.int x))) (mX e I G) := fun x hx => by rw [hx]; exact hQ
  have no4 : ¬ nI p = -4 := nI_m4 (by omega)
  have hy : yrs (nw I) p c = if nI k = 0 then plain (nI v) else if nI k = 1 then (if 0 < plain (nI v) then plain (nI v) + 3 else 0) else if nI k = 2 then plain (nI v) / 2 else if nI k = 3 then 9 else plain (nI v) / 2 + latE I (nI p) / 10 := by
    unfold yrs
    rw [hk2, hv2, lat_late (by omega)]
  have k4 : (nI k < 0 ∨ nI 4 ≤ nI k) → k = 4 := fun h => by
    rcases h with h | h
    · exact absurd h (nI_pos (by omega))
    · have := (nI_leI (by omega) (by omega)).mp h; omega
  refine g_X9_yearsBy_0 ?_ ?_ ?_ ?_ ?_ ?_ ?_ ?_ ?_ ?_ ?_ ?_ ?_ ?_ ?_ ?_ ?_ ?_ ?_
  · intro h1; exact absurd h1 no4
  all_goals intro _
  · exact vi37' (by omega)
  all_goals intro h2
  all_goals rw [ev] at h2
  · exact vi7 (w := 0) (by omega) (by omega)
  · intro _; exact vi7 (w := 1) (by omega) (by omega)
  · intro _; exact vi7 (w := 2) (by omega) (by omega)
  · intro h3
    rw [ek] at h3
    refine key _ ?_
    rw [hy, ev, k4 h3]
    unfold plain
    rw [if_pos h2]
    rfl
  · intro h3
    rw [ek] at h3
    refine key _ ?_
    rw [hy, ev, h3]
    unfold plain
    rw [if_pos h2]
    rfl
  · intro h3 h4
    rw [ek] at h3
    rw [ev] at h4
    refine key _ ?_
    rw [hy, ev, h3]
    unfold plain
    rw [if_pos h2, if_pos h4]
    rfl
  · intro h3 h4
    rw [ek] at h3
    rw [ev] at h4
    refine key _ ?_
    rw [hy, h3]
    unfold plain
    rw [if_pos h2, if_neg h4]
    rfl
  · intro h3
    rw [ek] at h3
    refine key _ ?_
    rw [hy, ev, h3]
    unfold plain
    rw [if_pos h2]
    rfl
  · intro h3
    rw [ek] at h3
    refine key _ ?_
    rw [hy, h3]
    rfl
  · exact vi7 (w := 0) (by omega) (by omega)
  · intro _; exact vi7 (w := 1) (by omega) (by omega)
  · intro _; exact vi7 (w := 2) (by omega) (by omega)
  · intro h3
    rw [ek] at h3
    refine key _ ?_
    rw [hy, k4 h3]
    unfold plain
    rw [if_neg h2]
    rfl
  · intro h3
    rw [ek] at h3
    refine key _ ?_
    rw [hy, h3]
    unfold plain
    rw [if_neg h2]
    rfl
  · intro h3
    rw [ek] at h3
    refine key _ ?_
    rw [hy, h3]
    unfold plain
    rw [if_neg h2]
    rfl
  · intro h3
    rw [ek] at h3
    refine key _ ?_
    rw [hy, h3]
    unfold plain
    rw [if_neg h2]
    rfl
  · intro h3
    rw [ek] at h3
    refine key _ ?_
    rw [hy, h3]
    rfl
theorem m_yearsBy {n m d : Nat} {o : Option Nat} {c : Int32} (ok : Ok (nw I) n m d) (ho : ∀ p, o = some p → p < n ∧ ∃ k, k < m ∧ c = nI k) (hQ : Q (.returned (some (.int (yrsO (nw I) o c)))) (mX e I G)) : Rn 126 0 [some (.ref 179), some (.int (noI o)), some (.int c), none, none] [] (0, 0) (mX e I G) Q := by
  cases o with
  | none =>
    refine g_X9_yearsBy_0 (fun _ => hQ) ?_ ?_ ?_ ?_ ?_ ?_ ?_ ?_ ?_ ?_ ?_ ?_ ?_ ?_ ?_ ?_ ?_ ?_
    all_goals intro h
    all_goals exact absurd rfl h
  | some p =>
    obtain ⟨hp, k, hk, rfl⟩ := ho p rfl
    have hm6 := ok.m6
    refine m_yearsByN ok hp hk ?_
    have h2 : yrsO (nw I) (some p) (nI k) = yrs (nw I) p (nI k).toNatClampNeg := rfl
    rw [h2, nI_clamp (by omega)] at hQ
    exact hQ
theorem m_goesBy {n m d : Nat} {c : Int32} (ok : Ok (nw I) n m d) (hc : caseP m c) (hQ : ∀ I', nw I' = goes (nw I) c → fr 180 180 I I' → Q (.returned (some (.int (yrsO (nw I) (judg (nw I) 0 c) c)))) (mX e I' G)) : Rn 124 0 [some (.ref 179), some (.int c), none, none] [] (0, 0) (mX e I G) Q := by
  have h6 := ok.n6
  refine g_X9_goesBy_0 (m_judgeOf ok hc (g_X9_goesBy_5 (m_yearsBy ok (judg_case ok hc) ?_)))
  refine g_X9_goesBy_12 ?_ ?_ ?_
  · intro h1
    have hn : judg (nw I) 0 c = none := by
      cases hj : judg (nw I) 0 c with
      | none => rfl
      | some b => rw [hj] at h1; exact absurd h1 (nI_m4 (by have := judg_lt ok hj; omega))
    refine hQ _ ?_ ?_
    · unfold goes
      rw [nw_up (by omega), nw_up (by omega), nw_up (by omega), hn]
      rfl
    · exact ((fr.rf.up (by omega) (by omega)).up (by omega) (by omega)).up (by omega) (by omega)
  · intro h1
    cases hj : judg (nw I) 0 c with
    | none => rw [hj] at h1; exact absurd rfl h1
    | some b => exact vi7 (w := 3) (by have := judg_lt ok hj; omega) (by omega)
  · intro h1
    cases hj : judg (nw I) 0 c with
    | none => rw [hj] at h1; exact absurd rfl h1
    | some b =>
      have hb := judg_lt ok hj
      have hix : ((7 + 5 * noI (some b)) + 3 : Int32).toNatClampNeg = 10 + 5 * b := by
        have := (ix7 b (by omega) 3 (by omega)).2
        rw [show 7 + 5 * b + 3 = 10 + 5 * b by omega] at this
        exact this
      rw [hj] at hQ
      rw [hix]
      refine hQ _ ?_ ?_
      · unfold goes
        rw [nw_up (by omega), nw_up (by omega), nw_up (by omega), nw_up (by omega), hj]
        rw [up2_i (show (2 : Nat) ≠ 4 by omega), up2_i (show (2 : Nat) ≠ 5 by omega), up2_i (show (2 : Nat) ≠ 10 + 5 * b by omega), up2_i (show (4 : Nat) ≠ 5 by omega), up2_i (show (4 : Nat) ≠ 10 + 5 * b by omega)]
        have e5 : I 180 (10 + 5 * b) = nw I (10 + 5 * b) := (cut_at (by omega)).symm
        rw [e5]
        rfl
      · exact (((fr.rf.up (by omega) (by omega)).up (by omega) (by omega)).up (by omega) (by omega)).up (by omega) (by omega)
theorem m_asLoop : ∀ j k {I : Nat → Nat → Int32}, k + j = 49 → (∀ I', (∀ i, k ≤ i → i < 49 → I' 185 i = I 180 i) → (∀ i, i < k → I' 185 i = I 185 i) → fr 185 185 I I' → Q (.returned none) (mX e I' G)) → Rn 133 2 [some (.ref 179), some (.int (nI k))] [] (0, 0) (mX e I G) Q := by
  intro j
  induction j with
  | zero =>
    intro k I hk hQ
    have : k = 49 := by omega
    subst this
    refine g_X9_asides_2 (fun h => absurd h (by decide)) (fun h => absurd h (by decide)) (fun _ => hQ I (fun i h1 h2 => by omega) (fun _ _ => rfl) fr.rf)
  | succ j ih =>
    intro k I hk hQ
    refine g_X9_asides_2 (fun _ => vp_in_nI (by omega) (by omega)) (fun _ => ?_) (fun h => absurd (nI_lt (b := 49) (by omega) (by omega)) h)
    rw [nI_1, nI_clamp (by omega)]
    refine ih (k + 1) (by omega) fun I' h1 h2 h3 => hQ I' ?_ ?_ ?_
    · intro i a1 a2
      by_cases hi : i = k
      · subst hi; rw [h2 i (by omega), up2_v]
      · rw [h1 i (by omega) a2, up2_ne (by omega)]
    · intro i a1; rw [h2 i (by omega), up2_i (by omega)]
    · intro q hq; rw [h3 q hq, up2_ne (by omega)]
theorem m_asides (hQ : ∀ I', cut (I' 185) = nw I → fr 185 185 I I' → Q (.returned none) (mX e I' G)) : Rn 133 0 [some (.ref 179), none] [] (0, 0) (mX e I G) Q := by
  refine g_X9_asides_0 (m_asLoop 49 0 (by omega) fun I' h1 h2 h3 => hQ I' ?_ h3)
  funext j
  show (if j < 49 then I' 185 j else 0) = (if j < 49 then I 180 j else 0)
  split
  · exact h1 j (by omega) (by assumption)
  · rfl
theorem m_bkLoop : ∀ j k {I : Nat → Nat → Int32}, k + j = 49 → (∀ I', (∀ i, k ≤ i → i < 49 → I' 180 i = I 185 i) → (∀ i, i < k → I' 180 i = I 180 i) → fr 180 180 I I' → Q (.returned none) (mX e I' G)) → Rn 136 2 [some (.ref 179), some (.int (nI k))] [] (0, 0) (mX e I G) Q := by
  intro j
  induction j with
  | zero =>
    intro k I hk hQ
    have : k = 49 := by omega
    subst this
    refine g_X9_backs_2 (fun h => absurd h (by decide)) (fun h => absurd h (by decide)) (fun _ => hQ I (fun i h1 h2 => by omega) (fun _ _ => rfl) fr.rf)
  | succ j ih =>
    intro k I hk hQ
    refine g_X9_backs_2 (fun _ => vp_in_nI (by omega) (by omega)) (fun _ => ?_) (fun h => absurd (nI_lt (b := 49) (by omega) (by omega)) h)
    rw [nI_1, nI_clamp (by omega)]
    refine ih (k + 1) (by omega) fun I' h1 h2 h3 => hQ I' ?_ ?_ ?_
    · intro i a1 a2
      by_cases hi : i = k
      · subst hi; rw [h2 i (by omega), up2_v]
      · rw [h1 i (by omega) a2, up2_ne (by omega)]
    · intro i a1; rw [h2 i (by omega), up2_i (by omega)]
    · intro q hq; rw [h3 q hq, up2_ne (by omega)]
theorem m_backs (hQ : ∀ I', nw I' = cut (I 185) → fr 180 180 I I' → Q (.returned none) (mX e I' G)) : Rn 136 0 [some (.ref 179), none] [] (0, 0) (mX e I G) Q := by
  refine g_X9_backs_0 (m_bkLoop 49 0 (by omega) fun I' h1 h2 h3 => hQ I' ?_ h3)
  funext j
  show (if j < 49 then I' 180 j else 0) = (if j < 49 then I 185 j else 0)
  split
  · exact h1 j (by omega) (by assumption)
  · rfl
theorem m_goesOn {n m : Nat} : ∀ j k {I : Nat → Nat → Int32} {d : Nat} {N : Nat}, k + j = N → N ≤ 60 → Ok (nw I) n m d → d + j ≤ 9999 + 60 → (∀ I', nw I' = goN (nw I) j → fr 180 180 I I' → Q (.returned none) (mX e I' G)) → Rn 134 2 [some (.ref 179), some (.int (nI N)), some (.int (nI k))] [] (0, 0) (mX e I G) Q := by
  intro j
  induction j with
  | zero =>
    intro k I d N hk hN ok hd hQ
    have : k = N := by omega
    subst this
    refine g_X9_goesOn_2 ?_ ?_
    · intro h1; exact absurd h1 (nI_nlt (Nat.le_refl _) (by omega))
    · intro _; exact hQ I rfl fr.rf
  | succ j ih =>
    intro k I d N hk hN ok hd hQ
    refine g_X9_goesOn_2 ?_ ?_
    · intro _
      refine m_goesBy ok (ok_plc (t := nw I) ok) fun I1 h1 h2 => g_X9_goesOn_15 ?_
      rw [nI_1]
      refine ih (k + 1) (by omega) hN (d := d + 1) (by rw [h1]; exact ok_goes ok (by omega)) (by omega) fun I2 h3 h4 => hQ I2 ?_ (h2.tr h4)
      rw [h3, h1]; rfl
    · intro h1; exact absurd (nI_lt (by omega) (by omega)) h1
theorem m_lingersBy {p : Nat} {v : Int32} (hp : p < 6) (hQ : Q (.returned none) (mX e (up2 I 180 (9 + 5 * p) v) G)) : Rn 140 0 [some (.ref 179), some (.int (nI p)), some (.int v)] [] (0, 0) (mX e I G) Q := by
  refine g_X9_lingersBy_0 (vi7 (w := 2) hp (by omega)) ?_
  have := (ix7 p hp 2 (by omega)).2
  rw [show ((7 + 5 * nI p) + 2 : Int32).toNatClampNeg = 9 + 5 * p from by rw [show 9 + 5 * p = 7 + 5 * p + 2 by omega]; exact this]
  exact hQ
end S48
