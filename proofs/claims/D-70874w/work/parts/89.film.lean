/-! a film: the twin -/
theorem low_n : ∀ l, l < 4 → ∀ k, k ≤ 40 → lowE (nI l) (nI k).toInt64 = (nI k).toInt64 := by decide +kernel
theorem low_m4 : ∀ l, l < 4 → lowE (nI l) (-4 : Int32).toInt64 = (-4 : Int32).toInt64 := by decide +kernel
theorem low_fil {t : Nat → Int32} {n m d l : Nat} {a : Int32} (ok : Ok t n m d) (hl : l < 4) : lowE (nI l) (filV a t).toInt64 = (filV a t).toInt64 := by
  unfold filV
  split
  · show lowE (nI l) (noI (judg t 0 (plc t))).toInt64 = (noI (judg t 0 (plc t))).toInt64
    cases hj : judg t 0 (plc t) with
    | none => exact low_m4 l hl
    | some b =>
      have := judg_lt ok hj
      have := ok.n6
      exact low_n l hl b (by omega)
  · obtain ⟨k, hk, e⟩ := yrsO_ran (h := 0) ok (ok_plc ok)
    show lowE (nI l) (yrsO t (judg t 0 (plc t)) (plc t)).toInt64 = (yrsO t (judg t 0 (plc t)) (plc t)).toInt64
    rw [e]
    exact low_n l hl k hk
theorem goes5 {t : Nat → Int32} {c : Int32} : goes t c 5 = noI (judg t 0 c) := by
  unfold goes
  rw [up1_ne (by omega), up1_ne (by omega), up1_at]
theorem m_filLoop {e : En} {Q : Po} {a : Int32} {T : Nat → Int32} {N n m s l z i : Nat} (hN : N ≤ 24) (hs : s < 4) (hl : l < 4) (hz : z ≤ 24) (hiz : i + N ≤ z) : ∀ j k {I : Nat → Nat → Int32} {G : Nat → Nat → Int64} {σ : Sg} {d : Nat} {f : Nat → Int64}, k + j = N → MR σ I G → (∀ q, q < 4 → ∀ l z f, σ.2.2.2.2 q = some (l, z, f) → z ≤ 24) → Ok σ.1 n m d → d + j ≤ 9999 + 60 → cut (I 185) = T → σ.2.2.2.2 s = some (l, z, f) → (∀ I' G', MR (setS (T, σ.2) s (some (l, z, filR a l j (i + k) σ.1 f))) I' G' → keepM I G I' G' → Q (.returned (some (.int (nI N)))) (mX e I' G')) →
    Rn 158 66 [some (.ref 179), some (.int a), some (.int (nI N)), some (.int (nI s)), none, some (.int (nI i)), none, some (.int (nI k)), none] [] (0, 0) (mX e I G) Q := by
  intro j
  induction j with
  | zero =>
    intro k I G σ d f hk hM hz4 ok hd hT hf hQ
    have : k = N := by omega
    subst this
    have no : ¬ nI k < nI k := nI_nlt (Nat.le_refl _) (by omega)
    refine g_X9_film_66 (fun h => absurd h no) (fun _ => ?_)
    refine m_backs fun I3 t3 f3 => g_X9_film_124 ?_
    have h9 : MR (T, σ.2) I3 G := hM.town (t3.trans hT) f3
    refine hQ I3 G ?_ (f3.kM (by omega) (by omega))
    show MR (setS (T, σ.2) s (some (l, z, f))) I3 G
    rw [setS_same (σ := (T, σ.2)) hf]
    exact h9
  | succ j ih =>
    intro k I G σ d f hk hM hz4 ok hd hT hf hQ
    have yes : nI k < nI N := nI_lt (by omega) (by omega)
    have h7 : nw I = σ.1 := hM.2.1
    refine g_X9_film_66 (fun _ => ?_) (fun h => absurd yes h)
    rw [plc_E]
    refine m_goesBy (by rw [h7]; exact ok) (ok_plc (by rw [h7]; exact ok)) fun I2 t2 f2 => ?_
    rw [h7] at t2 ⊢
    have m2 := hM.town t2 f2
    obtain ⟨x1, x2⟩ := ix24 s hs (i + k) (by omega)
    rw [← nI_add, ← Int32.add_assoc] at x1 x2
    have hs0 : yrsO σ.1 (judg σ.1 0 (plc σ.1)) (plc σ.1) = yNow σ.1 := rfl
    have h5 : I2 180 5 = jNow σ.1 := by
      have : nw I2 5 = goes σ.1 (plc σ.1) 5 := by rw [t2]
      rw [goes5] at this
      exact this
    have lw := low_fil (a := a) ok hl
    have go : ∀ v : Int32, v = filV a σ.1 → Rn 158 66 [some (.ref 179), some (.int a), some (.int (nI N)), some (.int (nI s)), none, some (.int (nI i)), none, some (.int (nI k + 1)), none] [] (0, 0) (mX e I2 (up2 G 190 (24 * s + (i + k)) v.toInt64)) Q := by
      intro v hv
      subst hv
      rw [nI_1, ← lw]
      have c2 := m2.shs (fun _ _ _ => rfl) (shM_put (x := lowE (nI l) (filV a σ.1).toInt64) (k := i + k) hs hz (by omega) hz4 m2.2.2.2.2 hf)
      refine ih (k + 1) (by omega) c2 (fun q hq l' z' f' hf' => ?_) (ok_goes ok (by omega)) (by omega) (by rw [f2 185 (by omega)]; exact hT) (f := updL f (i + k) (lowE (nI l) (filV a σ.1).toInt64)) (va_up_self _ _ _) fun I' G' c' k' => hQ I' G' ?_ ?_
      · by_cases e1 : q = s
        · subst e1
          have hf2 : va_up σ.2.2.2.2 q (some (l, z, updL f (i + k) (lowE (nI l) (filV a σ.1).toInt64))) q = some (l', z', f') := hf'
          rw [va_up_self] at hf2
          cases hf2
          exact hz
        · have hf2 : va_up σ.2.2.2.2 s (some (l, z, updL f (i + k) (lowE (nI l) (filV a σ.1).toInt64))) q = some (l', z', f') := hf'
          rw [va_up_ne _ _ e1] at hf2
          exact hz4 q hq l' z' f' hf2
      · have e9 : setS (T, (setS σ s (some (l, z, updL f (i + k) (lowE (nI l) (filV a σ.1).toInt64)))).2) s (some (l, z, filR a l j (i + (k + 1)) (goes σ.1 (plc σ.1)) (updL f (i + k) (lowE (nI l) (filV a σ.1).toInt64)))) = setS (T, σ.2) s (some (l, z, filR a l (j + 1) (i + k) σ.1 f)) := by
          show setS (setS (T, σ.2) s _) s _ = _
          rw [setS_twice]
          rfl
        rw [← e9]
        exact c'
      · refine keepM.tr (fun q hq => ⟨f2 q (by omega), ?_⟩) k'
        exact up2_o (by omega)
    refine g_X9_film_80 (fun _ => x1) (fun h0 => ?_) (fun _ => x1) (fun h0 => ?_)
    · rw [x2, h5]
      exact go _ (by unfold filV; rw [if_pos h0])
    · rw [x2]
      exact go _ (by unfold filV; rw [if_neg h0])
theorem m_film {a n w lane i : Int32} : oM 158 [some (.ref 179), some (.int a), some (.int n), some (.int w), some (.int lane), some (.int i), none, none, none] (filmF a n w lane i) := by
  intro e I G Q σ hM hO hQ
  obtain ⟨⟨pn, pm, d, ok, hd, -⟩, -⟩ := id hO
  have bad : ¬ ((inl a.toInt64 0 1 ∧ inl n.toInt64 1 24) ∧ inl w.toInt64 0 3 ∧ inl lane.toInt64 0 3) → Q (.returned (some (.int (-1)))) (mX e I G) := fun hv => by
    have := hQ I G
    unfold filmF at this
    rw [if_neg hv] at this
    exact this hM keepM.rf
  refine g_X9_film_0 (fun q => bad (fun k => q k.1.1)) (fun _ q => bad (fun k => q k.1.2)) (fun _ _ q => bad (fun k => q k.2.1)) (fun _ _ _ q => bad (fun k => q k.2.2)) (fun q1 q2 q3 q4 => ?_)
  have hv0 : (inl a.toInt64 0 1 ∧ inl n.toInt64 1 24) ∧ inl w.toInt64 0 3 ∧ inl lane.toInt64 0 3 := ⟨⟨q1, q2⟩, q3, q4⟩
  obtain ⟨s, -, hs, rfl⟩ := inR (lo := 0) (hi := 3) q3
  obtain ⟨m, -, hm, rfl⟩ := inR (lo := 0) (hi := 3) q4
  obtain ⟨N, hN1, hN, rfl⟩ := inR (lo := 1) (hi := 24) q2
  have hs4 : s < 4 := by omega
  have hm4 : m < 4 := by omega
  obtain ⟨g1, g2, g3, g4, g5⟩ := shr_fact (e := e) hs4
  have hF : ∀ I' G', MR (filmF a (nI N) (nI s) (nI m) i σ).2 I' G' → keepM I G I' G' → Q (.returned (some (.int (filmF a (nI N) (nI s) (nI m) i σ).1))) (mX e I' G') := hQ
  unfold filmF at hF
  rw [if_pos hv0, g4] at hF
  refine m_why hM hO hs4 (g_X9_film_49 (fun h => ?_) (fun h => ?_))
  · rw [if_pos h] at hF
    exact hF I G hM keepM.rf
  · rw [if_neg h] at hF
    obtain ⟨l, z, f, hsh, hl, hi0, hiz⟩ := why_ok h
    rw [hsh] at hF
    dsimp only at hF
    obtain ⟨hl4, hz24⟩ := hO.2.2.2 s hs4 l z f hsh
    have el : l = m := nI4 l hl4 m hm4 hl
    subst el
    rw [nI_clamp (by omega)] at hF hiz
    have ei : i = nI i.toNatClampNeg := by
      apply Int32.toInt_inj.mp
      rw [nI_toInt (by omega)]
      exact nn_toInt hi0
    have h7 : nw I = σ.1 := hM.2.1
    refine m_asides fun I1 t1 f1 => g_X9_film_63 ?_
    have m1 : MR σ I1 G := hM.con (nw_con (f1 180 (by omega))) (f1 179 (by omega)) (f1 181 (by omega)) (f1 184 (by omega)) (f1 187 (by omega)) (f1 188 (by omega)) (f1 189 (by omega)) rfl
    rw [ei]
    exact m_filLoop hN hs4 hl4 hz24 hiz N 0 (by omega) m1 (fun q hq l z f h => (hO.2.2.2 q hq l z f h).2) ok (by omega) (t1.trans h7) hsh fun I' G' c' k' => hF I' G' c' ((f1.kM (by omega) (by omega)).tr k')
theorem k_film {a n w lane i : Int32} : oK (filmF a n w lane i) := by
  intro σ h
  unfold filmF
  split
  · rename_i hv
    obtain ⟨s, -, hs, rfl⟩ := inR (lo := 0) (hi := 3) hv.2.1
    have hs4 : s < 4 := by omega
    have g4 : (nI s).toNatClampNeg = s := (shr_fact (e := (fun _ => none, fun _ _ => .null, 0, fun _ => 0, 0)) hs4).2.2.2.1
    rw [g4]
    split
    · exact h
    · split
      · exact h
      · rename_i l z f hsh
        exact h.shs (fun l' z' f' e => by cases e; exact h.2.2.2 s hs4 _ _ _ hsh)
  · exact h
