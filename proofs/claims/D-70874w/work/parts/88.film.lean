/-! a film: the component -/
def filV (a : Int32) (t : Nat → Int32) : Int32 := if a = 0 then jNow t else yNow t
def filR (a : Int32) (l : Nat) : Nat → Nat → (Nat → Int32) → (Nat → Int64) → (Nat → Int64)
  | 0, _, _, f => f
  | j + 1, k, t, f => filR a l j (k + 1) (goes t (plc t)) (updL f k (lowE (nI l) (filV a t).toInt64))
noncomputable def filmF (a n w lane i : Int32) (σ : Sg) : Int32 × Sg := @ite _ ((inl a.toInt64 0 1 ∧ inl n.toInt64 1 24) ∧ inl w.toInt64 0 3 ∧ inl lane.toInt64 0 3) (Classical.propDecidable _) (if whyF (σ.2.2.2.2 w.toNatClampNeg) lane i n < 0 then (whyF (σ.2.2.2.2 w.toNatClampNeg) lane i n, σ) else match σ.2.2.2.2 w.toNatClampNeg with
  | none => (-11, σ)
  | some (l, z, f) => (n, setS σ w.toNatClampNeg (some (l, z, filR a l n.toNatClampNeg i.toNatClampNeg σ.1 f)))) (-1, σ)
theorem why_ok {o : Option (Nat × Nat × (Nat → Int64))} {lane i n : Int32} (h : ¬ whyF o lane i n < 0) : ∃ l z f, o = some (l, z, f) ∧ nI l = lane ∧ ¬ i < 0 ∧ i.toNatClampNeg + n.toNatClampNeg ≤ z := by
  cases o with
  | none => exact absurd (show (-11 : Int32) < 0 by decide) h
  | some q =>
    obtain ⟨l, z, f⟩ := q
    unfold whyF at h
    dsimp only at h
    by_cases h1 : nI l ≠ lane
    · rw [if_pos h1] at h
      exact absurd (by decide) h
    · rw [if_neg h1] at h
      by_cases h2 : i < 0 ∨ n < 0 ∨ z < i.toNatClampNeg + n.toNatClampNeg
      · rw [if_pos h2] at h
        exact absurd (by decide) h
      · exact ⟨l, z, f, rfl, Classical.not_not.mp h1, fun q => h2 (Or.inl q), Nat.le_of_not_lt (fun q => h2 (Or.inr (Or.inr q)))⟩
theorem va_same {α : Type} {g : Nat → α} {s : Nat} {v : α} (h : g s = v) : va_up g s v = g := by
  funext q
  by_cases e1 : q = s
  · subst e1; rw [va_up_self, h]
  · rw [va_up_ne _ _ e1]
theorem va_twice {α : Type} {g : Nat → α} {s : Nat} {v w : α} : va_up (va_up g s v) s w = va_up g s w := by
  funext q
  by_cases e1 : q = s
  · subst e1; rw [va_up_self, va_up_self]
  · rw [va_up_ne _ _ e1, va_up_ne _ _ e1, va_up_ne _ _ e1]
theorem setS_same {σ : Sg} {s : Nat} {o : Option (Nat × Nat × (Nat → Int64))} (h : σ.2.2.2.2 s = o) : setS σ s o = σ := by
  unfold setS
  rw [va_same h]
theorem setS_twice {σ : Sg} {s : Nat} {o o' : Option (Nat × Nat × (Nat → Int64))} : setS (setS σ s o) s o' = setS σ s o' := by
  unfold setS
  dsimp only
  rw [va_twice]
theorem c_layS {e : En} {I : Nat → Nat → Int32} {G : Nat → Nat → Int64} {Q : Po} {σ : Sg} {s l z : Nat} {f : Nat → Int64} {i : Int32} {v : Int64} (hC : CR σ e I G) (hs : s < 4) (hl : l < 4) (hf : σ.2.2.2.2 s = some (l, z, f)) (hi : vp_in i z) (hQ : ∀ I' G', CR (setS σ s (some (l, z, updL f i.toNatClampNeg (lowE (nI l) v)))) e I' G' → (∀ k, k < 192 → I' k = I k ∧ G' k = G k) → Q (.returned none) (mX e I' G')) : Rn 93 0 [some (.ref (47 + s)), some (.int (nI l)), some (.int i), some (.long v), none] [] (0, 0) (mX e I G) Q := by
  obtain ⟨g1, g2, g3, g4, g5⟩ := shr_fact (e := e) hs
  obtain ⟨r, r1, r2, r3, r4, r5⟩ := (hC.2.2.2.2.2.1 s hs).2 l z f hf
  refine s_lay (X := mX e I G) (r := r) (z := z) hl g2 (g3.trans r3) ((row_fact r1).trans r4) hi ?_
  rw [layX_mX]
  exact hQ _ _ (hC.lay hs hl hf r3 r1 r2 r4 r5) (fun k hk => ⟨layI_o (by omega), layG_o (by omega)⟩)
theorem c_filLoop {Q : Po} {a : Int32} {T : Nat → Int32} {N n m s l z i : Nat} (hN : N ≤ 24) (hs : s < 4) (hl : l < 4) (hz : z ≤ 24) (hiz : i + N ≤ z) : ∀ j k {e : En} {I : Nat → Nat → Int32} {G : Nat → Nat → Int64} {σ : Sg} {d : Nat} {f : Nat → Int64}, k + j = N → CR σ e I G → Ok σ.1 n m d → d + j ≤ 9999 + 60 → twn I 26 = T → σ.2.2.2.2 s = some (l, z, f) → (∀ I' G', CR (setS (T, σ.2) s (some (l, z, filR a l j (i + k) σ.1 f))) e I' G' → keepC e I G e I' G' → Q (.returned (some (.int (nI N)))) (mX e I' G')) →
    Rn 64 64 [some (.ref 0), some (.int a), some (.int (nI N)), some (.int (nI s)), some (.int (nI l)), some (.int (nI i)), none, some (.int (nI k))] [] (40 * k, 4000 * k) (mX e I G) Q := by
  intro j
  induction j with
  | zero =>
    intro k e I G σ d f hk hC ok hd hT hf hQ
    have : k = N := by omega
    subst this
    have no : ¬ nI k < nI k := nI_nlt (Nat.le_refl _) (by omega)
    refine g_X0_film_64 (q1 := 47) (fun h => absurd h no) (fun h => absurd h no) (fun h => absurd h no) (fun h => absurd h no) (fun h => absurd h no) (fun h => absurd h no) (fun h => absurd h no) (fun h => absurd h no) (fun _ => ?_) (fun _ => by omega) (fun _ => by omega)
    refine c_takeFrom stp_26 stp_7 (Or.inl (by decide)) fun I3 t3 f3 => g_X0_film_128 ?_
    have h9 : CR (T, σ.2) e I3 G := hC.town (t3.trans hT) f3
    refine hQ I3 G ?_ (f3.kC (by omega))
    show CR (setS (T, σ.2) s (some (l, z, f))) e I3 G
    rw [setS_same (σ := (T, σ.2)) hf]
    exact h9
  | succ j ih =>
    intro k e I G σ d f hk hC ok hd hT hf hQ
    have yes : nI k < nI N := nI_lt (by omega) (by omega)
    obtain ⟨g1, g2, g3, g4, g5⟩ := shr_fact (e := e) hs
    have h7 : twn I 7 = σ.1 := hC.2.1
    have hi : vp_in (nI i + nI k) z := by rw [nI_add]; exact vp_in_nI (by omega) (by omega)
    have hic : (nI i + nI k).toNatClampNeg = i + k := by rw [nI_add]; exact nI_clamp (by omega)
    have go : ∀ I1 G1, CR (setS σ s (some (l, z, updL f (nI i + nI k).toNatClampNeg (lowE (nI l) (filV a σ.1).toInt64)))) e I1 G1 → (∀ k, k < 192 → I1 k = I k ∧ G1 k = G k) → Rn 64 103 [some (.ref 0), some (.int a), some (.int (nI N)), some (.int (nI s)), some (.int (nI l)), some (.int (nI i)), none, some (.int (nI k))] [] (40 * k + 40, 4000 * k + 4000) (mX e I1 G1) Q := by
      intro I1 G1 c1 k1
      rw [hic] at c1
      have t1 : twn I1 7 = σ.1 := c1.2.1
      refine g_X0_film_103 ?_ (by omega) (by omega)
      rw [cnw_plc]
      refine c_oneDay (by rw [t1]; exact ok) (ok_plc (by rw [t1]; exact ok)) fun I2 t2 f2 => g_X0_film_111 ?_
      rw [nI_1, show 40 * k + 40 = 40 * (k + 1) by omega, show 4000 * k + 4000 = 4000 * (k + 1) by omega]
      rw [t1] at t2
      have c2 := c1.town t2 f2
      refine ih (k + 1) (by omega) c2 (ok_goes ok (by omega)) (by omega) ?_ (f := updL f (i + k) (lowE (nI l) (filV a σ.1).toInt64)) ?_ fun I' G' c' k' => hQ I' G' ?_ ?_
      · rw [← hT, f2.twn (by omega)]
        exact twn_con fun o ho => (k1 _ (by omega)).1
      · exact va_up_self _ _ _
      · have e9 : setS (T, (setS σ s (some (l, z, updL f (i + k) (lowE (nI l) (filV a σ.1).toInt64)))).2) s (some (l, z, filR a l j (i + (k + 1)) (goes σ.1 (plc σ.1)) (updL f (i + k) (lowE (nI l) (filV a σ.1).toInt64)))) = setS (T, σ.2) s (some (l, z, filR a l (j + 1) (i + k) σ.1 f)) := by
          show setS (setS (T, σ.2) s _) s _ = _
          rw [setS_twice]
          rfl
        rw [← e9]
        exact c'
      · refine keepC.tr ⟨rfl, fun q h1 h2 => ⟨?_, ?_⟩⟩ k'
        · rw [f2 q (by omega), (k1 q (by omega)).1]
        · rw [(k1 q (by omega)).2]
    refine g_X0_film_64 (q1 := 47 + s) (fun _ => g5) (fun _ => by rw [g4]; exact g1) (fun _ h0 => ?_) (fun _ _ => by omega) (fun _ _ => by omega) (fun _ h0 => ?_) (fun _ _ => by omega) (fun _ _ => by omega) (fun h => absurd yes h) (fun h => absurd yes h) (fun h => absurd yes h)
    · have hv : filV a σ.1 = jNow (twn I 7) := by unfold filV; rw [if_pos h0, h7]
      rw [hv] at go
      exact c_judgeNow (by rw [h7]; exact ok) (g_X0_film_91 g2 (c_layS hC hs hl hf hi go) (by omega) (by omega))
    · have hv : filV a σ.1 = yNow (twn I 7) := by unfold filV; rw [if_neg h0, h7]
      rw [hv] at go
      exact c_yearsNow (by rw [h7]; exact ok) (g_X0_film_99 g2 (c_layS hC hs hl hf hi go) (by omega) (by omega))
theorem c_film {a n w lane i : Int32} : oC 64 [some (.ref 0), some (.int a), some (.int n), some (.int w), some (.int lane), some (.int i), none, none] (filmF a n w lane i) := by
  intro e I G Q σ hC hO hQ
  obtain ⟨⟨pn, pm, d, ok, hd, -⟩, -⟩ := id hO
  have bad : ¬ ((inl a.toInt64 0 1 ∧ inl n.toInt64 1 24) ∧ inl w.toInt64 0 3 ∧ inl lane.toInt64 0 3) → Q (.returned (some (.int (-1)))) (mX e I G) := fun hv => by
    have := hQ e I G
    unfold filmF at this
    rw [if_neg hv] at this
    exact this hC keepC.rf
  refine g_X0_film_0 (fun q => bad (fun k => q k.1.1)) (fun _ q => bad (fun k => q k.1.2)) (fun _ _ q => bad (fun k => q k.2)) (fun q1 q2 q3 => ?_)
  have hv0 : (inl a.toInt64 0 1 ∧ inl n.toInt64 1 24) ∧ inl w.toInt64 0 3 ∧ inl lane.toInt64 0 3 := ⟨⟨q1, q2⟩, q3⟩
  obtain ⟨s, -, hs, rfl⟩ := inR (lo := 0) (hi := 3) q3.1
  obtain ⟨m, -, hm, rfl⟩ := inR (lo := 0) (hi := 3) q3.2
  obtain ⟨N, hN1, hN, rfl⟩ := inR (lo := 1) (hi := 24) q2
  have hs4 : s < 4 := by omega
  have hm4 : m < 4 := by omega
  obtain ⟨g1, g2, g3, g4, g5⟩ := shr_fact (e := e) hs4
  have hF : ∀ e' I' G', CR (filmF a (nI N) (nI s) (nI m) i σ).2 e' I' G' → keepC e I G e' I' G' → Q (.returned (some (.int (filmF a (nI N) (nI s) (nI m) i σ).1))) (mX e' I' G') := hQ
  unfold filmF at hF
  rw [if_pos hv0, g4] at hF
  refine c_lacks hC hO hs4 hN (g_X0_film_40 (u1 := 0) (u2 := 0) (fun h => ?_) (fun h => ?_) (fun _ => by omega) (fun _ => by omega))
  · rw [if_pos h] at hF
    exact hF e I G hC keepC.rf
  · rw [if_neg h] at hF
    obtain ⟨l, z, f, hsh, hl, hi0, hiz⟩ := why_ok h
    rw [hsh] at hF
    dsimp only at hF
    obtain ⟨hl4, hz24⟩ := hO.2.2.2 s hs4 l z f hsh
    have el : l = m := nI4 l hl4 m hm4 hl
    subst el
    rw [nI_clamp (by omega)] at hF hiz
    have ei : i = nI i.toNatClampNeg := by
      apply Int32.toInt_inj.mp
      rw [nI_toInt (by omega)]
      exact nn_toInt hi0
    have h7 : twn I 7 = σ.1 := hC.2.1
    refine c_takeFrom stp_7 stp_26 (Or.inr (by decide)) fun I1 t1 f1 => g_X0_film_61 ?_
    have c1 : CR σ e I1 G := hC.con (f1.twn (by omega)) (f1 0 (by omega)) (f1 16 (by omega)) (fun k _ _ => f1 k (by omega)) (fun k _ => f1 k (by omega)) (fun _ _ => rfl)
    rw [ei]
    refine c_filLoop hN hs4 hl4 hz24 hiz N 0 (by omega) c1 ok (by omega) (t1.trans h7) hsh fun I' G' c' k' => hF e I' G' c' ((f1.kC (by omega)).tr k')
