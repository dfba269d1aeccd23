/-! the bench: the twin -/
section B92
variable {e : En} {G : Nat → Nat → Int64} {Q : Po} {T : Nat → Int32} {N n m s l z i p d lo len : Nat} {f : Nat → Int64} {w : Int32}
theorem m_soLoop (hN : N ≤ 8) (hs : s < 4) (hz : z ≤ 24) (hiz : i + N ≤ z) : ∀ j k {I : Nat → Nat → Int32} {σ : Sg} {d : Nat} {b : Bool}, k + j = N → MR σ I G → Ok σ.1 n m d → d + j ≤ 9999 + 60 → cut (I 185) = T → σ.2.2.2.2 s = some (l, z, f) → (∀ I', MR (T, σ.2) I' G → fr 180 180 I I' → Q (.returned (some (.int (bI1 (b && soS f j (i + k) σ.1))))) (mX e I' G)) →
    Rn 157 5 [some (.ref 179), some (.int (24 * nI s + nI i)), some (.int (nI N)), some (.int (bI1 b)), some (.int (nI k))] [] (0, 0) (mX e I G) Q := by
  intro j
  induction j with
  | zero =>
    intro k I σ d b hk hM ok hd hT hf hQ
    have : k = N := by omega
    subst this
    refine g_X9_isSo_5 (fun h => absurd h (nI_nlt (Nat.le_refl _) (by omega))) (fun _ => m_backs fun I3 t3 f3 => g_X9_isSo_60 (bI1_01 b) ?_)
    have := hQ I3 (hM.town (t3.trans hT) f3) f3
    rw [show soS f 0 (i + k) σ.1 = true from rfl, Bool.and_true] at this
    exact this
  | succ j ih =>
    intro k I σ d b hk hM ok hd hT hf hQ
    have yes : nI k < nI N := nI_lt (by omega) (by omega)
    have h7 : nw I = σ.1 := hM.2.1
    refine g_X9_isSo_5 (fun _ => ?_) (fun h => absurd yes h)
    rw [plc_E]
    refine m_goesBy (n := n) (m := m) (d := d) (by rw [h7]; exact ok) (ok_plc (by rw [h7]; exact ok)) fun I2 t2 f2 => ?_
    rw [h7] at t2
    have m2 := hM.town t2 f2
    obtain ⟨x1, x2⟩ := ix24 s hs (i + k) (by omega)
    rw [← nI_add, ← Int32.add_assoc] at x1 x2
    have h5 : I2 180 5 = jNow σ.1 := by
      have : nw I2 5 = goes σ.1 (plc σ.1) 5 := by rw [t2]
      rw [goes5] at this
      exact this
    have hg : G 190 (24 * s + (i + k)) = f (i + k) := ((hM.2.2.2.2 s hs).2 l z f hf).2.2 (i + k) (by omega)
    have nx : ∀ b' : Bool, (∀ I', MR (T, σ.2) I' G → fr 180 180 I I' → Q (.returned (some (.int (bI1 (b' && soS f j (i + k + 1) (goes σ.1 (plc σ.1))))))) (mX e I' G)) → Rn 157 5 [some (.ref 179), some (.int (24 * nI s + nI i)), some (.int (nI N)), some (.int (bI1 b')), some (.int (nI k + 1))] [] (0, 0) (mX e I2 G) Q := by
      intro b' hq
      rw [nI_1]
      exact ih (k + 1) (by omega) m2 (ok_goes ok (by omega)) (by omega) (by rw [f2 185 (by omega)]; exact hT) hf fun I' c' f' => hq I' c' (f2.tr f')
    cases b with
    | false =>
      refine g_X9_isSo_19 (fun _ => nx false ?_) (fun h => absurd rfl h) (fun h => absurd rfl h) (fun h => absurd rfl h)
      intro I' c' f'
      have := hQ I' c' f'
      rw [Bool.false_and] at this ⊢
      exact this
    | true =>
      refine g_X9_isSo_19 (fun h => absurd h (by decide)) (fun _ => x1) (fun _ h => ?_) (fun _ h => ?_)
      · rw [x2, hg, h5] at h
        rw [soS_t (j := j) ((lg_cmp_eq _ _).mp h).symm] at hQ
        exact nx true hQ
      · rw [x2, hg, h5] at h
        rw [soS_f (j := j) (fun q => h ((lg_cmp_eq _ _).mpr q.symm))] at hQ
        refine nx false fun I' c' f' => ?_
        rw [Bool.false_and]
        exact hQ I' c' f'
theorem m_isSo {I : Nat → Nat → Int32} {σ : Sg} {d : Nat} (hN : N ≤ 8) (hs : s < 4) (hz : z ≤ 24) (hiz : i + N ≤ z) (hM : MR σ I G) (ok : Ok σ.1 n m d) (hd : d ≤ 9999) (hT : cut (I 185) = T) (hf : σ.2.2.2.2 s = some (l, z, f)) (hQ : ∀ I', MR (T, σ.2) I' G → fr 180 180 I I' → Q (.returned (some (.int (bI1 (soS f N i σ.1))))) (mX e I' G)) :
    Rn 157 0 [some (.ref 179), some (.int (24 * nI s + nI i)), some (.int (nI N)), none, none] [] (0, 0) (mX e I G) Q :=
  g_X9_isSo_0 (m_soLoop hN hs hz hiz N 0 (b := true) (by omega) hM ok (by omega) hT hf (fun I' c' f' => by rw [Bool.true_and]; exact hQ I' c' f'))
theorem m_benLoop {σ : Sg} (hw : (w < 2 ∧ lo = 0 ∧ len = 61) ∨ (¬ w < 2 ∧ lo = 10 ∧ len = 191)) (hN : N ≤ 8) (hs : s < 4) (hz : z ≤ 24) (hiz : i + N ≤ z) (hp : p < 6) (ok : Ok σ.1 n m d) (hd : d ≤ 9999) (hf : σ.2.2.2.2 s = some (l, z, f)) (P : Nat → Bool) (hP : P = fun v => soS f N i (benT w p σ.1 v)) : ∀ r j {I : Nat → Nat → Int32}, j + r = len → MR σ I G → cut (I 185) = σ.1 → (∀ I', MR σ I' G → fr 180 180 I I' → Q (.returned (some (.int (benR w (nI (cntN P lo len)) (lstS P lo len (-4)))))) (mX e I' G)) →
    Rn 153 115 [some (.ref 179), some (.int (nI p)), some (.int (nI s)), none, some (.int (nI i)), some (.int (nI N)), some (.int w), none, some (.int (nI (cntN P lo j))), some (.int (lstS P lo j (-4))), none, some (.int (nI (lo + len - 1))), some (.int (nI (lo + j))), none] [] (0, 0) (mX e I G) Q := by
  intro r
  induction r with
  | zero =>
    intro j I hj hM hT hQ
    have : j = len := by omega
    subst this
    have big : nI (lo + j - 1) < nI (lo + j) := nI_lt (by rcases hw with ⟨h6, rfl, rfl⟩ | ⟨h6, rfl, rfl⟩ <;> omega) (by rcases hw with ⟨h6, rfl, rfl⟩ | ⟨h6, rfl, rfl⟩ <;> omega)
    have fin := hQ I hM fr.rf
    unfold benR at fin
    refine g_X9_bench_115 (fun _ h => ?_) (fun _ h => ?_) (fun h => absurd big h) (fun h => absurd big h) (fun h => absurd big h)
    · rw [if_pos h] at fin
      exact fin
    · rw [if_neg h] at fin
      exact fin
  | succ r ih =>
    intro j I hj hM hT hQ
    have h7 : nw I = σ.1 := hM.2.1
    have small : ¬ nI (lo + len - 1) < nI (lo + j) := nI_nlt (by omega) (by rcases hw with ⟨h6, rfl, rfl⟩ | ⟨h6, rfl, rfl⟩ <;> omega)
    have so : ∀ I1, nw I1 = benT w p σ.1 (lo + j) → fr 180 180 I I1 → Rn 157 0 [some (.ref 179), some (.int (24 * nI s + nI i)), some (.int (nI N)), none, none] [] (0, 0) (mX e I1 G) (fun o X' => conF Rn 153 157 157 [some (.ref 179), some (.int (nI p)), some (.int (nI s)), none, some (.int (nI i)), some (.int (nI N)), some (.int w), none, some (.int (nI (cntN P lo j))), some (.int (lstS P lo j (-4))), none, some (.int (nI (lo + len - 1))), some (.int (nI (lo + j))), none] [] (0, 0) X' Q o) := by
      intro I1 t1 f1
      have hv60 : w < 2 → lo + j ≤ 60 := fun h => by
        rcases hw with ⟨h6, rfl, rfl⟩ | ⟨h6, rfl, rfl⟩
        · omega
        · exact absurd h h6
      refine m_isSo (T := σ.1) (σ := (benT w p σ.1 (lo + j), σ.2)) hN hs hz hiz (hM.town t1 f1) (ok_benT ok hp hv60) hd (by rw [f1 185 (by omega)]; exact hT) hf fun I2 c2 f2 => ?_
      have hb : soS f N i (benT w p σ.1 (lo + j)) = P (lo + j) := by rw [hP]
      show Rn 153 160 _ [.int (bI1 (soS f N i (benT w p σ.1 (lo + j))))] (0, 0) (mX e I2 G) Q
      rw [hb]
      have hc : cntN P lo (j + 1) = cntN P lo j + (if P (lo + j) then 1 else 0) := rfl
      have hl : lstS P lo (j + 1) (-4) = lstS P lo j (if P (lo + j) then nI (lo + j) else -4) := rfl
      have nx := ih (j + 1) (I := I2) (by omega) c2 (by rw [f2 185 (by omega), f1 185 (by omega)]; exact hT) fun I' c' f' => hQ I' c' ((f1.tr f2).tr f')
      rw [hc, hl, ← Nat.add_assoc lo j 1, ← nI_1] at nx
      have hcl := cntN_le P lo j
      have hlen : len ≤ 191 := by rcases hw with ⟨h6, rfl, rfl⟩ | ⟨h6, rfl, rfl⟩ <;> omega
      cases hpb : P (lo + j) with
      | false =>
        rw [hpb] at nx
        refine g_X9_bench_160 (fun _ _ => ?_) (fun _ h => absurd rfl h) (fun h => absurd rfl h) (fun h => absurd rfl h) (fun h => absurd rfl h) (fun h => absurd rfl h)
        rw [Int32.add_zero]
        exact nx
      | true =>
        rw [hpb, if_pos rfl, if_pos rfl, ← nI_1 (cntN P lo j)] at nx
        refine g_X9_bench_160 (fun h => absurd h (by decide)) (fun h => absurd h (by decide)) (fun _ _ h => absurd h (by decide)) (fun _ h0 _ => ?_) (fun _ _ h => absurd h (by decide)) (fun _ h0 _ => ?_)
        · have z0 : cntN P lo j = 0 := (nI_eq (b := 0) (by omega) (by omega)).mp h0
          rw [lst_0 P lo j _ z0] at nx
          exact nx
        · have z0 : ¬ cntN P lo j = 0 := fun q => h0 (by rw [q]; rfl)
          rw [lst_n P lo j _ (-4) z0] at nx
          exact nx
    have e1 : w < 2 → nw (up2 I 180 (((7 + (5 * nI p)) + 2).toNatClampNeg) (nI (lo + j))) = benT w p σ.1 (lo + j) := fun h => by
      unfold benT
      rw [if_pos h, show ((7 + (5 * nI p)) + 2).toNatClampNeg = 9 + 5 * p from ((ix7 p hp 2 (by omega)).2).trans (by omega), nw_up (by omega), h7]
    have e2 : ¬ w < 2 → nw (up2 I 180 3 (nI (lo + j))) = benT w p σ.1 (lo + j) := fun h => by
      unfold benT
      rw [if_neg h, nw_up (by omega), h7]
    exact g_X9_bench_115 (fun h => absurd h small) (fun h => absurd h small) (fun _ _ => vi7 (w := 2) hp (by omega)) (fun _ h => so _ (e1 h) (fr.rf.up (by omega) (by omega))) (fun _ h => so _ (e2 h) (fr.rf.up (by omega) (by omega)))
end B92
theorem m_bench {a1 a2 a3 a4 a5 a6 : Int32} : oM 153 [some (.ref 179), some (.int a1), some (.int a2), some (.int a3), some (.int a4), some (.int a5), some (.int a6), none, none, none, none, none, none, none] (benchF a1 a2 a3 a4 a5 a6) := by
  intro e I G Q σ hM hO hQ
  obtain ⟨⟨pn, pm, d, ok, hd, -⟩, -⟩ := id hO
  have h7 : nw I = σ.1 := hM.2.1
  have e0 : I 180 0 = σ.1 0 := by rw [← h7]; rfl
  have h6 := ok.n6
  have bad : ¬ benOk σ a1 a2 a3 a5 a6 → Q (.returned (some (.int (-1)))) (mX e I G) := fun hv => by
    have := hQ I G
    unfold benchF at this
    rw [if_neg hv] at this
    exact this hM keepM.rf
  refine g_X9_bench_0 (fun q => bad (fun k => q (by rw [e0]; exact k.1.1))) (fun _ q => bad (fun k => q k.1.2.1)) (fun _ _ q => bad (fun k => q k.1.2.2)) (fun _ _ _ q => bad (fun k => q k.2.1)) (fun _ _ _ _ q => bad (fun k => q k.2.2)) (fun q1 q2 q2' q3 q4 => ?_)
  rw [e0] at q1
  have hv0 : benOk σ a1 a2 a3 a5 a6 := ⟨⟨q1, q2, q2'⟩, q3, q4⟩
  rw [ok.hn] at q1
  obtain ⟨p, hp, rfl⟩ := isP h6 q1
  obtain ⟨s, -, hs, rfl⟩ := inR (lo := 0) (hi := 3) q2
  obtain ⟨m, -, hm, rfl⟩ := inR (lo := 0) (hi := 3) q2'
  obtain ⟨N, hN1, hN, rfl⟩ := inR (lo := 1) (hi := 8) q3
  have hs4 : s < 4 := by omega
  have hm4 : m < 4 := by omega
  obtain ⟨g1, g2, g3, g4, g5⟩ := shr_fact (e := e) hs4
  have hF : ∀ I' G', MR (benchF (nI p) (nI s) (nI m) a4 (nI N) a6 σ).2 I' G' → keepM I G I' G' → Q (.returned (some (.int (benchF (nI p) (nI s) (nI m) a4 (nI N) a6 σ).1))) (mX e I' G') := hQ
  unfold benchF at hF
  rw [if_pos hv0, g4] at hF
  refine m_why hM hO hs4 (g_X9_bench_60 (fun h => ?_) (fun h => ?_))
  · rw [if_pos h] at hF
    exact hF I G hM keepM.rf
  · rw [if_neg h] at hF
    obtain ⟨l, z, f, hsh, hl, hi0, hiz⟩ := why_ok h
    rw [hsh] at hF
    dsimp only at hF
    obtain ⟨hl4, hz24⟩ := hO.2.2.2 s hs4 l z f hsh
    have el : l = m := nI4 l hl4 m hm4 hl
    subst el
    rw [nI_clamp (show N < 2 ^ 31 by omega)] at hF hiz
    rw [nI_clamp (show p < 2 ^ 31 by omega)] at hF
    have ei : a4 = nI a4.toNatClampNeg := by
      apply Int32.toInt_inj.mp
      rw [nI_toInt (by omega)]
      exact nn_toInt hi0
    refine m_asides fun I1 t1 f1 => ?_
    have m1 : MR σ I1 G := hM.con (nw_con (f1 180 (by omega))) (f1 179 (by omega)) (f1 181 (by omega)) (f1 184 (by omega)) (f1 187 (by omega)) (f1 188 (by omega)) (f1 189 (by omega)) rfl
    unfold benA at hF
    show Rn 153 81 _ [] (0, 0) (mX e I1 G) Q
    rw [ei]
    refine g_X9_bench_81 (fun hw _ => ?_) (fun h h' => absurd h h') (fun h h' => absurd h' h) (fun hw _ => ?_)
    · rw [if_pos hw] at hF
      exact m_benLoop (lo := 0) (len := 61) (Or.inl ⟨hw, rfl, rfl⟩) hN hs4 hz24 hiz (show p < 6 by omega) ok hd hsh _ rfl 61 0 (by omega) m1 (t1.trans h7) fun I' c' f' => hF I' G c' ((f1.kM (by omega) (by omega)).tr (f'.kM (by omega) (by omega)))
    · rw [if_neg hw] at hF
      exact m_benLoop (lo := 10) (len := 191) (Or.inr ⟨hw, rfl, rfl⟩) hN hs4 hz24 hiz (show p < 6 by omega) ok hd hsh _ rfl 191 0 (by omega) m1 (t1.trans h7) fun I' c' f' => hF I' G c' ((f1.kM (by omega) (by omega)).tr (f'.kM (by omega) (by omega)))
theorem k_bench {a1 a2 a3 a4 a5 a6 : Int32} : oK (benchF a1 a2 a3 a4 a5 a6) := by
  intro σ h
  unfold benchF
  split
  · split
    · exact h
    · split <;> exact h
  · exact h
