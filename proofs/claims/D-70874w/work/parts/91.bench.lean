/-! the bench: the spec, the component -/
def cntN (P : Nat → Bool) (lo : Nat) : Nat → Nat
  | 0 => 0
  | j + 1 => cntN P lo j + (if P (lo + j) then 1 else 0)
def lstS (P : Nat → Bool) (lo : Nat) : Nat → Int32 → Int32
  | 0, x => x
  | j + 1, x => lstS P lo j (if P (lo + j) then nI (lo + j) else x)
theorem cntN_le (P : Nat → Bool) (lo : Nat) : ∀ j, cntN P lo j ≤ j
  | 0 => Nat.le_refl 0
  | j + 1 => by
    have := cntN_le P lo j
    unfold cntN
    split <;> omega
theorem lst_0 (P : Nat → Bool) (lo : Nat) : ∀ j x, cntN P lo j = 0 → lstS P lo j x = x
  | 0, _, _ => rfl
  | j + 1, x, h => by
    unfold cntN at h
    by_cases hp : P (lo + j) = true
    · rw [if_pos hp] at h
      omega
    · rw [if_neg hp] at h
      show lstS P lo j (if P (lo + j) then nI (lo + j) else x) = x
      rw [if_neg hp]
      exact lst_0 P lo j x h
theorem lst_n (P : Nat → Bool) (lo : Nat) : ∀ j x y, ¬ cntN P lo j = 0 → lstS P lo j x = lstS P lo j y
  | 0, _, _, h => absurd rfl h
  | j + 1, x, y, h => by
    unfold cntN at h
    show lstS P lo j (if P (lo + j) then nI (lo + j) else x) = lstS P lo j (if P (lo + j) then nI (lo + j) else y)
    by_cases hp : P (lo + j) = true
    · rw [if_pos hp, if_pos hp]
    · rw [if_neg hp] at h
      rw [if_neg hp, if_neg hp]
      exact lst_n P lo j x y h
def benT (w : Int32) (p : Nat) (t : Nat → Int32) (v : Nat) : Nat → Int32 := if w < 2 then up1 t (9 + 5 * p) (nI v) else up1 t 3 (nI v)
def benR (w : Int32) (a b : Int32) : Int32 := if w - w / 2 * 2 = 0 then a else b
def benA (w : Int32) (P : Nat → Bool) : Int32 := if w < 2 then benR w (nI (cntN P 0 61)) (lstS P 0 61 (-4)) else benR w (nI (cntN P 10 191)) (lstS P 10 191 (-4))
def benOk (σ : Sg) (a1 a2 a3 a5 a6 : Int32) : Prop := (inl a1.toInt64 0 ((σ.1 0 - 1).toInt64) ∧ inl a2.toInt64 0 3 ∧ inl a3.toInt64 0 3) ∧ inl a5.toInt64 1 8 ∧ inl a6.toInt64 0 3
noncomputable def benchF (a1 a2 a3 a4 a5 a6 : Int32) (σ : Sg) : Int32 × Sg := @ite _ (benOk σ a1 a2 a3 a5 a6) (Classical.propDecidable _) (if whyF (σ.2.2.2.2 a2.toNatClampNeg) a3 a4 a5 < 0 then (whyF (σ.2.2.2.2 a2.toNatClampNeg) a3 a4 a5, σ) else match σ.2.2.2.2 a2.toNatClampNeg with
  | none => (-11, σ)
  | some (_, _, f) => (benA a6 (fun v => soS f a5.toNatClampNeg a4.toNatClampNeg (benT a6 a1.toNatClampNeg σ.1 v)), σ)) (-1, σ)
theorem ok_benT {t : Nat → Int32} {n m d p v : Nat} {w : Int32} (ok : Ok t n m d) (hp : p < 6) (hv : w < 2 → v ≤ 60) : Ok (benT w p t v) n m d := by
  unfold benT
  split
  · rename_i h
    exact ok.setL hp rfl (hv h)
  · exact ok.congr fun j h3 _ _ _ => up1_ne h3
theorem nI_pr (k : Nat) : nI (k + 1) - 1 = nI k := by
  rw [← nI_1, Int32.add_sub_cancel]
theorem nI_mi (k : Nat) : nI k + (-1) = nI k - 1 := (Int32.sub_eq_add_neg _ _).symm
section B91
variable {e : En} {G : Nat → Nat → Int64} {Q : Po} {N n m s l z i p d lo len : Nat} {f : Nat → Int64} {w : Int32} {σ : Sg}
theorem c_benStep {I : Nat → Nat → Int32} {a j : Nat} {x9 : Int32} {P : Nat → Bool} (b : Bool) (hb : P (lo + j) = b)
    (ih : ∀ {a : Nat} {x9 : Int32}, (∀ I', CR σ e I' G → fr 7 14 I I' → Q (.returned (some (.int (benR w (nI (a + cntN P lo j)) (lstS P lo j x9))))) (mX e I' G)) → Rn 60 102 [some (.ref 0), some (.int (nI p)), some (.int (nI s)), none, some (.int (nI i)), some (.int (nI N)), some (.int w), none, some (.int (nI a)), some (.int x9), none, some (.int (nI (lo + j) - 1)), none] [] (0, 0) (mX e I G) Q)
    (hQ : ∀ I', CR σ e I' G → fr 7 14 I I' → Q (.returned (some (.int (benR w (nI (a + cntN P lo (j + 1))) (lstS P lo (j + 1) x9))))) (mX e I' G)) :
    Rn 60 162 [some (.ref 0), some (.int (nI p)), some (.int (nI s)), none, some (.int (nI i)), some (.int (nI N)), some (.int w), none, some (.int (nI a)), some (.int x9), none, some (.int (nI (lo + j))), none] [.int (bI1 b)] (0, 0) (mX e I G) Q := by
  have hc : cntN P lo (j + 1) = cntN P lo j + (if P (lo + j) then 1 else 0) := rfl
  have hl : lstS P lo (j + 1) x9 = lstS P lo j (if P (lo + j) then nI (lo + j) else x9) := rfl
  rw [hc, hl, hb] at hQ
  cases b with
  | false =>
    refine g_X0_bench_162 (fun _ _ => ?_) (fun _ h => absurd rfl h) (fun h => absurd rfl h) (fun h => absurd rfl h)
    rw [Int32.add_zero, nI_mi]
    exact ih hQ
  | true =>
    refine g_X0_bench_162 (fun h => absurd h (by decide)) (fun h => absurd h (by decide)) (fun _ h => absurd h (by decide)) (fun _ _ => ?_)
    rw [nI_1, nI_mi]
    refine ih fun I' c' f' => ?_
    have := hQ I' c' f'
    rw [if_pos rfl, if_pos rfl, ← Nat.add_assoc, Nat.add_right_comm] at this
    exact this
theorem c_benLoop (hw : (w < 2 ∧ lo = 0 ∧ len = 61) ∨ (¬ w < 2 ∧ lo = 10 ∧ len = 191)) (hN : N ≤ 8) (hs : s < 4) (hl : l < 4) (hz : z ≤ 24) (hiz : i + N ≤ z) (hp : p < 6) (ok : Ok σ.1 n m d) (hd : d ≤ 9999) (hf : σ.2.2.2.2 s = some (l, z, f)) : ∀ j {I : Nat → Nat → Int32} {a : Nat} {x9 : Int32}, j ≤ len → CR σ e I G → twn I 26 = σ.1 → (∀ I', CR σ e I' G → fr 7 14 I I' → Q (.returned (some (.int (benR w (nI (a + cntN (fun v => soS f N i (benT w p σ.1 v)) lo j)) (lstS (fun v => soS f N i (benT w p σ.1 v)) lo j x9))))) (mX e I' G)) →
    Rn 60 102 [some (.ref 0), some (.int (nI p)), some (.int (nI s)), none, some (.int (nI i)), some (.int (nI N)), some (.int w), none, some (.int (nI a)), some (.int x9), none, some (.int (nI (lo + j) - 1)), none] [] (0, 0) (mX e I G) Q := by
  obtain ⟨g1, g2, g3, g4, g5⟩ := shr_fact (e := e) hs
  have g1' : (mkE e).2.1 46 (nI s).toNatClampNeg = .ref (47 + s) := by rw [g4]; exact g1
  intro j
  induction j with
  | zero =>
    intro I a x9 hj hC hT hQ
    have fin : ∀ r, benR w (nI a) x9 = r → Q (.returned (some (.int r))) (mX e I G) := fun r hr => by
      have := hQ I hC fr.rf
      rw [← hr]
      exact this
    have r0 : w - w / 2 * 2 = 0 → benR w (nI a) x9 = nI a := fun h => if_pos h
    have r1 : ¬ w - w / 2 * 2 = 0 → benR w (nI a) x9 = x9 := fun h => if_neg h
    rcases hw with ⟨h6, rfl, rfl⟩ | ⟨h6, rfl, rfl⟩
    · have no : nI (0 + 0) - 1 < 0 := by decide
      exact g_X0_bench_102 (q1 := 47) (q2 := 47) (q3 := 47) (q4 := 47) (fun _ _ h => fin _ (r0 h)) (fun _ _ h => fin _ (r1 h)) (fun _ h => absurd no h) (fun _ h => absurd no h) (fun _ h => absurd no h) (fun _ h => absurd no h) (fun _ h => absurd no h) (fun _ h => absurd no h) (fun _ h => absurd no h) (fun h => absurd h6 h) (fun h => absurd h6 h) (fun h => absurd h6 h) (fun h => absurd h6 h) (fun h => absurd h6 h) (fun h => absurd h6 h) (fun h => absurd h6 h) (fun h => absurd h6 h) (fun h => absurd h6 h)
    · have no : nI (10 + 0) - 1 < 10 := by decide
      exact g_X0_bench_102 (q1 := 47) (q2 := 47) (q3 := 47) (q4 := 47) (fun h => absurd h h6) (fun h => absurd h h6) (fun h => absurd h h6) (fun h => absurd h h6) (fun h => absurd h h6) (fun h => absurd h h6) (fun h => absurd h h6) (fun h => absurd h h6) (fun h => absurd h h6) (fun _ _ h => fin _ (r0 h)) (fun _ _ h => fin _ (r1 h)) (fun _ h => absurd no h) (fun _ h => absurd no h) (fun _ h => absurd no h) (fun _ h => absurd no h) (fun _ h => absurd no h) (fun _ h => absurd no h) (fun _ h => absurd no h)
  | succ j ih =>
    intro I a x9 hj hC hT hQ
    have h7 : twn I 7 = σ.1 := hC.2.1
    have hcl : (nI p).toNatClampNeg = p := nI_clamp (by omega)
    rw [← Nat.add_assoc, nI_pr]
    have vp : vp_in (nI p) 6 := vp_in_nI hp (by omega)
    have so : ∀ I1, twn I1 7 = benT w p σ.1 (lo + j) → fr 7 14 I I1 → Rn 63 0 [some (.ref 0), some (.ref (47 + s)), some (.int (nI i)), some (.int (nI N)), none, none] [] (0, 0) (mX e I1 G) (fun o X' => conF Rn 60 159 63 [some (.ref 0), some (.int (nI p)), some (.int (nI s)), none, some (.int (nI i)), some (.int (nI N)), some (.int w), none, some (.int (nI a)), some (.int x9), none, some (.int (nI (lo + j))), none] [] (0, 0) X' Q o) := by
      intro I1 t1 f1
      have hv60 : w < 2 → lo + j ≤ 60 := fun h => by
        rcases hw with ⟨h6, rfl, rfl⟩ | ⟨h6, rfl, rfl⟩
        · omega
        · exact absurd h h6
      refine c_isSo (σ := (benT w p σ.1 (lo + j), σ.2)) hN hs hl hz hiz (hC.town t1 f1) (ok_benT ok hp hv60) hd ((f1.twn (by omega)).trans hT) hf fun I2 c2 f2 => ?_
      refine c_benStep (σ := σ) (j := j) (P := fun v => soS f N i (benT w p σ.1 v)) _ rfl (fun h => ih (by omega) c2 ((f2.twn (by omega)).trans ((f1.twn (by omega)).trans hT)) h) fun I' c' f' => hQ I' c' ((f1.tr f2).tr f')
    have e1 : w < 2 → twn (up2 I 11 (nI p).toNatClampNeg (nI (lo + j))) 7 = benT w p σ.1 (lo + j) := fun h => by
      unfold benT
      rw [if_pos h, hcl, (twn_upk hp).2.2.1 rfl, h7]
    have e2 : ¬ w < 2 → twn (up2 I 7 9 (nI (lo + j))) 7 = benT w p σ.1 (lo + j) := fun h => by
      unfold benT
      rw [if_neg h, twn_f.2.2.2.1, h7]
    have hge : ¬ nI (lo + j) < 0 := nI_pos (by rcases hw with ⟨h6, rfl, rfl⟩ | ⟨h6, rfl, rfl⟩ <;> omega)
    have hge2 : ¬ w < 2 → ¬ nI (lo + j) < 10 := fun h => by
      rcases hw with ⟨h6, rfl, rfl⟩ | ⟨h6, rfl, rfl⟩
      · exact absurd h6 h
      · exact nI_nlt (a := 10 + j) (b := 10) (by omega) (by omega)
    refine g_X0_bench_102 (q1 := 47 + s) (q2 := 47 + s) (q3 := 47 + s) (q4 := 47 + s) (fun _ h => absurd h hge) (fun _ h => absurd h hge) (fun _ _ _ => vp) (fun _ _ _ => g5) (fun _ _ _ => g1') (fun h _ _ => so _ (e1 h) (fr.rf.up (by omega) (by omega))) (fun _ _ _ => g5) (fun _ _ _ => g1') (fun h _ h' => absurd h h') (fun h h' => absurd h' (hge2 h)) (fun h h' => absurd h' (hge2 h)) (fun _ _ _ => vp) (fun _ _ _ => g5) (fun _ _ _ => g1') (fun h _ h' => absurd h' h) (fun _ _ _ => g5) (fun _ _ _ => g1') (fun h _ _ => so _ (e2 h) (fr.rf.up (by omega) (by omega)))
end B91
theorem c_bench {a1 a2 a3 a4 a5 a6 : Int32} : oC 60 [some (.ref 0), some (.int a1), some (.int a2), some (.int a3), some (.int a4), some (.int a5), some (.int a6), none, none, none, none, none, none] (benchF a1 a2 a3 a4 a5 a6) := by
  intro e I G Q σ hC hO hQ
  obtain ⟨⟨pn, pm, d, ok, hd, -⟩, -⟩ := id hO
  have h7 : twn I 7 = σ.1 := hC.2.1
  have e0 : I 7 7 = σ.1 0 := by rw [← h7]; rfl
  have h6 := ok.n6
  have bad : ¬ benOk σ a1 a2 a3 a5 a6 → Q (.returned (some (.int (-1)))) (mX e I G) := fun hv => by
    have := hQ e I G
    unfold benchF at this
    rw [if_neg hv] at this
    exact this hC keepC.rf
  refine g_X0_bench_0 (fun q => bad (fun k => q (by rw [e0]; exact k.1.1))) (fun _ q => bad (fun k => q k.1.2)) (fun _ _ q => bad (fun k => q k.2.1)) (fun _ _ _ q => bad (fun k => q k.2.2)) (fun q1 q2 q3 q4 => ?_)
  rw [e0] at q1
  have hv0 : benOk σ a1 a2 a3 a5 a6 := ⟨⟨q1, q2⟩, q3, q4⟩
  rw [ok.hn] at q1
  obtain ⟨p, hp, rfl⟩ := isP h6 q1
  obtain ⟨s, -, hs, rfl⟩ := inR (lo := 0) (hi := 3) q2.1
  obtain ⟨m, -, hm, rfl⟩ := inR (lo := 0) (hi := 3) q2.2
  obtain ⟨N, hN1, hN, rfl⟩ := inR (lo := 1) (hi := 8) q3
  have hs4 : s < 4 := by omega
  have hm4 : m < 4 := by omega
  obtain ⟨g1, g2, g3, g4, g5⟩ := shr_fact (e := e) hs4
  have hF : ∀ e' I' G', CR (benchF (nI p) (nI s) (nI m) a4 (nI N) a6 σ).2 e' I' G' → keepC e I G e' I' G' → Q (.returned (some (.int (benchF (nI p) (nI s) (nI m) a4 (nI N) a6 σ).1))) (mX e' I' G') := hQ
  unfold benchF at hF
  rw [if_pos hv0, g4] at hF
  refine c_lacks hC hO hs4 (by omega) (g_X0_bench_54 (fun h => ?_) (fun h => ?_))
  · rw [if_pos h] at hF
    exact hF e I G hC keepC.rf
  · rw [if_neg h] at hF
    obtain ⟨l, z, f, hsh, hl, hi0, hiz⟩ := why_ok h
    rw [hsh] at hF
    dsimp only at hF
    obtain ⟨hl4, hz24⟩ := hO.2.2.2 s hs4 l z f hsh
    have el : l = m := nI4 l hl4 m hm4 hl
    subst el
    rw [nI_clamp (show N < 2 ^ 31 by omega)] at hF hiz
    rw [nI_clamp (show p < 2 ^ 31 by omega)] at hF
    have ei : a4 = nI a4.toNatClampNeg := by
      apply Int32.toInt_inj.mp
      rw [nI_toInt (by omega)]
      exact nn_toInt hi0
    refine c_takeFrom stp_7 stp_26 (Or.inr (by decide)) fun I1 t1 f1 => g_X0_bench_75 (fun hw => ?_) (fun hw => ?_)
    all_goals
      have c1 : CR σ e I1 G := hC.con (f1.twn (by omega)) (f1 0 (by omega)) (f1 16 (by omega)) (fun k _ _ => f1 k (by omega)) (fun k _ => f1 k (by omega)) (fun _ _ => rfl)
      rw [ei]
      unfold benA at hF
    · rw [if_pos hw] at hF
      have := c_benLoop (e := e) (G := G) (Q := Q) (w := a6) (lo := 0) (len := 61) (Or.inl ⟨hw, rfl, rfl⟩) hN hs4 hl4 hz24 hiz (show p < 6 by omega) ok hd hsh 61 (a := 0) (x9 := -4) (by omega) c1 (t1.trans h7) fun I' c' f' => by
        rw [Nat.zero_add]
        exact hF e I' G c' ((f1.kC (by omega)).tr (f'.kC (by omega)))
      exact this
    · rw [if_neg hw] at hF
      have := c_benLoop (e := e) (G := G) (Q := Q) (w := a6) (lo := 10) (len := 191) (Or.inr ⟨hw, rfl, rfl⟩) hN hs4 hl4 hz24 hiz (show p < 6 by omega) ok hd hsh 191 (a := 0) (x9 := -4) (by omega) c1 (t1.trans h7) fun I' c' f' => by
        rw [Nat.zero_add]
        exact hF e I' G c' ((f1.kC (by omega)).tr (f'.kC (by omega)))
      exact this
