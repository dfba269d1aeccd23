/-! a text is read: the component -/
def rdC (T : Nat → Int32) (q : Nat) (I0 I : Nat → Nat → Int32) (k : Nat) (t : Nat → Int32) : Prop :=
  (I0 0 4 = nI q ∧ (∀ i, i < q → I0 16 i = T i) ∧ q ≤ 120 ∧ k ≤ q) ∧ I 0 = up1 (I0 0) 5 (nI k) ∧ (∀ j, j ≠ 0 → j ≠ 15 → (j < 17 ∨ 24 < j) → I j = I0 j) ∧ twn I 17 = t
def rdF (I0 I : Nat → Nat → Int32) (p : Nat) : Prop := (∃ x, I 0 = up1 (I0 0) 5 x) ∧ (∀ j, j ≠ 0 → j ≠ 15 → (j < 17 ∨ 24 < j) → I j = I0 j) ∧ I 15 5 = nI p
def ltr (T : Nat → Int32) (q k : Nat) : Int32 := if k < q then T k else -1
theorem ltr_D {T : Nat → Int32} {q k : Nat} : inl (ltr T q k).toInt64 48 57 ↔ isD T q k := by
  unfold ltr
  by_cases h : k < q
  · rw [if_pos h]; exact ⟨fun x => ⟨h, x⟩, fun x => x.2⟩
  · rw [if_neg h]; exact ⟨fun x => absurd x.1 (by decide), fun x => absurd x.1 h⟩
theorem ltr_C {T : Nat → Int32} {q k : Nat} {c : Int32} (hc : ¬ -1 = c) : ltr T q k = c ↔ isC T q k c := by
  unfold ltr
  by_cases h : k < q
  · rw [if_pos h]; exact ⟨fun x => ⟨h, x⟩, fun x => x.2⟩
  · rw [if_neg h]; exact ⟨fun x => absurd x hc, fun x => absurd x.1 h⟩
section S94
variable {T : Nat → Int32} {q : Nat} {I0 I : Nat → Nat → Int32} {e : En} {G : Nat → Nat → Int64} {Q : Po} {k i n : Nat} {t : Nat → Int32}
theorem rdC.r5 (r : rdC T q I0 I k t) : I 0 5 = nI k := by rw [r.2.1]; exact up1_at
theorem rdC.r4 (r : rdC T q I0 I k t) : I 0 4 = nI q := by rw [r.2.1, up1_ne (by omega)]; exact r.1.1
theorem rdC.r16 (r : rdC T q I0 I k t) {i : Nat} (h : i < q) : I 16 i = T i := by rw [r.2.2.1 16 (by omega) (by omega) (by omega)]; exact r.1.2.1 i h
theorem rdC.mv (r : rdC T q I0 I k t) {k' : Nat} (h : k' ≤ q) : rdC T q I0 (up2 I 0 5 (nI k')) k' t :=
  ⟨⟨r.1.1, r.1.2.1, r.1.2.2.1, h⟩, by rw [up2_at, r.2.1, up1_up1], fun j h0 h1 h2 => by rw [up2_ne h0]; exact r.2.2.1 j h0 h1 h2, by rw [twn_ne (by omega)]; exact r.2.2.2⟩
theorem rdC.wr (r : rdC T q I0 I k t) {p : Nat} : rdF I0 (up2 I 15 5 (nI p)) p :=
  ⟨⟨nI k, by rw [up2_ne (by omega)]; exact r.2.1⟩, fun j h0 h1 h2 => by rw [up2_ne h1]; exact r.2.2.1 j h0 h1 h2, up2_v⟩
theorem rdC.tw (r : rdC T q I0 I k t) {I' : Nat → Nat → Int32} {t' : Nat → Int32} (f : fr 17 24 I I') (ht : twn I' 17 = t') : rdC T q I0 I' k t' :=
  ⟨r.1, by rw [f 0 (by omega)]; exact r.2.1, fun j h0 h1 h2 => by rw [f j h2]; exact r.2.2.1 j h0 h1 h2, ht⟩
theorem c_next : ∀ n i {I : Nat → Nat → Int32}, q - i = n → rdC T q I0 I i t → (∀ I', rdC T q I0 I' (sk T q i) t → Q (.returned (some (.int (ltr T q (sk T q i))))) (mX e I' G)) → Rn 16 0 [some (.ref 0)] [] (0, 0) (mX e I G) Q := by
  intro n
  induction n with
  | zero =>
    intro i I hi r hQ
    have h4 := r.1.2.2
    have no : ¬ I 0 5 < I 0 4 := by rw [r.r5, r.r4]; exact nI_nlt (by omega) (by omega)
    have e1 : sk T q i = i := sk_f (by omega)
    have e2 : ltr T q i = -1 := if_neg (by omega)
    rw [e1, e2] at hQ
    exact g_X0_nextLetter_0 (fun h => absurd h no) (fun h => absurd h no) (fun h => absurd h no) (fun h => absurd h no) (fun h => absurd h no) (fun _ h => absurd h no) (fun _ h => absurd h no) (fun _ _ => hQ I r)
  | succ n ih =>
    intro i I hi r hQ
    have h4 := r.1.2.2
    have e5 := r.r5
    have yes : I 0 5 < I 0 4 := by rw [e5, r.r4]; exact nI_lt (by omega) (by omega)
    have vp : vp_in (I 0 5) 120 := by rw [e5]; exact vp_in_nI (by omega) (by omega)
    have hl : I 16 (I 0 5).toNatClampNeg = T i := by rw [e5, nI_clamp (by omega)]; exact r.r16 (by omega)
    refine g_X0_nextLetter_0 (fun _ => vp) (fun _ h => ?_) (fun _ _ _ => vp) (fun _ h _ => ?_) (fun _ _ h => absurd yes h) (fun h => absurd yes h) (fun h => absurd yes h) (fun h => absurd yes h)
    · rw [hl] at h
      rw [e5, nI_1]
      rw [sk_t ⟨by omega, h⟩] at hQ
      exact ih (i + 1) (by omega) (r.mv (by omega)) hQ
    · rw [hl] at h ⊢
      have e1 : sk T q i = i := sk_f (fun x => h x.2)
      have e2 : ltr T q i = T i := if_pos (by omega)
      rw [e1, e2] at hQ
      exact hQ I r
theorem c_nx (r : rdC T q I0 I i t) (hQ : ∀ I', rdC T q I0 I' (sk T q i) t → Q (.returned (some (.int (ltr T q (sk T q i))))) (mX e I' G)) : Rn 16 0 [some (.ref 0)] [] (0, 0) (mX e I G) Q := c_next _ i rfl r hQ
theorem c_wrong (r : rdC T q I0 I i t) (hQ : ∀ I', rdF I0 I' (sk T q i) → Q (.returned (some (.ref 15))) (mX e I' G)) : Rn 17 0 [some (.ref 0)] [] (0, 0) (mX e I G) Q :=
  g_X0_wrong_0 (c_nx r fun I' r' => g_X0_wrong_4 (by rw [r'.r5]; exact hQ _ r'.wr))
theorem c_wrong' (r : rdC T q I0 I i t) (hi : sk T q i = i) (hQ : ∀ I', rdF I0 I' i → Q (.returned (some (.ref 15))) (mX e I' G)) : Rn 17 0 [some (.ref 0)] [] (0, 0) (mX e I G) Q :=
  c_wrong r (by rw [hi]; exact hQ)
theorem c_numLoop {lo hi : Int32} {b : Nat} {R : Int32 × Nat} (hb : sk T q b = b) (hbq : b ≤ q) (hok : inl R.1.toInt64 lo.toInt64 hi.toInt64 → ∀ I', rdC T q I0 I' R.2 t → Q (.returned (some (.int R.1))) (mX e I' G)) (hbad : ¬ inl R.1.toInt64 lo.toInt64 hi.toInt64 → ∀ I', rdF I0 I' b → Q (.threw 15) (mX e I' G)) : ∀ j k v {I : Nat → Nat → Int32}, k + j = b + 3 → digs T q j k v = R → rdC T q I0 I k t →
    Rn 15 30 [some (.ref 0), some (.int lo), some (.int hi), some (.int (nI b)), some (.int v)] [] (0, 0) (mX e I G) Q := by
  intro j k v I hj hR r
  have stop1 : ∀ {k v} {I : Nat → Nat → Int32}, R = (v, k) → rdC T q I0 I k t → ¬ inl v.toInt64 lo.toInt64 hi.toInt64 → Rn 17 0 [some (.ref 0)] [] (0, 0) (mX e (up2 I 0 5 (nI b)) G) (fun o X' => conF Rn 15 125 17 [none, none, none, none, none] [] (0, 0) X' Q o) := by
    intro k v I hR r h
    subst hR
    exact c_wrong' (r.mv hbq) hb fun I' f' => Rn.go 1 ⟨7, rfl, rfl, hbad h I' f'⟩
  have stop2 : ∀ {k v} {I : Nat → Nat → Int32}, R = (v, k) → rdC T q I0 I k t → inl v.toInt64 lo.toInt64 hi.toInt64 → Q (.returned (some (.int v))) (mX e I G) := by
    intro k v I hR r h
    subst hR
    exact hok h I r
  induction j generalizing k v I with
  | zero =>
    have h4 := r.1.2.2
    have e5 := r.r5
    have eR : R = (v, k) := hR.symm
    have no : ¬ I 0 5 < nI b + 3 := by
      rw [e5, show nI b + 3 = nI (b + 3) from nI_add b 3]
      exact nI_nlt (by omega) (by omega)
    exact g_X0_readNumber_30 (fun _ h => absurd h no) (fun _ h => absurd h no) (fun _ h => absurd h no) (fun _ h => absurd h no) (fun _ h => absurd h no) (fun _ _ h => stop1 eR r h) (fun _ _ h => stop2 eR r h) (fun _ h => stop1 eR r h) (fun _ h => stop2 eR r h)
  | succ j ih =>
    have h4 := r.1.2.2
    have e5 := r.r5
    have yes : I 0 5 < nI b + 3 := by
      rw [e5, show nI b + 3 = nI (b + 3) from nI_add b 3]
      exact nI_lt (by omega) (by omega)
    have lt : I 0 5 < I 0 4 ↔ k < q := by rw [e5, r.r4]; exact nI_ltI (by omega) (by omega)
    have hl : k < q → I 16 (I 0 5).toNatClampNeg = T k := fun h => by rw [e5, nI_clamp (by omega)]; exact r.r16 h
    have vp : k < q → vp_in (I 0 5) 120 := fun h => by rw [e5]; exact vp_in_nI (by omega) (by omega)
    have sR : ¬ isD T q k → R = (v, k) := fun h => by
      rw [← hR]
      show (if isD T q k then _ else _) = _
      rw [if_neg h]
    refine g_X0_readNumber_30 (fun h _ => vp (lt.mp h)) (fun h1 _ h3 h4 => ?_) (fun h1 _ h3 h4 => ?_) (fun h _ _ => vp (lt.mp h)) (fun h1 _ h3 => ?_) (fun _ h => absurd yes h) (fun _ h => absurd yes h) (fun h1 h => stop1 (sR (fun x => h1 (lt.mpr x.1))) r h) (fun h1 h => stop2 (sR (fun x => h1 (lt.mpr x.1))) r h)
    · rw [hl (lt.mp h1)] at h3
      exact stop1 (sR (fun x => h3 x.2)) r h4
    · rw [hl (lt.mp h1)] at h3
      exact stop2 (sR (fun x => h3 x.2)) r h4
    · have hk := lt.mp h1
      rw [hl hk] at h3 ⊢
      rw [e5, nI_1]
      refine ih (k + 1) _ (by omega) ?_ (r.mv (by omega))
      rw [← hR]
      show _ = (if isD T q k then _ else _)
      rw [if_pos ⟨hk, h3⟩]
theorem c_num {lo hi : Int32} (r : rdC T q I0 I i t) (hok : ∀ v k I', num T q lo hi i = .inr (v, k) → rdC T q I0 I' k t → Q (.returned (some (.int v))) (mX e I' G)) (hbad : ∀ p I', num T q lo hi i = .inl p → rdF I0 I' p → Q (.threw 15) (mX e I' G)) :
    Rn 15 0 [some (.ref 0), some (.int lo), some (.int hi), none, none] [] (0, 0) (mX e I G) Q := by
  unfold num at hok hbad
  refine g_X0_readNumber_0 (c_nx r fun I1 r1 => g_X0_readNumber_4 (fun h => ?_) (fun h => ?_))
  · rw [ltr_D] at h
    rw [if_neg h] at hbad
    exact c_wrong' r1 sk_sk fun I2 f2 => Rn.go 1 ⟨7, rfl, rfl, hbad _ I2 rfl f2⟩
  · rw [ltr_D] at h
    rw [if_pos h] at hok hbad
    rw [r1.r5]
    refine c_numLoop sk_sk r1.1.2.2.2 (fun h2 I' r' => ?_) (fun h2 I' f' => ?_) 3 (sk T q i) 0 rfl rfl r1
    · rw [if_pos h2] at hok
      exact hok _ _ I' rfl r'
    · rw [if_neg h2] at hbad
      exact hbad _ I' rfl f'
theorem c_sgn {c : Int32} (hc : ¬ -1 = c) (r : rdC T q I0 I i t) (hok : ∀ u k I', sgn T q c i = .inr (u, k) → rdC T q I0 I' k t → Q (.returned none) (mX e I' G)) (hbad : ∀ p I', sgn T q c i = .inl p → rdF I0 I' p → Q (.threw 15) (mX e I' G)) :
    Rn 18 0 [some (.ref 0), some (.int c)] [] (0, 0) (mX e I G) Q := by
  unfold sgn at hok hbad
  refine g_X0_readSign_0 (c_nx r fun I1 r1 => g_X0_readSign_4 (fun h => ?_) (fun h => ?_))
  · rw [ltr_C hc] at h
    rw [if_pos h] at hok
    rw [r1.r5, nI_1]
    exact hok _ _ _ rfl (r1.mv (by omega))
  · rw [ltr_C hc] at h
    rw [if_neg h] at hbad
    exact c_wrong' r1 sk_sk fun I2 f2 => Rn.go 1 ⟨7, rfl, rfl, hbad _ I2 rfl f2⟩
theorem c_isS {c : Int32} (hc : ¬ -1 = c) (r : rdC T q I0 I i t) (h1 : isC T q (sk T q i) c → ∀ I', rdC T q I0 I' (sk T q i + 1) t → Q (.returned (some (.int 1))) (mX e I' G)) (h0 : ¬ isC T q (sk T q i) c → ∀ I', rdC T q I0 I' (sk T q i) t → Q (.returned (some (.int 0))) (mX e I' G)) :
    Rn 21 0 [some (.ref 0), some (.int c)] [] (0, 0) (mX e I G) Q := by
  refine g_X0_isSign_0 (c_nx r fun I1 r1 => g_X0_isSign_4 (fun h => ?_) (fun h => ?_))
  · rw [ltr_C hc] at h
    rw [r1.r5, nI_1]
    exact h1 h _ (r1.mv (by omega))
  · rw [ltr_C hc] at h
    exact h0 h _ r1
theorem c_dig {lo hi : Int32} (hlo : ¬ inl ((-1 : Int32) - 48).toInt64 lo.toInt64 hi.toInt64) (r : rdC T q I0 I i t) (hok : ∀ v k I', dig T q lo hi i = .inr (v, k) → rdC T q I0 I' k t → Q (.returned (some (.int v))) (mX e I' G)) (hbad : ∀ p I', dig T q lo hi i = .inl p → rdF I0 I' p → Q (.threw 15) (mX e I' G)) :
    Rn 23 0 [some (.ref 0), some (.int lo), some (.int hi), none] [] (0, 0) (mX e I G) Q := by
  unfold dig at hok hbad
  refine g_X0_readDigit_0 (c_nx r fun I1 r1 => g_X0_readDigit_4 (fun h => ?_) (fun h => ?_))
  · have h2 : ¬ (sk T q i < q ∧ inl (T (sk T q i) - 48).toInt64 lo.toInt64 hi.toInt64) := fun x => h (by unfold ltr; rw [if_pos x.1]; exact x.2)
    rw [if_neg h2] at hbad
    exact c_wrong' r1 sk_sk fun I2 f2 => Rn.go 1 ⟨7, rfl, rfl, hbad _ I2 rfl f2⟩
  · by_cases hq : sk T q i < q
    · have e1 : ltr T q (sk T q i) = T (sk T q i) := if_pos hq
      rw [e1] at h ⊢
      rw [if_pos ⟨hq, h⟩] at hok
      rw [r1.r5, nI_1]
      exact hok _ _ _ rfl (r1.mv (by omega))
    · have e1 : ltr T q (sk T q i) = -1 := if_neg hq
      rw [e1] at h
      exact absurd h hlo
theorem lo_l : ∀ l, l < 7 → ¬ (nI l + 1).toInt64 ≤ ((-1 : Int32) - 48).toInt64 := by decide +kernel
theorem sk_dig {lo hi : Int32} {i : Nat} : dig T q lo hi (sk T q i) = dig T q lo hi i := by unfold dig; rw [sk_sk]
theorem tw_join {I : Nat → Nat → Int32} {n v a : Nat} {kd w l : Int32} (hn : n < 6) (hv : v < n) (ha : a < 2 ^ v) (ht : twn I 17 = newP t n kd w l (nI a)) :
    twn (up2 (up2 I 20 n ((I 20 n) ||| (1 <<< (nI v &&& 31)))) 20 v (((up2 I 20 n ((I 20 n) ||| (1 <<< (nI v &&& 31)))) 20 v) ||| (1 <<< (nI n &&& 31)))) 17 = newP t n kd w l (nI (a + 2 ^ v)) := by
  have k1 : ∀ p, p < 6 → I 20 p = twn I 17 (11 + 5 * p) := fun p hp => ((twn_k I 17 p hp).2.2.2.2).symm
  rw [(twn_upk (show v < 6 by omega)).2.2.2.2 rfl, (twn_upk hn).2.2.2.2 rfl, up2_i (show v ≠ n by omega), k1 n hn, k1 v (by omega), ht]
  exact join_newP hn hv ha
theorem c_kinLoop {kd w lg : Int32} (hn : n < 6) : ∀ r l a i {I : Nat → Nat → Int32}, n ≤ l + 1 + r → l < n → a < 2 ^ (l + 1) → rdC T q I0 I i (newP t n kd w lg (nI a)) → (∀ v k I', kinA T q n r l a i = .inr (v, k) → rdC T q I0 I' k (newP t n kd w lg v) → Q (.returned none) (mX e I' G)) → (∀ p I', kinA T q n r l a i = .inl p → rdF I0 I' p → Q (.threw 15) (mX e I' G)) →
    Rn 22 18 [some (.ref 0), some (.int (nI n)), some (.int (nI l))] [] (0, 0) (mX e I G) Q := by
  intro r
  induction r with
  | zero =>
    intro l a i I hr hl ha rc hok hbad
    have hk : kinA T q n 0 l a i = if isD T q (sk T q i) then .inl (sk T q i) else .inr (nI a, sk T q i) := rfl
    rw [hk] at hok hbad
    refine g_X0_readKin_18 (c_nx rc fun I1 r1 => g_X0_readKin_22 (fun h => ?_) (fun h => ?_))
    · rw [ltr_D] at h
      rw [if_neg h] at hok
      exact hok _ _ _ rfl r1
    · rw [ltr_D] at h
      rw [if_pos h] at hbad
      refine c_dig (fun x => lo_l l (by omega) x.1) r1 (fun v k I' hd r' => ?_) (fun p I' hd f' => ?_)
      · exfalso
        rw [sk_dig] at hd
        unfold dig at hd
        split at hd
        · rename_i hx
          have h2 := hx.2
          rw [nI_1, show n = n - 1 + 1 by omega, nI_pred, nI_l (by omega), nI_l (by omega)] at h2
          obtain ⟨v', a1, a2, -⟩ := inR (lo := l + 1) (hi := n - 1) h2 (by omega) (by omega)
          omega
        · cases hd
      · rw [sk_dig] at hd
        unfold dig at hd
        split at hd
        · cases hd
        · cases hd
          exact ⟨rfl, 7, rfl, rfl, hbad _ I' rfl f'⟩
  | succ r ih =>
    intro l a i I hr hl ha rc hok hbad
    have hk : kinA T q n (r + 1) l a i = if isD T q (sk T q i) then
      (if inl (T (sk T q i) - 48).toInt64 (nI l + 1).toInt64 (nI n - 1).toInt64 then kinA T q n r (T (sk T q i) - 48).toNatClampNeg (a + 2 ^ (T (sk T q i) - 48).toNatClampNeg) (sk T q i + 1) else .inl (sk T q i))
      else .inr (nI a, sk T q i) := rfl
    rw [hk] at hok hbad
    refine g_X0_readKin_18 (c_nx rc fun I1 r1 => g_X0_readKin_22 (fun h => ?_) (fun h => ?_))
    · rw [ltr_D] at h
      rw [if_neg h] at hok
      exact hok _ _ _ rfl r1
    · rw [ltr_D] at h
      rw [if_pos h] at hok hbad
      refine c_dig (fun x => lo_l l (by omega) x.1) r1 (fun v k I' hd r' => ?_) (fun p I' hd f' => ?_)
      · rw [sk_dig] at hd
        unfold dig at hd
        split at hd
        · rename_i hx
          have h2 := hx.2
          rw [if_pos h2] at hok hbad
          cases hd
          rw [nI_1, show n = n - 1 + 1 by omega, nI_pred, nI_l (by omega), nI_l (by omega)] at h2
          obtain ⟨v', a1, a2, e1⟩ := inR (lo := l + 1) (hi := n - 1) h2 (by omega) (by omega)
          rw [e1] at hok hbad ⊢
          rw [nI_clamp (by omega)] at hok hbad
          have hp : a < 2 ^ v' := Nat.lt_of_lt_of_le ha (Nat.pow_le_pow_right (by omega) a1)
          refine g_X0_readKin_45 (g_X6_join_17_0 (vp_in_nI (by omega) (by omega)) (vp_in_nI (by omega) (by omega)) (g_X0_readKin_55 ?_))
          rw [nI_clamp (show n < 2 ^ 31 by omega), nI_clamp (show v' < 2 ^ 31 by omega)]
          have ht := tw_join hn (show v' < n by omega) hp r'.2.2.2
          refine ih v' (a + 2 ^ v') _ (by omega) (by omega) ?_ (r'.tw ((fr.rf.up (by omega) (by omega)).up (by omega) (by omega)) ht) hok hbad
          rw [Nat.pow_succ]
          omega
        · cases hd
      · rw [sk_dig] at hd
        unfold dig at hd
        split at hd
        · cases hd
        · rename_i hx
          rw [if_neg (fun x => hx ⟨h.1, x⟩)] at hbad
          cases hd
          exact ⟨rfl, 7, rfl, rfl, hbad _ I' rfl f'⟩
theorem c_kin0 {kd w lg : Int32} (hn : n < 6) (rc : rdC T q I0 I i (newP t n kd w lg 0)) (hok : ∀ v k I', kinR T q n i = .inr (v, k) → rdC T q I0 I' k (newP t n kd w lg v) → Q (.returned none) (mX e I' G)) (hbad : ∀ p I', kinR T q n i = .inl p → rdF I0 I' p → Q (.threw 15) (mX e I' G)) :
    Rn 22 0 [some (.ref 0), some (.int (nI n)), none] [] (0, 0) (mX e I G) Q := by
  unfold kinR at hok hbad
  refine g_X0_readKin_0 (c_dig (fun x => absurd x.1 (by decide)) rc (fun v k I' hd r' => ?_) (fun p I' hd f' => ?_))
  · rw [bnd_r hd] at hok hbad
    unfold dig at hd
    split at hd
    · rename_i hx
      have h2 := hx.2
      cases hd
      obtain ⟨v', a2, e1⟩ := isP (n := n) (by omega) h2
      rw [e1] at hok hbad ⊢
      rw [nI_clamp (by omega)] at hok hbad
      have hp : 0 < 2 ^ v' := Nat.two_pow_pos v'
      refine g_X0_readKin_8 (g_X6_join_17_0 (vp_in_nI (by omega) (by omega)) (vp_in_nI (by omega) (by omega)) ?_)
      rw [nI_clamp (show n < 2 ^ 31 by omega), nI_clamp (show v' < 2 ^ 31 by omega)]
      have ht := tw_join (a := 0) hn a2 hp r'.2.2.2
      rw [Nat.zero_add] at ht
      have r2 := r'.tw ((fr.rf.up (by omega) (by omega)).up (by omega) (by omega)) ht
      refine c_kinLoop hn n v' (2 ^ v') _ (by omega) a2 ?_ r2 hok hbad
      rw [Nat.pow_succ]
      omega
    · cases hd
  · rw [bnd_l hd] at hbad
    exact ⟨rfl, 7, rfl, rfl, hbad _ I' rfl f'⟩
end S94
