/-! a person, a case, a town is read: the component -/
section S95
variable {T : Nat → Int32} {q : Nat} {I0 I : Nat → Nat → Int32} {e : En} {G : Nat → Nat → Int64} {Q : Po} {k i n m : Nat} {t : Nat → Int32}
theorem c_kind {c : Int32} (hQ : Q (.returned (some (.int (kindS c)))) (mX e I G)) : Rn 20 0 [some (.int c)] [] (0, 0) (mX e I G) Q := by
  unfold kindS at hQ
  refine g_X0_kindBy_0 (fun h => ?_) (fun h1 h => ?_) (fun h1 h2 h => ?_) (fun h1 h2 h3 h => ?_) (fun h1 h2 h3 h4 h => ?_) (fun h1 h2 h3 h4 h => ?_)
  · rw [if_pos h] at hQ; exact hQ
  · rw [if_neg h1, if_pos h] at hQ; exact hQ
  · rw [if_neg h1, if_neg h2, if_pos h] at hQ; exact hQ
  · rw [if_neg h1, if_neg h2, if_neg h3, if_pos h] at hQ; exact hQ
  · rw [if_neg h1, if_neg h2, if_neg h3, if_neg h4, if_pos h] at hQ; exact hQ
  · rw [if_neg h1, if_neg h2, if_neg h3, if_neg h4, if_neg h] at hQ; exact hQ
theorem setL_newP {t : Nat → Int32} {n : Nat} {kd w l l' kn : Int32} : up1 (newP t n kd w l kn) (9 + 5 * n) l' = newP t n kd w l' kn := by
  have ek : ∀ l q, q < n → newP t n kd w l kn (11 + 5 * q) = t (11 + 5 * q) ||| (((kn >>> (nI q &&& 31)) &&& 1) <<< (nI n &&& 31)) := fun l q hq => by
    unfold newP
    rw [up1_ne (by omega), kinL_at hq, addP_ne (by omega)]
  funext j
  by_cases h1 : j = 9 + 5 * n
  · subst h1
    rw [up1_at]
    unfold newP
    rw [up1_ne (by omega), kinL_ne (fun q hq => by omega)]
    unfold addP
    rw [up1_ne (by omega), up1_ne (by omega), up1_at]
  · rw [up1_ne h1]
    by_cases h3 : ∃ q, q < n ∧ j = 11 + 5 * q
    · obtain ⟨r, hr, rfl⟩ := h3
      rw [ek _ r hr, ek _ r hr]
    · have hj : ∀ q, q < n → j ≠ 11 + 5 * q := fun q hq h => h3 ⟨q, hq, h⟩
      unfold newP
      by_cases h0 : j = 0
      · subst h0; rw [up1_at, up1_at]
      · rw [up1_ne h0, up1_ne h0, kinL_ne hj, kinL_ne hj]
        unfold addP
        by_cases h5 : j = 11 + 5 * n
        · subst h5; rw [up1_at, up1_at]
        · rw [up1_ne h5, up1_ne h5]
          by_cases h6 : j = 10 + 5 * n
          · subst h6; rw [up1_at, up1_at]
          · rw [up1_ne h6, up1_ne h6, up1_ne h1, up1_ne h1]
theorem tw_addP (hn : n < 6) {kd w : Int32} (ht : twn I 17 = t) : twn (up2 (up2 (up2 (up2 (up2 (up2 I 18 n kd) 19 n w) 20 n 0) 21 n 0) 22 n 0) 17 7 (nI (n + 1))) 17 = newP t n kd w 0 0 := by
  rw [twn_f.1, (twn_upk hn).2.2.2.1 rfl, (twn_upk hn).2.2.1 rfl, (twn_upk hn).2.2.2.2 rfl, (twn_upk hn).2.1 rfl, (twn_upk hn).1 rfl, ht]
  unfold newP
  rw [kinL_0 hn (by omega)]
  unfold addP
  rw [up1_comm (show 11 + 5 * n ≠ 9 + 5 * n by omega), up1_comm (show 11 + 5 * n ≠ 10 + 5 * n by omega)]
theorem c_pers2 {kd w lg : Int32} (hn : n < 6) (rc : rdC T q I0 I i (newP t n kd w lg 0)) (hok : ∀ v k I', knR T q n i = .inr (v, k) → rdC T q I0 I' k (newP t n kd w lg v) → Q (.returned none) (mX e I' G)) (hbad : ∀ p I', knR T q n i = .inl p → rdF I0 I' p → Q (.threw 15) (mX e I' G)) :
    Rn 21 0 [some (.ref 0), some (.int 47)] [] (0, 0) (mX e I G) (fun o X' => conF Rn 19 78 21 [some (.ref 0), none, some (.int (nI n))] [] (0, 0) X' Q o) := by
  unfold knR at hok hbad
  refine c_isS (by decide) rc (fun h I1 r1 => g_X0_readPerson_81 (fun h => absurd h (by decide)) (fun _ => ?_)) (fun h I1 r1 => g_X0_readPerson_81 (fun _ => ?_) (fun h => absurd rfl h))
  · rw [if_pos h] at hok hbad
    exact c_kin0 hn r1 (fun v k I' hd r' => g_X0_readPerson_89 (hok v k I' hd r')) (fun p I' hd f' => ⟨rfl, 7, rfl, rfl, hbad p I' hd f'⟩)
  · rw [if_neg h] at hok
    exact hok _ _ _ rfl r1
theorem c_pers1 {kd w : Int32} (hn : n < 6) (rc : rdC T q I0 I i (newP t n kd w 0 0)) (hok : ∀ l v k I', (bnd (linR T q i) fun l i2 => bnd (knR T q n i2) fun kn i3 => (.inr ((kd, w, l, kn), i3) : Rd Prs)) = .inr ((kd, w, l, v), k) → rdC T q I0 I' k (newP t n kd w l v) → Q (.returned none) (mX e I' G)) (hbad : ∀ p I', (bnd (linR T q i) fun l i2 => bnd (knR T q n i2) fun kn i3 => (.inr ((kd, w, l, kn), i3) : Rd Prs)) = .inl p → rdF I0 I' p → Q (.threw 15) (mX e I' G)) :
    Rn 21 0 [some (.ref 0), some (.int 43)] [] (0, 0) (mX e I G) (fun o X' => conF Rn 19 53 21 [some (.ref 0), none, some (.int (nI n))] [] (0, 0) X' Q o) := by
  have go : ∀ {lg : Int32} {i2 : Nat} {I2 : Nat → Nat → Int32}, linR T q i = .inr (lg, i2) → rdC T q I0 I2 i2 (newP t n kd w lg 0) → Rn 21 0 [some (.ref 0), some (.int 47)] [] (0, 0) (mX e I2 G) (fun o X' => conF Rn 19 78 21 [some (.ref 0), none, some (.int (nI n))] [] (0, 0) X' Q o) := by
    intro lg i2 I2 hl r2
    rw [bnd_r hl] at hbad
    refine c_pers2 hn r2 (fun v k I' hd r' => hok lg v k I' (by rw [bnd_r hl, bnd_r hd]) r') (fun p I' hd f' => hbad p I' (by rw [bnd_l hd]) f')
  by_cases h : isC T q (sk T q i) 43
  · have hl : linR T q i = num T q 0 60 (sk T q i + 1) := if_pos h
    refine c_isS (by decide) rc (fun _ I1 r1 => g_X0_readPerson_56 (fun h => absurd h (by decide)) (fun _ => ?_)) (fun h' => absurd h h')
    refine c_num r1 (fun v k I2 hd r2 => ?_) (fun p I' hd f' => ⟨rfl, 7, rfl, rfl, hbad p I' (bnd_l (hl.trans hd)) f'⟩)
    refine g_X0_readPerson_74 (vp_in_nI (by omega) (by omega)) ?_
    rw [nI_clamp (by omega)]
    refine go (hl.trans hd) (r2.tw (fr.rf.up (by omega) (by omega)) ?_)
    rw [(twn_upk hn).2.2.1 rfl, r2.2.2.2]
    exact setL_newP
  · have hl : linR T q i = .inr (0, sk T q i) := if_neg h
    refine c_isS (by decide) rc (fun h' => absurd h' h) (fun _ I1 r1 => g_X0_readPerson_56 (fun _ => go hl r1) (fun h => absurd rfl h))
theorem c_pers (hn : n < 6) (h0 : t 0 = nI n) (rc : rdC T q I0 I i t) (hok : ∀ x k I', pers T q n i = .inr (x, k) → rdC T q I0 I' k (newP t n x.1 x.2.1 x.2.2.1 x.2.2.2) → Q (.returned none) (mX e I' G)) (hbad : ∀ p I', pers T q n i = .inl p → rdF I0 I' p → Q (.threw 15) (mX e I' G)) :
    Rn 19 0 [some (.ref 0), none, none] [] (0, 0) (mX e I G) Q := by
  unfold pers at hok hbad
  refine g_X0_readPerson_0 (c_nx rc fun I1 r1 => g_X0_readPerson_4 (c_kind (g_X0_readPerson_7 (fun h => ?_) (fun h => ?_))))
  · have hx : kndR T q i = .inl (sk T q i) := if_neg (fun x => x.2 (by unfold ltr at h; rw [if_pos x.1] at h; exact h))
    rw [bnd_l hx] at hbad
    exact c_wrong' r1 sk_sk fun I2 f2 => Rn.go 1 ⟨7, rfl, rfl, hbad _ I2 rfl f2⟩
  · have hq : sk T q i < q := by
      rcases Nat.lt_or_ge (sk T q i) q with x | x
      · exact x
      · exfalso
        unfold ltr at h
        rw [if_neg (by omega)] at h
        exact h (by decide)
    have e1 : ltr T q (sk T q i) = T (sk T q i) := if_pos hq
    rw [e1] at h ⊢
    have hx : kndR T q i = .inr (kindS (T (sk T q i)), sk T q i + 1) := if_pos ⟨hq, h⟩
    rw [bnd_r hx] at hok hbad
    have e7 : I1 17 7 = nI n := by rw [show I1 17 7 = twn I1 17 0 from rfl, r1.2.2.2]; exact h0
    rw [r1.r5, nI_1, e7]
    refine c_num (r1.mv (by omega)) (fun w k I2 hd r2 => ?_) (fun p I' hd f' => ⟨rfl, 7, rfl, rfl, hbad p I' (bnd_l hd) f'⟩)
    rw [bnd_r hd] at hok hbad
    have e8 : I2 17 7 = nI n := by rw [show I2 17 7 = twn I2 17 0 from rfl, r2.2.2.2]; exact h0
    refine g_X0_readPerson_47 (g_X6_addPerson_17_0 (by rw [e8]; exact vp_in_nI hn (by omega)) (g_X0_readPerson_50 ?_))
    rw [e8, nI_clamp (by omega), nI_1]
    have r3 := r2.tw ((((((fr.rf.up (by omega) (by omega)).up (by omega) (by omega)).up (by omega) (by omega)).up (by omega) (by omega)).up (by omega) (by omega)).up (by omega) (by omega)) (tw_addP (kd := kindS (T (sk T q i))) (w := w) hn r2.2.2.2)
    exact c_pers1 hn r3 (fun l v k I' hd r' => hok _ k I' hd r') hbad
theorem newP_at {t : Nat → Int32} {n : Nat} {a b c d : Int32} : newP t n a b c d 0 = nI (n + 1) ∧ newP t n a b c d 1 = t 1 := by
  unfold newP
  refine ⟨up1_at, ?_⟩
  rw [up1_ne (by omega), kinL_ne (fun q _ => by omega), addP_ne (by omega)]
theorem newC_at {t : Nat → Int32} {m : Nat} {a b : Int32} : newC t m a b 0 = t 0 ∧ newC t m a b 1 = nI (m + 1) := by
  unfold newC
  refine ⟨?_, up1_at⟩
  rw [up1_ne (by omega), up1_ne (by omega), up1_ne (by omega)]
theorem tw_addC (hm : m < 6) {a b : Int32} (ht : twn I 17 = t) : twn (up2 (up2 (up2 I 23 m a) 24 m b) 17 8 (nI (m + 1))) 17 = newC t m a b := by
  rw [twn_f.2.1, (twn_upc hm).2 rfl, (twn_upc hm).1 rfl, ht]
  rfl
theorem c_cas (hn : n ≤ 6) (hm : m < 6) (h0 : t 0 = nI n) (h1 : t 1 = nI m) (rc : rdC T q I0 I i t) (hok : ∀ x k I', casR T q n i = .inr (x, k) → rdC T q I0 I' k (newC t m x.1 x.2) → Q (.returned none) (mX e I' G)) (hbad : ∀ p I', casR T q n i = .inl p → rdF I0 I' p → Q (.threw 15) (mX e I' G)) :
    Rn 24 0 [some (.ref 0), none] [] (0, 0) (mX e I G) Q := by
  unfold casR at hok hbad
  refine g_X0_readCase_0 (c_num rc (fun v k I2 hd r2 => ?_) (fun p I' hd f' => ⟨rfl, 7, rfl, rfl, hbad p I' (bnd_l hd) f'⟩))
  rw [bnd_r hd] at hok hbad
  have add : ∀ {a : Int32} {k' : Nat} {I3 : Nat → Nat → Int32}, accR T q n k = .inr (a, k') → rdC T q I0 I3 k' t → Rn 81 0 [some (.ref 17), some (.int v), some (.int a)] [] (0, 0) (mX e I3 G) (fun o X' => conF Rn 24 41 81 [none, none] [] (0, 0) X' Q o) := by
    intro a k' I3 ha r3
    have e8 : I3 17 8 = nI m := by rw [show I3 17 8 = twn I3 17 1 from rfl, r3.2.2.2]; exact h1
    refine g_X6_addCase_17_0 (by rw [e8]; exact vp_in_nI hm (by omega)) (g_X0_readCase_44 ?_)
    rw [e8, nI_clamp (by omega), nI_1]
    exact hok (v, a) k' _ (bnd_r ha) (r3.tw (((fr.rf.up (by omega) (by omega)).up (by omega) (by omega)).up (by omega) (by omega)) (tw_addC hm r3.2.2.2))
  refine g_X0_readCase_7 ?_
  by_cases h : isC T q (sk T q k) 64
  · have hl : accR T q n k = dig T q 0 (nI n - 1) (sk T q k + 1) := if_pos h
    refine c_isS (by decide) r2 (fun _ I3 r3 => g_X0_readCase_19 (fun h => absurd h (by decide)) (fun _ => ?_)) (fun h' => absurd h h')
    have e7 : I3 17 7 = nI n := by rw [show I3 17 7 = twn I3 17 0 from rfl, r3.2.2.2]; exact h0
    rw [e7]
    exact c_dig (fun x => absurd x.1 (by decide)) r3 (fun a k' I4 hd4 r4 => g_X0_readCase_36 (add (hl.trans hd4) r4)) (fun p I' hd4 f' => ⟨rfl, 7, rfl, rfl, hbad p I' (bnd_l (hl.trans hd4)) f'⟩)
  · have hl : accR T q n k = .inr (-4, sk T q k) := if_neg h
    exact c_isS (by decide) r2 (fun h' => absurd h' h) (fun _ I3 r3 => g_X0_readCase_19 (fun _ => add hl r3) (fun h => absurd rfl h))
/-- nothing follows -/
theorem c_fin {cs : List Cas} (rc : rdC T q I0 I i t) (hT : ∀ i, i < q → ¬ T i < 0) (hok : ∀ x k I', finR T q cs i = .inr (x, k) → rdC T q I0 I' k t → Q (.returned none) (mX e I' G)) (hbad : ∀ p I', finR T q cs i = .inl p → rdF I0 I' p → Q (.threw 15) (mX e I' G)) :
    Rn 16 0 [some (.ref 0)] [] (0, 0) (mX e I G) (fun o X' => conF Rn 14 119 16 [some (.ref 0)] [] (0, 0) X' Q o) := by
  unfold finR at hok hbad
  refine c_nx rc fun I1 r1 => g_X0_readTown_122 (fun h => ?_) (fun h => ?_)
  · have : ¬ sk T q i < q := fun x => by
      unfold ltr at h
      rw [if_pos x] at h
      exact hT _ x h
    rw [if_neg this] at hok
    exact hok _ _ _ rfl r1
  · have : sk T q i < q := by
      rcases Nat.lt_or_ge (sk T q i) q with x | x
      · exact x
      · exfalso
        unfold ltr at h
        rw [if_neg (by omega)] at h
        exact h (by decide)
    rw [if_pos this] at hbad
    exact c_wrong' r1 sk_sk fun I2 f2 => Rn.go 1 ⟨7, rfl, rfl, hbad _ I2 rfl f2⟩
theorem c_casLoop (hn : n ≤ 6) (hT : ∀ i, i < q → ¬ T i < 0) : ∀ r m i {I : Nat → Nat → Int32} {t : Nat → Int32} (f : List Cas → List Cas), m + r = 6 → t 0 = nI n → t 1 = nI m → rdC T q I0 I i t → (∀ xs k I', bnd (clist T q n r i) (fun xs k' => finR T q (f xs) k') = .inr (f xs, k) → rdC T q I0 I' k (addC t m xs) → Q (.returned none) (mX e I' G)) → (∀ p I', bnd (clist T q n r i) (fun xs k' => finR T q (f xs) k') = .inl p → rdF I0 I' p → Q (.threw 15) (mX e I' G)) →
    Rn 14 90 [some (.ref 0)] [] (0, 0) (mX e I G) Q := by
  intro r
  induction r with
  | zero =>
    intro m i I t f hm h0 h1 rc hok hbad
    have e8 : I 17 8 = nI m := by rw [show I 17 8 = twn I 17 1 from rfl, rc.2.2.2]; exact h1
    have no : ¬ I 17 8 < 6 := by rw [e8]; exact nI_nlt (a := m) (b := 6) (by omega) (by omega)
    refine g_X0_readTown_90 (fun h => absurd h no) (fun _ => ?_)
    refine c_fin (cs := f []) rc hT (fun x k I' hd r' => ?_) (fun p I' hd f' => hbad p I' hd f')
    have : x = f [] := by
      unfold finR at hd
      split at hd
      · cases hd
      · cases hd; rfl
    subst this
    exact hok [] k I' hd r'
  | succ r ih =>
    intro m i I t f hm h0 h1 rc hok hbad
    have e8 : I 17 8 = nI m := by rw [show I 17 8 = twn I 17 1 from rfl, rc.2.2.2]; exact h1
    have yes : I 17 8 < 6 := by rw [e8]; exact nI_lt (b := 6) (by omega) (by omega)
    refine g_X0_readTown_90 (fun _ => ?_) (fun h => absurd yes h)
    by_cases h : isC T q (sk T q i) 44
    · have hl : clist T q n (r + 1) i = bnd (casR T q n (sk T q i + 1)) fun x k => bnd (clist T q n r k) fun xs k' => .inr (x :: xs, k') := if_pos h
      refine c_isS (by decide) rc (fun _ I1 r1 => g_X0_readTown_108 (fun h => absurd h (by decide)) (fun _ => ?_)) (fun h' => absurd h h')
      refine c_cas hn (by omega) h0 h1 r1 (fun x k I2 hd r2 => g_X0_readTown_115 ?_) (fun p I' hd f' => ⟨rfl, 7, rfl, rfl, hbad p I' (by rw [hl, bnd_l hd]; rfl) f'⟩)
      have key : ∀ R, bnd (clist T q n r k) (fun xs k' => finR T q (f (x :: xs)) k') = R → bnd (clist T q n (r + 1) i) (fun xs k' => finR T q (f xs) k') = R := fun R hR => by
        rw [hl, bnd_r hd, ← hR]
        cases clist T q n r k with
        | inl p => rfl
        | inr y => rfl
      exact ih (m + 1) k (fun xs => f (x :: xs)) (by omega) (newC_at.1.trans h0) newC_at.2 r2 (fun xs k' I' hx r' => hok (x :: xs) k' I' (key _ hx) r') (fun p I' hx f' => hbad p I' (key _ hx) f')
    · have hl : clist T q n (r + 1) i = .inr ([], sk T q i) := if_neg h
      refine c_isS (by decide) rc (fun h' => absurd h' h) (fun _ I1 r1 => g_X0_readTown_108 (fun _ => ?_) (fun h => absurd rfl h))
      rw [bnd_r hl] at hbad
      refine c_fin (cs := f []) r1 hT (fun x k I' hd r' => ?_) (fun p I' hd f' => hbad p I' hd f')
      have : x = f [] := by
        unfold finR at hd
        split at hd
        · cases hd
        · cases hd; rfl
      subst this
      exact hok [] k I' (by rw [bnd_r hl]; exact hd) r'
theorem fin_eq {cs x : List Cas} {k k' : Nat} (hd : finR T q cs k = .inr (x, k')) : x = cs := by
  unfold finR at hd
  split at hd
  · cases hd
  · cases hd; rfl
/-- what follows the people -/
theorem c_rest (hn : n ≤ 6) (hT : ∀ i, i < q → ¬ T i < 0) (h0 : t 0 = nI n) (h1 : t 1 = 0) (rc : rdC T q I0 I i t) (hok : ∀ xs k I', rest T q n i = .inr (xs, k) → rdC T q I0 I' k (addC t 0 xs) → Q (.returned none) (mX e I' G)) (hbad : ∀ p I', rest T q n i = .inl p → rdF I0 I' p → Q (.threw 15) (mX e I' G)) :
    Rn 21 0 [some (.ref 0), some (.int 59)] [] (0, 0) (mX e I G) (fun o X' => conF Rn 14 80 21 [some (.ref 0)] [] (0, 0) X' Q o) := by
  by_cases h : isC T q (sk T q i) 59
  · have hl : rest T q n i = bnd (casR T q n (sk T q i + 1)) fun x k => bnd (clist T q n 5 k) fun xs k' => finR T q (x :: xs) k' := if_pos h
    refine c_isS (by decide) rc (fun _ I1 r1 => g_X0_readTown_83 (fun h => absurd h (by decide)) (fun _ => ?_)) (fun h' => absurd h h')
    refine c_cas hn (m := 0) (by omega) h0 h1 r1 (fun x k I2 hd r2 => ?_) (fun p I' hd f' => ⟨rfl, 7, rfl, rfl, hbad p I' (hl.trans (bnd_l hd)) f'⟩)
    refine c_casLoop hn hT 5 1 k (fun xs => x :: xs) (by omega) (newC_at.1.trans h0) newC_at.2 r2 (fun xs k' I' hx r' => hok (x :: xs) k' I' (hl.trans ((bnd_r hd).trans hx)) r') (fun p I' hx f' => hbad p I' (hl.trans ((bnd_r hd).trans hx)) f')
  · have hl : rest T q n i = finR T q [] (sk T q i) := if_neg h
    refine c_isS (by decide) rc (fun h' => absurd h' h) (fun _ I1 r1 => g_X0_readTown_83 (fun _ => ?_) (fun h => absurd rfl h))
    refine c_fin (cs := []) r1 hT (fun x k I' hd r' => ?_) (fun p I' hd f' => hbad p I' (hl.trans hd) f')
    have := fin_eq hd
    subst this
    exact hok [] k I' (hl.trans hd) r'
theorem c_perLoop (hT : ∀ i, i < q → ¬ T i < 0) : ∀ r n i {I : Nat → Nat → Int32} {t : Nat → Int32}, n + r = 6 → t 0 = nI n → t 1 = 0 → rdC T q I0 I i t → (∀ xs i' cs k I', plist T q r n i = .inr (xs, i') → rest T q (n + xs.length) i' = .inr (cs, k) → rdC T q I0 I' k (addC (addN t n xs) 0 cs) → Q (.returned none) (mX e I' G)) → (∀ p I', plist T q r n i = .inl p → rdF I0 I' p → Q (.threw 15) (mX e I' G)) → (∀ xs i' p I', plist T q r n i = .inr (xs, i') → rest T q (n + xs.length) i' = .inl p → rdF I0 I' p → Q (.threw 15) (mX e I' G)) →
    Rn 14 49 [some (.ref 0)] [] (0, 0) (mX e I G) Q := by
  intro r
  induction r with
  | zero =>
    intro n i I t hn h0 h1 rc hok hb1 hb2
    have e7 : I 17 7 = nI n := by rw [show I 17 7 = twn I 17 0 from rfl, rc.2.2.2]; exact h0
    have no : ¬ I 17 7 < 6 := by rw [e7]; exact nI_nlt (a := n) (b := 6) (by omega) (by omega)
    refine g_X0_readTown_49 (fun h => absurd h no) (fun _ => ?_)
    have hl : plist T q 0 n i = .inr ([], i) := rfl
    exact c_rest (by omega) hT h0 h1 rc (fun cs k I' hd r' => hok [] i cs k I' hl (by rw [List.length_nil, Nat.add_zero]; exact hd) r') (fun p I' hd f' => hb2 [] i p I' hl (by rw [List.length_nil, Nat.add_zero]; exact hd) f')
  | succ r ih =>
    intro n i I t hn h0 h1 rc hok hb1 hb2
    have e7 : I 17 7 = nI n := by rw [show I 17 7 = twn I 17 0 from rfl, rc.2.2.2]; exact h0
    have yes : I 17 7 < 6 := by rw [e7]; exact nI_lt (b := 6) (by omega) (by omega)
    refine g_X0_readTown_49 (fun _ => ?_) (fun h => absurd yes h)
    by_cases h : isC T q (sk T q i) 44
    · have hl : plist T q (r + 1) n i = bnd (pers T q n (sk T q i + 1)) fun x k => bnd (plist T q r (n + 1) k) fun xs k' => .inr (x :: xs, k') := if_pos h
      refine c_isS (by decide) rc (fun _ I1 r1 => g_X0_readTown_67 (fun h => absurd h (by decide)) (fun _ => ?_)) (fun h' => absurd h h')
      refine c_pers (by omega) h0 r1 (fun x k I2 hd r2 => g_X0_readTown_74 ?_) (fun p I' hd f' => ⟨rfl, 7, rfl, rfl, hb1 p I' (by rw [hl, bnd_l hd]) f'⟩)
      refine ih (n + 1) k (by omega) newP_at.1 (newP_at.2.trans h1) r2 (fun xs i' cs k' I' hx hr r' => hok (x :: xs) i' cs k' I' (by rw [hl, bnd_r hd, bnd_r hx]) (by rw [List.length_cons, show n + (xs.length + 1) = n + 1 + xs.length by omega]; exact hr) r') (fun p I' hx f' => hb1 p I' (by rw [hl, bnd_r hd, bnd_l hx]) f') (fun xs i' p I' hx hr f' => hb2 (x :: xs) i' p I' (by rw [hl, bnd_r hd, bnd_r hx]) (by rw [List.length_cons, show n + (xs.length + 1) = n + 1 + xs.length by omega]; exact hr) f')
    · have hl : plist T q (r + 1) n i = .inr ([], sk T q i) := if_neg h
      refine c_isS (by decide) rc (fun h' => absurd h' h) (fun _ I1 r1 => g_X0_readTown_67 (fun _ => ?_) (fun h => absurd rfl h))
      exact c_rest (by omega) hT h0 h1 r1 (fun cs k I' hd r' => hok [] _ cs k I' hl (by rw [List.length_nil, Nat.add_zero]; exact hd) r') (fun p I' hd f' => hb2 [] _ p I' hl (by rw [List.length_nil, Nat.add_zero]; exact hd) f')
theorem bgn_c {t : Nat → Int32} {d : Int32} : up1 (up1 (up1 (up1 (up1 (up1 t 0 0) 1 0) 5 (-4)) 4 0) 2 0) 3 d = bgn t d := by
  unfold bgn
  rw [up1_comm (show (5 : Nat) ≠ 4 by omega), up1_comm (show (5 : Nat) ≠ 2 by omega), up1_comm (show (5 : Nat) ≠ 3 by omega), up1_comm (show (4 : Nat) ≠ 2 by omega), up1_comm (show (4 : Nat) ≠ 3 by omega)]
theorem bgn_at {t : Nat → Int32} {d : Int32} : bgn t d 0 = 0 ∧ bgn t d 1 = 0 := by
  unfold bgn
  exact ⟨by rw [up1_ne (by omega), up1_ne (by omega), up1_ne (by omega), up1_ne (by omega), up1_ne (by omega), up1_at], by rw [up1_ne (by omega), up1_ne (by omega), up1_ne (by omega), up1_ne (by omega), up1_at]⟩
theorem c_readTown (hq : q ≤ 120) (h4 : I 0 4 = nI q) (h16 : ∀ i, i < q → I 16 i = T i) (hT : ∀ i, i < q → ¬ T i < 0) (hok : ∀ d xs cs k I', townR T q = .inr ((d, xs, cs), k) → rdC T q I I' k (addC (addN (bgn (twn I 7) d) 0 xs) 0 cs) → Q (.returned none) (mX e I' G)) (hbad : ∀ p I', townR T q = .inl p → rdF I I' p → Q (.threw 15) (mX e I' G)) :
    Rn 14 0 [some (.ref 0)] [] (0, 0) (mX e I G) Q := by
  unfold townR at hok hbad
  refine g_X0_readTown_0 (c_takeFrom stp_7 stp_17 (Or.inr (by decide)) fun I1 t1 f1 => g_X0_readTown_16 (g_X6_begin_17_0 (g_X0_readTown_23 ?_)))
  have t7 : twn (up2 I 0 5 0) 7 = twn I 7 := twn_ne (by omega)
  rw [t7] at t1
  have r1 : rdC T q I I1 0 (twn I 7) := ⟨⟨h4, h16, hq, Nat.zero_le _⟩, by rw [f1 0 (by omega), up2_at]; rfl, fun j a b c => by rw [f1 j (by omega), up2_ne a], t1⟩
  have r2 := r1.tw (I' := up2 (up2 (up2 (up2 (up2 I1 17 7 0) 17 8 0) 17 10 (-4)) 17 11 0) 17 12 0) (t' := up1 (up1 (up1 (up1 (up1 (twn I 7) 0 0) 1 0) 5 (-4)) 4 0) 2 0) (((((fr.rf.up (by omega) (by omega)).up (by omega) (by omega)).up (by omega) (by omega)).up (by omega) (by omega)).up (by omega) (by omega)) (by rw [twn_f.2.2.1, twn_f.2.2.2.2.1, twn_f.2.2.2.2.2.1, twn_f.2.1, twn_f.1, t1])
  refine c_num r2 (fun d i1 I2 hd r3 => ?_) (fun p I' hd f' => ⟨rfl, 7, rfl, rfl, hbad p I' (bnd_l hd) f'⟩)
  rw [bnd_r hd] at hok hbad
  refine g_X0_readTown_36 ?_
  have r4 := r3.tw (I' := up2 I2 17 9 d) (t' := bgn (twn I 7) d) (fr.rf.up (by omega) (by omega)) (by rw [twn_f.2.2.2.1, r3.2.2.2, bgn_c])
  refine c_sgn (by decide) r4 (fun u i2 I3 hs r5 => g_X0_readTown_45 ?_) (fun p I' hs f' => ⟨rfl, 7, rfl, rfl, hbad p I' (bnd_l hs) f'⟩)
  rw [bnd_r hs] at hok hbad
  refine c_pers (n := 0) (by omega) bgn_at.1 r5 (fun x i3 I4 hp r6 => ?_) (fun p I' hp f' => ⟨rfl, 7, rfl, rfl, hbad p I' (bnd_l hp) f'⟩)
  rw [bnd_r hp] at hok hbad
  refine c_perLoop hT 5 1 i3 (by omega) newP_at.1 (newP_at.2.trans bgn_at.2) r6 (fun xs i' cs k I' hx hr r' => hok d (x :: xs) cs k I' ?_ r') (fun p I' hx f' => hbad p I' ?_ f') (fun xs i' p I' hx hr f' => hbad p I' ?_ f')
  · rw [bnd_r hx]
    rw [show 1 + xs.length = xs.length + 1 by omega] at hr
    rw [bnd_r hr]
  · rw [bnd_l hx]
  · rw [bnd_r hx]
    rw [show 1 + xs.length = xs.length + 1 by omega] at hr
    rw [bnd_l hr]
end S95
theorem CR.txt {σ : Sg} {e : En} {I I' : Nat → Nat → Int32} {G : Nat → Nat → Int64} {t' : Nat → Int32} {u' : Nat} (h : CR σ e I G) (ht : twn I' 7 = t') (h4 : I' 0 4 = 0) (h8 : (I' 0 8 = 0 ∧ u' = 0) ∨ (I' 0 8 = I 0 8 ∧ u' = σ.2.1.1)) (h15 : I' 0 15 = I 0 15) (h16 : I' 0 16 = I 0 16) (hk : ∀ k, (37 ≤ k ∧ k ≤ 178) ∨ 192 ≤ k → I' k = I k) : CR (t', (u', σ.2.1.2), (0, σ.2.2.1.2), σ.2.2.2) e I' G := by
  obtain ⟨⟨π, a⟩, b, c, ⟨d1, d2⟩, g⟩ := h
  refine ⟨⟨π, ?_⟩, ht, ⟨h4, fun i hi => absurd hi (Nat.not_lt_zero _)⟩, ⟨by rw [h16]; exact d1, fun hkp => ?_⟩, shC_con g (fun k hk2 => hk k (Or.inr hk2)) (fun _ _ => rfl)⟩
  · rcases h8 with ⟨h8, rfl⟩ | ⟨h8, rfl⟩
    · exact ⟨a.1, h8, Nat.zero_le _, fun k hk => absurd hk (Nat.not_lt_zero _)⟩
    · exact cUn_con a h8 (fun k ⟨q, a1, a2, a3⟩ => hk k (by omega))
  · obtain ⟨e1, e2, e3, e4⟩ := d2 hkp
    refine ⟨?_, by rw [h15]; exact e2, e3, fun k hk2 => ?_⟩
    · rw [twn_con fun o ho => hk _ (by omega)]; exact e1
    · rw [← e4 k hk2]
      have hk8 : k < 8 := Nat.lt_of_lt_of_le hk2 e3
      rw [twn_con fun o ho => hk _ (by omega)]
theorem addC_0 : ∀ (cs : List Cas) (t : Nat → Int32) (m : Nat), addC t m cs 0 = t 0
  | [], _, _ => rfl
  | x :: xs, t, m => (addC_0 xs _ _).trans newC_at.1
theorem addN_0 : ∀ (xs : List Prs) (t : Nat → Int32) (n : Nat), t 0 = nI n → addN t n xs 0 = nI (n + xs.length)
  | [], _, _, h => h
  | x :: xs, t, n, h => by
    rw [List.length_cons, show n + (xs.length + 1) = n + 1 + xs.length by omega]
    exact addN_0 xs _ _ newP_at.1
theorem c_town : oC 13 [some (.ref 0), none] townF := by
  intro e I G Q σ hC hO hQ
  obtain ⟨-, ⟨hq, hT⟩, -⟩ := id hO
  have h7 : twn I 7 = σ.1 := hC.2.1
  have h4 := hC.2.2.1.1
  have h16 := hC.2.2.1.2
  have hT' : ∀ i, i < σ.2.2.1.1 → ¬ σ.2.2.1.2 i < 0 := fun i hi => by
    obtain ⟨c, c1, c2, e1⟩ := hT i hi
    rw [e1]
    exact nI_pos (by omega)
  unfold townF at hQ
  refine g_X0_town_0 (c_readTown hq h4 h16 hT' (fun d xs cs k I1 hr r1 => ?_) (fun p I1 hr f1 => ?_))
  · rw [hr] at hQ
    dsimp only at hQ
    refine g_X0_town_4 (c_takeFrom stp_17 stp_7 (Or.inl (by decide)) fun I2 t2 f2 => g_X0_town_37 ?_)
    rw [twn_ne (by omega), r1.2.2.2, h7] at t2
    have hk : ∀ j, j ≠ 0 → j ≠ 15 → (j < 7 ∨ (14 < j ∧ j < 17) ∨ 24 < j) → I2 j = I j := fun j a b c => by rw [f2 j (by omega), up2_ne a]; exact r1.2.2.1 j a b (by omega)
    have h0 : I2 0 = up1 (up1 (I 0) 5 (nI k)) 4 0 := by rw [f2 0 (by omega), up2_at, r1.2.1]
    have e0 : I2 7 7 = nI xs.length := by
      rw [show I2 7 7 = twn I2 7 0 from rfl, t2, addC_0, addN_0 xs _ 0 bgn_at.1, Nat.zero_add]
    rw [e0]
    refine hQ e _ G (hC.txt ?_ ?_ (Or.inl ⟨up2_v, rfl⟩) ?_ ?_ (fun j hj => ?_)) ⟨rfl, fun j a b => ⟨?_, rfl⟩⟩
    · rw [twn_ne (by omega)]; exact t2
    · rw [up2_i (by omega), h0, up1_at]
    · rw [up2_i (by omega), h0, up1_ne (by omega), up1_ne (by omega)]
    · rw [up2_i (by omega), h0, up1_ne (by omega), up1_ne (by omega)]
    · rw [up2_ne (by omega)]; exact hk j (by omega) (by omega) (by omega)
    · rw [up2_ne (by omega)]; exact hk j (by omega) (by omega) (by omega)
  · rw [hr] at hQ
    dsimp only at hQ
    refine ⟨rfl, 7, rfl, ?_⟩
    show Rn 13 7 [some (.ref 0), none] [.ref 15] (0, 0) (mX e I1 G) Q
    refine Rn.go 9 ⟨rfl, rfl, _, rfl, (fun h => by cases h), ?_⟩
    show Q (.returned (some (.int (-20 - up2 I1 0 4 0 15 5)))) (mX e (up2 I1 0 4 0) G)
    rw [up2_ne (by omega), f1.2.2]
    obtain ⟨x, hx⟩ := f1.1
    refine hQ e _ G (hC.txt ?_ up2_v (Or.inr ⟨?_, rfl⟩) ?_ ?_ (fun j hj => ?_)) ⟨rfl, fun j a b => ⟨?_, rfl⟩⟩
    · rw [twn_ne (by omega), ← h7]
      exact twn_con fun o ho => f1.2.1 _ (by omega) (by omega) (by omega)
    · rw [up2_i (by omega), hx, up1_ne (by omega)]
    · rw [up2_i (by omega), hx, up1_ne (by omega)]
    · rw [up2_i (by omega), hx, up1_ne (by omega)]
    · rw [up2_ne (by omega)]; exact f1.2.1 j (by omega) (by omega) (by omega)
    · rw [up2_ne (by omega)]; exact f1.2.1 j (by omega) (by omega) (by omega)
