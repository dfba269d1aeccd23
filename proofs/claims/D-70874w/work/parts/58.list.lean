/-! list: the twin -/
theorem ord_f {n N k : Nat} (hn : n < 7) (hN : N < fac n) (hk : k < n) : (ordS n N k).1 < 64 ∧ 0 < (ordS n N k).2.1 / (n - k) ∧ (ordS n N k).2.1 < 1000 ∧ (ordS n N k).2.2 < 1000 ∧ (ordS n N k).2.2 / ((ordS n N k).2.1 / (n - k)) < 6 ∧ permF n N k < n ∧ ∀ t, t ≤ (ordS n N k).2.2 / ((ordS n N k).2.1 / (n - k)) → clrT (ordS n N k).1 t ≠ 0 := by
  have h := or_all n hn N hN k hk
  unfold orL at h
  generalize ho : ordS n N k = o at h
  obtain ⟨l, u, r⟩ := o
  simp only [Bool.and_eq_true, decide_eq_true_eq, List.all_eq_true, List.mem_range, Bool.or_eq_true] at h
  obtain ⟨⟨⟨⟨⟨⟨h1, h2⟩, h3⟩, h4⟩, h5⟩, h6⟩, h7⟩ := h
  refine ⟨h1, h2, h3, h4, h5, h6, fun t ht => ?_⟩
  rcases h7 t (by have : t ≤ r / (u / (n - k)) := ht; omega) with q | q
  · have : t ≤ r / (u / (n - k)) := ht; omega
  · exact q
theorem ord_s {n N k : Nat} : ordS n N (k + 1) = (rmv (ordS n N k).1 (permF n N k), (ordS n N k).2.1 / (n - k), (ordS n N k).2.2 % ((ordS n N k).2.1 / (n - k))) := by
  conv => lhs; unfold ordS
  unfold permF
  generalize ordS n N k = o
  obtain ⟨l, u, r⟩ := o
  rfl
theorem perm_s {n N k : Nat} : permF n N k = pck (ordS n N k).1 ((ordS n N k).2.2 / ((ordS n N k).2.1 / (n - k))) := by
  unfold permF
  generalize ordS n N k = o
  obtain ⟨l, u, r⟩ := o
  rfl
theorem clr_n : ∀ s, s < 64 → (nI s &&& (nI s - 1) = nI (clr s) ∧ clr s < 64) := by decide +kernel
theorem low_p : ∀ r, r < 64 → r ≠ 0 → (lowB r < 6 ∧ bit (nI r) (nI (lowB r)) ∧ ∀ c, c < 6 → c < lowB r → ¬ bit (nI r) (nI c)) := by decide +kernel
theorem rmv_n : ∀ l, l < 64 → ∀ c, c < 6 → nI l &&& ((1 <<< (nI c &&& 31)) ^^^ (-1)) = nI (rmv l c) := by decide +kernel
theorem two_n : ∀ n, n < 7 → (1 <<< (nI n &&& 31)) - 1 = nI (2 ^ n - 1) := by decide +kernel
theorem clrT_64 {l : Nat} (hl : l < 64) : ∀ t, clrT l t < 64
  | 0 => hl
  | t + 1 => (clr_n _ (clrT_64 hl t)).2
section S58
variable {e : En} {G : Nat → Nat → Int64} {Q : Po}
theorem m_pick {I : Nat → Nat → Int32} {l t : Nat} (hl : l < 64) (ht : t < 6) (hc : clrT l t ≠ 0) (hQ : Q (.returned (some (.int (nI (pck l t))))) (mX e I G)) : Rn 146 0 [some (.int (nI l)), some (.int (nI t)), none, none] [] (0, 0) (mX e I G) Q := by
  have h64 := clrT_64 hl t
  obtain ⟨p1, p2, p3⟩ := low_p _ h64 hc
  have lc : ∀ j c, c + j = lowB (clrT l t) → Rn 146 23 [none, none, some (.int (nI (clrT l t))), some (.int (nI c))] [] (0, 0) (mX e I G) Q := by
    intro j
    induction j with
    | zero =>
      intro c hcj
      have : c = lowB (clrT l t) := by omega
      subst this
      exact g_X9_pick_23 (fun h => absurd p2 ((and01 _).mp h)) (fun _ => hQ)
    | succ j ih =>
      intro c hcj
      refine g_X9_pick_23 (fun _ => ?_) (fun h => absurd ((and01 _).mpr (p3 c (by omega) (by omega))) h)
      rw [nI_1]
      exact ih (c + 1) (by omega)
  have lt : ∀ j k, k + j = t → Rn 146 4 [none, some (.int (nI t)), some (.int (nI (clrT l k))), some (.int (nI k))] [] (0, 0) (mX e I G) Q := by
    intro j
    induction j with
    | zero =>
      intro k hk
      have : k = t := by omega
      subst this
      exact g_X9_pick_4 (fun h => absurd h (nI_nlt (Nat.le_refl _) (by omega))) (fun _ => lc _ 0 (Nat.zero_add _))
    | succ j ih =>
      intro k hk
      refine g_X9_pick_4 (fun _ => ?_) (fun h => absurd (nI_lt (by omega) (by omega)) h)
      rw [(clr_n _ (clrT_64 hl k)).1, nI_1]
      exact ih (k + 1) (by omega)
  exact g_X9_pick_0 (lt t 0 (by omega))
theorem sub_n : ∀ n, n < 7 → ∀ k, k < n → nI n - nI k = nI (n - k) := by decide +kernel
theorem m_ordL {n N : Nat} (hn : n < 7) (hN : N < fac n) : ∀ j k {I : Nat → Nat → Int32}, k + j = n → (∀ c, c < k → I 186 c = nI (permF n N c)) → (∀ I', (∀ c, c < n → I' 186 c = nI (permF n N c)) → fr 186 186 I I' → Q (.returned none) (mX e I' G)) →
    Rn 145 23 [some (.ref 179), none, none, some (.int (nI n)), some (.int (nI (ordS n N k).1)), some (.int (nI (ordS n N k).2.1)), some (.int (nI (ordS n N k).2.2)), some (.int (nI k))] [] (0, 0) (mX e I G) Q := by
  intro j
  induction j with
  | zero =>
    intro k I hk ho hQ
    have : k = n := by omega
    subst this
    have no : ¬ nI k < nI k := nI_nlt (Nat.le_refl _) (by omega)
    exact g_X9_orders_23 (fun h => absurd h no) (fun h => absurd h no) (fun h => absurd h no) (fun _ => hQ I ho fr.rf)
  | succ j ih =>
    intro k I hk ho hQ
    have yes : nI k < nI n := nI_lt (by omega) (by omega)
    obtain ⟨o1, o2, o3, o4, o5, o6, o7⟩ := ord_f hn hN (show k < n by omega)
    have hu : nI (ordS n N k).2.1 / (nI n - nI k) = nI ((ordS n N k).2.1 / (n - k)) := by
      rw [sub_n n hn k (by omega), pk_div (by omega) (by omega) (by omega)]
    have hub : (ordS n N k).2.1 / (n - k) < 1000 := Nat.lt_of_le_of_lt (Nat.div_le_self _ _) o3
    refine g_X9_orders_23 (fun _ => ?_) (fun _ => ?_) (fun _ => ?_) (fun h => absurd yes h)
    · rw [sub_n n hn k (by omega)]; exact nI_ne0 (by omega) (by omega)
    · rw [hu]; exact nI_ne0 o2 (by omega)
    · rw [hu, pk_div (by omega) o2 (by omega)]
      refine m_pick o1 o5 (o7 _ (Nat.le_refl _)) ?_
      rw [← perm_s]
      refine g_X9_orders_54 (vp_in_nI (by omega) (by omega)) (nI_ne0 o2 (by omega)) (vp_in_nI (by omega) (by omega)) ?_
      rw [nI_clamp (by omega), up2_v, rmv_n _ o1 _ (by omega), pk_rem (by omega) o2 (by omega), nI_1]
      have := ih (k + 1) (I := up2 I 186 k (nI (permF n N k))) (by omega) ?_ fun I' h' f' => hQ I' h' ((fr.rf.up (by omega) (by omega)).tr f')
      · rw [ord_s] at this; exact this
      · intro c hc
        by_cases hck : c = k
        · subst hck; rw [up2_v]
        · rw [up2_i hck]; exact ho c (by omega)
theorem m_orders {I : Nat → Nat → Int32} {n N : Nat} (hn : n < 7) (hN : N < fac n) (h1 : I 180 1 = nI n) (hQ : ∀ I', (∀ c, c < n → I' 186 c = nI (permF n N c)) → fr 186 186 I I' → Q (.returned none) (mX e I' G)) : Rn 145 0 [some (.ref 179), some (.int (nI N)), some (.int (nI (fac n))), none, none, none, none, none] [] (0, 0) (mX e I G) Q := by
  refine g_X9_orders_0 ?_
  rw [h1, two_n n hn]
  exact m_ordL hn hN n 0 (by omega) (fun c hc => by omega) hQ
theorem m_lisDay {n m d N : Nat} {t : Nat → Int32} {a1 x3 x4 x5 x6 : Int32} (ok : Ok t n m d) (hd : d ≤ 9999) (hN : N < fac m) : ∀ j c {I : Nat → Nat → Int32}, c + j = m → nw I = goL t (permF m N) c → (∀ k, k < m → I 186 k = nI (permF m N k)) →
    (∀ I', nw I' = goL t (permF m N) m → fr 180 180 I I' → Rn 144 72 [some (.ref 179), some (.int a1), some (.int (nI m)), some (.int x3), some (.int x4), some (.int x5), some (.int x6), some (.int (nI m)), none] [] (0, 0) (mX e I' G) Q) →
    Rn 144 72 [some (.ref 179), some (.int a1), some (.int (nI m)), some (.int x3), some (.int x4), some (.int x5), some (.int x6), some (.int (nI c)), none] [] (0, 0) (mX e I G) Q := by
  have hm := ok.m6
  intro j
  induction j with
  | zero =>
    intro c I hc ht ho hK
    have : c = m := by omega
    subst this
    exact hK I ht fr.rf
  | succ j ih =>
    intro c I hc ht ho hK
    have yes : nI c < nI m := nI_lt (by omega) (by omega)
    refine g_X9_list_72 (fun _ => vp_in_nI (by omega) (by omega)) (fun _ => ?_) (fun h => absurd yes h) (fun h => absurd yes h) (fun h => absurd yes h)
    rw [nI_clamp (by omega), ho c (by omega)]
    have okc : Ok (nw I) n m (d + c) := by rw [ht]; exact ok_goL ok hd c (by omega)
    refine m_goesBy okc (Or.inr ⟨_, perm_lt (by omega) hN (by omega), rfl⟩) fun I1 t1 f1 => g_X9_list_89 ?_
    rw [nI_1]
    refine ih (c + 1) (by omega) (by rw [t1, ht]; rfl) (fun k hk => by rw [f1 186 (by omega)]; exact ho k hk) fun I2 t2 f2 => hK I2 t2 (f1.tr f2)
/-- as the twin has it: the number, the years -/
def lsb (b : Option (Nat × Int32)) : Int32 := match b with | none => 0 | some (k, _) => nI k
def lsl (b : Option (Nat × Int32)) : Int32 := match b with | none => -1 | some (_, l) => l
theorem m_lisLoop {n m d : Nat} {t : Nat → Int32} {a1 : Int32} (ok : Ok t n m d) (hd : d ≤ 9999) (h0 : 0 < m) : ∀ j N {I : Nat → Nat → Int32}, N + j = fac m → nw I = t → cut (I 185) = t →
    (∀ I', nw I' = t → frM I I' → Q (.returned (some (.int (lisR t m a1)))) (mX e I' G)) →
    Rn 144 56 [some (.ref 179), some (.int a1), some (.int (nI m)), some (.int (nI (fac m))), some (.int (lsb (lisS t m N))), some (.int (lsl (lisS t m N))), some (.int (nI N)), none, none] [] (0, 0) (mX e I G) Q := by
  have hm := ok.m6
  have hfc := fac_7 m (by omega)
  intro j
  induction j with
  | zero =>
    intro N I hN ht h5 hQ
    have : N = fac m := by omega
    subst this
    have no : ¬ nI (fac m) < nI (fac m) := nI_nlt (Nat.le_refl _) (by omega)
    cases hl : lisS t m (fac m) with
    | none => have := lisS_none hl; omega
    | some bl =>
      obtain ⟨b, l⟩ := bl
      have hbf := (lisS_p hl).1
      unfold lisR at hQ
      rw [hl] at hQ
      dsimp only at hQ
      refine g_X9_list_56 (fun h => absurd h no) (fun _ h => ?_) (fun _ h => ?_)
      · rw [if_pos h] at hQ; exact hQ I ht frM.rf
      · rw [if_neg h] at hQ
        refine m_orders (by omega) hbf (by rw [show I 180 1 = nw I 1 from rfl, ht]; exact ok.hm) fun I1 o1 f1 => ?_
        have hq := hQ I1 (by rw [show nw I1 = nw I from congrArg cut (f1 180 (by omega))]; exact ht) f1.mo
        refine g_X9_list_182 (fun h2 => ?_) (fun h2 => ?_) (fun h2 => ?_)
        · obtain ⟨k, hk, rfl⟩ := nI_of h
          have := (nI_ltI hk (by omega)).mp h2
          exact vp_in_nI (by omega) (by omega)
        · obtain ⟨k, hk, rfl⟩ := nI_of h
          have hkm := (nI_ltI hk (by omega)).mp h2
          rw [if_pos h2, nI_clamp hk] at hq
          rw [nI_clamp hk, o1 k hkm]; exact hq
        · rw [if_neg h2] at hq; exact hq
  | succ j ih =>
    intro N I hN ht h5 hQ
    have yes : nI N < nI (fac m) := nI_lt (by omega) (by omega)
    refine g_X9_list_56 (fun _ => ?_) (fun h => absurd yes h) (fun h => absurd yes h)
    refine m_orders (by omega) (by omega) (by rw [show I 180 1 = nw I 1 from rfl, ht]; exact ok.hm) fun I1 o1 f1 => g_X9_list_69 ?_
    have e1 : nw I1 = t := by rw [show nw I1 = nw I from congrArg cut (f1 180 (by omega))]; exact ht
    refine m_lisDay ok hd (by omega) m 0 (by omega) e1 o1 fun I2 t2 f2 => ?_
    have e5 : cut (I2 185) = t := by rw [f2 185 (by omega), f1 185 (by omega)]; exact h5
    have hv : I2 180 4 - I2 185 4 = vL t m N := by
      unfold vL
      rw [← t2, show I2 185 4 = cut (I2 185) 4 from rfl, e5]
      rfl
    have nx : ∀ I3, nw I3 = cut (I2 185) → fr 180 180 I2 I3 → Rn 144 56 [some (.ref 179), some (.int a1), some (.int (nI m)), some (.int (nI (fac m))), some (.int (lsb (lisS t m (N + 1)))), some (.int (lsl (lisS t m (N + 1)))), some (.int (nI N + 1)), none, none] [] (0, 0) (mX e I3 G) Q := by
      intro I3 t3 f3
      rw [nI_1]
      exact ih (N + 1) (by omega) (t3.trans e5) (by rw [f3 185 (by omega)]; exact e5) fun I' t' f' => hQ I' t' (((f1.mo.tr f2.m).tr f3.m).tr f')
    have no : ¬ nI m < nI m := nI_nlt (Nat.le_refl _) (by omega)
    have bet : lisS t m (N + 1) = some (N, vL t m N) → Rn 136 0 [some (.ref 179), none] [] (0, 0) (mX e I2 G) (fun o X' => conF Rn 144 159 136 [some (.ref 179), some (.int a1), some (.int (nI m)), some (.int (nI (fac m))), some (.int (nI N)), some (.int (I2 180 4 - I2 185 4)), some (.int (nI N)), none, none] [] (0, 0) X' Q o) := by
      intro e6
      rw [hv]
      refine m_backs fun I3 t3 f3 => g_X9_list_162 ?_
      have := nx I3 t3 f3
      rw [e6] at this
      exact this
    cases hl : lisS t m N with
    | none =>
      have e6 : lisS t m (N + 1) = some (N, vL t m N) := by unfold lisS; rw [hl]
      exact g_X9_list_72 (fun h => absurd h no) (fun h => absurd h no) (fun _ _ => bet e6) (fun _ h => absurd (by decide) h) (fun _ h => absurd (by decide) h)
    | some bl =>
      obtain ⟨b, l⟩ := bl
      obtain ⟨hb, hlv⟩ := lisS_p hl
      obtain ⟨s, hs, hvs⟩ := vL_n ok hd (show b < fac m by omega)
      have hpos : ¬ l < 0 := by rw [hlv, hvs]; exact nI_pos (by omega)
      refine g_X9_list_72 (fun h => absurd h no) (fun h => absurd h no) (fun _ h => absurd h hpos) (fun _ _ h => ?_) (fun _ _ h => ?_)
      · rw [hv] at h
        refine bet ?_
        unfold lisS; rw [hl]; dsimp only; rw [if_pos (show vL t m N < l from h)]
      · rw [hv] at h
        have e6 : lisS t m (N + 1) = some (b, l) := by unfold lisS; rw [hl]; dsimp only; rw [if_neg (show ¬ vL t m N < l from h)]
        refine m_backs fun I3 t3 f3 => g_X9_list_162 ?_
        have := nx I3 t3 f3
        rw [e6] at this
        exact this
theorem m_facL {I : Nat → Nat → Int32} {m : Nat} {a1 : Int32} (hm : m ≤ 6) (hK : Rn 133 0 [some (.ref 179), none] [] (0, 0) (mX e I G) (fun o X' => conF Rn 144 50 133 [some (.ref 179), some (.int a1), some (.int (nI m)), some (.int (nI (fac m))), some (.int 0), some (.int (-1)), none, none, none] [] (0, 0) X' Q o)) :
    ∀ j c, c + j = m → 0 < c → Rn 144 26 [some (.ref 179), some (.int a1), some (.int (nI m)), some (.int (nI (fac c))), some (.int (nI (c + 1))), none, none, none, none] [] (0, 0) (mX e I G) Q := by
  intro j
  induction j with
  | zero =>
    intro c hc h0
    have : c = m := by omega
    subst this
    exact g_X9_list_26 (fun _ => hK) (fun h => absurd (nI_lt (Nat.lt_succ_self _) (by omega)) h)
  | succ j ih =>
    intro c hc h0
    refine g_X9_list_26 (fun h => absurd h (nI_nlt (by omega) (by omega))) (fun _ => ?_)
    rw [nI_mul, nI_1, Nat.mul_comm]
    exact ih (c + 1) (by omega) (by omega)
theorem m_list (a1 : Int32) : qM 144 [some (.ref 179), some (.int a1), none, none, none, none, none, none, none] (fun _ => ¬ a1 < -1) (fun t => if t 1 = 0 then -4 else lisR t (t 1).toNatClampNeg a1) := by
  intro e I G Q n m d ok hd hb hQ
  dsimp only at hb hQ
  have hm := ok.m6
  have hmm : I 180 1 = nI m := ok.hm
  refine g_X9_list_0 (fun h => hb (fun q => q h)) (fun h1 h2 => ?_) (fun h1 h2 => ?_)
  · have hq := hQ h1 I rfl frM.rf
    rw [if_pos (show nw I 1 = 0 from h2)] at hq
    exact hq
  · have hQ := hQ h1
    rw [if_neg (show ¬ nw I 1 = 0 from h2), ok.hm, nI_clamp (by omega)] at hQ
    rw [hmm]
    have h0 : 0 < m := by
      rcases Nat.eq_zero_or_pos m with q | q
      · exact absurd (by rw [hmm, q]; rfl) h2
      · exact q
    refine m_facL hm ?_ (m - 1) 1 (by omega) (by omega)
    refine m_asides fun I1 t1 f1 => g_X9_list_53 ?_
    have e1 : nw I1 = nw I := congrArg cut (f1 180 (by omega))
    exact m_lisLoop ok hd h0 (fac m) 0 (by omega) e1 t1 fun I' t' f' => hQ I' t' (f1.ma.tr f')
end S58
