/-! list: the component -/
theorem rowL_at {n N k : Nat} (hk : k < n) : (rowL n N).getD k 0 = permF n N k := by
  unfold rowL
  rw [List.getD_eq_getElem?_getD, List.getElem?_map, List.getElem?_range hk]
  rfl
theorem nxt_none {n N : Nat} (hn : n < 7) (h0 : 0 < n) (hN : N < fac n) (h : nxt (fun k => (rowL n N).getD k 0) n = none) : N + 1 = fac n := by
  have := nx_all n hn h0 N hN
  unfold nxL at this
  rw [h] at this
  exact of_decide_eq_true this
theorem nxt_some {n N : Nat} {g : Nat → Nat} (hn : n < 7) (h0 : 0 < n) (hN : N < fac n) (h : nxt (fun k => (rowL n N).getD k 0) n = some g) : N + 1 < fac n ∧ ∀ c, c < n → g c = permF n (N + 1) c := by
  have := nx_all n hn h0 N hN
  unfold nxL at this
  rw [h] at this
  simp only [Bool.and_eq_true, decide_eq_true_eq] at this
  refine ⟨this.1, fun c hc => ?_⟩
  have h2 : (List.range n).map g = rowL n (N + 1) := eq_of_beq this.2
  have h3 := congrArg (fun l => l[c]?) h2
  unfold rowL at h3
  simp only [List.getElem?_map, List.getElem?_range hc, Option.map_some] at h3
  exact Option.some.inj h3
theorem perm_lt {n N k : Nat} (hn : n < 7) (hN : N < fac n) (hk : k < n) : permF n N k < n := by
  have h := or_all n hn N hN k hk
  unfold orL at h
  generalize ho : ordS n N k = o at h
  obtain ⟨l, u, r⟩ := o
  simp only [Bool.and_eq_true, decide_eq_true_eq] at h
  exact h.1.2
theorem findA_p {f : Nat → Nat} : ∀ {a i : Nat}, findA f a = i + 1 → i < a ∧ ¬ f (i + 1) < f i
  | 0, _, h => by cases h
  | a + 1, i, h => by
    unfold findA at h
    split at h
    · obtain ⟨h1, h2⟩ := findA_p h; exact ⟨by omega, h2⟩
    · rename_i hc
      have : i = a := by omega
      subst this
      exact ⟨by omega, hc⟩
theorem findJ_p {f : Nat → Nat} {i : Nat} (hi : ¬ f (i + 1) < f i) : ∀ {j : Nat}, i < j → i < findJ f i j ∧ findJ f i j ≤ j
  | 0, h => by omega
  | j + 1, h => by
    unfold findJ
    split
    · rename_i hc
      have hij : i ≠ j := fun q => by subst q; exact hi hc
      have := findJ_p hi (j := j) (by omega)
      omega
    · omega
section S57
variable {e : En} {G : Nat → Nat → Int64} {Q : Po}
theorem c_change {I : Nat → Nat → Int32} {i j : Nat} (hi : i < 6) (hj : j < 6) (hQ : Q (.returned none) (mX e (up2 (up2 I 34 i (I 34 j)) 34 j (I 34 i)) G)) : Rn 52 0 [some (.ref 0), some (.int (nI i)), some (.int (nI j)), none] [] (0, 0) (mX e I G) Q := by
  refine g_X0_change_0 (vp_in_nI hi (by omega)) (vp_in_nI hj (by omega)) ?_
  rw [nI_clamp (by omega), nI_clamp (by omega)]
  exact hQ
theorem swp_mem {I : Nat → Nat → Int32} {f : Nat → Nat} {n i j : Nat} (hf : ∀ k, k < n → I 34 k = nI (f k)) (hi : i < n) (hj : j < n) : ∀ k, k < n → up2 (up2 I 34 i (I 34 j)) 34 j (I 34 i) 34 k = nI (swp f i j k) := by
  intro k hk
  unfold swp
  by_cases h1 : k = j
  · subst h1; rw [up2_v, if_pos rfl]; exact hf i hi
  · rw [up2_i h1, if_neg h1]
    by_cases h2 : k = i
    · subst h2; rw [up2_v, if_pos rfl]; exact hf j hj
    · rw [up2_i h2, if_neg h2]; exact hf k hk
theorem c_rev {n : Nat} (hn : n ≤ 6) : ∀ fu a b {I : Nat → Nat → Int32} (f : Nat → Nat), b < n → a ≤ b + 1 → b < a + 2 * fu → (∀ k, k < n → I 34 k = nI (f k)) →
    (∀ I', (∀ k, k < n → I' 34 k = nI (revF fu f a b k)) → fr 34 34 I I' → Q (.returned (some (.int 1))) (mX e I' G)) →
    Rn 51 78 [some (.ref 0), none, none, none, some (.int (nI a)), some (.int (nI b))] [] (0, 0) (mX e I G) Q := by
  intro fu
  induction fu with
  | zero =>
    intro a b I f hb hab hfu hf hQ
    refine g_X0_isNext_78 (fun h => absurd h (nI_nlt (by omega) (by omega))) (fun _ => hQ I hf fr.rf)
  | succ fu ih =>
    intro a b I f hb hab hfu hf hQ
    refine g_X0_isNext_78 (fun h => ?_) (fun h => ?_)
    · have hlt := (nI_ltI (by omega) (by omega)).mp h
      refine c_change (by omega) (by omega) (g_X0_isNext_93 ?_)
      obtain ⟨b', rfl⟩ : ∃ b', b = b' + 1 := ⟨b - 1, by omega⟩
      rw [nI_1, m1_n b' (by omega)]
      refine ih (a + 1) b' (swp f a (b' + 1)) (by omega) (by omega) (by omega) (swp_mem hf (by omega) hb) fun I' h' f' => hQ I' ?_ (((fr.rf.up (by omega) (by omega)).up (by omega) (by omega)).tr f')
      rw [revF, if_pos hlt]
      exact h'
    · have hge : ¬ a < b := fun q => h (nI_lt q (by omega))
      refine hQ I ?_ fr.rf
      rw [revF, if_neg hge]
      exact hf
theorem n1_n : ∀ n, n ≤ 6 → 0 < n → (nI n - 1 = nI (n - 1) ∧ nI n - 2 = nI (n - 1) + (-1)) := by decide +kernel
theorem c_isNext {I : Nat → Nat → Int32} {n : Nat} {f : Nat → Nat} (hn : n ≤ 6) (h0 : 0 < n) (hf : ∀ k, k < n → I 34 k = nI (f k)) (hb : ∀ k, k < n → f k < 6)
    (hQ0 : nxt f n = none → Q (.returned (some (.int 0))) (mX e I G)) (hQ1 : ∀ g, nxt f n = some g → ∀ I', (∀ k, k < n → I' 34 k = nI (g k)) → fr 34 34 I I' → Q (.returned (some (.int 1))) (mX e I' G)) :
    Rn 51 0 [some (.ref 0), some (.int (nI n)), none, none, none, none] [] (0, 0) (mX e I G) Q := by
  obtain ⟨e1, e2⟩ := n1_n n hn h0
  refine g_X0_isNext_0 ?_
  rw [e2]
  have la : ∀ a, a ≤ n - 1 → findA f (n - 1) = findA f a → Rn 51 4 [some (.ref 0), some (.int (nI n)), some (.int (nI a + (-1))), none, none, none] [] (0, 0) (mX e I G) Q := by
    intro a
    induction a with
    | zero =>
      intro _ ha
      have hx : nI 0 + (-1) < 0 := by decide
      refine g_X0_isNext_4 (fun _ _ => hQ0 ?_) (fun h h2 => absurd h h2) (fun h => absurd hx h) (fun h => absurd hx h) (fun h => absurd hx h) (fun h => absurd hx h) (fun h => absurd hx h)
      unfold nxt
      rw [ha]
      rfl
    | succ a ih =>
      intro ha1 ha
      rw [m1_n a (by omega)]
      have hpos : ¬ nI a < 0 := nI_pos (by omega)
      refine g_X0_isNext_4 (fun h => absurd h hpos) (fun h => absurd h hpos) (fun _ => vp_in_nI (by omega) (by omega)) (fun _ => ?_) (fun _ h => ?_) (fun _ _ h => absurd h hpos) (fun _ h _ => ?_)
      · rw [nI_1]; exact vp_in_nI (by omega) (by omega)
      · rw [nI_1, nI_clamp (by omega), nI_clamp (by omega), hf a (by omega), hf (a + 1) (by omega)] at h
        have hlt := (nI_ltI (by have := hb (a + 1) (by omega); omega) (by have := hb a (by omega); omega)).mp h
        refine ih (by omega) ?_
        rw [ha, findA, if_pos hlt]
      · rw [nI_1, nI_clamp (by omega), nI_clamp (by omega), hf a (by omega), hf (a + 1) (by omega)] at h
        have hlt : ¬ f (a + 1) < f a := fun q => h (nI_lt q (by have := hb a (by omega); omega))
        rw [findA, if_neg hlt] at ha
        rw [e1]
        have hx : nxt f n = some (revF 3 (swp f a (findJ f a (n - 1))) (a + 1) (n - 1)) := by unfold nxt; rw [ha]
        have hQ1 := hQ1 _ hx
        have lj : ∀ j, a < j → j ≤ n - 1 → findJ f a (n - 1) = findJ f a j → Rn 51 41 [some (.ref 0), some (.int (nI n)), some (.int (nI a)), some (.int (nI j)), none, none] [] (0, 0) (mX e I G) Q := by
          intro j
          induction j with
          | zero => intro h; omega
          | succ j ihj =>
            intro haj hjn hJ
            refine g_X0_isNext_41 (vp_in_nI (by omega) (by omega)) (vp_in_nI (by omega) (by omega)) (fun h => ?_) (fun h => ?_)
            · rw [nI_clamp (by omega), nI_clamp (by omega), hf a (by omega), hf (j + 1) (by omega)] at h
              have hl2 := (nI_ltI (by have := hb (j + 1) (by omega); omega) (by have := hb a (by omega); omega)).mp h
              have hne : a ≠ j := fun q => by subst q; exact hlt hl2
              rw [m1_n j (by omega)]
              refine ihj (by omega) (by omega) ?_
              rw [hJ, findJ, if_pos hl2]
            · rw [nI_clamp (by omega), nI_clamp (by omega), hf a (by omega), hf (j + 1) (by omega)] at h
              have hl2 : ¬ f (j + 1) < f a := fun q => h (nI_lt q (by have := hb a (by omega); omega))
              rw [findJ, if_neg hl2] at hJ
              rw [hJ] at hQ1
              refine c_change (by omega) (by omega) (g_X0_isNext_68 ?_)
              rw [nI_1, e1]
              exact c_rev hn 3 (a + 1) (n - 1) (swp f a (j + 1)) (by omega) (by omega) (by omega) (swp_mem hf (by omega) (by omega)) fun I' h' f' => hQ1 I' h' (((fr.rf.up (by omega) (by omega)).up (by omega) (by omega)).tr f')
        exact lj (n - 1) (by omega) (Nat.le_refl _) rfl
  exact la (n - 1) (Nat.le_refl _) rfl
/-- days, the cases in an order -/
def goL (t : Nat → Int32) (f : Nat → Nat) : Nat → Nat → Int32
  | 0 => t
  | c + 1 => goes (goL t f c) (nI (f c))
def vL (t : Nat → Int32) (n N : Nat) : Int32 := goL t (permF n N) n 4 - t 4
/-- the best so far -/
def lisS (t : Nat → Int32) (n : Nat) : Nat → Option (Nat × Int32)
  | 0 => none
  | k + 1 => match lisS t n k with
    | none => some (k, vL t n k)
    | some (b, l) => if vL t n k < l then some (k, vL t n k) else some (b, l)
def lisR (t : Nat → Int32) (n : Nat) (a1 : Int32) : Int32 := match lisS t n (fac n) with
  | none => -4
  | some (b, l) => if a1 < 0 then l else if a1 < nI n then nI (permF n b a1.toNatClampNeg) else -4
theorem ok_goL {t : Nat → Int32} {n m d : Nat} {f : Nat → Nat} (ok : Ok t n m d) (hd : d ≤ 9999) : ∀ c, c ≤ 6 → Ok (goL t f c) n m (d + c)
  | 0, _ => ok
  | c + 1, h => by
    have := ok_goL (f := f) ok hd c (by omega)
    exact ok_goes (d := d + c) this (by omega)
theorem goL_con {t : Nat → Int32} {f g : Nat → Nat} : ∀ {c : Nat}, (∀ k, k < c → f k = g k) → goL t f c = goL t g c
  | 0, _ => rfl
  | c + 1, h => by
    unfold goL
    rw [goL_con (c := c) (fun k hk => h k (by omega)), h c (by omega)]
theorem goL_4 {t : Nat → Int32} {n m d : Nat} {f : Nat → Nat} (ok : Ok t n m d) (hd : d ≤ 9999) (hf : ∀ k, k < m → f k < m) : ∀ c, c ≤ m → ∃ s, s ≤ 40 * c ∧ goL t f c 4 = t 4 + nI s
  | 0, _ => ⟨0, by omega, (Int32.add_zero _).symm⟩
  | c + 1, h => by
    obtain ⟨s, hs, e1⟩ := goL_4 ok hd hf c (by omega)
    have hm := ok.m6
    have okc := ok_goL (f := f) ok hd c (by omega)
    obtain ⟨k, hk, e2⟩ := yrsO_ran (h := 0) okc (c := nI (f c)) (Or.inr ⟨f c, hf c (by omega), rfl⟩)
    refine ⟨s + k, by omega, ?_⟩
    show goes (goL t f c) (nI (f c)) 4 = _
    unfold goes
    rw [up1_ne (by omega), up1_at, e2, e1, Int32.add_assoc, nI_add]
theorem vL_n {t : Nat → Int32} {n m d N : Nat} (ok : Ok t n m d) (hd : d ≤ 9999) (hN : N < fac m) : ∃ s, s ≤ 240 ∧ vL t m N = nI s := by
  have hm := ok.m6
  obtain ⟨s, hs, e1⟩ := goL_4 (f := permF m N) ok hd (fun k hk => perm_lt (by omega) hN hk) m (Nat.le_refl _)
  refine ⟨s, by omega, ?_⟩
  unfold vL
  rw [e1, Int32.add_comm, Int32.add_sub_cancel]
/-- of the best so far: number and years -/
theorem lisS_p {t : Nat → Int32} {n : Nat} : ∀ {k b : Nat} {l : Int32}, lisS t n k = some (b, l) → b < k ∧ l = vL t n b
  | 0, _, _, h => by cases h
  | k + 1, b, l, h => by
    unfold lisS at h
    split at h
    · cases h; exact ⟨by omega, rfl⟩
    · rename_i b2 l2 h2
      have := lisS_p h2
      split at h
      · cases h; exact ⟨by omega, rfl⟩
      · cases h; exact ⟨by omega, this.2⟩
theorem lisS_none {t : Nat → Int32} {n : Nat} : ∀ {k : Nat}, lisS t n k = none → k = 0
  | 0, _ => rfl
  | k + 1, h => by
    unfold lisS at h
    split at h
    · cases h
    · split at h <;> cases h
theorem c_lisDay {n m d N : Nat} {t : Nat → Int32} {a1 x3 : Int32} (ok : Ok t n m d) (hd : d ≤ 9999) (hN : N < fac m) : ∀ j c {I : Nat → Nat → Int32}, c + j = m → twn I 7 = goL t (permF m N) c → (∀ k, k < m → I 34 k = nI (permF m N k)) →
    (∀ I', twn I' 7 = goL t (permF m N) m → fr 7 14 I I' → Rn 84 0 [some (.ref 7), some (.ref 26)] [] (0, 0) (mX e I' G) (fun o X' => conF Rn 50 116 84 [some (.ref 0), some (.int a1), some (.int (nI m)), some (.int x3), none, some (.int (I' 7 11 - I' 26 11))] [] (0, 0) X' Q o)) →
    Rn 50 68 [some (.ref 0), some (.int a1), some (.int (nI m)), some (.int x3), none, some (.int (nI c))] [] (0, 0) (mX e I G) Q := by
  have hm := ok.m6
  intro j
  induction j with
  | zero =>
    intro c I hc ht ho hK
    have : c = m := by omega
    subst this
    have no : ¬ nI c < nI c := nI_nlt (Nat.le_refl _) (by omega)
    exact g_X0_list_68 (fun h => absurd h no) (fun h => absurd h no) (fun _ => hK I ht fr.rf)
  | succ j ih =>
    intro c I hc ht ho hK
    have yes : nI c < nI m := nI_lt (by omega) (by omega)
    refine g_X0_list_68 (fun _ => vp_in_nI (by omega) (by omega)) (fun _ => ?_) (fun h => absurd yes h)
    rw [nI_clamp (by omega), ho c (by omega)]
    have okc : Ok (twn I 7) n m (d + c) := by rw [ht]; exact ok_goL ok hd c (by omega)
    refine c_oneDay okc (Or.inr ⟨_, perm_lt (by omega) hN (by omega), rfl⟩) fun I1 t1 f1 => g_X0_list_85 ?_
    rw [nI_1]
    refine ih (c + 1) (by omega) (by rw [t1, ht]; rfl) (fun k hk => by rw [f1 34 (by omega)]; exact ho k hk) fun I2 t2 f2 => hK I2 t2 (f1.tr f2)
/-- the years as told: none, the most -/
def lst (b : Option (Nat × Int32)) : Int32 := match b with | none => 2147483647 | some (_, l) => l
theorem c_lisLoop {n m d : Nat} {t : Nat → Int32} {a1 : Int32} (ok : Ok t n m d) (hd : d ≤ 9999) (h0 : 0 < m) (ha : ¬ a1 < -1) : ∀ j N {I : Nat → Nat → Int32}, N + (j + 1) = fac m → twn I 7 = t → twn I 26 = t → (∀ k, k < m → I 34 k = nI (permF m N k)) → (∀ b l, lisS t m N = some (b, l) → ∀ k, k < m → I 35 k = nI (permF m b k)) →
    (∀ I', twn I' 7 = t → frC I I' → Q (.returned (some (.int (lisR t m a1)))) (mX e I' G)) →
    Rn 50 60 [some (.ref 0), some (.int a1), some (.int (nI m)), some (.int (lst (lisS t m N))), some (.int 1), none] [] (0, 0) (mX e I G) Q := by
  have hm := ok.m6
  have hfc := fac_7 m (by omega)
  intro j
  -- one more, whatever comes
  have one : ∀ N {I : Nat → Nat → Int32}, N < fac m → twn I 7 = t → twn I 26 = t → (∀ k, k < m → I 34 k = nI (permF m N k)) → (∀ b l, lisS t m N = some (b, l) → ∀ k, k < m → I 35 k = nI (permF m b k)) →
      (∀ I', twn I' 7 = t → twn I' 26 = t → (∀ b l, lisS t m (N + 1) = some (b, l) → ∀ k, k < m → I' 35 k = nI (permF m b k)) → frC I I' → (N + 1 = fac m → Rn 50 60 [some (.ref 0), some (.int a1), some (.int (nI m)), some (.int (lst (lisS t m (N + 1)))), some (.int 0), none] [] (0, 0) (mX e I' G) Q) ∧ (N + 1 < fac m → (∀ k, k < m → I' 34 k = nI (permF m (N + 1) k)) → Rn 50 60 [some (.ref 0), some (.int a1), some (.int (nI m)), some (.int (lst (lisS t m (N + 1)))), some (.int 1), none] [] (0, 0) (mX e I' G) Q)) →
      Rn 50 60 [some (.ref 0), some (.int a1), some (.int (nI m)), some (.int (lst (lisS t m N))), some (.int 1), none] [] (0, 0) (mX e I G) Q := by
    intro N I hN ht h26 ho hb hK
    refine g_X0_list_60 (fun h => absurd h (by decide)) (fun h => absurd h (by decide)) (fun h => absurd h (by decide)) (fun h => absurd h (by decide)) (fun _ => ?_)
    refine c_lisDay ok hd hN m 0 (by omega) ht ho fun I1 t1 f1 => ?_
    have e26 : twn I1 26 = t := by rw [f1.twn (by omega)]; exact h26
    have hv : I1 7 11 - I1 26 11 = vL t m N := by
      unfold vL
      rw [← t1, show I1 26 11 = twn I1 26 4 from rfl, e26]
      rfl
    rw [hv]
    refine c_takeFrom stp_26 stp_7 (Or.inl (by decide)) fun I2 t2 f2 => ?_
    have g7 : twn I2 7 = t := t2.trans e26
    have g26 : twn I2 26 = t := by rw [f2.twn (by omega)]; exact e26
    have g34 : ∀ k, k < m → I2 34 k = nI ((rowL m N).getD k 0) := fun k hk => by rw [rowL_at hk, f2 34 (by omega), f1 34 (by omega)]; exact ho k hk
    have hbd : ∀ k, k < m → (rowL m N).getD k 0 < 6 := fun k hk => by rw [rowL_at hk]; have := perm_lt (show m < 7 by omega) hN hk; omega
    obtain ⟨s, hs, hvs⟩ := vL_n ok hd hN
    refine g_X0_list_119 (fun h => ?_) (fun h => ?_)
    · -- better
      have e1 : lisS t m (N + 1) = some (N, vL t m N) := by
        unfold lisS
        split
        · rfl
        · rename_i b l hl
          rw [hl] at h
          rw [if_pos (show vL t m N < l from h)]
      have hlst : vL t m N = lst (lisS t m (N + 1)) := by rw [e1]; rfl
      have f3 : frC I (va_up I2 35 (va_cpy (I2 34) (I2 35) 0 0 6)) := fun q hq => by rw [va_up_ne _ _ (by omega)]; exact (f1.c7.tr f2.c7) q hq
      have w7 : twn (va_up I2 35 (va_cpy (I2 34) (I2 35) 0 0 6)) 7 = t := by rw [← g7]; exact twn_con fun o ho => va_up_ne _ _ (by omega)
      have w26 : twn (va_up I2 35 (va_cpy (I2 34) (I2 35) 0 0 6)) 26 = t := by rw [← g26]; exact twn_con fun o ho => va_up_ne _ _ (by omega)
      have w35 : ∀ b l, lisS t m (N + 1) = some (b, l) → ∀ k, k < m → va_up I2 35 (va_cpy (I2 34) (I2 35) 0 0 6) 35 k = nI (permF m b k) := by
        intro b l hl k hk
        rw [e1] at hl
        cases hl
        rw [va_up_self, cpy6 (by omega), g34 k hk, rowL_at hk]
      refine c_isNext hm h0 (f := fun k => (rowL m N).getD k 0) (fun k hk => by rw [va_up_ne _ _ (by omega)]; exact g34 k hk) hbd (fun hx => ?_) (fun g hx I3 h3 f4 => ?_)
      · rw [hlst]
        exact g_X0_list_148 ((hK _ w7 w26 w35 f3).1 (nxt_none (by omega) h0 hN hx))
      · obtain ⟨y1, y2⟩ := nxt_some (by omega) h0 hN hx
        rw [hlst]
        refine g_X0_list_148 ((hK I3 (by rw [f4.twn (by omega)]; exact w7) (by rw [f4.twn (by omega)]; exact w26) (fun b l hl k hk => by rw [f4 35 (by omega)]; exact w35 b l hl k hk) (f3.tr (f4.c26 (by omega) (by omega)))).2 y1 (fun k hk => by rw [h3 k hk, y2 k hk]))
    · have e1 : lisS t m (N + 1) = lisS t m N := by
        conv => lhs; unfold lisS
        cases hl : lisS t m N with
        | none =>
          exfalso
          rw [hl, hvs] at h
          exact h (nI_lt (b := 2147483647) (by omega) (by omega))
        | some bl =>
          obtain ⟨b, l⟩ := bl
          rw [hl] at h
          dsimp only
          rw [if_neg (show ¬ vL t m N < l from h)]
      have hlst : lst (lisS t m N) = lst (lisS t m (N + 1)) := by rw [e1]
      have f3 : frC I I2 := f1.c7.tr f2.c7
      have w35 : ∀ b l, lisS t m (N + 1) = some (b, l) → ∀ k, k < m → I2 35 k = nI (permF m b k) := by
        intro b l hl k hk
        rw [f2 35 (by omega), f1 35 (by omega)]
        exact hb b l (by rw [← e1]; exact hl) k hk
      refine c_isNext hm h0 (f := fun k => (rowL m N).getD k 0) g34 hbd (fun hx => ?_) (fun g hx I3 h3 f4 => ?_)
      · rw [hlst]
        exact g_X0_list_148 ((hK _ g7 g26 w35 f3).1 (nxt_none (by omega) h0 hN hx))
      · obtain ⟨y1, y2⟩ := nxt_some (by omega) h0 hN hx
        rw [hlst]
        refine g_X0_list_148 ((hK I3 (by rw [f4.twn (by omega)]; exact g7) (by rw [f4.twn (by omega)]; exact g26) (fun b l hl k hk => by rw [f4 35 (by omega)]; exact w35 b l hl k hk) (f3.tr (f4.c26 (by omega) (by omega)))).2 y1 (fun k hk => by rw [h3 k hk, y2 k hk]))
  -- the end
  have fin : ∀ {I : Nat → Nat → Int32} {I0 : Nat → Nat → Int32}, twn I 7 = t → (∀ b l, lisS t m (fac m) = some (b, l) → ∀ k, k < m → I 35 k = nI (permF m b k)) → frC I0 I → (∀ I', twn I' 7 = t → frC I0 I' → Q (.returned (some (.int (lisR t m a1)))) (mX e I' G)) →
      Rn 50 60 [some (.ref 0), some (.int a1), some (.int (nI m)), some (.int (lst (lisS t m (fac m)))), some (.int 0), none] [] (0, 0) (mX e I G) Q := by
    intro I I0 ht hb hf hQ
    have hq := hQ I ht hf
    cases hl : lisS t m (fac m) with
    | none => have := lisS_none hl; omega
    | some bl =>
      obtain ⟨b, l⟩ := bl
      unfold lisR at hq
      rw [hl] at hq
      dsimp only at hq
      refine g_X0_list_60 (fun _ h => ?_) (fun _ h h2 => ?_) (fun _ h h2 => ?_) (fun _ h h2 => ?_) (fun h => absurd rfl h)
      · rw [if_pos h] at hq; exact hq
      · obtain ⟨k, hk, rfl⟩ := nI_of h
        have := (nI_ltI hk (by omega)).mp h2
        exact vp_in_nI (by omega) (by omega)
      · obtain ⟨k, hk, rfl⟩ := nI_of h
        have hkm := (nI_ltI hk (by omega)).mp h2
        rw [if_neg h, if_pos h2, nI_clamp hk] at hq
        rw [nI_clamp hk, hb b l hl k hkm]; exact hq
      · rw [if_neg h, if_neg h2] at hq; exact hq
  induction j with
  | zero =>
    intro N I hN ht h26 ho hb hQ
    refine one N (by omega) ht h26 ho hb fun I' t' t26 b' f' => ⟨fun hx => ?_, fun hx => by omega⟩
    rw [hx] at b' ⊢
    exact fin t' b' f' hQ
  | succ j ih =>
    intro N I hN ht h26 ho hb hQ
    refine one N (by omega) ht h26 ho hb fun I' t' t26 b' f' => ⟨fun hx => by omega, fun hx ho' => ?_⟩
    exact ih (N + 1) (by omega) t' t26 ho' b' fun I2 t2 f2 => hQ I2 t2 (f'.tr f2)
theorem c_lisIni {m : Nat} {a1 : Int32} (hm : m ≤ 6) : ∀ j c {I : Nat → Nat → Int32}, c + j = m → (∀ k, k < c → I 34 k = nI k) → (∀ I', (∀ k, k < m → I' 34 k = nI k) → fr 34 34 I I' → Rn 50 60 [some (.ref 0), some (.int a1), some (.int (nI m)), some (.int 2147483647), some (.int 1), none] [] (0, 0) (mX e I' G) Q) →
    Rn 50 35 [some (.ref 0), some (.int a1), some (.int (nI m)), some (.int (nI c)), none, none] [] (0, 0) (mX e I G) Q := by
  intro j
  induction j with
  | zero =>
    intro c I hc hi hK
    have : c = m := by omega
    subst this
    have no : ¬ nI c < nI c := nI_nlt (Nat.le_refl _) (by omega)
    exact g_X0_list_35 (fun h => absurd h no) (fun h => absurd h no) (fun _ => hK I hi fr.rf)
  | succ j ih =>
    intro c I hc hi hK
    have yes : nI c < nI m := nI_lt (by omega) (by omega)
    refine g_X0_list_35 (fun _ => vp_in_nI (by omega) (by omega)) (fun _ => ?_) (fun h => absurd yes h)
    rw [nI_clamp (by omega), nI_1]
    refine ih (c + 1) (by omega) ?_ fun I' h' f' => hK I' h' ((fr.rf.up (by omega) (by omega)).tr f')
    intro k hk
    by_cases hkc : k = c
    · subst hkc; rw [up2_v]
    · rw [up2_i hkc]; exact hi k (by omega)
theorem c_list (a1 : Int32) : qC 50 [some (.ref 0), some (.int a1), none, none, none, none] (fun _ => ¬ a1 < -1) (fun t => if t 1 = 0 then -4 else lisR t (t 1).toNatClampNeg a1) := by
  intro e I G Q n m d ok hd hb hQ
  dsimp only at hb hQ
  have hm := ok.m6
  have hmm : I 7 8 = nI m := ok.hm
  refine g_X0_list_0 (fun h => hb (fun q => q h)) (fun h1 h2 => ?_) (fun h1 h2 => ?_)
  · have hq := hQ h1 I rfl frC.rf
    rw [if_pos (show twn I 7 1 = 0 from h2)] at hq
    exact hq
  · have hQ := hQ h1
    rw [if_neg (show ¬ twn I 7 1 = 0 from h2), ok.hm, nI_clamp (by omega)] at hQ
    rw [hmm]
    have h0 : 0 < m := by
      rcases Nat.eq_zero_or_pos m with q | q
      · exact absurd (by rw [hmm, q]; rfl) h2
      · exact q
    have hfc := fac_7 m (by omega)
    refine c_takeFrom stp_7 stp_26 (Or.inr (by decide)) fun I1 t1 f1 => g_X0_list_33 ?_
    have e1 : twn I1 7 = twn I 7 := f1.twn (by omega)
    refine c_lisIni hm m 0 (by omega) (fun k hk => by omega) fun I2 h2 f2 => ?_
    refine c_lisLoop ok hd h0 h1 (fac m - 1) 0 (by omega) (by rw [f2.twn (by omega)]; exact e1) (by rw [f2.twn (by omega)]; exact t1) (fun k hk => by rw [h2 k hk, perm_0 m (by omega) k hk]) (fun b l hl => by cases hl) fun I' t' f' => hQ I' t' (((f1.c26 (by omega) (by omega)).tr (f2.c26 (by omega) (by omega))).tr f')
end S57
