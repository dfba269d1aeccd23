/-! hurry, shut, best -/
theorem Ok.lings {t t' : Nat → Int32} {n m d : Nat} (h : Ok t n m d) (e : ∀ j, (∀ q, q < n → j ≠ 9 + 5 * q) → t' j = t j) (hl : ∀ q, q < n → ∃ k, k ≤ 60 ∧ t' (9 + 5 * q) = nI k) : Ok t' n m d := by
  obtain ⟨h1, h2, h3, h4, h5, h6, h7, h8, h9, h10, h11, h12, h13, h14⟩ := h
  refine ⟨h1, h2, ?_, ?_, ?_, h6, ?_, ?_, hl, ?_, ?_, ?_, ?_, ?_⟩
  · rw [e 0 (fun q _ => by omega)]; exact h3
  · rw [e 1 (fun q _ => by omega)]; exact h4
  · rw [e 2 (fun q _ => by omega)]; exact h5
  · intro p hp; rw [e _ (fun q _ => by omega)]; exact h7 p hp
  · intro p hp; rw [e _ (fun q _ => by omega)]; exact h8 p hp
  · intro p q hp; rw [e _ (fun q _ => by omega)]; exact h10 p q hp
  · intro p q hp hq; rw [e _ (fun q _ => by omega), e _ (fun q _ => by omega)]; exact h11 p q hp hq
  · intro c hc; rw [e _ (fun q _ => by omega)]; exact h12 c hc
  · intro c hc; rw [e _ (fun q _ => by omega)]; exact h13 c hc
  · rw [e 6 (fun q _ => by omega)]; exact h14
/-- those of a set don't linger -/
def hurT (t : Nat → Int32) (s : Int32) (n : Nat) : Nat → Int32 := fun j => if 9 ≤ j ∧ j < 9 + 5 * n ∧ j % 5 = 4 then (if bit s (nI ((j - 9) / 5)) then 0 else t j) else t j
theorem hurT_at {t : Nat → Int32} {s : Int32} {n q : Nat} (hq : q < n) : hurT t s n (9 + 5 * q) = if bit s (nI q) then 0 else t (9 + 5 * q) := by
  unfold hurT
  rw [if_pos (by omega), show (9 + 5 * q - 9) / 5 = q by omega]
theorem hurT_ne {t : Nat → Int32} {s : Int32} {n j : Nat} (h : ∀ q, q < n → j ≠ 9 + 5 * q) : hurT t s n j = t j := by
  unfold hurT
  rw [if_neg]
  rintro ⟨h1, h2, h3⟩
  exact h ((j - 9) / 5) (by omega) (by omega)
theorem hurT_ok {t : Nat → Int32} {s : Int32} {n m d : Nat} (ok : Ok t n m d) : Ok (hurT t s n) n m d := by
  refine ok.lings (fun j h => hurT_ne h) (fun q hq => ?_)
  rw [hurT_at hq]
  split
  · exact ⟨0, by omega, rfl⟩
  · exact ok.ling q hq
theorem hurT_s {t : Nat → Int32} {s : Int32} {k : Nat} : hurT t s (k + 1) = up1 (hurT t s k) (9 + 5 * k) (if bit s (nI k) then 0 else t (9 + 5 * k)) := by
  funext j
  by_cases hj : j = 9 + 5 * k
  · subst hj; rw [hurT_at (by omega), up1_at]
  · rw [up1_ne hj]
    unfold hurT
    by_cases h : 9 ≤ j ∧ j < 9 + 5 * k ∧ j % 5 = 4
    · rw [if_pos h, if_pos (by omega)]
    · rw [if_neg h, if_neg (by omega)]
theorem hurT_0 {t : Nat → Int32} {s : Int32} : hurT t s 0 = t := by
  funext j
  exact hurT_ne (fun q hq => by omega)
def pop (s : Nat) : Nat := ((List.range 6).filter fun i => s.testBit i).length
def clr (s : Nat) : Nat := s &&& (s - 1)
theorem bc_pop : ∀ s, s < 64 → bcE (nI s) = nI (pop s) := by decide +kernel
theorem clr_pop : ∀ s, s < 64 → s ≠ 0 → (nI s &&& (nI s - 1) = nI (clr s) ∧ clr s < s ∧ pop s = pop (clr s) + 1) := by decide +kernel
theorem pop_le : ∀ s, s < 64 → pop s ≤ 6 := by decide +kernel
theorem sh1 : ∀ n, n ≤ 6 → (1 : Int32) <<< (nI n &&& 31) = nI (2 ^ n) ∧ 2 ^ n ≤ 64 := by decide +kernel
theorem m_manyL {e : En} {I : Nat → Nat → Int32} {G : Nat → Nat → Int64} {Q : Po} : ∀ j s c, s ≤ j → s < 64 → Q (.returned (some (.int (nI (c + pop s))))) (mX e I G) → Rn 142 4 [none, some (.int (nI c)), some (.int (nI s))] [] (0, 0) (mX e I G) Q := by
  intro j
  induction j with
  | zero =>
    intro s c hs _ hQ
    have : s = 0 := by omega
    subst this
    exact g_X9_many_4 (fun _ => hQ) (fun h => absurd rfl h)
  | succ j ih =>
    intro s c hs h64 hQ
    by_cases h0 : s = 0
    · subst h0; exact g_X9_many_4 (fun _ => hQ) (fun h => absurd rfl h)
    · obtain ⟨a1, a2, a3⟩ := clr_pop s h64 h0
      refine g_X9_many_4 (fun h => absurd h (nI_ne0 (by omega) (by omega))) (fun _ => ?_)
      rw [a1, nI_1]
      refine ih (clr s) (c + 1) (by omega) (by omega) ?_
      rw [show c + 1 + pop (clr s) = c + pop s by omega]
      exact hQ
theorem m_many {e : En} {I : Nat → Nat → Int32} {G : Nat → Nat → Int64} {Q : Po} {s : Nat} (hs : s < 64) (hQ : Q (.returned (some (.int (nI (pop s))))) (mX e I G)) : Rn 142 0 [some (.int (nI s)), none, none] [] (0, 0) (mX e I G) Q :=
  g_X9_many_0 (m_manyL s s 0 (Nat.le_refl _) hs (by rw [Nat.zero_add]; exact hQ))
/-- fewer than the best so far -/
def fewer (b : Option Nat) (s : Nat) : Bool := match b with | none => true | some x => decide (pop s < pop x)
/-- the best set so far, from s on -/
def hurS (t : Nat → Int32) (n p : Nat) : Nat → Nat → Option Nat → Option Nat
  | 0, _, b => b
  | j + 1, s, b => hurS t n p j (s + 1) (if fewer b s = true ∧ ¬ bit (nI s) (nI p) ∧ jNow (hurT t (nI s) n) = nI p then some s else b)
def hurR (a2 : Int32) : Option Nat → Int32
  | none => -4
  | some b => if a2 = 1 then nI b else nI (pop b)
section S51
variable {e : En} {G : Nat → Nat → Int64} {Q : Po}
theorem c_hurIn {n m d p s : Nat} {a2 x3 : Int32} {t : Nat → Int32} (ok : Ok t n m d) : ∀ j k {I : Nat → Nat → Int32}, k + j = n → twn I 26 = t → (∀ j, (∀ q, q < n → j ≠ 9 + 5 * q) → twn I 7 j = t j) → (∀ q, q < k → twn I 7 (9 + 5 * q) = hurT t (nI s) n (9 + 5 * q)) →
    (∀ I', twn I' 7 = hurT t (nI s) n → fr 7 14 I I' → Rn 43 0 [some (.ref 0)] [] (0, 0) (mX e I' G) (fun o X' => conF Rn 48 141 43 [some (.ref 0), some (.int (nI p)), some (.int a2), some (.int x3), some (.int (nI s)), none, none] [] (0, 0) X' Q o)) →
    Rn 48 88 [some (.ref 0), some (.int (nI p)), some (.int a2), some (.int x3), some (.int (nI s)), none, some (.int (nI k))] [] (0, 0) (mX e I G) Q := by
  have h6 := ok.n6
  intro j
  induction j with
  | zero =>
    intro k I hk h26 h1 h2 hK
    have : k = n := by omega
    subst this
    have hn : I 26 7 = nI k := by rw [show I 26 7 = twn I 26 0 from rfl, h26]; exact ok.hn
    have no : ¬ nI k < I 26 7 := by rw [hn]; exact nI_nlt (Nat.le_refl _) (by omega)
    refine g_X0_hurry_88 (fun h => absurd h no) (fun h => absurd h no) (fun h => absurd h no) (fun h => absurd h no) (fun _ => hK I ?_ fr.rf)
    funext j
    by_cases hj : ∀ q, q < k → j ≠ 9 + 5 * q
    · rw [h1 j hj, hurT_ne hj]
    · have : ∃ q, q < k ∧ j = 9 + 5 * q := Classical.byContradiction fun c => hj (fun q hq e => c ⟨q, hq, e⟩)
      obtain ⟨q, hq, rfl⟩ := this
      exact h2 q hq
  | succ j ih =>
    intro k I hk h26 h1 h2 hK
    have hkn : k < n := by omega
    have hn : I 26 7 = nI n := by rw [show I 26 7 = twn I 26 0 from rfl, h26]; exact ok.hn
    have yes : nI k < I 26 7 := by rw [hn]; exact nI_lt hkn (by omega)
    have hcl : (nI k).toNatClampNeg = k := nI_clamp (by omega)
    have step : ∀ v, v = hurT t (nI s) n (9 + 5 * k) → Rn 48 88 [some (.ref 0), some (.int (nI p)), some (.int a2), some (.int x3), some (.int (nI s)), none, some (.int (nI (k + 1)))] [] (0, 0) (mX e (up2 I 11 k v) G) Q := by
      intro v hv
      have et : twn (up2 I 11 k v) 7 = up1 (twn I 7) (9 + 5 * k) v := (twn_upk (show k < 6 by omega)).2.2.1 rfl
      refine ih (k + 1) (by omega) (by rw [twn_ne (by omega)]; exact h26) ?_ ?_ fun I' t' f' => hK I' t' ((fr.rf.up (by omega) (by omega)).tr f')
      · intro j hj; rw [et, up1_ne (hj k hkn)]; exact h1 j hj
      · intro q hq
        rw [et]
        by_cases hqk : q = k
        · subst hqk; rw [up1_at]; exact hv
        · rw [up1_ne (by omega)]; exact h2 q (by omega)
    refine g_X0_hurry_88 (fun _ _ => vp_in_nI (by omega) (by omega)) (fun _ hb => ?_) (fun _ _ => vp_in_nI (by omega) (by omega)) (fun _ hb => ?_) (fun h => absurd yes h)
    · rw [nI_1, hcl]
      refine step _ ?_
      rw [hurT_at hkn, if_neg hb, ← h26]
      exact ((twn_k I 26 k (by omega)).2.2.1).symm
    · rw [nI_1, hcl]
      refine step _ ?_
      rw [hurT_at hkn, if_pos hb]
theorem c_hurLoop {n m d p : Nat} {a2 : Int32} {t : Nat → Int32} (ok : Ok t n m d) (hp : p < n) : ∀ j s {I : Nat → Nat → Int32} (b : Option Nat), s + j = 2 ^ n → twn I 26 = t → (∀ j, (∀ q, q < n → j ≠ 9 + 5 * q) → twn I 7 j = t j) → (∀ x, b = some x → x < 64) →
    (∀ I', twn I' 7 = t → frC I I' → Q (.returned (some (.int (hurR a2 (hurS t n p j s b))))) (mX e I' G)) →
    Rn 48 34 [some (.ref 0), some (.int (nI p)), some (.int a2), some (.int (noI b)), some (.int (nI s)), none, none] [] (0, 0) (mX e I G) Q := by
  have h6 := ok.n6
  obtain ⟨hs1, hs2⟩ := sh1 n h6
  intro j
  induction j with
  | zero =>
    intro s I b hs h26 h1 hb hQ
    have : s = 2 ^ n := by omega
    have hn : I 26 7 = nI n := by rw [show I 26 7 = twn I 26 0 from rfl, h26]; exact ok.hn
    have no : ¬ nI s < 1 <<< (I 26 7 &&& 31) := by rw [hn, hs1, this]; exact nI_nlt (Nat.le_refl _) (by omega)
    refine g_X0_hurry_34 (fun h => absurd h no) (fun h => absurd h no) (fun h => absurd h no) (fun h => absurd h no) (fun h => absurd h no) (fun h => absurd h no) (fun _ => ?_)
    refine c_takeFrom stp_26 stp_7 (Or.inl (by decide)) fun I3 t3 f3 => ?_
    have hq := hQ I3 (t3.trans h26) f3.c7
    cases b with
    | none => exact g_X0_hurry_172 (fun _ => hq) (fun h => absurd (by decide) h) (fun h => absurd (by decide) h)
    | some x =>
      have hx := hb x rfl
      refine g_X0_hurry_172 (fun h => absurd h (nI_pos (by omega))) (fun _ h => ?_) (fun _ h => ?_)
      · have : hurR a2 (hurS t n p 0 s (some x)) = nI x := by show (if a2 = 1 then nI x else nI (pop x)) = _; rw [if_pos h]
        rw [this] at hq; exact hq
      · have : hurR a2 (hurS t n p 0 s (some x)) = nI (pop x) := by show (if a2 = 1 then nI x else nI (pop x)) = _; rw [if_neg h]
        rw [this] at hq
        show Q (.returned (some (.int (bcE (nI x))))) _
        rw [bc_pop x hx]; exact hq
  | succ j ih =>
    intro s I b hs h26 h1 hb hQ
    have hs64 : s < 64 := by omega
    have hn : I 26 7 = nI n := by rw [show I 26 7 = twn I 26 0 from rfl, h26]; exact ok.hn
    have yes : nI s < 1 <<< (I 26 7 &&& 31) := by rw [hn, hs1]; exact nI_lt (by omega) (by omega)
    -- not taken
    have nt : hurS t n p (j + 1) s b = hurS t n p j (s + 1) b → Rn 48 34 [some (.ref 0), some (.int (nI p)), some (.int a2), some (.int (noI b)), some (.int (nI s + 1)), none, none] [] (0, 0) (mX e I G) Q := by
      intro hv
      rw [nI_1]
      refine ih (s + 1) b (by omega) h26 h1 hb ?_
      rw [hv] at hQ; exact hQ
    have tk : fewer b s = true → ¬ bit (nI s) (nI p) → Rn 48 88 [some (.ref 0), some (.int (nI p)), some (.int a2), some (.int (noI b)), some (.int (nI s)), none, some (.int 0)] [] (0, 0) (mX e I G) Q := by
      intro hf hbt
      refine c_hurIn ok n 0 (by omega) h26 h1 (fun q hq => by omega) fun I' t' f' => ?_
      refine c_judgeNow (n := n) (m := m) (d := d) (by rw [t']; exact hurT_ok ok) (g_X0_hurry_144 (fun hj => ?_) (fun hj => ?_))
      · rw [t'] at hj
        have hv : hurS t n p (j + 1) s b = hurS t n p j (s + 1) (some s) := by rw [hurS, if_pos ⟨hf, hbt, hj⟩]
        rw [hv] at hQ
        rw [nI_1]
        refine ih (s + 1) (some s) (by omega) (by rw [f'.twn (by omega)]; exact h26) (fun j hj => by rw [t', hurT_ne hj]) (fun x hx => by cases hx; exact hs64) fun I2 t2 f2 => hQ I2 t2 (f'.c7.tr f2)
      · rw [t'] at hj
        have hv : hurS t n p (j + 1) s b = hurS t n p j (s + 1) b := by rw [hurS, if_neg (fun q => hj q.2.2)]
        rw [hv] at hQ
        rw [nI_1]
        refine ih (s + 1) b (by omega) (by rw [f'.twn (by omega)]; exact h26) (fun j hj => by rw [t', hurT_ne hj]) hb fun I2 t2 f2 => hQ I2 t2 (f'.c7.tr f2)
    cases b with
    | none =>
      refine g_X0_hurry_34 (fun _ _ h3 => tk rfl h3) (fun _ _ h3 => nt (by rw [hurS, if_neg (fun q => q.2.1 h3)])) (fun _ h => absurd (by decide) h) (fun _ h => absurd (by decide) h) (fun _ h => absurd (by decide) h) (fun _ h => absurd (by decide) h) (fun h => absurd yes h)
    | some x =>
      have hx := hb x rfl
      have hlt : (bcE (nI s) < bcE (nI x)) ↔ pop s < pop x := by rw [bc_pop s hs64, bc_pop x hx]; exact nI_ltI (by have := pop_le s hs64; omega) (by have := pop_le x hx; omega)
      have hfi : fewer (some x) s = true ↔ pop s < pop x := by unfold fewer; exact decide_eq_true_iff
      refine g_X0_hurry_34 (fun _ h => absurd h (nI_pos (by omega))) (fun _ h => absurd h (nI_pos (by omega))) (fun _ _ h3 h4 => tk (hfi.mpr (hlt.mp h3)) h4) (fun _ _ _ h4 => nt (by rw [hurS, if_neg (fun q => q.2.1 h4)])) (fun _ _ h3 _ => nt (by rw [hurS, if_neg (fun q => h3 (hlt.mpr (hfi.mp q.1)))])) (fun _ _ h3 _ => nt (by rw [hurS, if_neg (fun q => h3 (hlt.mpr (hfi.mp q.1)))])) (fun h => absurd yes h)
theorem m_hurIn {n m d p s : Nat} {a2 x3 : Int32} {t : Nat → Int32} (ok : Ok t n m d) : ∀ j k {I : Nat → Nat → Int32}, k + j = n → nw I = hurT t (nI s) k →
    (∀ I', nw I' = hurT t (nI s) n → fr 180 180 I I' → Rn 135 0 [some (.ref 179)] [] (0, 0) (mX e I' G) (fun o X' => conF Rn 141 119 135 [some (.ref 179), some (.int (nI p)), some (.int a2), some (.int x3), some (.int (nI s)), none] [] (0, 0) X' Q o)) →
    Rn 141 73 [some (.ref 179), some (.int (nI p)), some (.int a2), some (.int x3), some (.int (nI s)), some (.int (nI k))] [] (0, 0) (mX e I G) Q := by
  have h6 := ok.n6
  intro j
  induction j with
  | zero =>
    intro k I hk ht hK
    have : k = n := by omega
    subst this
    have hn : I 180 0 = nI k := by rw [show I 180 0 = nw I 0 from rfl, ht, hurT_ne (fun q _ => by omega)]; exact ok.hn
    have no : ¬ nI k < I 180 0 := by rw [hn]; exact nI_nlt (Nat.le_refl _) (by omega)
    exact g_X9_hurry_73 (fun h => absurd h no) (fun h => absurd h no) (fun h => absurd h no) (fun _ => hK I ht fr.rf)
  | succ j ih =>
    intro k I hk ht hK
    have hkn : k < n := by omega
    have hn : I 180 0 = nI n := by rw [show I 180 0 = nw I 0 from rfl, ht, hurT_ne (fun q _ => by omega)]; exact ok.hn
    have yes : nI k < I 180 0 := by rw [hn]; exact nI_lt hkn (by omega)
    have step : ∀ v, v = (if bit (nI s) (nI k) then 0 else t (9 + 5 * k)) → Rn 141 73 [some (.ref 179), some (.int (nI p)), some (.int a2), some (.int x3), some (.int (nI s)), some (.int (nI (k + 1)))] [] (0, 0) (mX e (up2 I 180 (9 + 5 * k) v) G) Q := by
      intro v hv
      refine ih (k + 1) (by omega) (by rw [nw_up (by omega), ht, hv, hurT_s]) fun I' t' f' => hK I' t' ((fr.rf.up (by omega) (by omega)).tr f')
    refine g_X9_hurry_73 (fun _ hb => ?_) (fun _ _ => vi7 (w := 2) (by omega) (by omega)) (fun _ hb => ?_) (fun h => absurd yes h)
    · refine m_lingersBy (by omega) (g_X9_hurry_112 ?_)
      rw [nI_1]
      exact step _ (if_pos hb).symm
    · refine m_lingersBy (by omega) (g_X9_hurry_112 ?_)
      rw [nI_1]
      refine step _ ?_
      rw [if_neg hb, tol_2 (by omega), ht, hurT_ne (fun q _ => by omega)]
theorem m_hurLoop {n m d p : Nat} {a2 : Int32} {t : Nat → Int32} (ok : Ok t n m d) (hp : p < n) : ∀ j s {I : Nat → Nat → Int32} (b : Option Nat), s + j = 2 ^ n → nw I = t → cut (I 185) = t → (∀ x, b = some x → x < 64) →
    (∀ I', nw I' = t → frM I I' → Q (.returned (some (.int (hurR a2 (hurS t n p j s b))))) (mX e I' G)) →
    Rn 141 30 [some (.ref 179), some (.int (nI p)), some (.int a2), some (.int (noI b)), some (.int (nI s)), none] [] (0, 0) (mX e I G) Q := by
  have h6 := ok.n6
  obtain ⟨hs1, hs2⟩ := sh1 n h6
  intro j
  induction j with
  | zero =>
    intro s I b hs ht h185 hb hQ
    have : s = 2 ^ n := by omega
    have hn : I 180 0 = nI n := by rw [show I 180 0 = nw I 0 from rfl, ht]; exact ok.hn
    have no : ¬ nI s < 1 <<< (I 180 0 &&& 31) := by rw [hn, hs1, this]; exact nI_nlt (Nat.le_refl _) (by omega)
    have hq := hQ I ht frM.rf
    refine g_X9_hurry_30 (fun h => absurd h no) (fun h => absurd h no) (fun h => absurd h no) (fun _ h2 => ?_) (fun _ h2 h3 => ?_) (fun _ h2 h3 => ?_)
    · have hv : hurR a2 (hurS t n p 0 s b) = noI b := by
        cases b with
        | none => rfl
        | some x => show (if a2 = 1 then nI x else nI (pop x)) = _; rw [if_pos h2]; rfl
      rw [hv] at hq; exact hq
    · cases b with
      | none => exact hq
      | some x => exact absurd h3 (nI_m4 (by have := hb x rfl; omega))
    · cases b with
      | none => exact absurd rfl h3
      | some x =>
        have hv : hurR a2 (hurS t n p 0 s (some x)) = nI (pop x) := by show (if a2 = 1 then nI x else nI (pop x)) = _; rw [if_neg h2]
        rw [hv] at hq
        exact m_many (hb x rfl) (g_X9_hurry_162 hq)
  | succ j ih =>
    intro s I b hs ht h185 hb hQ
    have hs64 : s < 64 := by omega
    have hn : I 180 0 = nI n := by rw [show I 180 0 = nw I 0 from rfl, ht]; exact ok.hn
    have yes : nI s < 1 <<< (I 180 0 &&& 31) := by rw [hn, hs1]; exact nI_lt (by omega) (by omega)
    have nt : hurS t n p (j + 1) s b = hurS t n p j (s + 1) b → Rn 141 30 [some (.ref 179), some (.int (nI p)), some (.int a2), some (.int (noI b)), some (.int (nI s + 1)), none] [] (0, 0) (mX e I G) Q := by
      intro hv
      rw [nI_1]
      refine ih (s + 1) b (by omega) ht h185 hb ?_
      rw [hv] at hQ; exact hQ
    have tk : fewer b s = true → ¬ bit (nI s) (nI p) → Rn 141 73 [some (.ref 179), some (.int (nI p)), some (.int a2), some (.int (noI b)), some (.int (nI s)), some (.int 0)] [] (0, 0) (mX e I G) Q := by
      intro hf hbt
      refine m_hurIn ok n 0 (by omega) (by rw [hurT_0]; exact ht) fun I' t' f' => ?_
      have e5 : cut (I' 185) = t := by rw [f' 185 (by omega)]; exact h185
      refine m_judgeNow (n := n) (m := m) (d := d) (by rw [t']; exact hurT_ok ok) (g_X9_hurry_122 (fun hj => ?_) (fun hj => ?_))
      · rw [t'] at hj
        have hv : hurS t n p (j + 1) s b = hurS t n p j (s + 1) (some s) := by rw [hurS, if_pos ⟨hf, hbt, hj⟩]
        rw [hv] at hQ
        refine m_backs fun I3 t3 f3 => g_X9_hurry_137 ?_
        rw [nI_1]
        refine ih (s + 1) (some s) (by omega) (t3.trans e5) (by rw [f3 185 (by omega)]; exact e5) (fun x hx => by cases hx; exact hs64) fun I2 t2 f2 => hQ I2 t2 ((f'.m.tr f3.m).tr f2)
      · rw [t'] at hj
        have hv : hurS t n p (j + 1) s b = hurS t n p j (s + 1) b := by rw [hurS, if_neg (fun q => hj q.2.2)]
        rw [hv] at hQ
        refine m_backs fun I3 t3 f3 => g_X9_hurry_137 ?_
        rw [nI_1]
        refine ih (s + 1) b (by omega) (t3.trans e5) (by rw [f3 185 (by omega)]; exact e5) hb fun I2 t2 f2 => hQ I2 t2 ((f'.m.tr f3.m).tr f2)
    cases b with
    | none =>
      refine g_X9_hurry_30 (fun _ h3 _ => tk rfl ((and01 _).mp h3)) (fun _ _ h => absurd rfl h) (fun _ h3 => nt (by rw [hurS, if_neg (fun q => h3 ((and01 _).mpr q.2.1))])) (fun h => absurd yes h) (fun h => absurd yes h) (fun h => absurd yes h)
    | some x =>
      have hx := hb x rfl
      have hlt : (nI (pop s) < nI (pop x)) ↔ pop s < pop x := nI_ltI (by have := pop_le s hs64; omega) (by have := pop_le x hx; omega)
      have hfi : fewer (some x) s = true ↔ pop s < pop x := by unfold fewer; exact decide_eq_true_iff
      refine g_X9_hurry_30 (fun _ _ h => absurd h (nI_m4 (by omega))) (fun _ h2 _ => ?_) (fun _ h3 => nt (by rw [hurS, if_neg (fun q => h3 ((and01 _).mpr q.2.1))])) (fun h => absurd yes h) (fun h => absurd yes h) (fun h => absurd yes h)
      refine m_many hs64 (g_X9_hurry_63 (m_many hx (g_X9_hurry_67 (fun h3 => tk (hfi.mpr (hlt.mp h3)) ((and01 _).mp h2)) (fun h3 => nt (by rw [hurS, if_neg (fun q => h3 (hlt.mpr (hfi.mp q.1)))])))))
theorem c_hurry (a1 a2 : Int32) : qC 48 [some (.ref 0), some (.int a1), some (.int a2), none, none, none, none] (fun t => inl a1.toInt64 0 ((t 0 - 1).toInt64) ∧ inl a2.toInt64 0 1) (fun t => hurR a2 (hurS t (t 0).toNatClampNeg a1.toNatClampNeg (2 ^ (t 0).toNatClampNeg) 0 none)) := by
  intro e I G Q n m d ok hd hb hQ
  dsimp only at hb hQ
  have h6 := ok.n6
  refine g_X0_hurry_0 (fun h => hb (fun q => h q.1)) (fun _ h => hb (fun q => h q.2)) (fun h1 h2 => ?_)
  have hQ := hQ ⟨h1, h2⟩
  rw [show I 7 7 = nI n from ok.hn] at h1
  obtain ⟨p, hp, rfl⟩ := isP h6 h1
  rw [ok.clamp, nI_clamp (by omega)] at hQ
  refine c_takeFrom stp_7 stp_26 (Or.inr (by decide)) fun I1 t1 f1 => g_X0_hurry_28 ?_
  have e1 : twn I1 7 = twn I 7 := f1.twn (by omega)
  exact c_hurLoop ok hp (2 ^ n) 0 none (by omega) t1 (fun j _ => by rw [e1]) (fun x h => by cases h) fun I' t' f' => hQ I' t' ((f1.c26 (by omega) (by omega)).tr f')
theorem m_hurry (a1 a2 : Int32) : qM 141 [some (.ref 179), some (.int a1), some (.int a2), none, none, none] (fun t => inl a1.toInt64 0 ((t 0 - 1).toInt64) ∧ inl a2.toInt64 0 1) (fun t => hurR a2 (hurS t (t 0).toNatClampNeg a1.toNatClampNeg (2 ^ (t 0).toNatClampNeg) 0 none)) := by
  intro e I G Q n m d ok hd hb hQ
  dsimp only at hb hQ
  have h6 := ok.n6
  refine g_X9_hurry_0 (fun h => hb (fun q => h q.1)) (fun _ h => hb (fun q => h q.2)) (fun h1 h2 => ?_)
  have hQ := hQ ⟨h1, h2⟩
  rw [show I 180 0 = nI n from ok.hn] at h1
  obtain ⟨p, hp, rfl⟩ := isP h6 h1
  rw [ok.clamp, nI_clamp (by omega)] at hQ
  refine m_asides fun I1 t1 f1 => g_X9_hurry_27 ?_
  have e1 : nw I1 = nw I := congrArg cut (f1 180 (by omega))
  exact m_hurLoop ok hp (2 ^ n) 0 none (by omega) e1 t1 (fun x h => by cases h) fun I' t' f' => hQ I' t' (f1.ma.tr f')
end S51
