/-! what is done can be undone: the twin's notes -/
def mU (I : Nat → Nat → Int32) (k : Nat) : Nat → Int32 := fun i => if i < 28 then I 184 (28 * k + i) else 0
def mUn (I : Nat → Nat → Int32) (u : Nat) (U : Nat → Nat → Int32) : Prop := I 179 8 = nI u ∧ u ≤ 8 ∧ ∀ k, k < u → mU I k = U k
/-- a frame of the twin's notes -/
def frO (I I' : Nat → Nat → Int32) : Prop := (∀ k, k ≠ 179 → k ≠ 184 → I' k = I k) ∧ ∀ f, f ≠ 8 → I' 179 f = I 179 f
theorem frO.rf {I : Nat → Nat → Int32} : frO I I := ⟨fun _ _ _ => rfl, fun _ _ => rfl⟩
theorem frO.tr {I I' I'' : Nat → Nat → Int32} (h1 : frO I I') (h2 : frO I' I'') : frO I I'' := ⟨fun k a b => (h2.1 k a b).trans (h1.1 k a b), fun f a => (h2.2 f a).trans (h1.2 f a)⟩
theorem frO.u4 {I : Nat → Nat → Int32} {j : Nat} {v : Int32} : frO I (up2 I 184 j v) := ⟨fun k _ b => up2_ne b, fun f _ => by rw [up2_ne (by omega)]⟩
theorem frO.u8 {I : Nat → Nat → Int32} {v : Int32} : frO I (up2 I 179 8 v) := ⟨fun k a _ => up2_ne a, fun f a => up2_i a⟩
theorem dp_l : (∀ q, q < 6 → dp (4 + q) = 9 + 5 * q ∧ dp (10 + q) = 10 + 5 * q) ∧ (∀ k, k < 12 → dp (16 + k) = 37 + k) := by decide +kernel
theorem dayT_l {t : Nat → Int32} : (∀ q, q < 6 → dayT t (4 + q) = t (9 + 5 * q) ∧ dayT t (10 + q) = t (10 + 5 * q)) ∧ (∀ k, k < 12 → dayT t (16 + k) = t (37 + k)) := by
  refine ⟨fun q hq => ?_, fun k hk => ?_⟩
  · unfold dayT; rw [if_pos (by omega), if_pos (by omega), (dp_l.1 q hq).1, (dp_l.1 q hq).2]; exact ⟨rfl, rfl⟩
  · unfold dayT; rw [if_pos (by omega), dp_l.2 k hk]
theorem tol_3 {I : Nat → Nat → Int32} {p : Nat} (hp : p < 6) : tolE I (nI p) 3 = nw I (10 + 5 * p) := by rw [show 10 + 5 * p = 7 + 5 * p + 3 by omega]; exact tol_at (w := 3) hp (by omega)
theorem add_4 (a p : Nat) : (nI a + 4) + nI p = nI (a + 4 + p) := by rw [show (4 : Int32) = nI 4 from rfl, nI_add, nI_add]
theorem add_10 (a p : Nat) : (nI a + 10) + nI p = nI (a + 10 + p) := by rw [show (10 : Int32) = nI 10 from rfl, nI_add, nI_add]
theorem add_16 (a p : Nat) : (nI a + 16) + nI p = nI (a + 16 + p) := by rw [show (16 : Int32) = nI 16 from rfl, nI_add, nI_add]
theorem add_37 (p : Nat) : 37 + nI p = nI (37 + p) := by rw [show (37 : Int32) = nI 37 from rfl, nI_add]
theorem add_49 (p : Nat) : 49 + nI p = nI (49 + p) := by rw [show (49 : Int32) = nI 49 from rfl, nI_add]
theorem add_k (a : Nat) : nI a + 1 = nI (a + 1) ∧ nI a + 2 = nI (a + 2) ∧ nI a + 3 = nI (a + 3) := ⟨nI_add a 1, nI_add a 2, nI_add a 3⟩
theorem mul_28 (u : Nat) : 28 * nI u = nI (28 * u) := by rw [show (28 : Int32) = nI 28 from rfl, nI_mul]
section S61
variable {e : En} {G : Nat → Nat → Int64} {Q : Po}
theorem nw_con {I I' : Nat → Nat → Int32} (h : I' 180 = I 180) : nw I' = nw I := congrArg cut h
theorem m_nt158 {to u : Nat} {T : Nat → Int32} (hto : to + 28 ≤ 224) : ∀ j k {I : Nat → Nat → Int32}, k + j = 12 → nw I = T → I 179 8 = nI u → (∀ i, i < 16 + k → I 184 (to + i) = dayT T i) →
    (∀ I', (∀ i, i < 28 → I' 184 (to + i) = dayT T i) → (∀ i, (i < to ∨ to + 28 ≤ i) → I' 184 i = I 184 i) → I' 179 8 = nI (u + 1) → frO I I' → Q (.returned none) (mX e I' G)) →
    Rn 123 158 [some (.ref 179), some (.int (nI to)), some (.int (nI k))] [] (0, 0) (mX e I G) Q := by
  intro j
  induction j with
  | zero =>
    intro k I hk hT hu hd hQ
    have : k = 12 := by omega
    subst this
    refine g_X9_notes_158 (fun h => absurd h (by decide)) (fun h => absurd h (by decide)) (fun h => absurd h (by decide)) (fun _ => ?_)
    rw [hu, nI_1]
    exact hQ _ (fun i hi => by rw [up2_ne (by omega)]; exact hd i hi) (fun i _ => by rw [up2_ne (by omega)]) up2_v frO.u8
  | succ j ih =>
    intro k I hk hT hu hd hQ
    have yes : nI k < 12 := nI_lt (b := 12) (by omega) (by omega)
    refine g_X9_notes_158 (fun _ => ?_) (fun _ => ?_) (fun _ => ?_) (fun h => absurd yes h)
    · rw [add_37]; exact vp_in_nI (by omega) (by omega)
    · rw [add_16]; exact vp_in_nI (by omega) (by omega)
    · rw [add_37, add_16, nI_clamp (by omega), nI_clamp (by omega), nI_1]
      have ev : I 180 (37 + k) = dayT T (16 + k) := by
        rw [dayT_l.2 k (by omega), ← hT]
        exact (cut_at (by omega)).symm
      refine ih (k + 1) (by omega) (by rw [nw_ne (by omega)]; exact hT) (by rw [up2_ne (by omega)]; exact hu) ?_ fun I' a1 a2 a3 a4 => hQ I' a1 ?_ a3 (frO.u4.tr a4)
      · intro i hi
        by_cases hik : i = 16 + k
        · subst hik; rw [show to + (16 + k) = to + 16 + k by omega, up2_v]; exact ev
        · rw [up2_i (by omega)]; exact hd i (by omega)
      · intro i hi; rw [a2 i hi, up2_i (by omega)]
theorem m_nt111 {to u : Nat} {T : Nat → Int32} (hto : to + 28 ≤ 224) : ∀ j p {I : Nat → Nat → Int32}, p + j = 6 → nw I = T → I 179 8 = nI u → (∀ i, (i < 4 + p ∨ (10 ≤ i ∧ i < 10 + p)) → I 184 (to + i) = dayT T i) →
    (∀ I', (∀ i, i < 28 → I' 184 (to + i) = dayT T i) → (∀ i, (i < to ∨ to + 28 ≤ i) → I' 184 i = I 184 i) → I' 179 8 = nI (u + 1) → frO I I' → Q (.returned none) (mX e I' G)) →
    Rn 123 111 [some (.ref 179), some (.int (nI to)), some (.int (nI p))] [] (0, 0) (mX e I G) Q := by
  intro j
  induction j with
  | zero =>
    intro p I hp hT hu hd hQ
    have : p = 6 := by omega
    subst this
    refine g_X9_notes_111 (fun h => absurd h (by decide)) (fun h => absurd h (by decide)) (fun h => absurd h (by decide)) (fun h => absurd h (by decide)) (fun h => absurd h (by decide)) (fun _ => ?_)
    exact m_nt158 hto 12 0 (by omega) hT hu (fun i hi => hd i (by omega)) hQ
  | succ j ih =>
    intro p I hp hT hu hd hQ
    have yes : nI p < 6 := nI_lt (b := 6) (by omega) (by omega)
    refine g_X9_notes_111 (fun _ => vi7 (w := 2) (by omega) (by omega)) (fun _ => ?_) (fun _ => vi7 (w := 3) (by omega) (by omega)) (fun _ => ?_) (fun _ => ?_) (fun h => absurd yes h)
    · rw [add_4]; exact vp_in_nI (by omega) (by omega)
    · rw [add_10]; exact vp_in_nI (by omega) (by omega)
    · rw [add_4, add_10, nI_clamp (by omega), nI_clamp (by omega), nI_1, tol_2 (by omega), tol_3 (by omega), nw_ne (by omega), hT]
      have d1 := (dayT_l (t := T)).1 p (by omega)
      refine ih (p + 1) (by omega) (by rw [nw_ne (by omega), nw_ne (by omega)]; exact hT) (by rw [up2_ne (by omega), up2_ne (by omega)]; exact hu) ?_ fun I' a1 a2 a3 a4 => hQ I' a1 ?_ a3 ((frO.u4.tr frO.u4).tr a4)
      · intro i hi
        by_cases h1 : i = 10 + p
        · subst h1; rw [show to + (10 + p) = to + 10 + p by omega, up2_v, d1.2]
        · rw [up2_i (by omega)]
          by_cases h2 : i = 4 + p
          · subst h2; rw [show to + (4 + p) = to + 4 + p by omega, up2_v, d1.1]
          · rw [up2_i (by omega)]; exact hd i (by omega)
      · intro i hi; rw [a2 i hi, up2_i (by omega), up2_i (by omega)]
theorem d4 {T : Nat → Int32} : dayT T 0 = T 2 ∧ dayT T 1 = T 4 ∧ dayT T 2 = T 5 ∧ dayT T 3 = T 6 := ⟨rfl, rfl, rfl, rfl⟩
theorem m_shift : ∀ j x {I : Nat → Nat → Int32}, x + j = 224 → 28 ≤ x → (∀ I', (∀ i, i < 196 → x - 28 ≤ i → I' 184 i = I 184 (i + 28)) → (∀ i, (i < x - 28) → I' 184 i = I 184 i) → frO I I' → I' 179 = I 179 → Rn 123 12 [some (.ref 179), some (.int (nI 224)), none] [] (0, 0) (mX e I' G) Q) →
    Rn 123 12 [some (.ref 179), some (.int (nI x)), none] [] (0, 0) (mX e I G) Q := by
  intro j
  induction j with
  | zero =>
    intro x I hx h28 hK
    have : x = 224 := by omega
    subst this
    exact hK I (fun i a b => by omega) (fun _ _ => rfl) frO.rf rfl
  | succ j ih =>
    intro x I hx h28 hK
    have yes : nI x < 224 := nI_lt (b := 224) (by omega) (by omega)
    have hs : nI x - 28 = nI (x - 28) := by
      obtain ⟨y, rfl⟩ : ∃ y, x = y + 28 := ⟨x - 28, by omega⟩
      rw [← nI_add, show nI 28 = (28 : Int32) from rfl, Int32.add_sub_cancel, Nat.add_sub_cancel]
    refine g_X9_notes_12 (fun _ => vp_in_nI (by omega) (by omega)) (fun _ => ?_) (fun _ => ?_) (fun h => absurd yes h)
    · rw [hs]; exact vp_in_nI (by omega) (by omega)
    · rw [hs, nI_clamp (by omega), nI_clamp (by omega), nI_1]
      refine ih (x + 1) (by omega) (by omega) fun I' a1 a2 a3 a4 => hK I' ?_ ?_ (frO.u4.tr a3) (by rw [a4, up2_ne (by omega)])
      · intro i h1 h2
        by_cases hi : i = x - 28
        · subst hi
          rw [a2 _ (by omega), up2_v, show x - 28 + 28 = x by omega]
        · rw [a1 i h1 (by omega), up2_i (by omega)]
      · intro i hi; rw [a2 i (by omega), up2_i (by omega)]
theorem m_notes {I : Nat → Nat → Int32} {u : Nat} {U : Nat → Nat → Int32} (h : mUn I u U) (hQ : ∀ I', mUn I' (noteN u) (noteU u U (dayT (nw I))) → frO I I' → Q (.returned none) (mX e I' G)) : Rn 123 0 [some (.ref 179), none, none] [] (0, 0) (mX e I G) Q := by
  obtain ⟨hu, h8, hU⟩ := h
  have fin : ∀ {I0 I' : Nat → Nat → Int32} {w : Nat} {U0 : Nat → Nat → Int32}, w < 8 → (∀ k, k < w → mU I0 k = U0 k) → (∀ i, i < 28 → I' 184 (28 * w + i) = dayT (nw I) i) → (∀ i, (i < 28 * w ∨ 28 * w + 28 ≤ i) → I' 184 i = I0 184 i) → ∀ k, k < w + 1 → mU I' k = (if k = w then dayT (nw I) else U0 k) := by
    intro I0 I' w U0 hw h0 a1 a2 k hk
    by_cases hkw : k = w
    · subst hkw
      rw [if_pos rfl]
      funext i
      unfold mU
      by_cases hi : i < 28
      · rw [if_pos hi, a1 i hi]
      · rw [if_neg hi, dayT_28 i (by omega)]
    · rw [if_neg hkw, ← h0 k (by omega)]
      funext i
      unfold mU
      by_cases hi : i < 28
      · rw [if_pos hi, if_pos hi, a2 _ (by omega)]
      · rw [if_neg hi, if_neg hi]
  by_cases h9 : u = 8
  · subst h9
    have hnU : noteU 8 U (dayT (nw I)) = fun k => if k < 7 then U (k + 1) else dayT (nw I) := rfl
    rw [hnU] at hQ
    refine g_X9_notes_0 (fun _ => ?_) (fun q => absurd hu q) (fun q => absurd hu q) (fun q => absurd hu q) (fun q => absurd hu q) (fun q => absurd hu q)
    refine m_shift 196 28 (by omega) (by omega) fun I1 b1 b2 b3 b4 => ?_
    refine g_X9_notes_12 (fun q => absurd q (by decide)) (fun q => absurd q (by decide)) (fun q => absurd q (by decide)) (fun _ => ?_)
    have eN : nw I1 = nw I := nw_con (b3.1 180 (by omega) (by omega))
    have e0 : ∀ j, j < 49 → I1 180 j = nw I j := fun j hj => by rw [← eN]; exact (cut_at hj).symm
    rw [e0 2 (by omega), e0 4 (by omega), e0 5 (by omega), e0 6 (by omega)]
    refine m_nt111 (to := 196) (u := 7) (T := nw I) (by omega) 6 0 (by omega) ?_ ?_ ?_ fun I' a1 a2 a3 a4 => ?_
    · rw [nw_ne (by omega), nw_ne (by omega), nw_ne (by omega), nw_ne (by omega), nw_ne (by omega)]; exact eN
    · rw [up2_ne (by omega), up2_ne (by omega), up2_ne (by omega), up2_ne (by omega), up2_v]; rfl
    · intro i hi
      rcases (show i = 0 ∨ i = 1 ∨ i = 2 ∨ i = 3 by omega) with rfl | rfl | rfl | rfl
      · rw [up2_i (by omega), up2_i (by omega), up2_i (by omega), up2_v]; rfl
      · rw [up2_i (by omega), up2_i (by omega), up2_v]; rfl
      · rw [up2_i (by omega), up2_v]; rfl
      · rw [up2_v]; rfl
    · have f2 : frO I I' := b3.tr (((((frO.u8.tr frO.u4).tr frO.u4).tr frO.u4).tr frO.u4).tr a4)
      refine hQ I' ⟨a3, by decide, fun k hk => ?_⟩ f2
      have hk8 : k < 8 := hk
      have := fin (I0 := I1) (w := 7) (U0 := fun k => U (k + 1)) (by omega) (fun k hk => ?_) a1 ?_ k hk8
      · rw [this]
        dsimp only
        by_cases h7 : k = 7
        · subst h7; rw [if_pos rfl, if_neg (by omega)]
        · rw [if_neg h7, if_pos (by omega)]
      · rw [← hU (k + 1) (by omega)]
        funext i
        unfold mU
        by_cases hi : i < 28
        · rw [if_pos hi, if_pos hi, b1 _ (by omega) (by omega), show 28 * k + i + 28 = 28 * (k + 1) + i by omega]
        · rw [if_neg hi, if_neg hi]
      · intro i hi
        rw [a2 i hi, up2_i (by omega), up2_i (by omega), up2_i (by omega), up2_i (by omega), up2_ne (by omega)]
  · have hnU : noteU u U (dayT (nw I)) = fun k => if k = u then dayT (nw I) else U k := by unfold noteU; rw [if_neg h9]
    have hn : noteN u = u + 1 := if_neg h9
    rw [hnU, hn] at hQ
    have ne8 : ¬ I 179 8 = 8 := fun q => h9 ((nI_eq (b := 8) (by omega) (by omega)).mp (hu.symm.trans q))
    refine g_X9_notes_0 (fun q => absurd q ne8) (fun _ => ?_) (fun _ => ?_) (fun _ => ?_) (fun _ => ?_) (fun _ => ?_)
    all_goals rw [hu, mul_28]
    · exact vp_in_nI (by omega) (by omega)
    · rw [(add_k _).1]; exact vp_in_nI (by omega) (by omega)
    · rw [(add_k _).2.1]; exact vp_in_nI (by omega) (by omega)
    · rw [(add_k _).2.2]; exact vp_in_nI (by omega) (by omega)
    · rw [(add_k _).1, (add_k _).2.1, (add_k _).2.2, nI_clamp (by omega), nI_clamp (by omega), nI_clamp (by omega), nI_clamp (by omega)]
      have e0 : ∀ j, j < 49 → I 180 j = nw I j := fun j hj => (cut_at hj).symm
      rw [e0 2 (by omega), e0 4 (by omega), e0 5 (by omega), e0 6 (by omega)]
      refine m_nt111 (to := 28 * u) (u := u) (T := nw I) (by omega) 6 0 (by omega) ?_ ?_ ?_ fun I' a1 a2 a3 a4 => ?_
      · rw [nw_ne (by omega), nw_ne (by omega), nw_ne (by omega), nw_ne (by omega)]
      · rw [up2_ne (by omega), up2_ne (by omega), up2_ne (by omega), up2_ne (by omega)]; exact hu
      · intro i hi
        rcases (show i = 0 ∨ i = 1 ∨ i = 2 ∨ i = 3 by omega) with rfl | rfl | rfl | rfl
        · rw [up2_i (by omega), up2_i (by omega), up2_i (by omega), Nat.add_zero, up2_v]; rfl
        · rw [up2_i (by omega), up2_i (by omega), up2_v]; rfl
        · rw [up2_i (by omega), up2_v]; rfl
        · rw [up2_v]; rfl
      · refine hQ I' ⟨a3, by omega, fun k hk => ?_⟩ ((((frO.u4.tr frO.u4).tr frO.u4).tr frO.u4).tr a4)
        exact fin (by omega) hU a1 (fun i hi => by rw [a2 i hi, up2_i (by omega), up2_i (by omega), up2_i (by omega), up2_i (by omega)]) k hk
/-- a town whose day's part is as told -/
theorem putD_of {T T' D : Nat → Int32} (h1 : ∀ i, i < 28 → T' (dp i) = D i) (h2 : ∀ j, (∀ i, i < 28 → j ≠ dp i) → T' j = T j) : T' = putD T D := by
  funext j
  unfold putD
  cases hq : dq j with
  | none =>
    refine h2 j (fun i hi q => ?_)
    rw [q, dq_dp i hi] at hq
    cases hq
  | some i =>
    have hj : j < 49 := by
      rcases Nat.lt_or_ge j 49 with q | q
      · exact q
      · exfalso
        unfold dq at hq
        rw [if_neg (by omega), if_neg (by omega), if_neg (by omega), if_neg (by omega), if_neg (by omega), if_neg (by omega), if_neg (by omega)] at hq
        cases hq
    obtain ⟨hi, hd⟩ := dq_49 j hj i hq
    show T' j = D i
    rw [← hd]
    exact h1 i hi
theorem dp_inj {a b : Nat} (ha : a < 28) (hb : b < 28) (h : dp a = dp b) : a = b := by
  have := dq_dp a ha
  rw [h, dq_dp b hb] at this
  exact (Option.some.inj this).symm
theorem m_un146 {fm u : Nat} {T D : Nat → Int32} (hfm : fm + 28 ≤ 224) : ∀ j k {I : Nat → Nat → Int32}, k + j = 12 → (∀ i, i < 28 → I 184 (fm + i) = D i) → (∀ i, i < 16 + k → nw I (dp i) = D i) → (∀ j, (∀ i, i < 28 → j ≠ dp i) → nw I j = T j) →
    (∀ I', nw I' = putD T D → fr 180 180 I I' → Q (.returned (some (.int (I 179 8)))) (mX e I' G)) →
    Rn 130 146 [some (.ref 179), some (.int (nI fm)), some (.int (nI k))] [] (0, 0) (mX e I G) Q := by
  intro j
  induction j with
  | zero =>
    intro k I hk hD h1 h2 hQ
    have : k = 12 := by omega
    subst this
    exact g_X9_undo_146 (fun h => absurd h (by decide)) (fun h => absurd h (by decide)) (fun h => absurd h (by decide)) (fun _ => hQ I (putD_of (fun i hi => h1 i (by omega)) h2) fr.rf)
  | succ j ih =>
    intro k I hk hD h1 h2 hQ
    have yes : nI k < 12 := nI_lt (b := 12) (by omega) (by omega)
    refine g_X9_undo_146 (fun _ => ?_) (fun _ => ?_) (fun _ => ?_) (fun h => absurd yes h)
    · rw [add_16]; exact vp_in_nI (by omega) (by omega)
    · rw [add_37]; exact vp_in_nI (by omega) (by omega)
    · rw [add_37, add_16, nI_clamp (by omega), nI_clamp (by omega), nI_1, show fm + 16 + k = fm + (16 + k) by omega, hD _ (by omega)]
      have en : nw (up2 I 180 (37 + k) (D (16 + k))) = up1 (nw I) (dp (16 + k)) (D (16 + k)) := by rw [nw_up (by omega), dp_l.2 k (by omega)]
      refine ih (k + 1) (by omega) (fun i hi => by rw [up2_ne (by omega)]; exact hD i hi) ?_ ?_ fun I' t' f' => ?_
      · intro i hi
        rw [en]
        by_cases hik : i = 16 + k
        · subst hik; rw [up1_at]
        · rw [up1_ne (fun q => hik (dp_inj (by omega) (by omega) q))]; exact h1 i (by omega)
      · intro j hj; rw [en, up1_ne (hj _ (by omega))]; exact h2 j hj
      · rw [up2_ne (by omega)]; exact hQ I' t' ((fr.rf.up (by omega) (by omega)).tr f')
theorem m_un85 {fm u : Nat} {T D : Nat → Int32} (hfm : fm + 28 ≤ 224) : ∀ j p {I : Nat → Nat → Int32}, p + j = 6 → (∀ i, i < 28 → I 184 (fm + i) = D i) → (∀ i, (i < 4 + p ∨ (10 ≤ i ∧ i < 10 + p)) → nw I (dp i) = D i) → (∀ j, (∀ i, i < 28 → j ≠ dp i) → nw I j = T j) →
    (∀ I', nw I' = putD T D → fr 180 180 I I' → Q (.returned (some (.int (I 179 8)))) (mX e I' G)) →
    Rn 130 85 [some (.ref 179), some (.int (nI fm)), some (.int (nI p))] [] (0, 0) (mX e I G) Q := by
  intro j
  induction j with
  | zero =>
    intro p I hp hD h1 h2 hQ
    have : p = 6 := by omega
    subst this
    refine g_X9_undo_85 (fun h => absurd h (by decide)) (fun h => absurd h (by decide)) (fun h => absurd h (by decide)) (fun h => absurd h (by decide)) (fun h => absurd h (by decide)) (fun _ => ?_)
    exact m_un146 (u := u) hfm 12 0 (by omega) hD (fun i hi => h1 i (by omega)) h2 hQ
  | succ j ih =>
    intro p I hp hD h1 h2 hQ
    have yes : nI p < 6 := nI_lt (b := 6) (by omega) (by omega)
    refine g_X9_undo_85 (fun _ => ?_) (fun _ => vi7 (w := 2) (by omega) (by omega)) (fun _ => ?_) (fun _ => vi7 (w := 3) (by omega) (by omega)) (fun _ => ?_) (fun h => absurd yes h)
    · rw [add_4]; exact vp_in_nI (by omega) (by omega)
    · rw [add_10]; exact vp_in_nI (by omega) (by omega)
    · have i2 : ((7 + 5 * nI p) + 2 : Int32).toNatClampNeg = 9 + 5 * p := by rw [show 9 + 5 * p = 7 + 5 * p + 2 by omega]; exact (ix7 p (by omega) 2 (by omega)).2
      have i3 : ((7 + 5 * nI p) + 3 : Int32).toNatClampNeg = 10 + 5 * p := by rw [show 10 + 5 * p = 7 + 5 * p + 3 by omega]; exact (ix7 p (by omega) 3 (by omega)).2
      rw [add_4, add_10, nI_clamp (by omega), nI_clamp (by omega), nI_1, i2, i3, show fm + 4 + p = fm + (4 + p) by omega, show fm + 10 + p = fm + (10 + p) by omega, hD _ (by omega), hD _ (by omega)]
      have en : nw (up2 (up2 I 180 (9 + 5 * p) (D (4 + p))) 180 (10 + 5 * p) (D (10 + p))) = up1 (up1 (nw I) (dp (4 + p)) (D (4 + p))) (dp (10 + p)) (D (10 + p)) := by
        rw [nw_up (by omega), nw_up (by omega), (dp_l.1 p (by omega)).1, (dp_l.1 p (by omega)).2]
      refine ih (p + 1) (by omega) (fun i hi => by rw [up2_ne (by omega), up2_ne (by omega)]; exact hD i hi) ?_ ?_ fun I' t' f' => ?_
      · intro i hi
        rw [en]
        by_cases ha : i = 10 + p
        · subst ha; rw [up1_at]
        · rw [up1_ne (fun q => ha (dp_inj (by omega) (by omega) q))]
          by_cases hb : i = 4 + p
          · subst hb; rw [up1_at]
          · rw [up1_ne (fun q => hb (dp_inj (by omega) (by omega) q))]; exact h1 i (by omega)
      · intro j hj; rw [en, up1_ne (hj _ (by omega)), up1_ne (hj _ (by omega))]; exact h2 j hj
      · rw [up2_ne (by omega), up2_ne (by omega)]; exact hQ I' t' (((fr.rf.up (by omega) (by omega)).up (by omega) (by omega)).tr f')
theorem sub1_8 : ∀ u, u < 8 → nI (u + 1) - 1 = nI u := by decide +kernel
theorem m_undoS {I : Nat → Nat → Int32} {u : Nat} (hu : I 179 8 = nI (u + 1)) (h8 : u < 8) (hQ : ∀ I', nw I' = putD (nw I) (mU I u) → I' 179 8 = nI u → (∀ k, k ≠ 179 → k ≠ 180 → I' k = I k) → (∀ f, f ≠ 8 → I' 179 f = I 179 f) → Q (.returned (some (.int (nI u)))) (mX e I' G)) : Rn 130 0 [some (.ref 179), none, none] [] (0, 0) (mX e I G) Q := by
  have ne0 : ¬ I 179 8 = 0 := by rw [hu]; exact nI_ne0 (by omega) (by omega)
  refine g_X9_undo_0 (fun q => absurd q ne0) (fun _ => ?_) (fun _ => ?_) (fun _ => ?_) (fun _ => ?_) (fun _ => ?_)
  all_goals rw [hu, sub1_8 u h8, mul_28]
  · exact vp_in_nI (by omega) (by omega)
  · rw [(add_k _).1]; exact vp_in_nI (by omega) (by omega)
  · rw [(add_k _).2.1]; exact vp_in_nI (by omega) (by omega)
  · rw [(add_k _).2.2]; exact vp_in_nI (by omega) (by omega)
  · rw [(add_k _).1, (add_k _).2.1, (add_k _).2.2, nI_clamp (by omega), nI_clamp (by omega), nI_clamp (by omega), nI_clamp (by omega)]
    have dv : ∀ i, i < 28 → I 184 (28 * u + i) = mU I u i := fun i hi => (if_pos hi).symm
    have e0 := dv 0 (by omega)
    rw [Nat.add_zero] at e0
    rw [e0, dv 1 (by omega), dv 2 (by omega), dv 3 (by omega)]
    have en : nw (up2 (up2 (up2 (up2 (up2 I 179 8 (nI u)) 180 2 (mU I u 0)) 180 4 (mU I u 1)) 180 5 (mU I u 2)) 180 6 (mU I u 3)) = up1 (up1 (up1 (up1 (nw I) (dp 0) (mU I u 0)) (dp 1) (mU I u 1)) (dp 2) (mU I u 2)) (dp 3) (mU I u 3) := by
      rw [nw_up (by omega), nw_up (by omega), nw_up (by omega), nw_up (by omega), nw_ne (by omega)]
      rfl
    refine m_un85 (u := u) (T := nw I) (D := mU I u) (by omega) 6 0 (by omega) (fun i hi => ?_) (fun i hi => ?_) (fun j hj => ?_) fun I' t' f' => ?_
    · rw [up2_ne (by omega), up2_ne (by omega), up2_ne (by omega), up2_ne (by omega), up2_ne (by omega)]; exact dv i hi
    · rw [en]
      have ne : ∀ a b, a < 4 → b < 4 → a ≠ b → dp a ≠ dp b := fun a b ha hb hab q => hab (dp_inj (by omega) (by omega) q)
      rcases (show i = 0 ∨ i = 1 ∨ i = 2 ∨ i = 3 by omega) with rfl | rfl | rfl | rfl
      · rw [up1_ne (ne 0 3 (by omega) (by omega) (by omega)), up1_ne (ne 0 2 (by omega) (by omega) (by omega)), up1_ne (ne 0 1 (by omega) (by omega) (by omega)), up1_at]
      · rw [up1_ne (ne 1 3 (by omega) (by omega) (by omega)), up1_ne (ne 1 2 (by omega) (by omega) (by omega)), up1_at]
      · rw [up1_ne (ne 2 3 (by omega) (by omega) (by omega)), up1_at]
      · rw [up1_at]
    · rw [en, up1_ne (hj 3 (by omega)), up1_ne (hj 2 (by omega)), up1_ne (hj 1 (by omega)), up1_ne (hj 0 (by omega))]
    · have e9 : up2 (up2 (up2 (up2 (up2 I 179 8 (nI u)) 180 2 (mU I u 0)) 180 4 (mU I u 1)) 180 5 (mU I u 2)) 180 6 (mU I u 3) 179 = up2 I 179 8 (nI u) 179 := by
        rw [up2_ne (by omega), up2_ne (by omega), up2_ne (by omega), up2_ne (by omega)]
      rw [show up2 (up2 (up2 (up2 (up2 I 179 8 (nI u)) 180 2 (mU I u 0)) 180 4 (mU I u 1)) 180 5 (mU I u 2)) 180 6 (mU I u 3) 179 8 = nI u from by rw [e9, up2_v]]
      refine hQ I' t' ?_ ?_ ?_
      · rw [f' 179 (by omega), e9, up2_v]
      · intro k h1 h2
        rw [f' k (by omega), up2_ne h2, up2_ne h2, up2_ne h2, up2_ne h2, up2_ne h1]
      · intro f hf; rw [f' 179 (by omega), e9, up2_i hf]
end S61
