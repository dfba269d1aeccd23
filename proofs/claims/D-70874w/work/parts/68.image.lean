/-! image, restore -/
def imgF (σ : Sg) : Int32 × Sg := (1, (σ.1, σ.2.1, σ.2.2.1, (true, σ.1, σ.2.1.1, σ.2.1.2), σ.2.2.2.2))
def rstF (σ : Sg) : Int32 × Sg := if σ.2.2.2.1.1 = true then (1, (σ.2.2.2.1.2.1, (σ.2.2.2.1.2.2.1, σ.2.2.2.1.2.2.2), σ.2.2)) else (-4, σ)
/-- the places of the image -/
def inKept (k : Nat) : Prop := ∃ q, q < 8 ∧ 59 + 16 * q ≤ k ∧ k ≤ 59 + 16 * q + 7
section S68
theorem c_imgLoop {e : En} {G : Nat → Nat → Int64} {Q : Po} {π : Nat → Nat} {u : Nat} {U : Nat → Nat → Int32} : ∀ j k {I : Nat → Nat → Int32}, k + j = u → cUn e I π u U → (∀ q, q < k → dayT (twn I (59 + 16 * q)) = U q) → (∀ I', (∀ q, q < u → dayT (twn I' (59 + 16 * q)) = U q) → (∀ q, ¬ inKept q → I' q = I q) → Q (.returned (some (.int 1))) (mX e (up2 (up2 I' 0 15 (nI u)) 0 16 1) G)) →
    Rn 58 13 [some (.ref 0), some (.int (nI k))] [] (0, 0) (mX e I G) Q := by
  intro j
  induction j with
  | zero =>
    intro k I hk hc hd hQ
    have : k = u := by omega
    subst this
    obtain ⟨a1, a2, a3, a4⟩ := hc
    have no : ¬ nI k < I 0 8 := by rw [a2]; exact nI_nlt (Nat.le_refl _) (by omega)
    refine g_X0_image_13 (q1 := 0) (q2 := 0) (fun h => absurd h no) (fun h => absurd h no) (fun h => absurd h no) (fun h => absurd h no) (fun h => absurd h no) (fun _ => ?_)
    rw [a2]
    exact hQ I hd (fun _ _ => rfl)
  | succ j ih =>
    intro k I hk hc hd hQ
    obtain ⟨a1, a2, a3, a4⟩ := id hc
    obtain ⟨p1, p2⟩ := a1.1 k (by omega)
    have yes : nI k < I 0 8 := by rw [a2]; exact nI_lt (by omega) (by omega)
    have hkp : (mkE e).2.1 45 k = .ref (59 + 16 * k) := by
      match k, (show k < 8 by omega) with
      | 0, _ => rfl
      | 1, _ => rfl
      | 2, _ => rfl
      | 3, _ => rfl
      | 4, _ => rfl
      | 5, _ => rfl
      | 6, _ => rfl
      | 7, _ => rfl
      | n + 8, h => exact absurd h (by omega)
    refine g_X0_image_13 (q1 := 59 + 16 * k) (q2 := 51 + 16 * π k) (fun _ => vp_in_nI (by omega) (by omega)) (fun _ => ?_) (fun _ => ?_) (fun _ => (stp_kept k (by omega)).1) (fun _ => ?_) (fun h => absurd yes h)
    · rw [nI_clamp (by omega)]; exact hkp
    · rw [nI_clamp (by omega)]; exact p1
    · refine c_takeDay (stp_past (π k) p2) (stp_kept k (by omega)) (by unfold apart; omega) fun I1 t1 f1 => g_X0_image_36 ?_
      rw [nI_1]
      have fo : ∀ q, ¬ inKept q → I1 q = I q := fun q hq => f1 q (by
        rcases Nat.lt_or_ge q (59 + 16 * k) with w | w
        · exact Or.inl w
        · right
          rcases Nat.lt_or_ge (59 + 16 * k + 7) q with w2 | w2
          · exact w2
          · exact absurd ⟨k, by omega, w, w2⟩ hq)
      refine ih (k + 1) (by omega) (cUn_con hc (by rw [fo 0 (fun ⟨q, b1, b2, b3⟩ => by omega)]) (fun q ⟨w, b1, b2, b3⟩ => fo q (fun ⟨v, c1, c2, c3⟩ => by omega))) ?_ fun I' h1 h2 => hQ I' h1 (fun q hq => (h2 q hq).trans (fo q hq))
      intro q hq
      by_cases hqk : q = k
      · subst hqk
        rw [t1, dayT_putD dayT_28]
        exact a4 q (by omega)
      · rw [f1.twn (by omega)]; exact hd q (by omega)
theorem c_image : oC 58 [some (.ref 0), none] imgF := by
  intro e I G Q σ hC hO hQ
  obtain ⟨⟨π, a⟩, b, c, ⟨d1, d2⟩, g⟩ := hC
  refine g_X0_image_0 (c_takeFrom stp_7 stp_37 (Or.inr (by decide)) fun I1 t1 f1 => g_X0_image_11 ?_)
  have a' := cUn_con a (I' := I1) (by rw [f1 0 (by omega)]) (fun k ⟨q, b1, b2, b3⟩ => f1 k (by omega))
  refine c_imgLoop σ.2.1.1 0 (by omega) a' (fun q hq => absurd hq (Nat.not_lt_zero _)) fun I2 h1 h2 => ?_
  have nk : ∀ q, (q < 59 ∨ 178 < q) → ¬ inKept q := fun q hq ⟨w, b1, b2, b3⟩ => by omega
  have fk : ∀ q, q ≠ 0 → (q < 37 ∨ 178 < q) → up2 (up2 I2 0 15 (nI σ.2.1.1)) 0 16 1 q = I q := fun q h0 hq => by
    rw [up2_ne h0, up2_ne h0, h2 q (nk q (by omega)), f1 q (by omega)]
  have f0 : ∀ f, f ≠ 15 → f ≠ 16 → up2 (up2 I2 0 15 (nI σ.2.1.1)) 0 16 1 0 f = I 0 f := fun f q1 q2 => by
    rw [up2_i q2, up2_i q1, h2 0 (nk 0 (by omega)), f1 0 (by omega)]
  refine hQ e _ G ⟨⟨π, ?_⟩, ?_, ?_, ⟨up2_v, fun _ => ⟨?_, ?_, a.2.2.1, fun k hk => ?_⟩⟩, shC_con g (fun k hk => fk k (by omega) (by omega)) (fun _ _ => rfl)⟩ ⟨rfl, fun k q1 q2 => ⟨fk k (by omega) (by omega), rfl⟩⟩
  · refine cUn_con a (f0 8 (by omega) (by omega)) (fun k ⟨q, b1, b2, b3⟩ => ?_)
    rw [up2_ne (by omega), up2_ne (by omega), h2 k (fun ⟨w, c1, c2, c3⟩ => by omega), f1 k (by omega)]
  · show _ = σ.1
    rw [← b]; exact twn_con fun o ho => fk _ (by omega) (by omega)
  · rw [f0 4 (by omega) (by omega), fk 16 (by omega) (by omega)]; exact c
  · show twn (up2 (up2 I2 0 15 (nI σ.2.1.1)) 0 16 1) 37 = σ.1
    rw [twn_ne (by omega), twn_ne (by omega), twn_con fun o ho => h2 (37 + o) (nk _ (by omega)), t1]; exact b
  · rw [up2_i (by omega), up2_v]; rfl
  · show dayT (twn (up2 (up2 I2 0 15 (nI σ.2.1.1)) 0 16 1) (59 + 16 * k)) = σ.2.1.2 k
    rw [twn_ne (by omega), twn_ne (by omega)]; exact h1 k hk
theorem m_im1 {e : En} {G : Nat → Nat → Int64} {Q : Po} : ∀ j k {I : Nat → Nat → Int32}, k + j = 49 → (∀ I', (∀ i, k ≤ i → i < 49 → I' 187 i = I 180 i) → (∀ i, i < k → I' 187 i = I 187 i) → fr 187 187 I I' → Rn 151 28 [some (.ref 179), some (.int 0)] [] (0, 0) (mX e I' G) Q) → Rn 151 2 [some (.ref 179), some (.int (nI k))] [] (0, 0) (mX e I G) Q := by
  intro j
  induction j with
  | zero =>
    intro k I hk hQ
    have : k = 49 := by omega
    subst this
    exact g_X9_image_2 (fun h => absurd h (by decide)) (fun h => absurd h (by decide)) (fun h => absurd h (by decide)) (fun _ => hQ I (fun i h1 h2 => by omega) (fun _ _ => rfl) fr.rf)
  | succ j ih =>
    intro k I hk hQ
    refine g_X9_image_2 (fun _ => vp_in_nI (by omega) (by omega)) (fun _ => vp_in_nI (by omega) (by omega)) (fun _ => ?_) (fun h => absurd (nI_lt (b := 49) (by omega) (by omega)) h)
    rw [nI_1, nI_clamp (by omega)]
    refine ih (k + 1) (by omega) fun I' h1 h2 h3 => hQ I' ?_ ?_ ?_
    · intro i a1 a2
      by_cases hi : i = k
      · subst hi; rw [h2 i (by omega), up2_v]
      · rw [h1 i (by omega) a2, up2_ne (by omega)]
    · intro i a1; rw [h2 i (by omega), up2_i (by omega)]
    · intro q hq; rw [h3 q hq, up2_ne (by omega)]
theorem m_im2 {e : En} {G : Nat → Nat → Int64} {Q : Po} : ∀ j k {I : Nat → Nat → Int32}, k + j = 224 → (∀ I', (∀ i, k ≤ i → i < 224 → I' 187 (49 + i) = I 184 i) → (∀ i, i < 49 + k → I' 187 i = I 187 i) → fr 187 187 I I' → Q (.returned (some (.int 1))) (mX e (up2 (up2 I' 179 12 (I' 179 8)) 179 13 1) G)) → Rn 151 28 [some (.ref 179), some (.int (nI k))] [] (0, 0) (mX e I G) Q := by
  intro j
  induction j with
  | zero =>
    intro k I hk hQ
    have : k = 224 := by omega
    subst this
    exact g_X9_image_28 (fun h => absurd h (by decide)) (fun h => absurd h (by decide)) (fun h => absurd h (by decide)) (fun _ => hQ I (fun i h1 h2 => by omega) (fun _ _ => rfl) fr.rf)
  | succ j ih =>
    intro k I hk hQ
    refine g_X9_image_28 (fun _ => vp_in_nI (by omega) (by omega)) (fun _ => ?_) (fun _ => ?_) (fun h => absurd (nI_lt (b := 224) (by omega) (by omega)) h)
    · rw [add_49]; exact vp_in_nI (by omega) (by omega)
    · rw [add_49, nI_1, nI_clamp (by omega), nI_clamp (by omega)]
      refine ih (k + 1) (by omega) fun I' h1 h2 h3 => hQ I' ?_ ?_ ?_
      · intro i a1 a2
        by_cases hi : i = k
        · subst hi; rw [h2 _ (by omega), up2_v]
        · rw [h1 i (by omega) a2, up2_ne (by omega)]
      · intro i a1; rw [h2 i (by omega), up2_i (by omega)]
      · intro q hq; rw [h3 q hq, up2_ne (by omega)]
theorem m_image : oM 151 [some (.ref 179), none] imgF := by
  intro e I G Q σ hC hO hQ
  obtain ⟨⟨a1, a2, a3⟩, b, c, ⟨d1, d2⟩, g⟩ := hC
  refine g_X9_image_0 (m_im1 49 0 (by omega) fun I1 h1 _ f1 => m_im2 224 0 (by omega) fun I2 h2 h3 f2 => ?_)
  have fI : fr 187 187 I I2 := f1.tr f2
  have e8 : I2 179 8 = nI σ.2.1.1 := by rw [fI 179 (by omega)]; exact a1
  rw [e8]
  have fk : ∀ q, q ≠ 179 → q ≠ 187 → up2 (up2 I2 179 12 (nI σ.2.1.1)) 179 13 1 q = I q := fun q q1 q2 => by rw [up2_ne q1, up2_ne q1, fI q (by omega)]
  have f0 : ∀ f, f ≠ 12 → f ≠ 13 → up2 (up2 I2 179 12 (nI σ.2.1.1)) 179 13 1 179 f = I 179 f := fun f q1 q2 => by rw [up2_i q2, up2_i q1, fI 179 (by omega)]
  refine hQ _ G ⟨⟨?_, a2, fun k hk => ?_⟩, ?_, ?_, ⟨up2_v, fun _ => ⟨?_, ?_, fun k hk => ?_⟩⟩, fun s hs => ?_⟩ (fun k hk => ⟨fk k (by omega) (by omega), rfl⟩)
  · rw [f0 8 (by omega) (by omega)]; exact a1
  · show mU (up2 (up2 I2 179 12 (nI σ.2.1.1)) 179 13 1) k = σ.2.1.2 k
    rw [← a3 k hk]; unfold mU; rw [fk 184 (by omega) (by omega)]
  · rw [nw_con (fk 180 (by omega) (by omega))]; exact b
  · rw [f0 2 (by omega) (by omega), fk 181 (by omega) (by omega)]; exact c
  · show cut (up2 (up2 I2 179 12 (nI σ.2.1.1)) 179 13 1 187) = σ.1
    rw [up2_ne (by omega), up2_ne (by omega), ← b]
    funext i
    show (if i < 49 then I2 187 i else 0) = (if i < 49 then I 180 i else 0)
    split
    · rw [h3 i (by omega), h1 i (by omega) (by assumption)]
    · rfl
  · rw [up2_i (by omega), up2_v]; rfl
  · show kU (up2 (up2 I2 179 12 (nI σ.2.1.1)) 179 13 1) k = σ.2.1.2 k
    have hk' : k < σ.2.1.1 := hk
    rw [← a3 k hk]
    funext i
    unfold kU mU
    rw [up2_ne (by omega), up2_ne (by omega)]
    by_cases hi : i < 28
    · rw [if_pos hi, if_pos hi, h2 _ (by omega) (by omega), f1 184 (by omega)]
    · rw [if_neg hi, if_neg hi]
  · rw [fk 188 (by omega) (by omega), fk 189 (by omega) (by omega)]; exact g s hs
theorem k_image : oK imgF := fun _ h => ⟨h.1, h.2.1, fun _ => h.1, h.2.2.2⟩
theorem c_rstLoop {e : En} {G : Nat → Nat → Int64} {Q : Po} {π : Nat → Nat} {u : Nat} {U : Nat → Nat → Int32} (hp : pastP e π) (hu : u ≤ 8) : ∀ j k {I : Nat → Nat → Int32}, k + j = u → I 0 15 = nI u → (∀ q, q < u → dayT (twn I (59 + 16 * q)) = U q) → (∀ q, q < k → dayT (twn I (51 + 16 * π q)) = U q) → (∀ I', (∀ q, q < u → dayT (twn I' (51 + 16 * π q)) = U q) → (∀ q, ¬ inPast q → I' q = I q) → Q (.returned (some (.int 1))) (mX e (up2 I' 0 8 (nI u)) G)) →
    Rn 59 23 [some (.ref 0), some (.int (nI k))] [] (0, 0) (mX e I G) Q := by
  intro j
  induction j with
  | zero =>
    intro k I hk h15 hK hd hQ
    have : k = u := by omega
    subst this
    have no : ¬ nI k < I 0 15 := by rw [h15]; exact nI_nlt (Nat.le_refl _) (by omega)
    refine g_X0_restore_23 (q1 := 0) (q2 := 0) (fun h => absurd h no) (fun h => absurd h no) (fun h => absurd h no) (fun h => absurd h no) (fun h => absurd h no) (fun _ => ?_)
    rw [h15]
    exact hQ I hd (fun _ _ => rfl)
  | succ j ih =>
    intro k I hk h15 hK hd hQ
    obtain ⟨p1, p2⟩ := hp.1 k (by omega)
    have yes : nI k < I 0 15 := by rw [h15]; exact nI_lt (by omega) (by omega)
    have hkp : (mkE e).2.1 45 k = .ref (59 + 16 * k) := by
      match k, (show k < 8 by omega) with
      | 0, _ => rfl
      | 1, _ => rfl
      | 2, _ => rfl
      | 3, _ => rfl
      | 4, _ => rfl
      | 5, _ => rfl
      | 6, _ => rfl
      | 7, _ => rfl
      | n + 8, h => exact absurd h (by omega)
    refine g_X0_restore_23 (q1 := 51 + 16 * π k) (q2 := 59 + 16 * k) (fun _ => vp_in_nI (by omega) (by omega)) (fun _ => ?_) (fun _ => ?_) (fun _ => (stp_past (π k) p2).1) (fun _ => ?_) (fun h => absurd yes h)
    · rw [nI_clamp (by omega)]; exact p1
    · rw [nI_clamp (by omega)]; exact hkp
    · refine c_takeDay (stp_kept k (by omega)) (stp_past (π k) p2) (by unfold apart; omega) fun I1 t1 f1 => g_X0_restore_46 ?_
      rw [nI_1]
      have fo : ∀ q, ¬ inPast q → I1 q = I q := fun q hq => f1 q (by
        rcases Nat.lt_or_ge q (51 + 16 * π k) with w | w
        · exact Or.inl w
        · right
          rcases Nat.lt_or_ge (51 + 16 * π k + 7) q with w2 | w2
          · exact w2
          · exact absurd ⟨π k, p2, w, w2⟩ hq)
      refine ih (k + 1) (by omega) (by rw [fo 0 (fun ⟨q, b1, b2, b3⟩ => by omega)]; exact h15) (fun q hq => ?_) ?_ fun I' h1 h2 => hQ I' h1 (fun q hq => (h2 q hq).trans (fo q hq))
      · rw [f1.twn (by omega)]; exact hK q hq
      · intro q hq
        by_cases hqk : q = k
        · subst hqk
          rw [t1, dayT_putD dayT_28]
          exact hK q (by omega)
        · have hne : π q ≠ π k := fun w => hqk (hp.2 q k (by omega) (by omega) w)
          rw [f1.twn (by omega)]; exact hd q (by omega)
theorem c_restore : oC 59 [some (.ref 0), none] rstF := by
  intro e I G Q σ hC hO hQ
  obtain ⟨⟨π, a⟩, b, c, ⟨d1, d2⟩, g⟩ := id hC
  unfold rstF at hQ
  by_cases hk : σ.2.2.2.1.1 = true
  · rw [if_pos hk] at hQ
    obtain ⟨e1, e2, e3, e4⟩ := d2 hk
    have ne : ¬ I 0 16 = 0 := by rw [d1, hk]; decide
    refine g_X0_restore_0 (fun h => absurd h ne) (fun _ => c_takeFrom stp_37 stp_7 (Or.inl (by decide)) fun I1 t1 f1 => g_X0_restore_21 ?_)
    refine c_rstLoop (U := σ.2.2.2.1.2.2.2) a.1 e3 σ.2.2.2.1.2.2.1 0 (by omega) (by rw [f1 0 (by omega)]; exact e2) (fun q hq => by rw [f1.twn (by omega)]; exact e4 q hq) (fun q hq => absurd hq (Nat.not_lt_zero _)) fun I2 h1 h2 => ?_
    have np : ∀ k, (k < 51 ∨ 178 < k) → ¬ inPast k := fun k hk ⟨q, a1, a2, a3⟩ => by omega
    have fk : ∀ q, 14 < q → ¬ inPast q → up2 I2 0 8 (nI σ.2.2.2.1.2.2.1) q = I q := fun q q1 q2 => by rw [up2_ne (by omega), h2 q q2, f1 q (by omega)]
    have f0 : ∀ f, f ≠ 8 → up2 I2 0 8 (nI σ.2.2.2.1.2.2.1) 0 f = I 0 f := fun f q => by rw [up2_i q, h2 0 (np 0 (by omega)), f1 0 (by omega)]
    refine hQ e _ G ⟨⟨π, a.1, up2_v, e3, fun k hk2 => ?_⟩, ?_, ?_, ⟨?_, fun _ => ⟨?_, ?_, e3, fun k hk2 => ?_⟩⟩, shC_con g (fun k hk => fk k (by omega) (np k (by omega))) (fun _ _ => rfl)⟩ ⟨rfl, fun k q1 q2 => ⟨fk k (by omega) (np k (by omega)), rfl⟩⟩
    · show dayT (twn (up2 I2 0 8 (nI σ.2.2.2.1.2.2.1)) (51 + 16 * π k)) = σ.2.2.2.1.2.2.2 k
      rw [twn_ne (by omega)]; exact h1 k hk2
    · show twn (up2 I2 0 8 (nI σ.2.2.2.1.2.2.1)) 7 = σ.2.2.2.1.2.1
      rw [twn_ne (by omega), twn_con fun o ho => h2 (7 + o) (np _ (by omega)), t1]; exact e1
    · rw [f0 4 (by omega), fk 16 (by omega) (np 16 (by omega))]; exact c
    · rw [f0 16 (by omega)]; exact d1
    · show twn (up2 I2 0 8 (nI σ.2.2.2.1.2.2.1)) 37 = σ.2.2.2.1.2.1
      rw [twn_con fun o ho => fk _ (by omega) (np _ (by omega))]; exact e1
    · rw [f0 15 (by omega)]; exact e2
    · show dayT (twn (up2 I2 0 8 (nI σ.2.2.2.1.2.2.1)) (59 + 16 * k)) = σ.2.2.2.1.2.2.2 k
      have hk3 : k < σ.2.2.2.1.2.2.1 := hk2
      rw [twn_con fun o ho => fk _ (by omega) (fun ⟨q, a1, a2, a3⟩ => by omega)]; exact e4 k hk2
  · rw [if_neg hk] at hQ
    have ne : I 0 16 = 0 := by rw [d1]; cases hq : σ.2.2.2.1.1 with
      | false => rfl
      | true => exact absurd hq hk
    exact g_X0_restore_0 (fun _ => hQ e I G hC keepC.rf) (fun h => absurd ne h)
theorem m_rs1 {e : En} {G : Nat → Nat → Int64} {Q : Po} : ∀ j k {I : Nat → Nat → Int32}, k + j = 49 → (∀ I', (∀ i, k ≤ i → i < 49 → I' 180 i = I 187 i) → (∀ i, i < k → I' 180 i = I 180 i) → fr 180 180 I I' → Rn 152 38 [some (.ref 179), some (.int 0)] [] (0, 0) (mX e I' G) Q) → Rn 152 12 [some (.ref 179), some (.int (nI k))] [] (0, 0) (mX e I G) Q := by
  intro j
  induction j with
  | zero =>
    intro k I hk hQ
    have : k = 49 := by omega
    subst this
    exact g_X9_restore_12 (fun h => absurd h (by decide)) (fun h => absurd h (by decide)) (fun h => absurd h (by decide)) (fun _ => hQ I (fun i h1 h2 => by omega) (fun _ _ => rfl) fr.rf)
  | succ j ih =>
    intro k I hk hQ
    refine g_X9_restore_12 (fun _ => vp_in_nI (by omega) (by omega)) (fun _ => vp_in_nI (by omega) (by omega)) (fun _ => ?_) (fun h => absurd (nI_lt (b := 49) (by omega) (by omega)) h)
    rw [nI_1, nI_clamp (by omega)]
    refine ih (k + 1) (by omega) fun I' h1 h2 h3 => hQ I' ?_ ?_ ?_
    · intro i a1 a2
      by_cases hi : i = k
      · subst hi; rw [h2 i (by omega), up2_v]
      · rw [h1 i (by omega) a2, up2_ne (by omega)]
    · intro i a1; rw [h2 i (by omega), up2_i (by omega)]
    · intro q hq; rw [h3 q hq, up2_ne (by omega)]
theorem m_rs2 {e : En} {G : Nat → Nat → Int64} {Q : Po} : ∀ j k {I : Nat → Nat → Int32}, k + j = 224 → (∀ I', (∀ i, k ≤ i → i < 224 → I' 184 i = I 187 (49 + i)) → (∀ i, i < k → I' 184 i = I 184 i) → fr 184 184 I I' → Q (.returned (some (.int 1))) (mX e (up2 I' 179 8 (I' 179 12)) G)) → Rn 152 38 [some (.ref 179), some (.int (nI k))] [] (0, 0) (mX e I G) Q := by
  intro j
  induction j with
  | zero =>
    intro k I hk hQ
    have : k = 224 := by omega
    subst this
    exact g_X9_restore_38 (fun h => absurd h (by decide)) (fun h => absurd h (by decide)) (fun h => absurd h (by decide)) (fun _ => hQ I (fun i h1 h2 => by omega) (fun _ _ => rfl) fr.rf)
  | succ j ih =>
    intro k I hk hQ
    refine g_X9_restore_38 (fun _ => ?_) (fun _ => vp_in_nI (by omega) (by omega)) (fun _ => ?_) (fun h => absurd (nI_lt (b := 224) (by omega) (by omega)) h)
    · rw [add_49]; exact vp_in_nI (by omega) (by omega)
    · rw [add_49, nI_1, nI_clamp (by omega), nI_clamp (by omega)]
      refine ih (k + 1) (by omega) fun I' h1 h2 h3 => hQ I' ?_ ?_ ?_
      · intro i a1 a2
        by_cases hi : i = k
        · subst hi; rw [h2 _ (by omega), up2_v]
        · rw [h1 i (by omega) a2, up2_ne (by omega)]
      · intro i a1; rw [h2 i (by omega), up2_i (by omega)]
      · intro q hq; rw [h3 q hq, up2_ne (by omega)]
theorem m_restore : oM 152 [some (.ref 179), none] rstF := by
  intro e I G Q σ hC hO hQ
  obtain ⟨⟨a1, a2, a3⟩, b, c, ⟨d1, d2⟩, g⟩ := id hC
  unfold rstF at hQ
  by_cases hk : σ.2.2.2.1.1 = true
  · rw [if_pos hk] at hQ
    obtain ⟨e1, e2, e3⟩ := d2 hk
    have k8 : σ.2.2.2.1.2.2.1 ≤ 8 := by obtain ⟨-, -, hkk, -⟩ := hO; obtain ⟨n, m, d, -, -, -, hu, -⟩ := hkk hk; exact hu
    have ne : ¬ I 179 13 = 0 := by rw [d1, hk]; decide
    refine g_X9_restore_0 (fun h => absurd h ne) (fun _ => m_rs1 49 0 (by omega) fun I1 h1 _ f1 => m_rs2 224 0 (by omega) fun I2 h2 _ f2 => ?_)
    have e9 : I2 179 = I 179 := by rw [f2 179 (by omega), f1 179 (by omega)]
    rw [show I2 179 12 = nI σ.2.2.2.1.2.2.1 from by rw [e9]; exact e2]
    have fk : ∀ q, q ≠ 179 → q ≠ 180 → q ≠ 184 → up2 I2 179 8 (nI σ.2.2.2.1.2.2.1) q = I q := fun q q1 q2 q3 => by rw [up2_ne q1, f2 q (by omega), f1 q (by omega)]
    have f0 : ∀ f, f ≠ 8 → up2 I2 179 8 (nI σ.2.2.2.1.2.2.1) 179 f = I 179 f := fun f q => by rw [up2_i q, e9]
    refine hQ _ G ⟨⟨up2_v, k8, fun k hk2 => ?_⟩, ?_, ?_, ⟨?_, fun _ => ⟨?_, ?_, fun k hk2 => ?_⟩⟩, fun s hs => ?_⟩ (fun k hk => ⟨fk k (by omega) (by omega) (by omega), rfl⟩)
    · show mU (up2 I2 179 8 (nI σ.2.2.2.1.2.2.1)) k = σ.2.2.2.1.2.2.2 k
      have hk3 : k < σ.2.2.2.1.2.2.1 := hk2
      rw [← e3 k hk3]
      funext i
      unfold kU mU
      rw [up2_ne (by omega)]
      by_cases hi : i < 28
      · rw [if_pos hi, if_pos hi, h2 _ (by omega) (by omega), f1 187 (by omega)]
      · rw [if_neg hi, if_neg hi]
    · show nw (up2 I2 179 8 (nI σ.2.2.2.1.2.2.1)) = σ.2.2.2.1.2.1
      rw [nw_ne (by omega), nw_con (f2 180 (by omega)), ← e1]
      funext i
      show (if i < 49 then I1 180 i else 0) = (if i < 49 then I 187 i else 0)
      split
      · exact h1 i (by omega) (by assumption)
      · rfl
    · rw [f0 2 (by omega), fk 181 (by omega) (by omega) (by omega)]; exact c
    · rw [f0 13 (by omega)]; exact d1
    · show cut (up2 I2 179 8 (nI σ.2.2.2.1.2.2.1) 187) = σ.2.2.2.1.2.1
      rw [fk 187 (by omega) (by omega) (by omega)]; exact e1
    · rw [f0 12 (by omega)]; exact e2
    · show kU (up2 I2 179 8 (nI σ.2.2.2.1.2.2.1)) k = σ.2.2.2.1.2.2.2 k
      rw [← e3 k hk2]; unfold kU; rw [fk 187 (by omega) (by omega) (by omega)]
    · rw [fk 188 (by omega) (by omega) (by omega), fk 189 (by omega) (by omega) (by omega)]; exact g s hs
  · rw [if_neg hk] at hQ
    have ne : I 179 13 = 0 := by rw [d1]; cases hq : σ.2.2.2.1.1 with
      | false => rfl
      | true => exact absurd hq hk
    exact g_X9_restore_0 (fun _ => hQ I G hC keepM.rf) (fun h => absurd ne h)
theorem k_restore : oK rstF := by
  intro σ h
  unfold rstF
  by_cases hk : σ.2.2.2.1.1 = true
  · rw [if_pos hk]; exact ⟨h.2.2.1 hk, h.2⟩
  · rw [if_neg hk]; exact h
end S68
