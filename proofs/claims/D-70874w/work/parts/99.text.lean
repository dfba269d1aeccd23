/-! what is read is in order -/
section S99
variable {T : Nat → Int32} {q k i n m : Nat}
theorem num_ran {lo hi v : Int32} {a b : Nat} (hl : lo.toInt64 = lN a) (hh : hi.toInt64 = lN b) (ha : a < 2 ^ 31) (hb : b < 2 ^ 31) (h : num T q lo hi i = .inr (v, k)) : ∃ w, a ≤ w ∧ w ≤ b ∧ v = nI w := by
  unfold num at h
  split at h
  · split at h
    · rename_i hx
      rw [hl, hh] at hx
      have e1 : (digs T q 3 (sk T q i) 0).1 = v := by
        have := Sum.inr.inj h
        rw [this]
      rw [e1] at hx
      exact inR hx ha hb
    · cases h
  · cases h
theorem dig_ran {v : Int32} (hn : n ≤ 6) (h : dig T q 0 (nI n - 1) i = .inr (v, k)) : ∃ w, w < n ∧ v = nI w := by
  unfold dig at h
  split at h
  · rename_i hx
    have h2 := hx.2
    cases h
    exact isP hn h2
  · cases h
theorem kinA_ran (hn : n ≤ 6) : ∀ r l a i v k, kinA T q n r l a i = .inr (v, k) → l < n → a < 2 ^ (l + 1) → ∃ b, b < 2 ^ n ∧ v = nI b := by
  intro r
  have base : ∀ l a, l < n → a < 2 ^ (l + 1) → a < 2 ^ n := fun l a hl ha => Nat.lt_of_lt_of_le ha (Nat.pow_le_pow_right (by omega) hl)
  induction r with
  | zero =>
    intro l a i v k h hl ha
    unfold kinA at h
    split at h
    · cases h
    · cases h
      exact ⟨a, base l a hl ha, rfl⟩
  | succ r ih =>
    intro l a i v k h hl ha
    unfold kinA at h
    split at h
    · split at h
      · rename_i hx
        rw [nI_1, show n = n - 1 + 1 by omega, nI_pred, nI_l (by omega), nI_l (by omega)] at hx
        obtain ⟨v', a1, a2, e1⟩ := inR (lo := l + 1) (hi := n - 1) hx (by omega) (by omega)
        rw [e1, nI_clamp (by omega)] at h
        refine ih v' _ _ v k h (by omega) ?_
        have : a < 2 ^ v' := Nat.lt_of_lt_of_le ha (Nat.pow_le_pow_right (by omega) a1)
        rw [Nat.pow_succ]
        omega
      · cases h
    · cases h
      exact ⟨a, base l a hl ha, rfl⟩
theorem kn_ran {v : Int32} (hn : n ≤ 6) (h : knR T q n i = .inr (v, k)) : ∃ b, b < 2 ^ n ∧ v = nI b := by
  unfold knR at h
  split at h
  · unfold kinR at h
    obtain ⟨w, k2, h1, h2⟩ := bnd_inr h
    obtain ⟨w', hw, rfl⟩ := dig_ran hn h1
    rw [nI_clamp (by omega)] at h2
    refine kinA_ran hn _ _ _ _ _ _ h2 hw ?_
    rw [Nat.pow_succ]
    have := Nat.two_pow_pos w'
    omega
  · cases h
    exact ⟨0, Nat.two_pow_pos n, rfl⟩
theorem bit_ran : ∀ n, n < 7 → ∀ b, b < 2 ^ n → ∀ q, q < 32 → bit (nI b) (nI q) → q < n := by decide +kernel
theorem kind_ran {c : Int32} (h : ¬ kindS c < 0) : ∃ a, a < 5 ∧ kindS c = nI a := by
  unfold kindS at h ⊢
  split at h
  · rename_i h1; rw [if_pos h1]; exact ⟨0, by omega, rfl⟩
  · rename_i h1
    split at h
    · rename_i h2; rw [if_neg h1, if_pos h2]; exact ⟨1, by omega, rfl⟩
    · rename_i h2
      split at h
      · rename_i h3; rw [if_neg h1, if_neg h2, if_pos h3]; exact ⟨2, by omega, rfl⟩
      · rename_i h3
        split at h
        · rename_i h4; rw [if_neg h1, if_neg h2, if_neg h3, if_pos h4]; exact ⟨3, by omega, rfl⟩
        · rename_i h4
          split at h
          · rename_i h5; rw [if_neg h1, if_neg h2, if_neg h3, if_neg h4, if_pos h5]; exact ⟨4, by omega, rfl⟩
          · exact absurd (by decide) h
def gdP (n : Nat) (x : Prs) : Prop := ∃ a b c d, a < 5 ∧ b < 100 ∧ c ≤ 60 ∧ d < 2 ^ n ∧ x = (nI a, nI b, nI c, nI d)
def gdC (n : Nat) (x : Cas) : Prop := ∃ a, a ≤ 20 ∧ x.1 = nI a ∧ (x.2 = -4 ∨ ∃ k, k < n ∧ x.2 = nI k)
theorem pers_ran {x : Prs} (hn : n ≤ 6) (h : pers T q n i = .inr (x, k)) : gdP n x := by
  unfold pers at h
  obtain ⟨kd, i0, h1, h⟩ := bnd_inr h
  obtain ⟨w, i1, h2, h⟩ := bnd_inr h
  obtain ⟨l, i2, h3, h⟩ := bnd_inr h
  obtain ⟨kn, i3, h4, h⟩ := bnd_inr h
  cases h
  obtain ⟨d, hd, rfl⟩ := kn_ran hn h4
  obtain ⟨b, hb1, hb2, rfl⟩ := num_ran (a := 1) (b := 99) (by decide) (by decide) (by omega) (by omega) h2
  have hc : ∃ c, c ≤ 60 ∧ l = nI c := by
    unfold linR at h3
    split at h3
    · obtain ⟨c, -, hc, e1⟩ := num_ran (a := 0) (b := 60) (by decide) (by decide) (by omega) (by omega) h3
      exact ⟨c, hc, e1⟩
    · cases h3
      exact ⟨0, by omega, rfl⟩
  obtain ⟨c, hc, rfl⟩ := hc
  unfold kndR at h1
  split at h1
  · rename_i hx
    cases h1
    obtain ⟨a, ha, e1⟩ := kind_ran hx.2
    exact ⟨a, b, c, d, ha, by omega, hc, hd, by rw [e1]⟩
  · cases h1
theorem cas_ran {x : Cas} (hn : n ≤ 6) (h : casR T q n i = .inr (x, k)) : gdC n x := by
  unfold casR at h
  obtain ⟨v, i0, h1, h⟩ := bnd_inr h
  obtain ⟨a, i1, h2, h⟩ := bnd_inr h
  cases h
  obtain ⟨b, -, hb2, rfl⟩ := num_ran (a := 0) (b := 20) (by decide) (by decide) (by omega) (by omega) h1
  refine ⟨b, hb2, rfl, ?_⟩
  unfold accR at h2
  split at h2
  · exact Or.inr (dig_ran hn h2)
  · cases h2
    exact Or.inl rfl
def gdL : Nat → List Prs → Prop
  | _, [] => True
  | n, x :: xs => gdP n x ∧ gdL (n + 1) xs
theorem plist_ran : ∀ r n i xs k, n + r ≤ 6 → plist T q r n i = .inr (xs, k) → gdL n xs := by
  intro r
  induction r with
  | zero => intro n i xs k hn h; cases h; exact trivial
  | succ r ih =>
    intro n i xs k hn h
    unfold plist at h
    split at h
    · obtain ⟨x, k1, h1, h⟩ := bnd_inr h
      obtain ⟨ys, k2, h2, h⟩ := bnd_inr h
      cases h
      exact ⟨pers_ran (by omega) h1, ih (n + 1) k1 ys _ (by omega) h2⟩
    · cases h; exact trivial
theorem clist_ran (hn : n ≤ 6) : ∀ r i xs k, clist T q n r i = .inr (xs, k) → ∀ x, x ∈ xs → gdC n x := by
  intro r
  induction r with
  | zero => intro i xs k h x hx; cases h; cases hx
  | succ r ih =>
    intro i xs k h x hx
    unfold clist at h
    split at h
    · obtain ⟨y, k1, h1, h⟩ := bnd_inr h
      obtain ⟨ys, k2, h2, h⟩ := bnd_inr h
      cases h
      rcases List.mem_cons.mp hx with e1 | e1
      · rw [e1]; exact cas_ran hn h1
      · exact ih k1 ys _ h2 x e1
    · cases h; cases hx
theorem rest_ran {xs : List Cas} (hn : n ≤ 6) (h : rest T q n i = .inr (xs, k)) : xs.length ≤ 6 ∧ ∀ x, x ∈ xs → gdC n x := by
  unfold rest at h
  split at h
  · obtain ⟨y, k1, h1, h⟩ := bnd_inr h
    obtain ⟨ys, k2, h2, h⟩ := bnd_inr h
    have := fin_eq h
    subst this
    have hl := clist_len _ _ _ _ h2
    refine ⟨by rw [List.length_cons]; omega, fun x hx => ?_⟩
    rcases List.mem_cons.mp hx with e1 | e1
    · rw [e1]; exact cas_ran hn h1
    · exact clist_ran hn _ _ _ _ h2 x e1
  · have := fin_eq h
    subst this
    exact ⟨Nat.zero_le _, fun x hx => by cases hx⟩
theorem okN {d : Nat} : ∀ (xs : List Prs) n {t : Nat → Int32}, Ok t n m d → Wy t n → gdL n xs → n + xs.length ≤ 6 → Ok (addN t n xs) (n + xs.length) m d ∧ Wy (addN t n xs) (n + xs.length)
  | [], n, t, ok, hw, _, _ => ⟨ok, hw⟩
  | x :: xs, n, t, ok, hw, hg, hl => by
    rw [List.length_cons] at hl ⊢
    obtain ⟨⟨a, b, c, d', ha, hb, hc, hd, rfl⟩, hg2⟩ := hg
    have ok2 := ok_newP (a := a) (b := b) (c := c) (kn := nI d') ok (by omega) ha (by omega) hc (fun q hq hb => bit_ran n (by omega) d' hd q hq hb)
    have hw2 := wy_newP (k := nI a) (l := nI c) (kn := nI d') hw hb
    rw [show n + (xs.length + 1) = n + 1 + xs.length by omega]
    exact okN xs (n + 1) ok2 hw2 hg2 (by omega)
theorem okC {d : Nat} (hn : n ≤ 6) : ∀ (cs : List Cas) m {t : Nat → Int32}, Ok t n m d → Wy t n → (∀ x, x ∈ cs → gdC n x) → m + cs.length ≤ 6 → Ok (addC t m cs) n (m + cs.length) d ∧ Wy (addC t m cs) n
  | [], m, t, ok, hw, _, _ => ⟨ok, hw⟩
  | x :: xs, m, t, ok, hw, hg, hl => by
    rw [List.length_cons] at hl ⊢
    obtain ⟨a, ha, e1, e2⟩ := hg x (List.mem_cons_self ..)
    have ok2 := ok_newC (a := a) (b := x.2) ok (by omega) ha e2
    rw [← e1] at ok2
    have hw2 := wy_newC (m := m) (a := x.1) (b := x.2) hn hw
    rw [show m + (xs.length + 1) = m + 1 + xs.length by omega]
    exact okC hn xs (m + 1) ok2 hw2 (fun y hy => hg y (List.mem_cons_of_mem _ hy)) (by omega)
theorem ok_bgn {t : Nat → Int32} {n m d : Nat} {D : Int32} (ok : Ok t n m d) : Ok (bgn t D) 0 0 0 := by
  refine ⟨by omega, by omega, bgn_at.1, bgn_at.2, ?_, by omega, fun p hp => absurd hp (by omega), fun p hp => absurd hp (by omega), fun p hp => absurd hp (by omega), fun p q hp => absurd hp (by omega), fun p q hp => absurd hp (by omega), fun p hp => absurd hp (by omega), fun p hp => absurd hp (by omega), ?_⟩
  · unfold bgn
    rw [up1_ne (by omega), up1_ne (by omega), up1_ne (by omega), up1_at]
    rfl
  · unfold bgn
    rw [up1_ne (by omega), up1_ne (by omega), up1_ne (by omega), up1_ne (by omega), up1_ne (by omega), up1_ne (by omega)]
    exact ok.draw
end S99
theorem k_town : oK townF := by
  intro σ h
  obtain ⟨⟨n, m, d, ok, hd, hw, hu, hU⟩, ⟨hq, hT⟩, hk, hs⟩ := h
  unfold townF
  split
  · exact ⟨⟨n, m, d, ok, hd, hw, hu, hU⟩, ⟨Nat.zero_le _, fun i hi => absurd hi (Nat.not_lt_zero _)⟩, hk, hs⟩
  · rename_i D xs cs k hr
    refine ⟨?_, ⟨Nat.zero_le _, fun i hi => absurd hi (Nat.not_lt_zero _)⟩, hk, hs⟩
    unfold townR at hr
    obtain ⟨d1, i1, h1, hr⟩ := bnd_inr hr
    obtain ⟨u, i2, h2, hr⟩ := bnd_inr hr
    obtain ⟨x, i3, h3, hr⟩ := bnd_inr hr
    obtain ⟨ys, i4, h4, hr⟩ := bnd_inr hr
    obtain ⟨cs', k', h5, hr⟩ := bnd_inr hr
    cases hr
    have hl := plist_len _ _ _ _ _ h4
    obtain ⟨g1, g2⟩ := rest_ran (by omega) h5
    have ok0 := ok_bgn (D := D) ok
    obtain ⟨ok1, hw1⟩ := okN (x :: ys) 0 ok0 (fun p hp => absurd hp (by omega)) ⟨pers_ran (by omega) h3, plist_ran _ _ _ _ _ (by omega) h4⟩ (by rw [List.length_cons]; omega)
    rw [List.length_cons, Nat.zero_add] at ok1 hw1
    obtain ⟨ok2, hw2⟩ := okC (by omega) cs 0 ok1 hw1 g2 (by omega)
    exact ⟨_, _, _, ok2, Nat.zero_le _, hw2, Nat.zero_le _, fun k hk => absurd hk (Nat.not_lt_zero _)⟩
