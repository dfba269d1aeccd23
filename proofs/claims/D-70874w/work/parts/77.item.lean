/-! an item is laid: the twin -/
theorem ix24 : ∀ s, s < 4 → ∀ k, k < 24 → (¬ ((24 * nI s) + nI k < 0 ∨ 96 ≤ ((24 * nI s) + nI k).toNatClampNeg) ∧ ((24 * nI s) + nI k).toNatClampNeg = 24 * s + k) := by decide +kernel
theorem nI_vp {i : Int32} {z : Nat} (hi : vp_in i z) : i = nI i.toNatClampNeg ∧ i.toNatClampNeg < z := by
  have h0 : ¬ i < 0 := fun q => hi (Or.inl q)
  refine ⟨?_, Nat.lt_of_not_le (fun q => hi (Or.inr q))⟩
  apply Int32.toInt_inj.mp
  have b1 : i.toInt < 2 ^ 31 := Int32.toInt_lt i
  have b2 := nn_toInt h0
  rw [nI_toInt (by omega)]
  exact b2
theorem shM_put {I : Nat → Nat → Int32} {G : Nat → Nat → Int64} {sh : ShT} {s l z k : Nat} {f : Nat → Int64} {x : Int64} (hs : s < 4) (hz : z ≤ 24) (hk : k < 24) (hsz : ∀ q, q < 4 → ∀ l z f, sh q = some (l, z, f) → z ≤ 24) (h : shM I G sh) (hf : sh s = some (l, z, f)) : shM I (up2 G 190 (24 * s + k) x) (va_up sh s (some (l, z, updL f k x))) := by
  intro q hq
  by_cases e1 : q = s
  · subst e1
    rw [va_up_self]
    obtain ⟨a1, a2, a3⟩ := (h q hq).2 l z f hf
    refine ⟨(fun hn => by cases hn), fun l' z' f' hf' => ?_⟩
    cases hf'
    refine ⟨a1, a2, fun i hi => ?_⟩
    unfold up2 updL
    rw [if_pos rfl]
    by_cases e2 : i = k
    · rw [if_pos (by omega), if_pos e2]
    · rw [if_neg (by omega), if_neg e2]
      exact a3 i hi
  · rw [va_up_ne _ _ e1]
    refine ⟨(h q hq).1, fun l' z' f' hf' => ?_⟩
    obtain ⟨a1, a2, a3⟩ := (h q hq).2 l' z' f' hf'
    have hz' := hsz q hq l' z' f' hf'
    refine ⟨a1, a2, fun i hi => ?_⟩
    unfold up2
    rw [if_pos rfl, if_neg (by omega)]
    exact a3 i hi
theorem one_nat : (1 : Int32).toNatClampNeg = 1 := by decide
theorem m_item {w lane i : Int32} {v : Int64} : oM 161 [some (.ref 179), some (.int w), some (.int lane), some (.int i), some (.long v), none, none] (itemF w lane i v) := by
  intro e I G Q σ hM hO hQ
  have bad : ¬ (inl w.toInt64 0 3 ∧ inl lane.toInt64 0 3) → Q (.returned (some (.int (-1)))) (mX e I G) := fun hv => by
    have := hQ I G
    unfold itemF at this
    rw [if_neg hv] at this
    exact this hM (fun k _ => ⟨rfl, rfl⟩)
  refine g_X9_item_0 (fun q => bad (fun k => q k.1)) (fun _ q => bad (fun k => q k.2)) (fun q1 q2 => ?_)
  have hv0 : inl w.toInt64 0 3 ∧ inl lane.toInt64 0 3 := ⟨q1, q2⟩
  obtain ⟨s, -, hs, rfl⟩ := inR (lo := 0) (hi := 3) q1
  obtain ⟨m, -, hm, rfl⟩ := inR (lo := 0) (hi := 3) q2
  have hs4 : s < 4 := by omega
  have hm4 : m < 4 := by omega
  obtain ⟨-, -, -, g4, g5⟩ := shr_fact (e := e) hs4
  have hF : ∀ I' G', MR (itemF (nI s) (nI m) i v σ).2 I' G' → keepM I G I' G' → Q (.returned (some (.int (itemF (nI s) (nI m) i v σ).1))) (mX e I' G') := hQ
  unfold itemF at hF
  rw [if_pos hv0, g4] at hF
  refine m_why hM hO hs4 ?_
  show Rn 161 24 [some (.ref 179), some (.int (nI s)), some (.int (nI m)), some (.int i), some (.long v), none, none] [.int (whyF (σ.2.2.2.2 s) (nI m) i 1)] (0, 0) (mX e I G) Q
  have idl : keepM I G I G := fun k _ => ⟨rfl, rfl⟩
  cases hsh : σ.2.2.2.2 s with
  | none =>
    rw [hsh] at hF
    show Rn 161 24 [some (.ref 179), some (.int (nI s)), some (.int (nI m)), some (.int i), some (.long v), none, none] [.int (-11)] (0, 0) (mX e I G) Q
    exact g_X9_item_24 (fun _ => hF I G hM idl) (fun q => absurd (by decide) q) (fun q => absurd (by decide) q)
  | some t =>
    obtain ⟨l, z, f⟩ := t
    rw [hsh] at hF
    dsimp only at hF
    obtain ⟨hl4, hz24⟩ := hO.2.2.2 s hs4 l z f hsh
    unfold whyF
    dsimp only
    by_cases hlm : nI l ≠ nI m
    · rw [if_pos hlm] at hF ⊢
      exact g_X9_item_24 (fun _ => hF I G hM idl) (fun q => absurd (by decide) q) (fun q => absurd (by decide) q)
    · rw [if_neg hlm] at hF ⊢
      have el : l = m := nI4 l hl4 m hm4 (Classical.not_not.mp hlm)
      subst el
      by_cases hi : vp_in i z
      · rw [if_pos hi] at hF
        obtain ⟨i1, i2⟩ := nI_vp hi
        rw [if_neg (fun k => by
          rcases k with k | k | k
          · exact hi (Or.inl k)
          · exact absurd k (by decide)
          · rw [one_nat] at k
            omega)]
        obtain ⟨x1, x2⟩ := ix24 s hs4 i.toNatClampNeg (by omega)
        rw [← i1] at x1 x2
        refine g_X9_item_24 (fun q => absurd q (by decide)) (fun _ => x1) (fun _ => ?_)
        rw [x2]
        refine hF _ _ (hM.shs (fun _ _ _ => rfl) (shM_put hs4 hz24 (by omega) (fun q hq l z f h => (hO.2.2.2 q hq l z f h).2) hM.2.2.2.2 hsh)) (fun k hk => ⟨rfl, up2_o (by omega)⟩)
      · rw [if_neg hi] at hF
        have hc : i < 0 ∨ (1 : Int32) < 0 ∨ z < i.toNatClampNeg + (1 : Int32).toNatClampNeg := by
          rw [one_nat]
          by_cases h0 : i < 0
          · exact Or.inl h0
          · refine Or.inr (Or.inr ?_)
            have : z ≤ i.toNatClampNeg := Nat.le_of_not_lt (fun q => hi (fun k => k.elim h0 (fun k => by omega)))
            omega
        rw [if_pos hc]
        exact g_X9_item_24 (fun _ => hF I G hM idl) (fun q => absurd (by decide) q) (fun q => absurd (by decide) q)
theorem k_item {w lane i : Int32} {v : Int64} : oK (itemF w lane i v) := by
  intro σ h
  unfold itemF
  split
  · rename_i hv
    obtain ⟨s, -, hs, rfl⟩ := inR (lo := 0) (hi := 3) hv.1
    have hs4 : s < 4 := by omega
    have g4 : (nI s).toNatClampNeg = s := (shr_fact (e := (fun _ => none, fun _ _ => .null, 0, fun _ => 0, 0)) hs4).2.2.2.1
    rw [g4]
    split
    · exact h
    · rename_i l z f hsh
      split
      · exact h
      · split
        · exact h.shs (fun l' z' f' e => by cases e; exact h.2.2.2 s hs4 _ _ _ hsh)
        · exact h
  · exact h
