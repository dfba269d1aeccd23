/-! a row is dropped: the twin -/
theorem MR.shs {σ : Sg} {I I' : Nat → Nat → Int32} {G G' : Nat → Nat → Int64} {sh' : ShT} (h : MR σ I G) (hI : ∀ k, k ≠ 188 → k ≠ 189 → I' k = I k) (hs : shM I' G' sh') : MR (σ.1, σ.2.1, σ.2.2.1, σ.2.2.2.1, sh') I' G' := by
  obtain ⟨⟨a1, a2, a3⟩, b, ⟨c1, c2⟩, ⟨d1, d2⟩, -⟩ := h
  refine ⟨⟨by rw [hI 179 (by omega) (by omega)]; exact a1, a2, fun k hk => ?_⟩, ?_, ⟨by rw [hI 179 (by omega) (by omega)]; exact c1, fun i hi => by rw [hI 181 (by omega) (by omega)]; exact c2 i hi⟩, ⟨by rw [hI 179 (by omega) (by omega)]; exact d1, fun hkp => ?_⟩, hs⟩
  · rw [← a3 k hk]
    unfold mU
    rw [hI 184 (by omega) (by omega)]
  · show nw I' = σ.1
    rw [nw_con (hI 180 (by omega) (by omega))]
    exact b
  · obtain ⟨e1, e2, e3⟩ := d2 hkp
    refine ⟨by rw [hI 187 (by omega) (by omega)]; exact e1, by rw [hI 179 (by omega) (by omega)]; exact e2, fun k hk => ?_⟩
    rw [← e3 k hk]
    unfold kU
    rw [hI 187 (by omega) (by omega)]
theorem nI_nn : ∀ l, l < 4 → ¬ nI l < 0 := by decide
theorem m_drop {w : Int32} : oM 160 [some (.ref 179), some (.int w)] (dropF w) := by
  intro e I G Q σ hM hO hQ
  by_cases hv : inl w.toInt64 0 3
  · have hv0 := hv
    obtain ⟨s, -, hs, rfl⟩ := inR (lo := 0) (hi := 3) hv
    have hs4 : s < 4 := by omega
    obtain ⟨-, -, -, g4, g5⟩ := shr_fact (e := e) hs4
    have hF : ∀ I' G', MR (dropF (nI s) σ).2 I' G' → keepM I G I' G' → Q (.returned (some (.int (dropF (nI s) σ).1))) (mX e I' G') := hQ
    unfold dropF at hF
    rw [if_pos hv0, g4] at hF
    have hS := hM.2.2.2.2 s hs4
    cases hsh : σ.2.2.2.2 s with
    | none =>
      rw [hsh] at hF
      have h1 := hS.1 hsh
      refine g_X9_drop_0 (fun q => absurd hv0 q) (fun _ => g5) (fun _ _ => hF I G hM (fun k _ => ⟨rfl, rfl⟩)) (fun _ _ => g5) (fun _ q => ?_)
      rw [g4, h1] at q
      exact absurd (by decide) q
    | some t =>
      obtain ⟨l, z, f⟩ := t
      rw [hsh] at hF
      obtain ⟨h1, h2, h3⟩ := hS.2 l z f hsh
      obtain ⟨hl4, hz24⟩ := hO.2.2.2 s hs4 l z f hsh
      refine g_X9_drop_0 (fun q => absurd hv0 q) (fun _ => g5) (fun _ q => ?_) (fun _ _ => g5) (fun _ _ => ?_)
      · rw [g4, h1] at q
        exact absurd q (nI_nn l hl4)
      · rw [g4, h2]
        refine hF _ _ (hM.shs (fun k h8 _ => up2_o h8) (fun q hq => ?_)) (fun k hk => ⟨up2_o (by omega), rfl⟩)
        by_cases e1 : q = s
        · subst e1
          refine ⟨fun _ => up2_s, fun l' z' f' hf => ?_⟩
          rw [va_up_self] at hf
          cases hf
        · rw [va_up_ne _ _ e1]
          have e2 : up2 I 188 s (-1) 188 q = I 188 q := by
            unfold up2
            rw [if_pos rfl, if_neg e1]
          rw [e2, up2_o (by decide)]
          exact hM.2.2.2.2 q hq
  · refine g_X9_drop_0 (fun _ => ?_) (fun q => absurd q hv) (fun q => absurd q hv) (fun q => absurd q hv) (fun q => absurd q hv)
    have := hQ I G
    unfold dropF at this
    rw [if_neg hv] at this
    exact this hM (fun k _ => ⟨rfl, rfl⟩)
theorem OkG.shs {σ : Sg} {s : Nat} {o : Option (Nat × Nat × (Nat → Int64))} (h : OkG σ) (ho : ∀ l z f, o = some (l, z, f) → l < 4 ∧ z ≤ 24) : OkG (setS σ s o) := by
  obtain ⟨h1, h2, h3, h4⟩ := h
  refine ⟨h1, h2, h3, fun q hq l z f hf => ?_⟩
  by_cases e1 : q = s
  · subst e1
    have hf2 : va_up σ.2.2.2.2 q o q = some (l, z, f) := hf
    rw [va_up_self] at hf2
    exact ho l z f hf2
  · have hf2 : va_up σ.2.2.2.2 s o q = some (l, z, f) := hf
    rw [va_up_ne _ _ e1] at hf2
    exact h4 q hq l z f hf2
theorem k_drop {w : Int32} : oK (dropF w) := by
  intro σ h
  unfold dropF
  split
  · split
    · exact h
    · exact h.shs (fun l z f h => by cases h)
  · exact h
