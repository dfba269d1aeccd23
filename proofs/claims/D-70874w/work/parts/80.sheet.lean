/-! a new row: the twin -/
def zr (s k : Nat) (G : Nat → Nat → Int64) : Nat → Nat → Int64 := fun a b => if a = 190 ∧ 24 * s + k ≤ b ∧ b < 24 * s + 24 then 0 else G a b
theorem zr_step {s k : Nat} (hk : k < 24) (G : Nat → Nat → Int64) : zr s (k + 1) (up2 G 190 (24 * s + k) 0) = zr s k G := by
  funext a b
  unfold zr up2
  by_cases ha : a = 190
  · subst ha
    by_cases hb : b = 24 * s + k
    · subst hb
      rw [if_neg (by omega), if_pos rfl, if_pos rfl, if_pos (by omega)]
    · by_cases hc : 24 * s + k ≤ b ∧ b < 24 * s + 24
      · rw [if_pos (by omega), if_pos (by omega)]
      · rw [if_neg (fun q => hc ⟨by omega, q.2.2⟩), if_pos rfl, if_neg hb, if_neg (fun q => hc q.2)]
  · rw [if_neg (fun q => ha q.1), if_neg ha, if_neg (fun q => ha q.1)]
theorem lt24 : ∀ k, k < 24 → (nI k < 24 ∧ nI k + 1 = nI (k + 1)) := by decide +kernel
theorem m_zero {e : En} {I : Nat → Nat → Int32} {Q : Po} {s : Nat} {n : Int32} (hs : s < 4) : ∀ (j k : Nat) (G : Nat → Nat → Int64), k + j = 24 → Q (.returned (some (.int n))) (mX e I (zr s k G)) → Rn 159 46 [some (.ref 179), some (.int (nI s)), none, some (.int n), some (.int (nI k))] [] (0, 0) (mX e I G) Q
  | 0, k, G, hk, hQ => by
    have e1 : k = 24 := by omega
    subst e1
    have e2 : zr s 24 G = G := by
      funext a b
      unfold zr
      rw [if_neg (by omega)]
    rw [e2] at hQ
    exact g_X9_sheet_46 (fun q => absurd q (by decide)) (fun q => absurd q (by decide)) (fun _ => hQ)
  | j + 1, k, G, hk, hQ => by
    obtain ⟨a1, a2⟩ := lt24 k (by omega)
    obtain ⟨b1, b2⟩ := ix24 s hs k (by omega)
    refine g_X9_sheet_46 (fun _ => b1) (fun _ => ?_) (fun q => absurd a1 q)
    rw [a2, b2]
    exact m_zero hs j (k + 1) _ (by omega) (by rw [zr_step (by omega)]; exact hQ)
theorem shM_row {I : Nat → Nat → Int32} {G : Nat → Nat → Int64} {sh : ShT} {s l z : Nat} (hs : s < 4) (hz : z ≤ 24) (hsz : ∀ q, q < 4 → ∀ l z f, sh q = some (l, z, f) → z ≤ 24) (h : shM I G sh) : shM (up2 (up2 I 188 s (nI l)) 189 s (nI z)) (zr s 0 G) (va_up sh s (some (l, z, fun _ => 0))) := by
  intro q hq
  have i8 : up2 (up2 I 188 s (nI l)) 189 s (nI z) 188 q = if q = s then nI l else I 188 q := by
    rw [up2_o (by decide)]
    unfold up2
    rw [if_pos rfl]
  have i9 : up2 (up2 I 188 s (nI l)) 189 s (nI z) 189 q = if q = s then nI z else I 189 q := by
    have : up2 I 188 s (nI l) 189 = I 189 := up2_o (by decide)
    unfold up2 at this ⊢
    rw [if_pos rfl]
    by_cases e1 : q = s
    · rw [if_pos e1, if_pos e1]
    · rw [if_neg e1, if_neg (by decide), if_neg e1]
  rw [i8, i9]
  by_cases e1 : q = s
  · subst e1
    rw [va_up_self, if_pos rfl, if_pos rfl]
    refine ⟨(fun hn => by cases hn), fun l' z' f' hf' => ?_⟩
    cases hf'
    refine ⟨rfl, rfl, fun i hi => ?_⟩
    unfold zr
    rw [if_pos (by omega)]
  · rw [va_up_ne _ _ e1, if_neg e1, if_neg e1]
    refine ⟨(h q hq).1, fun l' z' f' hf' => ?_⟩
    obtain ⟨a1, a2, a3⟩ := (h q hq).2 l' z' f' hf'
    have hz' := hsz q hq l' z' f' hf'
    refine ⟨a1, a2, fun i hi => ?_⟩
    unfold zr
    rw [if_neg (by omega)]
    exact a3 i hi
theorem m_sheet {w lane n : Int32} : oM 159 [some (.ref 179), some (.int w), some (.int lane), some (.int n), none] (sheetF w lane n) := by
  intro e I G Q σ hM hO hQ
  have bad : ¬ ((inl w.toInt64 0 3 ∧ inl lane.toInt64 0 3) ∧ ¬ 24 < n) → Q (.returned (some (.int (-1)))) (mX e I G) := fun hv => by
    have := hQ I G
    unfold sheetF at this
    rw [if_neg hv] at this
    exact this hM (fun k _ => ⟨rfl, rfl⟩)
  have good : ((inl w.toInt64 0 3 ∧ inl lane.toInt64 0 3) ∧ ¬ 24 < n) → ∀ I' G', MR (if n < 0 then (-14, σ) else (n, setS σ w.toNatClampNeg (some (lane.toNatClampNeg, n.toNatClampNeg, fun _ => 0)))).2 I' G' → keepM I G I' G' → Q (.returned (some (.int (if n < 0 then (-14, σ) else (n, setS σ w.toNatClampNeg (some (lane.toNatClampNeg, n.toNatClampNeg, fun _ => 0)))).1))) (mX e I' G') := fun hv => by
    have hF : ∀ I' G', MR (sheetF w lane n σ).2 I' G' → keepM I G I' G' → Q (.returned (some (.int (sheetF w lane n σ).1))) (mX e I' G') := hQ
    unfold sheetF at hF
    rw [if_pos hv] at hF
    exact hF
  have vp : inl w.toInt64 0 3 → vp_in w 4 := fun q => by
    obtain ⟨s, -, hs, rfl⟩ := inR (lo := 0) (hi := 3) q
    exact (shr_fact (e := e) (show s < 4 by omega)).2.2.2.2
  refine g_X9_sheet_0 (fun q => bad (fun k => q k.1.1)) (fun _ q => bad (fun k => q k.1.2)) (fun _ _ q => bad (fun k => k.2 q)) (fun q1 q2 q3 q4 => ?_) (fun q1 _ _ _ => vp q1) (fun q1 q2 q3 q4 => ?_)
  · have hF := good ⟨⟨q1, q2⟩, q3⟩ I G
    rw [if_pos q4] at hF
    exact hF hM (fun k _ => ⟨rfl, rfl⟩)
  · have hF := good ⟨⟨q1, q2⟩, q3⟩
    rw [if_neg q4] at hF
    obtain ⟨s, -, hs, rfl⟩ := inR (lo := 0) (hi := 3) q1
    obtain ⟨m, -, hm, rfl⟩ := inR (lo := 0) (hi := 3) q2
    have hs4 : s < 4 := by omega
    have g4 : (nI s).toNatClampNeg = s := (shr_fact (e := e) hs4).2.2.2.1
    have m4 : (nI m).toNatClampNeg = m := (shr_fact (e := e) (show m < 4 by omega)).2.2.2.1
    obtain ⟨z1, z2⟩ := n24 q4 q3
    rw [g4, m4] at hF
    rw [g4]
    refine m_zero hs4 24 0 G rfl ?_
    refine hF _ _ (hM.shs (fun k h8 h9 => by rw [up2_o h9, up2_o h8]) ?_) (fun k hk => ⟨by rw [up2_o (by omega), up2_o (by omega)], ?_⟩)
    · have := shM_row (l := m) (z := n.toNatClampNeg) hs4 z1 (fun q hq l z f h => (hO.2.2.2 q hq l z f h).2) hM.2.2.2.2
      rw [← z2] at this
      exact this
    · funext b
      unfold zr
      rw [if_neg (by omega)]
theorem k_sheet {w lane n : Int32} : oK (sheetF w lane n) := by
  intro σ h
  unfold sheetF
  split
  · rename_i hv
    split
    · exact h
    · rename_i h0
      obtain ⟨m, -, hm, rfl⟩ := inR (lo := 0) (hi := 3) hv.1.2
      have m4 : (nI m).toNatClampNeg = m := (shr_fact (e := (fun _ => none, fun _ _ => .null, 0, fun _ => 0, 0)) (show m < 4 by omega)).2.2.2.1
      rw [m4]
      exact h.shs (fun l' z' f' e => by cases e; exact ⟨by omega, (n24 h0 hv.2).1⟩)
  · exact h
