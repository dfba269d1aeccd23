/-! items are copied: the twin -/
theorem shM_cpy {I : Nat → Nat → Int32} {G : Nat → Nat → Int64} {sh : ShT} {s s' l l' z z' i j n : Nat} {f g : Nat → Int64} (hs : s < 4) (hs' : s' < 4) (hz : z ≤ 24) (hz' : z' ≤ 24) (h4 : i + n ≤ z) (h5 : j + n ≤ z') (hsz : ∀ q, q < 4 → ∀ l z f, sh q = some (l, z, f) → z ≤ 24) (h : shM I G sh) (hf : sh s = some (l, z, f)) (hg : sh s' = some (l', z', g)) : shM I (c2G s' j n 0 (c1G s i n 0 G)) (va_up sh s' (some (l', z', cpyL f g i j n))) := by
  intro q hq
  by_cases e1 : q = s'
  · subst e1
    rw [va_up_self]
    obtain ⟨a1, a2, a3⟩ := (h q hq).2 l' z' g hg
    obtain ⟨-, -, b3⟩ := (h s hs).2 l z f hf
    refine ⟨(fun hn => by cases hn), fun l2 z2 f2 hf2 => ?_⟩
    cases hf2
    refine ⟨a1, a2, fun k hk => ?_⟩
    unfold c2G cpyL
    by_cases hc : j ≤ k ∧ k < j + n
    · rw [if_pos (by omega), if_pos hc]
      unfold c1G
      rw [if_pos (by omega), show 24 * s + i + (24 * q + k - (24 * q + j)) = 24 * s + (i + (k - j)) by omega]
      exact b3 _ (by omega)
    · rw [if_neg (by omega), if_neg hc]
      unfold c1G
      rw [if_neg (by omega)]
      exact a3 k hk
  · rw [va_up_ne _ _ e1]
    refine ⟨(h q hq).1, fun l2 z2 f2 hf2 => ?_⟩
    obtain ⟨a1, a2, a3⟩ := (h q hq).2 l2 z2 f2 hf2
    have := hsz q hq l2 z2 f2 hf2
    refine ⟨a1, a2, fun k hk => ?_⟩
    unfold c2G
    rw [if_neg (by omega)]
    unfold c1G
    rw [if_neg (by omega)]
    exact a3 k hk
theorem k_copy {w i w' j n : Int32} : oK (copyF w i w' j n) := by
  intro σ h
  unfold copyF
  split
  · rename_i hv
    obtain ⟨s, -, hs, rfl⟩ := inR (lo := 0) (hi := 3) hv.2
    have hs4 : s < 4 := by omega
    have g4 : (nI s).toNatClampNeg = s := (shr_fact (e := (fun _ => none, fun _ _ => .null, 0, fun _ => 0, 0)) hs4).2.2.2.1
    rw [g4]
    split
    · rename_i l z f l' z' g h1 h2
      split
      · exact h
      · split
        · exact h
        · exact h.shs (fun l2 z2 f2 e => by cases e; exact h.2.2.2 s hs4 _ _ _ h2)
    · exact h
  · exact h
