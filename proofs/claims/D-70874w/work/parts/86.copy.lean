/-! items are copied: the twin -/
theorem m_copy {w i w' j n : Int32} : oM 163 [some (.ref 179), some (.int w), some (.int i), some (.int w'), some (.int j), some (.int n), none, none] (copyF w i w' j n) := by
  intro e I G Q σ hM hO hQ
  have hF : ∀ I' G', MR (copyF w i w' j n σ).2 I' G' → keepM I G I' G' → Q (.returned (some (.int (copyF w i w' j n σ).1))) (mX e I' G') := hQ
  unfold copyF at hF
  have idl : keepM I G I G := fun k _ => ⟨rfl, rfl⟩
  have bad : ¬ (inl w.toInt64 0 3 ∧ inl w'.toInt64 0 3) → Q (.returned (some (.int (-1)))) (mX e I G) := fun hv => by
    rw [if_neg hv] at hF
    exact hF I G hM idl
  by_cases hv : inl w.toInt64 0 3 ∧ inl w'.toInt64 0 3
  · rw [if_pos hv] at hF
    have hv0 := hv
    obtain ⟨a, -, ha, rfl⟩ := inR (lo := 0) (hi := 3) hv.1
    obtain ⟨b, -, hb, rfl⟩ := inR (lo := 0) (hi := 3) hv.2
    have ha4 : a < 4 := by omega
    have hb4 : b < 4 := by omega
    obtain ⟨-, -, -, g4, g5⟩ := shr_fact (e := e) ha4
    obtain ⟨-, -, -, p4, p5⟩ := shr_fact (e := e) hb4
    rw [g4, p4] at hF
    cases ha1 : σ.2.2.2.2 a with
    | none =>
      rw [ha1] at hF
      have hl : I 188 (nI a).toNatClampNeg < 0 := by rw [g4, (hM.2.2.2.2 a ha4).1 ha1]; decide
      exact g_X9_copy_0 (fun q => absurd hv0.1 q) (fun _ q => absurd hv0.2 q) (fun _ _ => g5) (fun _ _ _ => hF I G hM idl) (fun _ _ q => absurd hl q) (fun _ _ q => absurd hl q) (fun _ _ q => absurd hl q) (fun _ _ q => absurd hl q)
    | some t =>
      obtain ⟨l, z, f⟩ := t
      rw [ha1] at hF
      obtain ⟨x1, x2, x3⟩ := (hM.2.2.2.2 a ha4).2 l z f ha1
      obtain ⟨hl4, hz⟩ := hO.2.2.2 a ha4 l z f ha1
      have hl : ¬ I 188 (nI a).toNatClampNeg < 0 := by rw [g4, x1]; exact nI_nn l hl4
      cases hb1 : σ.2.2.2.2 b with
      | none =>
        rw [hb1] at hF
        have hl' : I 188 (nI b).toNatClampNeg < 0 := by rw [p4, (hM.2.2.2.2 b hb4).1 hb1]; decide
        exact g_X9_copy_0 (fun q => absurd hv0.1 q) (fun _ q => absurd hv0.2 q) (fun _ _ => g5) (fun _ _ q => absurd q hl) (fun _ _ _ => p5) (fun _ _ _ _ => hF I G hM idl) (fun _ _ _ q => absurd hl' q) (fun _ _ _ q => absurd hl' q)
      | some t =>
        obtain ⟨l', z', g⟩ := t
        rw [hb1] at hF
        dsimp only at hF
        obtain ⟨y1, y2, y3⟩ := (hM.2.2.2.2 b hb4).2 l' z' g hb1
        obtain ⟨hl4', hz'⟩ := hO.2.2.2 b hb4 l' z' g hb1
        have hl' : ¬ I 188 (nI b).toNatClampNeg < 0 := by rw [p4, y1]; exact nI_nn l' hl4'
        refine g_X9_copy_0 (fun q => absurd hv0.1 q) (fun _ q => absurd hv0.2 q) (fun _ _ => g5) (fun _ _ q => absurd q hl) (fun _ _ _ => p5) (fun _ _ _ q => absurd q hl') (fun _ _ _ _ => g5) (fun _ _ _ _ => ?_)
        rw [g4, x1]
        refine m_why hM hO hb4 ?_
        show Rn 163 52 [some (.ref 179), some (.int (nI a)), some (.int i), some (.int (nI b)), some (.int j), some (.int n), none, none] [.int (whyF (σ.2.2.2.2 b) (nI l) j n)] (0, 0) (mX e I G) Q
        rw [hb1]
        unfold whyF
        dsimp only
        by_cases hne : l ≠ l'
        · rw [if_pos hne] at hF
          rw [if_pos (fun q => hne (nI4 l' hl4' l hl4 q).symm)]
          exact g_X9_copy_52 (fun q => absurd q (by decide)) (fun q => absurd q (by decide)) (fun _ _ => hF I G hM idl) (fun _ q => absurd (by decide) q)
        · rw [if_neg hne] at hF
          have el : l = l' := Classical.not_not.mp hne
          subst el
          rw [if_neg (fun q => q rfl)]
          by_cases hB : j < 0 ∨ n < 0 ∨ z' < j.toNatClampNeg + n.toNatClampNeg
          · rw [if_pos hB]
            rw [if_pos (show i < 0 ∨ j < 0 ∨ n < 0 ∨ z < i.toNatClampNeg + n.toNatClampNeg ∨ z' < j.toNatClampNeg + n.toNatClampNeg from by
              rcases hB with q | q | q
              · exact Or.inr (Or.inl q)
              · exact Or.inr (Or.inr (Or.inl q))
              · exact Or.inr (Or.inr (Or.inr (Or.inr q))))] at hF
            exact g_X9_copy_52 (fun q => absurd q (by decide)) (fun q => absurd q (by decide)) (fun _ _ => hF I G hM idl) (fun _ q => absurd (by decide) q)
          · rw [if_neg hB]
            have c2 : ¬ j < 0 := fun k => hB (Or.inl k)
            have c3 : ¬ n < 0 := fun k => hB (Or.inr (Or.inl k))
            have c5 : j.toNatClampNeg + n.toNatClampNeg ≤ z' := Nat.le_of_not_lt (fun k => hB (Or.inr (Or.inr k)))
            refine g_X9_copy_52 (fun _ => g5) (fun _ => ?_) (fun q => absurd rfl q) (fun q => absurd rfl q)
            rw [g4, x1]
            refine m_why hM hO ha4 ?_
            show Rn 163 73 [some (.ref 179), some (.int (nI a)), some (.int i), some (.int (nI b)), some (.int j), some (.int n), none, none] [.int (whyF (σ.2.2.2.2 a) (nI l) i n)] (0, 0) (mX e I G) Q
            rw [ha1]
            unfold whyF
            dsimp only
            rw [if_neg (fun q => q rfl)]
            by_cases hA : i < 0 ∨ n < 0 ∨ z < i.toNatClampNeg + n.toNatClampNeg
            · rw [if_pos hA]
              rw [if_pos (show i < 0 ∨ j < 0 ∨ n < 0 ∨ z < i.toNatClampNeg + n.toNatClampNeg ∨ z' < j.toNatClampNeg + n.toNatClampNeg from by
                rcases hA with q | q | q
                · exact Or.inl q
                · exact Or.inr (Or.inr (Or.inl q))
                · exact Or.inr (Or.inr (Or.inr (Or.inl q))))] at hF
              exact g_X9_copy_73 (fun _ => hF I G hM idl) (fun q => absurd (by decide) q)
            · rw [if_neg hA]
              have c1 : ¬ i < 0 := fun k => hA (Or.inl k)
              have c4 : i.toNatClampNeg + n.toNatClampNeg ≤ z := Nat.le_of_not_lt (fun k => hA (Or.inr (Or.inr k)))
              rw [if_neg (fun k => by
                rcases k with k | k | k | k | k
                · exact c1 k
                · exact c2 k
                · exact c3 k
                · omega
                · omega)] at hF
              have e1 : i = nI i.toNatClampNeg := (nI_vp (z := 25) (fun k => k.elim c1 (fun k => by omega))).1
              have e2 : j = nI j.toNatClampNeg := (nI_vp (z := 25) (fun k => k.elim c2 (fun k => by omega))).1
              have e3 : n = nI n.toNatClampNeg := (nI_vp (z := 25) (fun k => k.elim c3 (fun k => by omega))).1
              refine g_X9_copy_73 (fun q => absurd q (by decide)) (fun _ => ?_)
              have fin := hF I _ (hM.shs (fun _ _ _ => rfl) (shM_cpy ha4 hb4 hz hz' c4 c5 (fun q hq l z f h => (hO.2.2.2 q hq l z f h).2) hM.2.2.2.2 ha1 hb1)) (fun k hk => ⟨rfl, by
                funext x
                unfold c2G
                rw [if_neg (by omega)]
                unfold c1G
                rw [if_neg (by omega)]⟩)
              generalize hi2 : i.toNatClampNeg = i2 at *
              generalize hj2 : j.toNatClampNeg = j2 at *
              generalize hn2 : n.toNatClampNeg = n2 at *
              subst e1
              subst e2
              subst e3
              exact m_cp1 ha4 hb4 (by omega) (by omega) n2 0 G (by omega) fin
  · exact g_X9_copy_0 (fun _ => bad hv) (fun _ _ => bad hv) (fun q1 q2 => absurd ⟨q1, q2⟩ hv) (fun q1 q2 => absurd ⟨q1, q2⟩ hv) (fun q1 q2 => absurd ⟨q1, q2⟩ hv) (fun q1 q2 => absurd ⟨q1, q2⟩ hv) (fun q1 q2 => absurd ⟨q1, q2⟩ hv) (fun q1 q2 => absurd ⟨q1, q2⟩ hv)
