/-! items are copied: behind it -/
def cpI (l ra rb a b n : Nat) (I : Nat → Nat → Int32) : Nat → Nat → Int32 := if l = 3 then I else va_up I rb (va_cpy (I ra) (I rb) a b n)
def cpG (l ra rb a b n : Nat) (G : Nat → Nat → Int64) : Nat → Nat → Int64 := if l = 3 then va_up G rb (va_cpy (G ra) (G rb) a b n) else G
theorem cpI_o {l ra rb a b n q : Nat} {I : Nat → Nat → Int32} (h : q ≠ rb) : cpI l ra rb a b n I q = I q := by
  unfold cpI
  split
  · rfl
  · exact va_up_ne _ _ h
theorem cpG_o {l ra rb a b n q : Nat} {G : Nat → Nat → Int64} (h : q ≠ rb) : cpG l ra rb a b n G q = G q := by
  unfold cpG
  split
  · exact va_up_ne _ _ h
  · rfl
theorem cp_row {l ra rb a b n : Nat} {I : Nat → Nat → Int32} {G : Nat → Nat → Int64} (k : Nat) : rowV l (cpI l ra rb a b n I) (cpG l ra rb a b n G) rb k = (if b ≤ k ∧ k < b + n then rowV l I G ra (a + (k - b)) else rowV l I G rb k) := by
  unfold rowV cpI cpG
  by_cases h : l = 3
  · rw [if_pos h, if_pos h, if_pos h, if_pos h, va_up_self]
    rfl
  · rw [if_neg h, if_neg h, if_neg h, if_neg h, va_up_self]
    unfold va_cpy
    split <;> rfl
theorem cp_fit {l ra rb a b n k : Nat} {I : Nat → Nat → Int32} (h1 : b ≤ k ∧ k < b + n → fitL l (I ra (a + (k - b)))) (h2 : fitL l (I rb k)) : fitL l (cpI l ra rb a b n I rb k) := by
  unfold cpI
  split
  · exact h2
  · rw [va_up_self]
    unfold va_cpy
    split
    · rename_i h
      exact h1 h
    · exact h2
theorem CR.cpy {σ : Sg} {e : En} {I : Nat → Nat → Int32} {G : Nat → Nat → Int64} {s' l z z' ra rb a b n : Nat} {f g : Nat → Int64} (h : CR σ e I G) (hs' : s' < 4) (hr' : e.2.1 (47 + s') 0 = .ref rb) (hb1 : 192 ≤ rb) (hb2 : rb < e.2.2.1) (hb4 : e.1 rb = some (.inr (ltp l, z'))) (ha5 : ∀ j, j < z → rowV l I G ra j = f j ∧ fitL l (I ra j)) (hb5 : ∀ j, j < z' → rowV l I G rb j = g j ∧ fitL l (I rb j)) (hz : a + n ≤ z) :
    CR (setS σ s' (some (l, z', cpyL f g a b n))) e (cpI l ra rb a b n I) (cpG l ra rb a b n G) := by
  obtain ⟨f1, f2, f3⟩ := h.2.2.2.2
  refine h.shs rfl (fun k hk => cpI_o (by omega)) ⟨f1, fun q hq => ?_, f3⟩
  by_cases e1 : q = s'
  · subst e1
    rw [va_up_self]
    refine ⟨(fun hn => by cases hn), fun l' z'' f' hf' => ?_⟩
    cases hf'
    refine ⟨rb, hb1, hb2, hr', hb4, fun k hk => ⟨?_, cp_fit (fun q => (ha5 _ (by omega)).2) (hb5 k hk).2⟩⟩
    rw [cp_row]
    unfold cpyL
    split
    · rename_i q
      exact (ha5 _ (by omega)).1
    · exact (hb5 k hk).1
  · rw [va_up_ne _ _ e1]
    refine ⟨(f2 q hq).1, fun l' z'' f' hf' => ?_⟩
    obtain ⟨r', b1, b2, b3, b4, b5⟩ := (f2 q hq).2 l' z'' f' hf'
    have hne : r' ≠ rb := fun e2 => by
      subst e2
      exact f3 q s' hq hs' e1 r' b3 hr'
    refine ⟨r', b1, b2, b3, b4, fun j hj => ?_⟩
    unfold rowV
    rw [cpI_o hne, cpG_o hne]
    exact b5 j hj
theorem fit_aty {l : Nat} (hl : l < 3) {x : Int32} (h : fitL l x) : fits (aty (ltp l)) (.int x) = true := by
  rcases (show l = 0 ∨ l = 1 ∨ l = 2 by omega) with rfl | rfl | rfl
  · obtain ⟨v, rfl⟩ := h.1 rfl
    exact fits_narrow_byte v
  · obtain ⟨v, rfl⟩ := h.2 rfl
    exact fits_narrow_short v
  · rfl
