/-! a new row: the component -/
noncomputable def sheetF (w lane n : Int32) (σ : Sg) : Int32 × Sg := @ite _ ((inl w.toInt64 0 3 ∧ inl lane.toInt64 0 3) ∧ ¬ 24 < n) (Classical.propDecidable _) (if n < 0 then (-14, σ) else (n, setS σ w.toNatClampNeg (some (lane.toNatClampNeg, n.toNatClampNeg, fun _ => 0)))) (-1, σ)
theorem shC_row {e : En} {I : Nat → Nat → Int32} {G : Nat → Nat → Int64} {sh : ShT} {s l z : Nat} (hs : s < 4) (h : shC e I G sh) : shC (putE (newE e (.inr (ltp l, z))) s (.ref e.2.2.1)) (va_up I e.2.2.1 (fun _ => 0)) (va_up G e.2.2.1 (fun _ => 0)) (va_up sh s (some (l, z, fun _ => 0))) := by
  obtain ⟨f1, f2, f3⟩ := shC_new (h := .inr (ltp l, z)) h
  have hn := h.1
  have own : (putE (newE e (.inr (ltp l, z))) s (.ref e.2.2.1)).2.1 (47 + s) 0 = .ref e.2.2.1 := up2_s
  have oth : ∀ q, q ≠ s → (putE (newE e (.inr (ltp l, z))) s (.ref e.2.2.1)).2.1 (47 + q) 0 = (newE e (.inr (ltp l, z))).2.1 (47 + q) 0 := fun q hq => by
    show up2 (newE e (.inr (ltp l, z))).2.1 (47 + s) 0 _ (47 + q) 0 = _
    rw [up2_o (by omega)]
  have old : ∀ q, q < 4 → q ≠ s → (newE e (.inr (ltp l, z))).2.1 (47 + q) 0 ≠ .ref e.2.2.1 := fun q hq _ hr => by
    have e1 : (newE e (.inr (ltp l, z))).2.1 (47 + q) 0 = e.2.1 (47 + q) 0 := by
      show va_up e.2.1 e.2.2.1 _ (47 + q) 0 = _
      rw [va_up_ne _ _ (by omega)]
    rw [e1] at hr
    cases hsh : sh q with
    | none =>
      rw [(h.2.1 q hq).1 hsh] at hr
      cases hr
    | some t =>
      obtain ⟨l', z', f'⟩ := t
      obtain ⟨r, r1, r2, r3, -⟩ := (h.2.1 q hq).2 l' z' f' hsh
      rw [r3] at hr
      cases hr
      omega
  refine ⟨f1, fun q hq => ?_, fun q q' hq hq' hne r hr => ?_⟩
  · by_cases e1 : q = s
    · subst e1
      rw [va_up_self]
      refine ⟨(fun hn => by cases hn), fun l' z' f' hf' => ?_⟩
      cases hf'
      refine ⟨e.2.2.1, hn, Nat.lt_succ_self _, own, va_up_self _ _ _, fun i hi => ⟨?_, ?_⟩⟩
      · unfold rowV
        rw [va_up_self, va_up_self]
        split <;> rfl
      · rw [va_up_self]
        exact ⟨fun _ => ⟨0, by decide⟩, fun _ => ⟨0, by decide⟩⟩
    · rw [va_up_ne _ _ e1, oth q e1]
      exact f2 q hq
  · by_cases e1 : q = s
    · subst e1
      rw [own] at hr
      cases hr
      rw [oth q' (Ne.symm hne)]
      exact old q' hq' (Ne.symm hne)
    · rw [oth q e1] at hr
      by_cases e2 : q' = s
      · subst e2
        rw [own]
        intro h9
        cases h9
        exact old q hq e1 hr
      · rw [oth q' e2]
        exact f3 q q' hq hq' hne r hr
theorem CR.row {σ : Sg} {e : En} {I : Nat → Nat → Int32} {G : Nat → Nat → Int64} {s l z : Nat} (hC : CR σ e I G) (hs : s < 4) : CR (setS σ s (some (l, z, fun _ => 0))) (putE (newE e (.inr (ltp l, z))) s (.ref e.2.2.1)) (va_up I e.2.2.1 (fun _ => 0)) (va_up G e.2.2.1 (fun _ => 0)) := by
  have hn := hC.2.2.2.2.1
  refine hC.shs ?_ (fun k hk => va_up_ne _ _ (by omega)) (shC_row hs hC.2.2.2.2)
  show up2 (va_up e.2.1 e.2.2.1 _) (47 + s) 0 _ 25 = _
  rw [up2_o (by omega), va_up_ne _ _ (by omega)]
theorem row_mX {e : En} {I : Nat → Nat → Int32} {G : Nat → Nat → Int64} {s t z : Nat} (hs : s < 4) (hn : 192 ≤ e.2.2.1) : sR (sN (mX e I G) (.inr (t, z))) (up2 (sN (mX e I G) (.inr (t, z))).1.2.1 (47 + s) 0 (.ref e.2.2.1)) = mX (putE (newE e (.inr (t, z))) s (.ref e.2.2.1)) (va_up I e.2.2.1 (fun _ => 0)) (va_up G e.2.2.1 (fun _ => 0)) := by
  rw [mX_new hn]
  have := (mkE_put (e := newE e (.inr (t, z))) hs (.ref e.2.2.1)).2
  show ((_, up2 (mkE (newE e (.inr (t, z)))).2.1 (47 + s) 0 _, _), _, _) = _
  rw [this]
  rfl
theorem row_cl {e : En} {I : Nat → Nat → Int32} {G : Nat → Nat → Int64} {s : Nat} {h : Sh} (hs : s < 4) (hn : 192 ≤ e.2.2.1) : (sN (mX e I G) h).1.1 (47 + s) = some (.inl 8) := by
  show va_up (mkE e).1 e.2.2.1 (some h) (47 + s) = _
  rw [va_up_ne _ _ (by omega)]
  exact (shr_fact hs).2.1
