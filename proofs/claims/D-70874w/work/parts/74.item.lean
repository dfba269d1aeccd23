/-! behind an exception; an item is laid: the component -/
def newE (e : En) (h : Sh) : En := (va_up e.1 e.2.2.1 (some h), va_up e.2.1 e.2.2.1 (fun _ => .null), e.2.2.1 + 1, e.2.2.2)
theorem mX_new {e : En} {I : Nat → Nat → Int32} {G : Nat → Nat → Int64} {h : Sh} (hn : 192 ≤ e.2.2.1) : sN (mX e I G) h = mX (newE e h) (va_up I e.2.2.1 (fun _ => 0)) (va_up G e.2.2.1 (fun _ => 0)) := by
  have e1 : va_up (Sx e.1) e.2.2.1 (some h) = Sx (va_up e.1 e.2.2.1 (some h)) := by
    funext k
    unfold Sx
    by_cases hk : k = e.2.2.1
    · subst hk
      rw [va_up_self, if_neg (by omega), va_up_self]
    · rw [va_up_ne _ _ hk, va_up_ne _ _ hk]
  have e2 : va_up (Rx e.2.1) e.2.2.1 (fun _ => Value.null) = Rx (va_up e.2.1 e.2.2.1 (fun _ => .null)) := by
    funext k j
    have hv : isV e.2.2.1 = true := by
      unfold isV
      rw [show Nat.ble 192 e.2.2.1 = true from Nat.ble_eq.mpr hn]
      rfl
    by_cases hk : k = e.2.2.1
    · subst hk
      unfold Rx
      rw [va_up_self, va_up_self, hv]
      rfl
    · unfold Rx
      rw [va_up_ne _ _ hk, va_up_ne _ _ hk]
  show ((va_up (Sx e.1) e.2.2.1 (some h), va_up (Rx e.2.1) e.2.2.1 (fun _ => .null), e.2.2.1 + 1, e.2.2.2), _, _) = _
  rw [e1, e2]
  rfl
theorem shC_new {e : En} {I : Nat → Nat → Int32} {G : Nat → Nat → Int64} {sh : ShT} {h : Sh} (hs : shC e I G sh) : shC (newE e h) (va_up I e.2.2.1 (fun _ => 0)) (va_up G e.2.2.1 (fun _ => 0)) sh := by
  obtain ⟨f1, f2, f3⟩ := hs
  have q : ∀ s, s < 4 → (newE e h).2.1 (47 + s) 0 = e.2.1 (47 + s) 0 := fun s hs => by
    show va_up e.2.1 e.2.2.1 _ (47 + s) 0 = _
    rw [va_up_ne _ _ (by omega)]
  refine ⟨Nat.le_succ_of_le f1, fun s hs => ?_, fun s s' hs hs' => ?_⟩
  · rw [q s hs]
    refine ⟨(f2 s hs).1, fun l z f hf => ?_⟩
    obtain ⟨r, r1, r2, r3, r4, r5⟩ := (f2 s hs).2 l z f hf
    refine ⟨r, r1, Nat.lt_succ_of_lt r2, r3, ?_, fun i hi => ?_⟩
    · show va_up e.1 e.2.2.1 _ r = _
      rw [va_up_ne _ _ (by omega)]
      exact r4
    · unfold rowV
      rw [va_up_ne _ _ (show r ≠ e.2.2.1 by omega), va_up_ne _ _ (show r ≠ e.2.2.1 by omega)]
      exact r5 i hi
  · rw [q s hs, q s' hs']
    exact f3 s s' hs hs'
theorem CR.new {σ : Sg} {e : En} {I : Nat → Nat → Int32} {G : Nat → Nat → Int64} {h : Sh} (hC : CR σ e I G) : CR σ (newE e h) (va_up I e.2.2.1 (fun _ => 0)) (va_up G e.2.2.1 (fun _ => 0)) := by
  have hn := hC.2.2.2.2.1
  exact hC.shs (by show va_up e.2.1 e.2.2.1 _ 25 = _; rw [va_up_ne _ _ (by omega)]) (fun k hk => va_up_ne _ _ (by omega)) (shC_new hC.2.2.2.2)
theorem keepC_new {e : En} {I : Nat → Nat → Int32} {G : Nat → Nat → Int64} {h : Sh} (hn : 192 ≤ e.2.2.1) : keepC e I G (newE e h) (va_up I e.2.2.1 (fun _ => 0)) (va_up G e.2.2.1 (fun _ => 0)) :=
  ⟨rfl, fun k _ h2 => ⟨va_up_ne _ _ (by omega), va_up_ne _ _ (by omega)⟩⟩
theorem nrw3 (x : Int32) : nrw 3 x = x.toInt8.toInt32 := rfl
theorem nrw4 (x : Int32) : nrw 4 x = x.toInt16.toInt32 := rfl
theorem layV_low {l : Nat} (hl : l < 3) (v : Int64) : (layV l v).toInt64 = lowE (nI l) v := by
  rcases (show l = 0 ∨ l = 1 ∨ l = 2 by omega) with rfl | rfl | rfl
  · show (nrw 3 v.toInt32.toInt8.toInt32).toInt64 = v.toInt32.toInt8.toInt32.toInt64
    rw [nrw3]
    simp
  · show (nrw 4 v.toInt32.toInt16.toInt32).toInt64 = v.toInt32.toInt16.toInt32.toInt64
    rw [nrw4]
    simp
  · rfl
theorem lowE3 (v : Int64) : lowE (nI 3) v = v := rfl
theorem layV_fit (l : Nat) (v : Int64) : fitL l (layV l v) := by
  refine ⟨fun h => ?_, fun h => ?_⟩
  · subst h
    exact ⟨_, rfl⟩
  · subst h
    exact ⟨_, rfl⟩
/-- an item of a row -/
def updL (f : Nat → Int64) (i : Nat) (v : Int64) : Nat → Int64 := fun j => if j = i then v else f j
noncomputable def itemF (w lane i : Int32) (v : Int64) (σ : Sg) : Int32 × Sg := @ite _ (inl w.toInt64 0 3 ∧ inl lane.toInt64 0 3) (Classical.propDecidable _) (match σ.2.2.2.2 w.toNatClampNeg with
  | none => (-11, σ)
  | some (l, z, f) => if nI l ≠ lane then (-12, σ) else @ite _ (vp_in i z) (Classical.propDecidable _) (1, setS σ w.toNatClampNeg (some (l, z, updL f i.toNatClampNeg (lowE lane v)))) (-13, σ)) (-1, σ)
/-- the store behind a lay -/
def layI (l r : Nat) (i : Int32) (v : Int64) (I : Nat → Nat → Int32) : Nat → Nat → Int32 := if l = 3 then I else up2 I r i.toNatClampNeg (layV l v)
def layG (l r : Nat) (i : Int32) (v : Int64) (G : Nat → Nat → Int64) : Nat → Nat → Int64 := if l = 3 then up2 G r i.toNatClampNeg v else G
theorem layX_mX {l r : Nat} {i : Int32} {v : Int64} {e : En} {I : Nat → Nat → Int32} {G : Nat → Nat → Int64} : layX l r i v (mX e I G) = mX e (layI l r i v I) (layG l r i v G) := by
  unfold layX layI layG
  by_cases h : l = 3
  · rw [if_pos h, if_pos h, if_pos h]; rfl
  · rw [if_neg h, if_neg h, if_neg h]; rfl
theorem layI_o {l r q : Nat} {i : Int32} {v : Int64} {I : Nat → Nat → Int32} (h : q ≠ r) : layI l r i v I q = I q := by
  unfold layI
  split
  · rfl
  · exact up2_o h
theorem layG_o {l r q : Nat} {i : Int32} {v : Int64} {G : Nat → Nat → Int64} (h : q ≠ r) : layG l r i v G q = G q := by
  unfold layG
  split
  · exact up2_o h
  · rfl
theorem lay_row {l r : Nat} {i : Int32} {v : Int64} {I : Nat → Nat → Int32} {G : Nat → Nat → Int64} (hl : l < 4) (j : Nat) : rowV l (layI l r i v I) (layG l r i v G) r j = (if j = i.toNatClampNeg then lowE (nI l) v else rowV l I G r j) ∧ (fitL l (I r j) → fitL l (layI l r i v I r j)) := by
  unfold rowV layI layG
  by_cases h : l = 3
  · subst h
    rw [if_pos rfl, if_pos rfl, if_pos rfl, if_pos rfl]
    refine ⟨?_, id⟩
    unfold up2
    rw [if_pos rfl]
    rfl
  · rw [if_neg h, if_neg h, if_neg h]
    unfold up2
    rw [if_pos rfl]
    by_cases hj : j = i.toNatClampNeg
    · rw [if_pos hj, if_pos hj]
      exact ⟨layV_low (by omega) v, fun _ => layV_fit l v⟩
    · rw [if_neg hj, if_neg hj]
      exact ⟨rfl, id⟩
theorem CR.lay {σ : Sg} {e : En} {I : Nat → Nat → Int32} {G : Nat → Nat → Int64} {s l z r : Nat} {f : Nat → Int64} {i : Int32} {v : Int64} (h : CR σ e I G) (hs : s < 4) (hl : l < 4) (hf : σ.2.2.2.2 s = some (l, z, f)) (hr : e.2.1 (47 + s) 0 = .ref r) (hr1 : 192 ≤ r) (hr2 : r < e.2.2.1) (hr4 : e.1 r = some (.inr (ltp l, z))) (hr5 : ∀ j, j < z → rowV l I G r j = f j ∧ fitL l (I r j)) :
    CR (setS σ s (some (l, z, updL f i.toNatClampNeg (lowE (nI l) v)))) e (layI l r i v I) (layG l r i v G) := by
  obtain ⟨f1, f2, f3⟩ := h.2.2.2.2
  refine h.shs rfl (fun k hk => layI_o (by omega)) ⟨f1, fun q hq => ?_, f3⟩
  by_cases e1 : q = s
  · subst e1
    refine ⟨fun hn => ?_, fun l' z' f' hf' => ?_⟩
    · rw [va_up_self] at hn
      cases hn
    · rw [va_up_self] at hf'
      cases hf'
      refine ⟨r, hr1, hr2, hr, hr4, fun j hj => ?_⟩
      obtain ⟨a1, a2⟩ := lay_row (r := r) (i := i) (v := v) (I := I) (G := G) hl j
      refine ⟨?_, a2 (hr5 j hj).2⟩
      rw [a1, (hr5 j hj).1]
      rfl
  · rw [va_up_ne _ _ e1]
    refine ⟨(f2 q hq).1, fun l' z' f' hf' => ?_⟩
    obtain ⟨r', b1, b2, b3, b4, b5⟩ := (f2 q hq).2 l' z' f' hf'
    have hne : r' ≠ r := fun e2 => by
      subst e2
      exact f3 q s hq hs e1 r' b3 hr
    refine ⟨r', b1, b2, b3, b4, fun j hj => ?_⟩
    unfold rowV
    rw [layI_o hne, layG_o hne]
    exact b5 j hj
theorem new_at {e : En} {h : Sh} (hn : 192 ≤ e.2.2.1) : (mkE (newE e h)).1 e.2.2.1 = some h := by
  rw [row_fact hn]
  exact va_up_self _ _ _
theorem nI4 : ∀ l, l < 4 → ∀ l', l' < 4 → nI l = nI l' → l = l' := by decide
