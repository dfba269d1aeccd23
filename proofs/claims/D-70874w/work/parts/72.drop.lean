/-! a row is dropped -/
def setS (σ : Sg) (s : Nat) (o : Option (Nat × Nat × (Nat → Int64))) : Sg := (σ.1, σ.2.1, σ.2.2.1, σ.2.2.2.1, va_up σ.2.2.2.2 s o)
noncomputable def dropF (w : Int32) (σ : Sg) : Int32 × Sg := @ite _ (inl w.toInt64 0 3) (Classical.propDecidable _) (match σ.2.2.2.2 w.toNatClampNeg with
  | none => (-11, σ)
  | some (_, z, _) => (nI z, setS σ w.toNatClampNeg none)) (-1, σ)
/-- another reference in a sheet -/
def putE (e : En) (s : Nat) (v : Value) : En := (e.1, up2 e.2.1 (47 + s) 0 v, e.2.2)
theorem mkE_put {e : En} {s : Nat} (hs : s < 4) (v : Value) : (mkE e).1 = (mkE (putE e s v)).1 ∧ up2 (mkE e).2.1 (47 + s) 0 v = (mkE (putE e s v)).2.1 := by
  refine ⟨rfl, ?_⟩
  funext k j
  show up2 (Rx e.2.1) (47 + s) 0 v k j = Rx (up2 e.2.1 (47 + s) 0 v) k j
  unfold up2 Rx
  by_cases hk : k = 47 + s
  · subst hk
    have : isV (47 + s) = true := by
      rcases (show s = 0 ∨ s = 1 ∨ s = 2 ∨ s = 3 by omega) with rfl | rfl | rfl | rfl <;> rfl
    simp only [if_pos rfl, this, if_true]
  · simp only [if_neg hk]
theorem shr_fact {e : En} {s : Nat} (hs : s < 4) : (mkE e).2.1 46 s = .ref (47 + s) ∧ (mkE e).1 (47 + s) = some (.inl 8) ∧ (mkE e).2.1 (47 + s) 0 = e.2.1 (47 + s) 0 ∧ (nI s).toNatClampNeg = s ∧ vp_in (nI s) 4 := by
  rcases (show s = 0 ∨ s = 1 ∨ s = 2 ∨ s = 3 by omega) with rfl | rfl | rfl | rfl <;> exact ⟨rfl, rfl, rfl, by decide, vin (by decide)⟩
theorem row_fact {e : En} {r : Nat} (h : 192 ≤ r) : (mkE e).1 r = e.1 r := by
  show Sx e.1 r = e.1 r
  unfold Sx
  rw [if_neg (by omega)]
theorem up2_s {α : Type} {f : Nat → Nat → α} {k j : Nat} {v : α} : up2 f k j v k j = v := by unfold up2; simp
theorem up2_o {α : Type} {f : Nat → Nat → α} {k j q : Nat} {v : α} (h : q ≠ k) : up2 f k j v q = f q := by funext i; unfold up2; rw [if_neg h]
theorem CR.shs {σ : Sg} {e e' : En} {I I' : Nat → Nat → Int32} {G G' : Nat → Nat → Int64} {sh' : ShT} (h : CR σ e I G) (h25 : e'.2.1 25 = e.2.1 25) (hI : ∀ k, k < 192 → I' k = I k) (hs : shC e' I' G' sh') : CR (σ.1, σ.2.1, σ.2.2.1, σ.2.2.2.1, sh') e' I' G' := by
  obtain ⟨⟨π, a1, a2, a3, a4⟩, b, ⟨c1, c2⟩, ⟨d1, d2⟩, -⟩ := h
  refine ⟨⟨π, ?_, by rw [hI 0 (by omega)]; exact a2, a3, fun k hk => ?_⟩, ?_, ⟨by rw [hI 0 (by omega)]; exact c1, fun i hi => by rw [hI 16 (by omega)]; exact c2 i hi⟩, ⟨by rw [hI 0 (by omega)]; exact d1, fun hkp => ?_⟩, hs⟩
  · obtain ⟨q1, q2⟩ := a1
    exact ⟨fun k hk => ⟨by rw [h25]; exact (q1 k hk).1, (q1 k hk).2⟩, q2⟩
  · rw [← a4 k hk]
    have := (a1.1 k (Nat.lt_of_lt_of_le hk a3)).2
    rw [twn_con fun o ho => hI _ (by omega)]
  · show twn I' 7 = σ.1
    rw [twn_con fun o ho => hI _ (by omega)]
    exact b
  · obtain ⟨e1, e2, e3, e4⟩ := d2 hkp
    refine ⟨?_, by rw [hI 0 (by omega)]; exact e2, e3, fun k hk => ?_⟩
    · show twn I' 37 = _
      rw [twn_con fun o ho => hI _ (by omega)]
      exact e1
    · rw [← e4 k hk]
      have hk8 : k < 8 := Nat.lt_of_lt_of_le hk e3
      rw [twn_con fun o ho => hI _ (by omega)]
theorem shC_drop {e : En} {I : Nat → Nat → Int32} {G : Nat → Nat → Int64} {sh : ShT} {s : Nat} (hs : s < 4) (h : shC e I G sh) : shC (putE e s .null) I G (va_up sh s none) := by
  obtain ⟨f1, f2, f3⟩ := h
  have own : (putE e s .null).2.1 (47 + s) 0 = .null := up2_s
  have oth : ∀ q, q ≠ s → (putE e s .null).2.1 (47 + q) 0 = e.2.1 (47 + q) 0 := fun q hq => by
    show up2 e.2.1 (47 + s) 0 .null (47 + q) 0 = _
    rw [up2_o (by omega)]
  refine ⟨f1, fun q hq => ?_, fun q q' hq hq' hne r hr => ?_⟩
  · by_cases e1 : q = s
    · subst e1
      refine ⟨fun _ => own, fun l z f hf => ?_⟩
      rw [va_up_self] at hf
      cases hf
    · rw [va_up_ne _ _ e1, oth q e1]
      exact f2 q hq
  · by_cases e1 : q = s
    · subst e1
      rw [own] at hr
      cases hr
    · rw [oth q e1] at hr
      by_cases e2 : q' = s
      · subst e2
        rw [own]
        exact fun h => by cases h
      · rw [oth q' e2]
        exact f3 q q' hq hq' hne r hr
theorem CR.drop {σ : Sg} {e : En} {I : Nat → Nat → Int32} {G : Nat → Nat → Int64} {s : Nat} (h : CR σ e I G) (hs : s < 4) : CR (setS σ s none) (putE e s .null) I G :=
  h.shs (by show up2 e.2.1 (47 + s) 0 .null 25 = _; rw [up2_o (by omega)]) (fun _ _ => rfl) (shC_drop hs h.2.2.2.2)
theorem inl00 : inl ((0 : Int32).toInt64) 0 3 := by decide
theorem c_drop {w : Int32} : oC 66 [some (.ref 0), some (.int w), none] (dropF w) := by
  intro e I G Q σ hC hO hQ
  refine Rn.go 3 ⟨Nat.le_of_ble_eq_true rfl, trivial, fun o X' => o = .returned (some (.int (bz (inl w.toInt64 0 3 ∧ inl ((0 : Int32).toInt64) 0 3)))) ∧ X' = mX e I G, f_isSheet ⟨rfl, rfl⟩, ⟨Nat.le_of_ble_eq_true rfl, Nat.le_of_ble_eq_true rfl, Nat.le_of_ble_eq_true rfl, Nat.le_of_ble_eq_true rfl, Nat.le_of_ble_eq_true rfl, Nat.le_of_ble_eq_true rfl⟩, fun o X' hq => ?_⟩
  obtain ⟨rfl, rfl⟩ := hq
  show Rn 66 5 [some (.ref 0), some (.int w), none] [.int (bz (inl w.toInt64 0 3 ∧ inl ((0 : Int32).toInt64) 0 3))] (0, 0) (mX e I G) Q
  refine Rn.go 1 ⟨fun h0 => ?_, fun h0 => ?_⟩
  · have hv : ¬ inl w.toInt64 0 3 := fun q => bz_f h0 ⟨q, inl00⟩
    refine Rn.go 2 ⟨-1, rfl, (fun h => by cases h), ?_⟩
    have := hQ e I G
    unfold dropF at this
    rw [if_neg hv] at this
    exact this hC ⟨rfl, fun k _ _ => ⟨rfl, rfl⟩⟩
  · have hv := (bz_t h0).1
    have hv0 := hv
    obtain ⟨s, -, hs, rfl⟩ := inR (lo := 0) (hi := 3) hv
    have hs4 : s < 4 := by omega
    obtain ⟨g1, g2, g3, g4, g5⟩ := shr_fact (e := e) hs4
    have e9 : fv (mX e I G) 8 (47 + s) 0 = e.2.1 (47 + s) 0 := g3
    have hF : ∀ e' I' G', CR (dropF (nI s) σ).2 e' I' G' → keepC e I G e' I' G' → Q (.returned (some (.int (dropF (nI s) σ).1))) (mX e' I' G') := hQ
    unfold dropF at hF
    rw [if_pos hv0, g4] at hF
    refine Rn.go 4 ⟨rfl, 7, 4, rfl, Nat.le_of_ble_eq_true rfl, g5, ?_⟩
    show Rn 66 16 [some (.ref 0), some (.int (nI s)), none] [(mkE e).2.1 46 (nI s).toNatClampNeg] (0, 0) (mX e I G) Q
    rw [g4, g1]
    refine Rn.go 1 ⟨g2, ?_⟩
    show Rn 66 19 [some (.ref 0), some (.int (nI s)), none] [fv (mX e I G) 8 (47 + s) 0] (0, 0) (mX e I G) Q
    rw [e9]
    cases hsh : σ.2.2.2.2 s with
    | none =>
      rw [hsh] at hF
      rw [(hC.2.2.2.2.2.1 s hs4).1 hsh]
      exact Rn.go 3 ⟨-11, rfl, (fun h => by cases h), hF e I G hC ⟨rfl, fun k _ _ => ⟨rfl, rfl⟩⟩⟩
    | some q =>
      obtain ⟨l, z, f⟩ := q
      rw [hsh] at hF
      obtain ⟨r, r1, r2, r3, r4, r5⟩ := (hC.2.2.2.2.2.1 s hs4).2 l z f hsh
      obtain ⟨hl4, hz24⟩ := hO.2.2.2 s hs4 l z f hsh
      rw [r3]
      refine Rn.go 5 ⟨rfl, 7, 4, rfl, Nat.le_of_ble_eq_true rfl, g5, ?_⟩
      show Rn 66 31 [some (.ref 0), some (.int (nI s)), none] [(mkE e).2.1 46 (nI s).toNatClampNeg] (0, 0) (mX e I G) Q
      rw [g4, g1]
      refine Rn.go 1 ⟨Nat.le_of_ble_eq_true rfl, ⟨47 + s, rfl, g2⟩, fun o X' => o = .returned (some (.int (Int32.ofNat z))) ∧ X' = mX e I G, s_size (X := mX e I G) (r := r) (z := z) hl4 g2 (g3.trans r3) ((row_fact r1).trans r4) ⟨rfl, rfl⟩, ⟨Nat.le_of_ble_eq_true rfl, Nat.le_of_ble_eq_true rfl, Nat.le_of_ble_eq_true rfl, Nat.le_of_ble_eq_true rfl, Nat.le_of_ble_eq_true rfl, Nat.le_of_ble_eq_true rfl⟩, fun o X' hq => ?_⟩
      obtain ⟨rfl, rfl⟩ := hq
      show Rn 66 34 [some (.ref 0), some (.int (nI s)), none] [.int (Int32.ofNat z)] (0, 0) (mX e I G) Q
      refine Rn.go 5 ⟨rfl, 7, 4, rfl, Nat.le_of_ble_eq_true rfl, g5, ?_⟩
      show Rn 66 41 [some (.ref 0), some (.int (nI s)), some (.int (Int32.ofNat z))] [(mkE e).2.1 46 (nI s).toNatClampNeg] (0, 0) (mX e I G) Q
      rw [g4, g1]
      refine Rn.go 4 ⟨g2, rfl, Int32.ofNat z, rfl, (fun h => by cases h), ?_⟩
      have hm : sR (mX e I G) (up2 (mX e I G).1.2.1 (47 + s) 0 .null) = mX (putE e s .null) I G := by
        have := (mkE_put (e := e) hs4 .null).2
        show ((_, up2 (mkE e).2.1 (47 + s) 0 .null, _), I, G) = ((mkE (putE e s .null)), I, G)
        rw [this]
        rfl
      rw [hm]
      exact hF (putE e s .null) I G (hC.drop hs4) ⟨rfl, fun k _ _ => ⟨rfl, rfl⟩⟩
