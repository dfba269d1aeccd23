/-! items are copied: the component -/
def cpyL (f g : Nat → Int64) (a b n : Nat) : Nat → Int64 := fun k => if b ≤ k ∧ k < b + n then f (a + (k - b)) else g k
noncomputable def copyF (w i w' j n : Int32) (σ : Sg) : Int32 × Sg := @ite _ (inl w.toInt64 0 3 ∧ inl w'.toInt64 0 3) (Classical.propDecidable _) (match σ.2.2.2.2 w.toNatClampNeg, σ.2.2.2.2 w'.toNatClampNeg with
  | some (l, z, f), some (l', z', g) => if l ≠ l' then (-12, σ) else if i < 0 ∨ j < 0 ∨ n < 0 ∨ z < i.toNatClampNeg + n.toNatClampNeg ∨ z' < j.toNatClampNeg + n.toNatClampNeg then (-13, σ) else (n, setS σ w'.toNatClampNeg (some (l', z', cpyL f g i.toNatClampNeg j.toNatClampNeg n.toNatClampNeg)))
  | _, _ => (-11, σ)) (-1, σ)
/-- up to the call of arraycopy -/
theorem c_copy0 {e : En} {I : Nat → Nat → Int32} {G : Nat → Nat → Int64} {Q : Po} {w i w' j n : Int32} (k1 : ¬ (inl w.toInt64 0 3 ∧ inl w'.toInt64 0 3) → Q (.returned (some (.int (-1)))) (mX e I G))
    (k2 : ∀ a b, a < 4 → b < 4 → w = nI a → w' = nI b → Rn 68 41 [some (.ref 0), some (.int w), some (.int i), some (.int w'), some (.int j), some (.int n), none] [.int n, .int j, e.2.1 (47 + b) 0, .int i, e.2.1 (47 + a) 0] (0, 0) (mX e I G) Q) : Rn 68 0 [some (.ref 0), some (.int w), some (.int i), some (.int w'), some (.int j), some (.int n), none] [] (0, 0) (mX e I G) Q := by
  refine Rn.go 3 ⟨Nat.le_of_ble_eq_true rfl, trivial, fun o X' => o = .returned (some (.int (bz (inl w.toInt64 0 3 ∧ inl ((0 : Int32).toInt64) 0 3)))) ∧ X' = mX e I G, f_isSheet ⟨rfl, rfl⟩, ⟨Nat.le_of_ble_eq_true rfl, Nat.le_of_ble_eq_true rfl, Nat.le_of_ble_eq_true rfl, Nat.le_of_ble_eq_true rfl, Nat.le_of_ble_eq_true rfl, Nat.le_of_ble_eq_true rfl⟩, fun o X' hq => ?_⟩
  obtain ⟨rfl, rfl⟩ := hq
  show Rn 68 5 [some (.ref 0), some (.int w), some (.int i), some (.int w'), some (.int j), some (.int n), none] [.int (bz (inl w.toInt64 0 3 ∧ inl ((0 : Int32).toInt64) 0 3))] (0, 0) (mX e I G) Q
  refine Rn.go 1 ⟨fun h0 => Rn.go 2 ⟨-1, rfl, (fun h => by cases h), k1 (fun q => bz_f h0 ⟨q.1, inl00⟩)⟩, fun h0 => ?_⟩
  have hv := (bz_t h0).1
  refine Rn.go 3 ⟨Nat.le_of_ble_eq_true rfl, trivial, fun o X' => o = .returned (some (.int (bz (inl w'.toInt64 0 3 ∧ inl ((0 : Int32).toInt64) 0 3)))) ∧ X' = mX e I G, f_isSheet ⟨rfl, rfl⟩, ⟨Nat.le_of_ble_eq_true rfl, Nat.le_of_ble_eq_true rfl, Nat.le_of_ble_eq_true rfl, Nat.le_of_ble_eq_true rfl, Nat.le_of_ble_eq_true rfl, Nat.le_of_ble_eq_true rfl⟩, fun o X' hq => ?_⟩
  obtain ⟨rfl, rfl⟩ := hq
  show Rn 68 13 [some (.ref 0), some (.int w), some (.int i), some (.int w'), some (.int j), some (.int n), none] [.int (bz (inl w'.toInt64 0 3 ∧ inl ((0 : Int32).toInt64) 0 3))] (0, 0) (mX e I G) Q
  refine Rn.go 1 ⟨fun h1 => Rn.go 2 ⟨-1, rfl, (fun h => by cases h), k1 (fun q => bz_f h1 ⟨q.2, inl00⟩)⟩, fun h1 => ?_⟩
  have hv' := (bz_t h1).1
  obtain ⟨a, -, ha, rfl⟩ := inR (lo := 0) (hi := 3) hv
  obtain ⟨b, -, hb, rfl⟩ := inR (lo := 0) (hi := 3) hv'
  obtain ⟨g1, g2, g3, g4, g5⟩ := shr_fact (e := e) (show a < 4 by omega)
  obtain ⟨p1, p2, p3, p4, p5⟩ := shr_fact (e := e) (show b < 4 by omega)
  refine Rn.go 4 ⟨rfl, 7, 4, rfl, Nat.le_of_ble_eq_true rfl, g5, ?_⟩
  show Rn 68 24 [some (.ref 0), some (.int (nI a)), some (.int i), some (.int (nI b)), some (.int j), some (.int n), none] [(mkE e).2.1 46 (nI a).toNatClampNeg] (0, 0) (mX e I G) Q
  rw [g4, g1]
  refine Rn.go 1 ⟨g2, ?_⟩
  show Rn 68 27 [some (.ref 0), some (.int (nI a)), some (.int i), some (.int (nI b)), some (.int j), some (.int n), none] [(mkE e).2.1 (47 + a) 0] (0, 0) (mX e I G) Q
  rw [g3]
  refine Rn.go 5 ⟨rfl, 7, 4, rfl, Nat.le_of_ble_eq_true rfl, p5, ?_⟩
  show Rn 68 34 [some (.ref 0), some (.int (nI a)), some (.int i), some (.int (nI b)), some (.int j), some (.int n), none] [(mkE e).2.1 46 (nI b).toNatClampNeg, .int i, e.2.1 (47 + a) 0] (0, 0) (mX e I G) Q
  rw [p4, p1]
  refine Rn.go 1 ⟨p2, ?_⟩
  show Rn 68 37 [some (.ref 0), some (.int (nI a)), some (.int i), some (.int (nI b)), some (.int j), some (.int n), none] [(mkE e).2.1 (47 + b) 0, .int i, e.2.1 (47 + a) 0] (0, 0) (mX e I G) Q
  rw [p3]
  exact Rn.go 2 (k2 a b (by omega) (by omega) rfl rfl)
