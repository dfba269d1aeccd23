/-! a row: its lane, its size, an item; an item laid -/
section Rows
variable {X : Xs} {k r z : Nat} {Q : Po}
theorem s_lane {l : Nat} (hl : l < 4) (hk : X.1.1 k = some (.inl 8)) (hR : X.1.2.1 k 0 = .ref r) (hr : X.1.1 r = some (.inr (ltp l, z))) (hQ : Q (.returned (some (.int (nI l)))) X) : Rn 90 0 [some (.ref k)] [] (0, 0) X Q := by
  have e0 : fv X 8 k 0 = .ref r := hR
  refine Rn.go 2 ⟨hk, ?_⟩
  rw [e0]
  rcases (show l = 0 ∨ l = 1 ∨ l = 2 ∨ l = 3 by omega) with rfl | rfl | rfl | rfl
  · exact Rn.go 2 ⟨3, z, hr, by decide, fun h => absurd h (by decide), fun _ => Rn.go 3 ⟨0, rfl, fun _ => Or.inl rfl, hQ⟩⟩
  · refine Rn.go 4 ⟨4, z, hr, by decide, fun _ => ⟨hk, ?_⟩, fun h => absurd rfl h⟩
    rw [e0]
    exact Rn.go 2 ⟨4, z, hr, by decide, fun h => absurd h (by decide), fun _ => Rn.go 3 ⟨1, rfl, fun _ => Or.inr rfl, hQ⟩⟩
  · refine Rn.go 4 ⟨0, z, hr, by decide, fun _ => ⟨hk, ?_⟩, fun h => absurd rfl h⟩
    rw [e0]
    refine Rn.go 4 ⟨0, z, hr, by decide, fun _ => ⟨hk, ?_⟩, fun h => absurd rfl h⟩
    rw [e0]
    exact Rn.go 2 ⟨0, z, hr, by decide, fun h => absurd h (by decide), fun _ => Rn.go 3 ⟨2, rfl, (fun h => by cases h), hQ⟩⟩
  · refine Rn.go 4 ⟨1, z, hr, by decide, fun _ => ⟨hk, ?_⟩, fun h => absurd rfl h⟩
    rw [e0]
    refine Rn.go 4 ⟨1, z, hr, by decide, fun _ => ⟨hk, ?_⟩, fun h => absurd rfl h⟩
    rw [e0]
    exact Rn.go 2 ⟨1, z, hr, by decide, fun _ => Rn.go 2 ⟨3, rfl, (fun h => by cases h), hQ⟩, fun h => absurd rfl h⟩
theorem s_size {l : Nat} (hl : l < 4) (hk : X.1.1 k = some (.inl 8)) (hR : X.1.2.1 k 0 = .ref r) (hr : X.1.1 r = some (.inr (ltp l, z))) (hQ : Q (.returned (some (.int (Int32.ofNat z)))) X) : Rn 91 0 [some (.ref k), none, none] [] (0, 0) X Q := by
  have e0 : fv X 8 k 0 = .ref r := hR
  refine Rn.go 2 ⟨hk, ?_⟩
  rw [e0]
  rcases (show l = 0 ∨ l = 1 ∨ l = 2 ∨ l = 3 by omega) with rfl | rfl | rfl | rfl
  · exact Rn.go 4 ⟨3, z, hr, by decide, fun h => absurd h (by decide), fun _ => Rn.go 6 ⟨3, z, hr, by decide, Or.inl ⟨rfl, 3, z, hr, Int32.ofNat z, rfl, (fun h => by cases h), hQ⟩⟩⟩
  · refine Rn.go 6 ⟨4, z, hr, by decide, fun _ => ⟨hk, ?_⟩, fun h => absurd rfl h⟩
    rw [e0]
    exact Rn.go 4 ⟨4, z, hr, by decide, fun h => absurd h (by decide), fun _ => Rn.go 6 ⟨4, z, hr, by decide, Or.inl ⟨rfl, 4, z, hr, Int32.ofNat z, rfl, (fun h => by cases h), hQ⟩⟩⟩
  · refine Rn.go 6 ⟨0, z, hr, by decide, fun _ => ⟨hk, ?_⟩, fun h => absurd rfl h⟩
    rw [e0]
    refine Rn.go 6 ⟨0, z, hr, by decide, fun _ => ⟨hk, ?_⟩, fun h => absurd rfl h⟩
    rw [e0]
    exact Rn.go 4 ⟨0, z, hr, by decide, fun h => absurd h (by decide), fun _ => Rn.go 7 ⟨0, z, hr, by decide, Or.inl ⟨rfl, 0, z, hr, Int32.ofNat z, rfl, (fun h => by cases h), hQ⟩⟩⟩
  · refine Rn.go 6 ⟨1, z, hr, by decide, fun _ => ⟨hk, ?_⟩, fun h => absurd rfl h⟩
    rw [e0]
    refine Rn.go 6 ⟨1, z, hr, by decide, fun _ => ⟨hk, ?_⟩, fun h => absurd rfl h⟩
    rw [e0]
    refine Rn.go 6 ⟨1, z, hr, by decide, fun _ => ⟨hk, ?_⟩, fun h => absurd rfl h⟩
    rw [e0]
    exact Rn.go 3 ⟨1, z, hr, by decide, Or.inl ⟨rfl, 1, z, hr, Int32.ofNat z, rfl, (fun h => by cases h), hQ⟩⟩
theorem s_get {l : Nat} {i : Int32} (hl : l < 4) (hk : X.1.1 k = some (.inl 8)) (hR : X.1.2.1 k 0 = .ref r) (hr : X.1.1 r = some (.inr (ltp l, z))) (hi : vp_in i z) (hQ : Q (.returned (some (.long (rowV l X.2.1 X.2.2 r i.toNatClampNeg)))) X) : Rn 92 0 [some (.ref k), some (.int i), none, none] [] (0, 0) X Q := by
  have e0 : fv X 8 k 0 = .ref r := hR
  refine Rn.go 2 ⟨hk, ?_⟩
  rw [e0]
  rcases (show l = 0 ∨ l = 1 ∨ l = 2 ∨ l = 3 by omega) with rfl | rfl | rfl | rfl
  · exact Rn.go 4 ⟨3, z, hr, by decide, fun h => absurd h (by decide), fun _ => Rn.go 8 ⟨3, z, hr, by decide, Or.inl ⟨rfl, z, hr, hi, _, rfl, hQ⟩⟩⟩
  · refine Rn.go 6 ⟨4, z, hr, by decide, fun _ => ⟨hk, ?_⟩, fun h => absurd rfl h⟩
    rw [e0]
    exact Rn.go 4 ⟨4, z, hr, by decide, fun h => absurd h (by decide), fun _ => Rn.go 8 ⟨4, z, hr, by decide, Or.inl ⟨rfl, z, hr, hi, _, rfl, hQ⟩⟩⟩
  · refine Rn.go 6 ⟨0, z, hr, by decide, fun _ => ⟨hk, ?_⟩, fun h => absurd rfl h⟩
    rw [e0]
    refine Rn.go 6 ⟨0, z, hr, by decide, fun _ => ⟨hk, ?_⟩, fun h => absurd rfl h⟩
    rw [e0]
    exact Rn.go 4 ⟨0, z, hr, by decide, fun h => absurd h (by decide), fun _ => Rn.go 9 ⟨0, z, hr, by decide, Or.inl ⟨rfl, z, hr, hi, _, rfl, hQ⟩⟩⟩
  · refine Rn.go 6 ⟨1, z, hr, by decide, fun _ => ⟨hk, ?_⟩, fun h => absurd rfl h⟩
    rw [e0]
    refine Rn.go 6 ⟨1, z, hr, by decide, fun _ => ⟨hk, ?_⟩, fun h => absurd rfl h⟩
    rw [e0]
    refine Rn.go 6 ⟨1, z, hr, by decide, fun _ => ⟨hk, ?_⟩, fun h => absurd rfl h⟩
    rw [e0]
    exact Rn.go 4 ⟨1, z, hr, by decide, Or.inl ⟨rfl, z, hr, hi, _, rfl, hQ⟩⟩
end Rows
