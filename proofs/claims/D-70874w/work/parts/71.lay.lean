/-! an item is laid, or what the machine refuses is thrown -/
section Lay
variable {X : Xs} {k r z : Nat} {Q : Po} {i : Int32} {v : Int64}
/-- an item as a row of the lane takes it -/
def layV (l : Nat) (v : Int64) : Int32 := if l = 0 then nrw 3 v.toInt32.toInt8.toInt32 else if l = 1 then nrw 4 v.toInt32.toInt16.toInt32 else nrw 0 v.toInt32
def layX (l r : Nat) (i : Int32) (v : Int64) (X : Xs) : Xs := if l = 3 then sG X (up2 X.2.2 r i.toNatClampNeg v) else sI X (up2 X.2.1 r i.toNatClampNeg (layV l v))
theorem s_lay {l : Nat} (hl : l < 4) (hk : X.1.1 k = some (.inl 8)) (hR : X.1.2.1 k 0 = .ref r) (hr : X.1.1 r = some (.inr (ltp l, z))) (hi : vp_in i z) (hQ : Q (.returned none) (layX l r i v X)) : Rn 93 0 [some (.ref k), some (.int (nI l)), some (.int i), some (.long v), none] [] (0, 0) X Q := by
  have e0 : fv X 8 k 0 = .ref r := hR
  rcases (show l = 0 ∨ l = 1 ∨ l = 2 ∨ l = 3 by omega) with rfl | rfl | rfl | rfl
  · refine Rn.go 4 ⟨sw_3 (fun _ => ⟨hk, ?_⟩) (fun h => absurd h (by decide)) (fun h => absurd h (by decide)), fun h => absurd h (by decide)⟩
    rw [e0]
    exact Rn.go 8 ⟨3, z, hr, by decide, Or.inl ⟨rfl, z, hr, by decide, by decide, Or.inl ⟨hi, rfl, hQ⟩⟩⟩
  · refine Rn.go 4 ⟨sw_3 (fun h => absurd h (by decide)) (fun _ => ⟨hk, ?_⟩) (fun h => absurd h (by decide)), fun h => absurd h (by decide)⟩
    rw [e0]
    exact Rn.go 8 ⟨4, z, hr, by decide, Or.inl ⟨rfl, z, hr, by decide, by decide, Or.inl ⟨hi, rfl, hQ⟩⟩⟩
  · refine Rn.go 4 ⟨sw_3 (fun h => absurd h (by decide)) (fun h => absurd h (by decide)) (fun _ => ⟨hk, ?_⟩), fun h => absurd h (by decide)⟩
    rw [e0]
    exact Rn.go 7 ⟨0, z, hr, by decide, Or.inl ⟨rfl, z, hr, by decide, by decide, Or.inl ⟨hi, rfl, hQ⟩⟩⟩
  · refine Rn.go 4 ⟨sw_3 (fun h => absurd h (by decide)) (fun h => absurd h (by decide)) (fun h => absurd h (by decide)), fun _ => ⟨hk, ?_⟩⟩
    rw [e0]
    exact Rn.go 5 ⟨1, z, hr, by decide, Or.inl ⟨rfl, rfl, z, hr, Or.inl ⟨hi, rfl, hQ⟩⟩⟩
/-- no row -/
theorem s_layN {l : Nat} (hl : l < 4) (hk : X.1.1 k = some (.inl 8)) (hR : X.1.2.1 k 0 = .null) (hQ : Q (.threw X.1.2.2.1) (sN X (.inl 11))) : Rn 93 0 [some (.ref k), some (.int (nI l)), some (.int i), some (.long v), none] [] (0, 0) X Q := by
  have e0 : fv X 8 k 0 = .null := hR
  have hn : (sN X (.inl 11)).1.1 X.1.2.2.1 = some (.inl 11) := va_up_self _ _ _
  rcases (show l = 0 ∨ l = 1 ∨ l = 2 ∨ l = 3 by omega) with rfl | rfl | rfl | rfl
  · refine Rn.go 4 ⟨sw_3 (fun _ => ⟨hk, ?_⟩) (fun h => absurd h (by decide)) (fun h => absurd h (by decide)), fun h => absurd h (by decide)⟩
    rw [e0]
    exact Rn.go 6 ⟨by decide, by decide, ⟨by decide, by decide, by decide⟩, 11, hn, rfl, hQ⟩
  · refine Rn.go 4 ⟨sw_3 (fun h => absurd h (by decide)) (fun _ => ⟨hk, ?_⟩) (fun h => absurd h (by decide)), fun h => absurd h (by decide)⟩
    rw [e0]
    exact Rn.go 6 ⟨by decide, by decide, ⟨by decide, by decide, by decide⟩, 11, hn, rfl, hQ⟩
  · refine Rn.go 4 ⟨sw_3 (fun h => absurd h (by decide)) (fun h => absurd h (by decide)) (fun _ => ⟨hk, ?_⟩), fun h => absurd h (by decide)⟩
    rw [e0]
    exact Rn.go 5 ⟨by decide, by decide, ⟨by decide, by decide, by decide⟩, 11, hn, rfl, hQ⟩
  · refine Rn.go 4 ⟨sw_3 (fun h => absurd h (by decide)) (fun h => absurd h (by decide)) (fun h => absurd h (by decide)), fun _ => ⟨hk, ?_⟩⟩
    rw [e0]
    exact Rn.go 4 ⟨rfl, ⟨by decide, by decide, by decide⟩, 11, hn, rfl, hQ⟩
theorem ltp_lt (l : Nat) : ltp l < 5 := by
  unfold ltp
  split
  · decide
  · split
    · decide
    · split <;> decide
theorem ltp_inj : ∀ l, l < 4 → ∀ l', l' < 4 → l ≠ l' → ltp l' ≠ ltp l := by decide
/-- a row of another lane -/
theorem s_layC {l l' : Nat} (hl : l < 4) (hl' : l' < 4) (hne : l ≠ l') (hk : X.1.1 k = some (.inl 8)) (hR : X.1.2.1 k 0 = .ref r) (hr : X.1.1 r = some (.inr (ltp l', z))) (hQ : Q (.threw X.1.2.2.1) (sN X (.inl 12))) : Rn 93 0 [some (.ref k), some (.int (nI l)), some (.int i), some (.long v), none] [] (0, 0) X Q := by
  have e0 : fv X 8 k 0 = .ref r := hR
  have hn : (sN X (.inl 12)).1.1 X.1.2.2.1 = some (.inl 12) := va_up_self _ _ _
  have hx := ltp_inj l hl l' hl' hne
  rcases (show l = 0 ∨ l = 1 ∨ l = 2 ∨ l = 3 by omega) with rfl | rfl | rfl | rfl
  · refine Rn.go 4 ⟨sw_3 (fun _ => ⟨hk, ?_⟩) (fun h => absurd h (by decide)) (fun h => absurd h (by decide)), fun h => absurd h (by decide)⟩
    rw [e0]
    exact Rn.go 1 ⟨ltp l', z, hr, ltp_lt l', Or.inr ⟨hx, ⟨by decide, by decide, by decide⟩, 12, hn, rfl, hQ⟩⟩
  · refine Rn.go 4 ⟨sw_3 (fun h => absurd h (by decide)) (fun _ => ⟨hk, ?_⟩) (fun h => absurd h (by decide)), fun h => absurd h (by decide)⟩
    rw [e0]
    exact Rn.go 1 ⟨ltp l', z, hr, ltp_lt l', Or.inr ⟨hx, ⟨by decide, by decide, by decide⟩, 12, hn, rfl, hQ⟩⟩
  · refine Rn.go 4 ⟨sw_3 (fun h => absurd h (by decide)) (fun h => absurd h (by decide)) (fun _ => ⟨hk, ?_⟩), fun h => absurd h (by decide)⟩
    rw [e0]
    exact Rn.go 1 ⟨ltp l', z, hr, ltp_lt l', Or.inr ⟨hx, ⟨by decide, by decide, by decide⟩, 12, hn, rfl, hQ⟩⟩
  · refine Rn.go 4 ⟨sw_3 (fun h => absurd h (by decide)) (fun h => absurd h (by decide)) (fun h => absurd h (by decide)), fun _ => ⟨hk, ?_⟩⟩
    rw [e0]
    exact Rn.go 1 ⟨ltp l', z, hr, ltp_lt l', Or.inr ⟨hx, ⟨by decide, by decide, by decide⟩, 12, hn, rfl, hQ⟩⟩
/-- beyond the row -/
theorem s_layO {l : Nat} (hl : l < 4) (hk : X.1.1 k = some (.inl 8)) (hR : X.1.2.1 k 0 = .ref r) (hr : X.1.1 r = some (.inr (ltp l, z))) (hi : ¬ vp_in i z) (hz : z ≤ 1000) (hQ : Q (.threw X.1.2.2.1) (sN X (.inl 13))) : Rn 93 0 [some (.ref k), some (.int (nI l)), some (.int i), some (.long v), none] [] (0, 0) X Q := by
  have e0 : fv X 8 k 0 = .ref r := hR
  have hn : (sN X (.inl 13)).1.1 X.1.2.2.1 = some (.inl 13) := va_up_self _ _ _
  rcases (show l = 0 ∨ l = 1 ∨ l = 2 ∨ l = 3 by omega) with rfl | rfl | rfl | rfl
  · refine Rn.go 4 ⟨sw_3 (fun _ => ⟨hk, ?_⟩) (fun h => absurd h (by decide)) (fun h => absurd h (by decide)), fun h => absurd h (by decide)⟩
    rw [e0]
    exact Rn.go 6 ⟨3, z, hr, by decide, Or.inl ⟨rfl, z, hr, by decide, by decide, Or.inr ⟨hi, hz, ⟨by decide, by decide, by decide⟩, 13, hn, rfl, hQ⟩⟩⟩
  · refine Rn.go 4 ⟨sw_3 (fun h => absurd h (by decide)) (fun _ => ⟨hk, ?_⟩) (fun h => absurd h (by decide)), fun h => absurd h (by decide)⟩
    rw [e0]
    exact Rn.go 6 ⟨4, z, hr, by decide, Or.inl ⟨rfl, z, hr, by decide, by decide, Or.inr ⟨hi, hz, ⟨by decide, by decide, by decide⟩, 13, hn, rfl, hQ⟩⟩⟩
  · refine Rn.go 4 ⟨sw_3 (fun h => absurd h (by decide)) (fun h => absurd h (by decide)) (fun _ => ⟨hk, ?_⟩), fun h => absurd h (by decide)⟩
    rw [e0]
    exact Rn.go 5 ⟨0, z, hr, by decide, Or.inl ⟨rfl, z, hr, by decide, by decide, Or.inr ⟨hi, hz, ⟨by decide, by decide, by decide⟩, 13, hn, rfl, hQ⟩⟩⟩
  · refine Rn.go 4 ⟨sw_3 (fun h => absurd h (by decide)) (fun h => absurd h (by decide)) (fun h => absurd h (by decide)), fun _ => ⟨hk, ?_⟩⟩
    rw [e0]
    exact Rn.go 4 ⟨1, z, hr, by decide, Or.inl ⟨rfl, rfl, z, hr, Or.inr ⟨hi, hz, ⟨by decide, by decide, by decide⟩, 13, hn, rfl, hQ⟩⟩⟩
end Lay
