/-! the law, from its start -/
section Lc
variable {Q : Po}
set_option maxRecDepth 100000
theorem rng_all {n : Nat} {f : Nat → Bool} (h : (List.range n).all f = true) : ∀ k, k < n → f k = true := fun k hk => List.all_eq_true.mp h k (List.mem_range.mpr hk)
theorem begun {c2 : List Cel} (s : (Nat → Int32) × Nat) (h : chk2 c2 = true) : ∃ σ e I G, stX s c2 = mX e I G ∧ e.2.2.2 = s ∧ lwI σ e I G := by
  unfold chk2 at h
  simp only [Bool.and_eq_true] at h
  obtain ⟨a1, a2, a3, a4, a5, a6, a7, a8, a9⟩ := h
  have b1 : c2.length = 192 := by simpa using a1
  have b2 := fun k hk => of_decide_eq_true (rng_all a2 k hk)
  have b4 := fun k hk => vEq_t (rng_all a4 k hk)
  have b5 := fun k hk => vEq_t (rng_all a5 k hk)
  have b6 := fun k hk => of_decide_eq_true (rng_all a6 k hk)
  have b7 := fun k hk => of_decide_eq_true (rng_all a7 k hk)
  obtain ⟨d1, d2, d3, d4, d5, d6⟩ := of_decide_eq_true a8
  have b9 := fun k hk => of_decide_eq_true (rng_all a9 k hk)
  have hS : Sx (cS c2) = cS c2 := by
    funext k
    unfold Sx
    split
    · rename_i hk
      exact (b2 k hk).symm
    · rfl
  have hR : Rx (cR c2) = cR c2 := by
    funext k j
    unfold Rx
    cases hv : isV k with
    | true => rfl
    | false =>
      have hk : k < 192 := by
        rcases Nat.lt_or_ge k 192 with x | x
        · exact x
        · unfold isV at hv
          rw [Nat.ble_eq_true_of_le x] at hv
          cases hv
      have := rng_all a3 k hk
      rw [hv, Bool.false_or] at this
      have e1 := lEq_t this j
      show R0 k j = cR c2 k j
      have e2 : cR c2 k j = (cRl c2 k).getD j .null := by
        unfold cR cRl
        cases c2[k]? <;> rfl
      rw [e2, e1]
      rfl
  have tw : twn (cI c2) 7 = fun j => if j < 49 then t00 j else 0 := by
    funext j
    unfold twn
    by_cases hj : j < 49
    · rw [if_pos hj, if_pos hj]; exact b6 j hj
    · rw [if_neg hj, if_neg hj]
  have nwt : nw (cI c2) = fun j => if j < 49 then t00 j else 0 := by
    funext j
    show cut (cI c2 180) j = _
    unfold cut
    by_cases hj : j < 49
    · rw [if_pos hj, if_pos hj]; exact b7 j hj
    · rw [if_neg hj, if_neg hj]
  refine ⟨(fun j => if j < 49 then t00 j else 0, (0, fun _ _ => 0), (0, fun _ => 0), (false, fun _ => 0, 0, fun _ _ => 0), fun _ => none), (cS c2, cR c2, 192, s), cI c2, fun _ _ => 0, ?_, rfl, ?_, ?_, ?_⟩
  · show ((cS c2, cR c2, c2.length, s), cI c2, _) = ((Sx (cS c2), Rx (cR c2), 192, s), cI c2, _)
    rw [hS, hR, b1]
  · refine ⟨⟨fun k => k, ⟨⟨fun k hk => ⟨b4 k hk, hk⟩, fun a b _ _ h => h⟩, d2, Nat.zero_le _, fun k hk => absurd hk (Nat.not_lt_zero _)⟩⟩, tw, ⟨d1, fun i hi => absurd hi (Nat.not_lt_zero _)⟩, ⟨d3, (fun h => by cases h)⟩, Nat.le_refl _, fun s hs => ⟨fun _ => b5 s hs, fun l z f hf => by cases hf⟩, fun s s' hs hs' _ r hr => ?_⟩
    rw [show (cS c2, cR c2, 192, _).2.1 (47 + s) 0 = .null from b5 s hs] at hr
    cases hr
  · exact ⟨⟨d5, Nat.zero_le _, fun k hk => absurd hk (Nat.not_lt_zero _)⟩, nwt, ⟨d4, fun i hi => absurd hi (Nat.not_lt_zero _)⟩, ⟨d6, (fun h => by cases h)⟩, fun s hs => ⟨fun _ => b9 s hs, fun l z f hf => by cases hf⟩⟩
  · refine ⟨⟨0, 0, 0, ⟨by omega, by omega, rfl, rfl, rfl, by omega, fun p hp => absurd hp (by omega), fun p hp => absurd hp (by omega), fun p hp => absurd hp (by omega), fun p q hp => absurd hp (by omega), fun p q hp => absurd hp (by omega), fun p hp => absurd hp (by omega), fun p hp => absurd hp (by omega), by decide⟩, Nat.zero_le _, fun p hp => absurd hp (by omega), Nat.zero_le _, fun k hk => absurd hk (Nat.not_lt_zero _)⟩, ⟨Nat.zero_le _, fun i hi => absurd hi (Nat.not_lt_zero _)⟩, (fun h => by cases h), fun s hs l z f hf => by cases hf⟩
theorem law_ok (s : (Nat → Int32) × Nat) (hL : s.2 ≤ 448) (hQ : ∀ X, Q (.returned (some (.int 1))) X) : Rn 169 0 [some (.retAddr 0), none, none, none] [] (0, 0) (stX s []) Q := by
  obtain ⟨c1, c2, h1, hlen, h2, hc⟩ := made
  refine Rn.go 1 ⟨⟨Nat.le_of_ble_eq_true rfl, Nat.le_of_ble_eq_true rfl⟩, ?_⟩
  rw [stX_N]
  show Rn 169 3 [some (.retAddr 0), none, none, none] [.ref 0] (1, 18) (stX s [(.inl 0, [], [])]) Q
  refine Rn.go 2 ⟨Nat.le_of_ble_eq_true rfl, ⟨0, 0, rfl, rfl, by decide⟩, fun o X' => o = .returned none ∧ X' = stX s c1, runC_ok 4000 h1 ⟨rfl, rfl⟩, ⟨Nat.le_of_ble_eq_true rfl, Nat.le_of_ble_eq_true rfl, Nat.le_of_ble_eq_true rfl, Nat.le_of_ble_eq_true rfl, Nat.le_of_ble_eq_true rfl, Nat.le_of_ble_eq_true rfl⟩, fun o X' hq => ?_⟩
  obtain ⟨rfl, rfl⟩ := hq
  show Rn 169 7 [some (.retAddr 0), none, none, none] [.ref 0] (301, 3018) (stX s c1) Q
  refine Rn.go 2 ⟨⟨Nat.le_of_ble_eq_true rfl, Nat.le_of_ble_eq_true rfl⟩, ?_⟩
  rw [stX_N]
  show Rn 169 11 [some (.retAddr 0), some (.ref 0), none, none] [.ref c1.length] (302, 3036) (stX s (c1 ++ [(.inl 9, [], [])])) Q
  rw [hlen]
  have hs : cS (c1 ++ [(.inl 9, [], [])]) 179 = some (.inl 9) := by
    unfold cS
    rw [List.getElem?_append_right (by omega), hlen]
    rfl
  refine Rn.go 2 ⟨Nat.le_of_ble_eq_true rfl, ⟨179, 9, rfl, hs, by decide⟩, fun o X' => o = .returned none ∧ X' = stX s c2, runC_ok 1000 h2 ⟨rfl, rfl⟩, ⟨Nat.le_of_ble_eq_true rfl, Nat.le_of_ble_eq_true rfl, Nat.le_of_ble_eq_true rfl, Nat.le_of_ble_eq_true rfl, Nat.le_of_ble_eq_true rfl, Nat.le_of_ble_eq_true rfl⟩, fun o X' hq => ?_⟩
  obtain ⟨rfl, rfl⟩ := hq
  show Rn 169 15 [some (.retAddr 0), some (.ref 0), none, none] [.ref 179] (322, 4536) (stX s c2) Q
  obtain ⟨σ, e, I, G, e1, e2, hI⟩ := begun s hc
  rw [e1]
  refine Rn.go 3 ?_
  exact l_loop hQ 64 0 rfl hI (by rw [e2]; exact hL) (by omega) (by omega)
end Lc
