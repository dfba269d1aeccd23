/-! the law's loop -/
theorem len7 {L i : Nat} (hL : L ≤ 448) (hi : i ≤ 1000) : (nI L - 7 < nI i) ↔ L < i + 7 := by
  rw [Int32.lt_iff_toInt_lt, Int32.toInt_sub, nI_toInt (by omega), nI_toInt (by omega)]
  have h7 : (7 : Int32).toInt = 7 := by decide
  rw [h7, Int.bmod_eq_of_le (by omega) (by omega)]
  omega
section Lb
variable {Q : Po}
set_option maxRecDepth 100000
theorem l_case {e : En} {I : Nat → Nat → Int32} {G : Nat → Nat → Int64} {σ : Sg} {i u1 u2 : Nat} (hS : lwI σ e I G) (hi : i + 7 ≤ e.2.2.2.2) (hL : e.2.2.2.2 ≤ 448) (h1 : u1 + 1000 ≤ 605614) (h2 : u2 + 100000 ≤ 7254687) (hQ : lwN e i u1 u2 Q) : Rn 169 27 (lwL i) [] (u1, u2) (mX e I G) Q := by
  have v0 : vp_in (nI i) e.2.2.2.2 := vp_in_nI (by omega) (by omega)
  refine Rn.go 5 ⟨rfl, v0, ?_⟩
  show Rn 169 33 (lwL i) [.int (e.2.2.2.1 (nI i).toNatClampNeg &&& 63)] (u1, u2) (mX e I G) Q
  refine Rn.go 1 ⟨fun k hk _ => ?_, fun _ => ?_⟩
  · have hk2 : k < 33 := hk
    match k, hk2 with
    | 0, _ => exact l_person hS hi hL h1 h2 hQ
    | 1, _ => exact l_newCase hS hi hL h1 h2 hQ
    | 2, _ => exact l_kin hS hi hL h1 h2 hQ
    | 3, _ => exact l_of hS hi hL h1 h2 hQ
    | 4, _ => exact l_at hS hi hL h1 h2 hQ
    | 5, _ => exact l_door hS hi hL h1 h2 hQ
    | 6, _ => exact l_type hS hi hL h1 h2 hQ
    | 7, _ => exact l_town hS hi hL h1 h2 hQ
    | 8, _ => exact l_count hS hi hL h1 h2 hQ
    | 9, _ => exact l_days hS hi hL h1 h2 hQ
    | 10, _ => exact l_linger hS hi hL h1 h2 hQ
    | 11, _ => exact l_putOff hS hi hL h1 h2 hQ
    | 12, _ => exact l_drift hS hi hL h1 h2 hQ
    | 13, _ => exact l_undo hS hi hL h1 h2 hQ
    | 14, _ => exact l_seed hS hi hL h1 h2 hQ
    | 15, _ => exact l_ahead hS hi hL h1 h2 hQ
    | 16, _ => exact l_years hS hi hL h1 h2 hQ
    | 17, _ => exact l_first hS hi hL h1 h2 hQ
    | 18, _ => exact l_lingers hS hi hL h1 h2 hQ
    | 19, _ => exact l_hurry hS hi hL h1 h2 hQ
    | 20, _ => exact l_shut hS hi hL h1 h2 hQ
    | 21, _ => exact l_list hS hi hL h1 h2 hQ
    | 22, _ => exact l_best hS hi hL h1 h2 hQ
    | 23, _ => exact l_street hS hi hL h1 h2 hQ
    | 24, _ => exact l_odds hS hi hL h1 h2 hQ
    | 25, _ => exact l_image hS hi hL h1 h2 hQ
    | 26, _ => exact l_restore hS hi hL h1 h2 hQ
    | 27, _ => exact l_bench hS hi hL h1 h2 hQ
    | 28, _ => exact l_film hS hi hL h1 h2 hQ
    | 29, _ => exact l_sheet hS hi hL h1 h2 hQ
    | 30, _ => exact l_drop hS hi hL h1 h2 hQ
    | 31, _ => exact l_item hS hi hL h1 h2 hQ
    | 32, _ => exact l_copy hS hi hL h1 h2 hQ
    | n + 33, h => exact absurd h (by omega)
  · exact hQ e I G σ u1 u2 hS rfl (by omega) (by omega)
theorem l_loop (hQ : ∀ X, Q (.returned (some (.int 1))) X) : ∀ n j {e : En} {I : Nat → Nat → Int32} {G : Nat → Nat → Int64} {σ : Sg} {u1 u2 : Nat}, j + n = 64 → lwI σ e I G → e.2.2.2.2 ≤ 448 → u1 ≤ 1000 + 1000 * j → u2 ≤ 10000 + 100000 * j → Rn 169 18 (lwL (7 * j)) [] (u1, u2) (mX e I G) Q := by
  intro n
  have fin : ∀ {i u1 u2 : Nat} {X : Xs}, Rn 169 1277 (lwL i) [] (u1, u2) X Q := fun {i u1 u2 X} => Rn.go 2 ⟨1, rfl, fun _ => Or.inr rfl, hQ X⟩
  induction n with
  | zero =>
    intro j e I G σ u1 u2 hj hS hL h1 h2
    refine Rn.go 6 ⟨fun _ => fin, fun h => ?_⟩
    have h' : ¬ (nI e.2.2.2.2 - 7 < nI (7 * j)) := h
    rw [len7 hL (by omega)] at h'
    omega
  | succ n ih =>
    intro j e I G σ u1 u2 hj hS hL h1 h2
    refine Rn.go 6 ⟨fun _ => fin, fun h => ?_⟩
    have h' : ¬ (nI e.2.2.2.2 - 7 < nI (7 * j)) := h
    rw [len7 hL (by omega)] at h'
    have q0 : u1 + 1000 ≤ 605614 := by omega
    have q1 : u2 + 100000 ≤ 7254687 := by omega
    refine l_case hS (by omega) hL q0 q1 fun e' I' G' σ' u1' u2' hS' he a1 a2 => ?_
    have q2 : u1' ≤ 1000 + 1000 * (j + 1) := by omega
    have q3 : u2' ≤ 10000 + 100000 * (j + 1) := by
      rw [Nat.mul_succ, ← Nat.add_assoc]
      exact Nat.le_trans a2 (Nat.add_le_add_right h2 100000)
    have q4 : e'.2.2.2.2 ≤ 448 := by rw [he]; exact hL
    have q5 : j + 1 + n = 64 := by omega
    have nx := ih (j + 1) q5 hS' q4 q2 q3
    have e7 : nI (7 * j) + 7 = nI (7 * (j + 1)) := by
      rw [show 7 * (j + 1) = 7 * j + 7 by omega]
      exact nI_add (7 * j) 7
    refine Rn.go 2 (show Rn 169 18 [some (.retAddr 0), some (.ref 0), some (.ref 179), some (.int (nI (7 * j) + 7))] [] (u1', u2') (mX e' I' G') Q from ?_)
    rw [e7]
    exact nx
end Lb
