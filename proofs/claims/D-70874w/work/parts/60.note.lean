/-! what is done can be undone: the component notes -/
/-- the references of past, in order -/
def pastP (e : En) (π : Nat → Nat) : Prop := (∀ k, k < 8 → e.2.1 25 k = .ref (51 + 16 * π k) ∧ π k < 8) ∧ ∀ j k, j < 8 → k < 8 → π j = π k → j = k
def rotE (e : En) : En := (e.1, fun k j => if k = 25 then (if j < 7 then e.2.1 25 (j + 1) else if j = 7 then e.2.1 25 0 else e.2.1 25 j) else e.2.1 k j, e.2.2)
def rotP (π : Nat → Nat) : Nat → Nat := fun k => if k < 7 then π (k + 1) else π 0
theorem rot_past {e : En} {π : Nat → Nat} (h : pastP e π) : pastP (rotE e) (rotP π) := by
  refine ⟨fun k hk => ?_, fun j k hj hk hjk => ?_⟩
  · show (if 25 = 25 then (if k < 7 then e.2.1 25 (k + 1) else if k = 7 then e.2.1 25 0 else e.2.1 25 k) else e.2.1 25 k) = .ref (51 + 16 * rotP π k) ∧ rotP π k < 8
    unfold rotP
    rw [if_pos rfl]
    by_cases h7 : k < 7
    · rw [if_pos h7, if_pos h7]; exact h.1 (k + 1) (by omega)
    · rw [if_neg h7, if_neg h7, if_pos (show k = 7 by omega)]; exact h.1 0 (by omega)
  · unfold rotP at hjk
    by_cases hj7 : j < 7
    · rw [if_pos hj7] at hjk
      by_cases hk7 : k < 7
      · rw [if_pos hk7] at hjk
        have := h.2 (j + 1) (k + 1) (by omega) (by omega) hjk; omega
      · rw [if_neg hk7] at hjk
        have := h.2 (j + 1) 0 (by omega) (by omega) hjk; omega
    · rw [if_neg hj7] at hjk
      by_cases hk7 : k < 7
      · rw [if_pos hk7] at hjk
        have := h.2 0 (k + 1) (by omega) (by omega) hjk; omega
      · omega
theorem rx_25 {R : Nat → Nat → Value} {j : Nat} : Rx R 25 j = R 25 j := rfl
theorem rot_X {e : En} {I : Nat → Nat → Int32} {G : Nat → Nat → Int64} {v : Value} (hv : v = e.2.1 25 0) :
    sR (sR (mX e I G) (va_up (mX e I G).1.2.1 25 (va_cpy ((mX e I G).1.2.1 25) ((mX e I G).1.2.1 25) 1 0 7))) (up2 (sR (mX e I G) (va_up (mX e I G).1.2.1 25 (va_cpy ((mX e I G).1.2.1 25) ((mX e I G).1.2.1 25) 1 0 7))).1.2.1 25 7 v) = mX (rotE e) I G := by
  show ((Sx e.1, up2 (va_up (Rx e.2.1) 25 (va_cpy (Rx e.2.1 25) (Rx e.2.1 25) 1 0 7)) 25 7 v, e.2.2), I, G) = ((Sx e.1, Rx (rotE e).2.1, e.2.2), I, G)
  congr 3
  funext k j
  unfold up2
  by_cases hk : k = 25
  · subst hk
    rw [if_pos rfl, va_up_self]
    show (if j = 7 then v else va_cpy (Rx e.2.1 25) (Rx e.2.1 25) 1 0 7 j) = (rotE e).2.1 25 j
    unfold va_cpy
    show _ = (if 25 = 25 then (if j < 7 then e.2.1 25 (j + 1) else if j = 7 then e.2.1 25 0 else e.2.1 25 j) else e.2.1 25 j)
    rw [if_pos rfl]
    by_cases h7 : j = 7
    · rw [if_pos h7, if_neg (by omega), if_pos h7, hv]
    · rw [if_neg h7]
      by_cases hl : j < 7
      · rw [if_pos ⟨Nat.zero_le _, by omega⟩, if_pos hl, show 1 + (j - 0) = j + 1 by omega]; rfl
      · rw [if_neg (by omega), if_neg hl, if_neg h7]; rfl
  · rw [if_neg hk, va_up_ne _ _ hk]
    unfold Rx rotE
    dsimp only
    rw [if_neg hk]
/-- the places of the States of past -/
def inPast (k : Nat) : Prop := ∃ q, q < 8 ∧ 51 + 16 * q ≤ k ∧ k ≤ 51 + 16 * q + 7
/-- a frame of notes -/
def frN (I I' : Nat → Nat → Int32) : Prop := (∀ k, k ≠ 0 → ¬ inPast k → I' k = I k) ∧ ∀ f, f ≠ 8 → I' 0 f = I 0 f
theorem frN.tr {I I' I'' : Nat → Nat → Int32} (h1 : frN I I') (h2 : frN I' I'') : frN I I'' := ⟨fun k a b => (h2.1 k a b).trans (h1.1 k a b), fun f a => (h2.2 f a).trans (h1.2 f a)⟩
theorem frN.up0 {I : Nat → Nat → Int32} {v : Int32} : frN I (up2 I 0 8 v) := ⟨fun k a _ => up2_ne a, fun f a => up2_i a⟩
theorem frN.st {I I' : Nat → Nat → Int32} {q : Nat} (hq : q < 8) (h : fr (51 + 16 * q) (51 + 16 * q + 7) I I') : frN I I' := ⟨fun k _ b => h k (by
  rcases Nat.lt_or_ge k (51 + 16 * q) with w | w
  · exact Or.inl w
  · right
    rcases Nat.lt_or_ge (51 + 16 * q + 7) k with w2 | w2
    · exact w2
    · exact absurd ⟨q, hq, w, w2⟩ b), fun f _ => by rw [h 0 (by omega)]⟩
/-- past: so many days, and what each holds -/
def cUn (e : En) (I : Nat → Nat → Int32) (π : Nat → Nat) (u : Nat) (U : Nat → Nat → Int32) : Prop := pastP e π ∧ I 0 8 = nI u ∧ u ≤ 8 ∧ ∀ k, k < u → dayT (twn I (51 + 16 * π k)) = U k
def noteU (u : Nat) (U : Nat → Nat → Int32) (d : Nat → Int32) : Nat → Nat → Int32 := if u = 8 then fun k => if k < 7 then U (k + 1) else d else fun k => if k = u then d else U k
def noteN (u : Nat) : Nat := if u = 8 then 8 else u + 1
theorem dayT_putD {t d : Nat → Int32} (hd : ∀ i, 28 ≤ i → d i = 0) : dayT (putD t d) = d := by
  funext i
  unfold dayT
  by_cases h : i < 28
  · rw [if_pos h]
    unfold putD
    rw [dq_dp i h]
  · rw [if_neg h, hd i (by omega)]
theorem dayT_28 {t : Nat → Int32} : ∀ i, 28 ≤ i → dayT t i = 0 := fun i h => if_neg (by omega)
section S60
variable {e : En} {I : Nat → Nat → Int32} {G : Nat → Nat → Int64} {Q : Po}
theorem c_note49 {π : Nat → Nat} {u : Nat} (hp : pastP e π) (hu : I 0 8 = nI u) (h8 : u < 8) (hQ : ∀ I', I' 0 8 = nI (u + 1) → dayT (twn I' (51 + 16 * π u)) = dayT (twn I 7) → fr (51 + 16 * π u) (51 + 16 * π u + 7) (up2 I 0 8 (nI (u + 1))) I' → Q (.returned none) (mX e I' G)) : Rn 32 49 [some (.ref 0), none] [] (0, 0) (mX e I G) Q := by
  obtain ⟨hr, hpl⟩ := hp.1 u h8
  refine Rn.go 4 ⟨rfl, rfl, ?_⟩
  show Rn 32 57 [some (.ref 0), none] [.int (I 0 8), .ref 25] (0, 0) (mX e I G) Q
  rw [hu]
  refine Rn.go 1 ⟨5, 8, rfl, Nat.le_refl 5, vp_in_nI h8 (by omega), ?_⟩
  show Rn 32 58 [some (.ref 0), none] [(mkE e).2.1 25 (nI u).toNatClampNeg] (0, 0) (mX e I G) Q
  rw [nI_clamp (by omega), show (mkE e).2.1 25 u = .ref (51 + 16 * π u) from hr]
  refine Rn.go 3 ⟨rfl, Nat.le_of_ble_eq_true rfl, ⟨51 + 16 * π u, rfl, (stp_past (π u) hpl).1⟩, _, c_takeDay stp_7 (stp_past (π u) hpl) (Or.inr (by omega)) ?_, ⟨Nat.le_of_ble_eq_true rfl, Nat.le_of_ble_eq_true rfl, Nat.le_of_ble_eq_true rfl, Nat.le_of_ble_eq_true rfl, Nat.le_of_ble_eq_true rfl, Nat.le_of_ble_eq_true rfl⟩, fun _ _ hq => hq⟩
  intro I1 t1 f1
  show Rn 32 65 [some (.ref 0), none] [] (0, 0) (mX e I1 G) Q
  refine Rn.go 6 ⟨rfl, rfl, ?_⟩
  show Rn 32 75 [some (.ref 0), none] [] (0, 0) (mX e (up2 I1 0 8 (I1 0 8 + 1)) G) Q
  have e8 : I1 0 8 = nI u := by rw [f1 0 (by omega)]; exact hu
  rw [e8, nI_1]
  refine Rn.go 1 ⟨rfl, hQ _ ?_ ?_ ?_⟩
  · rw [up2_v]
  · rw [twn_ne (by omega), t1, dayT_putD dayT_28]
  · intro k hk
    by_cases h0 : k = 0
    · subst h0
      rw [up2_at, up2_at, f1 0 (by omega)]
    · rw [up2_ne h0, up2_ne h0, f1 k (by omega)]
theorem c_note {π : Nat → Nat} {u : Nat} {U : Nat → Nat → Int32} (h : cUn e I π u U) (hQ : ∀ e' I' π', cUn e' I' π' (noteN u) (noteU u U (dayT (twn I 7))) → (e' = e ∨ e' = rotE e) → frN I I' → Q (.returned none) (mX e' I' G)) : Rn 32 0 [some (.ref 0), none] [] (0, 0) (mX e I G) Q := by
  obtain ⟨hp, hu, h8, hU⟩ := h
  by_cases h9 : u = 8
  · subst h9
    have hn : noteN 8 = 8 := rfl
    have hnU : noteU 8 U (dayT (twn I 7)) = fun k => if k < 7 then U (k + 1) else dayT (twn I 7) := rfl
    rw [hn, hnU] at hQ
    obtain ⟨r0, p0⟩ := hp.1 0 (by omega)
    refine Rn.go 4 ⟨rfl, fun _ => ?_, fun q => absurd (show I 0 8 = 8 from hu) q⟩
    show Rn 32 9 [some (.ref 0), none] [] (0, 0) (mX e I G) Q
    refine Rn.go 4 ⟨rfl, 5, 8, rfl, Nat.le_refl 5, vin (by decide), ?_⟩
    show Rn 32 15 [some (.ref 0), none] [(mkE e).2.1 25 0] (0, 0) (mX e I G) Q
    rw [show (mkE e).2.1 25 0 = .ref (51 + 16 * π 0) from r0]
    refine Rn.go 9 ⟨rfl, rfl, by decide, Or.inl ⟨5, 8, 8, rfl, rfl, Or.inl ⟨by decide, by decide, by decide, by decide, by decide, fun i hi => ?_, ?_⟩⟩⟩
    · have hi7 : i < 7 := hi
      obtain ⟨rk, pk⟩ := hp.1 (1 + i) (by omega)
      exact ⟨51 + 16 * π (1 + i), rk, (stp_past (π (1 + i)) pk).1⟩
    show Rn 32 31 [some (.ref 0), some (.ref (51 + 16 * π 0))] [] (0, 0) (sR (mX e I G) (va_up (mX e I G).1.2.1 25 (va_cpy ((mX e I G).1.2.1 25) ((mX e I G).1.2.1 25) 1 0 7))) Q
    refine Rn.go 5 ⟨rfl, rfl, 5, 8, 6, rfl, (stp_past (π 0) p0).1, rfl, vin (by decide), ?_⟩
    show Rn 32 39 [some (.ref 0), some (.ref (51 + 16 * π 0))] [] (0, 0) (sR (sR (mX e I G) (va_up (mX e I G).1.2.1 25 (va_cpy ((mX e I G).1.2.1 25) ((mX e I G).1.2.1 25) 1 0 7))) (up2 (sR (mX e I G) (va_up (mX e I G).1.2.1 25 (va_cpy ((mX e I G).1.2.1 25) ((mX e I G).1.2.1 25) 1 0 7))).1.2.1 25 7 (.ref (51 + 16 * π 0)))) Q
    rw [rot_X r0.symm]
    refine Rn.go 6 ⟨rfl, rfl, ?_⟩
    show Rn 32 49 [some (.ref 0), some (.ref (51 + 16 * π 0))] [] (0, 0) (mX (rotE e) (up2 I 0 8 (I 0 8 - 1)) G) Q
    refine Rn.weak (L := [some (.ref 0), none]) ?_ (le_s (le_n le_nil))
    have e7 : up2 I 0 8 (I 0 8 - 1) 0 8 = nI 7 := by rw [up2_v, hu]; decide
    refine c_note49 (rot_past hp) e7 (by omega) fun I' h1 h2 h3 => ?_
    have f2 : frN I I' := (frN.up0.tr frN.up0).tr (frN.st ((rot_past hp).1 7 (by omega)).2 h3)
    refine hQ _ I' (rotP π) ⟨rot_past hp, h1, by omega, fun k hk => ?_⟩ (Or.inr rfl) f2
    dsimp only
    by_cases h7 : k < 7
    · rw [if_pos h7]
      have hne : rotP π k ≠ rotP π 7 := fun q => by have := (rot_past hp).2 k 7 (by omega) (by omega) q; omega
      rw [h3.twn (by omega), twn_ne (by omega), twn_ne (by omega)]
      show dayT (twn I (51 + 16 * (if k < 7 then π (k + 1) else π 0))) = _
      rw [if_pos h7]
      exact hU (k + 1) (by omega)
    · rw [if_neg h7]
      have : k = 7 := by omega
      subst this
      rw [h2, twn_ne (by omega)]
  · have hn : noteN u = u + 1 := if_neg h9
    have hnU : noteU u U (dayT (twn I 7)) = fun k => if k = u then dayT (twn I 7) else U k := by unfold noteU; rw [if_neg h9]
    rw [hn, hnU] at hQ
    refine Rn.go 4 ⟨rfl, fun q => ?_, fun _ => ?_⟩
    · exfalso
      have : nI u = nI 8 := hu.symm.trans q
      exact h9 ((nI_eq (by omega) (by omega)).mp this)
    show Rn 32 49 [some (.ref 0), none] [] (0, 0) (mX e I G) Q
    refine c_note49 hp hu (by omega) fun I' h1 h2 h3 => ?_
    refine hQ e I' π ⟨hp, h1, by omega, fun k hk => ?_⟩ (Or.inl rfl) (frN.up0.tr (frN.st (hp.1 u (by omega)).2 h3))
    dsimp only
    by_cases hku : k = u
    · subst hku; rw [if_pos rfl, h2]
    · rw [if_neg hku]
      have hne : π k ≠ π u := fun q => hku (hp.2 k u (by omega) (by omega) q)
      rw [h3.twn (by omega), twn_ne (by omega)]
      exact hU k (by omega)
end S60
