/-! what holds of a town stays so; ranges -/
theorem inR {a : Int32} {lo hi : Nat} (h : inl a.toInt64 (lN lo) (lN hi)) (hl : lo < 2 ^ 31 := by decide) (hh : hi < 2 ^ 31 := by decide) : ∃ k, lo ≤ k ∧ k ≤ hi ∧ a = nI k := by
  obtain ⟨h1, h2⟩ := h
  rw [Int64.le_iff_toInt_le, lN_toInt hl, Int32.toInt_toInt64] at h1
  rw [Int64.le_iff_toInt_le, lN_toInt hh, Int32.toInt_toInt64] at h2
  refine ⟨a.toInt.toNat, by omega, by omega, ?_⟩
  apply Int32.toInt_inj.mp
  rw [nI_toInt (by omega)]
  omega
theorem inR' {k lo hi : Nat} (h1 : lo ≤ k) (h2 : k ≤ hi) (hh : hi < 2 ^ 31 := by decide) : inl (nI k).toInt64 (lN lo) (lN hi) := by
  rw [nI_l (by omega)]
  exact ⟨(lN_le (by omega) (by omega)).mpr h1, (lN_le (by omega) hh).mpr h2⟩
theorem pred6 : ∀ n, n ≤ 6 → (nI n - 1).toInt = (n : Int) - 1 := by decide +kernel
theorem isP {a : Int32} {n : Nat} (hn : n ≤ 6) (h : inl a.toInt64 0 ((nI n - 1).toInt64)) : ∃ p, p < n ∧ a = nI p := by
  obtain ⟨h1, h2⟩ := h
  have h1 : lN 0 ≤ a.toInt64 := h1
  rw [Int64.le_iff_toInt_le, lN_toInt (by decide), Int32.toInt_toInt64] at h1
  rw [Int64.le_iff_toInt_le, Int32.toInt_toInt64, Int32.toInt_toInt64, pred6 n hn] at h2
  refine ⟨a.toInt.toNat, by omega, ?_⟩
  apply Int32.toInt_inj.mp
  rw [nI_toInt (by omega)]
  omega
theorem Ok.congr {t t' : Nat → Int32} {n m d : Nat} (h : Ok t n m d) (e : ∀ j, j ≠ 3 → j ≠ 4 → j ≠ 5 → (∀ p, p < 6 → j ≠ 10 + 5 * p) → t' j = t j) : Ok t' n m d := by
  obtain ⟨h1, h2, h3, h4, h5, h6, h7, h8, h9, h10, h11, h12, h13, h14⟩ := h
  have e0 : ∀ j, j ≠ 3 → j ≠ 4 → j ≠ 5 → j < 10 → t' j = t j := fun j a b c w => e j a b c (fun p _ => by omega)
  have ek : ∀ p, t' (11 + 5 * p) = t (11 + 5 * p) := fun p => e _ (by omega) (by omega) (by omega) (fun q _ => by omega)
  refine ⟨h1, h2, ?_, ?_, ?_, h6, ?_, ?_, ?_, ?_, ?_, ?_, ?_, ?_⟩
  · rw [e0 0 (by omega) (by omega) (by omega) (by omega)]; exact h3
  · rw [e0 1 (by omega) (by omega) (by omega) (by omega)]; exact h4
  · rw [e0 2 (by omega) (by omega) (by omega) (by omega)]; exact h5
  · intro p hp; rw [e _ (by omega) (by omega) (by omega) (fun q _ => by omega)]; exact h7 p hp
  · intro p hp; rw [e _ (by omega) (by omega) (by omega) (fun q _ => by omega)]; exact h8 p hp
  · intro p hp; rw [e _ (by omega) (by omega) (by omega) (fun q _ => by omega)]; exact h9 p hp
  · intro p q hp; rw [ek]; exact h10 p q hp
  · intro p q hp hq; rw [ek, ek]; exact h11 p q hp hq
  · intro c hc; rw [e _ (by omega) (by omega) (by omega) (fun q _ => by omega)]; exact h12 c hc
  · intro c hc; rw [e _ (by omega) (by omega) (by omega) (fun q _ => by omega)]; exact h13 c hc
  · rw [e0 6 (by omega) (by omega) (by omega) (by omega)]; exact h14
theorem Ok.day {t : Nat → Int32} {n m d d' : Nat} {v : Int32} (h : Ok t n m d) (hv : v = nI d') (hd : d' ≤ 9999 + 60) : Ok (up1 t 2 v) n m d' := by
  obtain ⟨h1, h2, h3, h4, h5, h6, h7, h8, h9, h10, h11, h12, h13, h14⟩ := h
  have e : ∀ j, j ≠ 2 → up1 t 2 v j = t j := fun j hj => up1_ne hj
  refine ⟨h1, h2, ?_, ?_, ?_, hd, ?_, ?_, ?_, ?_, ?_, ?_, ?_, ?_⟩
  · rw [e 0 (by omega)]; exact h3
  · rw [e 1 (by omega)]; exact h4
  · rw [up1_at]; exact hv
  · intro p hp; rw [e _ (by omega)]; exact h7 p hp
  · intro p hp; rw [e _ (by omega)]; exact h8 p hp
  · intro p hp; rw [e _ (by omega)]; exact h9 p hp
  · intro p q hp; rw [e _ (by omega)]; exact h10 p q hp
  · intro p q hp hq; rw [e _ (by omega), e _ (by omega)]; exact h11 p q hp hq
  · intro c hc; rw [e _ (by omega)]; exact h12 c hc
  · intro c hc; rw [e _ (by omega)]; exact h13 c hc
  · rw [e 6 (by omega)]; exact h14
theorem Ok.setL {t : Nat → Int32} {n m d q k : Nat} {v : Int32} (h : Ok t n m d) (hq : q < 6) (hv : v = nI k) (hk : k ≤ 60) : Ok (up1 t (9 + 5 * q) v) n m d := by
  obtain ⟨h1, h2, h3, h4, h5, h6, h7, h8, h9, h10, h11, h12, h13, h14⟩ := h
  have e : ∀ j, j ≠ 9 + 5 * q → up1 t (9 + 5 * q) v j = t j := fun j hj => up1_ne hj
  refine ⟨h1, h2, ?_, ?_, ?_, h6, ?_, ?_, ?_, ?_, ?_, ?_, ?_, ?_⟩
  · rw [e 0 (by omega)]; exact h3
  · rw [e 1 (by omega)]; exact h4
  · rw [e 2 (by omega)]; exact h5
  · intro p hp; rw [e _ (by omega)]; exact h7 p hp
  · intro p hp; rw [e _ (by omega)]; exact h8 p hp
  · intro p hp
    by_cases hpq : p = q
    · subst hpq; rw [up1_at]; exact ⟨k, hk, hv⟩
    · rw [e _ (by omega)]; exact h9 p hp
  · intro p q hp; rw [e _ (by omega)]; exact h10 p q hp
  · intro p q hp hq; rw [e _ (by omega), e _ (by omega)]; exact h11 p q hp hq
  · intro c hc; rw [e _ (by omega)]; exact h12 c hc
  · intro c hc; rw [e _ (by omega)]; exact h13 c hc
  · rw [e 6 (by omega)]; exact h14
theorem Ok.clamp {t : Nat → Int32} {n m d : Nat} (h : Ok t n m d) : (t 0).toNatClampNeg = n := by rw [h.hn, nI_clamp (by have := h.n6; omega)]
theorem judg_lt {t : Nat → Int32} {n m d b : Nat} {h c : Int32} (ok : Ok t n m d) (hj : judg t h c = some b) : b < n := by
  have := judB_lt hj
  rw [ok.clamp] at this
  exact this
theorem judd_ne {t : Nat → Int32} {n m d : Nat} {h c : Int32} (ok : Ok t n m d) {j : Nat} (hj : ∀ p, p < 6 → j ≠ 10 + 5 * p) : judd t (judg t h c) j = t j := by
  have h6 := ok.n6
  cases hb : judg t h c with
  | none => rfl
  | some b => exact up1_ne (hj b (by have := judg_lt ok hb; omega))
theorem ok_goes {t : Nat → Int32} {n m d : Nat} {c : Int32} (h : Ok t n m d) (hd : d + 1 ≤ 9999 + 60) : Ok (goes t c) n m (d + 1) := by
  unfold goes
  refine Ok.day (d := d) (h.congr ?_) (by rw [h.hd, nI_1]) hd
  intro j h3 h4 h5 hp
  rw [up1_ne h4, up1_ne h5, judd_ne h hp]
theorem ok_plc {t : Nat → Int32} {n m d : Nat} (h : Ok t n m d) : caseP m (plc t) := by
  unfold plc
  have := h.m6
  have := h.d9
  rw [h.hm, h.hd]
  by_cases hm : m = 0
  · rw [if_pos (by rw [hm]; rfl)]; exact Or.inl rfl
  · rw [if_neg (nI_ne0 (by omega) (by omega)), pk_rem (by omega) (by omega) (by omega)]
    exact Or.inr ⟨_, Nat.mod_lt _ (by omega), rfl⟩
theorem plc_some {t : Nat → Int32} {n m d : Nat} (h : Ok t n m d) (hm : m ≠ 0) : ∃ c, c < m ∧ plc t = nI c := by
  rcases ok_plc h with q | q
  · exfalso
    unfold plc at q
    have := h.m6
    have := h.d9
    rw [h.hm, h.hd, if_neg (nI_ne0 (by omega) (by omega)), pk_rem (by omega) (by omega) (by omega)] at q
    exact nI_m4 (by have := Nat.mod_lt d (show m > 0 by omega); omega) q
  · exact q
theorem late_ran {t : Nat → Int32} {n m d p : Nat} (h : Ok t n m d) (hp : p < n) : ∃ k, k ≤ 264 ∧ late t 0 p = nI k := by
  obtain ⟨a, ha, h1⟩ := h.way p hp
  obtain ⟨b, hb, h2⟩ := h.ling p hp
  have h6 := h.n6
  unfold late
  rw [h1, h2, if_neg (bit_0 (by omega)), nI_add]
  split
  · exact ⟨a + b + 5, by omega, by rw [show (5 : Int32) = nI 5 from rfl, show (0 : Int32) = nI 0 from rfl, nI_add, nI_add]⟩
  · exact ⟨a + b, by omega, by rw [show (0 : Int32) = nI 0 from rfl, nI_add, nI_add]; rfl⟩
theorem plain_n : ∀ k, k ≤ 20 → plain (nI k) = nI (k - 9) := by decide +kernel
theorem yr_1 : ∀ k, k ≤ 11 → (if 0 < nI k then nI k + 3 else 0) = nI (if 0 < k then k + 3 else 0) := by decide +kernel
theorem yrs_ran {t : Nat → Int32} {n m d p c : Nat} (h : Ok t n m d) (hp : p < n) (hc : c < m) : ∃ k, k ≤ 40 ∧ yrs t p c = nI k := by
  obtain ⟨a, ha, h1⟩ := h.prf c hc
  obtain ⟨b, hb, h2⟩ := late_ran h hp
  unfold yrs
  rw [h1, plain_n a ha, h2]
  split
  · exact ⟨a - 9, by omega, rfl⟩
  split
  · rw [yr_1 _ (by omega)]
    refine ⟨_, ?_, rfl⟩
    split <;> omega
  split
  · refine ⟨(a - 9) / 2, by omega, ?_⟩
    exact pk_div (d := 2) (by omega) (by omega) (by omega)
  split
  · exact ⟨9, by omega, rfl⟩
  · refine ⟨(a - 9) / 2 + b / 10, by omega, ?_⟩
    rw [show (2 : Int32) = nI 2 from rfl, show (10 : Int32) = nI 10 from rfl, pk_div (by omega) (by omega) (by omega), pk_div (by omega) (by omega) (by omega), nI_add]
theorem judg_4 {t : Nat → Int32} {h : Int32} : judg t h (-4) = none := by
  unfold judg
  have : ∀ j, judB (fun p => decide (¬ (-4 : Int32) = -4) && decide (mayP t h (-4 : Int32).toNatClampNeg p)) (late t h) j = none := by
    intro j
    induction j with
    | zero => rfl
    | succ j ih => unfold judB; rw [ih]; rfl
  exact this _
theorem yrsO_ran {t : Nat → Int32} {n m d : Nat} {h c : Int32} (ok : Ok t n m d) (hc : caseP m c) : ∃ k, k ≤ 40 ∧ yrsO t (judg t h c) c = nI k := by
  have h6 := ok.m6
  cases hj : judg t h c with
  | none => exact ⟨0, by omega, rfl⟩
  | some b =>
    rcases hc with q | ⟨k, hk, q⟩
    · exfalso
      subst q
      rw [judg_4] at hj; cases hj
    · subst q
      show ∃ k_1, k_1 ≤ 40 ∧ yrs t b (nI k).toNatClampNeg = nI k_1
      rw [nI_clamp (by omega)]
      exact yrs_ran ok (judg_lt ok hj) hk
