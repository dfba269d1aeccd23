/-! small facts -/
theorem sh_amt : ∀ q, q < 32 → ((nI q &&& 31).toBitVec.smod 32).toNat = q := by decide +kernel
theorem bit_get {v : Int32} {q : Nat} (h : q < 32) : bit v (nI q) ↔ v.toBitVec.getLsbD q = true := by
  have h1 : ((v >>> (nI q &&& 31)) &&& 1).toBitVec = (v.toBitVec.sshiftRight q) &&& 1#32 := by
    show (v.toBitVec.sshiftRight ((nI q &&& 31).toBitVec.smod 32).toNat) &&& 1#32 = _
    rw [sh_amt q h]
  unfold bit
  rw [← Int32.toBitVec_inj, h1]
  show (v.toBitVec.sshiftRight q) &&& 1#32 = 1#32 ↔ _
  have h2 : (v.toBitVec.sshiftRight q).getLsbD 0 = v.toBitVec.getLsbD q := by
    rw [BitVec.getLsbD_sshiftRight]
    simp [h]
  rw [← h2]
  constructor
  · intro h3
    have h4 := congrArg (fun w => BitVec.getLsbD w 0) h3
    simpa using h4
  · intro h3
    apply BitVec.eq_of_getLsbD_eq
    intro i hi
    rw [BitVec.getLsbD_and]
    by_cases h0 : i = 0
    · subst h0; rw [h3]; rfl
    · have : (1#32).getLsbD i = false := by simp [BitVec.getLsbD_one]; omega
      rw [this]; simp
theorem bit_or {v w : Int32} {q : Nat} (h : q < 32) : bit (v ||| w) (nI q) ↔ bit v (nI q) ∨ bit w (nI q) := by
  rw [bit_get h, bit_get h, bit_get h]
  show (v.toBitVec ||| w.toBitVec).getLsbD q = true ↔ _
  rw [BitVec.getLsbD_or, Bool.or_eq_true]
theorem bit_0 {q : Nat} (h : q < 32) : ¬ bit 0 (nI q) := by
  rw [bit_get h]
  show ¬ (0#32).getLsbD q = true
  simp
theorem bit_sh : ∀ p, p < 6 → ∀ q, q < 32 → (bit (1 <<< (nI p &&& 31)) (nI q) ↔ p = q) := by decide +kernel
theorem setB_bit {f : Nat → Bool} {n q : Nat} (hn : n ≤ 6) (hq : q < 32) : bit (setB f n) (nI q) ↔ q < n ∧ f q = true := by
  induction n with
  | zero => exact iff_of_false (bit_0 hq) (by omega)
  | succ n ih =>
    unfold setB
    rw [bit_or hq, ih (by omega)]
    by_cases hf : f n = true
    · rw [if_pos hf, bit_sh n (by omega) q hq]
      constructor
      · rintro (h | h)
        · exact ⟨by omega, h.2⟩
        · subst h; exact ⟨by omega, hf⟩
      · rintro ⟨h1, h2⟩
        by_cases h : n = q
        · exact Or.inr h
        · exact Or.inl ⟨by omega, h2⟩
    · rw [if_neg hf]
      constructor
      · rintro (h | h)
        · exact ⟨by omega, h.2⟩
        · exact absurd h (bit_0 hq)
      · rintro ⟨h1, h2⟩
        by_cases h : n = q
        · subst h; exact absurd h2 hf
        · exact Or.inl ⟨by omega, h2⟩
/-- a case, or none -/
def caseP (m : Nat) (c : Int32) : Prop := c = -4 ∨ ∃ k, k < m ∧ c = nI k
theorem nI_m4 {n : Nat} (h : n < 2 ^ 31) : ¬ nI n = -4 := fun q => nI_pos h (q ▸ (by decide))
