/-! street -/
def strT (t : Nat → Int32) (p o i j : Nat) : Nat → Int32 := up1 (up1 t (9 + 5 * p) (nI (10 * i))) (9 + 5 * o) (nI (10 * j))
theorem up1_4 {t : Nat → Int32} {a b : Nat} {x y z w : Int32} (h : a ≠ b) : up1 (up1 (up1 (up1 t a x) b y) a z) b w = up1 (up1 t a z) b w := by
  rw [up1_comm (k := b) (j := a) (fun q => h q.symm), up1_up1, up1_up1]
def satB (who : Nat) (w : Int32) (T : Nat → Int32) : Bool := decide (jNow T = nI who) == decide (w = 1)
def acc (b : Bool) : Int32 := if b then 1 else 0
theorem acc_0 {b : Bool} : acc b = 0 ↔ b = false := by cases b <;> decide
theorem acc_n {b : Bool} : ¬ acc b = 0 ↔ b = true := by cases b <;> decide
theorem acc_and {b c d : Bool} : (acc b &&& acc c) &&& acc d = acc (b && c && d) := by cases b <;> cases c <;> cases d <;> decide
theorem ten : ∀ i, i < 7 → 10 * nI i = nI (10 * i) := by decide +kernel
theorem i77 : ∀ i, i < 7 → ∀ j, j < 7 → (¬ (7 * nI i + nI j < 0 ∨ 49 ≤ (7 * nI i + nI j).toNatClampNeg) ∧ (7 * nI i + nI j).toNatClampNeg = 7 * i + j) := by decide +kernel
theorem v77 {i j : Nat} (hi : i < 7) (hj : j < 7) : vp_in (7 * nI i + nI j) 49 := (i77 i hi j hj).1
theorem c107 : ∀ i, i < 7 → ∀ j, j < 7 → 10 * nI i + nI j = nI (10 * i + j) := by decide +kernel
/-- what a cell says -/
def cellI (a b : Bool) : Int32 := nI ((if a then 1 else 0) + (if b then 2 else 0))
theorem cell_0 {a b : Bool} : bit (cellI a b) 0 ↔ a = true := by cases a <;> cases b <;> decide
theorem cell_1 {a b : Bool} : bit (cellI a b) 1 ↔ b = true := by cases a <;> cases b <;> decide
/-- ascending: how many, the first -/
def upS (f : Nat → Bool) : Nat → Nat × Int32
  | 0 => (0, -4)
  | k + 1 => if f k then ((upS f k).1 + 1, if (upS f k).1 = 0 then nI (10 * (k / 7) + k % 7) else (upS f k).2) else upS f k
/-- descending -/
def sfS (f : Nat → Bool) : Nat → Nat → Nat × Int32
  | 0, _ => (0, -4)
  | j + 1, k => if f k then ((sfS f j (k + 1)).1 + 1, nI (10 * (k / 7) + k % 7)) else sfS f j (k + 1)
theorem upS_0 (f : Nat → Bool) : ∀ k, (upS f k).1 = 0 → (upS f k).2 = -4
  | 0, _ => rfl
  | k + 1, h => by
    unfold upS at h ⊢
    by_cases hf : f k = true
    · rw [if_pos hf] at h; simp at h
    · rw [if_neg hf] at h ⊢; exact upS_0 f k h
theorem up_sf (f : Nat → Bool) (N : Nat) : ∀ j k, k + j = N → upS f N = ((upS f k).1 + (sfS f j k).1, if (upS f k).1 = 0 then (sfS f j k).2 else (upS f k).2)
  | 0, k, h => by
    have : k = N := by omega
    subst this
    show upS f k = ((upS f k).1 + 0, if (upS f k).1 = 0 then -4 else (upS f k).2)
    by_cases h0 : (upS f k).1 = 0
    · rw [if_pos h0, ← upS_0 f k h0]; rfl
    · rw [if_neg h0]; rfl
  | j + 1, k, h => by
    rw [up_sf f N j (k + 1) (by omega)]
    rw [sfS, upS]
    by_cases hf : f k = true
    · rw [if_pos hf, if_pos hf]
      dsimp only
      rw [if_neg (show ¬ (upS f k).1 + 1 = 0 by omega)]
      congr 1
      omega
    · rw [if_neg hf, if_neg hf]
theorem up_sf0 (f : Nat → Bool) : upS f 49 = sfS f 49 0 := by
  have h := up_sf f 49 49 0 (by omega)
  rw [h, if_pos (show (upS f 0).1 = 0 from rfl), show (upS f 0).1 = 0 from rfl, Nat.zero_add]
/-- somewhere -/
def exB (f : Nat → Bool) : Nat → Bool
  | 0 => false
  | k + 1 => exB f k || f k
theorem exB_iff {f : Nat → Bool} : ∀ {n : Nat}, exB f n = true ↔ ∃ k, k < n ∧ f k = true
  | 0 => ⟨fun h => (by cases h), fun ⟨k, hk, _⟩ => by omega⟩
  | n + 1 => by
    unfold exB
    rw [Bool.or_eq_true, exB_iff]
    constructor
    · rintro (⟨k, hk, h⟩ | h)
      · exact ⟨k, by omega, h⟩
      · exact ⟨n, by omega, h⟩
    · rintro ⟨k, hk, h⟩
      by_cases hkn : k = n
      · subst hkn; exact Or.inr h
      · exact Or.inl ⟨k, by omega, h⟩
/-- everywhere, as isRest has it -/
def alB (f : Nat → Bool) : Nat → Bool
  | 0 => true
  | k + 1 => alB f k && f k
theorem alB_iff {f : Nat → Bool} : ∀ {n : Nat}, alB f n = true ↔ ∀ k, k < n → f k = true
  | 0 => ⟨fun _ k hk => by omega, fun _ => rfl⟩
  | n + 1 => by
    unfold alB
    rw [Bool.and_eq_true, alB_iff]
    constructor
    · rintro ⟨h1, h2⟩ k hk
      by_cases hkn : k = n
      · subst hkn; exact h2
      · exact h1 k (by omega)
    · intro h
      exact ⟨fun k hk => h k (by omega), h n (by omega)⟩
/-- a place of rest, by what the first and the second have -/
def restB (A B : Nat → Nat → Bool) (i j : Nat) : Bool := (!(exB (fun k => A k j) 7) || A i j) && (!(exB (fun k => B i k) 7) || B i j)
theorem rest_al (A B : Nat → Nat → Bool) (i j : Nat) : alB (fun k => (A i j || !(A k j)) && (B i j || !(B i k))) 7 = restB A B i j := by
  rw [Bool.eq_iff_iff, alB_iff]
  unfold restB
  rw [Bool.and_eq_true, Bool.or_eq_true, Bool.or_eq_true]
  constructor
  · intro h
    constructor
    · by_cases ha : A i j = true
      · exact Or.inr ha
      · left
        rw [Bool.not_eq_true', Bool.eq_false_iff]
        intro hx
        obtain ⟨k, hk, hx⟩ := exB_iff.mp hx
        have := h k hk
        rw [Bool.and_eq_true, Bool.or_eq_true] at this
        rcases this.1 with q | q
        · exact ha q
        · rw [hx] at q; cases q
    · by_cases ha : B i j = true
      · exact Or.inr ha
      · left
        rw [Bool.not_eq_true', Bool.eq_false_iff]
        intro hx
        obtain ⟨k, hk, hx⟩ := exB_iff.mp hx
        have := h k hk
        rw [Bool.and_eq_true, Bool.or_eq_true, Bool.or_eq_true] at this
        rcases this.2 with q | q
        · exact ha q
        · rw [hx] at q; cases q
  · rintro ⟨h1, h2⟩ k hk
    rw [Bool.and_eq_true, Bool.or_eq_true, Bool.or_eq_true]
    constructor
    · rcases h1 with q | q
      · right
        rw [Bool.not_eq_true', Bool.eq_false_iff] at q ⊢
        exact fun w => q (exB_iff.mpr ⟨k, hk, w⟩)
      · exact Or.inl q
    · rcases h2 with q | q
      · right
        rw [Bool.not_eq_true', Bool.eq_false_iff] at q ⊢
        exact fun w => q (exB_iff.mpr ⟨k, hk, w⟩)
      · exact Or.inl q
def AA (t : Nat → Int32) (p o : Nat) (w : Int32) (i j : Nat) : Bool := satB p w (strT t p o i j)
def BB (t : Nat → Int32) (p o : Nat) (w : Int32) (i j : Nat) : Bool := satB o w (strT t p o i j)
def strR (t : Nat → Int32) (p : Nat) (w : Int32) (o : Nat) (w2 a5 : Int32) : Int32 := if a5 = 0 then nI (upS (fun k => restB (AA t p o w) (BB t p o w2) (k / 7) (k % 7)) 49).1 else (upS (fun k => restB (AA t p o w) (BB t p o w2) (k / 7) (k % 7)) 49).2
section S53
variable {e : En} {G : Nat → Nat → Int64} {Q : Po}
theorem acc_sat {x : Prop} [Decidable x] {y : Prop} [Decidable y] : (x → y → acc (decide x == decide y) = 1) ∧ (x → ¬ y → acc (decide x == decide y) = 0) ∧ (¬ x → y → acc (decide x == decide y) = 0) ∧ (¬ x → ¬ y → acc (decide x == decide y) = 1) := by
  refine ⟨fun h1 h2 => ?_, fun h1 h2 => ?_, fun h1 h2 => ?_, fun h1 h2 => ?_⟩ <;> simp [h1, h2, acc]
theorem c_fsIn {n m d p o i : Nat} {w w2 x5 x6 : Int32} {t : Nat → Int32} (ok : Ok t n m d) (hp : p < n) (ho : o < n) (hpo : p ≠ o) (hi : i < 7) : ∀ jj j {I : Nat → Nat → Int32}, j + jj = 7 → (∃ a b, twn I 7 = up1 (up1 t (9 + 5 * p) a) (9 + 5 * o) b) → (∀ k, k < 7 * i + j → I 36 k = cellI (AA t p o w (k / 7) (k % 7)) (BB t p o w2 (k / 7) (k % 7))) →
    (∀ I', (∃ a b, twn I' 7 = up1 (up1 t (9 + 5 * p) a) (9 + 5 * o) b) → (∀ k, k < 7 * (i + 1) → I' 36 k = cellI (AA t p o w (k / 7) (k % 7)) (BB t p o w2 (k / 7) (k % 7))) → frC I I' → Rn 55 25 [some (.ref 0), some (.int (nI p)), some (.int w), some (.int (nI o)), some (.int w2), some (.int x5), some (.int x6), some (.int (nI (i + 1))), none, none, none, none] [] (0, 0) (mX e I' G) Q) →
    Rn 55 35 [some (.ref 0), some (.int (nI p)), some (.int w), some (.int (nI o)), some (.int w2), some (.int x5), some (.int x6), some (.int (nI i)), some (.int (nI j)), none, none, none] [] (0, 0) (mX e I G) Q := by
  have h6 := ok.n6
  intro jj
  induction jj with
  | zero =>
    intro j I hj ht hc hK
    have : j = 7 := by omega
    subst this
    refine g_X0_findStreet_35 (fun h => absurd h (by decide)) (fun h => absurd h (by decide)) (fun h => absurd h (by decide)) (fun _ => ?_)
    rw [nI_1]
    exact hK I ht (fun k hk => hc k (by omega)) frC.rf
  | succ jj ih =>
    intro j I hj ht hc hK
    obtain ⟨a, b, ht⟩ := ht
    have yes : nI j < 7 := nI_lt (b := 7) (by omega) (by omega)
    have et : twn (up2 (up2 I 11 p (nI (10 * i))) 11 o (nI (10 * j))) 7 = strT t p o i j := by
      rw [(twn_upk (show o < 6 by omega)).2.2.1 rfl, (twn_upk (show p < 6 by omega)).2.2.1 rfl, ht, up1_4 (by omega)]
      rfl
    have ok2 : Ok (twn (up2 (up2 I 11 p (nI (10 * i))) 11 o (nI (10 * j))) 7) n m d := by
      rw [et]
      exact (ok.setL (by omega) rfl (by omega)).setL (by omega) rfl (by omega)
    refine g_X0_findStreet_35 (fun _ => vp_in_nI (by omega) (by omega)) (fun _ => vp_in_nI (by omega) (by omega)) (fun _ => ?_) (fun h => absurd yes h)
    rw [nI_clamp (by omega), nI_clamp (by omega), ten i hi, ten j (by omega)]
    refine c_judgeNow ok2 ?_
    rw [et]
    have fin : ∀ v, v = cellI (AA t p o w i j) (BB t p o w2 i j) → Rn 55 35 [some (.ref 0), some (.int (nI p)), some (.int w), some (.int (nI o)), some (.int w2), some (.int x5), some (.int x6), some (.int (nI i)), some (.int (nI j + 1)), none, none, none] [] (0, 0) (mX e (up2 (up2 (up2 I 11 p (nI (10 * i))) 11 o (nI (10 * j))) 36 (7 * nI i + nI j).toNatClampNeg v) G) Q := by
      intro v hv
      rw [nI_1, (i77 i hi j (by omega)).2]
      refine ih (j + 1) (by omega) ⟨nI (10 * i), nI (10 * j), by rw [twn_ne (by omega), et]; rfl⟩ ?_ fun I' t' c' f' => hK I' t' c' ((((frC.rf.up (by omega)).up (by omega)).up (by omega)).tr f')
      intro k hk
      by_cases hkk : k = 7 * i + j
      · subst hkk
        rw [up2_v, hv, show (7 * i + j) / 7 = i by omega, show (7 * i + j) % 7 = j by omega]
      · rw [up2_i hkk, up2_ne (by omega), up2_ne (by omega)]
        exact hc k (by omega)
    have s139 : Rn 55 139 [some (.ref 0), some (.int (nI p)), some (.int w), some (.int (nI o)), some (.int w2), some (.int x5), some (.int x6), some (.int (nI i)), some (.int (nI j)), none, some (.int (acc (AA t p o w i j))), some (.int (acc (BB t p o w2 i j)))] [] (0, 0) (mX e (up2 (up2 I 11 p (nI (10 * i))) 11 o (nI (10 * j))) G) Q := by
      refine g_X0_findStreet_139 (fun _ _ => v77 hi (by omega)) (fun h1 h2 => fin _ ?_) (fun _ _ => v77 hi (by omega)) (fun h1 h2 => fin _ ?_) (fun _ _ => v77 hi (by omega)) (fun h1 h2 => fin _ ?_) (fun _ _ => v77 hi (by omega)) (fun h1 h2 => fin _ ?_)
      · rw [acc_0.mp h1, acc_0.mp h2]; rfl
      · rw [acc_0.mp h1, acc_n.mp h2]; rfl
      · rw [acc_n.mp h1, acc_0.mp h2]; rfl
      · rw [acc_n.mp h1, acc_n.mp h2]; rfl
    have s107 : Rn 55 107 [some (.ref 0), some (.int (nI p)), some (.int w), some (.int (nI o)), some (.int w2), some (.int x5), some (.int x6), some (.int (nI i)), some (.int (nI j)), some (.int (jNow (strT t p o i j))), some (.int (acc (AA t p o w i j))), none] [] (0, 0) (mX e (up2 (up2 I 11 p (nI (10 * i))) 11 o (nI (10 * j))) G) Q := by
      have hs := acc_sat (x := jNow (strT t p o i j) = nI o) (y := w2 = 1)
      refine g_X0_findStreet_107 (fun h1 h2 => ?_) (fun h1 h2 => ?_) (fun h1 h2 => ?_) (fun h1 h2 => ?_)
      · rw [show acc (BB t p o w2 i j) = 1 from hs.1 h1 h2] at s139; exact s139
      · rw [show acc (BB t p o w2 i j) = 0 from hs.2.1 h1 h2] at s139; exact s139
      · rw [show acc (BB t p o w2 i j) = 0 from hs.2.2.1 h1 h2] at s139; exact s139
      · rw [show acc (BB t p o w2 i j) = 1 from hs.2.2.2 h1 h2] at s139; exact s139
    have hs := acc_sat (x := jNow (strT t p o i j) = nI p) (y := w = 1)
    refine g_X0_findStreet_74 (fun h1 h2 => ?_) (fun h1 h2 => ?_) (fun h1 h2 => ?_) (fun h1 h2 => ?_)
    · rw [show acc (AA t p o w i j) = 1 from hs.1 h1 h2] at s107; exact s107
    · rw [show acc (AA t p o w i j) = 0 from hs.2.1 h1 h2] at s107; exact s107
    · rw [show acc (AA t p o w i j) = 0 from hs.2.2.1 h1 h2] at s107; exact s107
    · rw [show acc (AA t p o w i j) = 1 from hs.2.2.2 h1 h2] at s107; exact s107
theorem c_fsOut {n m d p o : Nat} {w w2 : Int32} {t : Nat → Int32} (ok : Ok t n m d) (hp : p < n) (ho : o < n) (hpo : p ≠ o) : ∀ ii i {I : Nat → Nat → Int32}, i + ii = 7 → (∃ a b, twn I 7 = up1 (up1 t (9 + 5 * p) a) (9 + 5 * o) b) → (∀ k, k < 7 * i → I 36 k = cellI (AA t p o w (k / 7) (k % 7)) (BB t p o w2 (k / 7) (k % 7))) →
    (∀ I', twn I' 7 = t → (∀ k, k < 49 → I' 36 k = cellI (AA t p o w (k / 7) (k % 7)) (BB t p o w2 (k / 7) (k % 7))) → frC I I' → Q (.returned none) (mX e I' G)) →
    Rn 55 25 [some (.ref 0), some (.int (nI p)), some (.int w), some (.int (nI o)), some (.int w2), some (.int (t (9 + 5 * p))), some (.int (t (9 + 5 * o))), some (.int (nI i)), none, none, none, none] [] (0, 0) (mX e I G) Q := by
  have h6 := ok.n6
  intro ii
  induction ii with
  | zero =>
    intro i I hi ht hc hQ
    have : i = 7 := by omega
    subst this
    obtain ⟨a, b, ht⟩ := ht
    refine g_X0_findStreet_25 (fun h => absurd h (by decide)) (fun _ => vp_in_nI (by omega) (by omega)) (fun _ => vp_in_nI (by omega) (by omega)) (fun _ => ?_)
    rw [nI_clamp (by omega), nI_clamp (by omega)]
    refine hQ _ ?_ ?_ ((frC.rf.up (by omega)).up (by omega))
    · rw [(twn_upk (show o < 6 by omega)).2.2.1 rfl, (twn_upk (show p < 6 by omega)).2.2.1 rfl, ht, up1_4 (by omega), up1_same, up1_same]
    · intro k hk; rw [up2_ne (by omega), up2_ne (by omega)]; exact hc k (by omega)
  | succ ii ih =>
    intro i I hi ht hc hQ
    have yes : nI i < 7 := nI_lt (b := 7) (by omega) (by omega)
    refine g_X0_findStreet_25 (fun _ => ?_) (fun h => absurd yes h) (fun h => absurd yes h) (fun h => absurd yes h)
    exact c_fsIn ok hp ho hpo (by omega) 7 0 (by omega) ht hc fun I' t' c' f' => ih (i + 1) (by omega) t' c' fun I2 t2 c2 f2 => hQ I2 t2 c2 (f'.tr f2)
theorem c_findStreet {I : Nat → Nat → Int32} {n m d p o : Nat} {w w2 : Int32} (ok : Ok (twn I 7) n m d) (hp : p < n) (ho : o < n) (hpo : p ≠ o)
    (hQ : ∀ I', twn I' 7 = twn I 7 → (∀ k, k < 49 → I' 36 k = cellI (AA (twn I 7) p o w (k / 7) (k % 7)) (BB (twn I 7) p o w2 (k / 7) (k % 7))) → frC I I' → Q (.returned none) (mX e I' G)) :
    Rn 55 0 [some (.ref 0), some (.int (nI p)), some (.int w), some (.int (nI o)), some (.int w2), none, none, none, none, none, none, none] [] (0, 0) (mX e I G) Q := by
  have h6 := ok.n6
  refine g_X0_findStreet_0 (vp_in_nI (by omega) (by omega)) (vp_in_nI (by omega) (by omega)) ?_
  rw [nI_clamp (by omega), nI_clamp (by omega), show I 11 p = twn I 7 (9 + 5 * p) from ((twn_k I 7 p (by omega)).2.2.1).symm, show I 11 o = twn I 7 (9 + 5 * o) from ((twn_k I 7 o (by omega)).2.2.1).symm]
  exact c_fsOut ok hp ho hpo 7 0 (by omega) ⟨twn I 7 (9 + 5 * p), twn I 7 (9 + 5 * o), by rw [up1_same, up1_same]⟩ (fun k hk => by omega) hQ
theorem c_isRest {I : Nat → Nat → Int32} {i j : Nat} {A B : Nat → Nat → Bool} (hi : i < 7) (hj : j < 7) (hc : ∀ k, k < 49 → I 36 k = cellI (A (k / 7) (k % 7)) (B (k / 7) (k % 7))) (hQ : Q (.returned (some (.int (acc (restB A B i j))))) (mX e I G)) :
    Rn 56 0 [some (.ref 0), some (.int (nI i)), some (.int (nI j)), none, none, none] [] (0, 0) (mX e I G) Q := by
  have at2 : ∀ a b, a < 7 → b < 7 → I 36 (7 * nI a + nI b).toNatClampNeg = cellI (A a b) (B a b) := fun a b ha hb => by
    rw [(i77 a ha b hb).2, hc _ (by omega), show (7 * a + b) / 7 = a by omega, show (7 * a + b) % 7 = b by omega]
  refine g_X0_isRest_0 (v77 hi hj) ?_
  rw [at2 i j hi hj]
  have loop : ∀ kk k, k + kk = 7 → Rn 56 18 [some (.ref 0), some (.int (nI i)), some (.int (nI j)), some (.int (cellI (A i j) (B i j))), some (.int (acc (alB (fun k => (A i j || !(A k j)) && (B i j || !(B i k))) k))), some (.int (nI k))] [] (0, 0) (mX e I G) Q := by
    intro kk
    induction kk with
    | zero =>
      intro k hk
      have : k = 7 := by omega
      subst this
      rw [rest_al]
      refine g_X0_isRest_18 ?_ ?_ ?_ ?_ ?_ ?_ ?_ ?_ ?_ ?_ ?_ ?_ ?_ (fun _ => ?_) (fun _ => hQ)
      iterate 13 exact fun h => absurd h (by decide)
      cases restB A B i j
      · exact Or.inl rfl
      · exact Or.inr rfl
    | succ kk ih =>
      intro k hk
      have ih2 := ih (k + 1) (by omega)
      have yes : nI k < 7 := nI_lt (b := 7) (by omega) (by omega)
      have fin : ∀ x y, x = acc (A i j || !(A k j)) → y = acc (B i j || !(B i k)) → Rn 56 18 [some (.ref 0), some (.int (nI i)), some (.int (nI j)), some (.int (cellI (A i j) (B i j))), some (.int ((acc (alB (fun k => (A i j || !(A k j)) && (B i j || !(B i k))) k) &&& x) &&& y)), some (.int (nI k + 1))] [] (0, 0) (mX e I G) Q := by
        intro x y hx hy
        rw [hx, hy, acc_and, nI_1, Bool.and_assoc]
        exact ih2
      have a1 := at2 k j (by omega) hj
      have a2 := at2 i k hi (by omega)
      have f0 : ∀ {a b : Bool}, ¬ bit (cellI a b) 0 → a = false := fun h => Bool.eq_false_iff.mpr fun q => h (cell_0.mpr q)
      have f1 : ∀ {a b : Bool}, ¬ bit (cellI a b) 1 → b = false := fun h => Bool.eq_false_iff.mpr fun q => h (cell_1.mpr q)
      refine g_X0_isRest_18 (fun _ _ => v77 (by omega) hj) (fun _ _ _ _ => v77 hi (by omega)) (fun _ h1 h2 h3 h4 => fin _ _ ?_ ?_) (fun _ h1 h2 h3 h4 => fin _ _ ?_ ?_) (fun _ h1 h2 h3 => fin _ _ ?_ ?_) (fun _ _ _ _ => v77 hi (by omega)) (fun _ h1 h2 h3 h4 => fin _ _ ?_ ?_) (fun _ h1 h2 h3 h4 => fin _ _ ?_ ?_) (fun _ h1 h2 h3 => fin _ _ ?_ ?_) (fun _ _ _ => v77 hi (by omega)) (fun _ h1 h3 h4 => fin _ _ ?_ ?_) (fun _ h1 h3 h4 => fin _ _ ?_ ?_) (fun _ h1 h3 => fin _ _ ?_ ?_) (fun h => absurd yes h) (fun h => absurd yes h)
      · rw [a1] at h2; rw [f0 h1, f0 h2]; rfl
      · rw [a2] at h4; rw [f1 h3, f1 h4]; rfl
      · rw [a1] at h2; rw [f0 h1, f0 h2]; rfl
      · rw [a2] at h4; rw [f1 h3, cell_1.mp h4]; rfl
      · rw [a1] at h2; rw [f0 h1, f0 h2]; rfl
      · rw [cell_1.mp h3]; rfl
      · rw [a1] at h2; rw [f0 h1, cell_0.mp h2]; rfl
      · rw [a2] at h4; rw [f1 h3, f1 h4]; rfl
      · rw [a1] at h2; rw [f0 h1, cell_0.mp h2]; rfl
      · rw [a2] at h4; rw [f1 h3, cell_1.mp h4]; rfl
      · rw [a1] at h2; rw [f0 h1, cell_0.mp h2]; rfl
      · rw [cell_1.mp h3]; rfl
      · rw [cell_0.mp h1]; rfl
      · rw [a2] at h4; rw [f1 h3, f1 h4]; rfl
      · rw [cell_0.mp h1]; rfl
      · rw [a2] at h4; rw [f1 h3, cell_1.mp h4]; rfl
      · rw [cell_0.mp h1]; rfl
      · rw [cell_1.mp h3]; rfl
  exact loop 7 0 (by omega)
theorem m1_n : ∀ j, j < 8 → nI (j + 1) + (-1) = nI j := by decide +kernel
theorem c_strIn {I : Nat → Nat → Int32} {a5 : Int32} {A B : Nat → Nat → Bool} {i : Nat} (hi : i < 7) (hc : ∀ k, k < 49 → I 36 k = cellI (A (k / 7) (k % 7)) (B (k / 7) (k % 7))) {r0 : Nat × Int32}
    (hK : Rn 54 60 [some (.ref 0), none, none, none, none, some (.int a5), some (.int (nI (sfS (fun k => restB A B (k / 7) (k % 7)) (49 - 7 * i) (7 * i)).1)), some (.int (sfS (fun k => restB A B (k / 7) (k % 7)) (49 - 7 * i) (7 * i)).2), some (.int (nI i + (-1))), none, none] [] (0, 0) (mX e I G) Q) :
    ∀ jj, jj ≤ 7 → Rn 54 69 [some (.ref 0), none, none, none, none, some (.int a5), some (.int (nI (sfS (fun k => restB A B (k / 7) (k % 7)) (49 - (7 * i + jj)) (7 * i + jj)).1)), some (.int (sfS (fun k => restB A B (k / 7) (k % 7)) (49 - (7 * i + jj)) (7 * i + jj)).2), some (.int (nI i)), some (.int (nI jj + (-1))), none] [] (0, 0) (mX e I G) Q := by
  intro jj
  induction jj with
  | zero =>
    intro _
    exact g_X0_street_69 (fun _ => hK) (fun h => absurd (show nI 0 + (-1) < 0 by decide) h)
  | succ jj ih =>
    intro hjj
    have ih2 := ih (by omega)
    rw [m1_n jj (by omega)]
    refine g_X0_street_69 (fun h => absurd h (nI_pos (by omega))) (fun _ => ?_)
    refine c_isRest hi (by omega) hc ?_
    have hs : 49 - (7 * i + jj) = (49 - (7 * i + (jj + 1))) + 1 := by omega
    rw [hs, sfS] at ih2
    have hk1 : (7 * i + jj) / 7 = i := by omega
    have hk2 : (7 * i + jj) % 7 = jj := by omega
    rw [hk1, hk2] at ih2
    cases hr : restB A B i jj with
    | true =>
      rw [hr] at ih2
      refine g_X0_street_82 (fun h => absurd h (by decide)) (fun h => absurd h (by decide)) (fun _ h => absurd h (by decide)) (fun _ _ => ?_)
      rw [nI_1, c107 i hi jj (by omega)]
      exact ih2
    | false =>
      rw [hr] at ih2
      refine g_X0_street_82 (fun _ _ => ?_) (fun _ h => absurd rfl h) (fun h => absurd rfl h) (fun h => absurd rfl h)
      rw [Int32.add_zero]
      exact ih2
theorem c_strOut {I : Nat → Nat → Int32} {a5 : Int32} {A B : Nat → Nat → Bool} (hc : ∀ k, k < 49 → I 36 k = cellI (A (k / 7) (k % 7)) (B (k / 7) (k % 7)))
    (hQ : Q (.returned (some (.int (if a5 = 0 then nI (sfS (fun k => restB A B (k / 7) (k % 7)) 49 0).1 else (sfS (fun k => restB A B (k / 7) (k % 7)) 49 0).2)))) (mX e I G)) :
    ∀ i, i ≤ 7 → Rn 54 60 [some (.ref 0), none, none, none, none, some (.int a5), some (.int (nI (sfS (fun k => restB A B (k / 7) (k % 7)) (49 - 7 * i) (7 * i)).1)), some (.int (sfS (fun k => restB A B (k / 7) (k % 7)) (49 - 7 * i) (7 * i)).2), some (.int (nI i + (-1))), none, none] [] (0, 0) (mX e I G) Q := by
  intro i
  induction i with
  | zero =>
    intro _
    refine g_X0_street_60 (fun _ h => ?_) (fun _ h => ?_) (fun h => absurd (show nI 0 + (-1) < 0 by decide) h)
    · rw [if_pos h] at hQ; exact hQ
    · rw [if_neg h] at hQ; exact hQ
  | succ i ih =>
    intro hi
    rw [m1_n i (by omega)]
    refine g_X0_street_60 (fun h => absurd h (nI_pos (by omega))) (fun h => absurd h (nI_pos (by omega))) (fun _ => ?_)
    have := c_strIn (r0 := (0, 0)) (show i < 7 by omega) hc (ih (by omega)) 7 (by omega)
    rw [show 7 * i + 7 = 7 * (i + 1) by omega] at this
    exact this
theorem c_street (a1 a2 a3 a4 a5 : Int32) : qC 54 [some (.ref 0), some (.int a1), some (.int a2), some (.int a3), some (.int a4), some (.int a5), none, none, none, none, none] (fun t => twoP (t 0) a1 a3 ∧ inl a2.toInt64 0 1 ∧ inl a4.toInt64 0 1 ∧ inl a5.toInt64 0 1) (fun t => strR t a1.toNatClampNeg a2 a3.toNatClampNeg a4 a5) := by
  intro e I G Q n m d ok hd hb hQ
  dsimp only at hb hQ
  have h6 := ok.n6
  refine g_X0_street_0 (fun h => hb (fun q => h q.1)) (fun _ h => hb (fun q => h q.2.1)) (fun _ _ h => hb (fun q => h q.2.2.1)) (fun _ _ _ h => hb (fun q => h q.2.2.2)) (fun h1 h2 h3 h4 => ?_)
  have hQ := hQ ⟨h1, h2, h3, h4⟩
  rw [show I 7 7 = nI n from ok.hn] at h1
  obtain ⟨p, hp, rfl⟩ := isP h6 h1.1
  obtain ⟨o, ho, rfl⟩ := isP h6 h1.2.1
  have hpo : p ≠ o := fun q => h1.2.2 (by rw [q])
  rw [nI_clamp (by omega), nI_clamp (by omega)] at hQ
  refine c_findStreet (w := a2) (w2 := a4) ok hp ho hpo fun I1 t1 c1 f1 => g_X0_street_49 ?_
  refine c_strOut c1 ?_ 7 (by omega)
  have := hQ I1 t1 f1
  unfold strR at this
  rw [up_sf0] at this
  exact this
theorem m_has {I : Nat → Nat → Int32} {n m d p o i j who : Nat} {w : Int32} {t : Nat → Int32} (ok : Ok t n m d) (hp : p < n) (ho : o < n) (hpo : p ≠ o) (hi : i < 7) (hj : j < 7) (ht : ∃ a b, nw I = up1 (up1 t (9 + 5 * p) a) (9 + 5 * o) b)
    (hQ : ∀ I', nw I' = strT t p o i j → fr 180 180 I I' → Q (.returned (some (.int (acc (satB who w (strT t p o i j)))))) (mX e I' G)) :
    Rn 149 0 [some (.ref 179), some (.int (nI who)), some (.int w), some (.int (nI p)), some (.int (nI i)), some (.int (nI o)), some (.int (nI j))] [] (0, 0) (mX e I G) Q := by
  have h6 := ok.n6
  obtain ⟨a, b, ht⟩ := ht
  refine g_X9_has_0 ?_
  rw [ten i hi]
  refine m_lingersBy (by omega) (g_X9_has_10 ?_)
  rw [ten j hj]
  refine m_lingersBy (by omega) (g_X9_has_21 ?_)
  have et : nw (up2 (up2 I 180 (9 + 5 * p) (nI (10 * i))) 180 (9 + 5 * o) (nI (10 * j))) = strT t p o i j := by
    rw [nw_up (by omega), nw_up (by omega), ht, up1_4 (by omega)]
    rfl
  have ok2 : Ok (nw (up2 (up2 I 180 (9 + 5 * p) (nI (10 * i))) 180 (9 + 5 * o) (nI (10 * j)))) n m d := by
    rw [et]
    exact (ok.setL (by omega) rfl (by omega)).setL (by omega) rfl (by omega)
  have hq := hQ _ et ((fr.rf.up (by omega) (by omega)).up (by omega) (by omega))
  refine m_judgeNow ok2 ?_
  rw [et]
  have hs := acc_sat (x := jNow (strT t p o i j) = nI who) (y := w = 1)
  unfold satB at hq
  refine g_X9_has_25 (fun h1 h2 => ?_) (fun h1 h2 => ?_) (fun h1 h2 => ?_) (fun h1 h2 => ?_)
  · rw [hs.1 h1 h2] at hq; exact hq
  · rw [hs.2.1 h1 h2] at hq; exact hq
  · rw [hs.2.2.1 h1 h2] at hq; exact hq
  · rw [hs.2.2.2 h1 h2] at hq; exact hq
end S53
