/-! THE SPEC of a town: t is 49 ints, as the twin has them -/
def late (t : Nat → Int32) (h : Int32) (p : Nat) : Int32 := ((t (8 + 5 * p) + t (9 + 5 * p)) + (if t 5 = nI p then 5 else 0)) + (if bit h (nI p) then 15 else 0)
/-- p may judge the case c (a place; not one: -4), h being held up -/
abbrev mayP (t : Nat → Int32) (h : Int32) (c : Nat) (p : Nat) : Prop := ¬ t 3 < late t h p ∧ (t (38 + 2 * c) = -4 ∨ (¬ nI p = t (38 + 2 * c) ∧ ¬ bit (t (11 + 5 * (t (38 + 2 * c)).toNatClampNeg)) (nI p)))
/-- a set of people, by a test -/
def setB (f : Nat → Bool) : Nat → Int32
  | 0 => 0
  | n + 1 => setB f n ||| (if f n then 1 <<< (nI n &&& 31) else 0)
def maySet (t : Nat → Int32) (h c : Int32) (n : Nat) : Int32 := setB (fun p => decide (¬ c = -4) && decide (mayP t h c.toNatClampNeg p)) n
def judB (f : Nat → Bool) (v : Nat → Int32) : Nat → Option Nat
  | 0 => none
  | n + 1 => if f n then (match judB f v n with | none => some n | some b => if v n < v b then some b else some n) else judB f v n
def noI : Option Nat → Int32 | none => -4 | some n => nI n
/-- who judges -/
def judg (t : Nat → Int32) (h c : Int32) : Option Nat := judB (fun p => decide (¬ c = -4) && decide (mayP t h c.toNatClampNeg p)) (late t h) (t 0).toNatClampNeg
def plc (t : Nat → Int32) : Int32 := if t 1 = 0 then -4 else t 2 - t 2 / t 1 * t 1
def plain (v : Int32) : Int32 := if 9 < v then v - 9 else 0
def yrs (t : Nat → Int32) (p : Nat) (c : Nat) : Int32 :=
  if t (7 + 5 * p) = 0 then plain (t (37 + 2 * c)) else if t (7 + 5 * p) = 1 then (if 0 < plain (t (37 + 2 * c)) then plain (t (37 + 2 * c)) + 3 else 0) else if t (7 + 5 * p) = 2 then plain (t (37 + 2 * c)) / 2 else if t (7 + 5 * p) = 3 then 9 else plain (t (37 + 2 * c)) / 2 + late t 0 p / 10
def yrsO (t : Nat → Int32) (o : Option Nat) (c : Int32) : Int32 := match o with | none => 0 | some p => yrs t p c.toNatClampNeg
def up1 (t : Nat → Int32) (k : Nat) (v : Int32) : Nat → Int32 := fun j => if j = k then v else t j
/-- one more case judged -/
def judd (t : Nat → Int32) (o : Option Nat) : Nat → Int32 := match o with | none => t | some p => up1 t (10 + 5 * p) (t (10 + 5 * p) + 1)
/-- a day goes by, the case c being judged -/
def goes (t : Nat → Int32) (c : Int32) : Nat → Int32 := up1 (up1 (up1 (judd t (judg t 0 c)) 5 (noI (judg t 0 c))) 4 (t 4 + yrsO t (judg t 0 c) c)) 2 (t 2 + 1)
/-- what holds of a town -/
def Ok (t : Nat → Int32) (n m d : Nat) : Prop :=
  (n ≤ 6) ∧
  (m ≤ 6) ∧
  (t 0 = nI n) ∧
  (t 1 = nI m) ∧
  (t 2 = nI d) ∧
  (d ≤ 9999 + 60) ∧
  (∀ p, p < n → ∃ k, k < 5 ∧ t (7 + 5 * p) = nI k) ∧
  (∀ p, p < n → ∃ k, k < 200 ∧ t (8 + 5 * p) = nI k) ∧
  (∀ p, p < n → ∃ k, k ≤ 60 ∧ t (9 + 5 * p) = nI k) ∧
  (∀ p q, p < n → bit (t (11 + 5 * p)) (nI q) → q < 32 → q < n) ∧
  (∀ p q, p < n → q < n → (bit (t (11 + 5 * p)) (nI q) ↔ bit (t (11 + 5 * q)) (nI p))) ∧
  (∀ c, c < m → ∃ k, k ≤ 20 ∧ t (37 + 2 * c) = nI k) ∧
  (∀ c, c < m → t (38 + 2 * c) = -4 ∨ ∃ k, k < n ∧ t (38 + 2 * c) = nI k) ∧
  (¬ t 6 < 0)
theorem Ok.n6 {t : Nat → Int32} {n m d : Nat} (h : Ok t n m d) : n ≤ 6 := h.1
theorem Ok.m6 {t : Nat → Int32} {n m d : Nat} (h : Ok t n m d) : m ≤ 6 := h.2.1
theorem Ok.hn {t : Nat → Int32} {n m d : Nat} (h : Ok t n m d) : t 0 = nI n := h.2.2.1
theorem Ok.hm {t : Nat → Int32} {n m d : Nat} (h : Ok t n m d) : t 1 = nI m := h.2.2.2.1
theorem Ok.hd {t : Nat → Int32} {n m d : Nat} (h : Ok t n m d) : t 2 = nI d := h.2.2.2.2.1
theorem Ok.d9 {t : Nat → Int32} {n m d : Nat} (h : Ok t n m d) : d ≤ 9999 + 60 := h.2.2.2.2.2.1
theorem Ok.kind {t : Nat → Int32} {n m d : Nat} (h : Ok t n m d) : ∀ p, p < n → ∃ k, k < 5 ∧ t (7 + 5 * p) = nI k := h.2.2.2.2.2.2.1
theorem Ok.way {t : Nat → Int32} {n m d : Nat} (h : Ok t n m d) : ∀ p, p < n → ∃ k, k < 200 ∧ t (8 + 5 * p) = nI k := h.2.2.2.2.2.2.2.1
theorem Ok.ling {t : Nat → Int32} {n m d : Nat} (h : Ok t n m d) : ∀ p, p < n → ∃ k, k ≤ 60 ∧ t (9 + 5 * p) = nI k := h.2.2.2.2.2.2.2.2.1
theorem Ok.kin {t : Nat → Int32} {n m d : Nat} (h : Ok t n m d) : ∀ p q, p < n → bit (t (11 + 5 * p)) (nI q) → q < 32 → q < n := h.2.2.2.2.2.2.2.2.2.1
theorem Ok.sym {t : Nat → Int32} {n m d : Nat} (h : Ok t n m d) : ∀ p q, p < n → q < n → (bit (t (11 + 5 * p)) (nI q) ↔ bit (t (11 + 5 * q)) (nI p)) := h.2.2.2.2.2.2.2.2.2.2.1
theorem Ok.prf {t : Nat → Int32} {n m d : Nat} (h : Ok t n m d) : ∀ c, c < m → ∃ k, k ≤ 20 ∧ t (37 + 2 * c) = nI k := h.2.2.2.2.2.2.2.2.2.2.2.1
theorem Ok.acc {t : Nat → Int32} {n m d : Nat} (h : Ok t n m d) : ∀ c, c < m → t (38 + 2 * c) = -4 ∨ ∃ k, k < n ∧ t (38 + 2 * c) = nI k := h.2.2.2.2.2.2.2.2.2.2.2.2.1
theorem Ok.draw {t : Nat → Int32} {n m d : Nat} (h : Ok t n m d) : ¬ t 6 < 0 := h.2.2.2.2.2.2.2.2.2.2.2.2.2
/-- where a town's int stands in a State: which of its cells, which place -/
def ta (j : Nat) : Nat × Nat := if j < 7 then (0, ([7, 8, 12, 9, 11, 10, 13] : List Nat).getD j 0) else if j < 37 then (([1, 2, 4, 5, 3] : List Nat).getD ((j - 7) % 5) 0, (j - 7) / 5) else (6 + (j - 37) % 2, (j - 37) / 2)
theorem ta_inj : ∀ i, i < 49 → ∀ j, j < 49 → ta i = ta j → i = j := by decide +kernel
theorem ta_ran : ∀ j, j < 49 → (((ta j).1 = 0 ∧ 7 ≤ (ta j).2 ∧ (ta j).2 ≤ 13) ∨ (1 ≤ (ta j).1 ∧ (ta j).1 ≤ 7 ∧ (ta j).2 < 6)) := by decide +kernel
theorem ta_k : ∀ p, p < 6 → (ta (7 + 5 * p) = (1, p) ∧ ta (8 + 5 * p) = (2, p) ∧ ta (9 + 5 * p) = (4, p) ∧ ta (10 + 5 * p) = (5, p) ∧ ta (11 + 5 * p) = (3, p)) := by decide +kernel
theorem ta_c : ∀ p, p < 6 → (ta (37 + 2 * p) = (6, p) ∧ ta (38 + 2 * p) = (7, p)) := by decide +kernel
/-- the town of a State of the component, at its base -/
def twn (I : Nat → Nat → Int32) (b : Nat) : Nat → Int32 := fun j => if j < 49 then I (b + (ta j).1) (ta j).2 else 0
/-- the town of the twin: 49 ints of a row -/
def cut (t : Nat → Int32) : Nat → Int32 := fun j => if j < 49 then t j else 0
abbrev nw (I : Nat → Nat → Int32) : Nat → Int32 := cut (I 180)
theorem twn_k (I : Nat → Nat → Int32) (b p : Nat) (h : p < 6) : twn I b (7 + 5 * p) = I (b + 1) p ∧ twn I b (8 + 5 * p) = I (b + 2) p ∧ twn I b (9 + 5 * p) = I (b + 4) p ∧ twn I b (10 + 5 * p) = I (b + 5) p ∧ twn I b (11 + 5 * p) = I (b + 3) p := by
  obtain ⟨h1, h2, h3, h4, h5⟩ := ta_k p h
  unfold twn
  rw [if_pos (by omega), if_pos (by omega), if_pos (by omega), if_pos (by omega), if_pos (by omega), h1, h2, h3, h4, h5]
  exact ⟨rfl, rfl, rfl, rfl, rfl⟩
theorem twn_c (I : Nat → Nat → Int32) (b p : Nat) (h : p < 6) : twn I b (37 + 2 * p) = I (b + 6) p ∧ twn I b (38 + 2 * p) = I (b + 7) p := by
  obtain ⟨h1, h2⟩ := ta_c p h
  unfold twn
  rw [if_pos (by omega), if_pos (by omega), h1, h2]
  exact ⟨rfl, rfl⟩
theorem cut_at {t : Nat → Int32} {j : Nat} (h : j < 49) : cut t j = t j := if_pos h
theorem cut_up {t : Nat → Int32} {k : Nat} {v : Int32} (h : k < 49) : cut (up1 t k v) = up1 (cut t) k v := by
  funext j
  unfold cut up1
  by_cases hj : j = k
  · subst hj; simp [h]
  · simp [hj]
theorem up1_at {t : Nat → Int32} {k : Nat} {v : Int32} : up1 t k v k = v := if_pos rfl
theorem up1_ne {t : Nat → Int32} {k j : Nat} {v : Int32} (h : j ≠ k) : up1 t k v j = t j := if_neg h
theorem up1_same {t : Nat → Int32} {k : Nat} : up1 t k (t k) = t := by
  funext j
  unfold up1
  split
  · rename_i h; rw [h]
  · rfl
theorem up1_up1 {t : Nat → Int32} {k : Nat} {v w : Int32} : up1 (up1 t k v) k w = up1 t k w := by
  funext j
  unfold up1
  split <;> rfl
theorem up1_comm {t : Nat → Int32} {k j : Nat} {v w : Int32} (h : k ≠ j) : up1 (up1 t k v) j w = up1 (up1 t j w) k v := by
  funext i
  unfold up1
  by_cases h1 : i = j
  · subst h1; rw [if_pos rfl, if_neg (fun q => h q.symm), if_pos rfl]
  · rw [if_neg h1, if_neg h1]
theorem up2_at {I : Nat → Nat → Int32} {k j : Nat} {v : Int32} : up2 I k j v k = up1 (I k) j v := by
  funext i
  unfold up2 up1
  rw [if_pos rfl]
theorem up2_ne {I : Nat → Nat → Int32} {k j q : Nat} {v : Int32} (h : q ≠ k) : up2 I k j v q = I q := by
  funext i
  unfold up2
  rw [if_neg h]
theorem up2_v {I : Nat → Nat → Int32} {k j : Nat} {v : Int32} : up2 I k j v k j = v := by
  rw [up2_at, up1_at]
theorem up2_i {I : Nat → Nat → Int32} {k j i : Nat} {v : Int32} (h : i ≠ j) : up2 I k j v k i = I k i := by
  rw [up2_at, up1_ne h]
theorem nw_up {I : Nat → Nat → Int32} {k : Nat} {v : Int32} (h : k < 49) : nw (up2 I 180 k v) = up1 (nw I) k v := by
  show cut (up2 I 180 k v 180) = _
  rw [up2_at, cut_up h]
theorem nw_ne {I : Nat → Nat → Int32} {k j : Nat} {v : Int32} (h : 180 ≠ k) : nw (up2 I k j v) = nw I := by
  show cut (up2 I k j v 180) = _
  rw [up2_ne h]
/-- a write into a State -/
theorem twn_up {I : Nat → Nat → Int32} {b j : Nat} {v : Int32} (h : j < 49) : twn (up2 I (b + (ta j).1) (ta j).2 v) b = up1 (twn I b) j v := by
  funext i
  unfold twn up1
  dsimp only
  by_cases hi : i < 49
  · rw [if_pos hi, if_pos hi]
    by_cases hij : i = j
    · subst hij
      rw [if_pos rfl, up2_v]
    · rw [if_neg hij]
      by_cases h1 : (ta i).1 = (ta j).1
      · have h2 : (ta i).2 ≠ (ta j).2 := fun q => hij (ta_inj i hi j h (Prod.ext h1 q))
        rw [h1, up2_i h2]
      · rw [up2_ne (by omega)]
  · rw [if_neg hi, if_neg hi, if_neg (by omega)]
theorem twn_upk {I : Nat → Nat → Int32} {b p k : Nat} {v : Int32} (hp : p < 6) : (k = b + 1 → twn (up2 I k p v) b = up1 (twn I b) (7 + 5 * p) v) ∧ (k = b + 2 → twn (up2 I k p v) b = up1 (twn I b) (8 + 5 * p) v) ∧ (k = b + 4 → twn (up2 I k p v) b = up1 (twn I b) (9 + 5 * p) v) ∧ (k = b + 5 → twn (up2 I k p v) b = up1 (twn I b) (10 + 5 * p) v) ∧ (k = b + 3 → twn (up2 I k p v) b = up1 (twn I b) (11 + 5 * p) v) := by
  obtain ⟨h1, h2, h3, h4, h5⟩ := ta_k p hp
  refine ⟨fun e => ?_, fun e => ?_, fun e => ?_, fun e => ?_, fun e => ?_⟩ <;> subst e
  · have := twn_up (I := I) (b := b) (v := v) (show 7 + 5 * p < 49 by omega); rw [h1] at this; exact this
  · have := twn_up (I := I) (b := b) (v := v) (show 8 + 5 * p < 49 by omega); rw [h2] at this; exact this
  · have := twn_up (I := I) (b := b) (v := v) (show 9 + 5 * p < 49 by omega); rw [h3] at this; exact this
  · have := twn_up (I := I) (b := b) (v := v) (show 10 + 5 * p < 49 by omega); rw [h4] at this; exact this
  · have := twn_up (I := I) (b := b) (v := v) (show 11 + 5 * p < 49 by omega); rw [h5] at this; exact this
theorem twn_upc {I : Nat → Nat → Int32} {b p k : Nat} {v : Int32} (hp : p < 6) : (k = b + 6 → twn (up2 I k p v) b = up1 (twn I b) (37 + 2 * p) v) ∧ (k = b + 7 → twn (up2 I k p v) b = up1 (twn I b) (38 + 2 * p) v) := by
  obtain ⟨h1, h2⟩ := ta_c p hp
  refine ⟨fun e => ?_, fun e => ?_⟩ <;> subst e
  · have := twn_up (I := I) (b := b) (v := v) (show 37 + 2 * p < 49 by omega); rw [h1] at this; exact this
  · have := twn_up (I := I) (b := b) (v := v) (show 38 + 2 * p < 49 by omega); rw [h2] at this; exact this
/-- a write into a field of a State -/
theorem twn_f {I : Nat → Nat → Int32} {b : Nat} {v : Int32} : twn (up2 I b 7 v) b = up1 (twn I b) 0 v ∧ twn (up2 I b 8 v) b = up1 (twn I b) 1 v ∧ twn (up2 I b 12 v) b = up1 (twn I b) 2 v ∧ twn (up2 I b 9 v) b = up1 (twn I b) 3 v ∧ twn (up2 I b 11 v) b = up1 (twn I b) 4 v ∧ twn (up2 I b 10 v) b = up1 (twn I b) 5 v ∧ twn (up2 I b 13 v) b = up1 (twn I b) 6 v :=
  ⟨twn_up (j := 0) (by omega), twn_up (j := 1) (by omega), twn_up (j := 2) (by omega), twn_up (j := 3) (by omega), twn_up (j := 4) (by omega), twn_up (j := 5) (by omega), twn_up (j := 6) (by omega)⟩
theorem twn_g (I : Nat → Nat → Int32) (b : Nat) : twn I b 0 = I b 7 ∧ twn I b 1 = I b 8 ∧ twn I b 2 = I b 12 ∧ twn I b 3 = I b 9 ∧ twn I b 4 = I b 11 ∧ twn I b 5 = I b 10 ∧ twn I b 6 = I b 13 := ⟨rfl, rfl, rfl, rfl, rfl, rfl, rfl⟩
theorem twn_con {I I' : Nat → Nat → Int32} {b : Nat} (h : ∀ o, o ≤ 7 → I' (b + o) = I (b + o)) : twn I' b = twn I b := by
  funext j
  unfold twn
  by_cases hj : j < 49
  · rw [if_pos hj, if_pos hj]
    have := ta_ran j hj
    rw [h _ (by omega)]
  · rw [if_neg hj, if_neg hj]
theorem twn_ne {I : Nat → Nat → Int32} {b k j : Nat} {v : Int32} (h : k < b ∨ b + 7 < k) : twn (up2 I k j v) b = twn I b := twn_con fun o ho => up2_ne (by omega)
/-- a frame: outside a to b nothing has changed -/
def fr (a b : Nat) (I I' : Nat → Nat → Int32) : Prop := ∀ k, (k < a ∨ b < k) → I' k = I k
theorem fr.rf {a b : Nat} {I : Nat → Nat → Int32} : fr a b I I := fun _ _ => rfl
theorem fr.tr {a b : Nat} {I I' I'' : Nat → Nat → Int32} (h1 : fr a b I I') (h2 : fr a b I' I'') : fr a b I I'' := fun k hk => (h2 k hk).trans (h1 k hk)
theorem fr.wd {a b a' b' : Nat} {I I' : Nat → Nat → Int32} (h : fr a b I I') (ha : a' ≤ a) (hb : b ≤ b') : fr a' b' I I' := fun k hk => h k (by omega)
theorem fr.up {a b k j : Nat} {v : Int32} {I I' : Nat → Nat → Int32} (h : fr a b I I') (h1 : a ≤ k) (h2 : k ≤ b) : fr a b I (up2 I' k j v) := fun q hq => by rw [up2_ne (by omega)]; exact h q hq
theorem fr.twn {a b c : Nat} {I I' : Nat → Nat → Int32} (h : fr a b I I') (hc : c + 7 < a ∨ b < c) : twn I' c = twn I c := twn_con fun o ho => h _ (by omega)
