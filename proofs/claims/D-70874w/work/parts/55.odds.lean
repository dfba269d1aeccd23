/-! odds -/
theorem nI_mul (a b : Nat) : nI a * nI b = nI (a * b) := (Int32.ofNat_mul a b).symm
theorem bit_tb : ∀ s, s < 64 → ∀ k, k < 6 → (bit (nI s) (nI k) ↔ s.testBit k = true) := by decide +kernel
/-- the part of a set, of so many people -/
def prt (c s : Nat) : Nat → Nat
  | 0 => 1
  | k + 1 => prt c s k * (if s.testBit k then c else 10 - c)
theorem prt_le {c s : Nat} (hc : c ≤ 10) : ∀ k, prt c s k ≤ 10 ^ k
  | 0 => Nat.le_refl _
  | k + 1 => by
    unfold prt
    rw [Nat.pow_succ]
    exact Nat.mul_le_mul (prt_le hc k) (by split <;> omega)
def blw (c n : Nat) : Nat → Nat
  | 0 => 0
  | s + 1 => blw c n s + prt c s n
theorem blw_all : ∀ c, c ≤ 10 → ∀ n, n ≤ 6 → blw c n (2 ^ n) = 10 ^ n := by decide +kernel
def abv (t : Nat → Int32) (p c n : Nat) : Nat → Nat
  | 0 => 0
  | s + 1 => abv t p c n s + (if judg t (nI s) (plc t) = some p then prt c s n else 0)
theorem p10 : ∀ n, n ≤ 6 → 1 ≤ 10 ^ n ∧ 10 ^ n ≤ 1000000 := by decide
theorem abv_le {t : Nat → Int32} {p c n : Nat} (hc : c ≤ 10) (hn : n ≤ 6) : ∀ s, abv t p c n s ≤ s * 1000000
  | 0 => Nat.zero_le _
  | s + 1 => by
    have h1 := abv_le (t := t) (p := p) hc hn s
    have h2 := prt_le (s := s) hc n
    have h3 := (p10 n hn).2
    unfold abv
    by_cases h : judg t (nI s) (plc t) = some p
    · rw [if_pos h]; omega
    · rw [if_neg h, Nat.add_zero, Nat.succ_mul]; exact Nat.le_trans h1 (Nat.le_add_right _ _)
theorem blw_le {c n : Nat} (hc : c ≤ 10) (hn : n ≤ 6) : ∀ s, blw c n s ≤ s * 1000000
  | 0 => Nat.zero_le _
  | s + 1 => by
    have h1 := blw_le hc hn s
    have h2 := prt_le (s := s) hc n
    have h3 := (p10 n hn).2
    unfold blw
    omega
def oddR (t : Nat → Int32) (p c : Nat) (a3 : Int32) : Int32 :=
  if a3 = 0 then nI (abv t p c (t 0).toNatClampNeg (2 ^ (t 0).toNatClampNeg) / Nat.gcd (abv t p c (t 0).toNatClampNeg (2 ^ (t 0).toNatClampNeg)) (10 ^ (t 0).toNatClampNeg))
  else nI (10 ^ (t 0).toNatClampNeg / Nat.gcd (abv t p c (t 0).toNatClampNeg (2 ^ (t 0).toNatClampNeg)) (10 ^ (t 0).toNatClampNeg))
/-- those of a set are held up -/
def oddT (t : Nat → Int32) (s k : Nat) : Nat → Int32 := fun j => if 8 ≤ j ∧ j < 8 + 5 * k ∧ j % 5 = 3 then t j + (if s.testBit ((j - 8) / 5) then 15 else 0) else t j
theorem oddT_at {t : Nat → Int32} {s k q : Nat} (hq : q < k) : oddT t s k (8 + 5 * q) = t (8 + 5 * q) + (if s.testBit q then 15 else 0) := by
  unfold oddT
  rw [if_pos (by omega), show (8 + 5 * q - 8) / 5 = q by omega]
theorem oddT_ne {t : Nat → Int32} {s k j : Nat} (h : ∀ q, q < k → j ≠ 8 + 5 * q) : oddT t s k j = t j := by
  unfold oddT
  rw [if_neg]
  rintro ⟨h1, h2, h3⟩
  exact h ((j - 8) / 5) (by omega) (by omega)
theorem oddT_s {t : Nat → Int32} {s k : Nat} : oddT t s (k + 1) = up1 (oddT t s k) (8 + 5 * k) (t (8 + 5 * k) + (if s.testBit k then 15 else 0)) := by
  funext j
  by_cases hj : j = 8 + 5 * k
  · subst hj; rw [oddT_at (by omega), up1_at]
  · rw [up1_ne hj]
    unfold oddT
    by_cases h : 8 ≤ j ∧ j < 8 + 5 * k ∧ j % 5 = 3
    · rw [if_pos h, if_pos (by omega)]
    · rw [if_neg h, if_neg (by omega)]
theorem oddT_0 {t : Nat → Int32} {s : Nat} : oddT t s 0 = t := by
  funext j
  exact oddT_ne (fun q hq => by omega)
theorem oddT_ok {t : Nat → Int32} {s n m d : Nat} (h : Ok t n m d) (hw : ∀ p, p < n → ∃ k, k < 100 ∧ t (8 + 5 * p) = nI k) : Ok (oddT t s n) n m d := by
  obtain ⟨h1, h2, h3, h4, h5, h6, h7, h8, h9, h10, h11, h12, h13, h14⟩ := h
  refine ⟨h1, h2, ?_, ?_, ?_, h6, ?_, ?_, ?_, ?_, ?_, ?_, ?_, ?_⟩
  · rw [oddT_ne (fun q _ => by omega)]; exact h3
  · rw [oddT_ne (fun q _ => by omega)]; exact h4
  · rw [oddT_ne (fun q _ => by omega)]; exact h5
  · intro p hp; rw [oddT_ne (fun q _ => by omega)]; exact h7 p hp
  · intro p hp
    rw [oddT_at hp]
    obtain ⟨k, hk, e⟩ := hw p hp
    rw [e]
    split
    · exact ⟨k + 15, by omega, nI_add k 15⟩
    · exact ⟨k, by omega, by rw [Int32.add_zero]⟩
  · intro p hp; rw [oddT_ne (fun q _ => by omega)]; exact h9 p hp
  · intro p q hp; rw [oddT_ne (fun q _ => by omega)]; exact h10 p q hp
  · intro p q hp hq; rw [oddT_ne (fun q _ => by omega), oddT_ne (fun q _ => by omega)]; exact h11 p q hp hq
  · intro c hc; rw [oddT_ne (fun q _ => by omega)]; exact h12 c hc
  · intro c hc; rw [oddT_ne (fun q _ => by omega)]; exact h13 c hc
  · rw [oddT_ne (fun q _ => by omega)]; exact h14
theorem judB_con {f f' : Nat → Bool} {v v' : Nat → Int32} : ∀ {n : Nat}, (∀ p, p < n → f' p = f p) → (∀ p, p < n → v' p = v p) → judB f' v' n = judB f v n
  | 0, _, _ => rfl
  | n + 1, h1, h2 => by
    have ih := judB_con (n := n) (fun p hp => h1 p (by omega)) (fun p hp => h2 p (by omega))
    unfold judB
    rw [ih, h1 n (by omega)]
    cases hj : judB f v n with
    | none => rfl
    | some b =>
      have := judB_lt hj
      dsimp only
      rw [h2 n (by omega), h2 b (by omega)]
theorem late_odd {t : Nat → Int32} {s n p : Nat} (hn : n ≤ 6) (hs : s < 64) (hp : p < n) : late (oddT t s n) 0 p = late t (nI s) p := by
  unfold late
  rw [oddT_at hp, oddT_ne (fun q _ => by omega), oddT_ne (fun q _ => by omega), if_neg (bit_0 (by omega)), Int32.add_zero]
  by_cases hb : s.testBit p = true
  · rw [if_pos hb, if_pos ((bit_tb s hs p (by omega)).mpr hb)]
    rw [Int32.add_assoc (t (8 + 5 * p)) 15, Int32.add_comm 15, ← Int32.add_assoc, Int32.add_assoc _ 15, Int32.add_comm 15, ← Int32.add_assoc]
  · rw [if_neg hb, if_neg (fun q => hb ((bit_tb s hs p (by omega)).mp q)), Int32.add_zero, Int32.add_zero]
theorem judg_odd {t : Nat → Int32} {s n m d : Nat} {c : Int32} (ok : Ok t n m d) (hs : s < 64) (hc : caseP m c) : judg (oddT t s n) 0 c = judg t (nI s) c := by
  have h6 := ok.n6
  have hm6 := ok.m6
  have e0 : oddT t s n 0 = t 0 := oddT_ne (fun q _ => by omega)
  unfold judg
  rw [e0, ok.clamp]
  refine judB_con (fun p hp => ?_) (fun p hp => late_odd h6 hs hp)
  congr 1
  unfold mayP
  rw [late_odd h6 hs hp, oddT_ne (fun q _ => by omega), oddT_ne (fun q _ => by omega), oddT_ne (fun q _ => by omega)]
theorem plc_odd {t : Nat → Int32} {s n : Nat} : plc (oddT t s n) = plc t := by
  unfold plc
  rw [oddT_ne (fun q _ => by omega), oddT_ne (fun q _ => by omega)]
section S55
variable {e : En} {G : Nat → Nat → Int64} {Q : Po}
theorem c_gcd {I : Nat → Nat → Int32} {a3 : Int32} {A B : Nat} (hA : A < 2 ^ 31) (hB : B < 2 ^ 31) (hQ : Q (.returned (some (.int (if a3 = 0 then nI (A / Nat.gcd A B) else nI (B / Nat.gcd A B))))) (mX e I G)) (hg : 0 < Nat.gcd A B) :
    ∀ N x y, y ≤ N → x < 2 ^ 31 → y < 2 ^ 31 → Nat.gcd x y = Nat.gcd A B → Rn 57 166 [none, none, none, some (.int a3), some (.int (nI A)), some (.int (nI B)), some (.int (nI x)), some (.int (nI y)), none] [] (0, 0) (mX e I G) Q := by
  have fin : ∀ x y, x < 2 ^ 31 → y = 0 → Nat.gcd x y = Nat.gcd A B → Rn 57 166 [none, none, none, some (.int a3), some (.int (nI A)), some (.int (nI B)), some (.int (nI x)), some (.int (nI y)), none] [] (0, 0) (mX e I G) Q := by
    intro x y hx hy hgc
    subst hy
    rw [Nat.gcd_zero_right] at hgc
    have hx0 : ¬ nI x = 0 := nI_ne0 (by omega) hx
    refine g_X0_odds_166 (fun _ _ => hx0) (fun _ h => ?_) (fun _ _ => hx0) (fun _ h => ?_) (fun h => absurd rfl h) (fun h => absurd rfl h)
    · rw [if_pos h, ← hgc] at hQ
      rw [pk_div hA (by omega) hx]; exact hQ
    · rw [if_neg h, ← hgc] at hQ
      rw [pk_div hB (by omega) hx]; exact hQ
  intro N
  induction N with
  | zero => intro x y hy hx _ hgc; exact fin x y hx (Nat.le_zero.mp hy) hgc
  | succ N ih =>
    intro x y hy hx hyb hgc
    by_cases h0 : y = 0
    · exact fin x y hx h0 hgc
    · have hy0 : ¬ nI y = 0 := nI_ne0 (by omega) hyb
      refine g_X0_odds_166 (fun h => absurd h hy0) (fun h => absurd h hy0) (fun h => absurd h hy0) (fun h => absurd h hy0) (fun _ => hy0) (fun _ => ?_)
      rw [pk_rem hx (by omega) hyb]
      have := Nat.mod_lt x (show y > 0 by omega)
      refine ih y (x % y) (by omega) hyb (by omega) ?_
      rw [← hgc, Nat.gcd_comm x y, Nat.gcd_rec y x, Nat.gcd_comm]
theorem m_gcd {I : Nat → Nat → Int32} {a3 : Int32} {A B : Nat} (hA : A < 2 ^ 31) (hB : B < 2 ^ 31) (hQ : Q (.returned (some (.int (if a3 = 0 then nI (A / Nat.gcd A B) else nI (B / Nat.gcd A B))))) (mX e I G)) (hg : 0 < Nat.gcd A B) :
    ∀ N x y, y ≤ N → x < 2 ^ 31 → y < 2 ^ 31 → Nat.gcd x y = Nat.gcd A B → Rn 150 189 [none, none, none, some (.int a3), some (.int (nI A)), some (.int (nI B)), some (.int (nI x)), some (.int (nI y)), none, none] [] (0, 0) (mX e I G) Q := by
  have fin : ∀ x y, x < 2 ^ 31 → y = 0 → Nat.gcd x y = Nat.gcd A B → Rn 150 189 [none, none, none, some (.int a3), some (.int (nI A)), some (.int (nI B)), some (.int (nI x)), some (.int (nI y)), none, none] [] (0, 0) (mX e I G) Q := by
    intro x y hx hy hgc
    subst hy
    rw [Nat.gcd_zero_right] at hgc
    have hx0 : ¬ nI x = 0 := nI_ne0 (by omega) hx
    refine g_X9_odds_189 (fun _ _ => hx0) (fun _ h => ?_) (fun _ _ => hx0) (fun _ h => ?_) (fun h => absurd rfl h) (fun h => absurd rfl h)
    · rw [if_pos h, ← hgc] at hQ
      rw [pk_div hA (by omega) hx]; exact hQ
    · rw [if_neg h, ← hgc] at hQ
      rw [pk_div hB (by omega) hx]; exact hQ
  intro N
  induction N with
  | zero => intro x y hy hx _ hgc; exact fin x y hx (Nat.le_zero.mp hy) hgc
  | succ N ih =>
    intro x y hy hx hyb hgc
    by_cases h0 : y = 0
    · exact fin x y hx h0 hgc
    · have hy0 : ¬ nI y = 0 := nI_ne0 (by omega) hyb
      refine g_X9_odds_189 (fun h => absurd h hy0) (fun h => absurd h hy0) (fun h => absurd h hy0) (fun h => absurd h hy0) (fun _ => hy0) (fun _ => ?_)
      rw [pk_rem hx (by omega) hyb]
      have := Nat.mod_lt x (show y > 0 by omega)
      refine ih y (x % y) (by omega) hyb (by omega) ?_
      rw [← hgc, Nat.gcd_comm x y, Nat.gcd_rec y x, Nat.gcd_comm]
theorem c_odds10 {I : Nat → Nat → Int32} {n m d : Nat} {a1 a2 a3 x4 : Int32} (ok : Ok (twn I 7) n m d) (hK : Rn 57 66 [some (.ref 0), some (.int a1), some (.int a2), some (.int a3), some (.int x4), some (.int (nI (10 ^ n))), some (.int 0), none, none] [] (0, 0) (mX e I G) Q) :
    ∀ j k, k + j = n → Rn 57 38 [some (.ref 0), some (.int a1), some (.int a2), some (.int a3), some (.int x4), some (.int (nI (10 ^ k))), some (.int (nI k)), none, none] [] (0, 0) (mX e I G) Q := by
  have h6 := ok.n6
  have hn : I 7 7 = nI n := ok.hn
  intro j
  induction j with
  | zero =>
    intro k hk
    have : k = n := by omega
    subst this
    exact g_X0_odds_38 (fun h => absurd (by rw [hn] at h; exact h) (nI_nlt (Nat.le_refl _) (by omega))) (fun _ => hK)
  | succ j ih =>
    intro k hk
    refine g_X0_odds_38 (fun _ => ?_) (fun h => absurd (by rw [hn]; exact nI_lt (by omega) (by omega)) h)
    rw [nI_1, show nI (10 ^ k) * 10 = nI (10 ^ (k + 1)) from by rw [show (10 : Int32) = nI 10 from rfl, nI_mul, Nat.pow_succ]]
    exact ih (k + 1) (by omega)
theorem c10 : ∀ c, c ≤ 10 → 10 - nI c = nI (10 - c) := by decide +kernel
theorem c_oddIn {I : Nat → Nat → Int32} {n m d c s : Nat} {a1 a3 x4 x5 : Int32} (ok : Ok (twn I 7) n m d) (hc : c ≤ 10) (hs : s < 64)
    (hK : Rn 34 0 [some (.ref 0), some (.int (cnwE I)), some (.int (nI s)), none, none, none] [] (0, 0) (mX e I G) (fun o X' => conF Rn 57 136 34 [some (.ref 0), some (.int a1), some (.int (nI c)), some (.int a3), none, some (.int x5), some (.int (nI s)), some (.int (nI (prt c s n))), none] [.int x4] (0, 0) X' Q o)) :
    ∀ j k, k + j = n → Rn 57 86 [some (.ref 0), some (.int a1), some (.int (nI c)), some (.int a3), some (.int x4), some (.int x5), some (.int (nI s)), some (.int (nI (prt c s k))), some (.int (nI k))] [] (0, 0) (mX e I G) Q := by
  have h6 := ok.n6
  have hn : I 7 7 = nI n := ok.hn
  intro j
  induction j with
  | zero =>
    intro k hk
    have : k = n := by omega
    subst this
    have no : ¬ nI k < I 7 7 := by rw [hn]; exact nI_nlt (Nat.le_refl _) (by omega)
    exact g_X0_odds_86 (fun h => absurd h no) (fun h => absurd h no) (fun _ => hK)
  | succ j ih =>
    intro k hk
    have ih2 := ih (k + 1) (by omega)
    have yes : nI k < I 7 7 := by rw [hn]; exact nI_lt (by omega) (by omega)
    have hb := bit_tb s hs k (by omega)
    refine g_X0_odds_86 (fun _ h => ?_) (fun _ h => ?_) (fun h => absurd yes h)
    · rw [prt, if_neg (fun q => h (hb.mpr q))] at ih2
      rw [c10 c hc, nI_mul, nI_1]; exact ih2
    · rw [prt, if_pos (hb.mp h)] at ih2
      rw [nI_mul, nI_1]; exact ih2
theorem noI_eq {o : Option Nat} {p : Nat} (hp : p < 64) (ho : ∀ b, o = some b → b < 64) : noI o = nI p ↔ o = some p := by
  cases o with
  | none => exact ⟨fun h => absurd h.symm (nI_m4 (by omega)), fun h => by cases h⟩
  | some b =>
    have := ho b rfl
    constructor
    · intro h; rw [(nI_eq (by omega) (by omega)).mp h]
    · intro h; cases h; rfl
theorem c_oddLoop {I : Nat → Nat → Int32} {n m d p c : Nat} {a3 : Int32} (ok : Ok (twn I 7) n m d) (hp : p < n) (hc : c ≤ 10)
    (hQ : Q (.returned (some (.int (if a3 = 0 then nI (abv (twn I 7) p c n (2 ^ n) / Nat.gcd (abv (twn I 7) p c n (2 ^ n)) (10 ^ n)) else nI (10 ^ n / Nat.gcd (abv (twn I 7) p c n (2 ^ n)) (10 ^ n)))))) (mX e I G)) :
    ∀ j s, s + j = 2 ^ n → Rn 57 66 [some (.ref 0), some (.int (nI p)), some (.int (nI c)), some (.int a3), some (.int (nI (abv (twn I 7) p c n s))), some (.int (nI (10 ^ n))), some (.int (nI s)), none, none] [] (0, 0) (mX e I G) Q := by
  have h6 := ok.n6
  obtain ⟨hs1, hs2⟩ := sh1 n h6
  have hn : I 7 7 = nI n := ok.hn
  have hp10 := p10 n h6
  intro j
  induction j with
  | zero =>
    intro s hs
    have : s = 2 ^ n := by omega
    subst this
    have hab := abv_le (t := twn I 7) (p := p) hc h6 (2 ^ n)
    refine g_X0_odds_66 (fun h => absurd (by rw [hn, hs1] at h; exact h) (nI_nlt (Nat.le_refl _) (by omega))) (fun _ => ?_)
    exact c_gcd (by omega) (by omega) hQ (Nat.gcd_pos_of_pos_right _ (by omega)) (10 ^ n) _ _ (Nat.le_refl _) (by omega) (by omega) rfl
  | succ j ih =>
    intro s hs
    have ih2 := ih (s + 1) (by omega)
    refine g_X0_odds_66 (fun _ => ?_) (fun h => absurd (by rw [hn, hs1]; exact nI_lt (by omega) (by omega)) h)
    refine c_oddIn ok hc (by omega) ?_ n 0 (by omega)
    rw [cnw_plc]
    refine c_judgeOf ok (ok_plc ok) ?_
    have hi := noI_eq (o := judg (twn I 7) (nI s) (plc (twn I 7))) (p := p) (by omega) (fun b hb => by have := judg_lt ok hb; omega)
    refine g_X0_odds_139 (fun h => ?_) (fun h => ?_)
    · rw [abv, if_pos (hi.mp h)] at ih2
      rw [nI_add, nI_1]; exact ih2
    · rw [abv, if_neg (fun q => h (hi.mpr q)), Nat.add_zero] at ih2
      rw [Int32.add_zero, nI_1]; exact ih2
theorem c_odds (a1 a2 a3 : Int32) : qC 57 [some (.ref 0), some (.int a1), some (.int a2), some (.int a3), none, none, none, none, none] (fun t => inl a1.toInt64 0 ((t 0 - 1).toInt64) ∧ inl a2.toInt64 0 10 ∧ inl a3.toInt64 0 1) (fun t => oddR t a1.toNatClampNeg a2.toNatClampNeg a3) := by
  intro e I G Q n m d ok hd hb hQ
  dsimp only at hb hQ
  have h6 := ok.n6
  refine g_X0_odds_0 (fun h => hb (fun q => h q.1)) (fun _ h => hb (fun q => h q.2.1)) (fun _ _ h => hb (fun q => h q.2.2)) (fun h1 h2 h3 => ?_)
  have hq := hQ ⟨h1, h2, h3⟩ I rfl frC.rf
  rw [show I 7 7 = nI n from ok.hn] at h1
  obtain ⟨p, hp, rfl⟩ := isP h6 h1
  obtain ⟨c, -, hc, rfl⟩ := inR (lo := 0) (hi := 10) h2
  unfold oddR at hq
  rw [ok.clamp, nI_clamp (by omega), nI_clamp (by omega)] at hq
  exact c_odds10 ok (c_oddLoop ok hp hc hq (2 ^ n) 0 (by omega)) n 0 (by omega)
theorem m_oddIn {n m d c s : Nat} {a1 a3 x4 x5 : Int32} {t : Nat → Int32} (ok : Ok t n m d) (hc : c ≤ 10) (hs : s < 64) : ∀ j k {I : Nat → Nat → Int32}, k + j = n → nw I = oddT t s k →
    (∀ I', nw I' = oddT t s n → fr 180 180 I I' → Rn 135 0 [some (.ref 179)] [] (0, 0) (mX e I' G) (fun o X' => conF Rn 150 155 135 [some (.ref 179), some (.int a1), some (.int (nI c)), some (.int a3), none, some (.int (x5 + nI (prt c s n))), some (.int (nI s)), some (.int (nI (prt c s n))), none, none] [.int x4] (0, 0) X' Q o)) →
    Rn 150 64 [some (.ref 179), some (.int a1), some (.int (nI c)), some (.int a3), some (.int x4), some (.int x5), some (.int (nI s)), some (.int (nI (prt c s k))), some (.int (nI k)), none] [] (0, 0) (mX e I G) Q := by
  have h6 := ok.n6
  intro j
  induction j with
  | zero =>
    intro k I hk ht hK
    have : k = n := by omega
    subst this
    have hn : I 180 0 = nI k := by rw [show I 180 0 = nw I 0 from rfl, ht, oddT_ne (fun q _ => by omega)]; exact ok.hn
    have no : ¬ nI k < I 180 0 := by rw [hn]; exact nI_nlt (Nat.le_refl _) (by omega)
    exact g_X9_odds_64 (fun h => absurd h no) (fun h => absurd h no) (fun h => absurd h no) (fun h => absurd h no) (fun _ => hK I ht fr.rf)
  | succ j ih =>
    intro k I hk ht hK
    have hn : I 180 0 = nI n := by rw [show I 180 0 = nw I 0 from rfl, ht, oddT_ne (fun q _ => by omega)]; exact ok.hn
    have yes : nI k < I 180 0 := by rw [hn]; exact nI_lt (by omega) (by omega)
    have hb := bit_tb s hs k (by omega)
    have hix : ((7 + 5 * nI k) + 1 : Int32).toNatClampNeg = 8 + 5 * k := by
      have := (ix7 k (by omega) 1 (by omega)).2
      rw [show 7 + 5 * k + 1 = 8 + 5 * k by omega] at this
      exact this
    have step : ∀ v, v = t (8 + 5 * k) + (if s.testBit k then 15 else 0) → Rn 150 64 [some (.ref 179), some (.int a1), some (.int (nI c)), some (.int a3), some (.int x4), some (.int x5), some (.int (nI s)), some (.int (nI (prt c s (k + 1)))), some (.int (nI (k + 1))), none] [] (0, 0) (mX e (up2 I 180 (8 + 5 * k) v) G) Q := by
      intro v hv
      refine ih (k + 1) (by omega) (by rw [nw_up (by omega), ht, hv, oddT_s]) fun I' t' f' => hK I' t' ((fr.rf.up (by omega) (by omega)).tr f')
    have ev : I 180 (8 + 5 * k) = t (8 + 5 * k) := by
      rw [show I 180 (8 + 5 * k) = nw I (8 + 5 * k) from (cut_at (by omega)).symm, ht, oddT_ne (fun q _ => by omega)]
    refine g_X9_odds_64 (fun _ _ => vi7 (w := 1) (by omega) (by omega)) (fun _ h => ?_) (fun _ _ => vi7 (w := 1) (by omega) (by omega)) (fun _ h => ?_) (fun h => absurd yes h)
    · rw [hix, ev]
      have := step (t (8 + 5 * k) + 15) (by rw [if_pos (hb.mp h)])
      rw [prt, if_pos (hb.mp h)] at this
      rw [nI_mul, nI_1]; exact this
    · rw [hix, ev]
      have := step (t (8 + 5 * k) + 0) (by rw [if_neg (fun q => h (hb.mpr q))])
      rw [prt, if_neg (fun q => h (hb.mpr q))] at this
      rw [c10 c hc, nI_mul, nI_1]; exact this
theorem m_oddLoop {n m d p c : Nat} {a3 : Int32} {t : Nat → Int32} (ok : Ok t n m d) (hw : ∀ p, p < n → ∃ k, k < 100 ∧ t (8 + 5 * p) = nI k) (hp : p < n) (hc : c ≤ 10) : ∀ j s {I : Nat → Nat → Int32}, s + j = 2 ^ n → nw I = t → cut (I 185) = t →
    (∀ I', nw I' = t → frM I I' → Q (.returned (some (.int (if a3 = 0 then nI (abv t p c n (2 ^ n) / Nat.gcd (abv t p c n (2 ^ n)) (10 ^ n)) else nI (10 ^ n / Nat.gcd (abv t p c n (2 ^ n)) (10 ^ n)))))) (mX e I' G)) →
    Rn 150 45 [some (.ref 179), some (.int (nI p)), some (.int (nI c)), some (.int a3), some (.int (nI (abv t p c n s))), some (.int (nI (blw c n s))), some (.int (nI s)), none, none, none] [] (0, 0) (mX e I G) Q := by
  have h6 := ok.n6
  obtain ⟨hs1, hs2⟩ := sh1 n h6
  have hp10 := p10 n h6
  intro j
  induction j with
  | zero =>
    intro s I hs ht h5 hQ
    have : s = 2 ^ n := by omega
    subst this
    have hn : I 180 0 = nI n := by rw [show I 180 0 = nw I 0 from rfl, ht]; exact ok.hn
    have hab := abv_le (t := t) (p := p) hc h6 (2 ^ n)
    refine g_X9_odds_45 (fun h => absurd (by rw [hn, hs1] at h; exact h) (nI_nlt (Nat.le_refl _) (by omega))) (fun _ => ?_)
    rw [blw_all c hc n h6]
    exact m_gcd (by omega) (by omega) (hQ I ht frM.rf) (Nat.gcd_pos_of_pos_right _ (by omega)) (10 ^ n) _ _ (Nat.le_refl _) (by omega) (by omega) rfl
  | succ j ih =>
    intro s I hs ht h5 hQ
    have hn : I 180 0 = nI n := by rw [show I 180 0 = nw I 0 from rfl, ht]; exact ok.hn
    refine g_X9_odds_45 (fun _ => ?_) (fun h => absurd (by rw [hn, hs1]; exact nI_lt (by omega) (by omega)) h)
    refine m_oddIn ok hc (by omega) n 0 (by omega) (by rw [oddT_0]; exact ht) fun I1 t1 f1 => ?_
    have e5 : cut (I1 185) = t := by rw [f1 185 (by omega)]; exact h5
    have ok1 : Ok (nw I1) n m d := by rw [t1]; exact oddT_ok ok hw
    refine m_judgeNow ok1 ?_
    rw [t1, plc_odd, judg_odd ok (by omega) (ok_plc ok)]
    have hi := noI_eq (o := judg t (nI s) (plc t)) (p := p) (by omega) (fun b hb => by have := judg_lt ok hb; omega)
    refine g_X9_odds_158 (fun h => ?_) (fun h => ?_)
    · refine m_backs fun I3 t3 f3 => g_X9_odds_175 ?_
      have ih2 := ih (s + 1) (by omega) (t3.trans e5) (by rw [f3 185 (by omega)]; exact e5) fun I2 t2 f2 => hQ I2 t2 ((f1.m.tr f3.m).tr f2)
      rw [abv, if_pos (hi.mp h), blw] at ih2
      rw [nI_add, nI_add, nI_1]; exact ih2
    · refine m_backs fun I3 t3 f3 => g_X9_odds_175 ?_
      have ih2 := ih (s + 1) (by omega) (t3.trans e5) (by rw [f3 185 (by omega)]; exact e5) fun I2 t2 f2 => hQ I2 t2 ((f1.m.tr f3.m).tr f2)
      rw [abv, if_neg (fun q => h (hi.mpr q)), Nat.add_zero, blw] at ih2
      rw [Int32.add_zero, nI_add, nI_1]; exact ih2
/-- ways are short -/
def Wy (t : Nat → Int32) (n : Nat) : Prop := ∀ p, p < n → ∃ k, k < 100 ∧ t (8 + 5 * p) = nI k
def qMw (y : Nat) (L : Lo) (v : (Nat → Int32) → Prop) (f : (Nat → Int32) → Int32) : Prop := ∀ {e : En} {I : Nat → Nat → Int32} {G : Nat → Nat → Int64} {Q : Po} {n m d : Nat}, Wy (nw I) n → Ok (nw I) n m d → d ≤ 9999 → (¬ v (nw I) → Q (.returned (some (.int (-1)))) (mX e I G)) → (v (nw I) → ∀ I', nw I' = nw I → frM I I' → Q (.returned (some (.int (f (nw I))))) (mX e I' G)) → Rn y 0 L [] (0, 0) (mX e I G) Q
theorem m_odds (a1 a2 a3 : Int32) : qMw 150 [some (.ref 179), some (.int a1), some (.int a2), some (.int a3), none, none, none, none, none, none] (fun t => inl a1.toInt64 0 ((t 0 - 1).toInt64) ∧ inl a2.toInt64 0 10 ∧ inl a3.toInt64 0 1) (fun t => oddR t a1.toNatClampNeg a2.toNatClampNeg a3) := by
  intro e I G Q n m d hw ok hd hb hQ
  dsimp only at hb hQ
  have h6 := ok.n6
  refine g_X9_odds_0 (fun h => hb (fun q => h q.1)) (fun _ h => hb (fun q => h q.2.1)) (fun _ _ h => hb (fun q => h q.2.2)) (fun h1 h2 h3 => ?_)
  have hQ := hQ ⟨h1, h2, h3⟩
  rw [show I 180 0 = nI n from ok.hn] at h1
  obtain ⟨p, hp, rfl⟩ := isP h6 h1
  obtain ⟨c, -, hc, rfl⟩ := inR (lo := 0) (hi := 10) h2
  unfold oddR at hQ
  rw [ok.clamp, nI_clamp (by omega), nI_clamp (by omega)] at hQ
  refine m_asides fun I1 t1 f1 => g_X9_odds_42 ?_
  have e1 : nw I1 = nw I := congrArg cut (f1 180 (by omega))
  exact m_oddLoop ok hw hp hc (2 ^ n) 0 (by omega) e1 t1 fun I' t' f' => hQ I' t' (f1.ma.tr f')
end S55
