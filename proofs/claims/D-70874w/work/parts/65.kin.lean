/-! people and cases stay in order; kin; type -/
theorem kinL_at {t : Nat → Int32} {p : Nat} {kn : Int32} {q : Nat} : ∀ {k}, q < k → kinL t p kn k (11 + 5 * q) = t (11 + 5 * q) ||| (((kn >>> (nI q &&& 31)) &&& 1) <<< (nI p &&& 31))
  | 0, h => by omega
  | k + 1, h => by
    unfold kinL
    by_cases hq : q = k
    · subst hq; rw [up1_at]
    · rw [up1_ne (by omega)]; exact kinL_at (by omega)
theorem sh0_6 : ∀ p, p < 6 → (0 : Int32) <<< (nI p &&& 31) = 0 := by decide +kernel
theorem bit_kn {kn : Int32} {q p r : Nat} (hp : p < 6) (hr : r < 32) : bit (((kn >>> (nI q &&& 31)) &&& 1) <<< (nI p &&& 31)) (nI r) ↔ bit kn (nI q) ∧ r = p := by
  by_cases hb : bit kn (nI q)
  · rw [show (kn >>> (nI q &&& 31)) &&& 1 = 1 from hb, bit_sh p hp r hr]
    exact ⟨fun h => ⟨hb, h.symm⟩, fun h => h.2.symm⟩
  · rw [show (kn >>> (nI q &&& 31)) &&& 1 = 0 from (and01 _).mpr hb, sh0_6 p hp]
    exact iff_of_false (bit_0 hr) (fun h => hb h.1)
theorem addP_ne {t : Nat → Int32} {p j : Nat} {k w l kn : Int32} (h : j < 7 + 5 * p ∨ 11 + 5 * p < j) : addP t p k w l kn j = t j := by
  unfold addP
  rw [up1_ne (by omega), up1_ne (by omega), up1_ne (by omega), up1_ne (by omega), up1_ne (by omega)]
theorem addP_at {t : Nat → Int32} {p : Nat} {k w l kn : Int32} : addP t p k w l kn (7 + 5 * p) = k ∧ addP t p k w l kn (8 + 5 * p) = w ∧ addP t p k w l kn (9 + 5 * p) = l ∧ addP t p k w l kn (11 + 5 * p) = kn := by
  unfold addP
  refine ⟨?_, ?_, ?_, up1_at⟩
  · rw [up1_ne (by omega), up1_ne (by omega), up1_ne (by omega), up1_ne (by omega), up1_at]
  · rw [up1_ne (by omega), up1_ne (by omega), up1_ne (by omega), up1_at]
  · rw [up1_ne (by omega), up1_ne (by omega), up1_at]
/-- a newcomer -/
def newP (t : Nat → Int32) (n : Nat) (k w l kn : Int32) : Nat → Int32 := up1 (kinL (addP t n k w l kn) n kn n) 0 (nI (n + 1))
theorem ok_newP {t : Nat → Int32} {n m d a b c : Nat} {kn : Int32} (ok : Ok t n m d) (hn : n < 6) (ha : a < 5) (hb : b < 200) (hc : c ≤ 60) (hk : ∀ q, q < 32 → bit kn (nI q) → q < n) : Ok (newP t n (nI a) (nI b) (nI c) kn) (n + 1) m d := by
  obtain ⟨h1, h2, h3, h4, h5, h6, h7, h8, h9, h10, h11, h12, h13, h14⟩ := ok
  have e0 : ∀ j, j ≠ 0 → (∀ q, q < n → j ≠ 11 + 5 * q) → newP t n (nI a) (nI b) (nI c) kn j = addP t n (nI a) (nI b) (nI c) kn j := fun j hj hq => by
    unfold newP
    rw [up1_ne hj, kinL_ne hq]
  have ek : ∀ q, q < n → newP t n (nI a) (nI b) (nI c) kn (11 + 5 * q) = t (11 + 5 * q) ||| (((kn >>> (nI q &&& 31)) &&& 1) <<< (nI n &&& 31)) := fun q hq => by
    unfold newP
    rw [up1_ne (by omega), kinL_at hq, addP_ne (by omega)]
  have en : newP t n (nI a) (nI b) (nI c) kn (11 + 5 * n) = kn := by
    rw [e0 _ (by omega) (fun q hq => by omega)]; exact addP_at.2.2.2
  refine ⟨by omega, h2, ?_, ?_, ?_, h6, ?_, ?_, ?_, ?_, ?_, ?_, ?_, ?_⟩
  · exact up1_at
  · rw [e0 1 (by omega) (fun q _ => by omega), addP_ne (by omega)]; exact h4
  · rw [e0 2 (by omega) (fun q _ => by omega), addP_ne (by omega)]; exact h5
  · intro p hp
    rw [e0 _ (by omega) (fun q _ => by omega)]
    by_cases hpn : p = n
    · subst hpn; rw [addP_at.1]; exact ⟨a, ha, rfl⟩
    · rw [addP_ne (by omega)]; exact h7 p (by omega)
  · intro p hp
    rw [e0 _ (by omega) (fun q _ => by omega)]
    by_cases hpn : p = n
    · subst hpn; rw [addP_at.2.1]; exact ⟨b, hb, rfl⟩
    · rw [addP_ne (by omega)]; exact h8 p (by omega)
  · intro p hp
    rw [e0 _ (by omega) (fun q _ => by omega)]
    by_cases hpn : p = n
    · subst hpn; rw [addP_at.2.2.1]; exact ⟨c, hc, rfl⟩
    · rw [addP_ne (by omega)]; exact h9 p (by omega)
  · intro p q hp hbt hq
    by_cases hpn : p = n
    · subst hpn
      rw [en] at hbt
      have := hk q hq hbt; omega
    · rw [ek p (by omega), bit_or hq, bit_kn hn hq] at hbt
      rcases hbt with w | w
      · have := h10 p q (by omega) w hq; omega
      · omega
  · intro p q hp hq
    by_cases hpn : p = n
    · by_cases hqn : q = n
      · rw [hpn, hqn]
      · subst hpn
        rw [en, ek q (by omega), bit_or (by omega), bit_kn hn (by omega)]
        constructor
        · intro w; exact Or.inr ⟨w, rfl⟩
        · rintro (w | w)
          · have := h10 q p (by omega) w (by omega); omega
          · exact w.1
    · by_cases hqn : q = n
      · subst hqn
        rw [en, ek p (by omega), bit_or (by omega), bit_kn hn (by omega)]
        constructor
        · rintro (w | w)
          · have := h10 p q (by omega) w (by omega); omega
          · exact w.1
        · intro w; exact Or.inr ⟨w, rfl⟩
      · rw [ek p (by omega), ek q (by omega), bit_or (by omega), bit_or (by omega), bit_kn hn (by omega), bit_kn hn (by omega), h11 p q (by omega) (by omega)]
        constructor
        · rintro (w | w)
          · exact Or.inl w
          · omega
        · rintro (w | w)
          · exact Or.inl w
          · omega
  · intro c hc
    rw [e0 _ (by omega) (fun q hq => by omega), addP_ne (by omega)]; exact h12 c hc
  · intro c hc
    rw [e0 _ (by omega) (fun q hq => by omega), addP_ne (by omega)]
    rcases h13 c hc with w | ⟨k, w1, w2⟩
    · exact Or.inl w
    · exact Or.inr ⟨k, by omega, w2⟩
  · rw [e0 6 (by omega) (fun q _ => by omega), addP_ne (by omega)]; exact h14
theorem wy_newP {t : Nat → Int32} {n b : Nat} {k l kn : Int32} (h : Wy t n) (hb : b < 100) : Wy (newP t n k (nI b) l kn) (n + 1) := by
  intro p hp
  unfold newP
  rw [up1_ne (by omega), kinL_ne (fun q _ => by omega)]
  by_cases hpn : p = n
  · subst hpn; rw [addP_at.2.1]; exact ⟨b, hb, rfl⟩
  · rw [addP_ne (by omega)]; exact h p (by omega)
theorem k_person (a1 a2 : Int32) : oK (persF a1 a2) := by
  intro σ h
  unfold persF
  by_cases hv : inl a1.toInt64 0 4 ∧ inl a2.toInt64 1 99
  · rw [if_pos hv]
    by_cases h6 : σ.1 0 = 6
    · rw [if_pos h6]; exact h
    · rw [if_neg h6]
      obtain ⟨⟨n, m, d, ok, hd, hw, hu⟩, h2⟩ := h
      obtain ⟨a, -, ha, rfl⟩ := inR (lo := 0) (hi := 4) hv.1
      obtain ⟨b, hb1, hb, rfl⟩ := inR (lo := 1) (hi := 99) hv.2
      have hn6 := ok.n6
      have hn : n < 6 := by
        rcases Nat.lt_or_ge n 6 with q | q
        · exact q
        · exact absurd (by rw [ok.hn, show n = 6 by omega]; rfl) h6
      have e1 : up1 (addP σ.1 (σ.1 0).toNatClampNeg (nI a) (nI b) 0 0) 0 (σ.1 0 + 1) = newP σ.1 n (nI a) (nI b) (nI 0) 0 := by
        unfold newP
        rw [kinL_0 hn (by omega), ok.clamp, ok.hn, nI_1]
        rfl
      dsimp only
      rw [e1]
      exact ⟨⟨n + 1, m, d, ok_newP ok hn (by omega) (by omega) (by omega) (fun q hq w => absurd w (bit_0 hq)), hd, wy_newP hw (by omega), Nat.zero_le _, fun k hk => absurd hk (Nat.not_lt_zero _)⟩, h2⟩
  · rw [if_neg hv]; exact h
/-- a new case -/
def newC (t : Nat → Int32) (m : Nat) (a b : Int32) : Nat → Int32 := up1 (up1 (up1 t (37 + 2 * m) a) (38 + 2 * m) b) 1 (nI (m + 1))
theorem ok_newC {t : Nat → Int32} {n m d a : Nat} {b : Int32} (ok : Ok t n m d) (hm : m < 6) (ha : a ≤ 20) (hb : b = -4 ∨ ∃ k, k < n ∧ b = nI k) : Ok (newC t m (nI a) b) n (m + 1) d := by
  obtain ⟨h1, h2, h3, h4, h5, h6, h7, h8, h9, h10, h11, h12, h13, h14⟩ := ok
  have e : ∀ j, j ≠ 1 → j ≠ 37 + 2 * m → j ≠ 38 + 2 * m → newC t m (nI a) b j = t j := fun j q1 q2 q3 => by
    unfold newC; rw [up1_ne q1, up1_ne q3, up1_ne q2]
  refine ⟨h1, by omega, ?_, ?_, ?_, h6, ?_, ?_, ?_, ?_, ?_, ?_, ?_, ?_⟩
  · rw [e 0 (by omega) (by omega) (by omega)]; exact h3
  · exact up1_at
  · rw [e 2 (by omega) (by omega) (by omega)]; exact h5
  · intro p hp; rw [e _ (by omega) (by omega) (by omega)]; exact h7 p hp
  · intro p hp; rw [e _ (by omega) (by omega) (by omega)]; exact h8 p hp
  · intro p hp; rw [e _ (by omega) (by omega) (by omega)]; exact h9 p hp
  · intro p q hp; rw [e _ (by omega) (by omega) (by omega)]; exact h10 p q hp
  · intro p q hp hq; rw [e _ (by omega) (by omega) (by omega), e _ (by omega) (by omega) (by omega)]; exact h11 p q hp hq
  · intro c hc
    by_cases hcm : c = m
    · subst hcm; unfold newC; rw [up1_ne (by omega), up1_ne (by omega), up1_at]; exact ⟨a, ha, rfl⟩
    · rw [e _ (by omega) (by omega) (by omega)]; exact h12 c (by omega)
  · intro c hc
    by_cases hcm : c = m
    · subst hcm; unfold newC; rw [up1_ne (by omega), up1_at]; exact hb
    · rw [e _ (by omega) (by omega) (by omega)]; exact h13 c (by omega)
  · rw [e 6 (by omega) (by omega) (by omega)]; exact h14
theorem wy_newC {t : Nat → Int32} {n m : Nat} {a b : Int32} (hn : n ≤ 6) (h : Wy t n) : Wy (newC t m a b) n := by
  intro p hp
  unfold newC
  rw [up1_ne (by omega), up1_ne (by omega), up1_ne (by omega)]; exact h p hp
theorem k_newCase (a1 a2 : Int32) : oK (caseF a1 a2) := by
  intro σ h
  unfold caseF
  by_cases hv : inl a1.toInt64 0 20 ∧ (a2 = -4 ∨ inl a2.toInt64 0 ((σ.1 0 - 1).toInt64))
  · rw [if_pos hv]
    by_cases h6 : σ.1 1 = 6
    · rw [if_pos h6]; exact h
    · rw [if_neg h6]
      obtain ⟨⟨n, m, d, ok, hd, hw, hu⟩, h2⟩ := h
      obtain ⟨a, -, ha, rfl⟩ := inR (lo := 0) (hi := 20) hv.1
      have hn6 := ok.n6
      have hm6 := ok.m6
      have hm : m < 6 := by
        rcases Nat.lt_or_ge m 6 with q | q
        · exact q
        · exact absurd (by rw [ok.hm, show m = 6 by omega]; rfl) h6
      have hb : a2 = -4 ∨ ∃ k, k < n ∧ a2 = nI k := by
        rcases hv.2 with q | q
        · exact Or.inl q
        · rw [ok.hn] at q; exact Or.inr (isP hn6 q)
      dsimp only
      rw [ok.hm, nI_clamp (by omega), nI_1]
      exact ⟨⟨n, m + 1, d, ok_newC ok hm ha hb, hd, wy_newC hn6 hw, Nat.zero_le _, fun k hk => absurd hk (Nat.not_lt_zero _)⟩, h2⟩
  · rw [if_neg hv]; exact h
/-! kin -/
theorem bext {x y : Int32} (h : ∀ q, q < 32 → (bit x (nI q) ↔ bit y (nI q))) : x = y := by
  apply Int32.toBitVec_inj.mp
  apply BitVec.eq_of_getLsbD_eq
  intro i hi
  have := h i hi
  rw [bit_get hi, bit_get hi] at this
  rw [Bool.eq_iff_iff]
  exact this
theorem bit_and {v w : Int32} {q : Nat} (h : q < 32) : bit (v &&& w) (nI q) ↔ bit v (nI q) ∧ bit w (nI q) := by
  rw [bit_get h, bit_get h, bit_get h]
  show (v.toBitVec &&& w.toBitVec).getLsbD q = true ↔ _
  rw [BitVec.getLsbD_and, Bool.and_eq_true]
theorem bit_xor {v w : Int32} {q : Nat} (h : q < 32) : bit (v ^^^ w) (nI q) ↔ ¬ (bit v (nI q) ↔ bit w (nI q)) := by
  rw [bit_get h, bit_get h, bit_get h]
  show (v.toBitVec ^^^ w.toBitVec).getLsbD q = true ↔ _
  rw [BitVec.getLsbD_xor]
  cases v.toBitVec.getLsbD q <;> cases w.toBitVec.getLsbD q <;> decide
theorem bit_m1 : ∀ q, q < 32 → bit (-1) (nI q) := by decide +kernel
theorem bit_not {v : Int32} {q : Nat} (h : q < 32) : bit (v ^^^ (-1)) (nI q) ↔ ¬ bit v (nI q) := by
  rw [bit_xor h]
  constructor
  · intro w b; exact w ⟨fun _ => bit_m1 q h, fun _ => b⟩
  · intro w b; exact w (b.mpr (bit_m1 q h))
theorem kin_1 {x : Int32} {o : Nat} (ho : o < 6) : (bit x (nI o) → x ||| (1 <<< (nI o &&& 31)) = x) ∧ (¬ bit x (nI o) → x &&& ((1 <<< (nI o &&& 31)) ^^^ (-1)) = x) ∧ (¬ bit x (nI o) → x ^^^ (1 <<< (nI o &&& 31)) = x ||| (1 <<< (nI o &&& 31))) ∧ (bit x (nI o) → x ^^^ (1 <<< (nI o &&& 31)) = x &&& ((1 <<< (nI o &&& 31)) ^^^ (-1))) := by
  refine ⟨fun h => bext fun q hq => ?_, fun h => bext fun q hq => ?_, fun h => bext fun q hq => ?_, fun h => bext fun q hq => ?_⟩
  · rw [bit_or hq, bit_sh o ho q hq]
    exact ⟨fun w => w.elim id (fun e => e ▸ h), Or.inl⟩
  · rw [bit_and hq, bit_not hq, bit_sh o ho q hq]
    exact ⟨fun w => w.1, fun w => ⟨w, fun e => h (e ▸ w)⟩⟩
  · rw [bit_xor hq, bit_or hq, bit_sh o ho q hq]
    constructor
    · intro w
      by_cases b : bit x (nI q)
      · exact Or.inl b
      · right
        by_cases e : o = q
        · exact e
        · exact absurd ⟨fun z => absurd z b, fun z => absurd z e⟩ w
    · rintro (w | w) z
      · have := z.mp w
        subst this
        exact h w
      · exact h (w ▸ z.mpr w)
  · rw [bit_xor hq, bit_and hq, bit_not hq, bit_sh o ho q hq]
    constructor
    · intro w
      by_cases b : bit x (nI q)
      · exact ⟨b, fun e => w ⟨fun _ => e, fun _ => b⟩⟩
      · exfalso
        exact w ⟨fun z => absurd z b, fun z => absurd (z ▸ h) b⟩
    · rintro ⟨w1, w2⟩ z
      exact w2 (z.mp w1)
/-- two are kin, or not -/
def kinT (t : Nat → Int32) (p o : Nat) (a3 : Int32) : Nat → Int32 := if a3 = 1 then up1 (up1 t (11 + 5 * p) (t (11 + 5 * p) ||| (1 <<< (nI o &&& 31)))) (11 + 5 * o) (t (11 + 5 * o) ||| (1 <<< (nI p &&& 31)))
  else up1 (up1 t (11 + 5 * p) (t (11 + 5 * p) &&& ((1 <<< (nI o &&& 31)) ^^^ (-1)))) (11 + 5 * o) (t (11 + 5 * o) &&& ((1 <<< (nI p &&& 31)) ^^^ (-1)))
noncomputable def kinF (a1 a2 a3 : Int32) (σ : Sg) : Int32 × Sg := @ite _ (twoP (σ.1 0) a1 a2 ∧ inl a3.toInt64 0 1) (Classical.propDecidable _)
  ((σ.1 (11 + 5 * a1.toNatClampNeg) >>> (a2 &&& 31)) &&& 1, (kinT σ.1 a1.toNatClampNeg a2.toNatClampNeg a3, σ.2)) (-1, σ)
section S65
variable {e : En} {G : Nat → Nat → Int64} {Q : Po}
theorem c_kin (a1 a2 a3 : Int32) : oC 5 [some (.ref 0), some (.int a1), some (.int a2), some (.int a3), none] (kinF a1 a2 a3) := by
  intro e I G Q σ hC hO hQ
  obtain ⟨⟨n, m, d, ok, hd, -⟩, -⟩ := hO
  have h7 : twn I 7 = σ.1 := hC.2.1
  have h6 := ok.n6
  have e0 : I 7 7 = σ.1 0 := by rw [← h7]; rfl
  unfold kinF at hQ
  have key : twoP (I 7 7) a1 a2 → inl a3.toInt64 0 1 → ∃ p o, p < n ∧ o < n ∧ p ≠ o ∧ a1 = nI p ∧ a2 = nI o ∧ ∀ e' I' G', CR (kinT σ.1 p o a3, σ.2) e' I' G' → keepC e I G e' I' G' → Q (.returned (some (.int ((σ.1 (11 + 5 * p) >>> (nI o &&& 31)) &&& 1)))) (mX e' I' G') := by
    intro h1 h2
    rw [e0] at h1
    rw [if_pos ⟨h1, h2⟩] at hQ
    rw [ok.hn] at h1
    obtain ⟨p, hp, rfl⟩ := isP h6 h1.1
    obtain ⟨o, ho, rfl⟩ := isP h6 h1.2.1
    rw [nI_clamp (by omega), nI_clamp (by omega)] at hQ
    exact ⟨p, o, hp, ho, fun q => h1.2.2 (by rw [q]), rfl, rfl, hQ⟩
  refine g_X0_kin_0 (fun h => ?_) (fun h1 h => ?_) ?_ ?_ ?_ ?_ ?_
  · rw [if_neg (fun q => h (by rw [e0]; exact q.1))] at hQ; exact hQ e I G hC keepC.rf
  · rw [if_neg (fun q => h q.2)] at hQ; exact hQ e I G hC keepC.rf
  all_goals intro h1 h2
  all_goals obtain ⟨p, o, hp, ho, hpo, rfl, rfl, hR⟩ := key h1 h2
  · exact vp_in_nI (by omega) (by omega)
  · intro h3
    refine g_X6_join_7_0 (vp_in_nI (by omega) (by omega)) (vp_in_nI (by omega) (by omega)) (g_X0_kin_50 ?_)
    rw [nI_clamp (by omega), nI_clamp (by omega), up2_i (fun q => hpo q.symm)]
    have k1 : I 10 p = σ.1 (11 + 5 * p) := by rw [← h7]; exact ((twn_k I 7 p (by omega)).2.2.2.2).symm
    have k2 : I 10 o = σ.1 (11 + 5 * o) := by rw [← h7]; exact ((twn_k I 7 o (by omega)).2.2.2.2).symm
    rw [k1, k2]
    refine hR e _ G (hC.town ?_ ?_) ?_
    rotate_left
    · exact (fr.rf.up (by omega) (by omega)).up (by omega) (by omega)
    · exact ((fr.rf.up (a := 7) (b := 14) (by omega) (by omega)).up (by omega) (by omega)).kC (by omega)
    rw [(twn_upk (show o < 6 by omega)).2.2.2.2 rfl, (twn_upk (show p < 6 by omega)).2.2.2.2 rfl, h7]
    unfold kinT
    rw [if_pos h3]
  · intro _; exact vp_in_nI (by omega) (by omega)
  · intro _; exact vp_in_nI (by omega) (by omega)
  · intro h3
    rw [nI_clamp (by omega), nI_clamp (by omega), up2_i (fun q => hpo q.symm)]
    have k1 : I 10 p = σ.1 (11 + 5 * p) := by rw [← h7]; exact ((twn_k I 7 p (by omega)).2.2.2.2).symm
    have k2 : I 10 o = σ.1 (11 + 5 * o) := by rw [← h7]; exact ((twn_k I 7 o (by omega)).2.2.2.2).symm
    rw [k1, k2]
    refine hR e _ G (hC.town ?_ ?_) ?_
    rotate_left
    · exact (fr.rf.up (by omega) (by omega)).up (by omega) (by omega)
    · exact ((fr.rf.up (a := 7) (b := 14) (by omega) (by omega)).up (by omega) (by omega)).kC (by omega)
    rw [(twn_upk (show o < 6 by omega)).2.2.2.2 rfl, (twn_upk (show p < 6 by omega)).2.2.2.2 rfl, h7]
    unfold kinT
    rw [if_neg h3]
theorem m_kin (a1 a2 a3 : Int32) : oM 101 [some (.ref 179), some (.int a1), some (.int a2), some (.int a3), none] (kinF a1 a2 a3) := by
  intro e I G Q σ hC hO hQ
  obtain ⟨⟨n, m, d, ok, hd, -⟩, -⟩ := hO
  have h7 : nw I = σ.1 := hC.2.1
  have h6 := ok.n6
  have e0 : I 180 0 = σ.1 0 := by rw [← h7]; rfl
  unfold kinF at hQ
  have bad : ¬ (twoP (I 180 0) a1 a2 ∧ inl a3.toInt64 0 1) → Q (.returned (some (.int (-1)))) (mX e I G) := by
    intro h
    rw [e0] at h
    rw [if_neg h] at hQ; exact hQ I G hC keepM.rf
  have key : twoP (I 180 0) a1 a2 → inl a3.toInt64 0 1 → ∃ p o, p < n ∧ o < n ∧ p ≠ o ∧ a1 = nI p ∧ a2 = nI o ∧ ∀ I' G', MR (kinT σ.1 p o a3, σ.2) I' G' → keepM I G I' G' → Q (.returned (some (.int ((σ.1 (11 + 5 * p) >>> (nI o &&& 31)) &&& 1)))) (mX e I' G') := by
    intro h1 h2
    rw [e0] at h1
    rw [if_pos ⟨h1, h2⟩] at hQ
    rw [ok.hn] at h1
    obtain ⟨p, hp, rfl⟩ := isP h6 h1.1
    obtain ⟨o, ho, rfl⟩ := isP h6 h1.2.1
    rw [nI_clamp (by omega), nI_clamp (by omega)] at hQ
    exact ⟨p, o, hp, ho, fun q => h1.2.2 (by rw [q]), rfl, rfl, hQ⟩
  refine g_X9_kin_0 (fun h => bad (fun q => h q.1.1)) (fun _ h => bad (fun q => h q.1.2.1)) (fun _ _ h => bad (fun q => q.1.2.2 h)) (fun _ _ _ h => bad (fun q => h q.2)) ?_ ?_ ?_ ?_ ?_
  all_goals intro h1 h2 h3 h4
  all_goals obtain ⟨p, o, hp, ho, hpo, rfl, rfl, hR⟩ := key ⟨h1, h2, h3⟩ h4
  · exact vi7 (w := 4) (by omega) (by omega)
  · intro h5
    rw [tol_4 (by omega), h7] at h5 ⊢
    have ht : kinT σ.1 p o a3 = σ.1 := by
      unfold kinT
      by_cases h9 : a3 = 1
      · rw [if_pos h9]
        have hb : bit (σ.1 (11 + 5 * p)) (nI o) := by rw [h9] at h5; exact h5
        rw [(kin_1 (show o < 6 by omega)).1 hb, up1_same, (kin_1 (show p < 6 by omega)).1 ((ok.sym p o hp ho).mp hb), up1_same]
      · rw [if_neg h9]
        have hb : ¬ bit (σ.1 (11 + 5 * p)) (nI o) := fun q => h9 (h5.symm.trans q)
        rw [(kin_1 (show o < 6 by omega)).2.1 hb, up1_same, (kin_1 (show p < 6 by omega)).2.1 (fun q => hb ((ok.sym p o hp ho).mpr q)), up1_same]
    rw [ht] at hR
    exact hR I G hC keepM.rf
  · intro _; exact vi7 (w := 4) (by omega) (by omega)
  · intro _; exact vi7 (w := 4) (by omega) (by omega)
  · intro h5
    rw [tol_4 (by omega), h7] at h5 ⊢
    rw [(ixw (show p < 6 by omega)).2.2.2, (ixw (show o < 6 by omega)).2.2.2, up2_i (show 11 + 5 * o ≠ 11 + 5 * p by omega)]
    have k1 : I 180 (11 + 5 * p) = σ.1 (11 + 5 * p) := by rw [← h7]; exact (cut_at (by omega)).symm
    have k2 : I 180 (11 + 5 * o) = σ.1 (11 + 5 * o) := by rw [← h7]; exact (cut_at (by omega)).symm
    rw [k1, k2]
    refine hR _ G (hC.town ?_ ?_) ?_
    rotate_left
    · exact (fr.rf.up (by omega) (by omega)).up (by omega) (by omega)
    · exact ((fr.rf.up (a := 180) (b := 180) (by omega) (by omega)).up (by omega) (by omega)).kM (by omega) (by omega)
    rw [nw_up (by omega), nw_up (by omega), h7]
    unfold kinT
    obtain ⟨w, -, hw, rfl⟩ := inR (lo := 0) (hi := 1) h4
    by_cases h9 : nI w = 1
    · rw [if_pos h9]
      have hb : ¬ bit (σ.1 (11 + 5 * p)) (nI o) := fun q => h5 (q.trans h9.symm)
      rw [(kin_1 (show o < 6 by omega)).2.2.1 hb, (kin_1 (show p < 6 by omega)).2.2.1 (fun q => hb ((ok.sym p o hp ho).mpr q))]
    · rw [if_neg h9]
      have w0 : w = 0 := by
        rcases (show w = 0 ∨ w = 1 by omega) with q | q
        · exact q
        · exact absurd (by rw [q]; rfl) h9
      subst w0
      have hb : bit (σ.1 (11 + 5 * p)) (nI o) := Classical.byContradiction fun q => h5 ((and01 _).mpr q)
      rw [(kin_1 (show o < 6 by omega)).2.2.2 hb, (kin_1 (show p < 6 by omega)).2.2.2 ((ok.sym p o hp ho).mp hb)]
theorem k_kin (a1 a2 a3 : Int32) : oK (kinF a1 a2 a3) := by
  intro σ h
  unfold kinF
  by_cases hv : twoP (σ.1 0) a1 a2 ∧ inl a3.toInt64 0 1
  · rw [if_pos hv]
    obtain ⟨⟨n, m, d, ok, hd, hw, hu⟩, h2⟩ := h
    have h6 := ok.n6
    obtain ⟨h1, h3⟩ := hv
    rw [ok.hn] at h1
    obtain ⟨p, hp, rfl⟩ := isP h6 h1.1
    obtain ⟨o, ho, rfl⟩ := isP h6 h1.2.1
    have hpo : p ≠ o := fun q => h1.2.2 (by rw [q])
    dsimp only
    rw [nI_clamp (by omega), nI_clamp (by omega)]
    -- what a bit of it is
    have ne : ∀ j, j ≠ 11 + 5 * p → j ≠ 11 + 5 * o → kinT σ.1 p o a3 j = σ.1 j := fun j q1 q2 => by
      unfold kinT
      split <;> rw [up1_ne q2, up1_ne q1]
    have bt : ∀ x y, x < n → y < 32 → (bit (kinT σ.1 p o a3 (11 + 5 * x)) (nI y) ↔ (if (x = p ∧ y = o) ∨ (x = o ∧ y = p) then a3 = 1 else bit (σ.1 (11 + 5 * x)) (nI y))) := by
      intro x y hx hy
      unfold kinT
      by_cases h9 : a3 = 1
      · rw [if_pos h9]
        by_cases hxo : x = o
        · subst hxo
          rw [up1_at, bit_or hy, bit_sh p (by omega) y hy]
          by_cases hyp : y = p
          · rw [if_pos (Or.inr ⟨rfl, hyp⟩)]; exact iff_of_true (Or.inr hyp.symm) h9
          · rw [if_neg (by omega)]
            exact ⟨fun w => w.elim id (fun w => absurd w.symm hyp), Or.inl⟩
        · rw [up1_ne (by omega)]
          by_cases hxp : x = p
          · subst hxp
            rw [up1_at, bit_or hy, bit_sh o (by omega) y hy]
            by_cases hyp : y = o
            · rw [if_pos (Or.inl ⟨rfl, hyp⟩)]; exact iff_of_true (Or.inr hyp.symm) h9
            · rw [if_neg (by omega)]
              exact ⟨fun w => w.elim id (fun w => absurd w.symm hyp), Or.inl⟩
          · rw [up1_ne (by omega), if_neg (by omega)]
      · rw [if_neg h9]
        by_cases hxo : x = o
        · subst hxo
          rw [up1_at, bit_and hy, bit_not hy, bit_sh p (by omega) y hy]
          by_cases hyp : y = p
          · rw [if_pos (Or.inr ⟨rfl, hyp⟩)]; exact iff_of_false (fun w => w.2 hyp.symm) h9
          · rw [if_neg (by omega)]
            exact ⟨fun w => w.1, fun w => ⟨w, fun z => hyp z.symm⟩⟩
        · rw [up1_ne (by omega)]
          by_cases hxp : x = p
          · subst hxp
            rw [up1_at, bit_and hy, bit_not hy, bit_sh o (by omega) y hy]
            by_cases hyp : y = o
            · rw [if_pos (Or.inl ⟨rfl, hyp⟩)]; exact iff_of_false (fun w => w.2 hyp.symm) h9
            · rw [if_neg (by omega)]
              exact ⟨fun w => w.1, fun w => ⟨w, fun z => hyp z.symm⟩⟩
          · rw [up1_ne (by omega), if_neg (by omega)]
    refine ⟨⟨n, m, d, ?_, hd, fun q hq => ?_, hu⟩, h2⟩
    · show Ok (kinT σ.1 p o a3) n m d
      obtain ⟨h1, h2, h3, h4, h5, h6, h7, h8, h9, h10, h11, h12, h13, h14⟩ := ok
      refine ⟨h1, h2, ?_, ?_, ?_, h6, ?_, ?_, ?_, ?_, ?_, ?_, ?_, ?_⟩
      · rw [ne 0 (by omega) (by omega)]; exact h3
      · rw [ne 1 (by omega) (by omega)]; exact h4
      · rw [ne 2 (by omega) (by omega)]; exact h5
      · intro p hp; rw [ne _ (by omega) (by omega)]; exact h7 p hp
      · intro p hp; rw [ne _ (by omega) (by omega)]; exact h8 p hp
      · intro p hp; rw [ne _ (by omega) (by omega)]; exact h9 p hp
      · intro x y hx hb hy
        rw [bt x y hx hy] at hb
        by_cases hc : (x = p ∧ y = o) ∨ (x = o ∧ y = p)
        · omega
        · rw [if_neg hc] at hb; exact h10 x y hx hb hy
      · intro x y hx hy
        rw [bt x y hx (by omega), bt y x hy (by omega)]
        by_cases hc : (x = p ∧ y = o) ∨ (x = o ∧ y = p)
        · rw [if_pos hc, if_pos (by omega)]
        · rw [if_neg hc, if_neg (by omega)]; exact h11 x y hx hy
      · intro c hc; rw [ne _ (by omega) (by omega)]; exact h12 c hc
      · intro c hc; rw [ne _ (by omega) (by omega)]; exact h13 c hc
      · rw [ne 6 (by omega) (by omega)]; exact h14
    · show ∃ k, k < 100 ∧ kinT σ.1 p o a3 (8 + 5 * q) = nI k
      rw [ne _ (by omega) (by omega)]; exact hw q hq
  · rw [if_neg hv]; exact h
/-! type -/
noncomputable def typeF (a1 : Int32) (σ : Sg) : Int32 × Sg := @ite _ (inl a1.toInt64 32 126) (Classical.propDecidable _)
  (if σ.2.2.1.1 = 120 then (-3, σ) else (nI (σ.2.2.1.1 + 1), (σ.1, σ.2.1, (σ.2.2.1.1 + 1, fun i => if i = σ.2.2.1.1 then a1 else σ.2.2.1.2 i), σ.2.2.2))) (-1, σ)
theorem chr_n : ∀ c, c ≤ 126 → nrw 2 (((nI c).toUInt32 % 65536).toInt32) = nI c := by decide +kernel
theorem c_type (a1 : Int32) : oC 12 [some (.ref 0), some (.int a1)] (typeF a1) := by
  intro e I G Q σ hC hO hQ
  obtain ⟨-, ⟨hq, -⟩, -⟩ := hO
  have h4 : I 0 4 = nI σ.2.2.1.1 := hC.2.2.1.1
  unfold typeF at hQ
  have ne : ¬ I 0 4 = 120 → σ.2.2.1.1 < 120 := fun h => by
    rcases Nat.lt_or_ge σ.2.2.1.1 120 with q | q
    · exact q
    · exact absurd (by rw [h4, show σ.2.2.1.1 = 120 by omega]; rfl) h
  refine g_X0_type_0 (fun h => ?_) (fun h1 h => ?_) (fun h1 h => ?_) (fun h1 h => ?_)
  · rw [if_neg h] at hQ; exact hQ e I G hC keepC.rf
  · rw [if_pos h1, if_pos ((nI_eq (b := 120) (by omega) (by omega)).mp (h4.symm.trans h))] at hQ; exact hQ e I G hC keepC.rf
  · rw [h4]; exact vp_in_nI (ne h) (by omega)
  · have hlt := ne h
    rw [if_pos h1, if_neg (by omega)] at hQ
    obtain ⟨c, hc1, hc2, rfl⟩ := inR (lo := 32) (hi := 126) h1
    rw [h4, nI_clamp (by omega), chr_n c hc2, nI_1]
    refine hQ e _ G ?_ ⟨rfl, fun k a b => ⟨by rw [up2_ne (by omega), up2_ne (by omega)], rfl⟩⟩
    obtain ⟨⟨π, a⟩, b, c1, ⟨d1, d2⟩, g⟩ := hC
    refine ⟨⟨π, cUn_con a (by rw [up2_i (by omega), up2_ne (by omega)]) (fun k ⟨q, a1, a2, a3⟩ => by rw [up2_ne (by omega), up2_ne (by omega)])⟩, by rw [twn_ne (by omega), twn_ne (by omega)]; exact b, ⟨up2_v, fun i hi => ?_⟩, ⟨?_, fun hkp => ?_⟩, shC_con g (fun k hk => by rw [up2_ne (by omega), up2_ne (by omega)]) (fun _ _ => rfl)⟩
    · rw [up2_ne (by omega)]
      dsimp only at hi ⊢
      by_cases hi2 : i = σ.2.2.1.1
      · rw [if_pos hi2, hi2, up2_v]
      · rw [if_neg hi2, up2_i hi2]; exact c1.2 i (by omega)
    · rw [up2_i (by omega), up2_ne (by omega)]; exact d1
    · obtain ⟨e1, e2, e3, e4⟩ := d2 hkp
      refine ⟨by rw [twn_ne (by omega), twn_ne (by omega)]; exact e1, by rw [up2_i (by omega), up2_ne (by omega)]; exact e2, e3, fun k hk2 => ?_⟩
      rw [twn_ne (by omega), twn_ne (by omega)]; exact e4 k hk2
theorem m_type (a1 : Int32) : oM 113 [some (.ref 179), some (.int a1)] (typeF a1) := by
  intro e I G Q σ hC hO hQ
  obtain ⟨-, ⟨hq, -⟩, -⟩ := hO
  have h4 : I 179 2 = nI σ.2.2.1.1 := hC.2.2.1.1
  unfold typeF at hQ
  have ne : ¬ I 179 2 = 120 → σ.2.2.1.1 < 120 := fun h => by
    rcases Nat.lt_or_ge σ.2.2.1.1 120 with q | q
    · exact q
    · exact absurd (by rw [h4, show σ.2.2.1.1 = 120 by omega]; rfl) h
  refine g_X9_type_0 (fun h => ?_) (fun h1 h => ?_) (fun h1 h => ?_) (fun h1 h => ?_)
  · rw [if_neg h] at hQ; exact hQ I G hC keepM.rf
  · rw [if_pos h1, if_pos ((nI_eq (b := 120) (by omega) (by omega)).mp (h4.symm.trans h))] at hQ; exact hQ I G hC keepM.rf
  · rw [h4]; exact vp_in_nI (ne h) (by omega)
  · have hlt := ne h
    rw [if_pos h1, if_neg (by omega)] at hQ
    rw [h4, nI_clamp (by omega), nI_1]
    refine hQ _ G ?_ (fun k hk => ⟨by rw [up2_ne (by omega), up2_ne (by omega)], rfl⟩)
    obtain ⟨⟨b1, b2, b3⟩, b, c1, ⟨d1, d2⟩, g⟩ := hC
    refine ⟨⟨by rw [up2_i (by omega), up2_ne (by omega)]; exact b1, b2, fun k hk => ?_⟩, by rw [nw_ne (by omega), nw_ne (by omega)]; exact b, ⟨up2_v, fun i hi => ?_⟩, ⟨?_, fun hkp => ?_⟩, fun s hs => ?_⟩
    · rw [← b3 k hk]; unfold mU; rw [up2_ne (by omega), up2_ne (by omega)]
    · rw [up2_ne (by omega)]
      dsimp only at hi ⊢
      by_cases hi2 : i = σ.2.2.1.1
      · rw [if_pos hi2, hi2, up2_v]
      · rw [if_neg hi2, up2_i hi2]; exact c1.2 i (by omega)
    · rw [up2_i (by omega), up2_ne (by omega)]; exact d1
    · obtain ⟨e1, e2, e3⟩ := d2 hkp
      refine ⟨by rw [up2_ne (by omega), up2_ne (by omega)]; exact e1, by rw [up2_i (by omega), up2_ne (by omega)]; exact e2, fun k hk => ?_⟩
      rw [← e3 k hk]; unfold kU; rw [up2_ne (by omega), up2_ne (by omega)]
    · rw [up2_ne (by omega), up2_ne (by omega), up2_ne (by omega), up2_ne (by omega)]; exact g s hs
theorem k_type (a1 : Int32) : oK (typeF a1) := by
  intro σ h
  unfold typeF
  by_cases hv : inl a1.toInt64 32 126
  · rw [if_pos hv]
    by_cases hq : σ.2.2.1.1 = 120
    · rw [if_pos hq]; exact h
    · rw [if_neg hq]
      obtain ⟨h1, ⟨h2, h3⟩, h4⟩ := h
      obtain ⟨c, hc1, hc2, rfl⟩ := inR (lo := 32) (hi := 126) hv
      refine ⟨h1, ⟨?_, fun i hi => ?_⟩, h4⟩
      · dsimp only; omega
      · dsimp only at hi ⊢
        by_cases hi2 : i = σ.2.2.1.1
        · rw [if_pos hi2]; exact ⟨c, hc1, hc2, rfl⟩
        · rw [if_neg hi2]; exact h3 i (by omega)
  · rw [if_neg hv]; exact h
end S65
