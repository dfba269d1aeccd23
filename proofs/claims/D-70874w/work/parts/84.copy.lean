/-! items are copied: the twin's loops -/
theorem ix24a : ∀ s, s < 4 → ∀ i, i < 25 → ∀ k, k < 24 → i + k < 24 → (¬ (((24 * nI s) + nI i) + nI k < 0 ∨ 96 ≤ (((24 * nI s) + nI i) + nI k).toNatClampNeg) ∧ (((24 * nI s) + nI i) + nI k).toNatClampNeg = 24 * s + i + k) := by decide +kernel
theorem ltn24a : ∀ n, n < 25 → ∀ k, k < 25 → (nI k < nI n ↔ k < n) := by decide +kernel
theorem ltn24b : ∀ k, k < 24 → (nI k + 1 = nI (k + 1) ∧ (nI k).toNatClampNeg = k ∧ ¬ (nI k < 0 ∨ 24 ≤ (nI k).toNatClampNeg)) := by decide +kernel
theorem ltn24 (n : Nat) (hn : n < 25) (k : Nat) (hk : k < 25) : (nI k < nI n ↔ k < n) ∧ (k < 24 → nI k + 1 = nI (k + 1) ∧ (nI k).toNatClampNeg = k ∧ ¬ (nI k < 0 ∨ 24 ≤ (nI k).toNatClampNeg)) := ⟨ltn24a n hn k hk, ltn24b k⟩
def c1G (s i n k : Nat) (G : Nat → Nat → Int64) : Nat → Nat → Int64 := fun q b => if q = 191 ∧ k ≤ b ∧ b < n then G 190 (24 * s + i + b) else G q b
def c2G (s j n k : Nat) (G : Nat → Nat → Int64) : Nat → Nat → Int64 := fun q b => if q = 190 ∧ 24 * s + j + k ≤ b ∧ b < 24 * s + j + n then G 191 (b - (24 * s + j)) else G q b
theorem c1_step {s i n k : Nat} (hk : k < n) (G : Nat → Nat → Int64) : c1G s i n (k + 1) (up2 G 191 k (G 190 (24 * s + i + k))) = c1G s i n k G := by
  funext q b
  unfold c1G up2
  by_cases hq : q = 191
  · subst hq
    by_cases hb : b = k
    · subst hb
      rw [if_neg (by omega), if_pos rfl, if_pos rfl, if_pos (by omega)]
    · by_cases hc : k ≤ b ∧ b < n
      · rw [if_pos (by omega), if_neg (by decide), if_pos (by omega)]
      · rw [if_neg (fun w => hc ⟨by omega, w.2.2⟩), if_pos rfl, if_neg hb, if_neg (fun w => hc w.2)]
  · rw [if_neg (fun w => hq w.1), if_neg hq, if_neg (fun w => hq w.1)]
theorem c2_step {s j n k : Nat} (hk : k < n) (G : Nat → Nat → Int64) : c2G s j n (k + 1) (up2 G 190 (24 * s + j + k) (G 191 k)) = c2G s j n k G := by
  funext q b
  unfold c2G up2
  by_cases hq : q = 190
  · subst hq
    by_cases hb : b = 24 * s + j + k
    · subst hb
      rw [if_neg (by omega), if_pos rfl, if_pos rfl, if_pos (by omega), show 24 * s + j + k - (24 * s + j) = k by omega]
    · by_cases hc : 24 * s + j + k ≤ b ∧ b < 24 * s + j + n
      · rw [if_pos (by omega), if_neg (by decide), if_pos (by omega)]
      · rw [if_neg (fun w => hc ⟨by omega, w.2.2⟩), if_pos rfl, if_neg hb, if_neg (fun w => hc w.2)]
  · rw [if_neg (fun w => hq w.1), if_neg hq, if_neg (fun w => hq w.1)]
theorem m_cp2 {e : En} {I : Nat → Nat → Int32} {Q : Po} {s j n : Nat} (hs : s < 4) (hn : j + n ≤ 24) : ∀ (d k : Nat) (G : Nat → Nat → Int64), k + d = n → Q (.returned (some (.int (nI n)))) (mX e I (c2G s j n k G)) → Rn 163 128 [some (.ref 179), none, none, some (.int (nI s)), some (.int (nI j)), some (.int (nI n)), none, some (.int (nI k))] [] (0, 0) (mX e I G) Q
  | 0, k, G, hk, hQ => by
    have e1 : k = n := by omega
    subst e1
    have e2 : c2G s j k k G = G := by
      funext a b
      unfold c2G
      rw [if_neg (by omega)]
    rw [e2] at hQ
    have h0 := (ltn24 k (by omega) k (by omega)).1
    exact g_X9_copy_128 (fun q => absurd (h0.mp q) (Nat.lt_irrefl _)) (fun q => absurd (h0.mp q) (Nat.lt_irrefl _)) (fun q => absurd (h0.mp q) (Nat.lt_irrefl _)) (fun _ => hQ)
  | d + 1, k, G, hk, hQ => by
    obtain ⟨a1, a2⟩ := ltn24 n (by omega) k (by omega)
    obtain ⟨a3, a4, a5⟩ := a2 (by omega)
    obtain ⟨b1, b2⟩ := ix24a s hs j (by omega) k (by omega) (by omega)
    refine g_X9_copy_128 (fun _ => a5) (fun _ => b1) (fun _ => ?_) (fun q => absurd (a1.mpr (by omega)) q)
    rw [a3, b2, a4]
    exact m_cp2 hs hn d (k + 1) _ (by omega) (by rw [c2_step (by omega)]; exact hQ)
theorem m_cp1 {e : En} {I : Nat → Nat → Int32} {Q : Po} {s s' i j n : Nat} (hs : s < 4) (hs' : s' < 4) (hi : i + n ≤ 24) (hn : j + n ≤ 24) : ∀ (d k : Nat) (G : Nat → Nat → Int64), k + d = n → Q (.returned (some (.int (nI n)))) (mX e I (c2G s' j n 0 (c1G s i n k G))) → Rn 163 91 [some (.ref 179), some (.int (nI s)), some (.int (nI i)), some (.int (nI s')), some (.int (nI j)), some (.int (nI n)), none, some (.int (nI k))] [] (0, 0) (mX e I G) Q
  | 0, k, G, hk, hQ => by
    have e1 : k = n := by omega
    subst e1
    have e2 : c1G s i k k G = G := by
      funext a b
      unfold c1G
      rw [if_neg (by omega)]
    rw [e2] at hQ
    have h0 := (ltn24 k (by omega) k (by omega)).1
    exact g_X9_copy_91 (fun q => absurd (h0.mp q) (Nat.lt_irrefl _)) (fun q => absurd (h0.mp q) (Nat.lt_irrefl _)) (fun q => absurd (h0.mp q) (Nat.lt_irrefl _)) (fun _ => m_cp2 hs' hn k 0 G (by omega) hQ)
  | d + 1, k, G, hk, hQ => by
    obtain ⟨a1, a2⟩ := ltn24 n (by omega) k (by omega)
    obtain ⟨a3, a4, a5⟩ := a2 (by omega)
    obtain ⟨b1, b2⟩ := ix24a s hs i (by omega) k (by omega) (by omega)
    refine g_X9_copy_91 (fun _ => b1) (fun _ => a5) (fun _ => ?_) (fun q => absurd (a1.mpr (by omega)) q)
    rw [a3, b2, a4]
    exact m_cp1 hs hs' hi hn d (k + 1) _ (by omega) (by rw [c1_step (by omega)]; exact hQ)
