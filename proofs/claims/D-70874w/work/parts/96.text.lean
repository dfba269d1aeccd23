/-! a text is read: the twin -/
def rdM (T : Nat → Int32) (q : Nat) (I0 I : Nat → Nat → Int32) (k : Nat) (R S : Nat → Int32) : Prop :=
  (I0 179 2 = nI q ∧ (∀ i, i < q → I0 181 i = T i) ∧ q ≤ 120 ∧ k ≤ q) ∧ (I 179 3 = nI k ∧ I 179 4 = 0 ∧ ∀ f, f ≠ 3 → f ≠ 4 → I 179 f = I0 179 f) ∧ (∀ j, j ≠ 179 → j ≠ 182 → j ≠ 183 → I j = I0 j) ∧ I 182 = R ∧ I 183 = S
def rdN (I0 I : Nat → Nat → Int32) (p : Nat) : Prop := (I 179 3 = nI p ∧ I 179 4 = 1 ∧ ∀ f, f ≠ 3 → f ≠ 4 → I 179 f = I0 179 f) ∧ (∀ j, j ≠ 179 → j ≠ 182 → j ≠ 183 → I j = I0 j)
def lt0 (T : Nat → Int32) (q k : Nat) : Int32 := if k < q then T k else 0
theorem lt0_D {T : Nat → Int32} {q k : Nat} : inl (lt0 T q k).toInt64 48 57 ↔ isD T q k := by
  unfold lt0
  by_cases h : k < q
  · rw [if_pos h]; exact ⟨fun x => ⟨h, x⟩, fun x => x.2⟩
  · rw [if_neg h]; exact ⟨fun x => absurd x.1 (by decide), fun x => absurd x.1 h⟩
theorem lt0_C {T : Nat → Int32} {q k : Nat} {c : Int32} (hc : ¬ 0 = c) : lt0 T q k = c ↔ isC T q k c := by
  unfold lt0
  by_cases h : k < q
  · rw [if_pos h]; exact ⟨fun x => ⟨h, x⟩, fun x => x.2⟩
  · rw [if_neg h]; exact ⟨fun x => absurd x hc, fun x => absurd x.1 h⟩
section S96
variable {T : Nat → Int32} {q : Nat} {I0 I : Nat → Nat → Int32} {e : En} {G : Nat → Nat → Int64} {Q : Po} {k i n p : Nat} {R S : Nat → Int32}
theorem rdM.r2 (r : rdM T q I0 I k R S) : I 179 2 = nI q := by rw [r.2.1.2.2 2 (by omega) (by omega)]; exact r.1.1
theorem rdM.r3 (r : rdM T q I0 I k R S) : I 179 3 = nI k := r.2.1.1
theorem rdM.r4 (r : rdM T q I0 I k R S) : I 179 4 = 0 := r.2.1.2.1
theorem rdM.r181 (r : rdM T q I0 I k R S) {i : Nat} (h : i < q) : I 181 i = T i := by rw [r.2.2.1 181 (by omega) (by omega) (by omega)]; exact r.1.2.1 i h
theorem rdM.mv (r : rdM T q I0 I k R S) {k' : Nat} (h : k' ≤ q) : rdM T q I0 (up2 I 179 3 (nI k')) k' R S :=
  ⟨⟨r.1.1, r.1.2.1, r.1.2.2.1, h⟩, ⟨up2_v, by rw [up2_i (by omega)]; exact r.r4, fun f h3 h4 => by rw [up2_i h3]; exact r.2.1.2.2 f h3 h4⟩, fun j a b c => by rw [up2_ne a]; exact r.2.2.1 j a b c, by rw [up2_ne (by omega)]; exact r.2.2.2.1, by rw [up2_ne (by omega)]; exact r.2.2.2.2⟩
theorem rdM.f0 (r : rdM T q I0 I k R S) : rdM T q I0 (up2 I 179 4 0) k R S :=
  ⟨r.1, ⟨by rw [up2_i (by omega)]; exact r.r3, up2_v, fun f h3 h4 => by rw [up2_i h4]; exact r.2.1.2.2 f h3 h4⟩, fun j a b c => by rw [up2_ne a]; exact r.2.2.1 j a b c, by rw [up2_ne (by omega)]; exact r.2.2.2.1, by rw [up2_ne (by omega)]; exact r.2.2.2.2⟩
theorem rdM.f1 (r : rdM T q I0 I k R S) : rdN I0 (up2 I 179 4 1) k :=
  ⟨⟨by rw [up2_i (by omega)]; exact r.r3, up2_v, fun f h3 h4 => by rw [up2_i h4]; exact r.2.1.2.2 f h3 h4⟩, fun j a b c => by rw [up2_ne a]; exact r.2.2.1 j a b c⟩
theorem rdN.f1 (r : rdN I0 I k) : rdN I0 (up2 I 179 4 1) k :=
  ⟨⟨by rw [up2_i (by omega)]; exact r.1.1, up2_v, fun f h3 h4 => by rw [up2_i h4]; exact r.1.2.2 f h3 h4⟩, fun j a b c => by rw [up2_ne a]; exact r.2 j a b c⟩
theorem rdN.mv (r : rdN I0 I k) {k' : Nat} : rdN I0 (up2 I 179 3 (nI k')) k' :=
  ⟨⟨up2_v, by rw [up2_i (by omega)]; exact r.1.2.1, fun f h3 h4 => by rw [up2_i h3]; exact r.1.2.2 f h3 h4⟩, fun j a b c => by rw [up2_ne a]; exact r.2 j a b c⟩
theorem rdN.ne (r : rdN I0 I k) : ¬ I 179 4 = 0 := by rw [r.1.2.1]; decide
theorem rdN.z (r : rdN I0 I k) : rdN I0 (up2 I 179 3 (I 179 3 + 0)) k := by rw [Int32.add_zero, r.1.1]; exact r.mv
theorem m_next : ∀ n i {I : Nat → Nat → Int32}, q - i = n → rdM T q I0 I i R S → (∀ I', rdM T q I0 I' (sk T q i) R S → Q (.returned (some (.int (lt0 T q (sk T q i))))) (mX e I' G)) → Rn 116 0 [some (.ref 179)] [] (0, 0) (mX e I G) Q := by
  intro n
  induction n with
  | zero =>
    intro i I hi r hQ
    have h4 := r.1.2.2
    have no : ¬ I 179 3 < I 179 2 := by rw [r.r3, r.r2]; exact nI_nlt (by omega) (by omega)
    have e1 : sk T q i = i := sk_f (by omega)
    have e2 : lt0 T q i = 0 := if_neg (by omega)
    rw [e1, e2] at hQ
    exact g_X9_here_0 (fun h => absurd h no) (fun h => absurd h no) (fun h => absurd h no) (fun h => absurd h no) (fun h => absurd h no) (fun _ h => absurd h no) (fun _ h => absurd h no) (fun _ _ => hQ I r)
  | succ n ih =>
    intro i I hi r hQ
    have h4 := r.1.2.2
    have e5 := r.r3
    have yes : I 179 3 < I 179 2 := by rw [e5, r.r2]; exact nI_lt (by omega) (by omega)
    have vp : vp_in (I 179 3) 120 := by rw [e5]; exact vp_in_nI (by omega) (by omega)
    have hl : I 181 (I 179 3).toNatClampNeg = T i := by rw [e5, nI_clamp (by omega)]; exact r.r181 (by omega)
    refine g_X9_here_0 (fun _ => vp) (fun _ h => ?_) (fun _ _ _ => vp) (fun _ h _ => ?_) (fun _ _ h => absurd yes h) (fun h => absurd yes h) (fun h => absurd yes h) (fun h => absurd yes h)
    · rw [hl] at h
      rw [e5, nI_1]
      rw [sk_t ⟨by omega, h⟩] at hQ
      exact ih (i + 1) (by omega) (r.mv (by omega)) hQ
    · rw [hl] at h ⊢
      have e1 : sk T q i = i := sk_f (fun x => h x.2)
      have e2 : lt0 T q i = T i := if_pos (by omega)
      rw [e1, e2] at hQ
      exact hQ I r
theorem m_nx (r : rdM T q I0 I i R S) (hQ : ∀ I', rdM T q I0 I' (sk T q i) R S → Q (.returned (some (.int (lt0 T q (sk T q i))))) (mX e I' G)) : Rn 116 0 [some (.ref 179)] [] (0, 0) (mX e I G) Q := m_next _ i rfl r hQ
theorem m_mustY {a : Int32} (r : rdM T q I0 I k R S) (ha : ¬ a = 0) (hk : k < q) (hQ : ∀ I', rdM T q I0 I' (k + 1) R S → Q (.returned none) (mX e I' G)) : Rn 117 0 [some (.ref 179), some (.int a)] [] (0, 0) (mX e I G) Q := by
  refine g_X9_must_0 (fun _ h => absurd h ha) (fun _ _ => ?_) (fun h => absurd r.r4 h)
  rw [r.r3, nI_1]
  exact hQ _ (r.f0.mv (by omega))
theorem m_mustN (r : rdM T q I0 I k R S) (hQ : ∀ I', rdN I0 I' k → Q (.returned none) (mX e I' G)) : Rn 117 0 [some (.ref 179), some (.int 0)] [] (0, 0) (mX e I G) Q := by
  refine g_X9_must_0 (fun _ _ => ?_) (fun _ h => absurd rfl h) (fun h => absurd r.r4 h)
  rw [r.r3, Int32.add_zero]
  exact hQ _ r.f1.mv
theorem m_mustF {a : Int32} (r : rdN I0 I k) (hQ : ∀ I', rdN I0 I' k → Q (.returned none) (mX e I' G)) : Rn 117 0 [some (.ref 179), some (.int a)] [] (0, 0) (mX e I G) Q := by
  refine g_X9_must_0 (fun h => absurd h r.ne) (fun h => absurd h r.ne) (fun _ => ?_)
  rw [r.1.1, Int32.add_zero]
  exact hQ _ r.f1.mv
theorem m_tak {c : Int32} (hc : ¬ 0 = c) (r : rdM T q I0 I i R S) (h1 : isC T q (sk T q i) c → ∀ I', rdM T q I0 I' (sk T q i + 1) R S → Q (.returned (some (.int 1))) (mX e I' G)) (h0 : ¬ isC T q (sk T q i) c → ∀ I', rdM T q I0 I' (sk T q i) R S → Q (.returned (some (.int 0))) (mX e I' G)) :
    Rn 119 0 [some (.ref 179), some (.int c), none] [] (0, 0) (mX e I G) Q := by
  refine g_X9_isTaken_0 (fun _ => m_nx r fun I1 r1 => g_X9_isTaken_11 (fun h => ?_) (fun h => ?_)) (fun h => absurd r.r4 h)
  · rw [lt0_C hc] at h
    rw [r1.r3, nI_1]
    exact h1 h _ (r1.mv (by omega))
  · rw [lt0_C hc] at h
    rw [r1.r3, Int32.add_zero]
    exact h0 h _ (r1.mv r1.1.2.2.2)
theorem m_takF {c : Int32} (r : rdN I0 I k) (hQ : ∀ I', rdN I0 I' k → Q (.returned (some (.int 0))) (mX e I' G)) : Rn 119 0 [some (.ref 179), some (.int c), none] [] (0, 0) (mX e I G) Q :=
  g_X9_isTaken_0 (fun h => absurd h r.ne) (fun _ => hQ _ r.z)
theorem m_num55 {x1 x2 x4 x5 : Int32} (r : rdN I0 I k) (hQ : ∀ I', rdN I0 I' k → Q (.returned (some (.int x5))) (mX e I' G)) : Rn 115 55 [some (.ref 179), some (.int x1), some (.int x2), none, some (.int x4), some (.int x5)] [] (0, 0) (mX e I G) Q :=
  g_X9_number_55 (fun h => absurd h r.ne) (fun h => absurd h r.ne) (fun h => absurd h r.ne) (fun h => absurd h r.ne) (fun h => absurd h r.ne) (fun h => absurd h r.ne) (fun h => absurd h r.ne) (fun h => absurd h r.ne) (fun h => absurd h r.ne) (fun h => absurd h r.ne) (fun h => absurd h r.ne) (fun h => absurd h r.ne) (fun _ h => absurd h r.ne) (fun _ h => absurd h r.ne) (fun _ _ => hQ _ r)
theorem m_numF {lo hi : Int32} (r : rdN I0 I k) (hQ : ∀ v I', rdN I0 I' k → Q (.returned (some (.int v))) (mX e I' G)) : Rn 115 0 [some (.ref 179), some (.int lo), some (.int hi), none, none, none] [] (0, 0) (mX e I G) Q :=
  g_X9_number_0 (fun h => absurd h r.ne) (fun _ h => absurd h r.ne) (fun _ h => absurd h r.ne) (fun _ _ => m_num55 r.f1 (hQ _))
theorem nI_sub {a b : Nat} (h : b ≤ a) : nI a - nI b = nI (a - b) := by
  rw [show a = (a - b) + b by omega, ← nI_add, Int32.add_sub_cancel, Nat.add_sub_cancel]
theorem m_numLoop {lo hi : Int32} {b : Nat} {W : Int32 × Nat} (hok : inl W.1.toInt64 lo.toInt64 hi.toInt64 → ∀ I', rdM T q I0 I' W.2 R S → Q (.returned (some (.int W.1))) (mX e I' G)) (hbad : ¬ inl W.1.toInt64 lo.toInt64 hi.toInt64 → ∀ v I', rdN I0 I' b → Q (.returned (some (.int v))) (mX e I' G)) : ∀ j k v {I : Nat → Nat → Int32}, k + j = b + 3 → b ≤ k → digs T q j k v = W → rdM T q I0 I k R S →
    Rn 115 55 [some (.ref 179), some (.int lo), some (.int hi), none, some (.int (nI b)), some (.int v)] [] (0, 0) (mX e I G) Q := by
  intro j k v I hj hbk hR r
  have stop1 : ∀ {k v} {I : Nat → Nat → Int32}, W = (v, k) → rdM T q I0 I k R S → ¬ inl v.toInt64 lo.toInt64 hi.toInt64 → Q (.returned (some (.int v))) (mX e (up2 (up2 I 179 4 1) 179 3 (nI b)) G) := by
    intro k v I hR r h
    subst hR
    exact hbad h _ _ r.f1.mv
  have stop2 : ∀ {k v} {I : Nat → Nat → Int32}, W = (v, k) → rdM T q I0 I k R S → inl v.toInt64 lo.toInt64 hi.toInt64 → Q (.returned (some (.int v))) (mX e I G) := by
    intro k v I hR r h
    subst hR
    exact hok h I r
  induction j generalizing k v I with
  | zero =>
    have h4 := r.1.2.2
    have e5 := r.r3
    have z := r.r4
    have eR : W = (v, k) := hR.symm
    have no : ¬ I 179 3 - nI b < 3 := by
      rw [e5, nI_sub (by omega)]
      exact nI_nlt (a := k - b) (b := 3) (by omega) (by omega)
    exact g_X9_number_55 (fun _ _ h => absurd h no) (fun _ _ h => absurd h no) (fun _ _ h => absurd h no) (fun _ _ h => absurd h no) (fun _ _ h => absurd h no) (fun _ _ h => absurd h no) (fun _ _ _ _ h => stop1 eR r h) (fun _ _ _ _ h => stop2 eR r h) (fun _ _ _ h => absurd z h) (fun _ _ _ h => stop1 eR r h) (fun _ _ _ h => stop2 eR r h) (fun _ _ h => absurd z h) (fun h => absurd z h) (fun h => absurd z h) (fun h => absurd z h)
  | succ j ih =>
    have h4 := r.1.2.2
    have e5 := r.r3
    have z := r.r4
    have yes : I 179 3 - nI b < 3 := by
      rw [e5, nI_sub (by omega)]
      exact nI_lt (b := 3) (by omega) (by omega)
    have lt : I 179 3 < I 179 2 ↔ k < q := by rw [e5, r.r2]; exact nI_ltI (by omega) (by omega)
    have hl : k < q → I 181 (I 179 3).toNatClampNeg = T k := fun h => by rw [e5, nI_clamp (by omega)]; exact r.r181 h
    have vp : k < q → vp_in (I 179 3) 120 := fun h => by rw [e5]; exact vp_in_nI (by omega) (by omega)
    have sR : ¬ isD T q k → W = (v, k) := fun h => by
      rw [← hR]
      show (if isD T q k then _ else _) = _
      rw [if_neg h]
    refine g_X9_number_55 (fun _ h _ => vp (lt.mp h)) (fun _ h1 _ h3 _ h4 => ?_) (fun _ h1 _ h3 _ h4 => ?_) (fun _ _ _ _ h => absurd z h) (fun _ h _ _ => vp (lt.mp h)) (fun _ h1 _ h3 => ?_) (fun _ _ h => absurd yes h) (fun _ _ h => absurd yes h) (fun _ _ h => absurd yes h) (fun _ h1 _ h => stop1 (sR (fun x => h1 (lt.mpr x.1))) r h) (fun _ h1 _ h => stop2 (sR (fun x => h1 (lt.mpr x.1))) r h) (fun _ _ h => absurd z h) (fun h => absurd z h) (fun h => absurd z h) (fun h => absurd z h)
    · rw [hl (lt.mp h1)] at h3
      exact stop1 (sR (fun x => h3 x.2)) r h4
    · rw [hl (lt.mp h1)] at h3
      exact stop2 (sR (fun x => h3 x.2)) r h4
    · have hk := lt.mp h1
      rw [hl hk] at h3 ⊢
      rw [e5, nI_1]
      refine ih (k + 1) _ (by omega) (by omega) ?_ (r.mv (by omega))
      rw [← hR]
      show _ = (if isD T q k then _ else _)
      rw [if_pos ⟨hk, h3⟩]
theorem m_num {lo hi : Int32} (r : rdM T q I0 I i R S) (hok : ∀ v k I', num T q lo hi i = .inr (v, k) → rdM T q I0 I' k R S → Q (.returned (some (.int v))) (mX e I' G)) (hbad : ∀ p v I', num T q lo hi i = .inl p → rdN I0 I' p → Q (.returned (some (.int v))) (mX e I' G)) :
    Rn 115 0 [some (.ref 179), some (.int lo), some (.int hi), none, none, none] [] (0, 0) (mX e I G) Q := by
  unfold num at hok hbad
  have z := r.r4
  refine g_X9_number_0 (fun _ => m_nx r fun I1 r1 => g_X9_number_15 (fun _ h => ?_) (fun _ h => ?_) (fun h => absurd r1.r4 h)) (fun h => absurd z h) (fun h => absurd z h) (fun h => absurd z h)
  · rw [lt0_D] at h
    rw [if_neg h] at hbad
    exact m_num55 r1.f1 fun I2 f2 => hbad _ _ I2 rfl f2
  · rw [lt0_D] at h
    rw [if_pos h] at hok hbad
    rw [r1.r3]
    refine m_numLoop (fun h2 I' r' => ?_) (fun h2 v I' f' => ?_) 3 (sk T q i) 0 rfl (Nat.le_refl _) rfl r1.f0
    · rw [if_pos h2] at hok
      exact hok _ _ I' rfl r'
    · rw [if_neg h2] at hbad
      exact hbad _ _ I' rfl f'
/-- a digit, from its value -/
theorem dg_of {x : Int32} {v : Nat} (h : x - 48 = nI v) (hv : v < 10) : inl x.toInt64 48 57 := by
  have e1 : x = nI (v + 48) := by
    have := Int32.sub_add_cancel x 48
    rw [h] at this
    rw [← this]
    exact nI_add v 48
  rw [e1]
  exact inR' (lo := 48) (hi := 57) (by omega) (by omega)
/-- a fault, told now or at the end -/
def rdB (T : Nat → Int32) (q : Nat) (I0 I : Nat → Nat → Int32) (S : Nat → Int32) (p : Nat) : Prop := rdN I0 I p ∨ ∃ R, rdM T q I0 I p R S ∧ isD T q p
theorem m_kinLoop (hn : n < 6) : ∀ r l a i {I : Nat → Nat → Int32}, n ≤ l + 1 + r → l < n → 2 ^ l ≤ a → a < 2 ^ (l + 1) → rdM T q I0 I (sk T q i) R S → (∀ v k I', kinA T q n r l a i = .inr (v, k) → rdM T q I0 I' k R S → Q (.returned (some (.int v))) (mX e I' G)) → (∀ p v I', kinA T q n r l a i = .inl p → rdB T q I0 I' S p → Q (.returned (some (.int v))) (mX e I' G)) →
    Rn 120 50 [some (.ref 179), some (.int (nI n)), some (.int (nI a)), some (.int (lt0 T q (sk T q i) - 48))] [] (0, 0) (mX e I G) Q := by
  intro r
  have val : ∀ i, inl (lt0 T q (sk T q i) - 48).toInt64 0 (nI n - 1).toInt64 → sk T q i < q ∧ ∃ v, v < n ∧ T (sk T q i) - 48 = nI v ∧ isD T q (sk T q i) := fun i h => by
    by_cases hq : sk T q i < q
    · have e1 : lt0 T q (sk T q i) = T (sk T q i) := if_pos hq
      rw [e1] at h
      obtain ⟨v, hv, e2⟩ := isP (by omega) h
      exact ⟨hq, v, hv, e2, hq, dg_of e2 (by omega)⟩
    · have e1 : lt0 T q (sk T q i) = 0 := if_neg hq
      rw [e1] at h
      exact absurd h.1 (by decide)
  -- a digit that can't come here
  have out : ∀ l i, l < n → inl (T (sk T q i) - 48).toInt64 (nI l + 1).toInt64 (nI n - 1).toInt64 → ∃ v, l + 1 ≤ v ∧ v < n ∧ T (sk T q i) - 48 = nI v := fun l i hl h => by
    rw [nI_1, show n = n - 1 + 1 by omega, nI_pred, nI_l (by omega), nI_l (by omega)] at h
    obtain ⟨v, a1, a2, e1⟩ := inR (lo := l + 1) (hi := n - 1) h (by omega) (by omega)
    exact ⟨v, a1, by omega, e1⟩
  have inn : ∀ l v, l + 1 ≤ v → v < n → inl (nI v).toInt64 (nI l + 1).toInt64 (nI n - 1).toInt64 := fun l v h1 h2 => by
    rw [nI_1, show n = n - 1 + 1 by omega, nI_pred, nI_l (show l + 1 < 2 ^ 31 by omega), nI_l (show n - 1 < 2 ^ 31 by omega)]
    exact inR' h1 (by omega) (by omega)
  have inn0 : ∀ v, v < n → inl (nI v).toInt64 0 (nI n - 1).toInt64 := fun v h2 => by
    rw [show n = n - 1 + 1 by omega, nI_pred, nI_l (show n - 1 < 2 ^ 31 by omega)]
    exact inR' (lo := 0) (by omega) (by omega) (by omega)
  induction r with
  | zero =>
    intro l a i I hr hl ha1 ha2 rc hok hbad
    have z := rc.r4
    have hk : kinA T q n 0 l a i = if isD T q (sk T q i) then .inl (sk T q i) else .inr (nI a, sk T q i) := rfl
    rw [hk] at hok hbad
    have fin : Q (.returned (some (.int (nI a)))) (mX e I G) := by
      by_cases h : isD T q (sk T q i)
      · rw [if_pos h] at hbad
        exact hbad _ _ I rfl (Or.inr ⟨R, rc, h⟩)
      · rw [if_neg h] at hok
        exact hok _ _ I rfl rc
    refine g_X9_kinRead_50 (fun _ _ => fin) (fun _ h2 h3 => ?_) (fun _ _ _ => fin) (fun h => absurd z h)
    exfalso
    obtain ⟨hq, v, hv, e2, hd⟩ := val i h2
    have e1 : lt0 T q (sk T q i) = T (sk T q i) := if_pos hq
    rw [e1, e2] at h3
    exact ks_2 l (by omega) a ha2 ha1 v (by omega) h3
  | succ r ih =>
    intro l a i I hr hl ha1 ha2 rc hok hbad
    have z := rc.r4
    have hk : kinA T q n (r + 1) l a i = if isD T q (sk T q i) then
      (if inl (T (sk T q i) - 48).toInt64 (nI l + 1).toInt64 (nI n - 1).toInt64 then kinA T q n r (T (sk T q i) - 48).toNatClampNeg (a + 2 ^ (T (sk T q i) - 48).toNatClampNeg) (sk T q i + 1) else .inl (sk T q i))
      else .inr (nI a, sk T q i) := rfl
    rw [hk] at hok hbad
    have fin : ¬ inl (T (sk T q i) - 48).toInt64 (nI l + 1).toInt64 (nI n - 1).toInt64 ∨ ¬ sk T q i < q → Q (.returned (some (.int (nI a)))) (mX e I G) := fun hx => by
      by_cases h : isD T q (sk T q i)
      · have h9 := hx.resolve_right (fun y => y h.1)
        rw [if_pos h, if_neg h9] at hbad
        exact hbad _ _ I rfl (Or.inr ⟨R, rc, h⟩)
      · rw [if_neg h] at hok
        exact hok _ _ I rfl rc
    refine g_X9_kinRead_50 (fun _ h => ?_) (fun _ h2 h3 => ?_) (fun _ h2 h3 => ?_) (fun h => absurd z h)
    · by_cases hq : sk T q i < q
      · have e1 : lt0 T q (sk T q i) = T (sk T q i) := if_pos hq
        rw [e1] at h
        refine fin (Or.inl fun y => ?_)
        obtain ⟨v, v1, v2, e2⟩ := out l i hl y
        rw [e2] at h
        exact h (inn0 v v2)
      · exact fin (Or.inr hq)
    · obtain ⟨hq, v, hv, e2, hd⟩ := val i h2
      have e1 : lt0 T q (sk T q i) = T (sk T q i) := if_pos hq
      rw [e1, e2] at h3 ⊢
      have lv : l < v := by
        rcases Nat.lt_or_ge l v with x | x
        · exact x
        · exact absurd h3 (ks_2 l (by omega) a ha2 ha1 v x)
      have hin := inn l v (by omega) hv
      rw [if_pos hd, e2, if_pos hin, nI_clamp (by omega)] at hok hbad
      have hp : a < 2 ^ v := Nat.lt_of_lt_of_le ha2 (Nat.pow_le_pow_right (by omega) lv)
      rw [rc.r3, nI_1, (ks_1 v (by omega) a hp).2]
      refine m_nx (rc.mv (by omega)) fun I1 r1 => g_X9_kinRead_97 ?_
      refine ih v (a + 2 ^ v) (sk T q i + 1) (by omega) hv (by omega) ?_ r1 hok hbad
      rw [Nat.pow_succ]
      omega
    · obtain ⟨hq, v, hv, e2, hd⟩ := val i h2
      have e1 : lt0 T q (sk T q i) = T (sk T q i) := if_pos hq
      rw [e1, e2] at h3
      refine fin (Or.inl fun y => ?_)
      obtain ⟨v', v1, v2, e3⟩ := out l i hl y
      rw [e2] at e3
      have : v = v' := (nI_eq (by omega) (by omega)).mp e3
      subst this
      have hp : a < 2 ^ v := Nat.lt_of_lt_of_le ha2 (Nat.pow_le_pow_right (by omega) v1)
      exact h3 (ks_1 v (by omega) a hp).1
theorem m_kin0 (hn : n < 6) (r : rdM T q I0 I i R S) (hok : ∀ v k I', kinR T q n i = .inr (v, k) → rdM T q I0 I' k R S → Q (.returned (some (.int v))) (mX e I' G)) (hbad : ∀ p v I', kinR T q n i = .inl p → rdB T q I0 I' S p → Q (.returned (some (.int v))) (mX e I' G)) :
    Rn 120 0 [some (.ref 179), some (.int (nI n)), none, none] [] (0, 0) (mX e I G) Q := by
  unfold kinR at hok hbad
  have z := r.r4
  refine g_X9_kinRead_0 (fun _ => m_nx r fun I1 r1 => g_X9_kinRead_17 (fun _ h => ?_) (fun _ h => ?_) (fun h => absurd r1.r4 h)) (fun h => absurd z h) (fun h => absurd z h) (fun h => absurd z h)
  · have hx : dig T q 0 (nI n - 1) i = .inl (sk T q i) := if_neg (fun x => h (by unfold lt0; rw [if_pos x.1]; exact x.2))
    rw [bnd_l hx] at hbad
    have f := r1.f1
    exact g_X9_kinRead_50 (fun h => absurd h f.ne) (fun h => absurd h f.ne) (fun h => absurd h f.ne) (fun _ => hbad _ _ _ rfl (Or.inl f))
  · have hq : sk T q i < q := by
      rcases Nat.lt_or_ge (sk T q i) q with x | x
      · exact x
      · exfalso
        unfold lt0 at h
        rw [if_neg (by omega)] at h
        exact absurd h.1 (by decide)
    have e1 : lt0 T q (sk T q i) = T (sk T q i) := if_pos hq
    rw [e1] at h ⊢
    have hx : dig T q 0 (nI n - 1) i = .inr (T (sk T q i) - 48, sk T q i + 1) := if_pos ⟨hq, h⟩
    rw [bnd_r hx] at hok hbad
    obtain ⟨v, hv, e2⟩ := isP (by omega) h
    rw [e2, nI_clamp (by omega)] at hok hbad
    rw [e2] at h ⊢
    have r2 := r1.f0
    have hp : 0 < 2 ^ v := Nat.two_pow_pos v
    have k1 := ks_1 v (by omega) 0 hp
    rw [Nat.zero_add] at k1
    refine g_X9_kinRead_50 (fun _ h' => absurd h h') (fun _ _ _ => ?_) (fun _ _ h' => absurd k1.1 h') (fun h => absurd r2.r4 h)
    rw [r2.r3, nI_1, show (0 : Int32) ||| 1 <<< (nI v &&& 31) = nI (2 ^ v) from k1.2]
    refine m_nx (r2.mv (by omega)) fun I2 r3 => g_X9_kinRead_97 ?_
    refine m_kinLoop hn n v (2 ^ v) _ (by omega) hv (Nat.le_refl _) ?_ r3 hok hbad
    rw [Nat.pow_succ]
    omega
end S96
