/-! people, cases are read: the twin -/
theorem ix4 : ∀ n, n < 6 → (¬ (4 * nI n < 0 ∨ 24 ≤ (4 * nI n).toNatClampNeg) ∧ (4 * nI n).toNatClampNeg = 4 * n) ∧ (¬ (4 * nI n + 1 < 0 ∨ 24 ≤ (4 * nI n + 1).toNatClampNeg) ∧ (4 * nI n + 1).toNatClampNeg = 4 * n + 1) ∧ (¬ (4 * nI n + 2 < 0 ∨ 24 ≤ (4 * nI n + 2).toNatClampNeg) ∧ (4 * nI n + 2).toNatClampNeg = 4 * n + 2) ∧ (¬ (4 * nI n + 3 < 0 ∨ 24 ≤ (4 * nI n + 3).toNatClampNeg) ∧ (4 * nI n + 3).toNatClampNeg = 4 * n + 3) := by decide +kernel
theorem ix2 : ∀ n, n < 6 → (¬ (2 * nI n < 0 ∨ 12 ≤ (2 * nI n).toNatClampNeg) ∧ (2 * nI n).toNatClampNeg = 2 * n) ∧ (¬ (2 * nI n + 1 < 0 ∨ 12 ≤ (2 * nI n + 1).toNatClampNeg) ∧ (2 * nI n + 1).toNatClampNeg = 2 * n + 1) := by decide +kernel
def put4 (R : Nat → Int32) (n : Nat) (x : Prs) : Nat → Int32 := up1 (up1 (up1 (up1 R (4 * n) x.1) (4 * n + 1) x.2.1) (4 * n + 2) x.2.2.1) (4 * n + 3) x.2.2.2
def put2 (S : Nat → Int32) (m : Nat) (x : Cas) : Nat → Int32 := up1 (up1 S (2 * m) x.1) (2 * m + 1) x.2
def rowP (R : Nat → Int32) : Nat → List Prs → Prop
  | _, [] => True
  | n, x :: xs => (R (4 * n) = x.1 ∧ R (4 * n + 1) = x.2.1 ∧ R (4 * n + 2) = x.2.2.1 ∧ R (4 * n + 3) = x.2.2.2) ∧ rowP R (n + 1) xs
def rowC (S : Nat → Int32) : Nat → List Cas → Prop
  | _, [] => True
  | n, x :: xs => (S (2 * n) = x.1 ∧ S (2 * n + 1) = x.2) ∧ rowC S (n + 1) xs
theorem put4_at {R : Nat → Int32} {n : Nat} {x : Prs} : put4 R n x (4 * n) = x.1 ∧ put4 R n x (4 * n + 1) = x.2.1 ∧ put4 R n x (4 * n + 2) = x.2.2.1 ∧ put4 R n x (4 * n + 3) = x.2.2.2 := by
  unfold put4
  refine ⟨?_, ?_, ?_, up1_at⟩
  · rw [up1_ne (by omega), up1_ne (by omega), up1_ne (by omega), up1_at]
  · rw [up1_ne (by omega), up1_ne (by omega), up1_at]
  · rw [up1_ne (by omega), up1_at]
theorem put4_ne {R : Nat → Int32} {n j : Nat} {x : Prs} (h : j < 4 * n) : put4 R n x j = R j := by
  unfold put4
  rw [up1_ne (by omega), up1_ne (by omega), up1_ne (by omega), up1_ne (by omega)]
theorem put2_at {R : Nat → Int32} {n : Nat} {x : Cas} : put2 R n x (2 * n) = x.1 ∧ put2 R n x (2 * n + 1) = x.2 := by
  unfold put2
  exact ⟨by rw [up1_ne (by omega), up1_at], up1_at⟩
theorem put2_ne {R : Nat → Int32} {n j : Nat} {x : Cas} (h : j < 2 * n) : put2 R n x j = R j := by
  unfold put2
  rw [up1_ne (by omega), up1_ne (by omega)]
section S97
variable {T : Nat → Int32} {q : Nat} {I0 I : Nat → Nat → Int32} {e : En} {G : Nat → Nat → Int64} {Q : Po} {k i n m p : Nat} {R S : Nat → Int32}
abbrev pLo (x : Int32) : Lo := [some (.ref 179), some (.int x), none, none, none, none, none]
theorem rdM.row (r : rdM T q I0 I k R S) {x : Prs} : rdM T q I0 (up2 (up2 (up2 (up2 I 182 (4 * n) x.1) 182 (4 * n + 1) x.2.1) 182 (4 * n + 2) x.2.2.1) 182 (4 * n + 3) x.2.2.2) k (put4 R n x) S := by
  obtain ⟨a, b, c, d, f⟩ := r
  refine ⟨a, ?_, fun j h1 h2 h3 => ?_, ?_, ?_⟩
  · rw [up2_ne (by omega), up2_ne (by omega), up2_ne (by omega), up2_ne (by omega)]; exact b
  · rw [up2_ne h2, up2_ne h2, up2_ne h2, up2_ne h2]; exact c j h1 h2 h3
  · rw [up2_at, up2_at, up2_at, up2_at, d]; rfl
  · rw [up2_ne (by omega), up2_ne (by omega), up2_ne (by omega), up2_ne (by omega)]; exact f
theorem m_p47F {x1 x3 x4 x5 : Int32} (r : rdN I0 I k) (hQ : ∀ I', rdN I0 I' k → Rn 118 2 (pLo (x1 + 1)) [] (0, 0) (mX e I' G) Q) :
    Rn 119 0 [some (.ref 179), some (.int 47), none] [] (0, 0) (mX e I G) (fun o X' => conF Rn 118 156 119 [some (.ref 179), some (.int x1), none, some (.int x3), some (.int x4), some (.int x5), none] [] (0, 0) X' Q o) :=
  m_takF r fun I1 r1 => g_X9_readPeople_159 (fun _ h => absurd h r1.ne) (fun _ h => absurd h r1.ne) (fun _ h => absurd h r1.ne) (fun _ h => absurd h r1.ne) (fun _ h => absurd h r1.ne) (fun _ _ => hQ _ r1) (fun h => absurd rfl h)
theorem m_p43F {x1 x3 x4 : Int32} (r : rdN I0 I k) (hQ : ∀ I', rdN I0 I' k → Rn 118 2 (pLo (x1 + 1)) [] (0, 0) (mX e I' G) Q) :
    Rn 119 0 [some (.ref 179), some (.int 43), none] [] (0, 0) (mX e I G) (fun o X' => conF Rn 118 134 119 [some (.ref 179), some (.int x1), none, some (.int x3), some (.int x4), none, none] [] (0, 0) X' Q o) :=
  m_takF r fun I1 r1 => g_X9_readPeople_137 (fun _ => m_p47F r1 hQ) (fun h => absurd rfl h)
theorem m_pnF {x1 x3 : Int32} (r : rdN I0 I k) (hQ : ∀ I', rdN I0 I' k → Rn 118 2 (pLo (x1 + 1)) [] (0, 0) (mX e I' G) Q) :
    Rn 115 0 [some (.ref 179), some (.int 1), some (.int 99), none, none, none] [] (0, 0) (mX e I G) (fun o X' => conF Rn 118 126 115 [some (.ref 179), some (.int x1), none, some (.int x3), none, none, none] [] (0, 0) X' Q o) :=
  m_numF r fun v I1 r1 => g_X9_readPeople_129 (m_p43F r1 hQ)
theorem m_p47 {kd w l : Int32} (hn : n < 6) (r : rdM T q I0 I i R S) (hok : ∀ v k I', knR T q n i = .inr (v, k) → rdM T q I0 I' k (put4 R n (kd, w, l, v)) S → Rn 118 2 (pLo (nI n + 1)) [] (0, 0) (mX e I' G) Q) (hbad : ∀ p I', knR T q n i = .inl p → rdB T q I0 I' S p → Rn 118 2 (pLo (nI n + 1)) [] (0, 0) (mX e I' G) Q) :
    Rn 119 0 [some (.ref 179), some (.int 47), none] [] (0, 0) (mX e I G) (fun o X' => conF Rn 118 156 119 [some (.ref 179), some (.int (nI n)), none, some (.int kd), some (.int w), some (.int l), none] [] (0, 0) X' Q o) := by
  unfold knR at hok hbad
  obtain ⟨⟨a0, b0⟩, ⟨a1, b1⟩, ⟨a2, b2⟩, ⟨a3, b3⟩⟩ := ix4 n hn
  refine m_tak (by decide) r (fun h I1 r1 => ?_) (fun h I1 r1 => ?_)
  · rw [if_pos h] at hok hbad
    refine g_X9_readPeople_159 (fun h => absurd h (by decide)) (fun h => absurd h (by decide)) (fun h => absurd h (by decide)) (fun h => absurd h (by decide)) (fun h => absurd h (by decide)) (fun h => absurd h (by decide)) (fun _ => m_kin0 hn r1 (fun v k I2 hd r2 => ?_) (fun p v I2 hd r2 => ?_))
    · refine g_X9_readPeople_167 (fun _ => a0) (fun _ => a1) (fun _ => a2) (fun _ => a3) (fun _ => ?_) (fun h => absurd r2.r4 h)
      rw [b0, b1, b2, b3]
      exact hok v k _ hd (r2.row (x := (kd, w, l, v)))
    · rcases r2 with r2 | ⟨R', r2, hD⟩
      · exact g_X9_readPeople_167 (fun _ => a0) (fun _ => a1) (fun _ => a2) (fun _ => a3) (fun h => absurd h r2.ne) (fun _ => hbad p _ hd (Or.inl r2))
      · refine g_X9_readPeople_167 (fun _ => a0) (fun _ => a1) (fun _ => a2) (fun _ => a3) (fun _ => ?_) (fun h => absurd r2.r4 h)
        rw [b0, b1, b2, b3]
        exact hbad p _ hd (Or.inr ⟨_, r2.row (x := (kd, w, l, v)), hD⟩)
  · rw [if_neg h] at hok
    refine g_X9_readPeople_159 (fun _ _ => a0) (fun _ _ => a1) (fun _ _ => a2) (fun _ _ => a3) (fun _ _ => ?_) (fun _ h => absurd r1.r4 h) (fun h => absurd rfl h)
    rw [b0, b1, b2, b3]
    exact hok 0 _ _ rfl (r1.row (x := (kd, w, l, 0)))
theorem m_p43 {kd w : Int32} (hn : n < 6) (r : rdM T q I0 I i R S) (hok : ∀ l v k I', (bnd (linR T q i) fun l i2 => bnd (knR T q n i2) fun kn i3 => (.inr ((kd, w, l, kn), i3) : Rd Prs)) = .inr ((kd, w, l, v), k) → rdM T q I0 I' k (put4 R n (kd, w, l, v)) S → Rn 118 2 (pLo (nI n + 1)) [] (0, 0) (mX e I' G) Q) (hbad : ∀ p I', (bnd (linR T q i) fun l i2 => bnd (knR T q n i2) fun kn i3 => (.inr ((kd, w, l, kn), i3) : Rd Prs)) = .inl p → rdB T q I0 I' S p → Rn 118 2 (pLo (nI n + 1)) [] (0, 0) (mX e I' G) Q) :
    Rn 119 0 [some (.ref 179), some (.int 43), none] [] (0, 0) (mX e I G) (fun o X' => conF Rn 118 134 119 [some (.ref 179), some (.int (nI n)), none, some (.int kd), some (.int w), none, none] [] (0, 0) X' Q o) := by
  have go : ∀ {lg : Int32} {i2 : Nat} {I2 : Nat → Nat → Int32}, linR T q i = .inr (lg, i2) → rdM T q I0 I2 i2 R S → Rn 119 0 [some (.ref 179), some (.int 47), none] [] (0, 0) (mX e I2 G) (fun o X' => conF Rn 118 156 119 [some (.ref 179), some (.int (nI n)), none, some (.int kd), some (.int w), some (.int lg), none] [] (0, 0) X' Q o) := by
    intro lg i2 I2 hl r2
    rw [bnd_r hl] at hbad
    exact m_p47 hn r2 (fun v k I' hd r' => hok lg v k I' (by rw [bnd_r hl, bnd_r hd]) r') (fun p I' hd f' => hbad p I' (by rw [bnd_l hd]) f')
  by_cases h : isC T q (sk T q i) 43
  · have hl : linR T q i = num T q 0 60 (sk T q i + 1) := if_pos h
    refine m_tak (by decide) r (fun _ I1 r1 => g_X9_readPeople_137 (fun h => absurd h (by decide)) (fun _ => ?_)) (fun h' => absurd h h')
    exact m_num r1 (fun v k I2 hd r2 => g_X9_readPeople_147 (go (hl.trans hd) r2)) (fun p v I' hd f' => g_X9_readPeople_147 (m_p47F f' fun I2 r2 => hbad p I2 (bnd_l (hl.trans hd)) (Or.inl r2)))
  · have hl : linR T q i = .inr (0, sk T q i) := if_neg h
    exact m_tak (by decide) r (fun h' => absurd h' h) (fun _ I1 r1 => g_X9_readPeople_137 (fun _ => go hl r1) (fun h => absurd rfl h))
theorem m_pers (hn : n < 6) (r : rdM T q I0 I i R S) (hok : ∀ x k I', pers T q n i = .inr (x, k) → rdM T q I0 I' k (put4 R n x) S → Rn 118 2 (pLo (nI n + 1)) [] (0, 0) (mX e I' G) Q) (hbad : ∀ p I', pers T q n i = .inl p → rdB T q I0 I' S p → Rn 118 2 (pLo (nI n + 1)) [] (0, 0) (mX e I' G) Q) :
    Rn 116 0 [some (.ref 179)] [] (0, 0) (mX e I G) (fun o X' => conF Rn 118 53 116 (pLo (nI n)) [] (0, 0) X' Q o) := by
  unfold pers at hok hbad
  refine m_nx r fun I1 r1 => ?_
  have go : ∀ kd : Int32, kndR T q i = .inr (kd, sk T q i + 1) → sk T q i < q → Rn 117 0 [some (.ref 179), some (.int 1)] [] (0, 0) (mX e I1 G) (fun o X' => conF Rn 118 119 117 [some (.ref 179), some (.int (nI n)), none, some (.int kd), none, none, none] [] (0, 0) X' Q o) := by
    intro kd hx hq
    rw [bnd_r hx] at hok hbad
    refine m_mustY r1 (by decide) hq fun I2 r2 => g_X9_readPeople_122 ?_
    refine m_num r2 (fun w k I3 hd r3 => g_X9_readPeople_129 ?_) (fun p v I3 hd f3 => g_X9_readPeople_129 (m_p43F f3 fun I4 r4 => hbad p I4 (bnd_l hd) (Or.inl r4)))
    rw [bnd_r hd] at hok hbad
    exact m_p43 hn r3 (fun l v k I' hd r' => hok _ k I' hd r') hbad
  have kx : ∀ c kd : Int32, ¬ 0 = c → kindS c = kd → ¬ kd < 0 → lt0 T q (sk T q i) = c → Rn 117 0 [some (.ref 179), some (.int 1)] [] (0, 0) (mX e I1 G) (fun o X' => conF Rn 118 119 117 [some (.ref 179), some (.int (nI n)), none, some (.int kd), none, none, none] [] (0, 0) X' Q o) := by
    intro c kd hc hk hp h
    rw [lt0_C hc] at h
    refine go kd ?_ h.1
    unfold kndR
    rw [h.2, hk]
    exact if_pos ⟨h.1, hp⟩
  refine g_X9_readPeople_56 (fun h => kx _ _ (by decide) (by decide) (by decide) h) (fun _ h => kx _ _ (by decide) (by decide) (by decide) h) (fun _ _ h => kx _ _ (by decide) (by decide) (by decide) h) (fun _ _ _ h => kx _ _ (by decide) (by decide) (by decide) h) (fun _ _ _ _ h => kx _ _ (by decide) (by decide) (by decide) h) (fun h1 h2 h3 h4 h5 => ?_)
  have hx : kndR T q i = .inl (sk T q i) := by
    refine if_neg (fun x => x.2 ?_)
    unfold lt0 at h1 h2 h3 h4 h5
    rw [if_pos x.1] at h1 h2 h3 h4 h5
    unfold kindS
    rw [if_neg h1, if_neg h2, if_neg h3, if_neg h4, if_neg h5]
    decide
  rw [bnd_l hx] at hbad
  exact m_mustN r1 fun I2 r2 => g_X9_readPeople_122 (m_pnF r2 fun I3 r3 => hbad _ I3 rfl (Or.inl r3))
/-- after a fault nobody more is read -/
theorem m_perB {v : Int32} (hv : ¬ v = 0) (r : rdB T q I0 I S p) (hQ : ∀ I', rdB T q I0 I' S p → Q (.returned (some (.int v))) (mX e I' G)) : Rn 118 2 (pLo v) [] (0, 0) (mX e I G) Q := by
  rcases r with r | ⟨R', r, hD⟩
  · exact g_X9_readPeople_2 (fun h => absurd h r.ne) (fun h => absurd h r.ne) (fun h => absurd h r.ne) (fun h => absurd h r.ne) (fun h => absurd h r.ne) (fun _ => hQ _ (Or.inl r))
  · have hs : sk T q p = p := sk_f (fun x => by
      have := hD.2.1
      rw [x.2] at this
      exact absurd this (by decide))
    refine g_X9_readPeople_2 (fun _ h => absurd h hv) (fun _ h => absurd h hv) (fun _ h => absurd h hv) (fun _ h => absurd h hv) (fun _ _ => m_nx r fun I1 r1 => ?_) (fun h => absurd r.r4 h)
    rw [hs] at r1 ⊢
    have no : ¬ lt0 T q p = 44 := fun x => by
      have := (lt0_D.mpr hD).1
      rw [x] at this
      exact absurd this (by decide)
    exact g_X9_readPeople_17 (fun h => absurd h no) (fun h => absurd h no) (fun h => absurd h no) (fun h => absurd h no) (fun _ => hQ _ (Or.inr ⟨R', r1, hD⟩))
theorem m_perLoop : ∀ r n i {I : Nat → Nat → Int32} {R : Nat → Int32}, n + r = 6 → 0 < n → rdM T q I0 I i R S → (∀ xs k I' R', plist T q r n i = .inr (xs, k) → rowP R' n xs → (∀ j, j < 4 * n → R' j = R j) → rdM T q I0 I' (sk T q k) R' S → Q (.returned (some (.int (nI (n + xs.length))))) (mX e I' G)) → (∀ xs k v I', plist T q r n i = .inr (xs, k) → isC T q (sk T q k) 44 → rdN I0 I' (sk T q k) → Q (.returned (some (.int v))) (mX e I' G)) → (∀ p v I', plist T q r n i = .inl p → rdB T q I0 I' S p → Q (.returned (some (.int v))) (mX e I' G)) →
    Rn 118 2 (pLo (nI n)) [] (0, 0) (mX e I G) Q := by
  intro r
  induction r with
  | zero =>
    intro n i I R hn h0 rc hok hokF hbad
    have ne0 : ¬ nI n = 0 := nI_ne0 h0 (by omega)
    refine g_X9_readPeople_2 (fun _ h => absurd h ne0) (fun _ h => absurd h ne0) (fun _ h => absurd h ne0) (fun _ h => absurd h ne0) (fun _ _ => m_nx rc fun I1 r1 => ?_) (fun h => absurd rc.r4 h)
    have gt : 0 < nI n := nI_lt (a := 0) h0 (by omega)
    have no : ¬ nI n < 6 := nI_nlt (b := 6) (by omega) (by omega)
    refine g_X9_readPeople_17 (fun _ _ h => absurd h no) (fun h _ _ => ?_) (fun _ h => absurd gt h) (fun _ h => absurd gt h) (fun h => ?_)
    · rw [lt0_C (by decide)] at h
      exact m_mustN r1 fun I2 r2 => g_X9_readPeople_41 (fun h => absurd h r2.ne) (fun _ => m_mustF r2 fun I3 r3 => g_X9_readPeople_122 (m_pnF r3 fun I4 r4 => g_X9_readPeople_2 (fun h => absurd h r4.ne) (fun h => absurd h r4.ne) (fun h => absurd h r4.ne) (fun h => absurd h r4.ne) (fun h => absurd h r4.ne) (fun _ => hokF [] i _ I4 rfl h r4)))
    · exact hok [] i I1 R rfl trivial (fun _ _ => rfl) r1
  | succ r ih =>
    intro n i I R hn h0 rc hok hokF hbad
    have ne0 : ¬ nI n = 0 := nI_ne0 h0 (by omega)
    refine g_X9_readPeople_2 (fun _ h => absurd h ne0) (fun _ h => absurd h ne0) (fun _ h => absurd h ne0) (fun _ h => absurd h ne0) (fun _ _ => m_nx rc fun I1 r1 => ?_) (fun h => absurd rc.r4 h)
    have gt : 0 < nI n := nI_lt (a := 0) h0 (by omega)
    have yes : nI n < 6 := nI_lt (b := 6) (by omega) (by omega)
    refine g_X9_readPeople_17 (fun h _ _ => ?_) (fun _ _ h => absurd yes h) (fun _ h => absurd gt h) (fun _ h => absurd gt h) (fun h => ?_)
    · rw [lt0_C (by decide)] at h
      have hl : plist T q (r + 1) n i = bnd (pers T q n (sk T q i + 1)) fun x k => bnd (plist T q r (n + 1) k) fun xs k' => .inr (x :: xs, k') := if_pos h
      refine m_mustY r1 (by decide) h.1 fun I2 r2 => g_X9_readPeople_41 (fun _ => ?_) (fun h => absurd r2.r4 h)
      refine m_pers (by omega) r2 (fun x k I3 hd r3 => ?_) (fun p I3 hd r3 => m_perB ?_ r3 fun I4 r4 => hbad p _ I4 (by rw [hl, bnd_l hd]) r4)
      · rw [nI_1]
        refine ih (n + 1) k (by omega) (by omega) r3 (fun xs k' I' R' hx h1 h2 r' => ?_) (fun xs k' v I' hx h1 r' => hokF (x :: xs) k' v I' (by rw [hl, bnd_r hd, bnd_r hx]) h1 r') (fun p v I' hx r' => hbad p v I' (by rw [hl, bnd_r hd, bnd_l hx]) r')
        have := hok (x :: xs) k' I' R' (by rw [hl, bnd_r hd, bnd_r hx]) ⟨?_, h1⟩ (fun j hj => by rw [h2 j (by omega), put4_ne hj]) r'
        · rw [List.length_cons, show n + (xs.length + 1) = n + 1 + xs.length by omega] at this
          exact this
        · obtain ⟨p1, p2, p3, p4⟩ := put4_at (R := R) (n := n) (x := x)
          exact ⟨by rw [h2 _ (by omega), p1], by rw [h2 _ (by omega), p2], by rw [h2 _ (by omega), p3], by rw [h2 _ (by omega), p4]⟩
      · rw [nI_1]
        exact nI_ne0 (by omega) (by omega)
    · rw [lt0_C (by decide)] at h
      have hl : plist T q (r + 1) n i = .inr ([], sk T q i) := if_neg h
      exact hok [] _ I1 R hl trivial (fun _ _ => rfl) (by rw [sk_sk]; exact r1)
theorem m_people (r : rdM T q I0 I i R S) (hok : ∀ x i3 xs k I' R', pers T q 0 i = .inr (x, i3) → plist T q 5 1 i3 = .inr (xs, k) → rowP R' 0 (x :: xs) → rdM T q I0 I' (sk T q k) R' S → Q (.returned (some (.int (nI (xs.length + 1))))) (mX e I' G)) (hokF : ∀ x i3 xs k v I', pers T q 0 i = .inr (x, i3) → plist T q 5 1 i3 = .inr (xs, k) → isC T q (sk T q k) 44 → rdN I0 I' (sk T q k) → Q (.returned (some (.int v))) (mX e I' G)) (hbad : ∀ p v I', (bnd (pers T q 0 i) fun x i3 => bnd (plist T q 5 1 i3) fun xs k => (.inr (x :: xs, k) : Rd (List Prs))) = .inl p → rdB T q I0 I' S p → Q (.returned (some (.int v))) (mX e I' G)) :
    Rn 118 0 [some (.ref 179), none, none, none, none, none, none] [] (0, 0) (mX e I G) Q := by
  refine g_X9_readPeople_0 (g_X9_readPeople_2 (fun _ _ h => absurd h (by decide)) (fun _ _ h => absurd h (by decide)) (fun _ _ _ _ => ?_) (fun h _ _ h' => absurd h h') (fun _ h => absurd rfl h) (fun h => absurd r.r4 h))
  refine m_pers (n := 0) (by omega) r (fun x i3 I3 hd r3 => ?_) (fun p I3 hd r3 => m_perB (by decide) r3 fun I4 r4 => hbad p _ I4 (bnd_l hd) r4)
  rw [nI_1]
  refine m_perLoop 5 1 i3 (by omega) (by omega) r3 (fun xs k' I' R' hx h1 h2 r' => ?_) (fun xs k' v I' hx h1 r' => hokF x i3 xs k' v I' hd hx h1 r') (fun p v I' hx r' => hbad p v I' (by rw [bnd_r hd, bnd_l hx]) r')
  have := hok x i3 xs k' I' R' hd hx ⟨?_, h1⟩ r'
  · rw [show xs.length + 1 = 1 + xs.length by omega] at this
    exact this
  · obtain ⟨p1, p2, p3, p4⟩ := put4_at (R := R) (n := 0) (x := x)
    exact ⟨by rw [h2 _ (by omega), p1], by rw [h2 _ (by omega), p2], by rw [h2 _ (by omega), p3], by rw [h2 _ (by omega), p4]⟩
/-! cases -/
abbrev cLo (a b : Int32) : Lo := [some (.ref 179), some (.int a), some (.int b), none, none]
theorem rdM.rowc (r : rdM T q I0 I k R S) {x : Cas} : rdM T q I0 (up2 (up2 I 183 (2 * m) x.1) 183 (2 * m + 1) x.2) k R (put2 S m x) := by
  obtain ⟨a, b, c, d, f⟩ := r
  refine ⟨a, ?_, fun j h1 h2 h3 => ?_, ?_, ?_⟩
  · rw [up2_ne (by omega), up2_ne (by omega)]; exact b
  · rw [up2_ne h3, up2_ne h3]; exact c j h1 h2 h3
  · rw [up2_ne (by omega), up2_ne (by omega)]; exact d
  · rw [up2_at, up2_at, f]; rfl
theorem m_cnF {x1 x2 : Int32} (r : rdN I0 I k) (hQ : ∀ I', rdN I0 I' k → Rn 121 2 (cLo x1 (x2 + 1)) [] (0, 0) (mX e I' G) Q) :
    Rn 115 0 [some (.ref 179), some (.int 0), some (.int 20), none, none, none] [] (0, 0) (mX e I G) (fun o X' => conF Rn 121 45 115 (cLo x1 x2) [] (0, 0) X' Q o) :=
  m_numF r fun v I1 r1 => g_X9_readCases_48 (m_takF r1 fun I2 r2 => g_X9_readCases_59 (fun _ h => absurd h r2.ne) (fun _ h => absurd h r2.ne) (fun _ h => absurd h r2.ne) (fun _ _ => hQ _ r2) (fun h => absurd rfl h))
theorem m_cas (hn : n ≤ 6) (hm : m < 6) (r : rdM T q I0 I i R S) (hok : ∀ x k I', casR T q n i = .inr (x, k) → rdM T q I0 I' k R (put2 S m x) → Rn 121 2 (cLo (nI n) (nI m + 1)) [] (0, 0) (mX e I' G) Q) (hbad : ∀ p I', casR T q n i = .inl p → rdN I0 I' p → Rn 121 2 (cLo (nI n) (nI m + 1)) [] (0, 0) (mX e I' G) Q) :
    Rn 115 0 [some (.ref 179), some (.int 0), some (.int 20), none, none, none] [] (0, 0) (mX e I G) (fun o X' => conF Rn 121 45 115 (cLo (nI n) (nI m)) [] (0, 0) X' Q o) := by
  unfold casR at hok hbad
  obtain ⟨⟨a0, b0⟩, ⟨a1, b1⟩⟩ := ix2 m hm
  refine m_num r (fun v k I1 hd r1 => g_X9_readCases_48 ?_) (fun p v I1 hd r1 => g_X9_readCases_48 (m_takF r1 fun I2 r2 => g_X9_readCases_59 (fun _ h => absurd h r2.ne) (fun _ h => absurd h r2.ne) (fun _ h => absurd h r2.ne) (fun _ _ => hbad p _ (bnd_l hd) r2) (fun h => absurd rfl h)))
  rw [bnd_r hd] at hok hbad
  by_cases h : isC T q (sk T q k) 64
  · have hl : accR T q n k = dig T q 0 (nI n - 1) (sk T q k + 1) := if_pos h
    refine m_tak (by decide) r1 (fun _ I2 r2 => g_X9_readCases_59 (fun h => absurd h (by decide)) (fun h => absurd h (by decide)) (fun h => absurd h (by decide)) (fun h => absurd h (by decide)) (fun _ => m_nx r2 fun I3 r3 => g_X9_readCases_66 ?_)) (fun h' => absurd h h')
    by_cases hx : sk T q (sk T q k + 1) < q ∧ inl (T (sk T q (sk T q k + 1)) - 48).toInt64 0 (nI n - 1).toInt64
    · have e1 : lt0 T q (sk T q (sk T q k + 1)) = T (sk T q (sk T q k + 1)) := if_pos hx.1
      have hy : dig T q 0 (nI n - 1) (sk T q k + 1) = .inr (T (sk T q (sk T q k + 1)) - 48, sk T q (sk T q k + 1) + 1) := if_pos hx
      rw [e1, bz_1 hx.2]
      refine m_mustY r3 (by decide) hx.1 fun I4 r4 => g_X9_readCases_86 (fun _ => a0) (fun _ => a1) (fun _ => ?_) (fun h => absurd r4.r4 h)
      rw [b0, b1]
      exact hok (v, _) _ _ (bnd_r (hl.trans hy)) (r4.rowc (x := (v, _)))
    · have hy : dig T q 0 (nI n - 1) (sk T q k + 1) = .inl (sk T q (sk T q k + 1)) := if_neg hx
      have no : ¬ inl (lt0 T q (sk T q (sk T q k + 1)) - 48).toInt64 0 (nI n - 1).toInt64 := fun x => by
        by_cases hq : sk T q (sk T q k + 1) < q
        · have e1 : lt0 T q (sk T q (sk T q k + 1)) = T (sk T q (sk T q k + 1)) := if_pos hq
          rw [e1] at x
          exact hx ⟨hq, x⟩
        · have e1 : lt0 T q (sk T q (sk T q k + 1)) = 0 := if_neg hq
          rw [e1] at x
          exact absurd x.1 (by decide)
      rw [bz_0 no]
      exact m_mustN r3 fun I4 r4 => g_X9_readCases_86 (fun _ => a0) (fun _ => a1) (fun h => absurd h r4.ne) (fun _ => hbad _ _ (bnd_l (hl.trans hy)) r4)
  · have hl : accR T q n k = .inr (-4, sk T q k) := if_neg h
    refine m_tak (by decide) r1 (fun h' => absurd h' h) (fun _ I2 r2 => g_X9_readCases_59 (fun _ _ => a0) (fun _ _ => a1) (fun _ _ => ?_) (fun _ h => absurd r2.r4 h) (fun h => absurd rfl h))
    rw [b0, b1]
    exact hok (v, -4) _ _ (bnd_r hl) (r2.rowc (x := (v, -4)))
theorem m_casLoop (hn : n ≤ 6) : ∀ r m i {I : Nat → Nat → Int32} {S : Nat → Int32}, m + r = 6 → 0 < m → rdM T q I0 I i R S → (∀ xs k I' S', clist T q n r i = .inr (xs, k) → rowC S' m xs → (∀ j, j < 2 * m → S' j = S j) → rdM T q I0 I' (sk T q k) R S' → Q (.returned (some (.int (nI (m + xs.length))))) (mX e I' G)) → (∀ xs k v I', clist T q n r i = .inr (xs, k) → isC T q (sk T q k) 44 → rdN I0 I' (sk T q k) → Q (.returned (some (.int v))) (mX e I' G)) → (∀ p v I', clist T q n r i = .inl p → rdN I0 I' p → Q (.returned (some (.int v))) (mX e I' G)) →
    Rn 121 2 (cLo (nI n) (nI m)) [] (0, 0) (mX e I G) Q := by
  intro r
  induction r with
  | zero =>
    intro m i I S hm h0 rc hok hokF hbad
    have ne0 : ¬ nI m = 0 := nI_ne0 h0 (by omega)
    refine g_X9_readCases_2 (fun _ h => absurd h ne0) (fun _ h => absurd h ne0) (fun _ h => absurd h ne0) (fun _ _ => m_nx rc fun I1 r1 => ?_) (fun h => absurd rc.r4 h)
    have gt : 0 < nI m := nI_lt (a := 0) h0 (by omega)
    have no : ¬ nI m < 6 := nI_nlt (b := 6) (by omega) (by omega)
    refine g_X9_readCases_17 (fun _ _ h => absurd h no) (fun h _ _ => ?_) (fun _ h => absurd gt h) (fun h => ?_)
    · rw [lt0_C (by decide)] at h
      exact m_mustN r1 fun I2 r2 => g_X9_readCases_41 (m_cnF r2 fun I4 r4 => g_X9_readCases_2 (fun h => absurd h r4.ne) (fun h => absurd h r4.ne) (fun h => absurd h r4.ne) (fun h => absurd h r4.ne) (fun _ => hokF [] i _ I4 rfl h r4))
    · exact hok [] i I1 S rfl trivial (fun _ _ => rfl) r1
  | succ r ih =>
    intro m i I S hm h0 rc hok hokF hbad
    have ne0 : ¬ nI m = 0 := nI_ne0 h0 (by omega)
    refine g_X9_readCases_2 (fun _ h => absurd h ne0) (fun _ h => absurd h ne0) (fun _ h => absurd h ne0) (fun _ _ => m_nx rc fun I1 r1 => ?_) (fun h => absurd rc.r4 h)
    have gt : 0 < nI m := nI_lt (a := 0) h0 (by omega)
    have yes : nI m < 6 := nI_lt (b := 6) (by omega) (by omega)
    refine g_X9_readCases_17 (fun h _ _ => ?_) (fun _ _ h => absurd yes h) (fun _ h => absurd gt h) (fun h => ?_)
    · rw [lt0_C (by decide)] at h
      have hl : clist T q n (r + 1) i = bnd (casR T q n (sk T q i + 1)) fun x k => bnd (clist T q n r k) fun xs k' => .inr (x :: xs, k') := if_pos h
      refine m_mustY r1 (by decide) h.1 fun I2 r2 => g_X9_readCases_41 ?_
      refine m_cas hn (by omega) r2 (fun x k I3 hd r3 => ?_) (fun p I3 hd r3 => g_X9_readCases_2 (fun h => absurd h r3.ne) (fun h => absurd h r3.ne) (fun h => absurd h r3.ne) (fun h => absurd h r3.ne) (fun _ => hbad p _ I3 (by rw [hl, bnd_l hd]) r3))
      rw [nI_1]
      refine ih (m + 1) k (by omega) (by omega) r3 (fun xs k' I' S' hx h1 h2 r' => ?_) (fun xs k' v I' hx h1 r' => hokF (x :: xs) k' v I' (by rw [hl, bnd_r hd, bnd_r hx]) h1 r') (fun p v I' hx r' => hbad p v I' (by rw [hl, bnd_r hd, bnd_l hx]) r')
      have := hok (x :: xs) k' I' S' (by rw [hl, bnd_r hd, bnd_r hx]) ⟨?_, h1⟩ (fun j hj => by rw [h2 j (by omega), put2_ne hj]) r'
      · rw [List.length_cons, show m + (xs.length + 1) = m + 1 + xs.length by omega] at this
        exact this
      · obtain ⟨p1, p2⟩ := put2_at (R := S) (n := m) (x := x)
        exact ⟨by rw [h2 _ (by omega), p1], by rw [h2 _ (by omega), p2]⟩
    · rw [lt0_C (by decide)] at h
      have hl : clist T q n (r + 1) i = .inr ([], sk T q i) := if_neg h
      exact hok [] _ I1 S hl trivial (fun _ _ => rfl) (by rw [sk_sk]; exact r1)
theorem m_cases (hn : n ≤ 6) (r : rdM T q I0 I i R S) (hok : ∀ x i3 xs k I' S', casR T q n i = .inr (x, i3) → clist T q n 5 i3 = .inr (xs, k) → rowC S' 0 (x :: xs) → rdM T q I0 I' (sk T q k) R S' → Q (.returned (some (.int (nI (xs.length + 1))))) (mX e I' G)) (hokF : ∀ x i3 xs k v I', casR T q n i = .inr (x, i3) → clist T q n 5 i3 = .inr (xs, k) → isC T q (sk T q k) 44 → rdN I0 I' (sk T q k) → Q (.returned (some (.int v))) (mX e I' G)) (hbad : ∀ p v I', (bnd (casR T q n i) fun x i3 => bnd (clist T q n 5 i3) fun xs k => (.inr (x :: xs, k) : Rd (List Cas))) = .inl p → rdN I0 I' p → Q (.returned (some (.int v))) (mX e I' G)) :
    Rn 121 0 [some (.ref 179), some (.int (nI n)), none, none, none] [] (0, 0) (mX e I G) Q := by
  refine g_X9_readCases_0 (g_X9_readCases_2 (fun _ _ h => absurd h (by decide)) (fun _ _ h => absurd h (by decide)) (fun _ _ _ => ?_) (fun _ h => absurd rfl h) (fun h => absurd r.r4 h))
  refine m_cas (m := 0) hn (by omega) r (fun x i3 I3 hd r3 => ?_) (fun p I3 hd r3 => g_X9_readCases_2 (fun h => absurd h r3.ne) (fun h => absurd h r3.ne) (fun h => absurd h r3.ne) (fun h => absurd h r3.ne) (fun _ => hbad p _ I3 (bnd_l hd) r3))
  rw [nI_1]
  refine m_casLoop hn 5 1 i3 (by omega) (by omega) r3 (fun xs k' I' R' hx h1 h2 r' => ?_) (fun xs k' v I' hx h1 r' => hokF x i3 xs k' v I' hd hx h1 r') (fun p v I' hx r' => hbad p v I' (by rw [bnd_r hd, bnd_l hx]) r')
  have := hok x i3 xs k' I' R' hd hx ⟨?_, h1⟩ r'
  · rw [show xs.length + 1 = 1 + xs.length by omega] at this
    exact this
  · obtain ⟨p1, p2⟩ := put2_at (R := S) (n := 0) (x := x)
    exact ⟨by rw [h2 _ (by omega), p1], by rw [h2 _ (by omega), p2]⟩
end S97
