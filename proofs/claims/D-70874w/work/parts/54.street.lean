/-! street: the twin -/
section S54
variable {e : En} {G : Nat → Nat → Int64} {Q : Po}
/-- the town, but for two who linger otherwise -/
def bt2 (t : Nat → Int32) (p o : Nat) (T : Nat → Int32) : Prop := ∃ a b, T = up1 (up1 t (9 + 5 * p) a) (9 + 5 * o) b
theorem bt2.str {t : Nat → Int32} {p o i j : Nat} : bt2 t p o (strT t p o i j) := ⟨_, _, rfl⟩
theorem m_strK {n m d p o i j : Nat} {w w2 a5 x6 x7 : Int32} {t : Nat → Int32} (ok : Ok t n m d) (hp : p < n) (ho : o < n) (hpo : p ≠ o) (hi : i < 7) (hj : j < 7) : ∀ kk k {I : Nat → Nat → Int32}, k + kk = 7 → bt2 t p o (nw I) →
    (∀ I', bt2 t p o (nw I') → fr 180 180 I I' → Rn 148 95 [some (.ref 179), some (.int (nI p)), some (.int w), some (.int (nI o)), some (.int w2), some (.int a5), some (.int x6), some (.int x7), some (.int (nI i)), some (.int (nI j)), some (.int (acc (exB (fun k => AA t p o w k j) 7))), some (.int (acc (exB (fun k => BB t p o w2 i k) 7))), some (.int (nI 7))] [] (0, 0) (mX e I' G) Q) →
    Rn 148 95 [some (.ref 179), some (.int (nI p)), some (.int w), some (.int (nI o)), some (.int w2), some (.int a5), some (.int x6), some (.int x7), some (.int (nI i)), some (.int (nI j)), some (.int (acc (exB (fun k => AA t p o w k j) k))), some (.int (acc (exB (fun k => BB t p o w2 i k) k))), some (.int (nI k))] [] (0, 0) (mX e I G) Q := by
  have h6 := ok.n6
  intro kk
  induction kk with
  | zero =>
    intro k I hk ht hK
    have : k = 7 := by omega
    subst this
    exact hK I ht fr.rf
  | succ kk ih =>
    intro k I hk ht hK
    have yes : nI k < 7 := nI_lt (b := 7) (by omega) (by omega)
    have nxt : ∀ I', bt2 t p o (nw I') → fr 180 180 I I' → Rn 148 95 [some (.ref 179), some (.int (nI p)), some (.int w), some (.int (nI o)), some (.int w2), some (.int a5), some (.int x6), some (.int x7), some (.int (nI i)), some (.int (nI j)), some (.int (acc (exB (fun k => AA t p o w k j) (k + 1)))), some (.int (acc (exB (fun k => BB t p o w2 i k) (k + 1)))), some (.int (nI (k + 1)))] [] (0, 0) (mX e I' G) Q :=
      fun I' t' f' => ih (k + 1) (by omega) t' fun I2 t2 f2 => hK I2 t2 (f'.tr f2)
    -- the second, where it isn't known yet
    have h144 : exB (fun k => BB t p o w2 i k) k = false → ∀ I1, bt2 t p o (nw I1) → fr 180 180 I I1 → Rn 149 0 [some (.ref 179), some (.int (nI o)), some (.int w2), some (.int (nI p)), some (.int (nI i)), some (.int (nI o)), some (.int (nI k))] [] (0, 0) (mX e I1 G) (fun o' X' => conF Rn 148 144 149 [some (.ref 179), some (.int (nI p)), some (.int w), some (.int (nI o)), some (.int w2), some (.int a5), some (.int x6), some (.int x7), some (.int (nI i)), some (.int (nI j)), some (.int (acc (exB (fun k => AA t p o w k j) (k + 1)))), none, some (.int (nI k))] [] (0, 0) X' Q o') := by
      intro hf I1 t1 f1
      refine m_has ok hp ho hpo hi (by omega) t1 fun I2 t2 f2 => ?_
      have nx := nxt I2 (by rw [t2]; exact bt2.str) (f1.tr f2)
      have ee : exB (fun k => BB t p o w2 i k) (k + 1) = BB t p o w2 i k := by
        show (exB (fun k => BB t p o w2 i k) k || BB t p o w2 i k) = _
        rw [hf, Bool.false_or]
      rw [ee] at nx
      refine g_X9_street_147 (fun h => ?_) (fun h => ?_)
      · rw [show acc (BB t p o w2 i k) = 0 from h] at nx
        rw [nI_1]; exact nx
      · rw [show BB t p o w2 i k = true from acc_n.mp h] at nx
        rw [nI_1]; exact nx
    have hsk : exB (fun k => BB t p o w2 i k) k = true → ∀ I1, bt2 t p o (nw I1) → fr 180 180 I I1 → Rn 148 95 [some (.ref 179), some (.int (nI p)), some (.int w), some (.int (nI o)), some (.int w2), some (.int a5), some (.int x6), some (.int x7), some (.int (nI i)), some (.int (nI j)), some (.int (acc (exB (fun k => AA t p o w k j) (k + 1)))), some (.int 1), some (.int (nI k + 1))] [] (0, 0) (mX e I1 G) Q := by
      intro hf I1 t1 f1
      have nx := nxt I1 t1 f1
      have ee : exB (fun k => BB t p o w2 i k) (k + 1) = true := by
        show (exB (fun k => BB t p o w2 i k) k || BB t p o w2 i k) = _
        rw [hf, Bool.true_or]
      rw [ee] at nx
      rw [nI_1]; exact nx
    cases hA : exB (fun k => AA t p o w k j) k with
    | false =>
      have ee : exB (fun k => AA t p o w k j) (k + 1) = AA t p o w k j := by
        show (exB (fun k => AA t p o w k j) k || AA t p o w k j) = _
        rw [hA, Bool.false_or]
      rw [ee] at h144 hsk
      refine g_X9_street_95 (fun _ _ => ?_) (fun _ h => absurd rfl h) (fun _ h => absurd rfl h) (fun h => absurd yes h) (fun h => absurd yes h) (fun h => absurd yes h) (fun h => absurd yes h)
      refine m_has ok hp ho hpo (by omega) hj ht fun I1 t1 f1 => ?_
      have b1 : bt2 t p o (nw I1) := by rw [t1]; exact bt2.str
      refine g_X9_street_119 (fun h1 h2 => ?_) (fun h1 h2 => ?_) (fun h1 h2 => ?_) (fun h1 h2 => ?_)
      · rw [show acc (AA t p o w k j) = 0 from h1] at h144
        exact h144 (acc_0.mp h2) I1 b1 f1
      · rw [show acc (AA t p o w k j) = 0 from h1] at hsk
        exact hsk (acc_n.mp h2) I1 b1 f1
      · rw [show AA t p o w k j = true from acc_n.mp h1] at h144
        exact h144 (acc_0.mp h2) I1 b1 f1
      · rw [show AA t p o w k j = true from acc_n.mp h1] at hsk
        exact hsk (acc_n.mp h2) I1 b1 f1
    | true =>
      have ee : exB (fun k => AA t p o w k j) (k + 1) = true := by
        show (exB (fun k => AA t p o w k j) k || AA t p o w k j) = _
        rw [hA, Bool.true_or]
      rw [ee] at h144 hsk
      exact g_X9_street_95 (fun _ h => absurd h (by decide)) (fun _ _ h2 => h144 (acc_0.mp h2) I ht fr.rf) (fun _ _ h2 => hsk (acc_n.mp h2) I ht fr.rf) (fun h => absurd yes h) (fun h => absurd yes h) (fun h => absurd yes h) (fun h => absurd yes h)
theorem m_strCell {n m d p o i j : Nat} {w w2 a5 x7 : Int32} {c : Nat} {t : Nat → Int32} {I : Nat → Nat → Int32} (ok : Ok t n m d) (hp : p < n) (ho : o < n) (hpo : p ≠ o) (hi : i < 7) (hj : j < 7) (hc : c < 50) (ht : bt2 t p o (nw I))
    (hy : restB (AA t p o w) (BB t p o w2) i j = true → ∀ I', bt2 t p o (nw I') → fr 180 180 I I' → Rn 148 79 [some (.ref 179), some (.int (nI p)), some (.int w), some (.int (nI o)), some (.int w2), some (.int a5), some (.int (nI (c + 1))), some (.int (if c = 0 then nI (10 * i + j) else x7)), some (.int (nI i)), some (.int (nI (j + 1))), none, none, none] [] (0, 0) (mX e I' G) Q)
    (hn : restB (AA t p o w) (BB t p o w2) i j = false → ∀ I', bt2 t p o (nw I') → fr 180 180 I I' → Rn 148 79 [some (.ref 179), some (.int (nI p)), some (.int w), some (.int (nI o)), some (.int w2), some (.int a5), some (.int (nI c)), some (.int x7), some (.int (nI i)), some (.int (nI (j + 1))), none, none, none] [] (0, 0) (mX e I' G) Q) :
    Rn 148 95 [some (.ref 179), some (.int (nI p)), some (.int w), some (.int (nI o)), some (.int w2), some (.int a5), some (.int (nI c)), some (.int x7), some (.int (nI i)), some (.int (nI j)), some (.int 0), some (.int 0), some (.int 0)] [] (0, 0) (mX e I G) Q := by
  refine m_strK ok hp ho hpo hi hj 7 0 (by omega) ht fun I1 t1 f1 => ?_
  have no : ¬ nI 7 < 7 := by decide
  have yes0 : restB (AA t p o w) (BB t p o w2) i j = true → ∀ I', bt2 t p o (nw I') → fr 180 180 I I' → nI c = 0 → Rn 148 79 [some (.ref 179), some (.int (nI p)), some (.int w), some (.int (nI o)), some (.int w2), some (.int a5), some (.int (nI c + 1)), some (.int (10 * nI i + nI j)), some (.int (nI i)), some (.int (nI j + 1)), none, none, none] [] (0, 0) (mX e I' G) Q := by
    intro hr I' t' f' h0
    have c0 : c = 0 := (nI_eq (b := 0) (by omega) (by omega)).mp h0
    have := hy hr I' t' f'
    rw [if_pos c0] at this
    rw [nI_1, nI_1, c107 i hi j hj]; exact this
  have yes1 : restB (AA t p o w) (BB t p o w2) i j = true → ∀ I', bt2 t p o (nw I') → fr 180 180 I I' → ¬ nI c = 0 → Rn 148 79 [some (.ref 179), some (.int (nI p)), some (.int w), some (.int (nI o)), some (.int w2), some (.int a5), some (.int (nI c + 1)), some (.int x7), some (.int (nI i)), some (.int (nI j + 1)), none, none, none] [] (0, 0) (mX e I' G) Q := by
    intro hr I' t' f' h0
    have c0 : ¬ c = 0 := fun q => h0 (by rw [q]; rfl)
    have := hy hr I' t' f'
    rw [if_neg c0] at this
    rw [nI_1, nI_1]; exact this
  have no0 : restB (AA t p o w) (BB t p o w2) i j = false → ∀ I', bt2 t p o (nw I') → fr 180 180 I I' → Rn 148 79 [some (.ref 179), some (.int (nI p)), some (.int w), some (.int (nI o)), some (.int w2), some (.int a5), some (.int (nI c + 0)), some (.int x7), some (.int (nI i)), some (.int (nI j + 1)), none, none, none] [] (0, 0) (mX e I' G) Q := by
    intro hr I' t' f'
    rw [nI_1, Int32.add_zero]; exact hn hr I' t' f'
  have rb : ∀ {a b c d : Bool}, exB (fun k => AA t p o w k j) 7 = a → AA t p o w i j = b → exB (fun k => BB t p o w2 i k) 7 = c → BB t p o w2 i j = d → restB (AA t p o w) (BB t p o w2) i j = ((!a || b) && (!c || d)) := fun h1 h2 h3 h4 => by
    unfold restB; rw [h1, h2, h3, h4]
  -- the second at last
  have s198 : ∀ I2, bt2 t p o (nw I2) → fr 180 180 I I2 → (!(exB (fun k => AA t p o w k j) 7) || AA t p o w i j) = true → exB (fun k => BB t p o w2 i k) 7 = true → Rn 149 0 [some (.ref 179), some (.int (nI o)), some (.int w2), some (.int (nI p)), some (.int (nI i)), some (.int (nI o)), some (.int (nI j))] [] (0, 0) (mX e I2 G) (fun o' X' => conF Rn 148 198 149 [some (.ref 179), some (.int (nI p)), some (.int w), some (.int (nI o)), some (.int w2), some (.int a5), some (.int (nI c)), some (.int x7), some (.int (nI i)), some (.int (nI j)), none, none, none] [] (0, 0) X' Q o') := by
    intro I2 t2 f2 hA hB
    refine m_has ok hp ho hpo hi hj t2 fun I3 t3 f3 => ?_
    have b3 : bt2 t p o (nw I3) := by rw [t3]; exact bt2.str
    have hr : restB (AA t p o w) (BB t p o w2) i j = BB t p o w2 i j := by
      unfold restB; rw [hA, hB]; rfl
    refine g_X9_street_201 (fun h => no0 (by rw [hr]; exact acc_0.mp h) I3 b3 (f2.tr f3)) (fun h h0 => yes0 (by rw [hr]; exact acc_n.mp h) I3 b3 (f2.tr f3) h0) (fun h h0 => yes1 (by rw [hr]; exact acc_n.mp h) I3 b3 (f2.tr f3) h0)
  refine g_X9_street_95 (fun h => absurd h no) (fun h => absurd h no) (fun h => absurd h no) (fun _ h1 h2 h3 => ?_) (fun _ h1 h2 h3 => ?_) (fun _ h1 h2 => ?_) (fun _ h1 => ?_)
  · refine yes0 ?_ I1 t1 f1 h3
    rw [rb (acc_0.mp h1) rfl (acc_0.mp h2) rfl]; rfl
  · refine yes1 ?_ I1 t1 f1 h3
    rw [rb (acc_0.mp h1) rfl (acc_0.mp h2) rfl]; rfl
  · exact s198 I1 t1 f1 (by rw [acc_0.mp h1]; rfl) (acc_n.mp h2)
  · refine m_has ok hp ho hpo hi hj t1 fun I2 t2 f2 => ?_
    have b2 : bt2 t p o (nw I2) := by rw [t2]; exact bt2.str
    have o1 := acc_n.mp h1
    refine g_X9_street_180 (fun h => no0 ?_ I2 b2 (f1.tr f2)) (fun h h2 h0 => yes0 ?_ I2 b2 (f1.tr f2) h0) (fun h h2 h0 => yes1 ?_ I2 b2 (f1.tr f2) h0) (fun h h2 => s198 I2 b2 (f1.tr f2) ?_ (acc_n.mp h2))
    · rw [rb o1 (acc_0.mp h) rfl rfl]; rfl
    · rw [rb o1 (acc_n.mp h) (acc_0.mp h2) rfl]; rfl
    · rw [rb o1 (acc_n.mp h) (acc_0.mp h2) rfl]; rfl
    · rw [show AA t p o w i j = true from acc_n.mp h, Bool.or_true]
theorem upS_le (f : Nat → Bool) : ∀ k, (upS f k).1 ≤ k
  | 0 => Nat.le_refl _
  | k + 1 => by
    unfold upS
    have := upS_le f k
    split
    · exact Nat.succ_le_succ this
    · omega
theorem m_strJ {n m d p o i : Nat} {w w2 a5 : Int32} {t : Nat → Int32} (ok : Ok t n m d) (hp : p < n) (ho : o < n) (hpo : p ≠ o) (hi : i < 7) : ∀ jj j {I : Nat → Nat → Int32}, j + jj = 7 → bt2 t p o (nw I) →
    (∀ I', bt2 t p o (nw I') → fr 180 180 I I' → Rn 148 69 [some (.ref 179), some (.int (nI p)), some (.int w), some (.int (nI o)), some (.int w2), some (.int a5), some (.int (nI (upS (fun k => restB (AA t p o w) (BB t p o w2) (k / 7) (k % 7)) (7 * (i + 1))).1)), some (.int (upS (fun k => restB (AA t p o w) (BB t p o w2) (k / 7) (k % 7)) (7 * (i + 1))).2), some (.int (nI (i + 1))), none, none, none, none] [] (0, 0) (mX e I' G) Q) →
    Rn 148 79 [some (.ref 179), some (.int (nI p)), some (.int w), some (.int (nI o)), some (.int w2), some (.int a5), some (.int (nI (upS (fun k => restB (AA t p o w) (BB t p o w2) (k / 7) (k % 7)) (7 * i + j)).1)), some (.int (upS (fun k => restB (AA t p o w) (BB t p o w2) (k / 7) (k % 7)) (7 * i + j)).2), some (.int (nI i)), some (.int (nI j)), none, none, none] [] (0, 0) (mX e I G) Q := by
  intro jj
  induction jj with
  | zero =>
    intro j I hj ht hK
    have : j = 7 := by omega
    subst this
    refine g_X9_street_79 (fun h => absurd h (by decide)) (fun _ => ?_)
    rw [nI_1]
    exact hK I ht fr.rf
  | succ jj ih =>
    intro j I hj ht hK
    have yes : nI j < 7 := nI_lt (b := 7) (by omega) (by omega)
    refine g_X9_street_79 (fun _ => ?_) (fun h => absurd yes h)
    have e1 : (7 * i + j) / 7 = i := by omega
    have e2 : (7 * i + j) % 7 = j := by omega
    refine m_strCell ok hp ho hpo hi (by omega) (by have := upS_le (fun k => restB (AA t p o w) (BB t p o w2) (k / 7) (k % 7)) (7 * i + j); omega) ht (fun hr I' t' f' => ?_) (fun hr I' t' f' => ?_)
    · have := ih (j + 1) (by omega) t' fun I2 t2 f2 => hK I2 t2 (f'.tr f2)
      rw [show 7 * i + (j + 1) = 7 * i + j + 1 by omega, upS, e1, e2, hr] at this
      exact this
    · have := ih (j + 1) (by omega) t' fun I2 t2 f2 => hK I2 t2 (f'.tr f2)
      rw [show 7 * i + (j + 1) = 7 * i + j + 1 by omega, upS, e1, e2, hr] at this
      exact this
theorem m_strI {n m d p o : Nat} {w w2 a5 : Int32} {t : Nat → Int32} (ok : Ok t n m d) (hp : p < n) (ho : o < n) (hpo : p ≠ o) : ∀ ii i {I : Nat → Nat → Int32}, i + ii = 7 → bt2 t p o (nw I) → cut (I 185) = t →
    (∀ I', nw I' = t → frM I I' → Q (.returned (some (.int (if a5 = 0 then nI (upS (fun k => restB (AA t p o w) (BB t p o w2) (k / 7) (k % 7)) 49).1 else (upS (fun k => restB (AA t p o w) (BB t p o w2) (k / 7) (k % 7)) 49).2)))) (mX e I' G)) →
    Rn 148 69 [some (.ref 179), some (.int (nI p)), some (.int w), some (.int (nI o)), some (.int w2), some (.int a5), some (.int (nI (upS (fun k => restB (AA t p o w) (BB t p o w2) (k / 7) (k % 7)) (7 * i)).1)), some (.int (upS (fun k => restB (AA t p o w) (BB t p o w2) (k / 7) (k % 7)) (7 * i)).2), some (.int (nI i)), none, none, none, none] [] (0, 0) (mX e I G) Q := by
  intro ii
  induction ii with
  | zero =>
    intro i I hi ht h5 hQ
    have : i = 7 := by omega
    subst this
    refine g_X9_street_69 (fun h => absurd h (by decide)) (fun _ => ?_)
    refine m_backs fun I3 t3 f3 => ?_
    have hq := hQ I3 (t3.trans h5) f3.m
    refine g_X9_street_267 (fun h => ?_) (fun h => ?_)
    · rw [if_pos h] at hq; exact hq
    · rw [if_neg h] at hq; exact hq
  | succ ii ih =>
    intro i I hi ht h5 hQ
    have yes : nI i < 7 := nI_lt (b := 7) (by omega) (by omega)
    refine g_X9_street_69 (fun _ => ?_) (fun h => absurd yes h)
    exact m_strJ ok hp ho hpo (by omega) 7 0 (by omega) ht fun I' t' f' => ih (i + 1) (by omega) t' (by rw [f' 185 (by omega)]; exact h5) fun I2 t2 f2 => hQ I2 t2 (f'.m.tr f2)
theorem m_street (a1 a2 a3 a4 a5 : Int32) : qM 148 [some (.ref 179), some (.int a1), some (.int a2), some (.int a3), some (.int a4), some (.int a5), none, none, none, none, none, none, none] (fun t => twoP (t 0) a1 a3 ∧ inl a2.toInt64 0 1 ∧ inl a4.toInt64 0 1 ∧ inl a5.toInt64 0 1) (fun t => strR t a1.toNatClampNeg a2 a3.toNatClampNeg a4 a5) := by
  intro e I G Q n m d ok hd hb hQ
  dsimp only at hb hQ
  have h6 := ok.n6
  refine g_X9_street_0 (fun h => hb (fun q => h q.1.1)) (fun _ h => hb (fun q => h q.2.1)) (fun _ _ h => hb (fun q => h q.1.2.1)) (fun _ _ _ h => hb (fun q => q.1.2.2 h)) (fun _ _ _ _ h => hb (fun q => h q.2.2.1)) (fun _ _ _ _ _ h => hb (fun q => h q.2.2.2)) (fun h1 h2 h3 h4 h5 h7 => ?_)
  have hQ := hQ ⟨⟨h1, h3, h4⟩, h2, h5, h7⟩
  rw [show I 180 0 = nI n from ok.hn] at h1 h3
  obtain ⟨p, hp, rfl⟩ := isP h6 h1
  obtain ⟨o, ho, rfl⟩ := isP h6 h3
  have hpo : p ≠ o := fun q => h4 (by rw [q])
  rw [nI_clamp (by omega), nI_clamp (by omega)] at hQ
  refine m_asides fun I1 t1 f1 => g_X9_street_66 ?_
  have e1 : nw I1 = nw I := congrArg cut (f1 180 (by omega))
  refine m_strI (t := nw I) ok hp ho hpo 7 0 (by omega) ⟨nw I (9 + 5 * p), nw I (9 + 5 * o), by rw [e1, up1_same, up1_same]⟩ t1 fun I' t' f' => ?_
  exact hQ I' t' (f1.ma.tr f')
end S54
