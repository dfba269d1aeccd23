/-! a town is read: the twin -/
theorem MR.txt {σ : Sg} {I I' : Nat → Nat → Int32} {G : Nat → Nat → Int64} {t' : Nat → Int32} {u' : Nat} (h : MR σ I G) (ht : nw I' = t') (h2 : I' 179 2 = 0) (h8 : (I' 179 8 = 0 ∧ u' = 0) ∨ (I' 179 8 = I 179 8 ∧ u' = σ.2.1.1)) (h12 : I' 179 12 = I 179 12) (h13 : I' 179 13 = I 179 13) (hk : ∀ k, 184 ≤ k → k ≤ 191 → I' k = I k) : MR (t', (u', σ.2.1.2), (0, σ.2.2.1.2), σ.2.2.2) I' G := by
  obtain ⟨⟨a1, a2, a3⟩, b, c, ⟨d1, d2⟩, g⟩ := h
  refine ⟨?_, ht, ⟨h2, fun i hi => absurd hi (Nat.not_lt_zero _)⟩, ⟨by rw [h13]; exact d1, fun hkp => ?_⟩, fun s hs => ?_⟩
  · rcases h8 with ⟨h8, rfl⟩ | ⟨h8, rfl⟩
    · exact ⟨h8, Nat.zero_le _, fun k hk => absurd hk (Nat.not_lt_zero _)⟩
    · refine ⟨by rw [h8]; exact a1, a2, fun k hk2 => ?_⟩
      rw [← a3 k hk2]; unfold mU; rw [hk 184 (by omega) (by omega)]
  · obtain ⟨e1, e2, e3⟩ := d2 hkp
    refine ⟨by rw [hk 187 (by omega) (by omega)]; exact e1, by rw [h12]; exact e2, fun k hk2 => ?_⟩
    rw [← e3 k hk2]; unfold kU; rw [hk 187 (by omega) (by omega)]
  · rw [hk 188 (by omega) (by omega), hk 189 (by omega) (by omega)]; exact g s hs
theorem plist_len {T : Nat → Int32} {q : Nat} : ∀ r n i xs k, plist T q r n i = .inr (xs, k) → xs.length ≤ r := by
  intro r
  induction r with
  | zero => intro n i xs k h; cases h; exact Nat.le_refl 0
  | succ r ih =>
    intro n i xs k h
    unfold plist at h
    split at h
    · cases hp : pers T q n (sk T q i + 1) with
      | inl p => rw [bnd_l hp] at h; cases h
      | inr y =>
        rw [bnd_r (v := y.1) (k := y.2) hp] at h
        cases hl : plist T q r (n + 1) y.2 with
        | inl p => rw [bnd_l hl] at h; cases h
        | inr z =>
          rw [bnd_r (v := z.1) (k := z.2) hl] at h
          cases h
          have := ih _ _ z.1 z.2 hl
          rw [List.length_cons]
          omega
    · cases h; exact Nat.zero_le _
theorem clist_len {T : Nat → Int32} {q p : Nat} : ∀ r i xs k, clist T q p r i = .inr (xs, k) → xs.length ≤ r := by
  intro r
  induction r with
  | zero => intro i xs k h; cases h; exact Nat.le_refl 0
  | succ r ih =>
    intro i xs k h
    unfold clist at h
    split at h
    · cases hp : casR T q p (sk T q i + 1) with
      | inl p => rw [bnd_l hp] at h; cases h
      | inr y =>
        rw [bnd_r (v := y.1) (k := y.2) hp] at h
        cases hl : clist T q p r y.2 with
        | inl p => rw [bnd_l hl] at h; cases h
        | inr z =>
          rw [bnd_r (v := z.1) (k := z.2) hl] at h
          cases h
          have := ih _ z.1 z.2 hl
          rw [List.length_cons]
          omega
    · cases h; exact Nat.zero_le _
theorem bnd_inl {α β : Type} {r : Rd α} {f : α → Nat → Rd β} {p : Nat} (h : bnd r f = .inl p) : r = .inl p ∨ ∃ v k, r = .inr (v, k) ∧ f v k = .inl p := by
  cases r with
  | inl p' => cases h; exact Or.inl rfl
  | inr y => exact Or.inr ⟨y.1, y.2, rfl, h⟩
theorem bnd_inr {α β : Type} {r : Rd α} {f : α → Nat → Rd β} {z : β × Nat} (h : bnd r f = .inr z) : ∃ v k, r = .inr (v, k) ∧ f v k = .inr z := by
  cases r with
  | inl p' => cases h
  | inr y => exact ⟨y.1, y.2, rfl, h⟩
/-- a town being built -/
def bld (I0 I : Nat → Nat → Int32) (R S t : Nat → Int32) (b : Prop) : Prop := nw I = t ∧ I 182 = R ∧ I 183 = S ∧ I 179 2 = 0 ∧ (∀ f, f ≠ 2 → f ≠ 3 → f ≠ 4 → f ≠ 8 → I 179 f = I0 179 f) ∧ (b → I 179 8 = 0) ∧ ∀ j, j ≠ 179 → j ≠ 180 → j ≠ 182 → j ≠ 183 → I j = I0 j
section S98
variable {T : Nat → Int32} {q : Nat} {I0 I : Nat → Nat → Int32} {e : En} {G : Nat → Nat → Int64} {Q : Po} {k i n m p P C : Nat} {R S : Nat → Int32}
theorem bld.nxt {t t' : Nat → Int32} {b : Prop} {I' : Nat → Nat → Int32} (h : bld I0 I R S t b) (ht : nw I' = t') (h9 : I' 179 = up2 I 179 8 0 179) (hj : ∀ j, j ≠ 179 → j ≠ 180 → I' j = I j) : ∀ b' : Prop, bld I0 I' R S t' b' := by
  obtain ⟨a1, a2, a3, a4, a5, a6, a7⟩ := h
  intro b'
  refine ⟨ht, by rw [hj 182 (by omega) (by omega)]; exact a2, by rw [hj 183 (by omega) (by omega)]; exact a3, by rw [h9, up2_i (by omega)]; exact a4, fun f h2 h3 h4 h8 => by rw [h9, up2_i h8]; exact a5 f h2 h3 h4 h8, fun _ => by rw [h9]; exact up2_v, fun j b1 b2 b3 b4 => by rw [hj j b1 b2]; exact a7 j b1 b2 b3 b4⟩
theorem m_bldC (hC : C ≤ 6) : ∀ (cs : List Cas) j {I : Nat → Nat → Int32} {t : Nat → Int32}, j + cs.length = C → rowC S j cs → t 1 = nI j → bld I0 I R S t True → (∀ I', bld I0 I' R S (addC t j cs) True → Q (.returned (some (.int (nI P)))) (mX e I' G)) →
    Rn 114 219 [some (.ref 179), none, some (.int (nI P)), some (.int (nI C)), some (.int (nI j))] [] (0, 0) (mX e I G) Q := by
  intro cs
  induction cs with
  | nil =>
    intro j I t hj hr h1 hb hQ
    have : j = C := hj
    subst this
    have no : ¬ nI j < nI j := nI_nlt (Nat.le_refl _) (by omega)
    exact g_X9_town_219 (fun h => absurd h no) (fun h => absurd h no) (fun h => absurd h no) (fun _ => hQ I hb)
  | cons x xs ih =>
    intro j I t hj hr h1 hb hQ
    rw [List.length_cons] at hj
    have yes : nI j < nI C := nI_lt (by omega) (by omega)
    obtain ⟨⟨a0, b0⟩, ⟨a1, b1⟩⟩ := ix2 j (by omega)
    refine g_X9_town_219 (fun _ => a0) (fun _ => a1) (fun _ => ?_) (fun h => absurd yes h)
    rw [b0, b1, hb.2.2.1, hr.1.1, hr.1.2]
    refine m_caseComes (m := j) (by omega) (by rw [show I 180 1 = nw I 1 from rfl, hb.1]; exact h1) fun I' t' b1 b2 => g_X9_town_249 ?_
    rw [nI_1]
    rw [hb.1] at t'
    exact ih (j + 1) (by omega) hr.2 newC_at.2 (hb.nxt t' b1 b2 True) hQ
theorem m_bldP (hC : C ≤ 6) (hP : P ≤ 6) {cs : List Cas} (hc : cs.length = C) (hrc : rowC S 0 cs) : ∀ (xs : List Prs) j {I : Nat → Nat → Int32} {t : Nat → Int32}, j + xs.length = P → rowP R j xs → t 0 = nI j → t 1 = 0 → bld I0 I R S t (0 < j) → 0 < P → (∀ I', bld I0 I' R S (addC (addN t j xs) 0 cs) True → Q (.returned (some (.int (nI P)))) (mX e I' G)) →
    Rn 114 158 [some (.ref 179), none, some (.int (nI P)), some (.int (nI C)), some (.int (nI j))] [] (0, 0) (mX e I G) Q := by
  intro xs
  induction xs with
  | nil =>
    intro j I t hj hr h0 h1 hb hp hQ
    have : j = P := hj
    subst this
    have no : ¬ nI j < nI j := nI_nlt (Nat.le_refl _) (by omega)
    refine g_X9_town_158 (fun h => absurd h no) (fun h => absurd h no) (fun h => absurd h no) (fun h => absurd h no) (fun h => absurd h no) (fun _ => ?_)
    have hb' : bld I0 I R S t True := ⟨hb.1, hb.2.1, hb.2.2.1, hb.2.2.2.1, hb.2.2.2.2.1, fun _ => hb.2.2.2.2.2.1 hp, hb.2.2.2.2.2.2⟩
    exact m_bldC hC cs 0 (by omega) hrc h1 hb' hQ
  | cons x xs ih =>
    intro j I t hj hr h0 h1 hb hp hQ
    rw [List.length_cons] at hj
    have yes : nI j < nI P := nI_lt (by omega) (by omega)
    obtain ⟨⟨a0, b0⟩, ⟨a1, b1⟩, ⟨a2, b2⟩, ⟨a3, b3⟩⟩ := ix4 j (by omega)
    refine g_X9_town_158 (fun _ => a0) (fun _ => a1) (fun _ => a2) (fun _ => a3) (fun _ => ?_) (fun h => absurd yes h)
    rw [b0, b1, b2, b3, hb.2.1, hr.1.1, hr.1.2.1, hr.1.2.2.1, hr.1.2.2.2]
    refine m_personComes (p := j) (by omega) (by rw [show I 180 0 = nw I 0 from rfl, hb.1]; exact h0) fun I' t' b1 b2 => g_X9_town_210 ?_
    rw [nI_1]
    rw [hb.1] at t'
    exact ih (j + 1) (by omega) hr.2 newP_at.1 (newP_at.2.trans h1) (hb.nxt (t' := newP t j x.1 x.2.1 x.2.2.1 x.2.2.2) t' b1 b2 _) hp hQ
theorem m_end {x1 x2 x3 : Int32} (hT : ∀ i, i < q → ¬ T i = 0) (r : rdM T q I0 I (sk T q k) R S) (hok : ¬ sk T q k < q → ∀ I', rdM T q I0 I' (sk T q k) R S → Rn 114 158 [some (.ref 179), none, some (.int x2), some (.int x3), some (.int 0)] [] (0, 0) (mX e (up2 (up2 (up2 (up2 (up2 (up2 (up2 (up2 I' 179 4 0) 179 2 0) 180 0 0) 180 1 0) 180 2 0) 180 3 x1) 180 4 0) 180 5 (-4)) G) Q) (hbad : sk T q k < q → ∀ I', rdM T q I0 I' (sk T q k) R S → Q (.returned (some (.int (-20 - I' 179 3)))) (mX e (up2 (up2 I' 179 4 1) 179 2 0) G)) :
    Rn 116 0 [some (.ref 179)] [] (0, 0) (mX e I G) (fun o X' => conF Rn 114 78 116 [some (.ref 179), some (.int x1), some (.int x2), some (.int x3), none] [.ref 179] (0, 0) X' Q o) := by
  refine m_nx r fun I1 r1 => ?_
  rw [sk_sk] at r1 ⊢
  by_cases h : sk T q k < q
  · have e1 : lt0 T q (sk T q k) = T (sk T q k) := if_pos h
    have no : ¬ lt0 T q (sk T q k) = 0 := by rw [e1]; exact hT _ h
    exact g_X9_town_81 (fun x => absurd x no) (fun _ => hbad h I1 r1)
  · have e1 : lt0 T q (sk T q k) = 0 := if_neg h
    exact g_X9_town_81 (fun _ => hok h I1 r1) (fun x => absurd e1 x)
end S98
theorem m_town : oM 114 [some (.ref 179), none, none, none, none] townF := by
  intro e I G Q σ hM hO hQ
  obtain ⟨-, ⟨hq, hT⟩, -⟩ := id hO
  generalize hTT : σ.2.2.1.2 = T at *
  generalize hqq : σ.2.2.1.1 = q at *
  have h7 : nw I = σ.1 := hM.2.1
  have h4 := hM.2.2.1.1
  have h16 := hM.2.2.1.2
  rw [hqq] at h4 h16
  rw [hTT] at h16
  have hT0 : ∀ i, i < q → ¬ T i = 0 := fun i hi => by
    obtain ⟨c, c1, c2, e1⟩ := hT i hi
    rw [e1]
    exact nI_ne0 (by omega) (by omega)
  unfold townF at hQ
  rw [hTT, hqq] at hQ
  -- how a fault is told
  have flt : ∀ p I1, townR T q = .inl p → I1 179 3 = nI p → (∀ f, f ≠ 3 → f ≠ 4 → I1 179 f = I 179 f) → (∀ j, j ≠ 179 → j ≠ 182 → j ≠ 183 → I1 j = I j) → Q (.returned (some (.int (-20 - I1 179 3)))) (mX e (up2 (up2 I1 179 4 1) 179 2 0) G) := by
    intro p I1 hr h3 hf hj
    rw [hr] at hQ
    dsimp only at hQ
    rw [h3]
    have := hM.txt (I' := up2 (up2 I1 179 4 1) 179 2 0) (t' := σ.1) (u' := σ.2.1.1) (by rw [nw_ne (by omega), nw_ne (by omega), ← h7]; exact nw_con (hj 180 (by omega) (by omega) (by omega))) up2_v (Or.inr ⟨by rw [up2_i (by omega), up2_i (by omega)]; exact hf 8 (by omega) (by omega), rfl⟩) (by rw [up2_i (by omega), up2_i (by omega)]; exact hf 12 (by omega) (by omega)) (by rw [up2_i (by omega), up2_i (by omega)]; exact hf 13 (by omega) (by omega)) (fun k a b => by rw [up2_ne (by omega), up2_ne (by omega)]; exact hj k (by omega) (by omega) (by omega))
    rw [hTT] at this
    refine hQ _ G this (fun k hk => ⟨?_, rfl⟩)
    rw [up2_ne (by omega), up2_ne (by omega)]
    exact hj k (by omega) (by omega) (by omega)
  have fltN : ∀ p I1, townR T q = .inl p → rdN I I1 p → Q (.returned (some (.int (-20 - I1 179 3)))) (mX e (up2 (up2 I1 179 4 1) 179 2 0) G) := fun p I1 hr r => flt p I1 hr r.1.1 r.1.2.2 r.2
  have fltM : ∀ p I1 R S, townR T q = .inl p → rdM T q I I1 p R S → Q (.returned (some (.int (-20 - I1 179 3)))) (mX e (up2 (up2 I1 179 4 1) 179 2 0) G) := fun p I1 R S hr r => flt p I1 hr r.2.1.1 r.2.1.2.2 r.2.2.1
  have aN : ∀ x1 v p I3, townR T q = .inl p → rdN I I3 p → Rn 119 0 [some (.ref 179), some (.int 59), none] [] (0, 0) (mX e I3 G) (fun o X' => conF Rn 114 53 119 [some (.ref 179), some (.int x1), some (.int v), none, none] [] (0, 0) X' Q o) := fun x1 v p I3 hr r =>
    m_takF r fun I4 r4 => g_X9_town_56 (fun _ h => absurd h r4.ne) (fun _ _ => fltN p I4 hr r4) (fun h => absurd rfl h)
  have aB : ∀ x1 v p I3 S, townR T q = .inl p → rdB T q I I3 S p → Rn 119 0 [some (.ref 179), some (.int 59), none] [] (0, 0) (mX e I3 G) (fun o X' => conF Rn 114 53 119 [some (.ref 179), some (.int x1), some (.int v), none, none] [] (0, 0) X' Q o) := by
    intro x1 v p I3 S hr r
    rcases r with r | ⟨R', r, hD⟩
    · exact aN x1 v p I3 hr r
    · have hs : sk T q p = p := sk_f (fun x => by
        have := hD.2.1
        rw [x.2] at this
        exact absurd this (by decide))
      refine m_tak (by decide) r (fun h => ?_) (fun _ I4 r4 => ?_)
      · rw [hs] at h
        have := hD.2.2
        rw [h.2] at this
        exact absurd this (by decide)
      · refine g_X9_town_56 (fun _ _ => ?_) (fun _ h => absurd r4.r4 h) (fun h => absurd rfl h)
        refine m_end hT0 r4 (fun h => ?_) (fun _ I5 r5 => ?_)
        · rw [hs] at h
          exact absurd hD.1 h
        · rw [hs] at r5
          exact fltM p I5 _ _ hr r5
  have r0 : rdM T q I (up2 (up2 I 179 3 0) 179 4 0) 0 (I 182) (I 183) :=
    ⟨⟨h4, h16, hq, Nat.zero_le _⟩, ⟨by rw [up2_i (by omega), up2_v]; rfl, up2_v, fun f h3 h4 => by rw [up2_i h4, up2_i h3]⟩, fun j a _ _ => by rw [up2_ne a, up2_ne a], by rw [up2_ne (by omega), up2_ne (by omega)], by rw [up2_ne (by omega), up2_ne (by omega)]⟩
  have tl : ∀ x1 p I2, townR T q = .inl p → rdN I I2 p → Rn 118 0 [some (.ref 179), none, none, none, none, none, none] [] (0, 0) (mX e I2 G) (fun o X' => conF Rn 114 46 118 [some (.ref 179), some (.int x1), none, none, none] [] (0, 0) X' Q o) := fun x1 p I2 hr r =>
    g_X9_readPeople_0 (g_X9_readPeople_2 (fun h => absurd h r.ne) (fun h => absurd h r.ne) (fun h => absurd h r.ne) (fun h => absurd h r.ne) (fun h => absurd h r.ne) (fun _ => g_X9_town_49 (aN x1 _ p I2 hr r)))
  refine g_X9_town_0 (m_num r0 (fun d i1 I1 hd r1 => ?_) (fun p v I1 hd f1 => ?_))
  · refine g_X9_town_19 (fun _ => m_nx r1 fun I2 r2 => g_X9_town_32 (fun h => ?_) (fun h => ?_)) (fun h => absurd r1.r4 h)
    · rw [lt0_C (by decide)] at h
      have hs : sgn T q 59 i1 = .inr ((), sk T q i1 + 1) := if_pos h
      refine m_mustY r2 (by decide) h.1 fun I3 r3 => g_X9_town_45 ?_
      have tR : ∀ {x i3 xs k}, pers T q 0 (sk T q i1 + 1) = .inr (x, i3) → plist T q 5 1 i3 = .inr (xs, k) → townR T q = bnd (rest T q (xs.length + 1) k) fun cs k => .inr ((d, x :: xs, cs), k) := by
        intro x i3 xs k hp hx
        unfold townR
        rw [bnd_r hd, bnd_r hs, bnd_r hp, bnd_r hx]
      -- all is read
      have good : ∀ {x i3 xs k cs k' I4 R' S'}, pers T q 0 (sk T q i1 + 1) = .inr (x, i3) → plist T q 5 1 i3 = .inr (xs, k) → rest T q (xs.length + 1) k = .inr (cs, k') → cs.length ≤ 6 → rowP R' 0 (x :: xs) → rowC S' 0 cs → rdM T q I I4 k' R' S' → Rn 114 158 [some (.ref 179), none, some (.int (nI (xs.length + 1))), some (.int (nI cs.length)), some (.int 0)] [] (0, 0) (mX e (up2 (up2 (up2 (up2 (up2 (up2 (up2 (up2 I4 179 4 0) 179 2 0) 180 0 0) 180 1 0) 180 2 0) 180 3 d) 180 4 0) 180 5 (-4)) G) Q := by
        intro x i3 xs k cs k' I4 R' S' hp hx hr hcl hrp hrc r4
        have hlen := plist_len _ _ _ _ _ hx
        have ht := (tR hp hx).trans (bnd_r hr)
        rw [ht] at hQ
        dsimp only at hQ
        rw [List.length_cons] at hQ
        have hb : bld I (up2 (up2 (up2 (up2 (up2 (up2 (up2 (up2 I4 179 4 0) 179 2 0) 180 0 0) 180 1 0) 180 2 0) 180 3 d) 180 4 0) 180 5 (-4)) R' S' (bgn σ.1 d) (0 < 0) := by
          refine ⟨?_, ?_, ?_, ?_, fun f h2 h3 h4 h8 => ?_, fun h => absurd h (by omega), fun j b1 b2 b3 b4 => ?_⟩
          · rw [nw_up (by omega), nw_up (by omega), nw_up (by omega), nw_up (by omega), nw_up (by omega), nw_up (by omega), nw_ne (by omega), nw_ne (by omega), nw_con (r4.2.2.1 180 (by omega) (by omega) (by omega)), h7]
            rfl
          · iterate 8 rw [up2_ne (by omega)]
            exact r4.2.2.2.1
          · iterate 8 rw [up2_ne (by omega)]
            exact r4.2.2.2.2
          · iterate 6 rw [up2_ne (by omega)]
            exact up2_v
          · iterate 6 rw [up2_ne (by omega)]
            rw [up2_i h2, up2_i h4]
            exact r4.2.1.2.2 f h3 h4
          · iterate 6 rw [up2_ne b2]
            rw [up2_ne b1, up2_ne b1]
            exact r4.2.2.1 j b1 b3 b4
        refine m_bldP (I0 := I) (R := R') (S := S') hcl (by omega) rfl hrc (x :: xs) 0 (by rw [List.length_cons, Nat.zero_add]) hrp bgn_at.1 bgn_at.2 hb (by omega) fun I' hb' => ?_
        obtain ⟨c1, c2, c3, c4, c5, c6, c7⟩ := hb'
        have := hM.txt (I' := I') (u' := 0) c1 c4 (Or.inl ⟨c6 trivial, rfl⟩) (c5 12 (by omega) (by omega) (by omega) (by omega)) (c5 13 (by omega) (by omega) (by omega) (by omega)) (fun k a b => c7 k (by omega) (by omega) (by omega) (by omega))
        rw [hTT] at this
        exact hQ I' G this (fun k hk => ⟨c7 k (by omega) (by omega) (by omega) (by omega), rfl⟩)
      refine m_people r3 (fun x i3 xs k I4 R' hp hx hrow r4 => g_X9_town_49 ?_) (fun x i3 xs k v I4 hp hx hc r4 => g_X9_town_49 (aN _ _ (sk T q k) I4 ?_ r4)) (fun p v I4 hp r4 => g_X9_town_49 (aB _ _ p I4 _ ?_ r4))
      · have hlen := plist_len _ _ _ _ _ hx
        refine m_tak (by decide) r4 (fun h I5 r5 => ?_) (fun h I5 r5 => ?_)
        · rw [sk_sk] at h r5
          have hl : rest T q (xs.length + 1) k = bnd (casR T q (xs.length + 1) (sk T q k + 1)) fun x k => bnd (clist T q (xs.length + 1) 5 k) fun xs k' => finR T q (x :: xs) k' := if_pos h
          refine g_X9_town_56 (fun h => absurd h (by decide)) (fun h => absurd h (by decide)) (fun _ => ?_)
          refine m_cases (n := xs.length + 1) (by omega) r5 (fun y j3 ys k2 I6 S' hy hys hrc r6 => ?_) (fun y j3 ys k2 v I6 hy hys hc r6 => ?_) (fun p v I6 hy r6 => ?_)
          · have hcl := clist_len _ _ _ _ hys
            refine g_X9_town_64 (fun _ => ?_) (fun h => absurd r6.r4 h)
            refine m_end hT0 r6 (fun hn I7 r7 => ?_) (fun hn I7 r7 => ?_)
            · have hr : rest T q (xs.length + 1) k = .inr (y :: ys, sk T q k2) := by
                rw [hl, bnd_r hy, bnd_r hys]
                exact if_neg hn
              exact good (cs := y :: ys) hp hx hr (by rw [List.length_cons]; omega) hrow hrc r7
            · refine fltM _ I7 _ _ ?_ r7
              have hr : rest T q (xs.length + 1) k = .inl (sk T q k2) := by
                rw [hl, bnd_r hy, bnd_r hys]
                exact if_pos hn
              rw [tR hp hx, bnd_l hr]
          · refine g_X9_town_64 (fun h => absurd h r6.ne) (fun _ => fltN _ I6 ?_ r6)
            have hr : rest T q (xs.length + 1) k = .inl (sk T q k2) := by
              rw [hl, bnd_r hy, bnd_r hys]
              exact if_pos hc.1
            rw [tR hp hx, bnd_l hr]
          · refine g_X9_town_64 (fun h => absurd h r6.ne) (fun _ => fltN _ I6 ?_ r6)
            have hr : rest T q (xs.length + 1) k = .inl p := by
              rw [hl]
              rcases bnd_inl hy with hy2 | ⟨y, k3, hy2, hy3⟩
              · exact bnd_l hy2
              · rcases bnd_inl hy3 with hy4 | ⟨z, k4, hy4, hy5⟩
                · rw [bnd_r hy2]
                  exact bnd_l hy4
                · cases hy5
            rw [tR hp hx, bnd_l hr]
        · rw [sk_sk] at h r5
          have hl : rest T q (xs.length + 1) k = finR T q [] (sk T q k) := if_neg h
          refine g_X9_town_56 (fun _ _ => ?_) (fun _ h => absurd r5.r4 h) (fun h => absurd rfl h)
          refine m_end hT0 r5 (fun hn I7 r7 => ?_) (fun hn I7 r7 => ?_)
          · have hr : rest T q (xs.length + 1) k = .inr ([], sk T q k) := by
              rw [hl]
              unfold finR
              rw [sk_sk]
              exact if_neg hn
            exact good (cs := []) hp hx hr (by decide) hrow trivial r7
          · refine fltM _ I7 _ _ ?_ r7
            have hr : rest T q (xs.length + 1) k = .inl (sk T q k) := by
              rw [hl]
              unfold finR
              rw [sk_sk]
              exact if_pos hn
            rw [tR hp hx, bnd_l hr]
      · have hl : rest T q (xs.length + 1) k = finR T q [] (sk T q k) := if_neg (fun x => by
          have := hc.2
          rw [x.2] at this
          exact absurd this (by decide))
        have hr : rest T q (xs.length + 1) k = .inl (sk T q k) := by
          rw [hl]
          unfold finR
          rw [sk_sk]
          exact if_pos hc.1
        rw [tR hp hx, bnd_l hr]
      · unfold townR
        rw [bnd_r hd, bnd_r hs]
        rcases bnd_inl hp with hp2 | ⟨y, k3, hp2, hp3⟩
        · exact bnd_l hp2
        · rcases bnd_inl hp3 with hp4 | ⟨z, k4, hp4, hp5⟩
          · rw [bnd_r hp2]
            exact bnd_l hp4
          · cases hp5
    · rw [lt0_C (by decide)] at h
      have hs : sgn T q 59 i1 = .inl (sk T q i1) := if_neg h
      have ht : townR T q = .inl (sk T q i1) := by
        unfold townR
        rw [bnd_r hd, bnd_l hs]
      exact m_mustN r2 fun I3 r3 => g_X9_town_45 (tl _ _ I3 ht r3)
  · have ht : townR T q = .inl p := by
      unfold townR
      rw [bnd_l hd]
    exact g_X9_town_19 (fun h => absurd h f1.ne) (fun _ => m_mustF f1 fun I2 f2 => g_X9_town_45 (tl _ _ I2 ht f2))
