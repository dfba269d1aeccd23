/-! THE WHOLE: town; what may be undone; tape; image; sheets -/
abbrev ShT : Type := Nat → Option (Nat × Nat × (Nat → Int64))
abbrev Sg : Type := (Nat → Int32) × (Nat × (Nat → Nat → Int32)) × (Nat × (Nat → Int32)) × (Bool × (Nat → Int32) × Nat × (Nat → Nat → Int32)) × ShT
/-- the array type of a lane -/
def ltp (l : Nat) : Nat := if l = 0 then 3 else if l = 1 then 4 else if l = 2 then 0 else 1
def rowV (l : Nat) (I : Nat → Nat → Int32) (G : Nat → Nat → Int64) (r i : Nat) : Int64 := if l = 3 then G r i else (I r i).toInt64
/-- what lies in a row of bytes or shorts is one -/
def fitL (l : Nat) (x : Int32) : Prop := (l = 0 → ∃ v, x = nrw 3 v) ∧ (l = 1 → ∃ v, x = nrw 4 v)
def shC (e : En) (I : Nat → Nat → Int32) (G : Nat → Nat → Int64) (sh : ShT) : Prop :=
  192 ≤ e.2.2.1 ∧ (∀ s, s < 4 → (sh s = none → e.2.1 (47 + s) 0 = .null) ∧ ∀ l z f, sh s = some (l, z, f) → ∃ r, 192 ≤ r ∧ r < e.2.2.1 ∧ e.2.1 (47 + s) 0 = .ref r ∧ e.1 r = some (.inr (ltp l, z)) ∧ ∀ i, i < z → rowV l I G r i = f i ∧ fitL l (I r i)) ∧
  ∀ s s', s < 4 → s' < 4 → s ≠ s' → ∀ r, e.2.1 (47 + s) 0 = .ref r → ¬ e.2.1 (47 + s') 0 = .ref r
def shM (I : Nat → Nat → Int32) (G : Nat → Nat → Int64) (sh : ShT) : Prop :=
  ∀ s, s < 4 → (sh s = none → I 188 s = -1) ∧ ∀ l z f, sh s = some (l, z, f) → I 188 s = nI l ∧ I 189 s = nI z ∧ ∀ i, i < z → G 190 (24 * s + i) = f i
def bI1 (b : Bool) : Int32 := if b then 1 else 0
def CR (σ : Sg) (e : En) (I : Nat → Nat → Int32) (G : Nat → Nat → Int64) : Prop :=
  (∃ π, cUn e I π σ.2.1.1 σ.2.1.2) ∧ twn I 7 = σ.1 ∧ (I 0 4 = nI σ.2.2.1.1 ∧ ∀ i, i < σ.2.2.1.1 → I 16 i = σ.2.2.1.2 i) ∧
  (I 0 16 = bI1 σ.2.2.2.1.1 ∧ (σ.2.2.2.1.1 = true → twn I 37 = σ.2.2.2.1.2.1 ∧ I 0 15 = nI σ.2.2.2.1.2.2.1 ∧ σ.2.2.2.1.2.2.1 ≤ 8 ∧ ∀ k, k < σ.2.2.2.1.2.2.1 → dayT (twn I (59 + 16 * k)) = σ.2.2.2.1.2.2.2 k)) ∧ shC e I G σ.2.2.2.2
def kU (I : Nat → Nat → Int32) (k : Nat) : Nat → Int32 := fun i => if i < 28 then I 187 (49 + (28 * k + i)) else 0
def MR (σ : Sg) (I : Nat → Nat → Int32) (G : Nat → Nat → Int64) : Prop :=
  mUn I σ.2.1.1 σ.2.1.2 ∧ nw I = σ.1 ∧ (I 179 2 = nI σ.2.2.1.1 ∧ ∀ i, i < σ.2.2.1.1 → I 181 i = σ.2.2.1.2 i) ∧
  (I 179 13 = bI1 σ.2.2.2.1.1 ∧ (σ.2.2.2.1.1 = true → cut (I 187) = σ.2.2.2.1.2.1 ∧ I 179 12 = nI σ.2.2.2.1.2.2.1 ∧ ∀ k, k < σ.2.2.2.1.2.2.1 → kU I k = σ.2.2.2.1.2.2.2 k)) ∧ shM I G σ.2.2.2.2
/-- of what may be undone -/
def OkU (n m : Nat) (D : Nat → Int32) : Prop := (∃ d, d ≤ 9999 ∧ D 0 = nI d) ∧ ¬ D 3 < 0 ∧ (∀ p, p < n → ∃ k, k ≤ 60 ∧ D (4 + p) = nI k) ∧ (∀ c, c < m → ∃ k, k ≤ 20 ∧ D (16 + 2 * c) = nI k) ∧ ∀ c, c < m → D (17 + 2 * c) = -4 ∨ ∃ k, k < n ∧ D (17 + 2 * c) = nI k
/-- a town with what may be undone -/
def OkV (t : Nat → Int32) (u : Nat) (U : Nat → Nat → Int32) : Prop := ∃ n m d, Ok t n m d ∧ d ≤ 9999 ∧ Wy t n ∧ u ≤ 8 ∧ ∀ k, k < u → OkU n m (U k)
def OkG (σ : Sg) : Prop := OkV σ.1 σ.2.1.1 σ.2.1.2 ∧ (σ.2.2.1.1 ≤ 120 ∧ ∀ i, i < σ.2.2.1.1 → ∃ c, 32 ≤ c ∧ c ≤ 126 ∧ σ.2.2.1.2 i = nI c) ∧ (σ.2.2.2.1.1 = true → OkV σ.2.2.2.1.2.1 σ.2.2.2.1.2.2.1 σ.2.2.2.1.2.2.2) ∧ ∀ s, s < 4 → ∀ l z f, σ.2.2.2.2 s = some (l, z, f) → l < 4 ∧ z ≤ 24
/-- the component leaves the twin alone, and the twin the component -/
def keepC (e : En) (I : Nat → Nat → Int32) (G : Nat → Nat → Int64) (e' : En) (I' : Nat → Nat → Int32) (G' : Nat → Nat → Int64) : Prop := e'.2.2.2 = e.2.2.2 ∧ ∀ k, 179 ≤ k → k ≤ 191 → I' k = I k ∧ G' k = G k
def keepM (I : Nat → Nat → Int32) (G : Nat → Nat → Int64) (I' : Nat → Nat → Int32) (G' : Nat → Nat → Int64) : Prop := ∀ k, (k < 179 ∨ 191 < k) → I' k = I k ∧ G' k = G k
def oC (y : Nat) (L : Lo) (F : Sg → Int32 × Sg) : Prop := ∀ {e : En} {I : Nat → Nat → Int32} {G : Nat → Nat → Int64} {Q : Po} {σ : Sg}, CR σ e I G → OkG σ → (∀ e' I' G', CR (F σ).2 e' I' G' → keepC e I G e' I' G' → Q (.returned (some (.int (F σ).1))) (mX e' I' G')) → Rn y 0 L [] (0, 0) (mX e I G) Q
def oM (y : Nat) (L : Lo) (F : Sg → Int32 × Sg) : Prop := ∀ {e : En} {I : Nat → Nat → Int32} {G : Nat → Nat → Int64} {Q : Po} {σ : Sg}, MR σ I G → OkG σ → (∀ I' G', MR (F σ).2 I' G' → keepM I G I' G' → Q (.returned (some (.int (F σ).1))) (mX e I' G')) → Rn y 0 L [] (0, 0) (mX e I G) Q
def oK (F : Sg → Int32 × Sg) : Prop := ∀ σ, OkG σ → OkG (F σ).2
theorem cUn_con {e : En} {I I' : Nat → Nat → Int32} {π : Nat → Nat} {u : Nat} {U : Nat → Nat → Int32} (h : cUn e I π u U) (h0 : I' 0 8 = I 0 8) (hk : ∀ k, inPast k → I' k = I k) : cUn e I' π u U := by
  obtain ⟨a, b, c, d⟩ := h
  refine ⟨a, by rw [h0]; exact b, c, fun k hk2 => ?_⟩
  rw [← d k hk2]
  have := (a.1 k (by omega)).2
  rw [twn_con fun o ho => hk _ ⟨π k, this, by omega, by omega⟩]
theorem kep_con {I I' : Nat → Nat → Int32} {k : Nat} (hk : ∀ q, 59 + 16 * k ≤ q → q ≤ 59 + 16 * k + 7 → I' q = I q) : twn I' (59 + 16 * k) = twn I (59 + 16 * k) := twn_con fun o ho => hk _ (by omega) (by omega)
theorem shC_con {e : En} {I I' : Nat → Nat → Int32} {G G' : Nat → Nat → Int64} {sh : ShT} (h : shC e I G sh) (hI : ∀ k, 192 ≤ k → I' k = I k) (hG : ∀ k, 192 ≤ k → G' k = G k) : shC e I' G' sh := by
  obtain ⟨a, b, c⟩ := h
  refine ⟨a, fun s hs => ⟨(b s hs).1, fun l z f hf => ?_⟩, c⟩
  obtain ⟨r, r1, r2, r3, r4, r5⟩ := (b s hs).2 l z f hf
  refine ⟨r, r1, r2, r3, r4, fun i hi => ?_⟩
  unfold rowV
  rw [hI r r1, hG r r1]
  exact r5 i hi
/-- CR stands when nothing that it tells of has changed -/
theorem CR.con {σ : Sg} {e : En} {I I' : Nat → Nat → Int32} {G G' : Nat → Nat → Int64} (h : CR σ e I G) (h7 : twn I' 7 = twn I 7) (h0 : I' 0 = I 0) (h16 : I' 16 = I 16) (hk : ∀ k, 37 ≤ k → k ≤ 178 → I' k = I k) (hI : ∀ k, 192 ≤ k → I' k = I k) (hG : ∀ k, 192 ≤ k → G' k = G k) : CR σ e I' G' := by
  obtain ⟨⟨π, a⟩, b, c, ⟨d1, d2⟩, f⟩ := h
  refine ⟨⟨π, cUn_con a (by rw [h0]) (fun k ⟨q, a1, a2, a3⟩ => hk k (by omega) (by omega))⟩, by rw [h7]; exact b, by rw [h0, h16]; exact c, ⟨by rw [h0]; exact d1, fun hkp => ?_⟩, shC_con f hI hG⟩
  obtain ⟨e1, e2, e3, e4⟩ := d2 hkp
  refine ⟨by rw [twn_con fun o ho => hk _ (by omega) (by omega)]; exact e1, by rw [h0]; exact e2, e3, fun k hk2 => ?_⟩
  rw [← e4 k hk2, kep_con fun q a1 a2 => hk q (by omega) (by omega)]
theorem MR.con {σ : Sg} {I I' : Nat → Nat → Int32} {G G' : Nat → Nat → Int64} (h : MR σ I G) (hn : nw I' = nw I) (h1 : I' 179 = I 179) (h2 : I' 181 = I 181) (h3 : I' 184 = I 184) (h4 : I' 187 = I 187) (h5 : I' 188 = I 188) (h6 : I' 189 = I 189) (h7 : G' 190 = G 190) : MR σ I' G' := by
  obtain ⟨⟨a1, a2, a3⟩, b, c, ⟨d1, d2⟩, f⟩ := h
  refine ⟨⟨by rw [h1]; exact a1, a2, fun k hk => ?_⟩, by rw [hn]; exact b, by rw [h1, h2]; exact c, ⟨by rw [h1]; exact d1, fun hkp => ?_⟩, fun s hs => ?_⟩
  · rw [← a3 k hk]; unfold mU; rw [h3]
  · obtain ⟨e1, e2, e3⟩ := d2 hkp
    refine ⟨by rw [h4]; exact e1, by rw [h1]; exact e2, fun k hk => ?_⟩
    rw [← e3 k hk]; unfold kU; rw [h4]
  · rw [h5, h6, h7]; exact f s hs
theorem CR.kM {σ : Sg} {e : En} {I I' : Nat → Nat → Int32} {G G' : Nat → Nat → Int64} (h : CR σ e I G) (k : keepM I G I' G') : CR σ e I' G' :=
  h.con (twn_con fun o ho => (k _ (by omega)).1) (k _ (by omega)).1 (k _ (by omega)).1 (fun q _ _ => (k q (by omega)).1) (fun q _ => (k q (by omega)).1) (fun q _ => (k q (by omega)).2)
theorem MR.kC {σ : Sg} {e e' : En} {I I' : Nat → Nat → Int32} {G G' : Nat → Nat → Int64} (h : MR σ I G) (k : keepC e I G e' I' G') : MR σ I' G' :=
  h.con (nw_con (k.2 180 (by omega) (by omega)).1) (k.2 179 (by omega) (by omega)).1 (k.2 181 (by omega) (by omega)).1 (k.2 184 (by omega) (by omega)).1 (k.2 187 (by omega) (by omega)).1 (k.2 188 (by omega) (by omega)).1 (k.2 189 (by omega) (by omega)).1 (k.2 190 (by omega) (by omega)).2
/-- a question -/
noncomputable def qF (v : (Nat → Int32) → Prop) (f : (Nat → Int32) → Int32) (σ : Sg) : Int32 × Sg := (@ite _ (v σ.1) (Classical.propDecidable _) (f σ.1) (-1), σ)
theorem oC_q {y : Nat} {L : Lo} {v : (Nat → Int32) → Prop} {f : (Nat → Int32) → Int32} (h : qC y L v f) : oC y L (qF v f) := by
  intro e I G Q σ hC hO hQ
  obtain ⟨⟨n, m, d, ok, hd, -⟩, -⟩ := hO
  have h7 : twn I 7 = σ.1 := hC.2.1
  rw [← h7] at ok
  refine h ok hd (fun hv => ?_) (fun hv I' t' f' => ?_)
  · have := hQ e I G hC ⟨rfl, fun k _ _ => ⟨rfl, rfl⟩⟩
    unfold qF at this
    dsimp only at this
    rw [if_neg (by rw [← h7]; exact hv)] at this
    exact this
  · have := hQ e I' G (hC.con t' (f' 0 (by omega)) (f' 16 (by omega)) (fun k _ _ => f' k (by omega)) (fun k _ => f' k (by omega)) (fun _ _ => rfl)) ⟨rfl, fun k _ _ => ⟨f' k (by omega), rfl⟩⟩
    unfold qF at this
    dsimp only at this
    rw [if_pos (by rw [← h7]; exact hv), ← h7] at this
    exact this
theorem oM_qw {y : Nat} {L : Lo} {v : (Nat → Int32) → Prop} {f : (Nat → Int32) → Int32} (h : qMw y L v f) : oM y L (qF v f) := by
  intro e I G Q σ hC hO hQ
  obtain ⟨⟨n, m, d, ok, hd, hw, -⟩, -⟩ := hO
  have h7 : nw I = σ.1 := hC.2.1
  rw [← h7] at ok hw
  refine h hw ok hd (fun hv => ?_) (fun hv I' t' f' => ?_)
  · have := hQ I G hC (fun k _ => ⟨rfl, rfl⟩)
    unfold qF at this
    dsimp only at this
    rw [if_neg (by rw [← h7]; exact hv)] at this
    exact this
  · have := hQ I' G (hC.con t' (f' 179 (by omega)) (f' 181 (by omega)) (f' 184 (by omega)) (f' 187 (by omega)) (f' 188 (by omega)) (f' 189 (by omega)) rfl) (fun k hk => ⟨f' k (by omega), rfl⟩)
    unfold qF at this
    dsimp only at this
    rw [if_pos (by rw [← h7]; exact hv), ← h7] at this
    exact this
theorem oM_q {y : Nat} {L : Lo} {v : (Nat → Int32) → Prop} {f : (Nat → Int32) → Int32} (h : qM y L v f) : oM y L (qF v f) := oM_qw (fun _ => h)
theorem oK_q {v : (Nat → Int32) → Prop} {f : (Nat → Int32) → Int32} : oK (qF v f) := fun _ h => h
theorem keepC.rf {e : En} {I : Nat → Nat → Int32} {G : Nat → Nat → Int64} : keepC e I G e I G := ⟨rfl, fun _ _ _ => ⟨rfl, rfl⟩⟩
theorem keepM.rf {I : Nat → Nat → Int32} {G : Nat → Nat → Int64} : keepM I G I G := fun _ _ => ⟨rfl, rfl⟩
theorem keepC.tr {e e' e'' : En} {I I' I'' : Nat → Nat → Int32} {G G' G'' : Nat → Nat → Int64} (h1 : keepC e I G e' I' G') (h2 : keepC e' I' G' e'' I'' G'') : keepC e I G e'' I'' G'' := ⟨h2.1.trans h1.1, fun k a b => ⟨(h2.2 k a b).1.trans (h1.2 k a b).1, (h2.2 k a b).2.trans (h1.2 k a b).2⟩⟩
theorem keepM.tr {I I' I'' : Nat → Nat → Int32} {G G' G'' : Nat → Nat → Int64} (h1 : keepM I G I' G') (h2 : keepM I' G' I'' G'') : keepM I G I'' G'' := fun k a => ⟨(h2 k a).1.trans (h1 k a).1, (h2 k a).2.trans (h1 k a).2⟩
theorem fr.kC {a b : Nat} {e : En} {I I' : Nat → Nat → Int32} {G : Nat → Nat → Int64} (h : fr a b I I') (hb : b < 179) : keepC e I G e I' G := ⟨rfl, fun k h1 h2 => ⟨h k (by omega), rfl⟩⟩
theorem frN.kC {e : En} {I I' : Nat → Nat → Int32} {G : Nat → Nat → Int64} (h : frN I I') : keepC e I G e I' G := ⟨rfl, fun k h1 h2 => ⟨h.1 k (by omega) (fun ⟨q, a, b, c⟩ => by omega), rfl⟩⟩
theorem frO.kM {I I' : Nat → Nat → Int32} {G : Nat → Nat → Int64} (h : frO I I') : keepM I G I' G := fun k hk => ⟨h.1 k (by omega) (by omega), rfl⟩
theorem fr.kM {a b : Nat} {I I' : Nat → Nat → Int32} {G : Nat → Nat → Int64} (h : fr a b I I') (ha : 179 ≤ a) (hb : b ≤ 191) : keepM I G I' G := fun k hk => ⟨h k (by omega), rfl⟩
/-- what of a town isn't the day's -/
theorem dq_no : ∀ p, p < 6 → (dq (7 + 5 * p) = none ∧ dq (8 + 5 * p) = none ∧ dq (11 + 5 * p) = none) := by decide +kernel
theorem putD_no {t D : Nat → Int32} {j : Nat} (h : dq j = none) : putD t D j = t j := by unfold putD; rw [h]
theorem putD_at {t D : Nat → Int32} {i : Nat} (h : i < 28) : putD t D (dp i) = D i := by unfold putD; rw [dq_dp i h]
theorem dp_c : ∀ c, c < 6 → (dp (16 + 2 * c) = 37 + 2 * c ∧ dp (17 + 2 * c) = 38 + 2 * c) := by decide +kernel
theorem okU_day {t : Nat → Int32} {n m d : Nat} (ok : Ok t n m d) (hd : d ≤ 9999) : OkU n m (dayT t) := by
  have h6 := ok.n6
  have hm := ok.m6
  refine ⟨⟨d, hd, ok.hd⟩, ok.draw, fun p hp => ?_, fun c hc => ?_, fun c hc => ?_⟩
  · rw [(dayT_l.1 p (by omega)).1]; exact ok.ling p hp
  · unfold dayT; rw [if_pos (by omega), (dp_c c (by omega)).1]; exact ok.prf c hc
  · unfold dayT; rw [if_pos (by omega), (dp_c c (by omega)).2]; exact ok.acc c hc
theorem ok_put {t D : Nat → Int32} {n m d : Nat} (ok : Ok t n m d) (h : OkU n m D) : ∃ d', d' ≤ 9999 ∧ Ok (putD t D) n m d' := by
  obtain ⟨⟨d', hd', e0⟩, u3, u4, u5, u6⟩ := h
  have h6 := ok.n6
  have hm := ok.m6
  obtain ⟨h1, h2, h3, h4, h5, -, h7, h8, -, h10, h11, -, -, -⟩ := ok
  refine ⟨d', hd', h1, h2, ?_, ?_, ?_, by omega, ?_, ?_, ?_, ?_, ?_, ?_, ?_, ?_⟩
  · rw [putD_no rfl]; exact h3
  · rw [putD_no rfl]; exact h4
  · exact (putD_at (t := t) (D := D) (i := 0) (by omega)).trans e0
  · intro p hp; rw [putD_no (dq_no p (by omega)).1]; exact h7 p hp
  · intro p hp; rw [putD_no (dq_no p (by omega)).2.1]; exact h8 p hp
  · intro p hp; rw [← (dp_l.1 p (by omega)).1, putD_at (by omega)]; exact u4 p hp
  · intro p q hp; rw [putD_no (dq_no p (by omega)).2.2]; exact h10 p q hp
  · intro p q hp hq; rw [putD_no (dq_no p (by omega)).2.2, putD_no (dq_no q (by omega)).2.2]; exact h11 p q hp hq
  · intro c hc; rw [← (dp_c c (by omega)).1, putD_at (by omega)]; exact u5 c hc
  · intro c hc; rw [← (dp_c c (by omega)).2, putD_at (by omega)]; exact u6 c hc
  · rw [show putD t D 6 = D 3 from putD_at (i := 3) (by omega)]; exact u3
theorem wy_put {t D : Nat → Int32} {n : Nat} (hn : n ≤ 6) (h : Wy t n) : Wy (putD t D) n := fun p hp => by
  rw [putD_no (dq_no p (by omega)).2.1]; exact h p hp
theorem noteN_le {u : Nat} (h : u ≤ 8) : noteN u ≤ 8 := by unfold noteN; split <;> omega
/-- what may be undone stays in order -/
theorem okV_note {t t' : Nat → Int32} {u : Nat} {U : Nat → Nat → Int32} {n m d d' : Nat} (ok : Ok t n m d) (hd : d ≤ 9999) (hu : u ≤ 8) (hU : ∀ k, k < u → OkU n m (U k)) (ok' : Ok t' n m d') (hd' : d' ≤ 9999) (hw : Wy t' n) : OkV t' (noteN u) (noteU u U (dayT t)) := by
  refine ⟨n, m, d', ok', hd', hw, noteN_le hu, fun k hk => ?_⟩
  unfold noteN at hk
  unfold noteU
  by_cases h8 : u = 8
  · rw [if_pos h8] at hk ⊢
    by_cases h7 : k < 7
    · rw [if_pos h7]; exact hU _ (by omega)
    · rw [if_neg h7]; exact okU_day ok hd
  · rw [if_neg h8] at hk ⊢
    by_cases hk2 : k = u
    · rw [if_pos hk2]; exact okU_day ok hd
    · rw [if_neg hk2]; exact hU k (by omega)
