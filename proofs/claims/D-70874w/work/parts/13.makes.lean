/-! soundness: what makes cells; copies; casts; the switch -/
theorem refO_agr {z z' : Ad} {nf : Nat} (h : agr z z' nf) {v : Value} (hv : vok nf v) : refO z' v = refO z v := by
  cases v with
  | ref k => show some (z'.2 k) = some (z.2 k); rw [h.2 k hv]
  | retAddr k => show z'.1 k = z.1 k; rw [h.1]
  | _ => rfl
theorem uo_ne {α : Type} {f : Nat → α} {k j : Nat} {v : α} (h : j ≠ k) : va_up f k v j = f j := by simp [va_up, h]
theorem uo_self {α : Type} {f : Nat → α} {k : Nat} {v : α} : va_up f k v k = v := by simp [va_up]
theorem agr_up {z : Ad} {nf q : Nat} : agr z (z.1, va_up z.2 nf q) nf := ⟨rfl, fun k hk => uo_ne (by omega)⟩
theorem cel_new {dA : Nat → ClassId} {z z' : Ad} {X : Xs} {h : Sh} (hw : wfX X) (ha : agr z z' X.1.2.2.1) {j : Nat} (hj : j < X.1.2.2.1) : cel dA z' (sN X h) j = cel dA z X j := by
  have hne : j ≠ X.1.2.2.1 := by omega
  have e1 : (sN X h).1.1 j = X.1.1 j := uo_ne hne
  have e2 : (sN X h).1.2.1 j = X.1.2.1 j := uo_ne hne
  have e3 : (sN X h).2.1 j = X.2.1 j := uo_ne hne
  have e4 : (sN X h).2.2 j = X.2.2 j := uo_ne hne
  have e5 : (fun i => refO z' (X.1.2.1 j i)) = fun i => refO z (X.1.2.1 j i) := by
    funext i; exact refO_agr ha (hw.1 j i hj).2
  unfold cel
  rw [e1]
  split
  · rename_i ci _
    congr 2
    apply List.map_congr_left
    intro i _
    have e6 : fv (sN X h) ci j i = fv X ci j i := by unfold fv; rw [e2, e3]
    rw [e6]
    exact ha.con (fv_vok hw hj)
  · rename_i t n _
    unfold celA
    rw [e2, e3, e4, e5]
  · rfl
theorem wfX.N {X : Xs} {h : Sh} (hw : wfX X) (ht : ∀ t n, h = .inr (t, n) → t < 8) : wfX (sN X h) := by
  refine ⟨fun k j hk => ?_, fun k hk => ?_, fun k t n hk => ?_⟩
  · show isRf (va_up X.1.2.1 X.1.2.2.1 (fun _ => .null) k j) = true ∧ vok (X.1.2.2.1 + 1) (va_up X.1.2.1 X.1.2.2.1 (fun _ => .null) k j)
    by_cases e : k = X.1.2.2.1
    · subst e; rw [uo_self]; exact ⟨rfl, trivial⟩
    · rw [uo_ne e]
      have hk2 : k < X.1.2.2.1 + 1 := hk
      have := hw.1 k j (by omega)
      exact ⟨this.1, this.2.mono (Nat.le_succ _)⟩
  · show k < X.1.2.2.1 + 1
    have hk2 : va_up X.1.1 X.1.2.2.1 (some h) k ≠ none := hk
    by_cases e : k = X.1.2.2.1
    · omega
    · rw [uo_ne e] at hk2
      have := hw.2.1 k hk2
      omega
  · have hk2 : va_up X.1.1 X.1.2.2.1 (some h) k = some (.inr (t, n)) := hk
    by_cases e : k = X.1.2.2.1
    · subst e; rw [uo_self] at hk2; exact ht t n (Option.some.inj hk2)
    · rw [uo_ne e] at hk2; exact hw.2.2 k t n hk2
theorem dflt_all : ∀ ci, ci < 10 → ∀ j, j < nfd ci → defaultValue (cyn ci j) = if fk ci j = 0 then .null else .int 0 := by decide +kernel
theorem isz_all : ∀ ci, ci < 10 → isz ci = nfd ci := by decide +kernel
theorem ini_all : ∀ ci, ci < 10 → Cond.instantiable (cRn ci) (nfd ci) ∈ lw_all ∧ Cond.initialized (cRn ci) ∈ lw_all
  | 0, _ => ⟨(lw_g (lw_at lw_m1 25 rfl) rfl), (lw_g (lw_at lw_m1 1 rfl) rfl)⟩
  | 1, _ => ⟨(lw_g (lw_at lw_m1 34 rfl) rfl), (lw_g (lw_at lw_m1 2 rfl) rfl)⟩
  | 2, _ => ⟨(lw_g (lw_at lw_m1 41 rfl) rfl), (lw_g (lw_at lw_m1 3 rfl) rfl)⟩
  | 3, _ => ⟨(lw_g (lw_at lw_m1 48 rfl) rfl), (lw_g (lw_at lw_m1 4 rfl) rfl)⟩
  | 4, _ => ⟨(lw_g (lw_at lw_m1 55 rfl) rfl), (lw_g (lw_at lw_m1 5 rfl) rfl)⟩
  | 5, _ => ⟨(lw_g (lw_at lw_m1 62 rfl) rfl), (lw_g (lw_at lw_m1 6 rfl) rfl)⟩
  | 6, _ => ⟨(lw_g (lw_at lw_m1 69 rfl) rfl), (lw_g (lw_at lw_m1 7 rfl) rfl)⟩
  | 7, _ => ⟨(lw_g (lw_at lw_m1 133 rfl) rfl), (lw_g (lw_at lw_m1 10 rfl) rfl)⟩
  | 8, _ => ⟨(lw_g (lw_at lw_m1 215 rfl) rfl), (lw_g (lw_at lw_m1 11 rfl) rfl)⟩
  | 9, _ => ⟨(lw_g (lw_at lw_m4 42 rfl) rfl), (lw_g (lw_at lw_m1 12 rfl) rfl)⟩
  | n + 10, h => absurd h (by omega)
def clsB (own : String) (i : Nat) (c : String) : Bool := clsT.any fun q => decide (q = (own, i, c))
theorem clsB_ok {own : String} {i : Nat} {c : String} (h : clsB own i c = true) : Cond.classLink own i c ∈ lw_all := by
  obtain ⟨q, hq, h2⟩ := List.any_eq_true.mp h
  rw [decide_eq_true_eq] at h2
  subst h2
  exact clsT_ok _ hq
theorem acl_all : ∀ t, t < 5 → Cond.arrayClass (aty t) ∈ lw_all
  | 0, _ => (lw_g (lw_at lw_m1 131 rfl) rfl)
  | 1, _ => (lw_g (lw_at lw_m3 195 rfl) rfl)
  | 2, _ => (lw_g (lw_at lw_m1 225 rfl) rfl)
  | 3, _ => (lw_g (lw_at lw_m3 189 rfl) rfl)
  | 4, _ => (lw_g (lw_at lw_m3 194 rfl) rfl)
  | n + 5, h => absurd h (by omega)
theorem aov_all : ∀ t, 5 ≤ t → t < 8 → Cond.arrayOver (.object (aCn t)) ∈ lw_tbl := by
  intro t h1 h2
  rcases (show t = 5 ∨ t = 6 ∨ t = 7 by omega) with rfl | rfl | rfl
  · exact (lw_at lw_m1 212 rfl)
  · exact (lw_at lw_m1 33 rfl)
  · exact (lw_at lw_m1 214 rfl)
theorem wsum_eq {z : Ad} : ∀ st : List Value, ((st.map (con z)).map fun v => v.category).sum = wsum st
  | [] => rfl
  | v :: r => by
    have ih := wsum_eq (z := z) r
    unfold wsum at ih ⊢
    simp only [List.map_cons, List.sum_cons]
    rw [ih, con_cat]
    congr 1
    cases v <;> rfl
section Mk
variable {p : Program} {l : Launch} {e : Env} {R : Room} {s : State} {m : MethodId} {args : Array Value} {below : List Frame} {meth : Method} {c : Code} {H : Heap} {locs : List Loc} {cells slots : Nat} {Qf : State → Prop} {D : va_G} {dA : Nat → ClassId} {A : Nat → Prop} {y : Nat} {X : Xs} {z : Ad}
theorem new_snd (hC : Ctx y p l R s m args meth c D dA A) (hWo : Wo D dA z A X H) (hSv : va_S A s.heap H locs) {a idx pc : Nat} {ls : Array Slot} {rest : List Value} (ha : a < 10) (hd : decode (mcod y) pc = .ok (.new idx, 3)) (hc : clsB (mnam y).cls idx (cRn a) = true) (hcl : cells + 1 ≤ R.cells) (hsl : slots + isz a ≤ R.slots)
    (kk : ∀ H1 z', agr z z' X.1.2.2.1 → z'.2 X.1.2.2.1 = z'.2 X.1.2.2.1 → Wo D dA z' A (sN X (.inl a)) H1 → va_S A s.heap H1 locs → W p l e R s m args below meth c H1 locs (cells + 1) (slots + isz a) Qf (F0 m (pc + 3) ls (.ref (z'.2 X.1.2.2.1) :: rest))) : W p l e R s m args below meth c H locs cells slots Qf (F0 m pc ls rest) := by
  obtain ⟨⟨hx, hb, hml, hown, hts⟩, -, hK, hA, -⟩ := hC
  have h15 : a < 15 := by omega
  rw [isz_all a ha] at hsl kk
  refine va_new (ci := a) (C := cRn a) (T := cT a) (N := nfd a) (fs := (List.range (nfd a)).map (fun j => if fk a j = 0 then Value.null else Value.int 0)) hx hb hts (cin_all a h15) (cyn a) (cty_all a h15) hown (hts _ (clsB_ok hc)) (hts _ (ini_all a ha).1) (hts _ (ini_all a ha).2) hK.1 hWo.2.1 hWo.2.2 hSv hA (mCl_at a h15) (fun j hj => ?_) hcl hsl hd (fun q H1 hP1 hD1 hS1 => ?_)
  · rw [dflt_all a ha j hj]
    unfold vp_V
    rw [List.getD_eq_getElem?_getD, range_at hj]
    rfl
  · have hz : agr z (z.1, va_up z.2 X.1.2.2.1 q) X.1.2.2.1 := agr_up
    have key : wl dA z X ++ [(q, .inr (a, (List.range (nfd a)).map (fun j => if fk a j = 0 then Value.null else Value.int 0)))] = wl dA (z.1, va_up z.2 X.1.2.2.1 q) (sN X (.inl a)) := by
      refine wl_push rfl uo_self (fun j hj => uo_ne (by omega)) ?_ (fun j hj => cel_new hWo.1 hz hj)
      rw [cel_obj (X := sN X (.inl a)) (a := a) uo_self]
      congr 2
      apply List.map_congr_left
      intro j _
      have e2 : (sN X (.inl a)).1.2.1 X.1.2.2.1 = fun _ => .null := uo_self
      have e3 : (sN X (.inl a)).2.1 X.1.2.2.1 = fun _ => 0 := uo_self
      unfold fv
      rw [e2, e3]
      split
      · rename_i h0; rw [if_pos h0]; rfl
      · rename_i h0; rw [if_neg (fun h => h0 h)]; rfl
    rw [key] at hP1 hD1
    have := kk H1 (z.1, va_up z.2 X.1.2.2.1 q) hz rfl ⟨hWo.1.N (fun t n h => by cases h), hP1, hD1⟩ hS1
    rw [show ((z.1, va_up z.2 X.1.2.2.1 q) : Ad).2 X.1.2.2.1 = q from uo_self] at this
    exact this
theorem newa_snd (hC : Ctx y p l R s m args meth c D dA A) (hWo : Wo D dA z A X H) (hSv : va_S A s.heap H locs) {a pc : Nat} {n : Int32} {at_ : ArrayType} {ls : Array Slot} {rest : List Value} (ha : a < 5) (hty : newarray.typeOf at_ = aty a) (hd : decode (mcod y) pc = .ok (.newarray at_, 2)) (hn : ¬ n < 0) (hn2 : n.toNatClampNeg ≤ 1000) (hcl : cells + 1 ≤ R.cells) (hsl : slots + n.toNatClampNeg ≤ R.slots)
    (kk : ∀ H1 z', agr z z' X.1.2.2.1 → Wo D dA z' A (sN X (.inr (a, n.toNatClampNeg))) H1 → va_S A s.heap H1 locs → W p l e R s m args below meth c H1 locs (cells + 1) (slots + n.toNatClampNeg) Qf (F0 m (pc + 2) ls (.ref (z'.2 X.1.2.2.1) :: rest))) : W p l e R s m args below meth c H locs cells slots Qf (F0 m pc ls (.int n :: rest)) := by
  obtain ⟨⟨hx, hb, hml, hown, hts⟩, -, hK, hA, -⟩ := hC
  have hcel : ∃ a0 : vp_A, (∀ cA : ClassId, vp_cell cA a0 = arrV cA n.toNatClampNeg (fun _ => defaultValue (aty a))) ∧ ∀ z' : Ad, celA dA z' (sN X (.inr (a, n.toNatClampNeg))) X.1.2.2.1 a n.toNatClampNeg = .inl (dA a, a0) := by
    have e3 : (sN X (.inr (a, n.toNatClampNeg))).2.1 X.1.2.2.1 = fun _ => 0 := uo_self
    have e4 : (sN X (.inr (a, n.toNatClampNeg))).2.2 X.1.2.2.1 = fun _ => 0 := uo_self
    rcases (show a = 0 ∨ a = 1 ∨ a = 2 ∨ a = 3 ∨ a = 4 by omega) with rfl | rfl | rfl | rfl | rfl
    · exact ⟨(n.toNatClampNeg, .inl (fun _ => 0)), fun cA => rfl, fun z' => by rw [celA_i (by omega) (by omega), e3]⟩
    · exact ⟨(n.toNatClampNeg, .inr (.inl (fun _ => 0))), fun cA => rfl, fun z' => by unfold celA; rw [e4]; rfl⟩
    · exact ⟨(n.toNatClampNeg, .inl (fun _ => 0)), fun cA => rfl, fun z' => by rw [celA_i (by omega) (by omega), e3]⟩
    · exact ⟨(n.toNatClampNeg, .inl (fun _ => 0)), fun cA => rfl, fun z' => by rw [celA_i (by omega) (by omega), e3]⟩
    · exact ⟨(n.toNatClampNeg, .inl (fun _ => 0)), fun cA => rfl, fun z' => by rw [celA_i (by omega) (by omega), e3]⟩
  obtain ⟨a0, ha0, hcel⟩ := hcel
  have hby : n.toNatClampNeg * componentBytes (aty a) ≤ 536870912 := by
    have : componentBytes (aty a) ≤ 8 := by
      rcases (show a = 0 ∨ a = 1 ∨ a = 2 ∨ a = 3 ∨ a = 4 by omega) with rfl | rfl | rfl | rfl | rfl <;> decide
    calc n.toNatClampNeg * componentBytes (aty a) ≤ 1000 * 8 := Nat.mul_le_mul hn2 this
      _ ≤ 536870912 := by decide
  refine va_newa (a0 := a0) hx hb (by rw [hty]; exact hts _ (acl_all a ha)) hty hK.1 hWo.2.1 hWo.2.2 hSv hA ha0 hn rfl hby hcl hsl hd (fun q cA H1 hK1 hP1 hD1 hS1 => ?_)
  have hcA : cA = dA a := by
    have h1 := (hK.1.2 a _ (tyL_at (by omega))).2
    have h2 := (hK1.2 8 (cA, aty a) (by simp [tyL])).2
    rcases (show a = 0 ∨ a = 1 ∨ a = 2 ∨ a = 3 ∨ a = 4 by omega) with rfl | rfl | rfl | rfl | rfl <;> exact Option.some.inj (Eq.trans (Eq.symm h2) h1)
  subst hcA
  have hz : agr z (z.1, va_up z.2 X.1.2.2.1 q) X.1.2.2.1 := agr_up
  have key : wl dA z X ++ [(q, .inl (dA a, a0))] = wl dA (z.1, va_up z.2 X.1.2.2.1 q) (sN X (.inr (a, n.toNatClampNeg))) := by
    refine wl_push rfl uo_self (fun j hj => uo_ne (by omega)) ?_ (fun j hj => cel_new hWo.1 hz hj)
    rw [cel_arr (X := sN X (.inr (a, n.toNatClampNeg))) (t := a) (n := n.toNatClampNeg) uo_self, hcel]
  rw [key] at hP1 hD1
  have := kk H1 (z.1, va_up z.2 X.1.2.2.1 q) hz ⟨hWo.1.N (fun t n h => by cases h; omega), hP1, hD1⟩ hS1
  rw [show ((z.1, va_up z.2 X.1.2.2.1 q) : Ad).2 X.1.2.2.1 = q from uo_self] at this
  exact this
theorem newq_snd (hC : Ctx y p l R s m args meth c D dA A) (hWo : Wo D dA z A X H) (hSv : va_S A s.heap H locs) {a idx pc : Nat} {n : Int32} {ls : Array Slot} {rest : List Value} (h5 : 5 ≤ a) (h8 : a < 8) (hd : decode (mcod y) pc = .ok (.anewarray idx, 3)) (hc : clsB (mnam y).cls idx (aCn a) = true) (hn : ¬ n < 0) (hn2 : n.toNatClampNeg ≤ 1000) (hcl : cells + 1 ≤ R.cells) (hsl : slots + n.toNatClampNeg ≤ R.slots)
    (kk : ∀ H1 z', agr z z' X.1.2.2.1 → Wo D dA z' A (sN X (.inr (a, n.toNatClampNeg))) H1 → va_S A s.heap H1 locs → W p l e R s m args below meth c H1 locs (cells + 1) (slots + n.toNatClampNeg) Qf (F0 m (pc + 3) ls (.ref (z'.2 X.1.2.2.1) :: rest))) : W p l e R s m args below meth c H locs cells slots Qf (F0 m pc ls (.int n :: rest)) := by
  obtain ⟨⟨hx, hb, hml, hown, hts⟩, -, hK, hA, -⟩ := hC
  refine va_newq (C := aCn a) hx hb hown (hts _ (clsB_ok hc)) (hK.2.1 _ (aov_all a h5 h8) rfl) hK.1 hWo.2.1 hWo.2.2 hSv hA hn rfl (by omega) hcl hsl hd (fun q cA H1 hK1 hP1 hD1 hS1 => ?_)
  have hcA : cA = dA a := by
    have h1 := (hK.1.2 a _ (tyL_at h8)).2
    have h2 := (hK1.2 8 (cA, .object (aCn a)) (by simp [tyL])).2
    rw [aty_ref h5 h8] at h1
    obtain ⟨k1, c1, g1, g2, g3, g4⟩ := h1
    obtain ⟨k2, c2, f1, f2, f3, f4⟩ := h2
    exact Option.some.inj (Eq.trans (Eq.symm f4) g4)
  subst hcA
  have hz : agr z (z.1, va_up z.2 X.1.2.2.1 q) X.1.2.2.1 := agr_up
  have key : wl dA z X ++ [(q, .inl (dA a, n.toNatClampNeg, .inr (.inr (.inr (.inr (fun _ => none))))))] = wl dA (z.1, va_up z.2 X.1.2.2.1 q) (sN X (.inr (a, n.toNatClampNeg))) := by
    refine wl_push rfl uo_self (fun j hj => uo_ne (by omega)) ?_ (fun j hj => cel_new hWo.1 hz hj)
    rw [cel_arr (X := sN X (.inr (a, n.toNatClampNeg))) (t := a) (n := n.toNatClampNeg) uo_self, celA_r h5 h8]
    have e2 : (sN X (.inr (a, n.toNatClampNeg))).1.2.1 X.1.2.2.1 = fun _ => .null := uo_self
    rw [e2]
    rfl
  rw [key] at hP1 hD1
  have := kk H1 (z.1, va_up z.2 X.1.2.2.1 q) hz ⟨hWo.1.N (fun t n h => by cases h; omega), hP1, hD1⟩ hS1
  rw [show ((z.1, va_up z.2 X.1.2.2.1 q) : Ad).2 X.1.2.2.1 = q from uo_self] at this
  exact this
end Mk
