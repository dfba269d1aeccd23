/-! soundness: fields -/
def cRn (ci : Nat) : String := (mCl.getD ci ("", cT1, 0)).1
def cyT : List (Nat → FieldType) := [cy0, cy1, cy2, cy3, cy4, cy5, cy6, cy7, cy8, cy9, cy10, cy11, cy12, cy13, cy14]
def cyn (ci : Nat) : Nat → FieldType := cyT.getD ci cy1
theorem mCl_at : ∀ ci, ci < 15 → mCl[ci]? = some (cRn ci, cT ci, nfd ci)
  | 0, _ => rfl | 1, _ => rfl | 2, _ => rfl | 3, _ => rfl | 4, _ => rfl | 5, _ => rfl | 6, _ => rfl | 7, _ => rfl | 8, _ => rfl | 9, _ => rfl | 10, _ => rfl | 11, _ => rfl | 12, _ => rfl | 13, _ => rfl | 14, _ => rfl
  | n + 15, h => absurd h (by omega)
theorem cin_all : ∀ ci, ci < 15 → ∀ w ∈ u_ws (cRn ci) (cT ci) (nfd ci), w ∈ lw_all
  | 0, _ => cin0 | 1, _ => cin1 | 2, _ => cin2 | 3, _ => cin3 | 4, _ => cin4 | 5, _ => cin5 | 6, _ => cin6 | 7, _ => cin7 | 8, _ => cin8 | 9, _ => cin9 | 10, _ => cin10 | 11, _ => cin11 | 12, _ => cin12 | 13, _ => cin13 | 14, _ => cin14
  | n + 15, h => absurd h (by omega)
theorem cty_all : ∀ ci, ci < 15 → ∀ k, k < nfd ci → parseFieldDescriptor (cT ci k).2.2.1 = some (cyn ci k)
  | 0, _ => cty0 | 1, _ => cty1 | 2, _ => cty2 | 3, _ => cty3 | 4, _ => cty4 | 5, _ => cty5 | 6, _ => cty6 | 7, _ => cty7 | 8, _ => cty8 | 9, _ => cty9 | 10, _ => cty10 | 11, _ => cty11 | 12, _ => cty12 | 13, _ => cty13 | 14, _ => cty14
  | n + 15, h => absurd h (by omega)
theorem cnm_all : ∀ ci, ci < 15 → ∀ a, a < nfd ci → ∀ b, b < nfd ci → a ≠ b → (cT ci a).2.1 ≠ (cT ci b).2.1
  | 0, _ => cnm0 | 1, _ => cnm1 | 2, _ => cnm2 | 3, _ => cnm3 | 4, _ => cnm4 | 5, _ => cnm5 | 6, _ => cnm6 | 7, _ => cnm7 | 8, _ => cnm8 | 9, _ => cnm9 | 10, _ => cnm10 | 11, _ => cnm11 | 12, _ => cnm12 | 13, _ => cnm13 | 14, _ => cnm14
  | n + 15, h => absurd h (by omega)
theorem fk_all : ∀ ci, ci < 15 → ∀ j, j < nfd ci → (fk ci j = 0 → refKind (cyn ci j) = true) ∧ (fk ci j = 1 → cyn ci j = .int) ∧ (fk ci j = 2 → cyn ci j = .boolean) ∧ fk ci j < 3 := by decide +kernel
theorem cel_obj {dA : Nat → ClassId} {z : Ad} {X : Xs} {k a : Nat} (h : X.1.1 k = some (.inl a)) : cel dA z X k = .inr (a, (List.range (nfd a)).map (fun j => con z (fv X a k j))) := by
  unfold cel; rw [h]
theorem cel_arr {dA : Nat → ClassId} {z : Ad} {X : Xs} {k t n : Nat} (h : X.1.1 k = some (.inr (t, n))) : cel dA z X k = celA dA z X k t n := by
  unfold cel; rw [h]
theorem range_at {N b : Nat} {f : Nat → Value} (h : b < N) : ((List.range N).map f)[b]? = some (f b) := by simp [h]
theorem range_set {N b : Nat} {f g : Nat → Value} {v : Value} (hb : g b = v) (ho : ∀ j, j ≠ b → g j = f j) : ((List.range N).map f).set b v = (List.range N).map g := by
  apply List.ext_getElem?
  intro j
  by_cases hj : j < N
  · by_cases hjb : j = b
    · subst hjb
      rw [List.getElem?_set_self (by simp [hj]), range_at hj, hb]
    · rw [List.getElem?_set_ne (Ne.symm hjb), range_at hj, range_at hj, ho j hjb]
  · rw [List.getElem?_eq_none (by simp; omega), List.getElem?_eq_none (by simp; omega)]
theorem up2_nx {α : Type} {f : Nat → Nat → α} {k j q : Nat} {v : α} (h : q ≠ k) : up2 f k j v q = f q := by
  funext i; simp [up2, h]
theorem up2_self {α : Type} {f : Nat → Nat → α} {k j : Nat} {v : α} : up2 f k j v k j = v := by simp [up2]
theorem up2_oth {α : Type} {f : Nat → Nat → α} {k j i : Nat} {v : α} (h : i ≠ j) : up2 f k j v k i = f k i := by simp [up2, h]
theorem wfX.I {X : Xs} {I : Nat → Nat → Int32} (h : wfX X) : wfX (sI X I) := h
theorem wfX.G {X : Xs} {G : Nat → Nat → Int64} (h : wfX X) : wfX (sG X G) := h
theorem wfX.R {X : Xs} {k j : Nat} {w : Value} (h : wfX X) (h1 : isRf w = true) (h2 : vok X.1.2.2.1 w) : wfX (sR X (up2 X.1.2.1 k j w)) := by
  refine ⟨fun q i hq => ?_, h.2⟩
  show isRf (up2 X.1.2.1 k j w q i) = true ∧ vok _ (up2 X.1.2.1 k j w q i)
  unfold up2
  split
  · split
    · exact ⟨h1, h2⟩
    · exact h.1 q i hq
  · exact h.1 q i hq
theorem cel_I {dA : Nat → ClassId} {z : Ad} {X : Xs} {I : Nat → Nat → Int32} {j : Nat} (h : I j = X.2.1 j) : cel dA z (sI X I) j = cel dA z X j := by
  unfold cel celA fv sI
  dsimp only
  rw [h]
theorem cel_R {dA : Nat → ClassId} {z : Ad} {X : Xs} {R : Nat → Nat → Value} {j : Nat} (h : R j = X.1.2.1 j) : cel dA z (sR X R) j = cel dA z X j := by
  unfold cel celA fv sR
  dsimp only
  rw [h]
theorem cel_G {dA : Nat → ClassId} {z : Ad} {X : Xs} {G : Nat → Nat → Int64} {j : Nat} (h : G j = X.2.2 j) : cel dA z (sG X G) j = cel dA z X j := by
  unfold cel celA fv sG
  dsimp only
  rw [h]
theorem wf_lt {X : Xs} {k : Nat} {h : Sh} (hw : wfX X) (hS : X.1.1 k = some h) : k < X.1.2.2.1 := hw.2.1 k (by rw [hS]; exact fun q => by cases q)
theorem wl_obj {dA : Nat → ClassId} {z : Ad} {X : Xs} {k a : Nat} (hw : wfX X) (hS : X.1.1 k = some (.inl a)) : (wl dA z X)[k]? = some (z.2 k, .inr (a, (List.range (nfd a)).map (fun j => con z (fv X a k j)))) := by
  rw [wl_at (wf_lt hw hS), cel_obj hS]
theorem wl_arr {dA : Nat → ClassId} {z : Ad} {X : Xs} {k t n : Nat} (hw : wfX X) (hS : X.1.1 k = some (.inr (t, n))) : (wl dA z X)[k]? = some (z.2 k, celA dA z X k t n) := by
  rw [wl_at (wf_lt hw hS), cel_arr hS]
theorem flk_fact {own : String} {i a b : Nat} {r n : String} (h : (own, i, a, b, r, n) ∈ flk) : a < 10 ∧ b < nfd a ∧ r = (cT a b).1 := by
  have h1 := List.all_eq_true.mp flk_all _ h
  simp only [Bool.and_eq_true, decide_eq_true_eq] at h1
  exact ⟨h1.1.1, h1.1.2, h1.2⟩
theorem fv_vok {X : Xs} {a k b : Nat} (hw : wfX X) (hk : k < X.1.2.2.1) : vok X.1.2.2.1 (fv X a k b) := by
  unfold fv
  split
  · exact (hw.1 k b hk).2
  · exact trivial
section Fld
variable {p : Program} {l : Launch} {e : Env} {R : Room} {s : State} {m : MethodId} {args : Array Value} {below : List Frame} {meth : Method} {c : Code} {H : Heap} {locs : List Loc} {cells slots : Nat} {Qf : State → Prop} {D : va_G} {dA : Nat → ClassId} {A : Nat → Prop} {y : Nat} {X : Xs} {z : Ad}
theorem gf_snd (hC : Ctx y p l R s m args meth c D dA A) (hWo : Wo D dA z A X H) {k a b idx pc : Nat} {ls : Array Slot} {rest : List Value} (hS : X.1.1 k = some (.inl a)) (hd : decode (mcod y) pc = .ok (.getfield idx, 3)) (hf : flkB (mnam y).cls idx a b = true)
    (kk : W p l e R s m args below meth c H locs cells slots Qf (F0 m (pc + 3) ls (con z (fv X a k b) :: rest))) : W p l e R s m args below meth c H locs cells slots Qf (F0 m pc ls (.ref (z.2 k) :: rest)) := by
  obtain ⟨⟨hx, hb, hml, hown, hts⟩, -, hK, -⟩ := hC
  obtain ⟨r, n, hP, hmem⟩ := flkB_ok hf
  obtain ⟨h1, h2, h3⟩ := flk_fact hmem
  have h15 : a < 15 := by omega
  unfold flkP at hP
  dsimp only at hP
  split at hP
  · exact va_get (C := cRn a) (T := cT a) (N := nfd a) (ref := r) hx hb hts (cin_all a h15) hown hK.1 hWo.2.1 k (wl_obj hWo.1 hS) (mCl_at a h15) b h2 (hts _ hP) (fun x h => by rw [h3]; exact h) (range_at h2) hd kk
  · exact va_getN (C := cRn a) (T := cT a) (N := nfd a) (ref := r) (host := n) hx hb hts (cin_all a h15) hown hK.1 hWo.2.1 k (wl_obj hWo.1 hS) (mCl_at a h15) b h2 (va_Nw.use rfl (hK.2.1 _ hP rfl)) (fun x h => by rw [h3]; exact h) (range_at h2) hd kk
/-- which fields a method may write: not final, or its own in its constructor -/
def finB (y idx a b : Nat) : Bool := !(cT a b).2.2.2 || (decide ((mnam y).name = "<init>") && decide ((cT a b).1 = (mnam y).cls) && flk.any fun q => decide (q = ((mnam y).cls, idx, a, b, (cT a b).1, "")))
theorem pf_snd (hC : Ctx y p l R s m args meth c D dA A) (hWo : Wo D dA z A X H) (hSv : va_S A s.heap H locs) {k a b idx pc : Nat} {ls : Array Slot} {rest : List Value} {w : Value} (hS : X.1.1 k = some (.inl a)) (hd : decode (mcod y) pc = .ok (.putfield idx, 3)) (hf : flkB (mnam y).cls idx a b = true) (hfin : finB y idx a b = true)
    (hn : narrow (cyn a b) w = w) (hfit : fits (cyn a b) w = true) {X' : Xs} (hX : (wl dA z X).set k (z.2 k, .inr (a, ((List.range (nfd a)).map (fun j => con z (fv X a k j))).set b w)) = wl dA z X') (hw : wfX X')
    (kk : ∀ H1 locs1, Wo D dA z A X' H1 → va_S A s.heap H1 locs1 → W p l e R s m args below meth c H1 locs1 cells slots Qf (F0 m (pc + 3) ls rest)) : W p l e R s m args below meth c H locs cells slots Qf (F0 m pc ls (w :: .ref (z.2 k) :: rest)) := by
  obtain ⟨⟨hx, hb, hml, hown, hts⟩, ⟨-, -, hnm, -⟩, hK, -⟩ := hC
  obtain ⟨r, n, hP, hmem⟩ := flkB_ok hf
  obtain ⟨h1, h2, h3⟩ := flk_fact hmem
  have h15 : a < 15 := by omega
  unfold finB at hfin
  rw [Bool.or_eq_true] at hfin
  rcases hfin with hfin | hfin
  · have hfin : (cT a b).2.2.2 = false := by simpa using hfin
    unfold flkP at hP
    dsimp only at hP
    split at hP
    · refine va_put (C := cRn a) (T := cT a) (N := nfd a) (ref := r) hx hb hts (cin_all a h15) (cyn a) (cty_all a h15) (cnm_all a h15) hown hK.1 hWo.2.1 hWo.2.2 hSv k (wl_obj hWo.1 hS) (mCl_at a h15) b h2 (hts _ hP) (fun x h => by rw [h3]; exact h) hfin (cty_all a h15 b h2) hn hfit (by simp [h2]) hd (fun H1 locs1 hP1 hD1 hS1 => ?_)
      rw [hX] at hP1 hD1
      exact kk H1 locs1 ⟨hw, hP1, hD1⟩ hS1
    · refine va_putN (C := cRn a) (T := cT a) (N := nfd a) (ref := r) (host := n) hx hb hts (cin_all a h15) (cyn a) (cty_all a h15) (cnm_all a h15) hown hK.1 hWo.2.1 hWo.2.2 hSv k (wl_obj hWo.1 hS) (mCl_at a h15) b h2 (va_Nw.use rfl (hK.2.1 _ hP rfl)) (fun x h => by rw [h3]; exact h) hfin (cty_all a h15 b h2) hn hfit (by simp [h2]) hd (fun H1 locs1 hP1 hD1 hS1 => ?_)
      rw [hX] at hP1 hD1
      exact kk H1 locs1 ⟨hw, hP1, hD1⟩ hS1
  · simp only [Bool.and_eq_true, decide_eq_true_eq] at hfin
    obtain ⟨⟨hf1, hf2⟩, hf3⟩ := hfin
    obtain ⟨q, hq, hq2⟩ := List.any_eq_true.mp hf3
    rw [decide_eq_true_eq] at hq2
    subst hq2
    have hP := flk_ok _ hq
    unfold flkP at hP
    dsimp only at hP
    rw [if_pos rfl] at hP
    cases hfin : (cT a b).2.2.2 with
    | true =>
      refine va_putF (C := cRn a) (T := cT a) (N := nfd a) (ref := (cT a b).1) hx hb hts (cin_all a h15) (cyn a) (cty_all a h15) (cnm_all a h15) hown hK.1 hWo.2.1 hWo.2.2 hSv k (wl_obj hWo.1 hS) (mCl_at a h15) b h2 (hts _ hP) (fun x h => h) hfin (by rw [hnm]; exact hf1) hf2 (cty_all a h15 b h2) hn hfit (by simp [h2]) hd (fun H1 locs1 hP1 hD1 hS1 => ?_)
      rw [hX] at hP1 hD1
      exact kk H1 locs1 ⟨hw, hP1, hD1⟩ hS1
    | false =>
      refine va_put (C := cRn a) (T := cT a) (N := nfd a) (ref := (cT a b).1) hx hb hts (cin_all a h15) (cyn a) (cty_all a h15) (cnm_all a h15) hown hK.1 hWo.2.1 hWo.2.2 hSv k (wl_obj hWo.1 hS) (mCl_at a h15) b h2 (hts _ hP) (fun x h => h) hfin (cty_all a h15 b h2) hn hfit (by simp [h2]) hd (fun H1 locs1 hP1 hD1 hS1 => ?_)
      rw [hX] at hP1 hD1
      exact kk H1 locs1 ⟨hw, hP1, hD1⟩ hS1
/-- the list of cells behind a write of an int, or of a reference, to a field -/
theorem wl_putI {k a b : Nat} {x : Int32} (hw : wfX X) (hS : X.1.1 k = some (.inl a)) (hk : fk a b ≠ 0) : (wl dA z X).set k (z.2 k, .inr (a, ((List.range (nfd a)).map (fun j => con z (fv X a k j))).set b (.int x))) = wl dA z (sI X (up2 X.2.1 k b x)) := by
  refine wl_set rfl ?_ (fun j hj _ => cel_I (up2_nx hj)) (wf_lt hw hS)
  rw [cel_obj (X := sI X (up2 X.2.1 k b x)) hS]
  congr 2
  refine (range_set ?_ (fun j hj => ?_)).symm
  · show con z (fv (sI X (up2 X.2.1 k b x)) a k b) = .int x
    unfold fv
    split
    · rename_i h; exact absurd h hk
    · show Value.int (up2 X.2.1 k b x k b) = .int x
      rw [up2_self]
  · show con z (fv (sI X (up2 X.2.1 k b x)) a k j) = con z (fv X a k j)
    unfold fv
    split
    · rfl
    · show Value.int (up2 X.2.1 k b x k j) = .int (X.2.1 k j)
      rw [up2_oth hj]
theorem wl_putR {k a b : Nat} {w : Value} (hw : wfX X) (hS : X.1.1 k = some (.inl a)) (hk : fk a b = 0) : (wl dA z X).set k (z.2 k, .inr (a, ((List.range (nfd a)).map (fun j => con z (fv X a k j))).set b (con z w))) = wl dA z (sR X (up2 X.1.2.1 k b w)) := by
  refine wl_set rfl ?_ (fun j hj _ => cel_R (up2_nx hj)) (wf_lt hw hS)
  rw [cel_obj (X := sR X (up2 X.1.2.1 k b w)) hS]
  congr 2
  refine (range_set ?_ (fun j hj => ?_)).symm
  · show con z (fv (sR X (up2 X.1.2.1 k b w)) a k b) = con z w
    unfold fv
    rw [hk]
    show con z (up2 X.1.2.1 k b w k b) = con z w
    rw [up2_self]
  · show con z (fv (sR X (up2 X.1.2.1 k b w)) a k j) = con z (fv X a k j)
    unfold fv
    split
    · show con z (up2 X.1.2.1 k b w k j) = con z (X.1.2.1 k j)
      rw [up2_oth hj]
    · rfl
theorem rf_fits {ty : FieldType} {w : Value} (h : refKind ty = true) (hw : isRf w = true) : narrow ty (con z w) = con z w ∧ fits ty (con z w) = true := by
  cases ty <;> first | exact absurd h (by decide) | (cases w <;> first | exact ⟨rfl, rfl⟩ | (rename_i q; rcases con_ra z q with e0 | ⟨b, e0⟩ <;> rw [e0] <;> exact ⟨rfl, rfl⟩) | exact Bool.noConfusion hw)
end Fld
