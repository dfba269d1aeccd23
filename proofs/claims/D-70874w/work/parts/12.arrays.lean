/-! soundness: arrays -/
theorem tyL_at {dA : Nat → ClassId} {t : Nat} (h : t < 8) : (tyL dA)[t]? = some (dA t, aty t) := by simp [tyL, h]
theorem aty_small : ∀ t, t < 5 → (t = 0 → aty t = .int) ∧ (t = 1 → aty t = .long) ∧ (t = 2 → aty t = .char) ∧ (t = 3 → aty t = .byte) ∧ (t = 4 → aty t = .short) ∧ refKind (aty t) = false := by decide +kernel
def aCn (t : Nat) : String := match t with
  | 5 => "LateJudge$State"
  | 6 => "LateJudge$Plain"
  | _ => "LateJudge$Sheet"
theorem aty_ref {t : Nat} (h : 5 ≤ t) (h8 : t < 8) : aty t = .object (aCn t) := by
  rcases (show t = 5 ∨ t = 6 ∨ t = 7 by omega) with rfl | rfl | rfl <;> rfl
theorem celA_i {dA : Nat → ClassId} {z : Ad} {X : Xs} {k t n : Nat} (h : t < 5) (h1 : t ≠ 1) : celA dA z X k t n = .inl (dA t, n, .inl (X.2.1 k)) := by
  rcases (show t = 0 ∨ t = 2 ∨ t = 3 ∨ t = 4 by omega) with rfl | rfl | rfl | rfl <;> rfl
theorem celA_r {dA : Nat → ClassId} {z : Ad} {X : Xs} {k t n : Nat} (h : 5 ≤ t) (h8 : t < 8) : celA dA z X k t n = .inl (dA t, n, .inr (.inr (.inr (.inr (fun j => refO z (X.1.2.1 k j)))))) := by
  rcases (show t = 5 ∨ t = 6 ∨ t = 7 by omega) with rfl | rfl | rfl <;> rfl
/-- the cells behind a change of one array -/
theorem wl_arrI {dA : Nat → ClassId} {z : Ad} {X : Xs} {k t n : Nat} {f : Nat → Int32} {I : Nat → Nat → Int32} (hw : wfX X) (hS : X.1.1 k = some (.inr (t, n))) (h : t < 5) (h1 : t ≠ 1) (hk : I k = f) (ho : ∀ j, j ≠ k → I j = X.2.1 j) : (wl dA z X).set k (z.2 k, .inl (dA t, n, .inl f)) = wl dA z (sI X I) := by
  refine wl_set rfl ?_ (fun j hj _ => cel_I (ho j hj)) (wf_lt hw hS)
  rw [cel_arr (X := sI X I) hS, celA_i h h1, ← hk]
  rfl
theorem wl_arrG {dA : Nat → ClassId} {z : Ad} {X : Xs} {k n : Nat} {f : Nat → Int64} {G : Nat → Nat → Int64} (hw : wfX X) (hS : X.1.1 k = some (.inr (1, n))) (hk : G k = f) (ho : ∀ j, j ≠ k → G j = X.2.2 j) : (wl dA z X).set k (z.2 k, .inl (dA 1, n, .inr (.inl f))) = wl dA z (sG X G) := by
  refine wl_set rfl ?_ (fun j hj _ => cel_G (ho j hj)) (wf_lt hw hS)
  rw [cel_arr (X := sG X G) hS, ← hk]
  rfl
theorem wl_arrR {dA : Nat → ClassId} {z : Ad} {X : Xs} {k t n : Nat} {f : Nat → Option Nat} {R : Nat → Nat → Value} (hw : wfX X) (hS : X.1.1 k = some (.inr (t, n))) (h : 5 ≤ t) (h8 : t < 8) (hk : (fun j => refO z (R k j)) = f) (ho : ∀ j, j ≠ k → R j = X.1.2.1 j) : (wl dA z X).set k (z.2 k, .inl (dA t, n, .inr (.inr (.inr (.inr f))))) = wl dA z (sR X R) := by
  refine wl_set rfl ?_ (fun j hj _ => cel_R (ho j hj)) (wf_lt hw hS)
  rw [cel_arr (X := sR X R) hS, celA_r h h8, ← hk]
  rfl
theorem upd_up2 {f : Nat → Nat → Int32} {k i : Nat} {x : Int32} : upd (f k) i x = up2 f k i x k := by
  funext j; simp [upd, up2]
theorem updL_up2 {f : Nat → Nat → Int64} {k i : Nat} {x : Int64} : vp_updL (f k) i x = up2 f k i x k := by
  funext j; simp [vp_updL, up2]
def ldB (ins : Instr) (a : Nat) : Bool := match ins with
  | .iaload => a == 0
  | .laload => a == 1
  | .caload => a == 2
  | .baload => a == 3
  | .saload => a == 4
  | .aaload => a == 5
  | _ => false
def sdB (ins : Instr) (a : Nat) : Bool := match ins with
  | .iastore => a == 0
  | .lastore => a == 1
  | .castore => a == 2
  | .bastore => a == 3
  | .sastore => a == 4
  | .aastore => a == 5
  | _ => false
section Arr
variable {p : Program} {l : Launch} {e : Env} {R : Room} {s : State} {m : MethodId} {args : Array Value} {below : List Frame} {meth : Method} {c : Code} {H : Heap} {locs : List Loc} {cells slots : Nat} {Qf : State → Prop} {D : va_G} {dA : Nat → ClassId} {A : Nat → Prop} {y : Nat} {X : Xs} {z : Ad}
theorem ald_snd (hC : Ctx y p l R s m args meth c D dA A) (hWo : Wo D dA z A X H) {k a n pc : Nat} {i : Int32} {ins : Instr} {ls : Array Slot} {rest : List Value} (hS : X.1.1 k = some (.inr (a, n))) (ha : a < 5) (h1 : a ≠ 1) (hi : vp_in i n) (hd : decode (mcod y) pc = .ok (ins, 1)) (hl : ldB ins a = true)
    (kk : W p l e R s m args below meth c H locs cells slots Qf (F0 m (pc + 1) ls (.int (X.2.1 k i.toNatClampNeg) :: rest))) : W p l e R s m args below meth c H locs cells slots Qf (F0 m pc ls (.int i :: .ref (z.2 k) :: rest)) := by
  obtain ⟨⟨hx, hb, hml, hown, hts⟩, -, hK, -⟩ := hC
  have hc := wl_arr (dA := dA) (z := z) hWo.1 hS
  rw [celA_i ha h1] at hc
  have ht := tyL_at (dA := dA) (t := a) (by omega)
  obtain ⟨t0, t1, t2, t3, t4, -⟩ := aty_small a ha
  unfold ldB at hl
  split at hl
  · have e : a = 0 := by simpa using hl
    rw [t0 e] at ht
    exact va_iald hx hb hK.1 hWo.2.1 k a hc ht hi hd kk
  · have e : a = 1 := by simpa using hl
    exact absurd e h1
  · have e : a = 2 := by simpa using hl
    rw [t2 e] at ht
    exact va_cald hx hb hK.1 hWo.2.1 k a hc ht hi hd kk
  · have e : a = 3 := by simpa using hl
    rw [t3 e] at ht
    exact va_bald hx hb hK.1 hWo.2.1 k a hc ht hi hd kk
  · have e : a = 4 := by simpa using hl
    rw [t4 e] at ht
    exact va_sald hx hb hK.1 hWo.2.1 k a hc ht hi hd kk
  · have e : a = 5 := by simpa using hl
    omega
  · cases hl
theorem lald_snd (hC : Ctx y p l R s m args meth c D dA A) (hWo : Wo D dA z A X H) {k n pc : Nat} {i : Int32} {ls : Array Slot} {rest : List Value} (hS : X.1.1 k = some (.inr (1, n))) (hi : vp_in i n) (hd : decode (mcod y) pc = .ok (.laload, 1))
    (kk : W p l e R s m args below meth c H locs cells slots Qf (F0 m (pc + 1) ls (.long (X.2.2 k i.toNatClampNeg) :: rest))) : W p l e R s m args below meth c H locs cells slots Qf (F0 m pc ls (.int i :: .ref (z.2 k) :: rest)) := by
  obtain ⟨⟨hx, hb, hml, hown, hts⟩, -, hK, -⟩ := hC
  have hc := wl_arr (dA := dA) (z := z) hWo.1 hS
  exact va_lald hx hb hK.1 hWo.2.1 k 1 hc (tyL_at (by omega)) hi hd kk
theorem aald_snd (hC : Ctx y p l R s m args meth c D dA A) (hWo : Wo D dA z A X H) {k t n pc : Nat} {i : Int32} {ls : Array Slot} {rest : List Value} (hS : X.1.1 k = some (.inr (t, n))) (h5 : 5 ≤ t) (hi : vp_in i n) (hd : decode (mcod y) pc = .ok (.aaload, 1))
    (kk : W p l e R s m args below meth c H locs cells slots Qf (F0 m (pc + 1) ls (con z (X.1.2.1 k i.toNatClampNeg) :: rest))) : W p l e R s m args below meth c H locs cells slots Qf (F0 m pc ls (.int i :: .ref (z.2 k) :: rest)) := by
  obtain ⟨⟨hx, hb, hml, hown, hts⟩, -, hK, -⟩ := hC
  have h8 := hWo.1.2.2 k t n hS
  have hc := wl_arr (dA := dA) (z := z) hWo.1 hS
  rw [celA_r h5 h8] at hc
  have ht := tyL_at (dA := dA) h8
  rw [aty_ref h5 h8] at ht
  refine va_aldq hx hb hK.1 hWo.2.1 k t hc ht hi hd ?_
  rw [rf_con (hWo.1.1 k _ (wf_lt hWo.1 hS)).1]
  exact kk
theorem ast_snd (hC : Ctx y p l R s m args meth c D dA A) (hWo : Wo D dA z A X H) (hSv : va_S A s.heap H locs) {k a n pc : Nat} {i x : Int32} {ins : Instr} {ls : Array Slot} {rest : List Value} (hS : X.1.1 k = some (.inr (a, n))) (ha : a < 5) (h1 : a ≠ 1) (hi : vp_in i n) (hd : decode (mcod y) pc = .ok (ins, 1)) (hl : sdB ins a = true)
    (kk : ∀ H1 locs1, Wo D dA z A (sI X (up2 X.2.1 k i.toNatClampNeg (nrw a x))) H1 → va_S A s.heap H1 locs1 → W p l e R s m args below meth c H1 locs1 cells slots Qf (F0 m (pc + 1) ls rest)) : W p l e R s m args below meth c H locs cells slots Qf (F0 m pc ls (.int x :: .int i :: .ref (z.2 k) :: rest)) := by
  obtain ⟨⟨hx, hb, hml, hown, hts⟩, -, hK, -⟩ := hC
  have hc := wl_arr (dA := dA) (z := z) hWo.1 hS
  rw [celA_i ha h1] at hc
  have ht := tyL_at (dA := dA) (t := a) (by omega)
  obtain ⟨t0, t1, t2, t3, t4, -⟩ := aty_small a ha
  have key : ∀ x' : Int32, (wl dA z X).set k (z.2 k, .inl (dA a, n, .inl (upd (X.2.1 k) i.toNatClampNeg x'))) = wl dA z (sI X (up2 X.2.1 k i.toNatClampNeg x')) := fun x' => wl_arrI hWo.1 hS ha h1 upd_up2.symm (fun j hj => up2_nx hj)
  unfold sdB at hl
  split at hl
  · have e : a = 0 := by simpa using hl
    rw [t0 e] at ht
    refine va_iast hx hb hK.1 hWo.2.1 hWo.2.2 hSv k a hc ht hi hd (fun H1 locs1 hP1 hD1 hS1 => ?_)
    rw [key] at hP1 hD1
    have e2 : nrw a x = x := by rw [e]; rfl
    rw [e2] at kk
    exact kk H1 locs1 ⟨hWo.1, hP1, hD1⟩ hS1
  · have e : a = 1 := by simpa using hl
    exact absurd e h1
  · have e : a = 2 := by simpa using hl
    rw [t2 e] at ht
    refine va_cast hx hb hK.1 hWo.2.1 hWo.2.2 hSv k a hc ht hi hd (fun H1 locs1 hP1 hD1 hS1 => ?_)
    rw [key] at hP1 hD1
    have e2 : nrw a x = vp_nar .char x := by rw [e]; rfl
    rw [e2] at kk
    exact kk H1 locs1 ⟨hWo.1, hP1, hD1⟩ hS1
  · have e : a = 3 := by simpa using hl
    rw [t3 e] at ht
    refine va_bast hx hb hK.1 hWo.2.1 hWo.2.2 hSv k a hc ht hi hd (fun H1 locs1 hP1 hD1 hS1 => ?_)
    rw [key] at hP1 hD1
    have e2 : nrw a x = vp_nar .byte x := by rw [e]; rfl
    rw [e2] at kk
    exact kk H1 locs1 ⟨hWo.1, hP1, hD1⟩ hS1
  · have e : a = 4 := by simpa using hl
    rw [t4 e] at ht
    refine va_sast hx hb hK.1 hWo.2.1 hWo.2.2 hSv k a hc ht hi hd (fun H1 locs1 hP1 hD1 hS1 => ?_)
    rw [key] at hP1 hD1
    have e2 : nrw a x = vp_nar .short x := by rw [e]; rfl
    rw [e2] at kk
    exact kk H1 locs1 ⟨hWo.1, hP1, hD1⟩ hS1
  · have e : a = 5 := by simpa using hl
    omega
  · cases hl
theorem last_snd (hC : Ctx y p l R s m args meth c D dA A) (hWo : Wo D dA z A X H) (hSv : va_S A s.heap H locs) {k n pc : Nat} {i : Int32} {x : Int64} {ls : Array Slot} {rest : List Value} (hS : X.1.1 k = some (.inr (1, n))) (hi : vp_in i n) (hd : decode (mcod y) pc = .ok (.lastore, 1))
    (kk : ∀ H1 locs1, Wo D dA z A (sG X (up2 X.2.2 k i.toNatClampNeg x)) H1 → va_S A s.heap H1 locs1 → W p l e R s m args below meth c H1 locs1 cells slots Qf (F0 m (pc + 1) ls rest)) : W p l e R s m args below meth c H locs cells slots Qf (F0 m pc ls (.long x :: .int i :: .ref (z.2 k) :: rest)) := by
  obtain ⟨⟨hx, hb, hml, hown, hts⟩, -, hK, -⟩ := hC
  have hc := wl_arr (dA := dA) (z := z) hWo.1 hS
  refine va_last hx hb hK.1 hWo.2.1 hWo.2.2 hSv k 1 hc (tyL_at (by omega)) hi hd (fun H1 locs1 hP1 hD1 hS1 => ?_)
  have key : (wl dA z X).set k (z.2 k, .inl (dA 1, n, .inr (.inl (vp_updL (X.2.2 k) i.toNatClampNeg x)))) = wl dA z (sG X (up2 X.2.2 k i.toNatClampNeg x)) := wl_arrG hWo.1 hS updL_up2.symm (fun j hj => up2_nx hj)
  rw [key] at hP1 hD1
  exact kk H1 locs1 ⟨hWo.1, hP1, hD1⟩ hS1
theorem refO_up2 {f : Nat → Nat → Value} {k i q : Nat} : (fun j => refO z (up2 f k i (.ref q) k j)) = va_up (fun j => refO z (f k j)) i (some (z.2 q)) := by
  funext j
  unfold up2 va_up
  rw [if_pos rfl]
  split <;> rfl
theorem aast_snd (hC : Ctx y p l R s m args meth c D dA A) (hWo : Wo D dA z A X H) (hSv : va_S A s.heap H locs) {k t n q ci pc : Nat} {i : Int32} {ls : Array Slot} {rest : List Value} (hS : X.1.1 k = some (.inr (t, n))) (hq : X.1.1 q = some (.inl ci)) (hok : okel t ci = true) (hi : vp_in i n) (hd : decode (mcod y) pc = .ok (.aastore, 1))
    (kk : ∀ H1 locs1, Wo D dA z A (sR X (up2 X.1.2.1 k i.toNatClampNeg (.ref q))) H1 → va_S A s.heap H1 locs1 → W p l e R s m args below meth c H1 locs1 cells slots Qf (F0 m (pc + 1) ls rest)) : W p l e R s m args below meth c H locs cells slots Qf (F0 m pc ls (.ref (z.2 q) :: .int i :: .ref (z.2 k) :: rest)) := by
  obtain ⟨⟨hx, hb, hml, hown, hts⟩, -, hK, -⟩ := hC
  have h8 := hWo.1.2.2 k t n hS
  have h5 : 5 ≤ t := by
    unfold okel at hok
    split at hok <;> first | omega | cases hok
  have hc := wl_arr (dA := dA) (z := z) hWo.1 hS
  rw [celA_r h5 h8] at hc
  have ht := tyL_at (dA := dA) h8
  rw [aty_ref h5 h8] at ht
  have hqv := wl_obj (dA := dA) (z := z) hWo.1 hq
  have key : (wl dA z X).set k (z.2 k, .inl (dA t, n, .inr (.inr (.inr (.inr (va_up (fun j => refO z (X.1.2.1 k j)) i.toNatClampNeg (some (z.2 q)))))))) = wl dA z (sR X (up2 X.1.2.1 k i.toNatClampNeg (.ref q))) := wl_arrR hWo.1 hS h5 h8 refO_up2 (fun j hj => up2_nx hj)
  have hw' : wfX (sR X (up2 X.1.2.1 k i.toNatClampNeg (.ref q))) := hWo.1.R rfl (wf_lt hWo.1 hq)
  have hca : ∃ r : vw_C, mCl[ci]? = some r ∧ (r.1 = aCn t ∨ Cond.castable r.1 (aCn t) ∈ lw_tbl) := by
    unfold okel at hok
    split at hok
    · have e : ci = 6 := by simpa using hok
      subst e
      exact ⟨_, rfl, Or.inl rfl⟩
    · simp only [Bool.and_eq_true, decide_eq_true_eq] at hok
      rcases (show ci = 1 ∨ ci = 2 ∨ ci = 3 ∨ ci = 4 ∨ ci = 5 by omega) with rfl | rfl | rfl | rfl | rfl
      · exact ⟨_, rfl, Or.inl rfl⟩
      · exact ⟨_, rfl, Or.inr (lw_at lw_m5 155 rfl)⟩
      · exact ⟨_, rfl, Or.inr (lw_at lw_m5 156 rfl)⟩
      · exact ⟨_, rfl, Or.inr (lw_at lw_m5 157 rfl)⟩
      · exact ⟨_, rfl, Or.inr (lw_at lw_m5 158 rfl)⟩
    · have e : ci = 8 := by simpa using hok
      subst e
      exact ⟨_, rfl, Or.inl rfl⟩
    · cases hok
  obtain ⟨r, hr, hr2⟩ := hca
  rcases hr2 with hr2 | hr2
  · rw [← hr2] at ht
    refine va_astq hx hb hK.1 hWo.2.1 hWo.2.2 hSv k t q ci hc ht hqv hr hi hd (fun H1 locs1 hP1 hD1 hS1 => ?_)
    rw [key] at hP1 hD1
    exact kk H1 locs1 ⟨hw', hP1, hD1⟩ hS1
  · refine va_astqO hx hb hK.1 hWo.2.1 hWo.2.2 hSv k t q ci hc ht (hK.2.1 _ hr2 rfl) hqv hr hi hd (fun H1 locs1 hP1 hD1 hS1 => ?_)
    rw [key] at hP1 hD1
    exact kk H1 locs1 ⟨hw', hP1, hD1⟩ hS1
theorem alen_snd (hC : Ctx y p l R s m args meth c D dA A) (hWo : Wo D dA z A X H) {k t n pc : Nat} {ls : Array Slot} {rest : List Value} (hS : X.1.1 k = some (.inr (t, n))) (hd : decode (mcod y) pc = .ok (.arraylength, 1))
    (kk : W p l e R s m args below meth c H locs cells slots Qf (F0 m (pc + 1) ls (.int (Int32.ofNat n) :: rest))) : W p l e R s m args below meth c H locs cells slots Qf (F0 m pc ls (.ref (z.2 k) :: rest)) := by
  obtain ⟨⟨hx, hb, hml, hown, hts⟩, -, hK, -⟩ := hC
  have h8 := hWo.1.2.2 k t n hS
  have hc := wl_arr (dA := dA) (z := z) hWo.1 hS
  exact va_alen (v := Int32.ofNat n) hx hb hK.1 hWo.2.1 k t hc (tyL_at h8) rfl hd kk
end Arr
