/-! soundness: copies, casts, branches, the switch -/
theorem arc_words : Cond.native arraycopyName ∈ lw_all ∧ Cond.static arraycopyName ∈ lw_all ∧ Cond.initialized "java/lang/System" ∈ lw_all := ⟨(lw_g (lw_at lw_m2 124 rfl) rfl), (lw_g (lw_at lw_m2 123 rfl) rfl), (lw_g (lw_at lw_m1 13 rfl) rfl)⟩
/-- the links to arraycopy, to Object's constructor -/
def arcT : List (String × Nat) := [("LateJudge", 251), ("LateJudge$State", 33)]
theorem arcT_ok : ∀ q ∈ arcT, Cond.methodLink q.1 q.2 arraycopyName ∈ lw_all := List.forall_mem_cons.mpr ⟨(lw_g (lw_at lw_m2 206 rfl) rfl), List.forall_mem_cons.mpr ⟨(lw_g (lw_at lw_m2 122 rfl) rfl), fun _ h => absurd h List.not_mem_nil⟩⟩
def obiT : List (String × Nat) := [("LateJudge", 1), ("LateJudge$Plain", 1), ("LateJudge$Sheet", 1), ("LateJudge$State", 3), ("LateJudgeModel", 1), ("java/lang/Throwable", 1)]
theorem obiT_ok : ∀ q ∈ obiT, Cond.methodLink q.1 q.2 Lib.objectInit ∈ lw_all := List.forall_mem_cons.mpr ⟨(lw_g (lw_at lw_m1 29 rfl) rfl), List.forall_mem_cons.mpr ⟨(lw_g (lw_at lw_m1 38 rfl) rfl), List.forall_mem_cons.mpr ⟨(lw_g (lw_at lw_m1 219 rfl) rfl), List.forall_mem_cons.mpr ⟨(lw_g (lw_at lw_m1 73 rfl) rfl), List.forall_mem_cons.mpr ⟨(lw_g (lw_at lw_m4 46 rfl) rfl), List.forall_mem_cons.mpr ⟨(lw_g (lw_at lw_m1 155 rfl) rfl), fun _ h => absurd h List.not_mem_nil⟩⟩⟩⟩⟩⟩
theorem obi_words : Cond.instanceMethod Lib.objectInit ∈ lw_all ∧ Cond.code Lib.objectInit ⟨#[0xb1]⟩ 1 none ∈ lw_all := ⟨(lw_g (lw_at lw_m1 30 rfl) rfl), (lw_g (lw_at lw_m1 31 rfl) rfl)⟩
def lnkB (T : List (String × Nat)) (own : String) (i : Nat) : Bool := T.any fun q => decide (q = (own, i))
theorem lnkB_ok {T : List (String × Nat)} {own : String} {i : Nat} (h : lnkB T own i = true) : (own, i) ∈ T := by
  obtain ⟨q, hq, h2⟩ := List.any_eq_true.mp h
  rw [decide_eq_true_eq] at h2
  subst h2
  exact hq
theorem dep_pos : ∀ y, y < 170 → 2 ≤ mdep y ∧ 120 ≤ mlcs y := by decide +kernel
theorem cpy_up {α : Type} {f : Nat → Nat → α} {ks kd a b n j : Nat} (h : j ≠ kd) : va_up f kd (va_cpy (f ks) (f kd) a b n) j = f j := uo_ne h
def brB (ins : Instr) (pc a : Nat) : Bool := match ins with
  | .ifCond _ off => decide ((pc : Int) + off = (a : Int))
  | .if_icmp _ off => decide ((pc : Int) + off = (a : Int))
  | _ => false
section More
variable {p : Program} {l : Launch} {e : Env} {R : Room} {s : State} {m : MethodId} {args : Array Value} {below : List Frame} {meth : Method} {c : Code} {H : Heap} {locs : List Loc} {cells slots : Nat} {Qf : State → Prop} {D : va_G} {dA : Nat → ClassId} {A : Nat → Prop} {y : Nat} {X : Xs} {z : Ad}
theorem cpi_snd (hC : Ctx y p l R s m args meth c D dA A) (hy : y < 170) (hWo : Wo D dA z A X H) (hSv : va_S A s.heap H locs) {ks kd t n0 n1 idx pc : Nat} {sp dp n : Int32} {ls : Array Slot} {st : List Value} (hls : ls.size = mloc y) (hw8 : wsum st ≤ 8) (hS0 : X.1.1 ks = some (.inr (t, n0))) (hS1 : X.1.1 kd = some (.inr (t, n1))) (ht : t < 5) (ht1 : t ≠ 1)
    (h1 : ¬ sp < 0) (h2 : ¬ dp < 0) (h3 : ¬ n < 0) (h4 : sp.toNatClampNeg + n.toNatClampNeg ≤ n0) (h5 : dp.toNatClampNeg + n.toNatClampNeg ≤ n1) (hfit : fitA t (X.2.1 ks) sp.toNatClampNeg n.toNatClampNeg) (hd : decode (mcod y) pc = .ok (.invokestatic idx, 3)) (hl : lnkB arcT (mnam y).cls idx = true)
    (kk : ∀ H1 locs1, Wo D dA z A (sI X (va_up X.2.1 kd (va_cpy (X.2.1 ks) (X.2.1 kd) sp.toNatClampNeg dp.toNatClampNeg n.toNatClampNeg))) H1 → va_S A s.heap H1 locs1 → W p l e R s m args below meth c H1 locs1 cells slots Qf (F0 m (pc + 3) ls (st.map (con z)))) : W p l e R s m args below meth c H locs cells slots Qf (F0 m pc ls (.int n :: .int dp :: .ref (z.2 kd) :: .int sp :: .ref (z.2 ks) :: st.map (con z))) := by
  obtain ⟨⟨hx, hb, hml, hown, hts⟩, -, hK, hA, hR1, hR2, -⟩ := hC
  have hdp := dep_pos y hy
  have hc0 := wl_arr (dA := dA) (z := z) hWo.1 hS0
  have hc1 := wl_arr (dA := dA) (z := z) hWo.1 hS1
  rw [celA_i ht ht1] at hc0 hc1
  refine va_copyi hx hb (by rw [hml, hls]) hown (hts _ (arcT_ok _ (lnkB_ok hl))) (hts _ arc_words.1) (hts _ arc_words.2.1) (hts _ arc_words.2.2) hK.1 hWo.2.1 hWo.2.2 hSv ks kd t t hc0 hc1 (tyL_at (by omega)) (tyL_at (by omega)) (aty_small t ht).2.2.2.2.2 h1 h2 h3 h4 h5 hfit (by omega) ?_ hd (fun H1 locs1 hP1 hD1 hS1' => ?_)
  · rw [wsum_eq]
    have : nativeFrameWords "java/lang/System" "arraycopy" 5 = 7 := by decide
    omega
  · rw [wl_arrI (I := va_up X.2.1 kd (va_cpy (X.2.1 ks) (X.2.1 kd) sp.toNatClampNeg dp.toNatClampNeg n.toNatClampNeg)) hWo.1 hS1 ht ht1 uo_self (fun j hj => uo_ne hj)] at hP1 hD1
    exact kk H1 locs1 ⟨hWo.1, hP1, hD1⟩ hS1'
theorem cpl_snd (hC : Ctx y p l R s m args meth c D dA A) (hy : y < 170) (hWo : Wo D dA z A X H) (hSv : va_S A s.heap H locs) {ks kd n0 n1 idx pc : Nat} {sp dp n : Int32} {ls : Array Slot} {st : List Value} (hls : ls.size = mloc y) (hw8 : wsum st ≤ 8) (hS0 : X.1.1 ks = some (.inr (1, n0))) (hS1 : X.1.1 kd = some (.inr (1, n1)))
    (h1 : ¬ sp < 0) (h2 : ¬ dp < 0) (h3 : ¬ n < 0) (h4 : sp.toNatClampNeg + n.toNatClampNeg ≤ n0) (h5 : dp.toNatClampNeg + n.toNatClampNeg ≤ n1) (hd : decode (mcod y) pc = .ok (.invokestatic idx, 3)) (hl : lnkB arcT (mnam y).cls idx = true)
    (kk : ∀ H1 locs1, Wo D dA z A (sG X (va_up X.2.2 kd (va_cpy (X.2.2 ks) (X.2.2 kd) sp.toNatClampNeg dp.toNatClampNeg n.toNatClampNeg))) H1 → va_S A s.heap H1 locs1 → W p l e R s m args below meth c H1 locs1 cells slots Qf (F0 m (pc + 3) ls (st.map (con z)))) : W p l e R s m args below meth c H locs cells slots Qf (F0 m pc ls (.int n :: .int dp :: .ref (z.2 kd) :: .int sp :: .ref (z.2 ks) :: st.map (con z))) := by
  obtain ⟨⟨hx, hb, hml, hown, hts⟩, -, hK, hA, hR1, hR2, -⟩ := hC
  have hdp := dep_pos y hy
  have hc0 := wl_arr (dA := dA) (z := z) hWo.1 hS0
  have hc1 := wl_arr (dA := dA) (z := z) hWo.1 hS1
  refine va_copyl (ty := .long) hx hb (by rw [hml, hls]) hown (hts _ (arcT_ok _ (lnkB_ok hl))) (hts _ arc_words.1) (hts _ arc_words.2.1) (hts _ arc_words.2.2) hK.1 hWo.2.1 hWo.2.2 hSv ks kd 1 1 hc0 hc1 (tyL_at (by omega)) (tyL_at (by omega)) rfl h1 h2 h3 h4 h5 (fun i hi => rfl) (by omega) ?_ hd (fun H1 locs1 hP1 hD1 hS1' => ?_)
  · rw [wsum_eq]
    have : nativeFrameWords "java/lang/System" "arraycopy" 5 = 7 := by decide
    omega
  · rw [wl_arrG (G := va_up X.2.2 kd (va_cpy (X.2.2 ks) (X.2.2 kd) sp.toNatClampNeg dp.toNatClampNeg n.toNatClampNeg)) hWo.1 hS1 uo_self (fun j hj => uo_ne hj)] at hP1 hD1
    exact kk H1 locs1 ⟨hWo.1, hP1, hD1⟩ hS1'
theorem cpq_snd (hC : Ctx y p l R s m args meth c D dA A) (hy : y < 170) (hWo : Wo D dA z A X H) (hSv : va_S A s.heap H locs) {ks kd n0 n1 idx pc : Nat} {sp dp n : Int32} {ls : Array Slot} {st : List Value} (hls : ls.size = mloc y) (hw8 : wsum st ≤ 8) (hS0 : X.1.1 ks = some (.inr (5, n0))) (hS1 : X.1.1 kd = some (.inr (5, n1)))
    (h1 : ¬ sp < 0) (h2 : ¬ dp < 0) (h3 : ¬ n < 0) (h4 : sp.toNatClampNeg + n.toNatClampNeg ≤ n0) (h5 : dp.toNatClampNeg + n.toNatClampNeg ≤ n1) (hel : ∀ i, i < n.toNatClampNeg → ∃ q, X.1.2.1 ks (sp.toNatClampNeg + i) = .ref q ∧ X.1.1 q = some (.inl 6)) (hd : decode (mcod y) pc = .ok (.invokestatic idx, 3)) (hl : lnkB arcT (mnam y).cls idx = true)
    (kk : ∀ H1 locs1, Wo D dA z A (sR X (va_up X.1.2.1 kd (va_cpy (X.1.2.1 ks) (X.1.2.1 kd) sp.toNatClampNeg dp.toNatClampNeg n.toNatClampNeg))) H1 → va_S A s.heap H1 locs1 → W p l e R s m args below meth c H1 locs1 cells slots Qf (F0 m (pc + 3) ls (st.map (con z)))) : W p l e R s m args below meth c H locs cells slots Qf (F0 m pc ls (.int n :: .int dp :: .ref (z.2 kd) :: .int sp :: .ref (z.2 ks) :: st.map (con z))) := by
  obtain ⟨⟨hx, hb, hml, hown, hts⟩, -, hK, hA, hR1, hR2, -⟩ := hC
  have hdp := dep_pos y hy
  have hc0 := wl_arr (dA := dA) (z := z) hWo.1 hS0
  have hc1 := wl_arr (dA := dA) (z := z) hWo.1 hS1
  have e0 : (fun j => refO z (va_up X.1.2.1 kd (va_cpy (X.1.2.1 ks) (X.1.2.1 kd) sp.toNatClampNeg dp.toNatClampNeg n.toNatClampNeg) kd j)) = va_cpy (fun j => refO z (X.1.2.1 ks j)) (fun j => refO z (X.1.2.1 kd j)) sp.toNatClampNeg dp.toNatClampNeg n.toNatClampNeg := by
    funext j
    rw [uo_self]
    unfold va_cpy
    split <;> rfl
  refine va_copyq (C := "LateJudge$State") (E0 := "LateJudge$State") (E1 := "LateJudge$State") hx hb (by rw [hml, hls]) hown (hts _ (arcT_ok _ (lnkB_ok hl))) (hts _ arc_words.1) (hts _ arc_words.2.1) (hts _ arc_words.2.2) hK.1 hWo.2.1 hWo.2.2 hSv ks kd 5 5 hc0 hc1 (tyL_at (by omega)) (tyL_at (by omega)) h1 h2 h3 h4 h5 (fun i hi y0 hy0 => ?_) (fun comp c0 g1 g2 => vb_asgS comp c0 g1 g2) (by omega) ?_ hd (fun H1 locs1 hP1 hD1 hS1' => ?_)
  · obtain ⟨q, hq1, hq2⟩ := hel i hi
    rw [hq1] at hy0
    cases hy0
    exact va_recv hK.1 hWo.2.1 (mCl_at 6 (by omega)) (wl_obj hWo.1 hq2)
  · rw [wsum_eq]
    have : nativeFrameWords "java/lang/System" "arraycopy" 5 = 7 := by decide
    omega
  · rw [wl_arrR (R := va_up X.1.2.1 kd (va_cpy (X.1.2.1 ks) (X.1.2.1 kd) sp.toNatClampNeg dp.toNatClampNeg n.toNatClampNeg)) hWo.1 hS1 (by omega) (by omega) e0 (fun j hj => uo_ne hj)] at hP1 hD1
    refine kk H1 locs1 ⟨⟨fun k j hk => ?_, hWo.1.2⟩, hP1, hD1⟩ hS1'
    show isRf (va_up X.1.2.1 kd (va_cpy (X.1.2.1 ks) (X.1.2.1 kd) sp.toNatClampNeg dp.toNatClampNeg n.toNatClampNeg) k j) = true ∧ vok X.1.2.2.1 (va_up X.1.2.1 kd (va_cpy (X.1.2.1 ks) (X.1.2.1 kd) sp.toNatClampNeg dp.toNatClampNeg n.toNatClampNeg) k j)
    by_cases ek : k = kd
    · subst ek
      rw [uo_self]
      unfold va_cpy
      split
      · exact hWo.1.1 ks _ (wf_lt hWo.1 hS0)
      · exact hWo.1.1 k _ hk
    · rw [uo_ne ek]
      exact hWo.1.1 k j hk
theorem arr_cell {t n k : Nat} (hWo : Wo D dA z A X H) (hK : KK D dA s) (ht : t < 5) (hS : X.1.1 k = some (.inr (t, n))) : ∃ cell : Cell, H[z.2 k]? = some cell ∧ cell.vm.isStatics = false ∧ s.vm.findClass (aNm t) = some cell.cls := by
  have hc := hWo.2.1 k _ (wl_arr (dA := dA) (z := z) hWo.1 hS)
  have hf : s.vm.findClass (aNm t) = some (dA t) := by
    have h1 := (hK.1.2 t _ (tyL_at (by omega))).2
    rcases (show t = 0 ∨ t = 1 ∨ t = 2 ∨ t = 3 ∨ t = 4 by omega) with rfl | rfl | rfl | rfl | rfl <;> exact h1
  rcases (show t = 0 ∨ t = 1 ∨ t = 2 ∨ t = 3 ∨ t = 4 by omega) with rfl | rfl | rfl | rfl | rfl <;> exact ⟨_, hc, rfl, hf⟩
theorem cas_snd (hC : Ctx y p l R s m args meth c D dA A) (hWo : Wo D dA z A X H) {k t n idx pc : Nat} {ls : Array Slot} {rest : List Value} (hS : X.1.1 k = some (.inr (t, n))) (ht : t < 5) (hd : decode (mcod y) pc = .ok (.checkcast idx, 3)) (hc : clsB (mnam y).cls idx (aNm t) = true)
    (kk : W p l e R s m args below meth c H locs cells slots Qf (F0 m (pc + 3) ls (.ref (z.2 k) :: rest))) : W p l e R s m args below meth c H locs cells slots Qf (F0 m pc ls (.ref (z.2 k) :: rest)) := by
  obtain ⟨⟨hx, hb, hml, hown, hts⟩, -, hK, -⟩ := hC
  exact va_castE hx hb hown (hts _ (clsB_ok hc)) (arr_cell hWo hK ht hS) hd kk
theorem ins_snd (hC : Ctx y p l R s m args meth c D dA A) (hWo : Wo D dA z A X H) {k t n a idx pc : Nat} {ls : Array Slot} {rest : List Value} (hS : X.1.1 k = some (.inr (t, n))) (ht : t < 5) (ha : a < 5) (ha2 : a ≠ 2) (hd : decode (mcod y) pc = .ok (.instanceof idx, 3)) (hc : clsB (mnam y).cls idx (aNm a) = true)
    (kk : W p l e R s m args below meth c H locs cells slots Qf (F0 m (pc + 3) ls (.int (if t = a then 1 else 0) :: rest))) : W p l e R s m args below meth c H locs cells slots Qf (F0 m pc ls (.ref (z.2 k) :: rest)) := by
  obtain ⟨⟨hx, hb, hml, hown, hts⟩, -, hK, -⟩ := hC
  by_cases e : t = a
  · subst e
    rw [if_pos rfl] at kk
    exact va_instE hx hb hown (hts _ (clsB_ok hc)) (arr_cell hWo hK ht hS) hd kk
  · rw [if_neg e] at kk
    exact va_instNo hx hb hown (hts _ (clsB_ok hc)) (hK.2.2.1 t a ht ha ha2 e) (arr_cell hWo hK ht hS) hd kk
theorem obi_snd (hC : Ctx y p l R s m args meth c D dA A) (hy : y < 170) {a idx pc : Nat} {ls : Array Slot} {st : List Value} (hls : ls.size = mloc y) (hw8 : wsum st ≤ 8) (hd : decode (mcod y) pc = .ok (.invokespecial idx, 3)) (hl : lnkB obiT (mnam y).cls idx = true)
    (kk : W p l e R s m args below meth c H locs cells slots Qf (F0 m (pc + 3) ls (st.map (con z)))) : W p l e R s m args below meth c H locs cells slots Qf (F0 m pc ls (.ref a :: st.map (con z))) := by
  obtain ⟨⟨hx, hb, hml, hown, hts⟩, -, hK, hA, hR1, hR2, -⟩ := hC
  have hdp := dep_pos y hy
  refine W.objInit hx hb hown (hts _ (obiT_ok _ (lnkB_ok hl))) (hts _ obi_words.1) (hts _ obi_words.2) rfl (by rw [hml]; exact hls) rfl hd (by omega) ?_ kk
  show 2 * 0 + ((st.map (con z)).map fun v => v.category).sum + 12 ≤ R.locals
  rw [wsum_eq]
  omega
theorem cnd_snd (hC : Ctx y p l R s m args meth c D dA A) {pc a : Nat} {ins : Instr} {ls : Array Slot} {st r : List Value} {q : Prop} {neg : Bool} {nf : Nat} (hs : okS nf st) (hd : decode (mcod y) pc = .ok (ins, 3)) (ht : brB ins pc a = true) (h : cnd ins st = some (q, neg, r))
    (k1 : q → okS nf r → W p l e R s m args below meth c H locs cells slots Qf (F0 m (bif neg then pc + 3 else a) ls (r.map (con z)))) (k2 : ¬ q → okS nf r → W p l e R s m args below meth c H locs cells slots Qf (F0 m (bif neg then a else pc + 3) ls (r.map (con z)))) : W p l e R s m args below meth c H locs cells slots Qf (F0 m pc ls (st.map (con z))) := by
  obtain ⟨⟨hx, hb, -⟩, -⟩ := hC
  unfold cnd at h
  split at h
  · have ht2 := of_decide_eq_true (p := (pc : Int) + _ = (a : Int)) ht
    split at h
    · have hr := hs.tail
      split at h <;> cases h
      · exact lv_if_eq hx hb hd ht2 (fun h => k1 h hr) (fun h => k2 h hr)
      · exact lv_if_ne hx hb hd ht2 (fun h => k2 h hr) (fun h => k1 h hr)
      · exact lv_if_lt hx hb hd ht2 (fun h => k1 h hr) (fun h => k2 h hr)
      · exact lv_if_ge hx hb hd ht2 (fun h => k2 (Int32.not_lt.mpr h) hr) (fun h => k1 (Int32.not_le.mp h) hr)
      · exact lv_if_gt hx hb hd ht2 (fun h => k1 h hr) (fun h => k2 h hr)
      · exact lv_if_le hx hb hd ht2 (fun h => k2 (Int32.not_lt.mpr h) hr) (fun h => k1 (Int32.not_le.mp h) hr)
    · cases h
  · have ht2 := of_decide_eq_true (p := (pc : Int) + _ = (a : Int)) ht
    split at h
    · have hr := hs.tail.tail
      split at h <;> cases h
      · exact lv_icmp_eq hx hb hd ht2 (fun h => k1 h hr) (fun h => k2 h hr)
      · exact lv_icmp_ne hx hb hd ht2 (fun h => k2 h hr) (fun h => k1 h hr)
      · exact lv_icmp_lt hx hb hd ht2 (fun h => k1 h hr) (fun h => k2 h hr)
      · exact lv_icmp_ge hx hb hd ht2 (fun h => k2 (Int32.not_lt.mpr h) hr) (fun h => k1 (Int32.not_le.mp h) hr)
      · exact lv_icmp_gt hx hb hd ht2 (fun h => k1 h hr) (fun h => k2 h hr)
      · exact lv_icmp_le hx hb hd ht2 (fun h => k2 (Int32.not_lt.mpr h) hr) (fun h => k1 (Int32.not_le.mp h) hr)
    · cases h
  · cases h
end More
