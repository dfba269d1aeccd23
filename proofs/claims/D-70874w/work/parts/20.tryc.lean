/-! EXCEPTIONS: a call of a method that may throw -/
theorem W.post {p : Program} {l : Launch} {e : Env} {R : Room} {s : State} {m : MethodId} {args : Array Value} {below : List Frame} {meth : Method} {c : Code} {H : Heap} {locs : List Loc} {cells slots : Nat} {Q Q' : State → Prop} {g : JFrame} (h : W p l e R s m args below meth c H locs cells slots Q g) (hq : ∀ t, Q t → Q' t) : W p l e R s m args below meth c H locs cells slots Q' g := fun T hT X => by
  obtain ⟨t, a, b⟩ := h T hT X
  exact ⟨t, a, hq t b⟩
def noT (Q : Po) : Po := fun o X => match o with
  | .returned v => Q (.returned v) X
  | .threw _ => False
/-- the end of a method that throws -/
def EnT (D : va_G) (dA : Nat → ClassId) (z : Ad) (X : Xs) (sz : Nat) (Q : Po) (o : Outcome) (t : State) : Prop :=
  ∃ (k : Nat) (X' : Xs) (z' : Ad), Q (.threw k) X' ∧ o = .threw (z'.2 k) ∧ k < X'.1.2.2.1 ∧ agr z z' X.1.2.2.1 ∧ X.1.2.2.1 ≤ X'.1.2.2.1 ∧ X'.1.2.2.2 = X.1.2.2.2 ∧ Wo D dA z' (va_A (wl dA z X) sz) X' t.heap
def QTs (below : List Frame) (s : State) (D : va_G) (dA : Nat → ClassId) (z : Ad) (X : Xs) (Q : Po) (y : Nat) : State → Prop := fun t => ∃ o, Ended t below o ∧ (EnR D dA z X s.heap.size Q o t ∨ EnT D dA z X s.heap.size Q o t) ∧ va_F (va_A (wl dA z X) s.heap.size) s t ∧ ∃ L : List Loc, s.WarmedH t.vm ∧ s.sameButNew ({ t with vm := s.vm } : State) L (mmc y) (mms y) ∧ ∀ q ∈ L, va_A (wl dA z X) s.heap.size q.base
theorem end_thr {p : Program} {l : Launch} {e : Env} {R : Room} {s : State} {m : MethodId} {args : Array Value} {below : List Frame} {meth : Method} {c : Code} {D : va_G} {dA : Nat → ClassId} {y : Nat} {X : Xs} {z : Ad} {Q : Po} (hC : Ctx y p l R s m args meth c D dA (va_A (wl dA z X) s.heap.size)) (hh0 : mhnd y = []) : EndP y p l e R s m args below meth c D dA (va_A (wl dA z X) s.heap.size) (QTs below s D dA z X Q y) z X.1.2.2.1 X.1.2.2.2 Q := by
  have h0 := end_ret (l := l) (e := e) (below := below) (Q := noT Q) hC (fun k X' h => h)
  have hlocks : meth.locks = false := hC.2.1.2.1
  have hex : exT y c := hC.2.1.2.2.2.1
  intro z' X' H locs cs sl pc ls hWo hag hnf hsc hSv hcs hsl
  obtain ⟨r1, r2, r3, r4, -⟩ := h0 z' X' H locs cs sl pc ls hWo hag hnf hsc hSv hcs hsl
  have cv : ∀ t, MQ below (QcP D dA z X s.heap.size (noT Q)) args s (mmc y) (mms y) (va_A (wl dA z X) s.heap.size) t → QTs below s D dA z X Q y t := by
    rintro t ⟨o, -, he, ⟨⟨v, X1, z1, hq, hr⟩, h2⟩, L, ⟨-, w1, w2⟩, hL⟩
    exact ⟨o, he, Or.inl ⟨v, X1, z1, hq, hr⟩, h2, L, w1, w2, hL⟩
  refine ⟨fun hq a b => (r1 hq a b).post cv, fun x hq a b d => (r2 x hq a b d).post cv, fun x hq a b => (r3 x hq a b).post cv, fun k hq a b d => (r4 k hq a b d).post cv, fun k st hq hk _ => ?_⟩
  intro T hT X2
  have hout : ∀ x ∈ c.exceptionTable.toList, covers x (F0 m pc ls st).pc = false := by
    have h4 : c.exceptionTable.toList.map (fun h => (h.startPc, h.endPc, h.handlerPc, h.catchType)) = mhnd y := hex
    rw [hh0, List.map_eq_nil_iff] at h4
    rw [h4]
    intro x hx
    cases hx
  obtain ⟨st1, -, he, w1, w2⟩ := (stand_widen X2 hcs hsl).leaveThrown (z'.2 k) (g := F0 m pc ls st) rfl rfl rfl hout hlocks
  exact ⟨_, st1, .threw (z'.2 k), he, Or.inr ⟨k, X', z', hq, rfl, hk, hag, hnf, hsc, by rw [show (T.setFrames (.throwing (z'.2 k) :: below)).heap = T.heap from rfl, hT]; exact hWo⟩, hSv.F hT, locs, w1, w2, hSv.2.2⟩
set_option maxHeartbeats 4000000 in
theorem cT_snd {y pc a idx k : Nat} {L : Lo} {u : Nat × Nat} {X : Xs} {Q Q' : Po} {pre rest : List Value} {p : Program} {l : Launch} {e : Env} {R : Room} {s : State} {m : MethodId} {args : Array Value} {below : List Frame} {meth : Method} {c : Code} {D : va_G} {dA : Nat → ClassId} {A : Nat → Prop} {Qf : State → Prop} {H : Heap} {locs : List Loc} {ls : Array Slot} {z z0 : Ad} {nf0 : Nat} (hy : y < 170)
    (hC : Ctx y p l R s m args meth c D dA A) (hEnd : EndP y p l e R s m args below meth c D dA A Qf z0 nf0 X.1.2.2.2 Q) (hE : Exs z A X.1.2.2.2 s s.heap) (hWo : Wo D dA z A X H) (hag : agr z0 z nf0) (hnf : nf0 ≤ X.1.2.2.1) (hSv : va_S A s.heap H locs) (hl : hasL z X.1.2.2.1 ls L) (hlen : L.length = mloc y)
    (ha : a < 170) (hd : decode (mcod y) pc = .ok (.invokevirtual idx, 3)) (hk : clkB (mnam y).cls idx a 0 = true) (hh0 : mhnd a = []) (hp : pre.length = npar a) {ci : Nat} (hci : ci < 15) (hcn : cRn ci = (mnam a).cls) (hS : X.1.1 k = some (.inl ci)) (hM : Snd a 0 (entL (mloc a) (.ref k :: pre.reverse)) [] (0, 0) X Q')
    (hg : mdep a < mdep y ∧ mlcs a + 60 ≤ mlcs y ∧ u.1 + mmc a ≤ mmc y ∧ u.2 + mms a ≤ mms y ∧ wsum rest ≤ 8 ∧ (sl (.ref k :: pre.reverse)).length ≤ mloc a) (hok : okS X.1.2.2.1 (pre ++ .ref k :: rest)) (hcon : ∀ o X', Q' o X' → conF Snd y pc a L rest (u.1 + mmc a, u.2 + mms a) X' Q o) : W p l e R s m args below meth c H locs u.1 u.2 Qf (F0 m pc ls ((pre ++ .ref k :: rest).map (con z))) := by
  obtain ⟨hg1, hg1', hg2, hg3, hg4, hg5⟩ := hg
  have hpar := par_all a ha
  have hrm := rom_fit hC ha ⟨hg1, hg1'⟩
  have hCC := hC
  obtain ⟨⟨hx, hb, hml, hown, hts⟩, -, hK, hA, -, -, hRc, hRs⟩ := hCC
  have hgd : GoodIn lw_all (wsV (mnam y).cls idx (mnam a).cls (mnam a) (ws_ (mnam a) (mcod a) (mloc a) (mret a))) := clkB_ok hk
  obtain ⟨⟨-, -, -, -, hws, -, hcode, -, hyn, hlen2, hlk⟩, hin, hse⟩ := cwV (R := R) (rm := rom a) (npar a) hts hgd rfl rfl rfl ⟨rfl, hpar.1⟩ hrm
  have hrv := va_recv hK.1 hWo.2.1 (mCl_at ci hci) (wl_obj (dA := dA) (z := z) hWo.1 hS)
  rw [hcn] at hrv
  obtain ⟨cellB, hcB, hoB, hclB⟩ := hrv
  have hst : (pre ++ .ref k :: rest).map (con z) = ((pre.reverse).map (con z)).reverse ++ Value.ref (z.2 k) :: rest.map (con z) := by simp [con]
  have hsub := A_sub hWo hA hSv
  have hokp : okS X.1.2.2.1 (.ref k :: pre.reverse) := fun w hw => hok w (by
    rcases List.mem_cons.mp hw with q | q
    · rw [q]; simp
    · simp at q; simp [q])
  have hokd : okS X.1.2.2.1 rest := fun w hw => hok w (by simp [hw])
  intro T hT X0
  obtain ⟨mk, methM, hnamed, hmethM, hstM, habM⟩ := Cond.instanceMethod_spec hin
  obtain ⟨methM', cM, hmethM', hcM, hbM, hlM, hrM, hlkM, heM, hsigM⟩ := Cond.code_spec hnamed hcode
  cases hmethM.symm.trans hmethM'
  obtain ⟨c2, r2, m2, q1, q2, q3, q4, kP, hkP, hkPi⟩ := Cond.selects_spec hse
  cases hclB.symm.trans q1
  cases (State.methodFound?_of_named hnamed hyn).symm.trans q2
  cases hnamed.symm.trans q3
  have hselP : selectMethod e.platform s.vm cellB.cls mk = .method mk := by rw [Launch.admits_selectMethod X0.admits]; exact q4
  have hdg : decode c.code (F0 m pc ls ((pre ++ .ref k :: rest).map (con z))).pc = .ok (.invokevirtual idx, 3) := by rw [hb]; exact hd
  obtain ⟨vm₁, X₁, hstep₁⟩ := X0.invokevirtual hx hown hlk hnamed hmethM hstM hkP hkPi hyn (a := z.2 k) (cell := cellB) (by rw [hT]; exact hcB)
    (fun q h => by rw [h] at hoB; cases hoB) hselP hmethM habM hkP hkPi (g := F0 m pc ls ((pre ++ .ref k :: rest).map (con z))) rfl (argsL := (pre.reverse).map (con z)) (rest := rest.map (con z)) (by rw [List.length_map, List.length_reverse, hp]; exact hlen2 _ hsigM) hst hdg
  have hmk1 : (T.setVm vm₁).vm.method? mk = some methM := by rw [X₁.warmed.alike.method?]; exact hmethM
  have hnm1 := X₁.named hnamed
  have hpk : (T.setVm vm₁).plainMethod mk := State.plainMethod.of_named hpar.2.1 hnm1 hmk1
  have hls : ls.size = mloc y := hl.1.trans hlen
  obtain ⟨Y, hdo⟩ := X₁.into (g := F0 m pc ls (rest.map (con z))) rfl (by rw [hml]; exact hls) hdg (((Value.ref k :: pre.reverse).map (con z)).toArray) (R' := rom a) hmk1 hcM hlkM hpk hrm.1 (by
      have h8 := mon_w (z := z) (m := m) (pc := pc) (ls := ls) (st0 := []) hg4
      have h9 := hrm.2
      rw [hlM]
      show 2 * 0 + ((rest.map (con z)).map fun v => v.category).sum + (mloc a + 11) + (rom a).locals ≤ R.locals
      have h10 : 2 * 0 + ((rest.map (con z)).map fun v => v.category).sum ≤ 8 := h8
      omega) (show u.1 + mmc a ≤ R.cells by omega) (show u.2 + mms a ≤ R.slots by omega)
  have hP : PcP D dA z X (.ref k :: pre.reverse) H.size ((Value.ref k :: pre.reverse).map (con z)).toArray ((T.setVm vm₁).calling (F0 m pc ls (rest.map (con z))) mk ((Value.ref k :: pre.reverse).map (con z)).toArray) := PcP_blind _ _ _ _ (PcP_at hC hE hWo hSv (T.setVm vm₁) hT X₁.warmed)
  obtain ⟨-, hsz, hWo', hK', hE'⟩ := hP
  have hC' : Ctx a p l (rom a) ((T.setVm vm₁).calling (F0 m pc ls (rest.map (con z))) mk ((Value.ref k :: pre.reverse).map (con z)).toArray) mk ((Value.ref k :: pre.reverse).map (con z)).toArray methM cM D dA (va_A (wl dA z X) ((T.setVm vm₁).calling (F0 m pc ls (rest.map (con z))) mk ((Value.ref k :: pre.reverse).map (con z)).toArray).heap.size) := by
    refine ⟨⟨hx, hbM, hlM, findClass_of_methodNamed (s := T.setVm vm₁) hnm1, fun w h => hws w (List.mem_cons_of_mem _ h) _ _ X₁.warmed⟩, ⟨hrM, hlkM, (name_of_methodNamed hnamed hmethM).1, ?_, hC.2.1.2.2.2.2⟩, hK', fun q h => Or.inr h, Nat.le_refl _, Nat.le_refl _, Nat.le_refl _, Nat.le_refl _⟩
    unfold exT
    rw [hh0]
    have : cM.exceptionTable = #[] := by simpa using heM
    rw [this]; rfl
  rw [← hsz] at hE'
  have hW2 := hM p l e (rom a) _ mk _ (.java (F0 m pc ls (rest.map (con z))) :: below) methM cM D dA _ _ _ [] _ z z X.1.2.2.1 hC' (end_thr (l := l) (e := e) (below := .java (F0 m pc ls (rest.map (con z))) :: below) (Q := Q') hC' hh0) hE' hWo'.self ⟨rfl, fun _ _ => rfl⟩ (Nat.le_refl _) va_S.rf (ent_has hokp hg5) (fun v hv => by cases hv) (by unfold entL; simp; omega) ⟨Nat.zero_le _, Nat.zero_le _⟩
  obtain ⟨t, st1, o, hend, hen, hF, Lc, w1, w2, hL⟩ := hW2 (((T.setVm vm₁).setTop (F0 m pc ls (rest.map (con z)))).pushFrame (.java (entryFrame mk ((Value.ref k :: pre.reverse).map (con z)).toArray cM.maxLocals))) rfl Y
  rw [List.map_nil, ← lg_entry_eq, ← hlM] at st1
  have hS1 : ∀ T' : State, T'.heap = t.heap → va_S A s.heap T'.heap (locs ++ Lc) := fun T' e1 => by
    have hz : H.size ≤ t.heap.size := by rw [← hsz]; exact hF.1
    have hkp : ∀ q, q < H.size → ¬ va_A (wl dA z X) H.size q → t.heap[q]? = H[q]? := fun q h1 h2 => by
      have := hF.2 q (by rw [hsz]; exact h1) (by rw [hsz]; exact h2)
      rw [this]
      show T.heap[q]? = _
      rw [hT]
    refine ⟨Nat.le_trans hSv.1 (by rw [e1]; exact hz), fun q h1 h2 => by rw [e1, hkp q (Nat.lt_of_lt_of_le h1 hSv.1) (fun w => h2 (hsub q w))]; exact hSv.2.1 q h1 h2, fun q hq => ?_⟩
    rcases List.mem_append.mp hq with h | h
    · exact hSv.2.2 q h
    · exact hsub _ (by rw [← hsz]; exact hL q h)
  rw [hsz] at hen
  rcases hen with ⟨v, X1, z', hq, rfl, hv, hag', hnf', hsc, hWo1⟩ | ⟨k1, X1, z', hq, rfl, hk1, hag', hnf', hsc, hWo1⟩
  · obtain ⟨T', XT, -, -, ht⟩ := X₁.outOf (g := F0 m pc ls (rest.map (con z))) rfl hdg hend w1 w2
    have e1 : T'.heap = t.heap := by rw [ht]; rfl
    have hE2 : Exs z' A X1.1.2.2.2 s s.heap := by
      rw [hsc]
      have e0 : z'.1 = z.1 := hag'.1
      unfold Exs at hE ⊢
      rw [e0]; exact hE
    have hag2 : agr z0 z' nf0 := ⟨hag'.1.trans hag.1, fun k hk => (hag'.2 k (by omega)).trans (hag.2 k hk)⟩
    have hc0 := hcon _ _ hq
    have hWo2 : Wo D dA z' A X1 T'.heap := by rw [e1]; exact hWo1.weak hsub
    have hfin : W p l e R s m args below meth c T'.heap (locs ++ Lc) (u.1 + mmc a) (u.2 + mms a) Qf (F0 m (pc + 3) ls ((v.map (con z')).toList ++ rest.map (con z))) := by
      rw [← map_con hag' hokd]
      cases v with
      | none => exact hc0 p l e R s m args below meth c D dA A Qf T'.heap (locs ++ Lc) ls z' z0 nf0 hC (by rw [hsc]; exact hEnd) hE2 hWo2 hag2 (by omega) (hS1 T' e1) (hl.mono hag' hnf') (hokd.mono hnf') hlen ⟨hg2, hg3⟩
      | some w => exact hc0 p l e R s m args below meth c D dA A Qf T'.heap (locs ++ Lc) ls z' z0 nf0 hC (by rw [hsc]; exact hEnd) hE2 hWo2 hag2 (by omega) (hS1 T' e1) (hl.mono hag' hnf') (okS.cons (hv w rfl) (hokd.mono hnf')) hlen ⟨hg2, hg3⟩
    obtain ⟨t2, s2, q2⟩ := hfin T' rfl XT
    refine ⟨t2, hstep₁ t2 (fun acts => ?_), q2⟩
    have h7 := Steps.weaken (mid := [.java (F0 m pc ls (rest.map (con z)))]) st1
    rw [ht] at h7
    exact (hdo acts) ▸ h7.trans s2
  · obtain ⟨T', XT, -, -, ht⟩ := X₁.outOfThrown (g := F0 m pc ls (rest.map (con z))) rfl hend w1 w2
    have e1 : T'.heap = t.heap := by rw [ht]; rfl
    have hE2 : Exs z' A X1.1.2.2.2 s s.heap := by
      rw [hsc]
      have e0 : z'.1 = z.1 := hag'.1
      unfold Exs at hE ⊢
      rw [e0]; exact hE
    have hag2 : agr z0 z' nf0 := ⟨hag'.1.trans hag.1, fun k hk => (hag'.2 k (by omega)).trans (hag.2 k hk)⟩
    have hc0 := hcon _ _ hq
    have hWo2 : Wo D dA z' A X1 T'.heap := by rw [e1]; exact hWo1.weak hsub
    have hfin := thr_snd (ls := ls) (L := L) hy hc0.2 hC (by rw [hsc]; exact hEnd) hE2 hWo2 hag2 (by omega) (hS1 T' e1) (hl.mono hag' hnf') hlen ⟨hg2, hg3⟩ (rest.map (con z))
    obtain ⟨t2, s2, q2⟩ := hfin T' rfl XT
    refine ⟨t2, hstep₁ t2 (fun acts => ?_), q2⟩
    have h7 := Steps.weaken (mid := [.java (F0 m pc ls (rest.map (con z)))]) st1
    rw [ht] at h7
    exact (hdo acts) ▸ h7.trans s2
