/-! EXCEPTIONS: athrow; an exception passes the frame -/
/-- class of the object, entry and class of the row, whether it takes -/
def tkT : List (Nat × Nat × String × Bool) := [(7, 35, "LateJudge$Fault", true), (10, 355, "java/lang/NegativeArraySizeException", true), (11, 357, "java/lang/NullPointerException", true), (11, 359, "java/lang/ClassCastException", false), (11, 361, "java/lang/ArrayIndexOutOfBoundsException", false), (11, 363, "java/lang/ArrayStoreException", false), (11, 365, "java/lang/IndexOutOfBoundsException", false), (12, 357, "java/lang/NullPointerException", false), (12, 359, "java/lang/ClassCastException", true), (12, 361, "java/lang/ArrayIndexOutOfBoundsException", false), (13, 357, "java/lang/NullPointerException", false), (13, 359, "java/lang/ClassCastException", false), (13, 361, "java/lang/ArrayIndexOutOfBoundsException", true), (13, 363, "java/lang/ArrayStoreException", false), (13, 365, "java/lang/IndexOutOfBoundsException", true), (14, 357, "java/lang/NullPointerException", false), (14, 363, "java/lang/ArrayStoreException", true), (14, 365, "java/lang/IndexOutOfBoundsException", false)]
abbrev tkP (q : Nat × Nat × String × Bool) : Prop := Cond.classLink "LateJudge" q.2.1 q.2.2.1 ∈ lw_all ∧ match q.2.2.2 with
  | true => Cond.castable (cRn q.1) q.2.2.1 ∈ lw_tbl
  | false => (cRn q.1, q.2.2.1) ∈ exNc
theorem tk_ok : ∀ q ∈ tkT, tkP q := List.forall_mem_cons.mpr ⟨⟨(lw_g (lw_at lw_m1 132 rfl) rfl), (lw_at lw_m1 134 rfl)⟩, List.forall_mem_cons.mpr ⟨⟨(lw_g (lw_at lw_m3 164 rfl) rfl), (lw_at lw_m3 184 rfl)⟩, List.forall_mem_cons.mpr ⟨⟨(lw_g (lw_at lw_m3 204 rfl) rfl), (lw_at lw_m3 226 rfl)⟩, List.forall_mem_cons.mpr ⟨⟨(lw_g (lw_at lw_m3 229 rfl) rfl), (List.mem_of_getElem? (i := 0) rfl)⟩, List.forall_mem_cons.mpr ⟨⟨(lw_g (lw_at lw_m4 3 rfl) rfl), (List.mem_of_getElem? (i := 1) rfl)⟩, List.forall_mem_cons.mpr ⟨⟨(lw_g (lw_at lw_m4 26 rfl) rfl), (List.mem_of_getElem? (i := 2) rfl)⟩, List.forall_mem_cons.mpr ⟨⟨(lw_g (lw_at lw_m4 40 rfl) rfl), (List.mem_of_getElem? (i := 3) rfl)⟩, List.forall_mem_cons.mpr ⟨⟨(lw_g (lw_at lw_m3 204 rfl) rfl), (List.mem_of_getElem? (i := 4) rfl)⟩, List.forall_mem_cons.mpr ⟨⟨(lw_g (lw_at lw_m3 229 rfl) rfl), (lw_at lw_m4 1 rfl)⟩, List.forall_mem_cons.mpr ⟨⟨(lw_g (lw_at lw_m4 3 rfl) rfl), (List.mem_of_getElem? (i := 5) rfl)⟩, List.forall_mem_cons.mpr ⟨⟨(lw_g (lw_at lw_m3 204 rfl) rfl), (List.mem_of_getElem? (i := 6) rfl)⟩, List.forall_mem_cons.mpr ⟨⟨(lw_g (lw_at lw_m3 229 rfl) rfl), (List.mem_of_getElem? (i := 7) rfl)⟩, List.forall_mem_cons.mpr ⟨⟨(lw_g (lw_at lw_m4 3 rfl) rfl), (lw_at lw_m4 18 rfl)⟩, List.forall_mem_cons.mpr ⟨⟨(lw_g (lw_at lw_m4 26 rfl) rfl), (List.mem_of_getElem? (i := 8) rfl)⟩, List.forall_mem_cons.mpr ⟨⟨(lw_g (lw_at lw_m4 40 rfl) rfl), (lw_at lw_m5 154 rfl)⟩, List.forall_mem_cons.mpr ⟨⟨(lw_g (lw_at lw_m3 204 rfl) rfl), (List.mem_of_getElem? (i := 9) rfl)⟩, List.forall_mem_cons.mpr ⟨⟨(lw_g (lw_at lw_m4 26 rfl) rfl), (lw_at lw_m4 38 rfl)⟩, List.forall_mem_cons.mpr ⟨⟨(lw_g (lw_at lw_m4 40 rfl) rfl), (List.mem_of_getElem? (i := 10) rfl)⟩, fun _ h => absurd h List.not_mem_nil⟩⟩⟩⟩⟩⟩⟩⟩⟩⟩⟩⟩⟩⟩⟩⟩⟩⟩
def tkB (ci ct : Nat) : Bool := tkT.any fun q => decide (q.1 = ci) && decide (q.2.1 = ct) && q.2.2.2
theorem han_few : ∀ y, y < 170 → mhan y ≠ [] → y = 13 ∨ y = 65 ∨ y = 67 ∨ y = 68 := by decide +kernel
def hnB (y ci : Nat) : Bool := (mhnd y).all fun q => tkT.any fun r => decide (r.1 = ci) && decide (r.2.1 = q.2.2.2) && decide (r.2.2.2 = tkB ci q.2.2.2) && decide (q.2.2.2 ≠ 0)
theorem hf_in {y pc ci h : Nat} (hf : hfind y pc ci = some h) : ∃ q ∈ mhan y, ci ∈ q.2.2.2 := by
  unfold hfind at hf
  obtain ⟨q, hq, -⟩ := Option.map_eq_some_iff.mp hf
  refine ⟨q, List.mem_of_find?_eq_some hq, ?_⟩
  have h2 := List.find?_some hq
  simp only [Bool.and_eq_true] at h2
  simpa using h2.2
theorem hf_ci {y pc ci h : Nat} (hy : y < 170) (hf : hfind y pc ci = some h) : (y, ci) ∈ ([(13, 7), (65, 10), (67, 11), (67, 12), (67, 13), (68, 11), (68, 14), (68, 13)] : List (Nat × Nat)) := by
  obtain ⟨q, hq, hc⟩ := hf_in hf
  have hne : mhan y ≠ [] := fun h0 => by rw [h0] at hq; cases hq
  rcases han_few y hy hne with rfl | rfl | rfl | rfl
  · have e1 : mhan 13 = [(0, 4, 7, [7])] := by decide +kernel
    rw [e1] at hq
    simp at hq
    subst hq
    simp at hc
    subst hc
    decide
  · have e1 : mhan 65 = [(16, 60, 63, [10])] := by decide +kernel
    rw [e1] at hq
    simp at hq
    subst hq
    simp at hc
    subst hc
    decide
  · have e1 : mhan 67 = [(10, 23, 26, [11]), (10, 23, 31, [12]), (10, 23, 36, [13])] := by decide +kernel
    rw [e1] at hq
    simp at hq
    rcases hq with rfl | rfl | rfl <;> simp at hc <;> subst hc <;> decide
  · have e1 : mhan 68 = [(18, 44, 47, [11]), (18, 44, 52, [14]), (18, 44, 57, [13])] := by decide +kernel
    rw [e1] at hq
    simp at hq
    rcases hq with rfl | rfl | rfl <;> simp at hc <;> subst hc <;> decide
/-- the table of class numbers and the table of the code find alike -/
def hcv (pc ci : Nat) (q : Nat × Nat × Nat × Nat) : Bool := (decide (q.1 ≤ pc) && decide (pc < q.2.1)) && tkB ci q.2.2.2
theorem hf_cov {pc a b c d : Nat} {x : Nat} {r : List Nat} {hh : Nat} {y ci : Nat} {R : List (Nat × Nat × Nat × List Nat)} (hm : mhan y = R) (hall : ∀ q ∈ R, q.1 = a ∧ q.2.1 = b) (hf : hfind y pc ci = some hh) : (decide (a ≤ pc) && decide (pc < b)) = true := by
  unfold hfind at hf
  rw [hm] at hf
  obtain ⟨q, hq, -⟩ := Option.map_eq_some_iff.mp hf
  have h2 := List.find?_some hq
  obtain ⟨e1, e2⟩ := hall q (List.mem_of_find?_eq_some hq)
  rw [Bool.and_eq_true, e1, e2] at h2
  exact h2.1
theorem hf_tab {y pc ci h : Nat} (hy : y < 170) (hf : hfind y pc ci = some h) : ((mhnd y).find? (hcv pc ci)).map (fun q => q.2.2.1) = some h ∧ hnB y ci = true ∧ (mnam y).cls = "LateJudge" := by
  have hm := hf_ci hy hf
  simp only [List.mem_cons, Prod.mk.injEq, List.not_mem_nil, or_false] at hm
  rcases hm with ⟨rfl, rfl⟩ | ⟨rfl, rfl⟩ | ⟨rfl, rfl⟩ | ⟨rfl, rfl⟩ | ⟨rfl, rfl⟩ | ⟨rfl, rfl⟩ | ⟨rfl, rfl⟩ | ⟨rfl, rfl⟩
  · refine ⟨?_, by decide +kernel, by decide +kernel⟩
    have hc := hf_cov (a := 0) (b := 4) (c := 0) (d := 0) (x := 0) (r := []) (R := [(0, 4, 7, [7])]) (by decide +kernel) (by decide) hf
    unfold hfind at hf
    rw [show mhan 13 = [(0, 4, 7, [7])] by decide +kernel] at hf
    rw [show mhnd 13 = [(0, 4, 7, 35)] by decide +kernel]
    unfold hcv
    simp only [List.find?, hc, Bool.true_and] at hf ⊢
    exact hf
  · refine ⟨?_, by decide +kernel, by decide +kernel⟩
    have hc := hf_cov (a := 16) (b := 60) (c := 0) (d := 0) (x := 0) (r := []) (R := [(16, 60, 63, [10])]) (by decide +kernel) (by decide) hf
    unfold hfind at hf
    rw [show mhan 65 = [(16, 60, 63, [10])] by decide +kernel] at hf
    rw [show mhnd 65 = [(16, 60, 63, 355)] by decide +kernel]
    unfold hcv
    simp only [List.find?, hc, Bool.true_and] at hf ⊢
    exact hf
  all_goals first
    | (refine ⟨?_, by decide +kernel, by decide +kernel⟩
       have hc := hf_cov (a := 10) (b := 23) (c := 0) (d := 0) (x := 0) (r := []) (R := [(10, 23, 26, [11]), (10, 23, 31, [12]), (10, 23, 36, [13])]) (by decide +kernel) (by decide) hf
       unfold hfind at hf
       rw [show mhan 67 = [(10, 23, 26, [11]), (10, 23, 31, [12]), (10, 23, 36, [13])] by decide +kernel] at hf
       rw [show mhnd 67 = [(10, 23, 26, 357), (10, 23, 31, 359), (10, 23, 36, 361)] by decide +kernel]
       unfold hcv
       simp only [List.find?, hc, Bool.true_and] at hf ⊢
       exact hf)
    | (refine ⟨?_, by decide +kernel, by decide +kernel⟩
       have hc := hf_cov (a := 18) (b := 44) (c := 0) (d := 0) (x := 0) (r := []) (R := [(18, 44, 47, [11]), (18, 44, 52, [14]), (18, 44, 57, [13])]) (by decide +kernel) (by decide) hf
       unfold hfind at hf
       rw [show mhan 68 = [(18, 44, 47, [11]), (18, 44, 52, [14]), (18, 44, 57, [13])] by decide +kernel] at hf
       rw [show mhnd 68 = [(18, 44, 47, 357), (18, 44, 52, 363), (18, 44, 57, 365)] by decide +kernel]
       unfold hcv
       simp only [List.find?, hc, Bool.true_and] at hf ⊢
       exact hf)
/-! the search through a table of handlers, the rows' classes linked or not yet -/
theorem fh_one {Q : Handler → Pre} {E : CtlPost} {e : Env} {d : Bool} {acts : List Action} {S : State} {f : JFrame} {a : Addr} {x : ExceptionTableEntry} {t : List ExceptionTableEntry} {c : ClassId} {cell : Cell} {b : Bool} (hx : covers x f.pc = true) (h0 : x.catchType ≠ 0)
    (hl : S.vm.ClassLinks e.platform f.method.cls x.catchType c) (hcell : S.heap[a]? = some cell) (hobj : ∀ k, cell.vm ≠ .statics k) (hk : ∃ k, S.vm.classes[cell.cls]? = some k) (hc : ∃ k, S.vm.classes[c]? = some k) (hb : S.vm.assignable cell.cls c = b) :
    wp (findHandler.go f a (x :: t)) Q E e d acts S ↔ (if b = true then Q (.found x.handlerPc) d acts (S.setVm (S.vm.noted f.method.cls x.catchType (.cls c))) else wp (findHandler.go f a t) Q E e d acts (S.setVm (S.vm.noted f.method.cls x.catchType (.cls c)))) := by
  unfold covers at hx
  have hN : S.vm.Alike (S.vm.noted f.method.cls x.catchType (.cls c)) := (Vm.Alike.refl S.vm).noted _ _ _
  obtain ⟨o1, o2⟩ := (resolveClass_links e.toSetting hl).op (op := VmOp.resolveClass f.method.cls x.catchType) rfl
  obtain ⟨k1, hk1⟩ := hk
  obtain ⟨k2, hk2⟩ := hc
  obtain ⟨n1, hn1, -⟩ := hN.2.2 _ _ hk1
  obtain ⟨n2, hn2, -⟩ := hN.2.2 _ _ hk2
  have hb2 : (S.vm.noted f.method.cls x.catchType (.cls c)).assignable cell.cls c = b := by rw [hN.assignable]; exact hb
  cases b <;> simp [findHandler.go, hx, h0, o1, o2, hcell, hobj, hn1, hn2, hb2, VmOp.dirties, VmOp.acts]
theorem fh_go {e : Env} {s : State} {f : JFrame} {a : Addr} {cell : Cell} {tk : ExceptionTableEntry → Bool} (hobj : ∀ k, cell.vm ≠ .statics k) (hk0 : ∃ k, s.vm.classes[cell.cls]? = some k) {x : ExceptionTableEntry} : ∀ (es : List ExceptionTableEntry) (S : State), s.WarmedH S.vm → S.heap[a]? = some cell →
    (∀ y ∈ es, y.catchType ≠ 0 ∧ ∃ c, s.vm.ClassLinks e.platform f.method.cls y.catchType c ∧ s.vm.assignable cell.cls c = tk y) → es.find? (fun y => covers y f.pc && tk y) = some x →
    ∃ vm', s.WarmedH vm' ∧ ∀ (Q : Handler → Pre) (E : CtlPost) (d : Bool) (acts : List Action), wp (findHandler.go f a es) Q E e d acts S ↔ Q (.found x.handlerPc) d acts (S.setVm vm')
  | [], _, _, _, _, hf => by cases hf
  | y :: ys, S, hW, hcell, hr, hf => by
    have hr2 : ∀ z ∈ ys, z.catchType ≠ 0 ∧ ∃ c, s.vm.ClassLinks e.platform f.method.cls z.catchType c ∧ s.vm.assignable cell.cls c = tk z := fun z hz => hr z (List.mem_cons_of_mem _ hz)
    cases hcv : covers y f.pc with
    | false =>
      rw [List.find?_cons_of_neg (by rw [hcv]; simp)] at hf
      obtain ⟨vm', h1, h2⟩ := fh_go hobj hk0 ys S hW hcell hr2 hf
      exact ⟨vm', h1, fun Q E d acts => (_root_.Jvm.W.findHandler_go_skip hcv).trans (h2 Q E d acts)⟩
    | true =>
      obtain ⟨h0, c, hl, hb⟩ := hr y List.mem_cons_self
      obtain ⟨dk, _, _, kt, hd, _, _, _, _, hkt, _, hop⟩ := hl.here
      obtain ⟨kt', hkt', -⟩ := hW.alike.2.2 _ _ hkt
      obtain ⟨k0, hk0'⟩ := hk0
      obtain ⟨k1, hk1, -⟩ := hW.alike.2.2 _ _ hk0'
      have hW2 := hW.noted hd hop (State.rightAt_cls hl)
      have one := fun (Q : Handler → Pre) (E : CtlPost) (d : Bool) (acts : List Action) => fh_one (Q := Q) (E := E) (e := e) (d := d) (acts := acts) (S := S) (t := ys) (b := tk y) hcv h0 (hW.classLinks hl) hcell hobj ⟨k1, hk1⟩ ⟨kt', hkt'⟩ (by rw [hW.alike.assignable]; exact hb)
      cases ht : tk y with
      | true =>
        rw [List.find?_cons_of_pos (by rw [hcv, ht]; rfl)] at hf
        cases hf
        refine ⟨_, hW2, fun Q E d acts => ?_⟩
        rw [one Q E d acts, if_pos ht]
      | false =>
        rw [List.find?_cons_of_neg (by rw [hcv, ht]; simp)] at hf
        obtain ⟨vm', h1, h2⟩ := fh_go hobj ⟨k0, hk0'⟩ ys (S.setVm (S.vm.noted f.method.cls y.catchType (.cls c))) hW2 hcell hr2 hf
        refine ⟨vm', h1, fun Q E d acts => ?_⟩
        rw [one Q E d acts, if_neg (by rw [ht]; decide)]
        exact h2 Q E d acts
/-- into the handler -/
theorem fh_in {tb : Tables} {e : Env} {T tg : State} {g : JFrame} {c : Code} {below : List Frame} {a : Addr} (h : At T g.method c below) {pc : Nat} {vm' : Vm}
    (hf : ∀ (Q : Handler → Pre) (E : CtlPost) (d : Bool) (acts : List Action), wp (findHandler g a) Q E e d acts ((T.setTop g).pushFrame (.throwing a)) ↔ Q (.found pc) d acts (((T.setTop g).pushFrame (.throwing a)).setVm vm'))
    (k : Steps tb e below ((T.setVm vm').setTop { g with pc := pc, stack := [.ref a] }) tg) : Steps tb e below ((T.setTop g).pushFrame (.throwing a)) tg := by
  obtain ⟨g0, hg⟩ := Option.isSome_iff_exists.mp h.top
  obtain ⟨r, hr⟩ := State.topJava?_eq_some.mp hg
  have key : (stepThrowing e ((T.setTop g).pushFrame (.throwing a)) a (.java g :: T.frames.tail)).Is ((((T.setTop g).pushFrame (.throwing a)).setVm vm').setFrames (.java { g with pc := pc, stack := [.ref a] } :: T.frames.tail)) [] := by
    simp only [stepThrowing, searchFrame, vmDo]
    generalize hgo : Sem.go _ e false [] _ = res
    obtain ⟨as, rfl, hz⟩ := Sem.eq_ok_of hgo (a := Handler.found pc) (s' := ((T.setTop g).pushFrame (.throwing a)).setVm vm') (acts' := []) (by simp [hf _ _ _ _])
    exact ⟨rfl, hz⟩
  obtain ⟨w1, w2⟩ := h.throwing a
  refine Steps.head w1 w2 ?_
  rw [stepThread_throwing (frames_entered h.top _), key.1]
  have e1 : (((T.setTop g).pushFrame (.throwing a)).setVm vm').setFrames (.java { g with pc := pc, stack := [.ref a] } :: T.frames.tail) = (T.setVm vm').setTop { g with pc := pc, stack := [.ref a] } := by
    have hr2 : (T.setVm vm').frames = .java g0 :: r := hr
    rw [State.setTop_of_frames _ hr2, State.pushFrame, State.setTop_of_frames _ hr, hr]
    have e2 : ∀ F G : List Frame, ((T.setFrames F).setVm vm').setFrames G = (T.setVm vm').setFrames G := fun F G => by
      rw [show (T.setFrames F).setVm vm' = (T.setVm vm').setFrames F from rfl, State.setFrames_setFrames]
    rw [State.setFrames_setFrames, e2]
    rfl
  rw [e1]
  exact k
theorem ath_snd {y pc k : Nat} {r : List Value} {z : Ad} {p : Program} {l : Launch} {e : Env} {R : Room} {s : State} {m : MethodId} {args : Array Value} {below : List Frame} {meth : Method} {c : Code} {D : va_G} {dA : Nat → ClassId} {A : Nat → Prop} {Qf : State → Prop} {H : Heap} {locs : List Loc} {cells slots : Nat} {ls : Array Slot} (hC : Ctx y p l R s m args meth c D dA A) (hd : decode (mcod y) pc = .ok (.athrow, 1)) (h : TW p l e R s m args below meth c H locs cells slots Qf (F0 m pc ls (r.map (con z))) (z.2 k)) : W p l e R s m args below meth c H locs cells slots Qf (F0 m pc ls (.ref (z.2 k) :: r.map (con z))) := by
  intro T hT X2
  obtain ⟨t, h1, h2⟩ := h T hT X2
  refine ⟨t, ?_, h2⟩
  obtain ⟨⟨hexec, hb, -⟩, -⟩ := hC
  rw [← hb] at hd
  jvm_step X2.here [hexec, hd, athrow.wp_sem]
  exact h1
theorem thr_snd {y pc : Nat} {L : Lo} {u : Nat × Nat} {X : Xs} {Q : Po} {ex : Nat} (hy : y < 170) (h : thrF Snd y pc L u X Q ex) {p : Program} {l : Launch} {e : Env} {R : Room} {s : State} {m : MethodId} {args : Array Value} {below : List Frame} {meth : Method} {c : Code} {D : va_G} {dA : Nat → ClassId} {A : Nat → Prop} {Qf : State → Prop} {H : Heap} {locs : List Loc} {ls : Array Slot} {z z0 : Ad} {nf0 : Nat}
    (hC : Ctx y p l R s m args meth c D dA A) (hEnd : EndP y p l e R s m args below meth c D dA A Qf z0 nf0 X.1.2.2.2 Q) (hE : Exs z A X.1.2.2.2 s s.heap) (hWo : Wo D dA z A X H) (hag : agr z0 z nf0) (hnf : nf0 ≤ X.1.2.2.1) (hSv : va_S A s.heap H locs) (hl : hasL z X.1.2.2.1 ls L) (hlen : L.length = mloc y) (hu : u.1 ≤ mmc y ∧ u.2 ≤ mms y) (st : List Value) : TW p l e R s m args below meth c H locs u.1 u.2 Qf (F0 m pc ls st) (z.2 ex) := by
  obtain ⟨ci, hS, h⟩ := h
  have hlt := wf_lt hWo.1 hS
  split at h
  · rename_i hh hf
    obtain ⟨t1, t2, t3⟩ := hf_tab hy hf
    have hW := h p l e R s m args below meth c D dA A Qf H locs ls z z0 nf0 hC hEnd hE hWo hag hnf hSv hl (okS.cons hlt (fun w hw => by cases hw)) hlen hu
    intro T hT X2
    have hC0 := hC
    obtain ⟨⟨hexec, hb, hml, hown, hts⟩, ⟨-, -, -, hex, -⟩, hK, -⟩ := hC
    rw [t3] at hown
    have hci : ci < 15 := by
      have := hf_ci hy hf
      simp only [List.mem_cons, Prod.mk.injEq, List.not_mem_nil, or_false] at this
      omega
    -- the object
    obtain ⟨cell, hcell, hcls, hvm, -⟩ : t_OB (z.2 ex) (D.1 ci) (nfd ci) (D.2 ci) H (vp_V ((List.range (nfd ci)).map (fun j => con z (fv X ci ex j)))) := by
      have := hWo.2.1 ex _ (wl_obj (dA := dA) (z := z) hWo.1 hS)
      obtain ⟨r, hr, hr2⟩ := this
      have e1 := mCl_at ci hci
      have hr3 : mCl[ci]? = some r := hr
      rw [e1] at hr3
      cases hr3
      exact hr2
    have hca : s.vm.findClass (cRn ci) = some cell.cls := by
      rw [hcls]
      exact (hK.1.1 ci _ (mCl_at ci hci)).2.1
    have hpl : e.platform.magicAccessors = ({} : Platform).magicAccessors := by rw [X2.admits.platform]
    -- the row
    obtain ⟨q, hq, hqh⟩ := Option.map_eq_some_iff.mp t1
    have hrow : ∃ x, c.exceptionTable.toList.find? (fun x => covers x pc && tkB ci x.catchType) = some x ∧ x.handlerPc = hh := by
      have h3 : (c.exceptionTable.toList.map (fun h => (h.startPc, h.endPc, h.handlerPc, h.catchType))).find? (hcv pc ci) = some q := by
        have h4 : c.exceptionTable.toList.map (fun h => (h.startPc, h.endPc, h.handlerPc, h.catchType)) = mhnd y := hex
        rw [h4]; exact hq
      rw [List.find?_map] at h3
      obtain ⟨x, hx1, hx2⟩ := Option.map_eq_some_iff.mp h3
      refine ⟨x, hx1, ?_⟩
      rw [← hx2] at hqh
      exact hqh
    obtain ⟨x, hx, rfl⟩ := hrow
    have hrows : ∀ w ∈ c.exceptionTable.toList, w.catchType ≠ 0 ∧ ∃ c0, s.vm.ClassLinks e.platform m.cls w.catchType c0 ∧ s.vm.assignable cell.cls c0 = tkB ci w.catchType := by
      intro w hw
      have hw2 : (w.startPc, w.endPc, w.handlerPc, w.catchType) ∈ mhnd y := by
        have h4 : c.exceptionTable.toList.map (fun h => (h.startPc, h.endPc, h.handlerPc, h.catchType)) = mhnd y := hex
        rw [← h4]
        exact List.mem_map.mpr ⟨w, hw, rfl⟩
      have h5 := List.all_eq_true.mp t2 _ hw2
      obtain ⟨r, hr, hr2⟩ := List.any_eq_true.mp h5
      simp only [Bool.and_eq_true, decide_eq_true_eq] at hr2
      obtain ⟨⟨⟨r1, r2⟩, r3⟩, r4⟩ := hr2
      refine ⟨r4, ?_⟩
      obtain ⟨g1, g2⟩ := tk_ok r hr
      rw [r2] at g1
      obtain ⟨c0, hc0, hlk⟩ := Cond.classLink_spec hown (hts _ g1) e.platform hpl
      refine ⟨c0, hlk, ?_⟩
      rw [← r3]
      rw [r1] at g2
      cases hb3 : r.2.2.2 with
      | true =>
        rw [hb3] at g2
        obtain ⟨c1, c2, f1, f2, f3⟩ := Cond.castable_spec (hK.2.1 _ g2 rfl)
        rw [hca] at f1
        rw [hc0] at f2
        cases f1; cases f2
        exact f3
      | false =>
        rw [hb3] at g2
        obtain ⟨c1, c2, f1, f2, f3⟩ := hK.2.2.2.1 _ g2
        rw [hca] at f1
        rw [hc0] at f2
        cases f1; cases f2
        exact f3
    have hcellT : ((T.setTop (F0 m pc ls st)).pushFrame (.throwing (z.2 ex))).heap[z.2 ex]? = some cell := by
      rw [Stand.throwing_heap, hT]; exact hcell
    have hWm : s.WarmedH ((T.setTop (F0 m pc ls st)).pushFrame (.throwing (z.2 ex))).vm := by
      rw [Stand.throwing_vm]; exact X2.warmed
    obtain ⟨vm', w1, w2⟩ := fh_go (f := F0 m pc ls st) (a := z.2 ex) (tk := fun x => tkB ci x.catchType) (e := e) (fun k => by rw [hvm]; exact VmData.noConfusion) (Vm.classAt_of_findClass hca) c.exceptionTable.toList _ hWm hcellT hrows hx
    have hmT : ((T.setTop (F0 m pc ls st)).pushFrame (.throwing (z.2 ex))).vm.method? m = some meth := by
      rw [Stand.throwing_vm]; exact X2.method'
    obtain ⟨t, s1, s2⟩ := hW (T.setVm vm') hT (X2.noted w1)
    exact ⟨t, fh_in (g := F0 m pc ls st) X2.here (fun Q E d acts => by rw [_root_.Jvm.W.findHandler_eq hmT X2.code]; exact w2 Q E d acts) s1, s2⟩
  · obtain ⟨h1, h2⟩ := h
    exact (hEnd z X H locs u.1 u.2 pc ls hWo hag hnf rfl hSv hu.1 hu.2).2.2.2.2 ex st h2 hlt h1
