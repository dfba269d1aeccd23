/-! EXCEPTIONS: the machine's own with a message, over a native's frame -/
/-- behind a native's frame -/
def NTO (p : Program) (l : Launch) (e : Env) (R : Room) (s : State) (m : MethodId) (args : Array Value) (below : List Frame) (meth : Method) (c : Code) (T : State) (nf : NFrame) (g : JFrame) (cls : String) (msg : Option String) (locs : List Loc) (cells slots : Nat) : Prop :=
  ∃ (U : State) (locs' : List Loc) (a n : Nat) (ce : Cell), n ≤ slots + 3500 ∧ Stand p l e R s m args below meth c U locs' (cells + 3) n ∧ (∀ q ∈ locs', q ∈ locs ∨ T.heap.size ≤ q.base) ∧
    (∀ tg, Steps p.tables e below (U.setFrames (.throwing a :: .native nf :: .java g :: below)) tg → Steps p.tables e below (T.setFrames (.throwNew cls msg none :: .native nf :: .java g :: below)) tg) ∧ T.heap.size ≤ U.heap.size ∧ (∀ q, q < T.heap.size → U.heap[q]? = T.heap[q]?) ∧ T.heap.size ≤ a ∧ U.heap[a]? = some ce ∧ s.vm.findClass cls = some ce.cls ∧ ce.vm = .none
theorem ov_may {p : Program} {l : Launch} {e : Env} {R : Room} {s : State} {m : MethodId} {args : Array Value} {below : List Frame} {meth : Method} {c : Code} {T : State} {locs : List Loc} {cells slots : Nat} (X : Stand p l e R s m args below meth c T locs cells slots) {g : JFrame} (hsize : g.locals.size = c.maxLocals) {nf : NFrame} (hnw : nf.words = 0) (note : Frame) (hnote : ∀ f, note ≠ .java f) (hw : note.words = 0)
    (hK : 2 * g.monitorRoom + (g.stack.map fun v => v.category).sum + 10240 ≤ R.locals) :
    e.platform.stackBeyond ((((T.setFrames (note :: .native nf :: .java g :: below)).threads[T.cur]?).map (·.stackBytes)).getD 0) (T.setFrames (note :: .native nf :: .java g :: below)).frames = false ∧
      e.platform.vmThrowRoom ≤ e.platform.stackFree ((((T.setFrames (note :: .native nf :: .java g :: below)).threads[T.cur]?).map (·.stackBytes)).getD 0) (T.setFrames (note :: .native nf :: .java g :: below)).frames := by
  obtain ⟨g0, hfr⟩ := X.frames_eq
  have hcur : T.cur < T.threads.size := State.cur_lt_of_frames hfr
  have hb : ((((T.setFrames (note :: .native nf :: .java g :: below)).threads[T.cur]?).map (·.stackBytes)).getD 0) = T.me.stackBytes := by
    rw [← State.stackBytes_setFrames T (note :: .native nf :: .java g :: below)]
    exact State.stackBytes_me (T.setFrames (note :: .native nf :: .java g :: below))
  have hA := X.stackAbove hsize hK
  rw [X.tail] at hA
  have hlimit : (e.platform.stackLimits T.me).2 = (e.platform.limitsFor T.me.stackBytes).2 := rfl
  rw [hb, State.frames_setFrames _ hcur, Launch.admits_vmThrowRoom X.admits]
  unfold Platform.stackBeyond Platform.stackFree
  rw [stackUse_light _ _ hnote hw, stackUse_light _ _ (fun f hf => by cases hf) (show (Frame.native nf).words = 0 from hnw)]
  refine ⟨decide_eq_false (by omega), by omega⟩
theorem ov_ms {p : Program} {e : Env} {below base : List Frame} {s S : State} (h : Ov S base below) (hexec : p.tables.exec = Jvm.exec)
    (T : ThrowableC) (L : T.Links e.platform s) (Z : Init0T) (LZ : Z.LaidS T.toThrowableT) (M : MsgC) (LM : M.Links T e.platform s) (hW : s.WarmedH S.vm) (Zs : StringT) (LZs : Zs.Laid s.vm)
    (P1 : PassC) (L1 : P1.LinksS e.platform s) (Ps : List PassC) (hL : ∀ P, P ∈ Ps → P.LinksS e.platform s) (hlink1 : P1.sup = firstOf (Z.m T.toThrowableT) (Ps.map (·.toPassT))) (hlink : PassesOn (Z.m T.toThrowableT) (Ps.map (·.toPassT)))
    {cls m : String} {kX : Class} (hsoe : (cls == "java/lang/StackOverflowError") = false) (hoom : (cls == "java/lang/OutOfMemoryError") = false)
    (hfound : s.vm.findClass cls = some P1.m.cls) (hk : s.vm.classes[P1.m.cls]? = some kX) (hinit : kX.init = .initialized) (hord : kX.kind = .ordinary)
    (hctor : kX.findMethod "<init>" "(Ljava/lang/String;)V" = some P1.m.idx) (hhot : e.platform.hotImplicitExceptions = false)
    (hbeyond : e.platform.stackBeyond ((((S.setFrames (.throwNew cls (some m) none :: base)).threads[S.cur]?).map (·.stackBytes)).getD 0) (S.setFrames (.throwNew cls (some m) none :: base)).frames = false)
    (hfreeW : e.platform.vmThrowRoom ≤ e.platform.stackFree ((((S.setFrames (.throwNew cls (some m) none :: base)).threads[S.cur]?).map (·.stackBytes)).getD 0) (S.setFrames (.throwNew cls (some m) none :: base)).frames)
    (hm : (m == notModelled) = false)
    (hlimit : ¬ (stringBytes (stringToUtf16 m)).size > e.platform.arrayLengthLimit) (hheap : ¬ (stringBytes (stringToUtf16 m)).size * componentBytes .byte > e.platform.maxHeapBytes)
    (hcells : S.heap.size + 3 ≤ e.platform.maxCells) (hslots : S.slotsUsed + (stringBytes (stringToUtf16 m)).size + Zs.kS.instanceTypes.size + kX.instanceTypes.size ≤ e.platform.maxSlots)
    (hfitv : s.fitsSlot Zs.cS .none Zs.fv.slot (.ref S.heap.size) = true) (hfitc : s.fitsSlot Zs.cS .none Zs.fc.slot (.int (stringCoder (stringToUtf16 m))) = true)
    {u0 sen : RefV} {cellS : Cell} (hsel0 : selectMethod e.platform s.vm (freshCell P1.m.cls kX).cls T.fill0 = .method T.fill0)
    (hcellS : S.heap[T.aS]? = some cellS) (hknownS : cellS.vm ≠ .unknown) (hvU : cellS.slots[T.fUnassigned.slot]? = some u0.v) (htS : Takes s (freshCell P1.m.cls kX) T.fStack u0.v)
    (hskip : SkipFacts T e.platform s (fun u => u) u0 ((preparedCellV T.toThrowableT (freshCell P1.m.cls kX) (S.heap.size + 2) u0 sen).withEntry S.cur))
    (hnat : u0.v ≠ .null → ∀ u : State, At u T.fill T.codeFill below → s.WarmedH u.vm → u.heap[(S.heap.size + 2)]? = some ((preparedCellV T.toThrowableT (freshCell P1.m.cls kX) (S.heap.size + 2) u0 sen).withEntry S.cur) →
      e.platform.stackFull (((u.setTop (fillJ T.fill (S.heap.size + 2) 16 [])).threads[(u.setTop (fillJ T.fill (S.heap.size + 2) 16 [])).cur]?).getD { frames := [] }) (u.setTop (fillJ T.fill (S.heap.size + 2) 16 [])).frames (nativeFrameWords "java/lang/Throwable" "fillInStackTrace" 2) = false → ∀ t' : State,
      Steps p.tables e below (u.setTop (fillJ T.fill (S.heap.size + 2) 19 [.ref (S.heap.size + 2)])) t' →
      Steps p.tables e below (doInvoke e (u.setTop (fillJ T.fill (S.heap.size + 2) 16 [])) [] T.fill0 #[.ref (S.heap.size + 2), .int 0]).1 t')
    (hselF : selectMethod e.platform s.vm (freshCell P1.m.cls kX).cls T.fill = .method T.fill) (hvSen : cellS.slots[T.fSentinel.slot]? = some sen.v)
    (htC : Takes s (freshCell P1.m.cls kX) T.fCause (.ref (S.heap.size + 2))) (htP : Takes s (freshCell P1.m.cls kX) T.fSupp sen.v) (htM : Takes s (freshCell P1.m.cls kX) T.fMsg (.ref (S.heap.size + 1))) (hobjLocals : T.codeObj.maxLocals = 1)
    {lim : Nat × Nat} (hlim : e.platform.stackLimits S.me = lim) (hframes : base.length + Ps.length + 4 < lim.1) (hwords : (stackUse base).2 + 13 * Ps.length + 55 ≤ lim.2) :
    ∃ vm', s.WarmedH vm' ∧ ∀ tg, Steps p.tables e below ((((withThrown S Zs m P1.m.cls kX).setVm vm').setCell (S.heap.size + 2) (((((preparedCellV T.toThrowableT (freshCell P1.m.cls kX) (S.heap.size + 2) u0 sen).withEntry S.cur)).setSlot T.fStack.slot u0.v).left.setSlot T.fMsg.slot (.ref (S.heap.size + 1)))).setFrames (.throwing (S.heap.size + 2) :: base)) tg →
      Steps p.tables e below (S.setFrames (.throwNew cls (some m) none :: base)) tg := by
  obtain ⟨kX', hk', he'⟩ := hW.alike.2.2 _ _ hk
  have hty : kX'.instanceTypes = kX.instanceTypes := by rw [he']
  have hfresh : freshCell P1.m.cls kX' = (freshCell P1.m.cls kX) := by
    show ({ cls := P1.m.cls, slots := kX'.instanceTypes.map defaultValue, vm := .none } : Cell) = _
    rw [hty]
  obtain ⟨kS', kB', LZ', htyS⟩ := LZs.warmer hW.alike
  have hsame : withThrown S { Zs with kS := kS', kB := kB' } m P1.m.cls kX' = (withThrown S Zs m P1.m.cls kX) := by
    rw [← withThrown_warmer S Zs (kB' := kB') htyS m P1.m.cls kX]
    show (withString S _ _ _ _ _ _).pushCell (freshCell P1.m.cls kX') = (withString S _ _ _ _ _ _).pushCell (freshCell P1.m.cls kX)
    rw [hfresh]
  have hfs : S.fitsSlot = s.fitsSlot := (show S.fitsSlot = (s.setVm S.vm).fitsSlot from rfl).trans (State.fitsSlot_setVm hW.alike)
  obtain ⟨w1, w2, -, w4, w5, -, w7⟩ := withThrown_facts e.platform S Zs m P1.m.cls kX
  have hltS : T.aS < S.heap.size := (Array.getElem?_eq_some_iff.mp hcellS).1
  have hOW : Ov (withThrown S Zs m P1.m.cls kX) base below := by
    have e0 : (withThrown S Zs m P1.m.cls kX) = ((S.pushCell (bytesOf Zs.cB (stringToUtf16 m))).pushCell (stringAt Zs.cS Zs.kS Zs.fv Zs.fc (stringToUtf16 m) S.heap.size)).pushCell (freshCell P1.m.cls kX) := by rw [← withString_eq]
    rw [e0]
    exact ov_push (ov_push (ov_push h _) _) _
  have hWW : s.WarmedH (withThrown S Zs m P1.m.cls kX).vm := by rw [w1]; exact hW
  have hWcur : (withThrown S Zs m P1.m.cls kX).cur = S.cur := by simp [withThrown, withString]
  have hlimN : e.platform.stackLimits ((withThrown S Zs m P1.m.cls kX).setFrames (.thenThrow (S.heap.size + 2) :: base)).me = lim := by rw [State.stackLimits_setFrames, w7]; exact hlim
  obtain ⟨f1, -, -⟩ := ov_in hOW (S.heap.size + 2) (passJ P1.m (S.heap.size + 2) (.ref (S.heap.size + 1)) 0 []) (hWW.methodAt L1.method) L1.code (hWW.plainAt L1.plain)
  have hroom := Jvm.roomAbove (pl := e.platform) (u := (withThrown S Zs m P1.m.cls kX).setFrames (.thenThrow (S.heap.size + 2) :: base)) (vars := 2) (pushed := [.thenThrow (S.heap.size + 2)]) (base := base) (free := 13 * Ps.length + 55) (lim := lim) f1 hlimN
    (by simp only [List.length_cons, List.length_nil]; omega) (by omega) (by rw [stackUse_light _ _ (fun f hf => by cases hf) rfl, stackUse_nil]; show 0 + 2 + 11 ≤ _; omega)
  have hH : HeapOnly (fun u : State => u) := heapOnly_id
  obtain ⟨vm', hW', st⟩ := ov_ctorS (p := p) (e := e) (s := s) (x := S.heap.size + 2) (y := ((((preparedCellV T.toThrowableT (freshCell P1.m.cls kX) (S.heap.size + 2) u0 sen).withEntry S.cur)).setSlot T.fStack.slot u0.v).left.setSlot T.fMsg.slot (.ref (S.heap.size + 1))) hOW hexec P1 L1 hWW (S.heap.size + 2) (S.heap.size + 1) hroom (fun vm1 hW1 hI1 => by
    rw [hlink1]
    obtain ⟨-, -, f3⟩ := ov_in (hOW.setVm vm1) (S.heap.size + 2) (passJ P1.m (S.heap.size + 2) (.ref (S.heap.size + 1)) 0 []) (hW1.methodAt L1.method) L1.code (hW1.plainAt (U := (withThrown S Zs m P1.m.cls kX).setVm vm1) L1.plain)
    obtain ⟨vm2, hW2, st2⟩ := Steps.initThrowableSColdByV p (V := (((withThrown S Zs m P1.m.cls kX).setVm vm1).setFrames (.thenThrow (S.heap.size + 2) :: base)).pushFrame (.java (passJ P1.m (S.heap.size + 2) (.ref (S.heap.size + 1)) 0 []))) (g := passJ P1.m (S.heap.size + 2) (.ref (S.heap.size + 1)) 2 []) (c := P1.code) (self := S.heap.size + 2) hI1 hexec T L Z LZ M LM hW1 (t := S.cur) hWcur
      (Nn := fun u => u) heapOnly_id (fun _ _ => rfl) (fun _ => rfl) (fun u x y => setCell_twice _ _ _ _) (fun _ => Nat.le_refl _) (msg := .ref (S.heap.size + 1)) rfl w4 (by intro k hk'; cases hk') (by intro hk'; cases hk') rfl hsel0 ((w5 _ hltS).trans hcellS) (Nat.ne_of_lt (Nat.lt_of_lt_of_le hltS (Nat.le_add_right _ 2))) hknownS hvU htS
      (fun _ hu => hu) (fun _ hu => hu) rfl rfl rfl (by simp [preparedCellV, Cell.setSlot, Cell.withEntry]) hskip hnat hselF hvSen htC htP htM hobjLocals Ps hL hlink (ig := .invokespecial P1.index) (len := 3) [] (lim := lim)
      (by rw [State.stackLimits_pushFrame, State.stackLimits_setFrames]; show e.platform.stackLimits (withThrown S Zs m P1.m.cls kX).me = lim; rw [w7]; exact hlim)
      (by rw [f3]; simp only [List.length_cons]; omega)
      (by rw [f3, List.tail_cons, stackUse_java, stackUse_light _ _ (fun f hf => by cases hf) rfl]
          show (stackUse base).2 + (2 + 11 + 2 * 0 + operandWords []) + 13 * Ps.length + 42 ≤ lim.2
          simp only [operandWords, List.foldl_nil]
          omega)
      L1.at2
    refine ⟨vm2, hW2, fun t' h' => st2 t' ?_⟩
    rw [State.pushFrame_setVm, State.setFrames_setVm, State.setVm_twice]
    exact h')
  have hfv2 : S.fitsSlot Zs.cS .none Zs.fv.slot (.ref S.heap.size) = true := by rw [hfs]; exact hfitv
  have hfc2 : S.fitsSlot Zs.cS .none Zs.fc.slot (.int (stringCoder (stringToUtf16 m))) = true := by rw [hfs]; exact hfitc
  refine ⟨vm', hW', fun tg hrest => ?_⟩
  obtain ⟨hgo, hcur, mid, hmid⟩ := h
  have f0 : (S.setFrames (.throwNew cls (some m) none :: base)).frames = .throwNew cls (some m) none :: base := State.frames_setFrames _ hcur
  refine Steps.head ⟨hgo.1, by simpa using hgo.2.1, by simpa using hgo.2.2⟩ ⟨.throwNew cls (some m) none :: mid, by rw [f0, hmid]; rfl, by simp, by simp⟩ ?_
  rw [stepThread_throwNew f0, stepThrowNew_message (s := S.setFrames (.throwNew cls (some m) none :: base)) (c := P1.m.cls) (k := kX') (i := P1.m.idx) { Zs with kS := kS', kB := kB' } LZ' hsoe hoom (by show S.vm.findClass cls = _; rw [hW.alike.findClass]; exact hfound) hk' (by rw [he']; exact hinit) (by rw [he']; exact hord)
    hhot hbeyond hfreeW hm (by rw [he']; exact hctor) hlimit hheap hcells (by show S.slotsUsed + _ + kS'.instanceTypes.size + kX'.instanceTypes.size ≤ _; rw [htyS, hty]; exact hslots) hfv2 hfc2]
  rw [withThrown_setFrames, State.setFrames_setFrames, hsame]
  exact st tg hrest
set_option maxHeartbeats 4000000 in
theorem nto_ms {p : Program} {l : Launch} {e : Env} {R : Room} {s : State} {m : MethodId} {args : Array Value} {below : List Frame} {meth : Method} {c : Code} {T' : State} {locs : List Loc} {cells slots : Nat} {A : Nat → Prop} {z : Ad} {n0 : (Nat → Int32) × Nat} (X : Stand p l e R s m args below meth c T' locs cells slots) (hexec : p.tables.exec = Jvm.exec) (htr : e.platform.stackTraces = false)
    {cls : String} {names : List String} {text : String} (hcls : Bundle.fit cls = true) (hnames : ∀ n ∈ names, Bundle.fit n = true) (hsoe : (cls == "java/lang/StackOverflowError") = false) (hoom : (cls == "java/lang/OutOfMemoryError") = false)
    (h : ∀ a ∈ Bundle.messageArmAtoms cls names, a.before args s = true) (hE : Exs z A n0 s s.heap) (hSv : va_S A s.heap T'.heap locs) (hn3 : names.length ≤ 3)
    (htext : (text == notModelled) = false) (hsmall : (stringBytes (stringToUtf16 text)).size ≤ 3400)
    {g : JFrame} (hg : g.method = m) (hsize : g.locals.size = c.maxLocals) {nf : NFrame} (hnw : nf.words = 0) (hRframes : 8 < R.frames) (hRlocals : 2 * g.monitorRoom + (g.stack.map fun v => v.category).sum + 10240 ≤ R.locals) (hRcells : cells + 3 ≤ R.cells) (hRslots : slots + 3500 ≤ R.slots) :
    NTO p l e R s m args below meth c T' nf g cls (some text) locs cells slots := by
  have howns : e.platform.frameOwnsMonitors = true := by rw [X.admits.platform]
  have hfin : e.platform.finalization = false := by rw [X.admits.platform]
  have hpl : e.platform.magicAccessors = ({} : Platform).magicAccessors := by rw [X.admits.platform]
  have w : ∀ x, x ∈ Bundle.messageArmAtoms cls names → x.holds args s none s [] = true := fun x hx => h x hx
  have hlimit : ¬ (stringBytes (stringToUtf16 text)).size > e.platform.arrayLengthLimit := by
    have e1 : e.platform.arrayLengthLimit = ({} : Platform).arrayLengthLimit := by rw [X.admits.platform]
    rw [e1]
    have : (3400 : Nat) ≤ ({} : Platform).arrayLengthLimit := by decide
    omega
  have hheap : ¬ (stringBytes (stringToUtf16 text)).size * componentBytes .byte > e.platform.maxHeapBytes := by
    have e1 : e.platform.maxHeapBytes = ({} : Platform).maxHeapBytes := by rw [X.admits.platform]
    rw [e1]
    have h1 : (3400 : Nat) ≤ ({} : Platform).maxHeapBytes := by decide
    have h2 : componentBytes .byte = 1 := rfl
    rw [h2]
    omega
  obtain ⟨T, Z0, L, -, Y⟩ := ThrowableC.of_atoms (args := args) howns hfin hpl (fun x hx => h x (by simp [Bundle.messageArmAtoms, hx]))
  obtain ⟨Z, M, LZ, LM, hnZ⟩ := Init0T.ofS_atoms (args := args) hpl L Y (fun x hx => h x (by simp [Bundle.messageArmAtoms, hx]))
  obtain ⟨P1, Ps, hlen, L1, hL, hP1m, hlink1, hlink⟩ := Bundle.chainS (args := args) hpl hnZ names cls hcls hnames (fun x hx => h x (by simp [Bundle.messageArmAtoms, hx]))
  obtain ⟨Zs, LZs, hn4, hfitv, hfitc⟩ := StringT.of_atoms (args := args) (fun x hx => h x (by simp [Bundle.messageArmAtoms, hx]))
  have hfound : s.vm.findClass cls = some P1.m.cls := findClass_of_methodNamed hP1m
  obtain ⟨c1, kX, hc1, hk, hord, -, -, hn6⟩ := Cond.instantiable_spec (w (.instantiable cls 6) (by simp [Bundle.messageArmAtoms]))
  cases Option.some.inj (hc1.symm.trans hfound)
  have hinit := Cond.initialized_spec hfound hk (w (.initialized cls) (by simp [Bundle.messageArmAtoms]))
  have hctor : kX.findMethod "<init>" "(Ljava/lang/String;)V" = some P1.m.idx := findMethod_of_methodNamed hP1m hk
  have hsel0 : selectMethod e.platform s.vm P1.m.cls T.fill0 = .method T.fill0 := by
    obtain ⟨c2, r2, m2, q1, q2, q3, q4, -⟩ := Cond.selects_spec (w (.selects cls Bundle.tFill0 Bundle.tFill0) (by simp [Bundle.messageArmAtoms]))
    cases Option.some.inj (q1.symm.trans hfound)
    cases Option.some.inj (q2.symm.trans (State.methodFound?_of_named Y.fill0 (by decide)))
    cases Option.some.inj (q3.symm.trans Y.fill0)
    rw [Launch.admits_selectMethod X.admits]; exact q4
  have hselF : selectMethod e.platform s.vm P1.m.cls T.fill = .method T.fill := by
    obtain ⟨c2, r2, m2, q1, q2, q3, q4, -⟩ := Cond.selects_spec (w (.selects cls Bundle.tFill Bundle.tFill) (by simp [Bundle.messageArmAtoms]))
    cases Option.some.inj (q1.symm.trans hfound)
    cases Option.some.inj (q2.symm.trans (State.methodFound?_of_named Y.fill (by decide)))
    cases Option.some.inj (q3.symm.trans Y.fill)
    rw [Launch.admits_selectMethod X.admits]; exact q4
  obtain ⟨cellS, hcS0, hiss⟩ := Y.statics
  have hcellS : T'.heap[T.aS]? = some cellS := by
    obtain ⟨c9, k9, i9, f9, a9, ce9, -, g1, -, g3, g4, -, -, -, -, g9⟩ := hE.2.2.2.1
    cases (Option.some.inj (g1.symm.trans Y.unassigned))
    cases (Option.some.inj (g3.symm.trans L.statics))
    rw [hSv.2.1 _ (Array.getElem?_eq_some_iff.mp hcS0).1 g9]
    exact hcS0
  obtain ⟨u0, hu0⟩ := Cond.staticRefV Y.unassigned L.unassignedStatic L.statics hcS0 hiss (w (.isRef (.static Bundle.tN "UNASSIGNED_STACK" Bundle.steD)) (by simp [Bundle.messageArmAtoms]))
  obtain ⟨sen, hsen⟩ := Cond.staticRefV Y.sentinel L.sentinelStatic L.statics hcS0 hiss (w (.isRef (.static Bundle.tN "SUPPRESSED_SENTINEL" Bundle.listD)) (by simp [Bundle.messageArmAtoms]))
  obtain ⟨ci198, i198, fB, hk198, hg198, ha198, hsB, -, hnB, htB, hffB⟩ := Cond.ownField (t := .object "java/lang/Object") Y.found L.cls (by decide +kernel) (w (.fieldLink Bundle.tN 198 Bundle.tN "backtrace" "Ljava/lang/Object;") (by simp [Bundle.messageArmAtoms])) (w (.lays Bundle.tN Bundle.tN "backtrace" "Ljava/lang/Object;") (by simp [Bundle.messageArmAtoms])) e.platform hpl
  have hknownS : cellS.vm ≠ .unknown := by
    intro hu
    rw [hu] at hiss
    cases hiss
  obtain ⟨iM, hffM⟩ := Y.msg
  obtain ⟨tyC, dC, hdC, hdnC⟩ := Cond.laysAt hfound hk Y.cause (w (.lays cls Bundle.tN "cause" "Ljava/lang/Throwable;") (by simp [Bundle.messageArmAtoms]))
  obtain ⟨tyS, dS, hdS, hdnS⟩ := Cond.laysAt hfound hk Y.stack (w (.lays cls Bundle.tN "stackTrace" Bundle.steD) (by simp [Bundle.messageArmAtoms]))
  obtain ⟨tyP, dP, hdP, hdnP⟩ := Cond.laysAt hfound hk Y.supp (w (.lays cls Bundle.tN "suppressedExceptions" Bundle.listD) (by simp [Bundle.messageArmAtoms]))
  obtain ⟨tyM, dM, hdM, hdnM⟩ := Cond.laysAt hfound hk hffM (w (.lays cls Bundle.tN "detailMessage" "Ljava/lang/String;") (by simp [Bundle.messageArmAtoms]))
  obtain ⟨tyB, dB, hdB, hdnB⟩ := Cond.laysAt hfound hk hffB (w (.lays cls Bundle.tN "backtrace" "Ljava/lang/Object;") (by simp [Bundle.messageArmAtoms]))
  have bC := Cond.laysApart hdB hdC hdnB hdnC (by rw [hnB, Y.causeName]; decide)
  have bS := Cond.laysApart hdB hdS hdnB hdnS (by rw [hnB, Y.stackName]; decide)
  have bP := Cond.laysApart hdB hdP hdnB hdnP (by rw [hnB, Y.suppName]; decide)
  have hskip : SkipFacts T e.platform s (fun u => u) u0 ((preparedCellV T.toThrowableT (freshCell P1.m.cls kX) (T'.heap.size + 2) u0 sen).withEntry T'.cur) :=
    ⟨{ ci198 := ci198, i198 := i198, fBack := fB }, ⟨hk198, hg198, ha198, hsB⟩, by
      have := fresh_default (c := P1.m.cls) tyB
      rw [htB] at this
      simpa [preparedCellV, Cell.setSlot, Cell.withEntry, Array.getElem?_setIfInBounds, bC, bS, bP, bC.symm, bS.symm, bP.symm, defaultValue] using this, fun _ _ => rfl⟩
  have hcurT : T'.cur < T'.threads.size := State.cur_lt_of_frames X.frames_eq.choose_spec
  have hov : Ov T' (.native nf :: .java g :: below) below := ⟨⟨X.here.running, X.here.runnable, X.here.alone⟩, hcurT, [.native nf, .java g], rfl⟩
  obtain ⟨hbeyond, hfreeW⟩ := ov_may X hsize hnw (.throwNew cls (some text) none) (fun f hf => by cases hf) rfl hRlocals
  have hfr' : (Frame.native nf :: .java g :: below).length + Ps.length + 4 < (e.platform.stackLimits T'.me).1 := by
    have h9 := X.framesAbove (n := 8) hRframes
    have h8 : T'.frames.length = below.length + 1 := by rw [X.frames_eq.choose_spec]; rfl
    simp only [List.length_cons]
    omega
  have hwd' : (stackUse (.native nf :: .java g :: below)).2 + 13 * Ps.length + 55 ≤ (e.platform.stackLimits T'.me).2 := by
    have h9 := X.stackAbove hsize (K := 13 * 3 + 55) (by omega)
    rw [X.tail] at h9
    rw [stackUse_light _ _ (fun f hf => by cases hf) (show (Frame.native nf).words = 0 from hnw)]
    omega
  have hslots : T'.slotsUsed + (stringBytes (stringToUtf16 text)).size + Zs.kS.instanceTypes.size + kX.instanceTypes.size ≤ e.platform.maxSlots := by
    have h9 := X.slotsAbove (n := 3500) hRslots
    rw [hn4, hn6]
    omega
  obtain ⟨vm', hW', st⟩ := ov_ms (p := p) (s := s) (S := T') hov hexec T L Z LZ M LM X.warmed Zs LZs P1 L1 Ps hL hlink1 hlink hsoe hoom hfound hk hinit hord hctor
    (Launch.admits_hotImplicitExceptions X.admits) hbeyond hfreeW htext hlimit hheap (X.cellsAbove hRcells) hslots (hfitv _) (hfitc _)
    hsel0 hcellS hknownS hu0 (Takes.of_laid hk hord tyS (by rw [Y.stackType]; exact fits_refV_array _ u0)) hskip
    (fun _ _ hA hW _ hroom _ hrest => L.nativeOff p htr hA hW hroom hrest) hselF hsen (Takes.of_laid hk hord tyC (by rw [Y.causeType]; rfl)) (Takes.of_laid hk hord tyP (by rw [Y.suppType]; exact fits_refV_object _ sen)) (Takes.of_laid hk hord tyM (by rw [Y.msgType]; rfl)) Y.objLocals rfl hfr' hwd'
  rw [plainBareV_eq T.toThrowableT (T'.heap.size + 2) u0 sen (.ref (T'.heap.size + 1)) T'.cur rfl rfl] at st
  obtain ⟨-, -, w3, w4, -, -, -⟩ := withThrown_facts e.platform T' Zs text P1.m.cls kX
  have X3 := ((X.pushed (bytesOf Zs.cB (stringToUtf16 text))).pushed (stringAt Zs.cS Zs.kS Zs.fv Zs.fc (stringToUtf16 text) T'.heap.size)).pushed (freshCell P1.m.cls kX)
  have hbel : ∀ q, q < T'.heap.size → (withThrown T' Zs text P1.m.cls kX).heap[q]? = T'.heap[q]? := fun q hq => by
    have e0 : (withThrown T' Zs text P1.m.cls kX) = ((T'.pushCell (bytesOf Zs.cB (stringToUtf16 text))).pushCell (stringAt Zs.cS Zs.kS Zs.fv Zs.fc (stringToUtf16 text) T'.heap.size)).pushCell (freshCell P1.m.cls kX) := by
      rw [← withString_eq]
    rw [e0]
    show (((T'.heap.push _).push _).push _)[q]? = _
    rw [Array.getElem?_push, if_neg (by rw [Array.size_push, Array.size_push]; omega), Array.getElem?_push, if_neg (by rw [Array.size_push]; omega), Array.getElem?_push, if_neg (by omega)]
  rw [← withString_eq] at X3
  have X4 := X3.noted hW'
  have ha : (T'.heap.size + 2) < ((withThrown T' Zs text P1.m.cls kX).setVm vm').heap.size := by show _ < (withThrown T' Zs text P1.m.cls kX).heap.size; rw [w3]; omega
  have hcell : ((withThrown T' Zs text P1.m.cls kX).setVm vm').heap[(T'.heap.size + 2)]? = some (freshCell P1.m.cls kX) := w4
  have X5 := ((((X4.stored hcell T.fCause.slot (.ref (T'.heap.size + 2))).storedAgain ha T.fStack.slot u0.v).storedAgain ha T.fSupp.slot sen.v).storedAgain ha T.fStack.slot u0.v).storedAgain ha T.fMsg.slot (.ref (T'.heap.size + 1))
  have b1 : (bytesOf Zs.cB (stringToUtf16 text)).slots.size = (stringBytes (stringToUtf16 text)).size := by
    rw [(Cell.writeAll_facts _ _).2.2]; simp [bytes0]
  have b2 : (stringAt Zs.cS Zs.kS Zs.fv Zs.fc (stringToUtf16 text) T'.heap.size).slots.size = 4 := by simp [string0, Cell.setSlot, hn4]
  have b3 : (freshCell P1.m.cls kX).slots.size = 6 := by simp [hn6]
  refine ⟨_, _, T'.heap.size + 2, _, _, ?_, X5, fun q hq => ?_, fun tg k => st tg ?_, ?_, fun q hq => ?_, Nat.le_add_right _ _, heapAt_setCell_self _ ha, hfound, rfl⟩
  · rw [b1, b2, b3]; omega
  · simp only [List.append_assoc, List.cons_append, List.nil_append] at hq
    rcases List.mem_append.mp hq with h1 | h1
    · exact Or.inl h1
    · refine Or.inr ?_
      simp only [List.mem_cons, List.not_mem_nil, or_false] at h1
      rcases h1 with rfl | rfl | rfl | rfl | rfl <;> exact Nat.le_add_right _ _
  · exact k
  · rw [size_setCell]
    exact Nat.le_trans (Nat.le_add_right _ 2) (Nat.le_of_lt ha)
  · rw [State.heap_setCell_other (by omega : T'.heap.size + 2 ≠ q)]
    exact hbel q hq
