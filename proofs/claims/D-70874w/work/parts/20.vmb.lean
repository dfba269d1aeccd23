/-! EXCEPTIONS: the machine makes its own -/
theorem ra_isRef {z : Ad} {k : Nat} {C n d : String} {A : Nat → Prop} {s : State} {args : Array Value} (h : va_Z C n d (va_rf (z.1 k)) A s s.heap) : (Cond.isRef (.static C n d)).before args s = true := by
  obtain ⟨cf, kf, fi, f, a, cell, h1, h2, h3, h4, h5, h6, h7, h8⟩ := h
  have e : (Term.static C n d).eval args s none [] s = some (va_rf (z.1 k)) := by
    simp [Term.eval, State.fieldNamed?, h1, h2, h4, h5, h6, h7]
  simp only [Cond.before, Cond.holds, Cond.value, e]
  cases z.1 k <;> rfl
theorem atm_b {y : Nat} {p : Program} {l : Launch} {R : Room} {s : State} {m : MethodId} {args : Array Value} {meth : Method} {c : Code} {D : va_G} {dA : Nat → ClassId} {A : Nat → Prop} {z : Ad} {n : (Nat → Int32) × Nat} (hC : Ctx y p l R s m args meth c D dA A) (hE : Exs z A n s s.heap) {a : Cond} (h : Atm a) : a.before args s = true := by
  rcases h with h | ⟨h1, h2, h3⟩ | rfl | rfl | rfl | rfl
  · exact hC.1.2.2.2.2 a h
  · exact va_Nw.use h3 (hC.2.2.1.2.1 a h1 h2)
  · exact ra_isRef hE.2.1
  · exact ra_isRef hE.2.2.1
  · exact hE.2.2.2.1.word
  · exact hE.2.2.2.2.word
/-- the machine comes to throw an object of its own making: behind the method's frame g -/
def NTE (p : Program) (l : Launch) (e : Env) (R : Room) (s : State) (m : MethodId) (args : Array Value) (below : List Frame) (meth : Method) (c : Code) (T : State) (g : JFrame) (cls : String) (msg : Option String) (locs : List Loc) (cells slots : Nat) : Prop :=
  ∃ (U : State) (locs' : List Loc) (a n : Nat) (ce : Cell), n ≤ slots + 3500 ∧ Stand p l e R s m args below meth c U locs' (cells + 3) n ∧ (∀ q ∈ locs', q ∈ locs ∨ T.heap.size ≤ q.base) ∧
    (∀ tg, Steps p.tables e below ((U.setTop g).pushFrame (.throwing a)) tg → Steps p.tables e below ((T.setTop g).pushFrame (.throwNew cls msg none)) tg) ∧ T.heap.size ≤ U.heap.size ∧ (∀ q, q < T.heap.size → U.heap[q]? = T.heap[q]?) ∧ T.heap.size ≤ a ∧ U.heap[a]? = some ce ∧ s.vm.findClass cls = some ce.cls ∧ ce.vm = .none
set_option maxHeartbeats 4000000 in
theorem nte_np {p : Program} {l : Launch} {e : Env} {R : Room} {s : State} {m : MethodId} {args : Array Value} {below : List Frame} {meth : Method} {c : Code} {T' : State} {locs : List Loc} {cells slots : Nat} {A : Nat → Prop} {z : Ad} {n0 : (Nat → Int32) × Nat} (X : Stand p l e R s m args below meth c T' locs cells slots) (hexec : p.tables.exec = Jvm.exec) (htr : e.platform.stackTraces = false)
    (h : ∀ a ∈ Bundle.npeArmAtoms 8, a.before args s = true) (hE : Exs z A n0 s s.heap) (hSv : va_S A s.heap T'.heap locs)
    {g : JFrame} (hg : g.method = m) (hsize : g.locals.size = c.maxLocals) (hRframes : 7 < R.frames) (hRlocals : 2 * g.monitorRoom + (g.stack.map fun v => v.category).sum + 10240 ≤ R.locals) (hRcells : cells + 3 ≤ R.cells) (hRslots : slots + 8 ≤ R.slots) :
    NTE p l e R s m args below meth c T' g "java/lang/NullPointerException" none locs cells slots := by
  have howns : e.platform.frameOwnsMonitors = true := by rw [X.admits.platform]
  have hfin : e.platform.finalization = false := by rw [X.admits.platform]
  have hpl : e.platform.magicAccessors = ({} : Platform).magicAccessors := by rw [X.admits.platform]
  have hpl2 : e.platform.arrayCloneIsPublic = true := by rw [X.admits.platform]
  have w : ∀ x, x ∈ Bundle.npeArmAtoms 8 → x.holds args s none s [] = true := fun x hx => h x hx
  obtain ⟨T, Z, L, LZ, Y⟩ := ThrowableC.of_atoms (args := args) howns hfin hpl (fun x hx => h x (by simp [Bundle.npeArmAtoms, hx]))
  obtain ⟨N, LN, hcN, hnNF, hordN, hffS⟩ := NpeC.of_atoms (args := args) hpl hpl2 L Y (fun x hx => h x (by simp [Bundle.npeArmAtoms, hx]))
  obtain ⟨P1, L1, hP1m, hP1s⟩ := PassC.of_atoms (args := args) (s := s) hpl (X := Bundle.nN) (Y := Bundle.rN) (by decide) (by decide) LibCode.NullPointerException.Init0.at_0 LibCode.NullPointerException.Init0.at_1 LibCode.NullPointerException.Init0.at_4 (fun x hx => h x (by simp [Bundle.npeArmAtoms, hx]))
  obtain ⟨PR, LR, hPRm, hPRs⟩ := PassC.of_atoms (args := args) (s := s) hpl (X := Bundle.rN) (Y := Bundle.eN) (by decide) (by decide) LibCode.RuntimeException.Init0.at_0 LibCode.RuntimeException.Init0.at_1 LibCode.RuntimeException.Init0.at_4 (fun x hx => h x (by simp [Bundle.npeArmAtoms, hx]))
  obtain ⟨PE, LE, hPEm, hPEs⟩ := PassC.of_atoms (args := args) (s := s) hpl (X := Bundle.eN) (Y := Bundle.tN) (by decide) (by decide) LibCode.Exception.Init0.at_0 LibCode.Exception.Init0.at_1 LibCode.Exception.Init0.at_4 (fun x hx => h x (by simp [Bundle.npeArmAtoms, hx]))
  have hfound : s.vm.findClass Bundle.nN = some P1.m.cls := findClass_of_methodNamed hP1m
  have ecls : N.cN = P1.m.cls := Option.some.inj (hcN.symm.trans hfound)
  have hk : s.vm.classes[P1.m.cls]? = some N.kN := by rw [← ecls]; exact LN.cls
  have hinit := Cond.initialized_spec hfound hk (w (.initialized Bundle.nN) (by simp [Bundle.npeArmAtoms]))
  have hctor : N.kN.findMethod "<init>" "()V" = some P1.m.idx := findMethod_of_methodNamed hP1m hk
  obtain ⟨c1, k1, hc1, hk1, -, -, -, hn⟩ := Cond.instantiable_spec (w (.instantiable Bundle.nN 8) (by simp [Bundle.npeArmAtoms]))
  cases Option.some.inj (hc1.symm.trans hfound)
  cases Option.some.inj (hk1.symm.trans hk)
  have hlinkE : PE.sup = Z.m T.toThrowableT := Option.some.inj (hPEs.symm.trans Y.init0)
  have hsel0 : selectMethod e.platform s.vm P1.m.cls T.fill0 = .method T.fill0 := by
    obtain ⟨c2, r2, m2, q1, q2, q3, q4, -⟩ := Cond.selects_spec (w (.selects Bundle.nN Bundle.tFill0 Bundle.tFill0) (by simp [Bundle.npeArmAtoms]))
    cases Option.some.inj (q1.symm.trans hfound)
    cases Option.some.inj (q2.symm.trans (State.methodFound?_of_named Y.fill0 (by decide)))
    cases Option.some.inj (q3.symm.trans Y.fill0)
    rw [Launch.admits_selectMethod X.admits]; exact q4
  have hselF : selectMethod e.platform s.vm P1.m.cls T.fill = .method N.fill := by
    obtain ⟨c2, r2, m2, q1, q2, q3, q4, -⟩ := Cond.selects_spec (w (.selects Bundle.nN Bundle.tFill Bundle.nFill) (by simp [Bundle.npeArmAtoms]))
    cases Option.some.inj (q1.symm.trans hfound)
    cases Option.some.inj (q2.symm.trans (State.methodFound?_of_named Y.fill (by decide)))
    cases Option.some.inj (q3.symm.trans hnNF)
    rw [Launch.admits_selectMethod X.admits]; exact q4
  obtain ⟨cellS, hcS0, hiss⟩ := Y.statics
  have hcellS : T'.heap[T.aS]? = some cellS := by
    obtain ⟨c9, k9, i9, f9, a9, ce9, -, g1, -, g3, g4, -, -, -, -, g9⟩ := hE.2.2.2.1
    cases (Option.some.inj (g1.symm.trans Y.unassigned))
    cases (Option.some.inj (g3.symm.trans L.statics))
    rw [hSv.2.1 _ (Array.getElem?_eq_some_iff.mp hcS0).1 g9]
    exact hcS0
  obtain ⟨u0, hu0⟩ := Cond.staticRefV Y.unassigned L.unassignedStatic L.statics hcS0 hiss (w (.isRef (.static Bundle.tN "UNASSIGNED_STACK" Bundle.steD)) (by simp [Bundle.npeArmAtoms]))
  obtain ⟨sen, hsen⟩ := Cond.staticRefV Y.sentinel L.sentinelStatic L.statics hcS0 hiss (w (.isRef (.static Bundle.tN "SUPPRESSED_SENTINEL" Bundle.listD)) (by simp [Bundle.npeArmAtoms]))
  obtain ⟨ci198, i198, fB, hk198, hg198, ha198, hsB, -, hnB, htB, hffB⟩ := Cond.ownField (t := .object "java/lang/Object") Y.found L.cls (by decide +kernel) (w (.fieldLink Bundle.tN 198 Bundle.tN "backtrace" Bundle.objD) (by simp [Bundle.npeArmAtoms])) (w (.lays Bundle.tN Bundle.tN "backtrace" Bundle.objD) (by simp [Bundle.npeArmAtoms])) e.platform hpl
  have hknownS : cellS.vm ≠ .unknown := by
    intro hu
    rw [hu] at hiss
    cases hiss
  obtain ⟨tyC, dC, hdC, hdnC⟩ := Cond.laysAt hfound hk Y.cause (w (.lays Bundle.nN Bundle.tN "cause" "Ljava/lang/Throwable;") (by simp [Bundle.npeArmAtoms]))
  obtain ⟨tyS, dS, hdS, hdnS⟩ := Cond.laysAt hfound hk Y.stack (w (.lays Bundle.nN Bundle.tN "stackTrace" Bundle.steD) (by simp [Bundle.npeArmAtoms]))
  obtain ⟨tyP, dP, hdP, hdnP⟩ := Cond.laysAt hfound hk Y.supp (w (.lays Bundle.nN Bundle.tN "suppressedExceptions" Bundle.listD) (by simp [Bundle.npeArmAtoms]))
  obtain ⟨tyX, dX, hdX, hdnX⟩ := Cond.laysAt hfound hk hffS (w (.lays Bundle.nN Bundle.nN "extendedMessageState" "I") (by simp [Bundle.npeArmAtoms, Bundle.npeAtoms]))
  have hnX : N.fState.name = "extendedMessageState" := (State.fieldFound?_type hffS (t := .int) (by decide +kernel)).1
  obtain ⟨tyB, dB, hdB, hdnB⟩ := Cond.laysAt hfound hk hffB (w (.lays Bundle.nN Bundle.tN "backtrace" Bundle.objD) (by simp [Bundle.npeArmAtoms]))
  have bC := Cond.laysApart hdB hdC hdnB hdnC (by rw [hnB, Y.causeName]; decide)
  have bS := Cond.laysApart hdB hdS hdnB hdnS (by rw [hnB, Y.stackName]; decide)
  have bP := Cond.laysApart hdB hdP hdnB hdnP (by rw [hnB, Y.suppName]; decide)
  have bX := Cond.laysApart hdB hdX hdnB hdnX (by rw [hnB, hnX]; decide)
  have hskip : SkipFacts T e.platform s (fun u => u) u0 ((npeCell N.toNpeT (preparedCellV T.toThrowableT (freshCell P1.m.cls N.kN) T'.heap.size u0 sen) T'.cur).withEntry T'.cur) :=
    ⟨{ ci198 := ci198, i198 := i198, fBack := fB }, ⟨hk198, hg198, ha198, hsB⟩, by
      have := fresh_default (c := P1.m.cls) tyB
      rw [htB] at this
      simpa [npeCell, preparedCellV, Cell.setSlot, Cell.withEntry, Array.getElem?_setIfInBounds, bC, bS, bP, bX, bC.symm, bS.symm, bP.symm, bX.symm, defaultValue] using this, fun _ _ => rfl⟩
  have hat : At T' g.method c below := by rw [hg]; exact X.here
  obtain ⟨hbeyond, hfreeW⟩ := X.vmMayThrow hsize (.throwNew "java/lang/NullPointerException" none none) (fun f hf => by cases hf) rfl hRlocals
  have hfr' : T'.frames.length + [PR, PE].length + 5 < (e.platform.stackLimits T'.me).1 := by
    have h9 := X.framesAbove (n := 7) hRframes
    show T'.frames.length + 2 + 5 < _
    omega
  have hwd' : (stackUse (.java g :: T'.frames.tail)).2 + 13 * [PR, PE].length + 68 ≤ (e.platform.stackLimits T'.me).2 := by
    have h9 := X.stackAbove hsize (K := 13 * 2 + 68) (by omega)
    show _ + 13 * 2 + 68 ≤ _
    omega
  have hsz8 : (freshCell P1.m.cls N.kN).slots.size = 8 := by simp [hn]
  obtain ⟨vm', hW', st⟩ := Steps.vmThrowsNpeColdByV p (s₀ := s) (S := T') (g := g) hat hexec T L Z LZ N LN X.warmed (t := T'.cur) rfl P1 L1 [PR, PE] (fun P hP => by
      simp only [List.mem_cons, List.not_mem_nil, or_false] at hP
      rcases hP with rfl | rfl
      · exact LR
      · exact LE) (Option.some.inj (hP1s.symm.trans hPRm)) ⟨Option.some.inj (hPRs.symm.trans hPEm), hlinkE, trivial⟩ hfound hk hinit hordN hctor
    (Launch.admits_hotImplicitExceptions X.admits) hbeyond hfreeW (X.cellsAbove (n := 1) (by omega)) (X.slotsAbove (n := N.kN.instanceTypes.size) (by rw [hn]; exact hRslots))
    (Nn := fun u => u) heapOnly_id (fun _ _ => rfl) (fun _ => rfl) (fun u x y => setCell_twice _ _ _ _) (fun _ => Nat.le_refl _) (cN := ((npeCell N.toNpeT (preparedCellV T.toThrowableT (freshCell P1.m.cls N.kN) T'.heap.size u0 sen) T'.cur).withEntry T'.cur))
    hsel0 hcellS hknownS hu0 (by rw [fresh_default tyX, LN.stateInt]; rfl)
    (Cond.laysApart hdC hdX hdnC hdnX (by rw [Y.causeName, hnX]; decide)) (Cond.laysApart hdS hdX hdnS hdnX (by rw [Y.stackName, hnX]; decide)) (Cond.laysApart hdP hdX hdnP hdnX (by rw [Y.suppName, hnX]; decide))
    (Takes.of_laid hk hordN tyS (by rw [Y.stackType]; exact fits_refV_array _ u0)) (Takes.of_laid hk hordN tyX (by rw [LN.stateInt]; rfl)) (fun _ hu => hu) (fun _ hu => hu) rfl rfl rfl (by simp [npeCell, preparedCellV, Cell.setSlot, Cell.withEntry]) hskip
    (fun _ _ hA hW _ hroom _ hrest => L.nativeOff p htr hA hW hroom hrest) hselF hsen (Takes.of_laid hk hordN tyC (by rw [Y.causeType]; rfl)) (Takes.of_laid hk hordN tyP (by rw [Y.suppType]; exact fits_refV_object _ sen)) Y.objLocals rfl hfr' hwd'
  rw [npeBareV_eq T.toThrowableT N.toNpeT T'.heap.size u0 sen T'.cur rfl rfl] at st
  have X2 := (X.pushed (freshCell P1.m.cls N.kN)).noted hW'
  have hsz : ((T'.pushCell (freshCell P1.m.cls N.kN)).setVm vm').heap.size = T'.heap.size + 1 := State.heap_size_pushCell _ _
  have ha : T'.heap.size < ((T'.pushCell (freshCell P1.m.cls N.kN)).setVm vm').heap.size := by rw [hsz]; omega
  have hcell : ((T'.pushCell (freshCell P1.m.cls N.kN)).setVm vm').heap[T'.heap.size]? = some (freshCell P1.m.cls N.kN) := State.heap_pushCell_size T' (freshCell P1.m.cls N.kN)
  have X3 := ((((X2.stored hcell T.fCause.slot (.ref T'.heap.size)).storedAgain ha T.fStack.slot u0.v).storedAgain ha T.fSupp.slot sen.v).storedAgain ha N.fState.slot (.int 1)).storedAgain ha T.fStack.slot u0.v
  have X4 := stand_widen X3 (show cells + 1 ≤ cells + 3 by omega) (Nat.le_refl _)
  rw [X.tail] at st
  refine ⟨_, _, T'.heap.size, _, _, ?_, X4, fun q hq => ?_, fun tg k => st tg ?_, ?_, fun q hq => ?_, Nat.le_refl _, heapAt_setCell_self _ ha, hfound, rfl⟩
  · rw [hsz8]; omega
  · simp only [List.append_assoc, List.cons_append, List.nil_append] at hq
    rcases List.mem_append.mp hq with h1 | h1
    · exact Or.inl h1
    · refine Or.inr ?_
      simp only [List.mem_cons, List.not_mem_nil, or_false] at h1
      rcases h1 with rfl | rfl | rfl | rfl | rfl <;> exact Nat.le_refl _
  · obtain ⟨g1, hfr⟩ := X3.frames_eq
    rw [State.pushFrame, State.frames_setTop _ hfr, State.setTop_of_frames _ hfr, State.setFrames_setFrames] at k
    exact k
  · rw [size_setCell, hsz]; omega
  · rw [State.heap_setCell_other (by omega : T'.heap.size ≠ q)]
    show (T'.heap.push _)[q]? = _
    rw [Array.getElem?_push, if_neg (by omega)]
