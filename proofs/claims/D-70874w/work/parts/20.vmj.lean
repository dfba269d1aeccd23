/-! EXCEPTIONS: System.arraycopy's own -/
theorem nat_thr {p : Program} {e : Env} {below : List Frame} {s tg : State} {g : JFrame} {c : Code} (h : At s g.method c below) {m : MethodId} {meth : Method} {k : Class} {row : NativeRow} {av : Array Value} (acts : List Action)
    (hk : s.vm.classes[m.cls]? = some k) (hx : k.methods[m.idx]? = some meth) (hboot : k.loader = none) (hnat : meth.isNative = true) (hc : meth.code = none) (hl : meth.locks = false) (hrow : NativeRow.find? p.tables.natives k.name meth.name meth.desc = some row)
    (hroom : e.platform.stackFull (((s.setTop g).threads[(s.setTop g).cur]?).getD { frames := [] }) (s.setTop g).frames (nativeFrameWords k.name meth.name (operandWords av.toList)) = false) {cls : String} {msg : Option String}
    (hw : ∀ E : CtlPost, (∀ acts', E (.throwNew cls msg) acts' ((s.setTop g).pushFrame (.native { method := m, args := seenByNative meth av, locked := none }))) → wp (row.sem (seenByNative meth av)) (fun _ _ _ _ => False) E e false [] ((s.setTop g).pushFrame (.native { method := m, args := seenByNative meth av, locked := none })))
    (hrest : Steps p.tables e below (((s.setTop g).pushFrame (.native { method := m, args := seenByNative meth av, locked := none })).pushFrame (.throwNew cls msg none)) tg) : Steps p.tables e below (doInvoke e (s.setTop g) acts m av).1 tg := by
  have hm : (s.setTop g).vm.method? m = some meth := by
    show s.vm.method? m = some meth
    simp [Vm.method?, hk, hx]
  have hroom2 : e.platform.stackFull (((s.setTop g).threads[(s.setTop g).cur]?).getD { frames := [] }) (s.setTop g).frames (nativeFrameWords ((((s.setTop g).vm.classes[m.cls]?).map (·.name)).getD "") meth.name (operandWords av.toList)) = false := by
    have e1 : (((s.setTop g).vm.classes[m.cls]?).map (·.name)).getD "" = k.name := by
      show ((s.vm.classes[m.cls]?).map (·.name)).getD "" = k.name
      simp [hk]
    rw [e1]; exact hroom
  rw [(Fast.doInvoke_native (s := s.setTop g) (e := e) (acts := acts) (args := av) hm hnat hc hl hroom2).1]
  have hfe := frames_entered (g := g) h.top (.native { method := m, args := seenByNative meth av, locked := none })
  obtain ⟨mid, hmid⟩ := h.above
  refine Steps.head ⟨h.running, by simpa using h.runnable, by simpa using h.alone⟩ ⟨.native { method := m, args := seenByNative meth av, locked := none } :: .java g :: mid, by rw [hfe, hmid]; rfl, by simp, by simp⟩ ?_
  rw [stepThread_native (f := { method := m, args := seenByNative meth av, locked := none }) (k := k) (x := meth) (row := row) hfe hk hx hboot hrow rfl]
  have w1 : wpRun (row.sem (seenByNative meth av)) (fun _ _ _ => False) (fun x s1 _ => x = .throwNew cls msg ∧ s1 = (s.setTop g).pushFrame (.native { method := m, args := seenByNative meth av, locked := none })) e ((s.setTop g).pushFrame (.native { method := m, args := seenByNative meth av, locked := none })) := hw _ (fun _ => ⟨rfl, rfl⟩)
  have w2 := (wpRun_iff_run _ _ _ _ _).mp w1
  cases hr : (row.sem (seenByNative meth av)).run e ((s.setTop g).pushFrame (.native { method := m, args := seenByNative meth av, locked := none })) with
  | ok v s1 a1 => rw [hr] at w2; exact w2.elim
  | ctl x s1 a1 =>
    rw [hr] at w2
    cases x <;> first
      | exact w2.elim
      | (obtain ⟨h1, h2⟩ := w2; cases h1; subst h2; exact hrest)
      | (obtain ⟨h1, -⟩ := w2; cases h1)
theorem nat_out {p : Program} {e : Env} {below r : List Frame} {u tg : State} {a : Addr} {f : NFrame} (hgo : u.goesOn) (hcur : u.cur < u.threads.size) (hr : ∃ mid, r = mid ++ below) (haw : f.awaiting = false) (hl : f.locked = none) (hrest : Steps p.tables e below (u.setFrames (.throwing a :: r)) tg) : Steps p.tables e below (u.setFrames (.throwing a :: .native f :: r)) tg := by
  obtain ⟨mid, hmid⟩ := hr
  have hf : (u.setFrames (.throwing a :: .native f :: r)).frames = .throwing a :: .native f :: r := State.frames_setFrames _ hcur
  refine Steps.head ⟨hgo.1, by simpa using hgo.2.1, by simpa using hgo.2.2⟩ ⟨.throwing a :: .native f :: mid, by rw [hf, hmid]; rfl, by simp, by simp⟩ ?_
  have e1 : (stepThread p.tables e (u.setFrames (.throwing a :: .native f :: r))).1 = (u.setFrames (.throwing a :: .native f :: r)).setFrames (.throwing a :: r) := by
    unfold stepThread
    simp only [hf]
    unfold stepThrowing
    simp only [haw, Bool.false_eq_true, if_false, hl]
    unfold vmDo
    generalize hg : Sem.go _ e false _ (u.setFrames (.throwing a :: .native f :: r)) = res
    obtain ⟨as, rfl, -⟩ := Sem.eq_ok_of hg (a := true) (s' := u.setFrames (.throwing a :: .native f :: r)) (acts' := []) (by simp [leaveIfLocked, unmarked, Action.isMark])
    rfl
  rw [e1, State.setFrames_setFrames]
  exact hrest
theorem nto_ntx {p : Program} {l : Launch} {e : Env} {R : Room} {s : State} {m : MethodId} {args : Array Value} {below : List Frame} {meth : Method} {c : Code} {T : State} {nf : NFrame} {g : JFrame} {cls : String} {msg : Option String} {locs : List Loc} {cells slots : Nat} (haw : nf.awaiting = false) (hlk : nf.locked = none) (h : NTO p l e R s m args below meth c T nf g cls msg locs cells slots) :
    NTX p l e R s m args below meth c T (T.setFrames (.throwNew cls msg none :: .native nf :: .java g :: below)) g cls locs cells slots := by
  obtain ⟨U, locs', a, n, ce, h1, h2, h3, h4, h5⟩ := h
  refine ⟨U, locs', a, n, ce, h1, h2, h3, fun tg k => h4 tg ?_, h5⟩
  obtain ⟨g1, hfr⟩ := h2.frames_eq
  rw [State.pushFrame, State.frames_setTop _ hfr, State.setTop_of_frames _ hfr, State.setFrames_setFrames] at k
  exact nat_out ⟨h2.here.running, h2.here.runnable, h2.here.alone⟩ (State.cur_lt_of_frames hfr) ⟨[.java g], rfl⟩ haw hlk k
/-- the call of arraycopy comes to its throw -/
theorem nat_raise {p : Program} {l : Launch} {e : Env} {R : Room} {s : State} {m : MethodId} {args : Array Value} {below : List Frame} {meth : Method} {c : Code} {T : State} {locs : List Loc} {cells slots : Nat} (X : Stand p l e R s m args below meth c T locs cells slots) (hexec : p.tables.exec = Jvm.exec) {own : String} {index : Nat} (hown : s.vm.findClass own = some m.cls)
    (hlink : (Cond.methodLink own index arraycopyName).before args s = true) (hnat : (Cond.native arraycopyName).before args s = true) (hstat : (Cond.static arraycopyName).before args s = true) (hinit : (Cond.initialized "java/lang/System").before args s = true)
    {ws wd : Value} {sp dp n : Int32} (hws : ws.isRef = true) (hwd : wd.isRef = true) {cls : String} {msg : Option String}
    (hw : ∀ vm', s.vm.Alike vm' → ∀ (fs : List Frame) (E : CtlPost), (∀ acts', E (.throwNew cls msg) acts' ((T.setVm vm').setFrames fs)) → wp (Native.java_lang_System.arraycopy.sem #[ws, .int sp, wd, .int dp, .int n]) (fun _ _ _ _ => False) E e false [] ((T.setVm vm').setFrames fs))
    {pc : Nat} {ls : Array Slot} {rest : List Value} (hsize : ls.size = c.maxLocals) (hdg : decode c.code pc = .ok (.invokestatic index, 3)) (hframes : 1 ≤ R.frames) (hlocals : 2 * 0 + (rest.map fun v => v.category).sum + (nativeFrameWords "java/lang/System" "arraycopy" 5 + 11) ≤ R.locals) :
    ∃ vm' nf, nf.words = 0 ∧ nf.awaiting = false ∧ nf.locked = none ∧ Stand p l e R s m args below meth c (T.setVm vm') locs cells slots ∧ ∀ tg, Steps p.tables e below ((T.setVm vm').setFrames (.throwNew cls msg none :: .native nf :: .java (F0 m pc ls rest) :: below)) tg → Steps p.tables e below (T.setTop (F0 m pc ls (.int n :: .int dp :: wd :: .int sp :: ws :: rest))) tg := by
  obtain ⟨r, kS, methS, hnS, hmS, hkS, N⟩ := NativeOf.of_static hnat hstat (ps := [.object "java/lang/Object", .int, .object "java/lang/Object", .int, .int]) (ret := none) (by decide +kernel)
  have hinitS : kS.init = .initialized := Cond.initialized_spec (findClass_of_methodNamed hnS) hkS hinit
  obtain ⟨vm', X', step⟩ := X.invokestatic hexec hown hlink hnS hmS N.static hkS hinitS (by decide) (g := F0 m pc ls (.int n :: .int dp :: wd :: .int sp :: ws :: rest)) rfl (argsL := [ws, .int sp, wd, .int dp, .int n]) (rest := rest) (by rw [N.sig]; rfl) rfl hdg
  obtain ⟨kS', N'⟩ := N.alike X'.warmed.alike
  have hseen : seenByNative methS #[ws, .int sp, wd, .int dp, .int n] = #[ws, .int sp, wd, .int dp, .int n] := by
    cases ws <;> first | cases hws; done | skip
    all_goals (cases wd <;> first | cases hwd; done | skip)
    all_goals simp [seenByNative, N.static, N.sig, narrow]
  have how : operandWords [ws, .int sp, wd, .int dp, .int n] = 5 := by
    cases ws <;> first | cases hws; done | skip
    all_goals (cases wd <;> first | cases hwd; done | skip)
    all_goals rfl
  obtain ⟨g0, hfr⟩ := X'.frames_eq
  have hU : ((T.setVm vm').setTop (F0 m pc ls rest)).pushFrame (.native { method := r, args := #[ws, .int sp, wd, .int dp, .int n], locked := none }) = (T.setVm vm').setFrames (.native { method := r, args := #[ws, .int sp, wd, .int dp, .int n], locked := none } :: .java (F0 m pc ls rest) :: below) := by
    rw [State.pushFrame, State.frames_setTop _ hfr, State.setTop_of_frames _ hfr, State.setFrames_setFrames]
  have hcur : (T.setVm vm').cur < (T.setVm vm').threads.size := State.cur_lt_of_frames hfr
  refine ⟨vm', { method := r, args := #[ws, .int sp, wd, .int dp, .int n], locked := none }, rfl, rfl, rfl, X', fun tg k => step tg fun acts => ?_⟩
  refine nat_thr (g := F0 m pc ls rest) (row := arraycopyRow) (cls := cls) (msg := msg) X'.here acts N'.cls N'.meth N'.boot N'.native N'.noCode N'.noLock (by rw [N'.className, N'.name, N'.desc]; exact arraycopy_row p)
    (by rw [N'.className, N'.name, how]; exact X'.notFull (g := F0 m pc ls rest) hsize (vars := nativeFrameWords "java/lang/System" "arraycopy" 5) hframes hlocals) ?_ ?_
  · intro E hE
    rw [hseen, hU] at hE ⊢
    rw [arraycopyRow_sem]
    exact hw vm' X'.warmed.alike _ E hE
  · rw [hseen, hU, State.pushFrame, State.frames_setFrames _ hcur, State.setFrames_setFrames]
    exact k
