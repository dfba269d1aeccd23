/-! EXCEPTIONS: the machine's own, made over frames of any kind (a native's) -/
def Ov (W : State) (base below : List Frame) : Prop := W.goesOn ∧ W.cur < W.threads.size ∧ ∃ mid, base = mid ++ below
theorem Ov.setVm {W : State} {base below : List Frame} (h : Ov W base below) (vm' : Vm) : Ov (W.setVm vm') base below := h
theorem ov_in {W : State} {base below : List Frame} (h : Ov W base below) (a : Addr) (f0 : JFrame) {m : MethodId} {meth : Method} {code : Code} (hm : W.vm.method? m = some meth) (hc : meth.code = some code) (hp : W.plainMethod m) :
    (W.setFrames (.thenThrow a :: base)).frames = .thenThrow a :: base ∧ At ((W.setFrames (.thenThrow a :: base)).pushFrame (.java f0)) m code below ∧ ((W.setFrames (.thenThrow a :: base)).pushFrame (.java f0)).frames = .java f0 :: .thenThrow a :: base := by
  obtain ⟨hgo, hcur, mid, hmid⟩ := h
  have f1 : (W.setFrames (.thenThrow a :: base)).frames = .thenThrow a :: base := State.frames_setFrames _ hcur
  have c1 := State.cur_lt_of_frames f1
  have g1 : (W.setFrames (.thenThrow a :: base)).goesOn := ⟨hgo.1, by simpa using hgo.2.1, by simpa using hgo.2.2⟩
  refine ⟨f1, At.pushOn _ g1 c1 ⟨.thenThrow a :: mid, by rw [f1, hmid]; rfl⟩ hm hc hp, ?_⟩
  rw [show ((W.setFrames (.thenThrow a :: base)).pushFrame (.java f0)).frames = .java f0 :: (W.setFrames (.thenThrow a :: base)).frames from State.frames_setFrames _ c1, f1]
theorem ov_heap {W : State} {base below : List Frame} (h : Ov W base below) (a : Addr) (y : Cell) : Ov (W.setCell a y) base below := by
  obtain ⟨⟨h1, h2, h3⟩, h4, h5⟩ := h
  exact ⟨⟨h1, h2, h3⟩, h4, h5⟩
theorem ov_push {W : State} {base below : List Frame} (h : Ov W base below) (y : Cell) : Ov (W.pushCell y) base below := by
  obtain ⟨⟨h1, h2, h3⟩, h4, h5⟩ := h
  exact ⟨⟨h1, h2, h3⟩, h4, h5⟩
/-- the note becomes the throw -/
theorem ov_then {p : Program} {e : Env} {W tg : State} {base below : List Frame} (h : Ov W base below) (a : Addr) (k : Steps p.tables e below (W.setFrames (.throwing a :: base)) tg) : Steps p.tables e below (W.setFrames (.thenThrow a :: base)) tg := by
  obtain ⟨hgo, hcur, mid, hmid⟩ := h
  have f1 : (W.setFrames (.thenThrow a :: base)).frames = .thenThrow a :: base := State.frames_setFrames _ hcur
  refine Steps.head ⟨hgo.1, by simpa using hgo.2.1, by simpa using hgo.2.2⟩ ⟨.thenThrow a :: mid, by rw [f1, hmid]; rfl, by simp, by simp⟩ ?_
  rw [stepThread_thenThrow f1]
  show Steps p.tables e below ((W.setFrames (.thenThrow a :: base)).setFrames (.throwing a :: base)) tg
  rw [State.setFrames_setFrames]
  exact k
/-- out of the constructor with a message -/
theorem ov_retS {p : Program} {e : Env} {W tg : State} {base below : List Frame} (h : Ov W base below) (hexec : p.tables.exec = Jvm.exec) (a str : Addr) {x : Addr} {y : Cell} {m : MethodId} {meth : Method} {code : Code} (hm : W.vm.method? m = some meth) (hc : meth.code = some code) (hp : W.plainMethod m) (hl : meth.locks = false) (h5 : decode code.code 5 = .ok (.return_, 1))
    (k : Steps p.tables e below ((W.setCell x y).setFrames (.throwing a :: base)) tg) : Steps p.tables e below ((((W.setFrames (.thenThrow a :: base)).pushFrame (.java (passJ m a (.ref str) 0 []))).setCell x y).setTop (passJ m a (.ref str) 5 [])) tg := by
  obtain ⟨f1, hI, f2⟩ := ov_in h a (passJ m a (.ref str) 0 []) hm hc hp
  have hH : HeapOnly (fun u : State => u.setCell x y) := heapOnly_id.thenSetCell x y
  have hB := hH.at_ hI
  jvm_step hB [hexec, h5, return_.wp_sem]
  intro acts
  have f3 : (((W.setFrames (.thenThrow a :: base)).pushFrame (.java (passJ m a (.ref str) 0 []))).setCell x y).frames = .java (passJ m a (.ref str) 0 []) :: .thenThrow a :: base := f2
  rw [ret_to (t := ((W.setFrames (.thenThrow a :: base)).pushFrame (.java (passJ m a (.ref str) 0 []))).setCell x y) (f := passJ m a (.ref str) 5 []) (f₀ := passJ m a (.ref str) 0 []) (below := .thenThrow a :: base) (fs := .thenThrow a :: base) (meth := meth) f3 hm hl rfl rfl rfl acts]
  have e1 : (((W.setFrames (.thenThrow a :: base)).pushFrame (.java (passJ m a (.ref str) 0 []))).setCell x y).setFrames (.thenThrow a :: base) = (W.setCell x y).setFrames (.thenThrow a :: base) := by
    rw [State.pushFrame, State.setFrames_setFrames]
    have := hH.setFrames W (.java (passJ m a (.ref str) 0 []) :: (W.setFrames (.thenThrow a :: base)).frames)
    rw [show (W.setFrames (.java (passJ m a (.ref str) 0 []) :: (W.setFrames (.thenThrow a :: base)).frames)).setCell x y = (W.setCell x y).setFrames (.java (passJ m a (.ref str) 0 []) :: (W.setFrames (.thenThrow a :: base)).frames) from this, State.setFrames_setFrames]
  rw [e1]
  exact ov_then (ov_heap h x y) a k
/-- the constructor with a message, from its call to the throw -/
theorem ov_ctorS {p : Program} {e : Env} {s W : State} {base below : List Frame} (h : Ov W base below) (hexec : p.tables.exec = Jvm.exec) {x : Addr} {y : Cell} (P1 : PassC) (L1 : P1.LinksS e.platform s) (hW : s.WarmedH W.vm) (a str : Addr)
    (hroom : e.platform.stackFull (((W.setFrames (.thenThrow a :: base)).threads[(W.setFrames (.thenThrow a :: base)).cur]?).getD { frames := [] }) (W.setFrames (.thenThrow a :: base)).frames 2 = false)
    (hsup : ∀ vm1, s.WarmedH vm1 → At (((W.setVm vm1).setFrames (.thenThrow a :: base)).pushFrame (.java (passJ P1.m a (.ref str) 0 []))) P1.m P1.code below → ∃ vm2, s.WarmedH vm2 ∧ ∀ t' : State,
      Steps p.tables e below (((((W.setVm vm2).setFrames (.thenThrow a :: base)).pushFrame (.java (passJ P1.m a (.ref str) 0 []))).setCell x y).setTop (passJ P1.m a (.ref str) 5 [])) t' →
      Steps p.tables e below (doInvoke e ((((W.setVm vm1).setFrames (.thenThrow a :: base)).pushFrame (.java (passJ P1.m a (.ref str) 0 []))).setTop (passJ P1.m a (.ref str) 2 [])) [] P1.sup #[.ref a, .ref str]).1 t') :
    ∃ vm', s.WarmedH vm' ∧ ∀ tg, Steps p.tables e below (((W.setVm vm').setCell x y).setFrames (.throwing a :: base)) tg → Steps p.tables e below (doInvoke e (W.setFrames (.thenThrow a :: base)) [] P1.m #[.ref a, .ref str]).1 tg := by
  have hmW := hW.methodAt L1.method
  obtain ⟨f1, hI, f2⟩ := ov_in h a (passJ P1.m a (.ref str) 0 []) hmW L1.code (hW.plainAt L1.plain)
  obtain ⟨vm1, hW1, st1⟩ := Steps.invokeInitCold (tb := p.tables) (s₀ := s) (U := ((W.setFrames (.thenThrow a :: base)).pushFrame (.java (passJ P1.m a (.ref str) 0 [])))) (f := passJ P1.m a (.ref str) 2 [.ref str, .ref a]) (args := [.ref str]) (rest := []) (a := a) hI hexec L1.at2 hW L1.links L1.right L1.notHandle L1.cls L1.file L1.pool
    L1.supClass L1.supMethod L1.supName L1.supStatic L1.supAbstract L1.supFound L1.supParams.symm rfl
  obtain ⟨vm2, hW2, st2⟩ := hsup vm1 hW1 (hI.setVm (hW.alike.symm.trans hW1.alike))
  refine ⟨vm2, hW2, fun tg k => ?_⟩
  rw [(doInvoke_java (s := (W.setFrames (.thenThrow a :: base))) (e := e) (acts := []) (args := #[.ref a, .ref str]) (meth := P1.meth) (code := P1.code) hmW L1.code L1.locks (by rw [L1.locals]; exact hroom)).1, L1.locals]
  show Steps p.tables e below ((W.setFrames (.thenThrow a :: base)).pushFrame (.java (passJ P1.m a (.ref str) 0 []))) tg
  rw [← State.setTop_self (s := ((W.setFrames (.thenThrow a :: base)).pushFrame (.java (passJ P1.m a (.ref str) 0 [])))) (State.topJava?_of_frames f2)]
  jvm_step hI [hexec, L1.at0, Value.isRef]
  jvm_step hI [hexec, L1.at1, Value.isRef]
  refine st1 tg (st2 tg ?_)
  exact ov_retS (W := W.setVm vm2) (h.setVm vm2) hexec a str (hW2.methodAt L1.method) L1.code (hW2.plainAt (U := W.setVm vm2) L1.plain) L1.locks L1.at5 k
