/-! SOUNDNESS: its terms -/
def TW (p : Program) (l : Launch) (e : Env) (R : Room) (s : State) (m : MethodId) (args : Array Value) (below : List Frame) (meth : Method) (c : Code) (H : Heap) (locs : List Loc) (cells slots : Nat) (Q : State → Prop) (g : JFrame) (a : Nat) : Prop :=
  ∀ T : State, T.heap = H → Stand p l e R s m args below meth c T locs cells slots → ∃ t, Steps p.tables e below ((T.setTop g).pushFrame (.throwing a)) t ∧ Q t
/-- the method y is running, from the state s on -/
def exT (y : Nat) (c : Code) : Prop := c.exceptionTable.toList.map (fun h => (h.startPc, h.endPc, h.handlerPc, h.catchType)) = mhnd y
def Ctx (y : Nat) (p : Program) (l : Launch) (R : Room) (s : State) (m : MethodId) (args : Array Value) (meth : Method) (c : Code) (D : va_G) (dA : Nat → ClassId) (A : Nat → Prop) : Prop :=
  (p.tables.exec = Jvm.exec ∧ c.code = mcod y ∧ c.maxLocals = mloc y ∧ s.vm.findClass (mnam y).cls = some m.cls ∧ ∀ w ∈ lw_all, w.before args s = true) ∧ (meth.sig.returnType = mret y ∧ meth.locks = false ∧ meth.name = (mnam y).name ∧ exT y c ∧ l.stackTraces = false) ∧
  KK D dA s ∧ (∀ q, s.heap.size ≤ q → A q) ∧ (mdep y ≤ R.frames ∧ mlcs y ≤ R.locals ∧ mmc y ≤ R.cells ∧ mms y ≤ R.slots)
/-- a static's place, as its word says -/
def ZS (C n d : String) (A : Nat → Prop) (U : State) (H : Heap) : Prop := ∃ (c : ClassId) (k : Class) (i : Nat) (f : Field) (a : Nat) (cell : Cell), U.vm.findClass C = some c ∧ U.fieldFound? C n d = some (c, k, i, f) ∧ f.isStatic = true ∧ k.statics = some a ∧ H[a]? = some cell ∧ cell.vm.isStatics = true ∧ cell.cls = c ∧ f.slot < cell.slots.size ∧ k.staticTypes[f.slot]? = some f.type ∧ ¬ A a
theorem ZS.moved {C n d : String} {A : Nat → Prop} {u U : State} {H : Heap} (hvm : u.vm.Alike U.vm) (h : ZS C n d A u H) : ZS C n d A U H := by
  obtain ⟨c, k, i, f, a, cell, h0, h1, h2, h3, h4, h5, h6, h7, h8, h9⟩ := h
  obtain ⟨k', hi', he⟩ := State.fieldFound?_setVm hvm h1
  exact ⟨c, k', i, f, a, cell, by rw [hvm.findClass]; exact h0, hi', h2, by rw [he]; exact h3, h4, h5, h6, h7, by rw [he]; exact h8, h9⟩
theorem ZS.kept {C n d : String} {A : Nat → Prop} {U : State} {H H1 : Heap} (h : ZS C n d A U H) (hq : ∀ a : Nat, a < H.size → ¬ A a → H1[a]? = H[a]?) : ZS C n d A U H1 := by
  obtain ⟨c, k, i, f, a, cell, h0, h1, h2, h3, h4, h5, h6, h7, h8, h9⟩ := h
  exact ⟨c, k, i, f, a, cell, h0, h1, h2, h3, by rw [hq a (Array.getElem?_eq_some_iff.mp h4).1 h9]; exact h4, h5, h6, h7, h8, h9⟩
theorem ZS.narrow {C n d : String} {A B : Nat → Prop} {U : State} {H : Heap} (h : ZS C n d A U H) (hAB : ∀ q, B q → A q) : ZS C n d B U H := by
  obtain ⟨c, k, i, f, a, cell, h0, h1, h2, h3, h4, h5, h6, h7, h8, h9⟩ := h
  exact ⟨c, k, i, f, a, cell, h0, h1, h2, h3, h4, h5, h6, h7, h8, fun z => h9 (hAB a z)⟩
theorem ZS.word {C n d : String} {A : Nat → Prop} {U : State} {args : Array Value} (h : ZS C n d A U U.heap) : (Cond.laysStatic C n d).before args U = true := by
  obtain ⟨c, k, i, f, a, cell, h0, h1, h2, h3, h4, h5, h6, h7, h8, h9⟩ := h
  simp [Cond.before, Cond.holds, Cond.value, h0, h1, h2, h3, h4, h5, h6, h7, h8]
/-- the objects from outside: the script, two statics of Throwable -/
def Exs (z : Ad) (A : Nat → Prop) (n : (Nat → Int32) × Nat) (U : State) (H : Heap) : Prop :=
  (∃ b, z.1 0 = some b ∧ va_X b n.2 n.1 U H ∧ b < H.size ∧ ¬ A b) ∧ va_Z "java/lang/Throwable" "UNASSIGNED_STACK" "[Ljava/lang/StackTraceElement;" (va_rf (z.1 1)) A U H ∧ va_Z "java/lang/Throwable" "SUPPRESSED_SENTINEL" "Ljava/util/List;" (va_rf (z.1 2)) A U H ∧
  ZS "java/lang/Throwable" "UNASSIGNED_STACK" "[Ljava/lang/StackTraceElement;" A U H ∧ ZS "java/lang/Throwable" "SUPPRESSED_SENTINEL" "Ljava/util/List;" A U H
def EndP (y : Nat) (p : Program) (l : Launch) (e : Env) (R : Room) (s : State) (m : MethodId) (args : Array Value) (below : List Frame) (meth : Method) (c : Code) (D : va_G) (dA : Nat → ClassId) (A : Nat → Prop) (Qf : State → Prop) (z0 : Ad) (nf0 : Nat) (n : (Nat → Int32) × Nat) (Q : Po) : Prop :=
  ∀ (z : Ad) (X : Xs) (H : Heap) (locs : List Loc) (cs sl pc : Nat) (ls : Array Slot), Wo D dA z A X H → agr z0 z nf0 → nf0 ≤ X.1.2.2.1 → X.1.2.2.2 = n → va_S A s.heap H locs → cs ≤ mmc y → sl ≤ mms y →
    (Q (.returned none) X → mret y = none → decode (mcod y) pc = .ok (.return_, 1) → W p l e R s m args below meth c H locs cs sl Qf (F0 m pc ls [])) ∧
    (∀ x : Int32, Q (.returned (some (.int x))) X → (mret y = some .int ∨ mret y = some .boolean) → (mret y = some .boolean → x = 0 ∨ x = 1) → decode (mcod y) pc = .ok (.ireturn, 1) → W p l e R s m args below meth c H locs cs sl Qf (F0 m pc ls [.int x])) ∧
    (∀ x : Int64, Q (.returned (some (.long x))) X → mret y = some .long → decode (mcod y) pc = .ok (.lreturn, 1) → W p l e R s m args below meth c H locs cs sl Qf (F0 m pc ls [.long x])) ∧
    (∀ k : Nat, Q (.returned (some (.ref k))) X → k < X.1.2.2.1 → (∃ n, mret y = some (.object n)) → decode (mcod y) pc = .ok (.areturn, 1) → W p l e R s m args below meth c H locs cs sl Qf (F0 m pc ls [.ref (z.2 k)])) ∧
    (∀ (k : Nat) (st : List Value), Q (.threw k) X → k < X.1.2.2.1 → mhan y = [] → TW p l e R s m args below meth c H locs cs sl Qf (F0 m pc ls st) (z.2 k))
/-- what soundness says of a frame -/
def Snd : RnT := fun y pc L st u X Q => ∀ (p : Program) (l : Launch) (e : Env) (R : Room) (s : State) (m : MethodId) (args : Array Value) (below : List Frame) (meth : Method) (c : Code) (D : va_G) (dA : Nat → ClassId) (A : Nat → Prop) (Qf : State → Prop) (H : Heap) (locs : List Loc) (ls : Array Slot) (z z0 : Ad) (nf0 : Nat),
  Ctx y p l R s m args meth c D dA A → EndP y p l e R s m args below meth c D dA A Qf z0 nf0 X.1.2.2.2 Q → Exs z A X.1.2.2.2 s s.heap → Wo D dA z A X H → agr z0 z nf0 → nf0 ≤ X.1.2.2.1 → va_S A s.heap H locs → hasL z X.1.2.2.1 ls L → okS X.1.2.2.1 st → L.length = mloc y → (u.1 ≤ mmc y ∧ u.2 ≤ mms y) →
  W p l e R s m args below meth c H locs u.1 u.2 Qf (F0 m pc ls (st.map (con z)))
/-! the checks of an op -/
def flkB (own : String) (i a b : Nat) : Bool := flk.any fun q => decide (q.1 = own) && decide (q.2.1 = i) && decide (q.2.2.1 = a) && decide (q.2.2.2.1 = b)
theorem flkB_ok {own : String} {i a b : Nat} (h : flkB own i a b = true) : ∃ r n, flkP (own, i, a, b, r, n) ∧ (own, i, a, b, r, n) ∈ flk := by
  obtain ⟨q, hq, h2⟩ := List.any_eq_true.mp h
  simp only [Bool.and_eq_true, decide_eq_true_eq] at h2
  obtain ⟨⟨⟨h3, h4⟩, h5⟩, h6⟩ := h2
  have h7 := flk_ok q hq
  obtain ⟨q1, q2, q3, q4, q5, q6⟩ := q
  dsimp only at h3 h4 h5 h6
  subst h3; subst h4; subst h5; subst h6
  exact ⟨q5, q6, h7, hq⟩
def cT (ci : Nat) : u_T := (mCl.getD ci ("", cT1, 0)).2.1
/-- every field link: the class and field are there, the reference class finds the declarer's field -/
theorem flk_all : (flk.all fun q => decide (q.2.2.1 < 10) && decide (q.2.2.2.1 < nfd q.2.2.1) && (decide (q.2.2.2.2.1 = (cT q.2.2.1 q.2.2.2.1).1))) = true := by decide +kernel
