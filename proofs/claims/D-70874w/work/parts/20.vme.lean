/-! EXCEPTIONS: the instructions that raise -/
theorem tr_off {l : Launch} {e : Env} (h : l.admits e) (ht : l.stackTraces = false) : e.platform.stackTraces = false := by rw [h.platform]; exact ht
theorem np_snd {y pc : Nat} {L : Lo} {u : Nat × Nat} {X : Xs} {Q : Po} {r : List Value} (hy : y < 170) (h : raiF Snd y pc L u X Q r 11) {p : Program} {l : Launch} {e : Env} {R : Room} {s : State} {m : MethodId} {args : Array Value} {below : List Frame} {meth : Method} {c : Code} {D : va_G} {dA : Nat → ClassId} {A : Nat → Prop} {Qf : State → Prop} {H : Heap} {locs : List Loc} {ls : Array Slot} {z z0 : Ad} {nf0 : Nat}
    (hC : Ctx y p l R s m args meth c D dA A) (hEnd : EndP y p l e R s m args below meth c D dA A Qf z0 nf0 X.1.2.2.2 Q) (hE : Exs z A X.1.2.2.2 s s.heap) (hWo : Wo D dA z A X H) (hag : agr z0 z nf0) (hnf : nf0 ≤ X.1.2.2.1) (hSv : va_S A s.heap H locs) (hl : hasL z X.1.2.2.1 ls L) (hlen : L.length = mloc y)
    {st st0 : List Value} (hw0 : (st0.map fun v => v.category).sum ≤ 9) (hstep : ∀ T : State, T.heap = H → Stand p l e R s m args below meth c T locs u.1 u.2 → ∃ vm', Stand p l e R s m args below meth c (T.setVm vm') locs u.1 u.2 ∧ ∀ tg, Steps p.tables e below (((T.setVm vm').setTop (F0 m pc ls st0)).pushFrame (.throwNew "java/lang/NullPointerException" none none)) tg → Steps p.tables e below (T.setTop (F0 m pc ls st)) tg) : W p l e R s m args below meth c H locs u.1 u.2 Qf (F0 m pc ls st) := by
  intro T hT X0
  obtain ⟨vm', X1, go⟩ := hstep T hT X0
  have hh := h
  obtain ⟨⟨hu1, hu2, hw8⟩, -⟩ := hh
  have hrm := rai_room y hy (Nat.le_trans (Nat.le_add_left _ _) hu1) (Nat.le_trans (Nat.le_add_left _ _) hu2)
  have hR := hC.2.2.2.2
  obtain ⟨hR1, hR2, hR3, hR4⟩ := hR
  unfold exC at hu1
  unfold exS at hu2
  obtain ⟨t, s1, q1⟩ := nte_snd (st0 := st0) (S0 := ((T.setVm vm').setTop (F0 m pc ls st0)).pushFrame (.throwNew "java/lang/NullPointerException" none none)) hy h hC hEnd hE hWo hag hnf hSv hl hlen (by decide) (by decide) (T := T.setVm vm') hT (nte_np X1 hC.1.1 (tr_off X1.admits hC.2.1.2.2.2.2) (fun a ha => atm_b hC hE (atm_npe a ha)) hE (by rw [show (T.setVm vm').heap = H from hT]; exact hSv) rfl (by rw [hC.1.2.2.1]; exact hl.1.trans hlen) (by omega) (by
    show 2 * 0 + (st0.map fun v => v.category).sum + 10240 ≤ R.locals
    omega) (by omega) (by omega))
  exact ⟨t, go t s1, q1⟩
theorem ms_snd {y pc : Nat} {L : Lo} {u : Nat × Nat} {X : Xs} {Q : Po} {r : List Value} (hy : y < 170) {ci : Nat} (h : raiF Snd y pc L u X Q r ci) {p : Program} {l : Launch} {e : Env} {R : Room} {s : State} {m : MethodId} {args : Array Value} {below : List Frame} {meth : Method} {c : Code} {D : va_G} {dA : Nat → ClassId} {A : Nat → Prop} {Qf : State → Prop} {H : Heap} {locs : List Loc} {ls : Array Slot} {z z0 : Ad} {nf0 : Nat}
    (hC : Ctx y p l R s m args meth c D dA A) (hEnd : EndP y p l e R s m args below meth c D dA A Qf z0 nf0 X.1.2.2.2 Q) (hE : Exs z A X.1.2.2.2 s s.heap) (hWo : Wo D dA z A X H) (hag : agr z0 z nf0) (hnf : nf0 ≤ X.1.2.2.1) (hSv : va_S A s.heap H locs) (hl : hasL z X.1.2.2.1 ls L) (hlen : L.length = mloc y)
    {st st0 : List Value} (h10 : 10 ≤ ci) (h15 : ci < 15) {names : List String} (hat : ∀ a ∈ Bundle.messageArmAtoms (cRn ci) names, Atm a) (hfc : Bundle.fit (cRn ci) = true ∧ (∀ n ∈ names, Bundle.fit n = true) ∧ (cRn ci == "java/lang/StackOverflowError") = false ∧ (cRn ci == "java/lang/OutOfMemoryError") = false ∧ names.length ≤ 3)
    (hw0 : (st0.map fun v => v.category).sum ≤ 9) (hstep : ∀ T : State, T.heap = H → Stand p l e R s m args below meth c T locs u.1 u.2 → ∃ vm' text, Stand p l e R s m args below meth c (T.setVm vm') locs u.1 u.2 ∧ (text == notModelled) = false ∧ (stringBytes (stringToUtf16 text)).size ≤ 3400 ∧ ∀ tg, Steps p.tables e below (((T.setVm vm').setTop (F0 m pc ls st0)).pushFrame (.throwNew (cRn ci) (some text) none)) tg → Steps p.tables e below (T.setTop (F0 m pc ls st)) tg) : W p l e R s m args below meth c H locs u.1 u.2 Qf (F0 m pc ls st) := by
  intro T hT X0
  obtain ⟨vm', text, X1, ht1, ht2, go⟩ := hstep T hT X0
  have hh := h
  obtain ⟨⟨hu1, hu2, hw8⟩, -⟩ := hh
  have hrm := rai_room y hy (Nat.le_trans (Nat.le_add_left _ _) hu1) (Nat.le_trans (Nat.le_add_left _ _) hu2)
  have hR := hC.2.2.2.2
  obtain ⟨hR1, hR2, hR3, hR4⟩ := hR
  unfold exC at hu1
  unfold exS at hu2
  obtain ⟨t, s1, q1⟩ := nte_snd (st0 := st0) (S0 := ((T.setVm vm').setTop (F0 m pc ls st0)).pushFrame (.throwNew (cRn ci) (some text) none)) hy h hC hEnd hE hWo hag hnf hSv hl hlen h10 h15 (T := T.setVm vm') hT (nte_ms X1 hC.1.1 (tr_off X1.admits hC.2.1.2.2.2.2) hfc.1 hfc.2.1 hfc.2.2.1 hfc.2.2.2.1 (fun a ha => atm_b hC hE (hat a ha)) hE (by rw [show (T.setVm vm').heap = H from hT]; exact hSv) hfc.2.2.2.2 ht1 ht2 rfl (by rw [hC.1.2.2.1]; exact hl.1.trans hlen) (by omega) (by
    show 2 * 0 + (st0.map fun v => v.category).sum + 10240 ≤ R.locals
    omega) (by omega) (by omega))
  exact ⟨t, go t s1, q1⟩
theorem w_small {z : Ad} {r : List Value} (h : wsum r ≤ 8) : ((r.map (con z)).map fun v => v.category).sum ≤ 9 := by
  rw [wsum_eq]
  omega
theorem fit_13 : Bundle.fit (cRn 13) = true ∧ (∀ n ∈ ["java/lang/IndexOutOfBoundsException", "java/lang/RuntimeException", "java/lang/Exception"], Bundle.fit n = true) ∧ (cRn 13 == "java/lang/StackOverflowError") = false ∧ (cRn 13 == "java/lang/OutOfMemoryError") = false ∧ ["java/lang/IndexOutOfBoundsException", "java/lang/RuntimeException", "java/lang/Exception"].length ≤ 3 := by decide +kernel
theorem fit_10 : Bundle.fit (cRn 10) = true ∧ (∀ n ∈ ["java/lang/RuntimeException", "java/lang/Exception"], Bundle.fit n = true) ∧ (cRn 10 == "java/lang/StackOverflowError") = false ∧ (cRn 10 == "java/lang/OutOfMemoryError") = false ∧ ["java/lang/RuntimeException", "java/lang/Exception"].length ≤ 3 := by decide +kernel
theorem fit_12 : Bundle.fit (cRn 12) = true ∧ (∀ n ∈ ["java/lang/RuntimeException", "java/lang/Exception"], Bundle.fit n = true) ∧ (cRn 12 == "java/lang/StackOverflowError") = false ∧ (cRn 12 == "java/lang/OutOfMemoryError") = false ∧ ["java/lang/RuntimeException", "java/lang/Exception"].length ≤ 3 := by decide +kernel
/-- a store to null -/
theorem sN_snd {y pc : Nat} {L : Lo} {u : Nat × Nat} {X : Xs} {Q : Po} {r : List Value} (hy : y < 170) (h : raiF Snd y pc L u X Q r 11) {p : Program} {l : Launch} {e : Env} {R : Room} {s : State} {m : MethodId} {args : Array Value} {below : List Frame} {meth : Method} {c : Code} {D : va_G} {dA : Nat → ClassId} {A : Nat → Prop} {Qf : State → Prop} {H : Heap} {locs : List Loc} {ls : Array Slot} {z z0 : Ad} {nf0 : Nat}
    (hC : Ctx y p l R s m args meth c D dA A) (hEnd : EndP y p l e R s m args below meth c D dA A Qf z0 nf0 X.1.2.2.2 Q) (hE : Exs z A X.1.2.2.2 s s.heap) (hWo : Wo D dA z A X H) (hag : agr z0 z nf0) (hnf : nf0 ≤ X.1.2.2.1) (hSv : va_S A s.heap H locs) (hl : hasL z X.1.2.2.1 ls L) (hlen : L.length = mloc y)
    {a : Nat} {ins : Instr} (hd : decode (mcod y) pc = .ok (ins, 1)) (hs : sdB ins a = true) {v : Value} (hv : (a ≠ 1 ∧ a < 5 ∧ ∃ x, v = .int x) ∨ (a = 1 ∧ ∃ x, v = .long x)) {i : Int32} : W p l e R s m args below meth c H locs u.1 u.2 Qf (F0 m pc ls (v :: .int i :: .null :: r.map (con z))) := by
  refine np_snd hy h hC hEnd hE hWo hag hnf hSv hl hlen (st0 := r.map (con z)) (w_small h.1.2.2) (fun T hT X0 => ⟨T.vm, X0, ?_⟩)
  have hb : decode c.code (F0 m pc ls (v :: .int i :: .null :: r.map (con z))).pc = .ok (ins, 1) := by rw [hC.1.2.1]; exact hd
  have hx := hC.1.1
  unfold sdB at hs
  split at hs
  · have e : a = 0 := by simpa using hs
    rcases hv with ⟨-, -, x, rfl⟩ | ⟨h1, -⟩
    · exact X0.iastoreNull hx (g := F0 m pc ls (.int x :: .int i :: .null :: r.map (con z))) rfl rfl hb
    · omega
  · have e : a = 1 := by simpa using hs
    rcases hv with ⟨h1, -⟩ | ⟨-, x, rfl⟩
    · omega
    · exact X0.lastoreNull hx (g := F0 m pc ls (.long x :: .int i :: .null :: r.map (con z))) rfl rfl hb
  · have e : a = 2 := by simpa using hs
    rcases hv with ⟨-, -, x, rfl⟩ | ⟨h1, -⟩
    · exact X0.castoreNull hx (g := F0 m pc ls (.int x :: .int i :: .null :: r.map (con z))) rfl rfl hb
    · omega
  · have e : a = 3 := by simpa using hs
    rcases hv with ⟨-, -, x, rfl⟩ | ⟨h1, -⟩
    · exact X0.bastoreNull hx (g := F0 m pc ls (.int x :: .int i :: .null :: r.map (con z))) rfl rfl hb
    · omega
  · have e : a = 4 := by simpa using hs
    rcases hv with ⟨-, -, x, rfl⟩ | ⟨h1, -⟩
    · exact X0.sastoreNull hx (g := F0 m pc ls (.int x :: .int i :: .null :: r.map (con z))) rfl rfl hb
    · omega
  · have e : a = 5 := by simpa using hs
    omega
  · cases hs
theorem arr_sz {D : va_G} {dA : Nat → ClassId} {z : Ad} {A : Nat → Prop} {X : Xs} {H : Heap} {s : State} {t n k : Nat} (hWo : Wo D dA z A X H) (hK : KK D dA s) (ht : t < 5) (hS : X.1.1 k = some (.inr (t, n))) : ∃ cell : Cell, H[z.2 k]? = some cell ∧ s.isArrayOf cell (aty t) ∧ cell.slots.size = n ∧ cell.vm.isStatics = false ∧ cell.vm ≠ .unknown := by
  have hc := hWo.2.1 k _ (wl_arr (dA := dA) (z := z) hWo.1 hS)
  have h1 := (hK.1.2 t _ (tyL_at (by omega))).1
  rcases (show t = 0 ∨ t = 1 ∨ t = 2 ∨ t = 3 ∨ t = 4 by omega) with rfl | rfl | rfl | rfl | rfl <;> exact ⟨_, hc, h1 n _, arrV_size _ _ _, rfl, fun q => by cases q⟩
/-- a store beyond the array -/
theorem sO_snd {y pc : Nat} {L : Lo} {u : Nat × Nat} {X : Xs} {Q : Po} {r : List Value} (hy : y < 170) (h : raiF Snd y pc L u X Q r 13) {p : Program} {l : Launch} {e : Env} {R : Room} {s : State} {m : MethodId} {args : Array Value} {below : List Frame} {meth : Method} {c : Code} {D : va_G} {dA : Nat → ClassId} {A : Nat → Prop} {Qf : State → Prop} {H : Heap} {locs : List Loc} {ls : Array Slot} {z z0 : Ad} {nf0 : Nat}
    (hC : Ctx y p l R s m args meth c D dA A) (hEnd : EndP y p l e R s m args below meth c D dA A Qf z0 nf0 X.1.2.2.2 Q) (hE : Exs z A X.1.2.2.2 s s.heap) (hWo : Wo D dA z A X H) (hag : agr z0 z nf0) (hnf : nf0 ≤ X.1.2.2.1) (hSv : va_S A s.heap H locs) (hl : hasL z X.1.2.2.1 ls L) (hlen : L.length = mloc y)
    {a k n : Nat} {ins : Instr} (hd : decode (mcod y) pc = .ok (ins, 1)) (hs : sdB ins a = true) {v : Value} (hv : (a ≠ 1 ∧ a < 5 ∧ ∃ x, v = .int x) ∨ (a = 1 ∧ ∃ x, v = .long x)) {i : Int32} (hS : X.1.1 k = some (.inr (a, n))) (hi : ¬ vp_in i n) (hn : n ≤ 1000) : W p l e R s m args below meth c H locs u.1 u.2 Qf (F0 m pc ls (v :: .int i :: .ref (z.2 k) :: r.map (con z))) := by
  have ha : a < 5 := by rcases hv with ⟨-, h1, -⟩ | ⟨h1, -⟩ <;> omega
  obtain ⟨cell, hcell, harr, hsz, -⟩ := arr_sz hWo hC.2.2.1 ha hS
  have hn31 : n < 2 ^ 31 := by omega
  refine ms_snd hy h hC hEnd hE hWo hag hnf hSv hl hlen (st0 := r.map (con z)) (by decide) (by decide) atm_13 fit_13 (w_small h.1.2.2) (fun T hT X0 => ⟨T.vm, _, X0, index_text_modelled i cell.slots.size, by
    have := index_text_bytes i (n := cell.slots.size) (by rw [hsz]; exact hn31)
    omega, ?_⟩)
  have hout : i < 0 ∨ cell.slots.size ≤ i.toNatClampNeg := by
    rw [hsz]
    exact Classical.byContradiction (fun q => hi q)
  rw [← hT] at hcell
  have hb : decode c.code (F0 m pc ls (v :: .int i :: .ref (z.2 k) :: r.map (con z))).pc = .ok (ins, 1) := by rw [hC.1.2.1]; exact hd
  have hx := hC.1.1
  unfold sdB at hs
  split at hs
  · have e : a = 0 := by simpa using hs
    rcases hv with ⟨-, -, x, rfl⟩ | ⟨h1, -⟩
    · exact X0.iastoreOut hx hcell harr hout (g := F0 m pc ls (.int x :: .int i :: .ref (z.2 k) :: r.map (con z))) rfl rfl hb
    · omega
  · have e : a = 1 := by simpa using hs
    rcases hv with ⟨h1, -⟩ | ⟨-, x, rfl⟩
    · omega
    · exact X0.lastoreOut hx hcell harr hout (g := F0 m pc ls (.long x :: .int i :: .ref (z.2 k) :: r.map (con z))) rfl rfl hb
  · have e : a = 2 := by simpa using hs
    rcases hv with ⟨-, -, x, rfl⟩ | ⟨h1, -⟩
    · exact X0.castoreOut hx hcell harr hout (g := F0 m pc ls (.int x :: .int i :: .ref (z.2 k) :: r.map (con z))) rfl rfl hb
    · omega
  · have e : a = 3 := by simpa using hs
    rcases hv with ⟨-, -, x, rfl⟩ | ⟨h1, -⟩
    · exact X0.bastoreOut hx hcell harr hout (g := F0 m pc ls (.int x :: .int i :: .ref (z.2 k) :: r.map (con z))) rfl rfl hb
    · omega
  · have e : a = 4 := by simpa using hs
    rcases hv with ⟨-, -, x, rfl⟩ | ⟨h1, -⟩
    · exact X0.sastoreOut hx hcell harr hout (g := F0 m pc ls (.int x :: .int i :: .ref (z.2 k) :: r.map (con z))) rfl rfl hb
    · omega
  · have e : a = 5 := by simpa using hs
    omega
  · cases hs
/-- an array of negative size -/
theorem nA_snd {y pc : Nat} {L : Lo} {u : Nat × Nat} {X : Xs} {Q : Po} {r : List Value} (hy : y < 170) (h : raiF Snd y pc L u X Q r 10) {p : Program} {l : Launch} {e : Env} {R : Room} {s : State} {m : MethodId} {args : Array Value} {below : List Frame} {meth : Method} {c : Code} {D : va_G} {dA : Nat → ClassId} {A : Nat → Prop} {Qf : State → Prop} {H : Heap} {locs : List Loc} {ls : Array Slot} {z z0 : Ad} {nf0 : Nat}
    (hC : Ctx y p l R s m args meth c D dA A) (hEnd : EndP y p l e R s m args below meth c D dA A Qf z0 nf0 X.1.2.2.2 Q) (hE : Exs z A X.1.2.2.2 s s.heap) (hWo : Wo D dA z A X H) (hag : agr z0 z nf0) (hnf : nf0 ≤ X.1.2.2.1) (hSv : va_S A s.heap H locs) (hl : hasL z X.1.2.2.1 ls L) (hlen : L.length = mloc y)
    {n : Int32} (hn : n < 0) {at_ : ArrayType} (hd : decode (mcod y) pc = .ok (.newarray at_, 2)) : W p l e R s m args below meth c H locs u.1 u.2 Qf (F0 m pc ls (.int n :: r.map (con z))) := by
  refine ms_snd hy h hC hEnd hE hWo hag hnf hSv hl hlen (st0 := r.map (con z)) (by decide) (by decide) atm_10 fit_10 (w_small h.1.2.2) (fun T hT X0 => ⟨T.vm, toString n, X0, negative_text_modelled hn, by
    have := negative_text_bytes n
    omega, ?_⟩)
  exact X0.newarrayNegative hC.1.1 (g := F0 m pc ls (.int n :: r.map (con z))) rfl hn rfl (by rw [hC.1.2.1]; exact hd)
