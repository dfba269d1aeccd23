/-! soundness: the kinds of calls -/
def npar (a : Nat) : Nat := ((parseMethodDescriptor (mnam a).desc).map fun d => d.parameters.length).getD 0
theorem par_all : ∀ a, a < 170 → ((mnam a).cls ≠ "java/lang/invoke/MethodHandle" ∧ (mnam a).cls ≠ "java/lang/invoke/VarHandle" ∧ (parseMethodDescriptor (mnam a).desc).map (fun d => d.parameters.length) = some (npar a)) ∧ plainFor (mnam a) = true ∧ mloc a ≤ 41 := by decide +kernel
def clkB (own : String) (i a k : Nat) : Bool := clk.any fun q => decide (q = (own, i, a, k))
theorem clkB_ok {own : String} {i a k : Nat} (h : clkB own i a k = true) : clkP (own, i, a, k) := by
  obtain ⟨q, hq, h2⟩ := List.any_eq_true.mp h
  rw [decide_eq_true_eq] at h2
  subst h2
  exact clk_ok _ hq
theorem Exs.same {z : Ad} {A : Nat → Prop} {n : (Nat → Int32) × Nat} {U U' : State} {H : Heap} (hv : U.vm.Alike U'.vm) (h : Exs z A n U H) : Exs z A n U' H := by
  obtain ⟨⟨b, h0, h1, h2, h3⟩, h4, h5, h6, h7⟩ := h
  exact ⟨⟨b, h0, h1.moved hv, h2, h3⟩, h4.moved hv, h5.moved hv, h6.moved hv, h7.moved hv⟩
theorem Exs.call {z : Ad} {A B : Nat → Prop} {n : (Nat → Int32) × Nat} {s U : State} {H : Heap} {locs : List Loc} (h : Exs z A n s s.heap) (hS : va_S A s.heap H locs) (hBA : ∀ q, B q → A q) (hv : s.vm.Alike U.vm) : Exs z B n U H := by
  obtain ⟨⟨b, h0, h1, h2, h3⟩, h4, h5, h6, h7⟩ := h
  exact ⟨⟨b, h0, (h1.kept (hS.2.1 _ h2 h3)).moved hv, Nat.lt_of_lt_of_le h2 hS.1, fun q => h3 (hBA _ q)⟩, ((h4.kept (fun a h1 h2 => hS.2.1 a h1 h2)).narrow hBA).moved hv, ((h5.kept (fun a h1 h2 => hS.2.1 a h1 h2)).narrow hBA).moved hv, ((h6.kept (fun a h1 h2 => hS.2.1 a h1 h2)).narrow hBA).moved hv, ((h7.kept (fun a h1 h2 => hS.2.1 a h1 h2)).narrow hBA).moved hv⟩
theorem PcP_blind {D : va_G} {dA : Nat → ClassId} {z : Ad} {X : Xs} {vs : List Value} {sz : Nat} : FrameBlind (PcP D dA z X vs sz) := by
  intro a U g mk h
  obtain ⟨h0, h1, h2, h3, h4⟩ := h
  exact ⟨h0, h1, h2, KK.same (s := U) (U := U.calling g mk a) rfl h3, Exs.same (U := U) (U' := U.calling g mk a) (Vm.Alike.refl U.vm) h4⟩
section Runs
variable {p : Program} {l : Launch} {e : Env} {R : Room} {s : State} {m : MethodId} {args : Array Value} {below : List Frame} {meth : Method} {c : Code} {H : Heap} {locs : List Loc} {cells slots : Nat} {Qf : State → Prop} {D : va_G} {dA : Nat → ClassId} {A : Nat → Prop} {y : Nat} {X : Xs} {z : Ad}
theorem A_sub (hWo : Wo D dA z A X H) (hA : ∀ q, s.heap.size ≤ q → A q) (hSv : va_S A s.heap H locs) : ∀ q, va_A (wl dA z X) H.size q → A q := by
  intro q h
  rcases h with ⟨k, x, h⟩ | h
  · exact hWo.2.2.2 k (q, x) h
  · exact hA q (Nat.le_trans hSv.1 h)
theorem PcP_at {vs : List Value} (hC : Ctx y p l R s m args meth c D dA A) (hE : Exs z A X.1.2.2.2 s s.heap) (hWo : Wo D dA z A X H) (hSv : va_S A s.heap H locs) : ∀ U : State, U.heap = H → s.WarmedH U.vm → PcP D dA z X vs H.size (vs.map (con z)).toArray U := by
  intro U hU hW
  obtain ⟨-, -, hK, hA, -⟩ := hC
  refine ⟨rfl, by rw [hU], by rw [hU]; exact hWo.weak (fun _ _ => trivial), hK.warm hW, ?_⟩
  rw [hU]
  exact hE.call hSv (A_sub hWo hA hSv) hW.alike
theorem run_snd {st0 rest : List Value} {mc ms pc : Nat} {ls : Array Slot} {Q : Po} {av : Array Value} (hr : va_Run p l e R s m args below meth c H locs cells slots mc ms (F0 m pc ls st0) rest (QcP D dA z X H.size Q av) (va_A (wl dA z X) H.size)) (hSv : va_S A s.heap H locs) (hWo : Wo D dA z A X H) (hA : ∀ q, s.heap.size ≤ q → A q)
    (kk : ∀ (v : Option Value) (X' : Xs) (z' : Ad) (H1 : Heap) (locs1 : List Loc), Q (.returned v) X' → (∀ w, v = some w → vok X'.1.2.2.1 w) → agr z z' X.1.2.2.1 → X.1.2.2.1 ≤ X'.1.2.2.1 → X'.1.2.2.2 = X.1.2.2.2 → Wo D dA z' A X' H1 → va_S A s.heap H1 locs1 → W p l e R s m args below meth c H1 locs1 (cells + mc) (slots + ms) Qf (F0 m (pc + 3) ls ((v.map (con z')).toList ++ rest))) : W p l e R s m args below meth c H locs cells slots Qf (F0 m pc ls st0) := by
  have hsub := A_sub hWo hA hSv
  intro T hT X0
  obtain ⟨v, st₀, t, T', L, h0, X', hL, e1, e2, ⟨⟨v', X1, z', hq, hv, hw, hag, hnf, hsc, hWo1⟩, hz, hk⟩, st⟩ := hr T hT X0
  cases hv
  rw [h0] at hz hk
  have hS1 : va_S A s.heap T'.heap (locs ++ L) := ⟨Nat.le_trans hSv.1 (by rw [e1]; exact hz), fun q h1 h2 => by rw [e1, hk q (Nat.lt_of_lt_of_le h1 hSv.1) (fun w => h2 (hsub q w))]; exact hSv.2.1 q h1 h2, fun q hq => by
      rcases List.mem_append.mp hq with h | h
      · exact hSv.2.2 q h
      · exact hsub _ (hL q h)⟩
  obtain ⟨t2, a1, b1⟩ := kk v' X1 z' T'.heap (locs ++ L) hq hw hag hnf hsc (by rw [e1]; exact hWo1.weak hsub) hS1 T' rfl X'
  exact ⟨t2, st t2 a1, b1⟩
theorem rom_fit {a : Nat} (hC : Ctx y p l R s m args meth c D dA A) (ha : a < 170) (hdep : mdep a < mdep y ∧ mlcs a + 60 ≤ mlcs y) : (rom a).frames + 1 ≤ R.frames ∧ 8 + (mloc a + 11) + (rom a).locals ≤ R.locals := by
  obtain ⟨-, -, -, -, hR1, hR2, -⟩ := hC
  have h41 := (par_all a ha).2.2
  refine ⟨?_, ?_⟩
  · show mdep a + 1 ≤ R.frames
    omega
  · show 8 + (mloc a + 11) + mlcs a ≤ R.locals
    omega
theorem mon_w {rest : List Value} {pc : Nat} {ls : Array Slot} {st0 : List Value} (h : wsum rest ≤ 8) : 2 * (F0 m pc ls st0).monitorRoom + ((rest.map (con z)).map fun v => v.category).sum ≤ 8 := by
  show 2 * 0 + _ ≤ 8
  rw [wsum_eq]
  omega
/-- a call through an object: its method is the class's own -/
theorem cV_snd {a idx pc k : Nat} {pre rest : List Value} {ls : Array Slot} {Q : Po} (hC : Ctx y p l R s m args meth c D dA A) (hE : Exs z A X.1.2.2.2 s s.heap) (hWo : Wo D dA z A X H) (hSv : va_S A s.heap H locs) (ha : a < 170) (hls : ls.size = mloc y) (hd : decode (mcod y) pc = .ok (.invokevirtual idx, 3)) (hl : clkB (mnam y).cls idx a 0 = true) (hdep : mdep a < mdep y ∧ mlcs a + 60 ≤ mlcs y) (hh0 : mhnd a = []) (hp : pre.length = npar a)
    {ci : Nat} (hci : ci < 15) (hcn : cRn ci = (mnam a).cls) (hS : X.1.1 k = some (.inl ci)) (hw8 : wsum rest ≤ 8) (hcl : cells + mmc a ≤ R.cells) (hsl : slots + mms a ≤ R.slots) (hM : Snd a 0 (entL (mloc a) (.ref k :: pre.reverse)) [] (0, 0) X Q) (hnt : ∀ k X', ¬ Q (.threw k) X') (hok : okS X.1.2.2.1 (.ref k :: pre.reverse)) (hlen : (sl (.ref k :: pre.reverse)).length ≤ mloc a)
    (kk : ∀ (v : Option Value) (X' : Xs) (z' : Ad) (H1 : Heap) (locs1 : List Loc), Q (.returned v) X' → (∀ w, v = some w → vok X'.1.2.2.1 w) → agr z z' X.1.2.2.1 → X.1.2.2.1 ≤ X'.1.2.2.1 → X'.1.2.2.2 = X.1.2.2.2 → Wo D dA z' A X' H1 → va_S A s.heap H1 locs1 → W p l e R s m args below meth c H1 locs1 (cells + mmc a) (slots + mms a) Qf (F0 m (pc + 3) ls ((v.map (con z')).toList ++ rest.map (con z)))) : W p l e R s m args below meth c H locs cells slots Qf (F0 m pc ls ((pre ++ .ref k :: rest).map (con z))) := by
  have hpar := par_all a ha
  have hrm := rom_fit hC ha hdep
  have hCC := hC
  obtain ⟨⟨hx, hb, hml, hown, hts⟩, -, hK, hA, -⟩ := hCC
  have hg : GoodIn lw_all (wsV (mnam y).cls idx (mnam a).cls (mnam a) (ws_ (mnam a) (mcod a) (mloc a) (mret a))) := clkB_ok hl
  have hst : (pre ++ .ref k :: rest).map (con z) = ((pre.reverse).map (con z)).reverse ++ Value.ref (z.2 k) :: rest.map (con z) := by simp [con]
  refine run_snd (va_runV (As := (pre.reverse).map (con z)) (rest := rest.map (con z)) (b := z.2 k) (C := (mnam a).cls) ⟨hx, hb, hml, hown, hts⟩ (met_snd (l := l) (sz := H.size) hC.2.1.2.2.2.2 hM hh0 hpar.2.1 hnt hok hlen) (cwV (npar a) hts hg rfl rfl rfl ⟨rfl, hpar.1⟩ hrm) ⟨PcP_blind, ?_, PcP_at hC hE hWo hSv⟩ rfl (by simp [hp]) hls hst (mon_w hw8) hd ⟨hcl, hsl⟩) hSv hWo hA kk
  have := va_recv hK.1 hWo.2.1 (mCl_at ci hci) (wl_obj (dA := dA) (z := z) hWo.1 hS)
  rw [← hcn]
  exact this
theorem cS_snd {a idx pc : Nat} {pre rest : List Value} {ls : Array Slot} {Q : Po} (hC : Ctx y p l R s m args meth c D dA A) (hE : Exs z A X.1.2.2.2 s s.heap) (hWo : Wo D dA z A X H) (hSv : va_S A s.heap H locs) (ha : a < 170) (hls : ls.size = mloc y) (hd : decode (mcod y) pc = .ok (.invokestatic idx, 3)) (hl : clkB (mnam y).cls idx a 2 = true) (hdep : mdep a < mdep y ∧ mlcs a + 60 ≤ mlcs y) (hh0 : mhnd a = []) (hp : pre.length = npar a)
    (hw8 : wsum rest ≤ 8) (hcl : cells + mmc a ≤ R.cells) (hsl : slots + mms a ≤ R.slots) (hM : Snd a 0 (entL (mloc a) pre.reverse) [] (0, 0) X Q) (hnt : ∀ k X', ¬ Q (.threw k) X') (hok : okS X.1.2.2.1 pre.reverse) (hlen : (sl pre.reverse).length ≤ mloc a)
    (kk : ∀ (v : Option Value) (X' : Xs) (z' : Ad) (H1 : Heap) (locs1 : List Loc), Q (.returned v) X' → (∀ w, v = some w → vok X'.1.2.2.1 w) → agr z z' X.1.2.2.1 → X.1.2.2.1 ≤ X'.1.2.2.1 → X'.1.2.2.2 = X.1.2.2.2 → Wo D dA z' A X' H1 → va_S A s.heap H1 locs1 → W p l e R s m args below meth c H1 locs1 (cells + mmc a) (slots + mms a) Qf (F0 m (pc + 3) ls ((v.map (con z')).toList ++ rest.map (con z)))) : W p l e R s m args below meth c H locs cells slots Qf (F0 m pc ls ((pre ++ rest).map (con z))) := by
  have hpar := par_all a ha
  have hrm := rom_fit hC ha hdep
  have hCC := hC
  obtain ⟨⟨hx, hb, hml, hown, hts⟩, -, hK, hA, -⟩ := hCC
  have hg : GoodIn lw_all (va_wsS (mnam y).cls idx (mnam a) (ws_ (mnam a) (mcod a) (mloc a) (mret a))) := clkB_ok hl
  have hst : (pre ++ rest).map (con z) = ((pre.reverse).map (con z)).reverse ++ rest.map (con z) := by simp
  exact run_snd (va_runS (As := (pre.reverse).map (con z)) (rest := rest.map (con z)) ⟨hx, hb, hml, hown, hts⟩ (met_snd (l := l) (sz := H.size) hC.2.1.2.2.2.2 hM hh0 hpar.2.1 hnt hok hlen) (va_cwS (npar a) hts hg rfl rfl rfl hpar.1 hrm) ⟨PcP_blind, PcP_at hC hE hWo hSv⟩ rfl (by simp [hp]) hls hst (mon_w hw8) hd ⟨hcl, hsl⟩) hSv hWo hA kk
theorem cI_snd {a idx pc k : Nat} {pre rest : List Value} {ls : Array Slot} {Q : Po} (hC : Ctx y p l R s m args meth c D dA A) (hE : Exs z A X.1.2.2.2 s s.heap) (hWo : Wo D dA z A X H) (hSv : va_S A s.heap H locs) (ha : a < 170) (hls : ls.size = mloc y) (hd : decode (mcod y) pc = .ok (.invokespecial idx, 3)) (hl : clkB (mnam y).cls idx a 3 = true ∨ clkB (mnam y).cls idx a 4 = true) (hdep : mdep a < mdep y ∧ mlcs a + 60 ≤ mlcs y) (hh0 : mhnd a = []) (hp : pre.length = npar a)
    (hw8 : wsum rest ≤ 8) (hcl : cells + mmc a ≤ R.cells) (hsl : slots + mms a ≤ R.slots) (hM : Snd a 0 (entL (mloc a) (.ref k :: pre.reverse)) [] (0, 0) X Q) (hnt : ∀ k X', ¬ Q (.threw k) X') (hok : okS X.1.2.2.1 (.ref k :: pre.reverse)) (hlen : (sl (.ref k :: pre.reverse)).length ≤ mloc a)
    (kk : ∀ (v : Option Value) (X' : Xs) (z' : Ad) (H1 : Heap) (locs1 : List Loc), Q (.returned v) X' → (∀ w, v = some w → vok X'.1.2.2.1 w) → agr z z' X.1.2.2.1 → X.1.2.2.1 ≤ X'.1.2.2.1 → X'.1.2.2.2 = X.1.2.2.2 → Wo D dA z' A X' H1 → va_S A s.heap H1 locs1 → W p l e R s m args below meth c H1 locs1 (cells + mmc a) (slots + mms a) Qf (F0 m (pc + 3) ls ((v.map (con z')).toList ++ rest.map (con z)))) : W p l e R s m args below meth c H locs cells slots Qf (F0 m pc ls ((pre ++ .ref k :: rest).map (con z))) := by
  have hpar := par_all a ha
  have hrm := rom_fit hC ha hdep
  have hCC := hC
  obtain ⟨⟨hx, hb, hml, hown, hts⟩, -, hK, hA, -⟩ := hCC
  have hst : (pre ++ .ref k :: rest).map (con z) = ((pre.reverse).map (con z)).reverse ++ Value.ref (z.2 k) :: rest.map (con z) := by simp [con]
  have hm := met_snd (l := l) (D := D) (dA := dA) (z := z) (sz := H.size) hC.2.1.2.2.2.2 hM hh0 hpar.2.1 hnt hok hlen
  rcases hl with hl | hl
  · obtain ⟨hg1, hg2, hg3, hg4, hg5, hg6⟩ := clkB_ok hl
    rw [hg6] at hm
    exact run_snd (va_runI (As := (pre.reverse).map (con z)) (rest := rest.map (con z)) (b := z.2 k) ⟨hx, hb, hml, hown, hts⟩ hm (cwI (npar a) hts hg1 rfl rfl rfl (hts _ hg2) (hts _ hg3) (hts _ hg4) hg5 hpar.1 hrm) ⟨PcP_blind, PcP_at hC hE hWo hSv⟩ rfl (by simp [hp]) hls hst (mon_w hw8) hd ⟨hcl, hsl⟩) hSv hWo hA kk
  · obtain ⟨hg1, hg2, hg3, hg4, hg5, hg6⟩ := clkB_ok hl
    rw [hg6] at hm
    exact run_snd (va_runIN (As := (pre.reverse).map (con z)) (rest := rest.map (con z)) (b := z.2 k) ⟨hx, hb, hml, hown, hts⟩ hm ⟨va_cnB (npar a) hts hg1 rfl rfl rfl (hK.2.1 _ hg3 rfl) (hts _ hg2) hpar.1 hrm, hg5, hts _ hg4⟩ ⟨PcP_blind, PcP_at hC hE hWo hSv⟩ rfl (by simp [hp]) hls hst (mon_w hw8) hd ⟨hcl, hsl⟩) hSv hWo hA kk
theorem cU_snd {a idx pc k : Nat} {pre rest : List Value} {ls : Array Slot} {Q : Po} (hC : Ctx y p l R s m args meth c D dA A) (hE : Exs z A X.1.2.2.2 s s.heap) (hWo : Wo D dA z A X H) (hSv : va_S A s.heap H locs) (ha : a < 170) (hls : ls.size = mloc y) (hd : decode (mcod y) pc = .ok (.invokespecial idx, 3)) (hl : clkB (mnam y).cls idx a 5 = true) (hdep : mdep a < mdep y ∧ mlcs a + 60 ≤ mlcs y) (hh0 : mhnd a = []) (hp : pre.length = npar a)
    {ci : Nat} (hci : ci < 15) (hS : X.1.1 k = some (.inl ci)) (hw8 : wsum rest ≤ 8) (hcl : cells + mmc a ≤ R.cells) (hsl : slots + mms a ≤ R.slots) (hM : Snd a 0 (entL (mloc a) (.ref k :: pre.reverse)) [] (0, 0) X Q) (hnt : ∀ k X', ¬ Q (.threw k) X') (hok : okS X.1.2.2.1 (.ref k :: pre.reverse)) (hlen : (sl (.ref k :: pre.reverse)).length ≤ mloc a)
    (kk : ∀ (v : Option Value) (X' : Xs) (z' : Ad) (H1 : Heap) (locs1 : List Loc), Q (.returned v) X' → (∀ w, v = some w → vok X'.1.2.2.1 w) → agr z z' X.1.2.2.1 → X.1.2.2.1 ≤ X'.1.2.2.1 → X'.1.2.2.2 = X.1.2.2.2 → Wo D dA z' A X' H1 → va_S A s.heap H1 locs1 → W p l e R s m args below meth c H1 locs1 (cells + mmc a) (slots + mms a) Qf (F0 m (pc + 3) ls ((v.map (con z')).toList ++ rest.map (con z)))) : W p l e R s m args below meth c H locs cells slots Qf (F0 m pc ls ((pre ++ .ref k :: rest).map (con z))) := by
  have hpar := par_all a ha
  have hrm := rom_fit hC ha hdep
  have hCC := hC
  obtain ⟨⟨hx, hb, hml, hown, hts⟩, -, hK, hA, -⟩ := hCC
  obtain ⟨hg, hno⟩ := clkB_ok hl
  have hrv := va_recv hK.1 hWo.2.1 (mCl_at ci hci) (wl_obj (dA := dA) (z := z) hWo.1 hS)
  have hst : (pre ++ .ref k :: rest).map (con z) = ((pre.reverse).map (con z)).reverse ++ Value.ref (z.2 k) :: rest.map (con z) := by simp [con]
  exact run_snd (va_runSU (As := (pre.reverse).map (con z)) (rest := rest.map (con z)) (b := z.2 k) (C := cRn ci) (hK.1.1 ci _ (mCl_at ci hci)).2 ⟨hx, hb, hml, hown, hts⟩ (met_snd (l := l) (sz := H.size) hC.2.1.2.2.2.2 hM hh0 hpar.2.1 hnt hok hlen) (va_cwSU (npar a) hts hg rfl rfl rfl ⟨hno, hpar.1.2.2⟩ hrm) ⟨PcP_blind, hrv, PcP_at hC hE hWo hSv⟩ rfl (by simp [hp]) hls hst (mon_w hw8) hd ⟨hcl, hsl⟩) hSv hWo hA kk
end Runs
