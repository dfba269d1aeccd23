/-! soundness: the one call that chooses its method by the object's class; calls of methods with handlers -/
def yPl : MethodName := ⟨"LateJudge$Plain", "years", "(II)I"⟩
/-- the method of a kind's class -/
def yOf (ci : Nat) : Nat := ([0, 70, 72, 74, 76, 78] : List Nat).getD ci 0
theorem dis_all : ∀ ci, 1 ≤ ci → ci ≤ 5 → GoodIn lw_all (va_wsO "LateJudge" 240 (cRn ci) "LateJudge$Plain" yPl (mnam (yOf ci)) (ws_ (mnam (yOf ci)) (mcod (yOf ci)) (mloc (yOf ci)) (mret (yOf ci)))) := by
  intro ci h1 h2
  rcases (show ci = 1 ∨ ci = 2 ∨ ci = 3 ∨ ci = 4 ∨ ci = 5 by omega) with rfl | rfl | rfl | rfl | rfl
  · exact lw_app (fun w h => by simp only [List.mem_cons, List.not_mem_nil, or_false] at h; rcases h with e | e | e | e | e | e; rw [e]; exact (lw_g (lw_at lw_m2 220 rfl) rfl); rw [e]; exact (lw_g (lw_at lw_m2 223 rfl) rfl); rw [e]; exact (lw_g (lw_at lw_m2 221 rfl) rfl); rw [e]; exact (lw_g (lw_at lw_m2 222 rfl) rfl); rw [e]; exact (lw_g (lw_at lw_m2 221 rfl) rfl); rw [e]; exact (lw_g (lw_at lw_m1 2 rfl) rfl)) (lw_meth (lw_g (lw_at lw_m2 239 rfl) rfl))
  · exact lw_app (fun w h => by simp only [List.mem_cons, List.not_mem_nil, or_false] at h; rcases h with e | e | e | e | e | e; rw [e]; exact (lw_g (lw_at lw_m2 220 rfl) rfl); rw [e]; exact (lw_g (lw_at lw_m2 223 rfl) rfl); rw [e]; exact (lw_g (lw_at lw_m2 221 rfl) rfl); rw [e]; exact (lw_g (lw_at lw_m2 234 rfl) rfl); rw [e]; exact (lw_g (lw_at lw_m2 235 rfl) rfl); rw [e]; exact (lw_g (lw_at lw_m1 3 rfl) rfl)) (lw_meth (lw_g (lw_at lw_m2 236 rfl) rfl))
  · exact lw_app (fun w h => by simp only [List.mem_cons, List.not_mem_nil, or_false] at h; rcases h with e | e | e | e | e | e; rw [e]; exact (lw_g (lw_at lw_m2 220 rfl) rfl); rw [e]; exact (lw_g (lw_at lw_m2 223 rfl) rfl); rw [e]; exact (lw_g (lw_at lw_m2 221 rfl) rfl); rw [e]; exact (lw_g (lw_at lw_m2 238 rfl) rfl); rw [e]; exact (lw_g (lw_at lw_m2 231 rfl) rfl); rw [e]; exact (lw_g (lw_at lw_m1 4 rfl) rfl)) (lw_meth (lw_g (lw_at lw_m2 232 rfl) rfl))
  · exact lw_app (fun w h => by simp only [List.mem_cons, List.not_mem_nil, or_false] at h; rcases h with e | e | e | e | e | e; rw [e]; exact (lw_g (lw_at lw_m2 220 rfl) rfl); rw [e]; exact (lw_g (lw_at lw_m2 223 rfl) rfl); rw [e]; exact (lw_g (lw_at lw_m2 221 rfl) rfl); rw [e]; exact (lw_g (lw_at lw_m2 224 rfl) rfl); rw [e]; exact (lw_g (lw_at lw_m2 225 rfl) rfl); rw [e]; exact (lw_g (lw_at lw_m1 5 rfl) rfl)) (lw_meth (lw_g (lw_at lw_m2 226 rfl) rfl))
  · exact lw_app (fun w h => by simp only [List.mem_cons, List.not_mem_nil, or_false] at h; rcases h with e | e | e | e | e | e; rw [e]; exact (lw_g (lw_at lw_m2 220 rfl) rfl); rw [e]; exact (lw_g (lw_at lw_m2 223 rfl) rfl); rw [e]; exact (lw_g (lw_at lw_m2 221 rfl) rfl); rw [e]; exact (lw_g (lw_at lw_m2 227 rfl) rfl); rw [e]; exact (lw_g (lw_at lw_m2 228 rfl) rfl); rw [e]; exact (lw_g (lw_at lw_m1 6 rfl) rfl)) (lw_meth (lw_g (lw_at lw_m2 229 rfl) rfl))
theorem pl_code : Cond.code yPl (mcod 70) (mloc 70) (mret 70) ∈ lw_all := (lw_g (lw_at lw_m2 239 rfl) rfl)
section Disp
variable {p : Program} {l : Launch} {e : Env} {R : Room} {s : State} {m : MethodId} {args : Array Value} {below : List Frame} {meth : Method} {c : Code} {H : Heap} {locs : List Loc} {cells slots : Nat} {Qf : State → Prop} {D : va_G} {dA : Nat → ClassId} {A : Nat → Prop} {y : Nat} {X : Xs} {z : Ad}
theorem cO_snd {pc k : Nat} {pre rest : List Value} {ls : Array Slot} {Q : Po} (hC : Ctx y p l R s m args meth c D dA A) (hE : Exs z A X.1.2.2.2 s s.heap) (hWo : Wo D dA z A X H) (hSv : va_S A s.heap H locs) (hls : ls.size = mloc y) (hcy : (mnam y).cls = "LateJudge") (hd : decode (mcod y) pc = .ok (.invokevirtual 240, 3)) {ci : Nat} (h1 : 1 ≤ ci) (h5 : ci ≤ 5) (hdep : mdep (yOf ci) < mdep y ∧ mlcs (yOf ci) + 60 ≤ mlcs y) (hp : pre.length = 2)
    (hS : X.1.1 k = some (.inl ci)) (hw8 : wsum rest ≤ 8) (hcl : cells + mmc (yOf ci) ≤ R.cells) (hsl : slots + mms (yOf ci) ≤ R.slots) (hM : Snd (yOf ci) 0 (entL (mloc (yOf ci)) (.ref k :: pre.reverse)) [] (0, 0) X Q) (hnt : ∀ k X', ¬ Q (.threw k) X') (hok : okS X.1.2.2.1 (.ref k :: pre.reverse)) (hlen : (sl (.ref k :: pre.reverse)).length ≤ mloc (yOf ci))
    (kk : ∀ (v : Option Value) (X' : Xs) (z' : Ad) (H1 : Heap) (locs1 : List Loc), Q (.returned v) X' → (∀ w, v = some w → vok X'.1.2.2.1 w) → agr z z' X.1.2.2.1 → X.1.2.2.1 ≤ X'.1.2.2.1 → X'.1.2.2.2 = X.1.2.2.2 → Wo D dA z' A X' H1 → va_S A s.heap H1 locs1 → W p l e R s m args below meth c H1 locs1 (cells + mmc (yOf ci)) (slots + mms (yOf ci)) Qf (F0 m (pc + 3) ls ((v.map (con z')).toList ++ rest.map (con z)))) : W p l e R s m args below meth c H locs cells slots Qf (F0 m pc ls ((pre ++ .ref k :: rest).map (con z))) := by
  have ha : yOf ci < 170 := by
    rcases (show ci = 1 ∨ ci = 2 ∨ ci = 3 ∨ ci = 4 ∨ ci = 5 by omega) with rfl | rfl | rfl | rfl | rfl <;> decide
  have hh0 : mhnd (yOf ci) = [] := by
    rcases (show ci = 1 ∨ ci = 2 ∨ ci = 3 ∨ ci = 4 ∨ ci = 5 by omega) with rfl | rfl | rfl | rfl | rfl <;> rfl
  have hpar := par_all (yOf ci) ha
  have hrm := rom_fit hC ha hdep
  have hCC := hC
  obtain ⟨⟨hx, hb, hml, hown, hts⟩, -, hK, hA, -⟩ := hCC
  have hg := dis_all ci h1 h5
  have hst : (pre ++ .ref k :: rest).map (con z) = ((pre.reverse).map (con z)).reverse ++ Value.ref (z.2 k) :: rest.map (con z) := by simp [con]
  have hrv := va_recv hK.1 hWo.2.1 (mCl_at ci (by omega)) (wl_obj (dA := dA) (z := z) hWo.1 hS)
  rw [hcy] at hown
  exact run_snd (va_runU (x := yPl) (owner := "LateJudge$Plain") (As := (pre.reverse).map (con z)) (rest := rest.map (con z)) (b := z.2 k) (C := cRn ci) ⟨hx, hb, hml, hown, hts⟩ (met_snd (l := l) (sz := H.size) hC.2.1.2.2.2.2 hM hh0 hpar.2.1 hnt hok hlen) (va_cwO 2 hts hg rfl rfl rfl pl_code (by decide +kernel) hrm) ⟨PcP_blind, hrv, PcP_at hC hE hWo hSv⟩ rfl (by simp [hp]) hls hst (mon_w hw8) hd ⟨hcl, hsl⟩) hSv hWo hA kk
theorem callVW {T : State} (X : Stand p l e R s m args below meth c T locs cells slots) (hexec : p.tables.exec = Jvm.exec) {own C : String} {index : Nat} {y : MethodName} {bytes : ByteArray} {maxL : Nat} {ret : Option FieldType} {hh : List (Nat × Nat × Nat × Nat)}
    (hown : s.vm.findClass own = some m.cls) (hlink : (Cond.methodLink own index y).before args s = true) (hinst : (Cond.instanceMethod y).before args s = true) (hsel : (Cond.selects C y y).before args s = true)
    (hcode : (Cond.codeWith y bytes maxL ret hh).before args s = true) (hy : y.cls ≠ "java/lang/invoke/MethodHandle" ∧ y.cls ≠ "java/lang/invoke/VarHandle")
    {W : Nat} {Pre : Pt → Array Value → Prop} {Post : Pt → Array Value → Option Value → Pt → Prop} (hK : Back l R p e below s args y 3 W Pre Post)
    {b : Addr} {cellB : Cell} (hcell : T.heap[b]? = some cellB) (hobj : cellB.vm.isStatics = false) (hcls : s.vm.findClass C = some cellB.cls)
    {g : JFrame} (hg : g.method = m) (hsize : g.locals.size = c.maxLocals) {argsL rest : List Value} (hlen : ∀ sig, parseMethodDescriptor y.desc = some sig → argsL.length = sig.parameters.length)
    (hstack : g.stack = argsL.reverse ++ .ref b :: rest) (hW : 2 * g.monitorRoom + (rest.map fun v => v.category).sum ≤ W) (hdg : decode c.code g.pc = .ok (.invokevirtual index, 3))
    (hpre : ∀ vm₁, s.WarmedH vm₁ → Pre ⟨T.setVm vm₁, locs, cells, slots⟩ (Value.ref b :: argsL).toArray) :
    ∃ (v : Option Value) (vm₁ : Vm) (B : Pt), s.WarmedH vm₁ ∧ Stand p l e R s m args below meth c B.U B.locs B.cells B.slots ∧ Post ⟨T.setVm vm₁, locs, cells, slots⟩ (Value.ref b :: argsL).toArray v B ∧
      ∀ target, Steps p.tables e below (B.U.setTop { g with pc := g.pc + 3, stack := v.toList ++ rest }) target → Steps p.tables e below (T.setTop g) target := by
  obtain ⟨mk, methM, hnamed, hmethM, hstM, habM⟩ := Cond.instanceMethod_spec hinst
  obtain ⟨mk', methM', cM, hnamed', hmethM', -, -, -, -, -, -, hsigM⟩ := Cond.codeWith_spec hcode
  cases hnamed.symm.trans hnamed'
  cases hmethM.symm.trans hmethM'
  obtain ⟨c2, r2, m2, q1, q2, q3, q4, kP, hkP, hkPi⟩ := Cond.selects_spec hsel
  cases hcls.symm.trans q1
  cases (State.methodFound?_of_named hnamed hy).symm.trans q2
  cases hnamed.symm.trans q3
  have hselP : selectMethod e.platform s.vm cellB.cls mk = .method mk := by rw [Launch.admits_selectMethod X.admits]; exact q4
  obtain ⟨vm₁, X₁, hstep₁⟩ := X.invokevirtual hexec hown hlink hnamed hmethM hstM hkP hkPi hy (a := b) (cell := cellB) hcell
    (fun z h => by rw [h] at hobj; cases hobj) hselP hmethM habM hkP hkPi (g := g) hg (argsL := argsL) (rest := rest) (hlen _ hsigM) hstack hdg
  obtain ⟨v, B, X', hpost, hsteps⟩ := hK m meth c ⟨T.setVm vm₁, locs, cells, slots⟩ { g with stack := rest } (.invokevirtual index) mk (Value.ref b :: argsL).toArray X₁ hg hsize hdg hW (X₁.named hnamed) (hpre vm₁ X₁.warmed)
  exact ⟨v, vm₁, B, X₁.warmed, X', hpost, fun target h => hstep₁ _ fun acts => by rw [doInvoke_state]; exact hsteps.trans h⟩
theorem cVW_snd {a idx pc k : Nat} {pre rest : List Value} {ls : Array Slot} {Q : Po} (hC : Ctx y p l R s m args meth c D dA A) (hE : Exs z A X.1.2.2.2 s s.heap) (hWo : Wo D dA z A X H) (hSv : va_S A s.heap H locs) (ha : a < 170) (hls : ls.size = mloc y) (hd : decode (mcod y) pc = .ok (.invokevirtual idx, 3)) (hl : clkB (mnam y).cls idx a 1 = true) (hdep : mdep a < mdep y ∧ mlcs a + 60 ≤ mlcs y) (hpl : plainName (mnam a).cls = true) (hp : pre.length = npar a)
    {ci : Nat} (hci : ci < 15) (hcn : cRn ci = (mnam a).cls) (hS : X.1.1 k = some (.inl ci)) (hw8 : wsum rest ≤ 8) (hcl : cells + mmc a ≤ R.cells) (hsl : slots + mms a ≤ R.slots) (hM : Snd a 0 (entL (mloc a) (.ref k :: pre.reverse)) [] (0, 0) X Q) (hnt : ∀ k X', ¬ Q (.threw k) X') (hok : okS X.1.2.2.1 (.ref k :: pre.reverse)) (hlen : (sl (.ref k :: pre.reverse)).length ≤ mloc a)
    (kk : ∀ (v : Option Value) (X' : Xs) (z' : Ad) (H1 : Heap) (locs1 : List Loc), Q (.returned v) X' → (∀ w, v = some w → vok X'.1.2.2.1 w) → agr z z' X.1.2.2.1 → X.1.2.2.1 ≤ X'.1.2.2.1 → X'.1.2.2.2 = X.1.2.2.2 → Wo D dA z' A X' H1 → va_S A s.heap H1 locs1 → W p l e R s m args below meth c H1 locs1 (cells + mmc a) (slots + mms a) Qf (F0 m (pc + 3) ls ((v.map (con z')).toList ++ rest.map (con z)))) : W p l e R s m args below meth c H locs cells slots Qf (F0 m pc ls ((pre ++ .ref k :: rest).map (con z))) := by
  have hpar := par_all a ha
  have hrm := rom_fit hC ha hdep
  have hCC := hC
  obtain ⟨⟨hx, hb, hml, hown, hts⟩, -, hK, hA, -⟩ := hCC
  have hg : GoodIn lw_all (wsV (mnam y).cls idx (mnam a).cls (mnam a) (wsW_ (mnam a) (mcod a) (mloc a) (mret a) (mhnd a))) := clkB_ok hl
  have ok : ∀ w ∈ wsV (mnam y).cls idx (mnam a).cls (mnam a) (wsW_ (mnam a) (mcod a) (mloc a) (mret a) (mhnd a)), w.before args s = true := fun w h => hts w (hg w h).1
  have hst : (pre ++ .ref k :: rest).map (con z) = ((pre.reverse).map (con z)).reverse ++ Value.ref (z.2 k) :: rest.map (con z) := by simp [con]
  have hrv := va_recv hK.1 hWo.2.1 (mCl_at ci hci) (wl_obj (dA := dA) (z := z) hWo.1 hS)
  have hG2 : GoodIn lw_all (wsW_ (mnam a) (mcod a) (mloc a) (mret a) (mhnd a)) := fun w h => hg w (by unfold wsV; exact List.mem_append_right _ h)
  have hini : (Cond.initialized (mnam a).cls).before args s = true := ok _ (by simp [wsV])
  have hB : Back l R p e below s args (mnam a) 3 8 (PreOf R (mmc a) (mms a) (PcP D dA z X (.ref k :: pre.reverse) H.size)) (PostOf (QcP D dA z X H.size Q) (mmc a) (mms a) (va_A (wl dA z X) H.size)) :=
    va_backW (bytes := mcod a) (maxL := mloc a) (ret := mret a) (hh := mhnd a) (met_sndW (l := l) (sz := H.size) hC.2.1.2.2.2.2 hM hpl hnt hok hlen) PcP_blind rfl rfl hrm.1 hrm.2 (pay_in hts hG2) List.mem_cons_self (fun a' U hW => word_at hW (Or.inl (by first | rfl | simp [Cond.onTables, Cond.keeps, Cond.steady])) hini)
  have hrun : va_Run p l e R s m args below meth c H locs cells slots (mmc a) (mms a) (F0 m pc ls ((pre ++ .ref k :: rest).map (con z))) (rest.map (con z)) (QcP D dA z X H.size Q (Value.ref (z.2 k) :: (pre.reverse).map (con z)).toArray) (va_A (wl dA z X) H.size) := by
    intro T hT X0
    obtain ⟨cellB, hcB, hoB, hclB⟩ := hrv
    rw [show (cRn ci, cT ci, nfd ci).1 = (mnam a).cls from hcn] at hclB
    obtain ⟨v, vm₁, ⟨U', l2, c2, s2⟩, hW₁, X', ⟨g', mk, t, L, e1, e2, hq, h1, hL, h2, h3⟩, st⟩ := callVW X0 hx (own := (mnam y).cls) (index := idx) (C := (mnam a).cls) (bytes := mcod a) (maxL := mloc a) (ret := mret a) (hh := mhnd a) hown (ok _ (by simp [wsV])) (ok _ (by simp [wsV])) (ok _ (by simp [wsV])) (ok _ (by simp [wsV])) ⟨hpar.1.1, hpar.1.2.1⟩ hB (by rw [hT]; exact hcB) hoB hclB (g := F0 m pc ls ((pre ++ .ref k :: rest).map (con z))) rfl (hls.trans hml.symm) (argsL := (pre.reverse).map (con z)) (rest := rest.map (con z)) (fun sig h => by
        have h9 := hpar.1.2.2
        rw [h] at h9
        have h10 : sig.parameters.length = npar a := Option.some.inj h9
        rw [h10]
        simp [hp]) hst (mon_w hw8) (by rw [hb]; exact hd) (fun vm₁ hW₁ => ⟨hcl, hsl, PcP_at hC hE hWo hSv (T.setVm vm₁) hT hW₁⟩)
    dsimp only [Pt.U, Pt.locs, Pt.cells, Pt.slots] at X' e1 e2 h1 h2 h3 st
    subst h1; subst h2; subst h3
    exact ⟨v, (T.setVm vm₁).calling g' mk (Value.ref (z.2 k) :: (pre.reverse).map (con z)).toArray, t, U', L, hT, X', hL, e1, e2, hq, st⟩
  exact run_snd hrun hSv hWo hA kk
end Disp
