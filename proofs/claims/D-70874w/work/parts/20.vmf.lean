/-! EXCEPTIONS: a cast that fails -/
/-- an array class of a primitive type, as messages see it -/
def prA (t : Nat) (k : Class) : Prop := k.name = aNm t ∧ k.hidden = none ∧ k.loader = none ∧ ∃ c ty, k.kind = .array c ty
theorem prA_of {vm vm' : Vm} (hv : vm.Alike vm') {t : Nat} {c : ClassId} (h : vm.findClass (aNm t) = some c) {k : Class} (hk : vm.classes[c]? = some k) (hkd : ∃ c ty, k.kind = .array c ty) : ∃ k', vm'.classes[c]? = some k' ∧ prA t k' := by
  obtain ⟨hlt, hp, _⟩ := Array.findIdx?_eq_some_iff_getElem.mp h
  have hk2 : vm.classes[c] = k := by
    rw [Array.getElem?_eq_getElem hlt] at hk
    exact Option.some.inj hk
  rw [hk2] at hp
  simp only [Bool.and_eq_true, beq_iff_eq, Option.isNone_iff_eq_none] at hp
  obtain ⟨k', hk', he⟩ := hv.2.2 _ _ hk
  refine ⟨k', hk', ?_⟩
  rw [he]
  exact ⟨hp.1.1.1, hp.1.1.2, hp.2, hkd⟩
theorem prA_shown : ∀ t, t < 5 → (dotted (aNm t)).toList.length ≤ 4 ∧ (withoutBrackets (aNm t)).length = 1 := by decide +kernel
theorem shown_len {t : Nat} (ht : t < 5) {k : Class} (h : prA t k) : k.shown.toList.length ≤ 4 := by
  have : k.shown = dotted k.name := by
    unfold Class.shown
    rw [h.2.1]
  rw [this, h.1]
  exact (prA_shown t ht).1
theorem home_len {t : Nat} (ht : t < 5) {vm : Vm} {k : Class} (h : prA t k) : (vm.home k).toList.length ≤ 60 := by
  obtain ⟨h1, h2, h3, c, ty, h4⟩ := h
  have hp : k.ofPrimitives = true := by
    unfold Class.ofPrimitives
    rw [h4, h1]
    simp [(prA_shown t ht).2]
  unfold Vm.home
  rw [h3]
  have e1 : vm.loaderName none = "'bootstrap'" := rfl
  rw [e1]
  have hm : vm.moduleOf k = vm.modules.find? (·.name == "java.base") := by
    unfold Vm.moduleOf
    rw [hp]
    rfl
  rw [hm]
  cases hf : vm.modules.find? (·.name == "java.base") with
  | none => decide
  | some mi =>
    have h5 := List.find?_some hf
    have h6 : mi.name = "java.base" := by simpa using h5
    dsimp only
    rw [h6]
    decide
theorem cce_text {t a : Nat} (ht : t < 5) (ha : a < 5) {vm : Vm} {ks kt : Class} (h1 : prA t ks) (h2 : prA a kt) : (Op.checkcast.message vm ks kt == notModelled) = false ∧ (stringBytes (stringToUtf16 (Op.checkcast.message vm ks kt))).size ≤ 3400 := by
  have s1 := shown_len ht h1
  have s2 := shown_len ha h2
  have s3 := home_len (vm := vm) ht h1
  have s4 := home_len (vm := vm) ha h2
  have hh : (vm.homes ks kt).toList.length ≤ 200 := by
    unfold Vm.homes
    split
    · show (toString ks.shown ++ toString " and " ++ toString kt.shown ++ toString " are in " ++ toString (vm.home ks)).toList.length ≤ 200
      simp only [String.toList_append, List.length_append]
      have a1 : (toString " and ").toList.length = 5 := by decide
      have a2 : (toString " are in ").toList.length = 8 := by decide
      have a3 : (toString ks.shown).toList.length ≤ 4 := s1
      have a4 : (toString kt.shown).toList.length ≤ 4 := s2
      have a5 : (toString (vm.home ks)).toList.length ≤ 60 := s3
      omega
    · show (toString ks.shown ++ toString " is in " ++ toString (vm.home ks) ++ toString "; " ++ toString kt.shown ++ toString " is in " ++ toString (vm.home kt)).toList.length ≤ 200
      simp only [String.toList_append, List.length_append]
      have a1 : (toString " is in ").toList.length = 7 := by decide
      have a2 : (toString "; ").toList.length = 2 := by decide
      have a3 : (toString ks.shown).toList.length ≤ 4 := s1
      have a4 : (toString kt.shown).toList.length ≤ 4 := s2
      have a5 : (toString (vm.home ks)).toList.length ≤ 60 := s3
      have a6 : (toString (vm.home kt)).toList.length ≤ 60 := s4
      omega
  have hm : Op.checkcast.message vm ks kt = toString "class " ++ toString ks.shown ++ toString " cannot be cast to class " ++ toString kt.shown ++ toString " (" ++ toString (vm.homes ks kt) ++ toString ")" := rfl
  have hl : (Op.checkcast.message vm ks kt).toList.length ≤ 300 := by
    rw [hm]
    simp only [String.toList_append, List.length_append]
    have a1 : (toString "class ").toList.length = 6 := by decide
    have a2 : (toString " cannot be cast to class ").toList.length = 25 := by decide
    have a3 : (toString ks.shown).toList.length ≤ 4 := s1
    have a4 : (toString kt.shown).toList.length ≤ 4 := s2
    have a5 : (toString (vm.homes ks kt)).toList.length ≤ 200 := hh
    have a6 : (toString " (").toList.length = 2 := by decide
    have a7 : (toString ")").toList.length = 1 := by decide
    omega
  refine ⟨?_, ?_⟩
  · rw [beq_eq_false_iff_ne]
    intro h
    have h3 := congrArg String.toList h
    rw [hm] at h3
    simp only [String.toList_append] at h3
    have h4 : notModelled.toList = '\u0000' :: " a message that is not modelled".toList := by decide
    have h5 : (toString "class ").toList = 'c' :: "lass ".toList := by decide
    rw [h4, h5] at h3
    simp at h3
  · have b1 := stringBytes_size_le (stringToUtf16 (Op.checkcast.message vm ks kt))
    have b2 := utf16_size_le (Op.checkcast.message vm ks kt)
    omega
theorem cC_snd {y pc : Nat} {L : Lo} {u : Nat × Nat} {X : Xs} {Q : Po} {r : List Value} (hy : y < 170) (h : raiF Snd y pc L u X Q r 12) {p : Program} {l : Launch} {e : Env} {R : Room} {s : State} {m : MethodId} {args : Array Value} {below : List Frame} {meth : Method} {c : Code} {D : va_G} {dA : Nat → ClassId} {A : Nat → Prop} {Qf : State → Prop} {H : Heap} {locs : List Loc} {ls : Array Slot} {z z0 : Ad} {nf0 : Nat}
    (hC : Ctx y p l R s m args meth c D dA A) (hEnd : EndP y p l e R s m args below meth c D dA A Qf z0 nf0 X.1.2.2.2 Q) (hE : Exs z A X.1.2.2.2 s s.heap) (hWo : Wo D dA z A X H) (hag : agr z0 z nf0) (hnf : nf0 ≤ X.1.2.2.1) (hSv : va_S A s.heap H locs) (hl : hasL z X.1.2.2.1 ls L) (hlen : L.length = mloc y)
    {k t n a idx : Nat} (hS : X.1.1 k = some (.inr (t, n))) (ht : t < 5) (ha : a < 5) (ha2 : a ≠ 2) (hne : t ≠ a) (hd : decode (mcod y) pc = .ok (.checkcast idx, 3)) (hc : clsB (mnam y).cls idx (aNm a) = true) : W p l e R s m args below meth c H locs u.1 u.2 Qf (F0 m pc ls (.ref (z.2 k) :: r.map (con z))) := by
  have hw9 : ((Value.ref (z.2 k) :: r.map (con z)).map fun v => v.category).sum ≤ 9 := by
    have := h.1.2.2
    rw [List.map_cons, List.sum_cons, wsum_eq]
    show 1 + wsum r ≤ 9
    omega
  refine ms_snd hy h hC hEnd hE hWo hag hnf hSv hl hlen (st0 := .ref (z.2 k) :: r.map (con z)) (by decide) (by decide) atm_12 fit_12 hw9 (fun T hT X0 => ?_)
  obtain ⟨⟨hexec, hb, hml, hown, hts⟩, -, hK, -⟩ := hC
  have hpl : e.platform.magicAccessors = ({} : Platform).magicAccessors := by rw [X0.admits.platform]
  obtain ⟨cT, hcT, hcl⟩ := Cond.classLink_spec hown (hts _ (clsB_ok hc)) e.platform hpl
  obtain ⟨cell, hcell, hst, hf⟩ := arr_cell hWo hK ht hS
  obtain ⟨c0, t0, f1, f2, f3⟩ := hK.2.2.1 t a ht ha ha2 hne
  cases hf.symm.trans f1
  cases hcT.symm.trans f2
  obtain ⟨dk, _, _, kt, hdk, _, _, _, _, hkt, _, hopen⟩ := hcl.here
  have hcl0 := X0.warmed.classLinks hcl
  have hW' := X0.warmed.noted hdk hopen (State.rightAt_cls hcl)
  have kindOf : ∀ t', t' < 5 → ∀ c', s.vm.findClass (aNm t') = some c' → ∀ k', s.vm.classes[c']? = some k' → ∃ c9 ty, k'.kind = .array c9 ty := by
    intro t' ht' c' hc' k' hk'
    have h1 := (hK.1.2 t' _ (tyL_at (by omega)))
    have hfd : s.vm.findClass (aNm t') = some (dA t') := by
      have h2 := h1.2
      rcases (show t' = 0 ∨ t' = 1 ∨ t' = 2 ∨ t' = 3 ∨ t' = 4 by omega) with rfl | rfl | rfl | rfl | rfl <;> exact h2
    cases hc'.symm.trans hfd
    obtain ⟨-, k9, h3, comp, h4⟩ := h1.1 0 (fun _ => .null)
    have h5 : s.vm.classes[dA t']? = some k9 := h3
    cases hk'.symm.trans h5
    exact ⟨_, _, h4⟩
  obtain ⟨ks, hks, -⟩ := Vm.findClass_spec hf
  obtain ⟨ks', hks', hp1⟩ := prA_of hW'.alike hf hks (kindOf t ht _ hf _ hks)
  obtain ⟨kt', hkt', hp2⟩ := prA_of hW'.alike hcT hkt (kindOf a ha _ hcT _ hkt)
  obtain ⟨tx1, tx2⟩ := cce_text (vm := T.vm.noted m.cls idx (.cls cT)) ht ha hp1 hp2
  refine ⟨_, _, X0.noted hW', tx1, tx2, fun tg hrest => ?_⟩
  rw [← hT] at hcell
  have hdg : decode c.code (F0 m pc ls (.ref (z.2 k) :: r.map (con z))).pc = .ok (.checkcast idx, 3) := by rw [hb]; exact hd
  jvm_step X0.here [hexec, hdg, checkcast.wp_cold (e := e) (s := T) (f := F0 m pc ls (.ref (z.2 k) :: r.map (con z))) X0.here.top rfl (resolveClass_links e.toSetting hcl0) hcl0.ready,
    checkcast.wp_ready (e := e) (s := T.setVm (T.vm.noted m.cls idx (.cls cT))) (f := F0 m pc ls (.ref (z.2 k) :: r.map (con z))) X0.here.top hcl0.ready rfl]
  refine ⟨cell, hcell, VmData.noStatics_of hst, ks', hks', kt', hkt', ?_⟩
  have h1 : (T.vm.noted m.cls idx (Resolved.cls cT)).assignable cell.cls cT = false := by rw [hW'.alike.assignable]; exact f3
  simp only [h1, Bool.false_eq_true, if_false]
  exact hrest
