/-! EXCEPTIONS: System.arraycopy raises -/
theorem con_isRef {z : Ad} {w : Value} (h : isRf w = true) : (con z w).isRef = true := by
  cases w <;> first | rfl | (rename_i q; rcases con_ra z q with e0 | ⟨b, e0⟩ <;> rw [e0] <;> rfl) | cases h
theorem isRef_two {w : Value} (h : w.isRef = true) : w = .null ∨ ∃ a, w = .ref a := by
  cases w <;> first | exact Or.inl rfl | exact Or.inr ⟨_, rfl⟩ | cases h
theorem ac_null1 {E : CtlPost} {e : Env} {s : State} (sp dp n : Int32) (wd : Value) (hE : ∀ acts', E (.throwNew "java/lang/NullPointerException" none) acts' s) : wp (Native.java_lang_System.arraycopy.sem #[.null, .int sp, wd, .int dp, .int n]) (fun _ _ _ _ => False) E e false [] s := by
  show wp (do Jvm.mark "nat.java_lang_System.arraycopy/null"; Jvm.throwNew "java/lang/NullPointerException") _ E e false [] s
  simp only [wp_bind', W.mark, W.throwNew]
  exact hE _
theorem ac_null2 {E : CtlPost} {e : Env} {s : State} (a : Addr) (sp dp n : Int32) (hE : ∀ acts', E (.throwNew "java/lang/NullPointerException" none) acts' s) : wp (Native.java_lang_System.arraycopy.sem #[.ref a, .int sp, .null, .int dp, .int n]) (fun _ _ _ _ => False) E e false [] s := by
  show wp (do Jvm.mark "nat.java_lang_System.arraycopy/null"; Jvm.throwNew "java/lang/NullPointerException") _ E e false [] s
  simp only [wp_bind', W.mark, W.throwNew]
  exact hE _
theorem ac_room {y : Nat} (hy : y < 170) {u : Nat × Nat} (h1 : u.1 + exC ≤ mmc y) (h2 : u.2 + exS ≤ mms y) {R : Room} (hR : mdep y ≤ R.frames ∧ mlcs y ≤ R.locals ∧ mmc y ≤ R.cells ∧ mms y ≤ R.slots) {z : Ad} {r : List Value} (hw : wsum r ≤ 8) :
    1 ≤ R.frames ∧ 8 < R.frames ∧ 2 * 0 + ((r.map (con z)).map fun v => v.category).sum + (nativeFrameWords "java/lang/System" "arraycopy" 5 + 11) ≤ R.locals ∧ 2 * 0 + ((r.map (con z)).map fun v => v.category).sum + 10240 ≤ R.locals ∧ u.1 + 3 ≤ R.cells ∧ u.2 + 3500 ≤ R.slots := by
  have hrm := rai_room y hy (Nat.le_trans (Nat.le_add_left _ _) h1) (Nat.le_trans (Nat.le_add_left _ _) h2)
  obtain ⟨hR1, hR2, hR3, hR4⟩ := hR
  unfold exC at h1
  unfold exS at h2
  have h7 : nativeFrameWords "java/lang/System" "arraycopy" 5 = 7 := by decide
  rw [h7, wsum_eq]
  omega
theorem cN_raise {y pc : Nat} {L : Lo} {u : Nat × Nat} {X : Xs} {Q : Po} {r : List Value} (hy : y < 170) (h : raiF Snd y pc L u X Q r 11) {p : Program} {l : Launch} {e : Env} {R : Room} {s : State} {m : MethodId} {args : Array Value} {below : List Frame} {meth : Method} {c : Code} {D : va_G} {dA : Nat → ClassId} {A : Nat → Prop} {Qf : State → Prop} {H : Heap} {locs : List Loc} {ls : Array Slot} {z z0 : Ad} {nf0 : Nat}
    (hC : Ctx y p l R s m args meth c D dA A) (hEnd : EndP y p l e R s m args below meth c D dA A Qf z0 nf0 X.1.2.2.2 Q) (hE : Exs z A X.1.2.2.2 s s.heap) (hWo : Wo D dA z A X H) (hag : agr z0 z nf0) (hnf : nf0 ≤ X.1.2.2.1) (hSv : va_S A s.heap H locs) (hl : hasL z X.1.2.2.1 ls L) (hlen : L.length = mloc y)
    {n dp sp : Int32} {wd ws : Value} {idx : Nat} (hd : decode (mcod y) pc = .ok (.invokestatic idx, 3)) (hlk : lnkB arcT (mnam y).cls idx = true) (h1 : isRf wd = true) (h2 : isRf ws = true) (h3 : wd = .null ∨ ws = .null) : W p l e R s m args below meth c H locs u.1 u.2 Qf (F0 m pc ls ((Value.int n :: .int dp :: wd :: .int sp :: ws :: r).map (con z))) := by
  obtain ⟨r1, r2, r3, r4, r5, r6⟩ := ac_room (z := z) hy h.1.1 h.1.2.1 hC.2.2.2.2 h.1.2.2
  have hCC := hC
  obtain ⟨⟨hx, hb, hml, hown, hts⟩, ⟨-, -, -, -, htr⟩, -⟩ := hCC
  have hls : ls.size = c.maxLocals := by rw [hml]; exact hl.1.trans hlen
  intro T hT X0
  obtain ⟨vm', nf, n1, n2, n3, X1, go⟩ := nat_raise X0 hx hown (hts _ (arcT_ok _ (lnkB_ok hlk))) (hts _ arc_words.1) (hts _ arc_words.2.1) (hts _ arc_words.2.2) (ws := con z ws) (wd := con z wd) (sp := sp) (dp := dp) (n := n) (con_isRef h2) (con_isRef h1) (cls := "java/lang/NullPointerException") (msg := none) (fun vm' _ fs E hE => by
      rcases isRef_two (con_isRef (z := z) h2) with e1 | ⟨a, e1⟩
      · rw [e1]
        exact ac_null1 sp dp n _ hE
      · rcases h3 with rfl | rfl
        · rw [e1]
          exact ac_null2 a sp dp n hE
        · cases e1) (rest := r.map (con z)) hls (by rw [hb]; exact hd) r1 r3
  obtain ⟨t, s1, q1⟩ := nte_snd (st0 := r.map (con z)) (S0 := (T.setVm vm').setFrames (.throwNew "java/lang/NullPointerException" none none :: .native nf :: .java (F0 m pc ls (r.map (con z))) :: below)) hy h hC hEnd hE hWo hag hnf hSv hl hlen (by decide) (by decide) (T := T.setVm vm') hT
    (nto_ntx n2 n3 (nto_np X1 hx (tr_off X1.admits htr) (fun a ha => atm_b hC hE (atm_npe a ha)) hE (by rw [show (T.setVm vm').heap = H from hT]; exact hSv) rfl hls n1 r2 r4 r5 (by omega)))
  exact ⟨t, go t s1, q1⟩
/-- with a message -/
theorem cM_raise {y pc : Nat} {L : Lo} {u : Nat × Nat} {X : Xs} {Q : Po} {r : List Value} (hy : y < 170) {ci : Nat} (h : raiF Snd y pc L u X Q r ci) {p : Program} {l : Launch} {e : Env} {R : Room} {s : State} {m : MethodId} {args : Array Value} {below : List Frame} {meth : Method} {c : Code} {D : va_G} {dA : Nat → ClassId} {A : Nat → Prop} {Qf : State → Prop} {H : Heap} {locs : List Loc} {ls : Array Slot} {z z0 : Ad} {nf0 : Nat}
    (hC : Ctx y p l R s m args meth c D dA A) (hEnd : EndP y p l e R s m args below meth c D dA A Qf z0 nf0 X.1.2.2.2 Q) (hE : Exs z A X.1.2.2.2 s s.heap) (hWo : Wo D dA z A X H) (hag : agr z0 z nf0) (hnf : nf0 ≤ X.1.2.2.1) (hSv : va_S A s.heap H locs) (hl : hasL z X.1.2.2.1 ls L) (hlen : L.length = mloc y)
    (h10 : 10 ≤ ci) (h15 : ci < 15) {names : List String} (hat : ∀ a ∈ Bundle.messageArmAtoms (cRn ci) names, Atm a) (hfc : Bundle.fit (cRn ci) = true ∧ (∀ n ∈ names, Bundle.fit n = true) ∧ (cRn ci == "java/lang/StackOverflowError") = false ∧ (cRn ci == "java/lang/OutOfMemoryError") = false ∧ names.length ≤ 3)
    {n dp sp : Int32} {kd ks idx : Nat} (hd : decode (mcod y) pc = .ok (.invokestatic idx, 3)) (hlk : lnkB arcT (mnam y).cls idx = true)
    (hw : ∃ text : String, (text == notModelled) = false ∧ (stringBytes (stringToUtf16 text)).size ≤ 3400 ∧ ∀ (U : State), U.heap = H → s.vm.Alike U.vm → ∀ (E : CtlPost), (∀ acts', E (.throwNew (cRn ci) (some text)) acts' U) → wp (Native.java_lang_System.arraycopy.sem #[.ref (z.2 ks), .int sp, .ref (z.2 kd), .int dp, .int n]) (fun _ _ _ _ => False) E e false [] U) :
    W p l e R s m args below meth c H locs u.1 u.2 Qf (F0 m pc ls ((Value.int n :: .int dp :: .ref kd :: .int sp :: .ref ks :: r).map (con z))) := by
  obtain ⟨r1, r2, r3, r4, r5, r6⟩ := ac_room (z := z) hy h.1.1 h.1.2.1 hC.2.2.2.2 h.1.2.2
  have hCC := hC
  obtain ⟨⟨hx, hb, hml, hown, hts⟩, ⟨-, -, -, -, htr⟩, -⟩ := hCC
  have hls : ls.size = c.maxLocals := by rw [hml]; exact hl.1.trans hlen
  obtain ⟨text, t1, t2, t3⟩ := hw
  intro T hT X0
  obtain ⟨vm', nf, n1, n2, n3, X1, go⟩ := nat_raise X0 hx hown (hts _ (arcT_ok _ (lnkB_ok hlk))) (hts _ arc_words.1) (hts _ arc_words.2.1) (hts _ arc_words.2.2) (ws := .ref (z.2 ks)) (wd := .ref (z.2 kd)) (sp := sp) (dp := dp) (n := n) rfl rfl (cls := cRn ci) (msg := some text) (fun vm' hv fs E hE => t3 ((T.setVm vm').setFrames fs) hT hv E hE) (rest := r.map (con z)) hls (by rw [hb]; exact hd) r1 r3
  obtain ⟨t, s1, q1⟩ := nte_snd (st0 := r.map (con z)) (S0 := (T.setVm vm').setFrames (.throwNew (cRn ci) (some text) none :: .native nf :: .java (F0 m pc ls (r.map (con z))) :: below)) hy h hC hEnd hE hWo hag hnf hSv hl hlen h10 h15 (T := T.setVm vm') hT
    (nto_ntx n2 n3 (nto_ms X1 hx (tr_off X1.admits htr) hfc.1 hfc.2.1 hfc.2.2.1 hfc.2.2.2.1 (fun a ha => atm_b hC hE (hat a ha)) hE (by rw [show (T.setVm vm').heap = H from hT]; exact hSv) hfc.2.2.2.2 t1 t2 rfl hls n1 r2 r4 r5 r6))
  exact ⟨t, go t s1, q1⟩
theorem fit_14 : Bundle.fit (cRn 14) = true ∧ (∀ n ∈ ["java/lang/RuntimeException", "java/lang/Exception"], Bundle.fit n = true) ∧ (cRn 14 == "java/lang/StackOverflowError") = false ∧ (cRn 14 == "java/lang/OutOfMemoryError") = false ∧ ["java/lang/RuntimeException", "java/lang/Exception"].length ≤ 3 := by decide +kernel
/-- the array's class, in tables alike -/
theorem arr_kind {D : va_G} {dA : Nat → ClassId} {z : Ad} {A : Nat → Prop} {X : Xs} {H : Heap} {s U : State} {t n k : Nat} (hWo : Wo D dA z A X H) (hK : KK D dA s) (ht : t < 5) (hS : X.1.1 k = some (.inr (t, n))) (hU : U.heap = H) (hv : s.vm.Alike U.vm) : ∃ (cell : Cell) (kc : Class) (comp : ClassId), U.heap[z.2 k]? = some cell ∧ (∀ q, cell.vm ≠ .statics q) ∧ cell.slots.size = n ∧ U.vm.classes[cell.cls]? = some kc ∧ kc.kind = .array comp (aty t) := by
  obtain ⟨cell, h1, h2, h3, h4, h5⟩ := arr_sz hWo hK ht hS
  obtain ⟨h6, kc, h7, comp, h8⟩ := State.isArrayOf_alike hv h2
  exact ⟨cell, kc, comp, by rw [hU]; exact h1, h6, h3, h7, h8⟩
theorem aty_prim : ∀ t, t < 5 → refKind (aty t) = false ∧ (Native.java_lang_System.arraycopy.kindName (aty t)).toList.length ≤ 8 := by decide +kernel
theorem aty_ne : ∀ t, t < 5 → ∀ t', t' < 5 → t ≠ t' → aty t ≠ aty t' := by decide +kernel
theorem ac_text {tx : String} {rest : List Char} {c : Char} (h : tx.toList = c :: rest) (hc : c ≠ '\u0000') (hn : tx.toList.length ≤ 800) : (tx == notModelled) = false ∧ (stringBytes (stringToUtf16 tx)).size ≤ 3400 := by
  refine ⟨?_, ?_⟩
  · rw [beq_eq_false_iff_ne]
    intro h3
    have h4 := congrArg String.toList h3
    have h5 : notModelled.toList = '\u0000' :: " a message that is not modelled".toList := by decide
    rw [h, h5] at h4
    exact hc (List.cons.inj h4).1
  · have b1 := stringBytes_size_le (stringToUtf16 tx)
    have b2 := utf16_size_le tx
    omega
theorem cA_raise {y pc : Nat} {L : Lo} {u : Nat × Nat} {X : Xs} {Q : Po} {r : List Value} (hy : y < 170) (h : raiF Snd y pc L u X Q r 14) {p : Program} {l : Launch} {e : Env} {R : Room} {s : State} {m : MethodId} {args : Array Value} {below : List Frame} {meth : Method} {c : Code} {D : va_G} {dA : Nat → ClassId} {A : Nat → Prop} {Qf : State → Prop} {H : Heap} {locs : List Loc} {ls : Array Slot} {z z0 : Ad} {nf0 : Nat}
    (hC : Ctx y p l R s m args meth c D dA A) (hEnd : EndP y p l e R s m args below meth c D dA A Qf z0 nf0 X.1.2.2.2 Q) (hE : Exs z A X.1.2.2.2 s s.heap) (hWo : Wo D dA z A X H) (hag : agr z0 z nf0) (hnf : nf0 ≤ X.1.2.2.1) (hSv : va_S A s.heap H locs) (hl : hasL z X.1.2.2.1 ls L) (hlen : L.length = mloc y)
    {n dp sp : Int32} {kd ks t0 n0 t1 n1 idx : Nat} (hd : decode (mcod y) pc = .ok (.invokestatic idx, 3)) (hlk : lnkB arcT (mnam y).cls idx = true) (h1 : X.1.1 ks = some (.inr (t0, n0))) (h2 : X.1.1 kd = some (.inr (t1, n1))) (ht0 : t0 < 5) (ht1 : t1 < 5) (hne : t0 ≠ t1) : W p l e R s m args below meth c H locs u.1 u.2 Qf (F0 m pc ls ((Value.int n :: .int dp :: .ref kd :: .int sp :: .ref ks :: r).map (con z))) := by
  refine cM_raise hy h hC hEnd hE hWo hag hnf hSv hl hlen (by decide) (by decide) atm_14 fit_14 hd hlk ?_
  have hK := hC.2.2.1
  have p0 := aty_prim t0 ht0
  have p1 := aty_prim t1 ht1
  have hty : ((refKind (aty t0) != refKind (aty t1)) || (!refKind (aty t0) && aty t0 != aty t1)) = true := by
    have := aty_ne t0 ht0 t1 ht1 hne
    rw [p0.1, p1.1]
    simp [this]
  refine ⟨toString "arraycopy: type mismatch: can not copy " ++ toString (Native.java_lang_System.arraycopy.kindName (aty t0)) ++ toString "[] into " ++ toString (Native.java_lang_System.arraycopy.kindName (aty t1)) ++ toString "[]", ?_⟩
  have tx := ac_text (tx := toString "arraycopy: type mismatch: can not copy " ++ toString (Native.java_lang_System.arraycopy.kindName (aty t0)) ++ toString "[] into " ++ toString (Native.java_lang_System.arraycopy.kindName (aty t1)) ++ toString "[]") (c := 'a') (rest := "rraycopy: type mismatch: can not copy ".toList ++ (toString (Native.java_lang_System.arraycopy.kindName (aty t0))).toList ++ (toString "[] into ").toList ++ (toString (Native.java_lang_System.arraycopy.kindName (aty t1))).toList ++ (toString "[]").toList) (by simp only [String.toList_append]; rfl) (by decide) (by
    simp only [String.toList_append, List.length_append]
    have a1 : (toString "arraycopy: type mismatch: can not copy ").toList.length = 39 := by decide
    have a2 : (toString "[] into ").toList.length = 8 := by decide
    have a3 : (toString "[]").toList.length = 2 := by decide
    have a4 : (toString (Native.java_lang_System.arraycopy.kindName (aty t0))).toList.length ≤ 8 := p0.2
    have a5 : (toString (Native.java_lang_System.arraycopy.kindName (aty t1))).toList.length ≤ 8 := p1.2
    omega)
  refine ⟨tx.1, tx.2, fun U hU hv E hE => ?_⟩
  obtain ⟨cs, kcs, c0, g1, g2, g3, g4, g5⟩ := arr_kind hWo hK ht0 h1 hU hv
  obtain ⟨cd, kcd, c1, k1, k2, k3, k4, k5⟩ := arr_kind hWo hK ht1 h2 hU hv
  rw [Native.java_lang_System.arraycopy.sem_refs]
  unfold Native.java_lang_System.arraycopy.behind
  simp only [wp_bind', W.classOf, W.theClass, g1, k1, g4, k4, Option.some.injEq, exists_eq_left', g5, k5]
  refine ⟨g2, k2, ?_⟩
  unfold refKind at hty
  simp only [hty, if_true, wp_bind', W.mark, W.throwNew]
  exact hE _
theorem int_print {i : Int} (h0 : 0 ≤ i) (h1 : i < 10 ^ 10) : (toString i).toList.length ≤ 10 := by
  obtain ⟨k, rfl⟩ := Int.eq_ofNat_of_zero_le h0
  show (toString k).toList.length ≤ 10
  exact nat_print (by omega)
theorem cO_raise {y pc : Nat} {L : Lo} {u : Nat × Nat} {X : Xs} {Q : Po} {r : List Value} (hy : y < 170) (h : raiF Snd y pc L u X Q r 13) {p : Program} {l : Launch} {e : Env} {R : Room} {s : State} {m : MethodId} {args : Array Value} {below : List Frame} {meth : Method} {c : Code} {D : va_G} {dA : Nat → ClassId} {A : Nat → Prop} {Qf : State → Prop} {H : Heap} {locs : List Loc} {ls : Array Slot} {z z0 : Ad} {nf0 : Nat}
    (hC : Ctx y p l R s m args meth c D dA A) (hEnd : EndP y p l e R s m args below meth c D dA A Qf z0 nf0 X.1.2.2.2 Q) (hE : Exs z A X.1.2.2.2 s s.heap) (hWo : Wo D dA z A X H) (hag : agr z0 z nf0) (hnf : nf0 ≤ X.1.2.2.1) (hSv : va_S A s.heap H locs) (hl : hasL z X.1.2.2.1 ls L) (hlen : L.length = mloc y)
    {n dp sp : Int32} {kd ks t n0 n1 idx : Nat} (hd : decode (mcod y) pc = .ok (.invokestatic idx, 3)) (hlk : lnkB arcT (mnam y).cls idx = true) (ht : t < 5) (h1 : X.1.1 ks = some (.inr (t, n0))) (h2 : X.1.1 kd = some (.inr (t, n1))) (hb : sp < 0 ∨ dp < 0 ∨ n < 0 ∨ n0 < sp.toNatClampNeg + n.toNatClampNeg ∨ n1 < dp.toNatClampNeg + n.toNatClampNeg) (hs : n0 ≤ 1000 ∧ n1 ≤ 1000) : W p l e R s m args below meth c H locs u.1 u.2 Qf (F0 m pc ls ((Value.int n :: .int dp :: .ref kd :: .int sp :: .ref ks :: r).map (con z))) := by
  refine cM_raise hy h hC hEnd hE hWo hag hnf hSv hl hlen (by decide) (by decide) atm_13 fit_13 hd hlk ?_
  have hK := hC.2.2.1
  have p0 := aty_prim t ht
  have hty : ((refKind (aty t) != refKind (aty t)) || (!refKind (aty t) && aty t != aty t)) = false := by
    rw [p0.1]
    simp
  have ac1 : (toString "arraycopy: ").toList.length = 11 := by decide
  have q0 : (toString (Native.java_lang_System.arraycopy.kindName (aty t))).toList.length ≤ 8 := p0.2
  have q1 := nat_print (n := n0) (by omega)
  have q2 := nat_print (n := n1) (by omega)
  have q3 := int32_print sp
  have q4 := int32_print dp
  have q5 := int32_print n
  have b1 : (toString "[").toList.length = 1 := by decide
  have b2 : (toString "]").toList.length = 1 := by decide
  have b3 : (toString " out of bounds for ").toList.length = 19 := by decide
  have fin : ∀ w : String, w.toList.length ≤ 200 → (("arraycopy: " ++ w) == notModelled) = false ∧ (stringBytes (stringToUtf16 ("arraycopy: " ++ w))).size ≤ 3400 := fun w hw => ac_text (c := 'a') (rest := "rraycopy: ".toList ++ w.toList) (by simp only [String.toList_append]; rfl) (by decide) (by
    rw [String.toList_append, List.length_append]
    have : "arraycopy: ".toList.length = 11 := by decide
    omega)
  have arr : ∀ k : Nat, (toString k).toList.length ≤ 10 → (toString (Native.java_lang_System.arraycopy.kindName (aty t)) ++ toString "[" ++ toString k ++ toString "]").toList.length ≤ 20 := fun k hk => by
    simp only [String.toList_append, List.length_append]
    omega
  by_cases d1 : sp < 0
  · skip
    have c1 : (toString "source index ").toList.length = 13 := by decide
    have c2 := arr n0 q1
    have c3 : (toString (sp)).toList.length ≤ 11 := q3
    have hw : (toString "source index " ++ toString (sp) ++ toString " out of bounds for " ++ toString (toString (Native.java_lang_System.arraycopy.kindName (aty t)) ++ toString "[" ++ toString n0 ++ toString "]")).toList.length ≤ 200 := by
      have c4 : (toString (toString (Native.java_lang_System.arraycopy.kindName (aty t)) ++ toString "[" ++ toString n0 ++ toString "]")).toList.length ≤ 20 := c2
      simp only [String.toList_append, List.length_append] at c4 ⊢
      omega
    refine ⟨"arraycopy: " ++ (toString "source index " ++ toString (sp) ++ toString " out of bounds for " ++ toString (toString (Native.java_lang_System.arraycopy.kindName (aty t)) ++ toString "[" ++ toString n0 ++ toString "]")), (fin _ hw).1, (fin _ hw).2, fun U hU hv E hE => ?_⟩
    obtain ⟨cs, kcs, c0, g1, g2, g3, g4, g5⟩ := arr_kind hWo hK ht h1 hU hv
    obtain ⟨cd, kcd, c1, k1, k2, k3, k4, k5⟩ := arr_kind hWo hK ht h2 hU hv
    rw [Native.java_lang_System.arraycopy.sem_refs]
    unfold Native.java_lang_System.arraycopy.behind
    simp only [wp_bind', W.classOf, W.theClass, g1, k1, g4, k4, Option.some.injEq, exists_eq_left', g5, k5]
    refine ⟨g2, k2, ?_⟩
    unfold refKind at hty
    simp only [hty, Bool.false_eq_true, if_false]
    simp only [wp_bind', W.sizeOf, g1, k1, Option.some.injEq, exists_eq_left', g3, k3]
    simp only [if_pos d1]
    simp only [wp_bind', W.mark, W.throwNew]
    exact hE _
  by_cases d2 : dp < 0
  · skip
    have c1 : (toString "destination index ").toList.length = 18 := by decide
    have c2 := arr n1 q2
    have c3 : (toString (dp)).toList.length ≤ 11 := q4
    have hw : (toString "destination index " ++ toString (dp) ++ toString " out of bounds for " ++ toString (toString (Native.java_lang_System.arraycopy.kindName (aty t)) ++ toString "[" ++ toString n1 ++ toString "]")).toList.length ≤ 200 := by
      have c4 : (toString (toString (Native.java_lang_System.arraycopy.kindName (aty t)) ++ toString "[" ++ toString n1 ++ toString "]")).toList.length ≤ 20 := c2
      simp only [String.toList_append, List.length_append] at c4 ⊢
      omega
    refine ⟨"arraycopy: " ++ (toString "destination index " ++ toString (dp) ++ toString " out of bounds for " ++ toString (toString (Native.java_lang_System.arraycopy.kindName (aty t)) ++ toString "[" ++ toString n1 ++ toString "]")), (fin _ hw).1, (fin _ hw).2, fun U hU hv E hE => ?_⟩
    obtain ⟨cs, kcs, c0, g1, g2, g3, g4, g5⟩ := arr_kind hWo hK ht h1 hU hv
    obtain ⟨cd, kcd, c1, k1, k2, k3, k4, k5⟩ := arr_kind hWo hK ht h2 hU hv
    rw [Native.java_lang_System.arraycopy.sem_refs]
    unfold Native.java_lang_System.arraycopy.behind
    simp only [wp_bind', W.classOf, W.theClass, g1, k1, g4, k4, Option.some.injEq, exists_eq_left', g5, k5]
    refine ⟨g2, k2, ?_⟩
    unfold refKind at hty
    simp only [hty, Bool.false_eq_true, if_false]
    simp only [wp_bind', W.sizeOf, g1, k1, Option.some.injEq, exists_eq_left', g3, k3]
    simp only [if_neg d1, if_pos d2]
    simp only [wp_bind', W.mark, W.throwNew]
    exact hE _
  by_cases d3 : n < 0
  · skip
    have c1 : (toString "length ").toList.length = 7 := by decide
    have c2 : (toString " is negative").toList.length = 12 := by decide
    have hw : (toString "length " ++ toString n ++ toString " is negative").toList.length ≤ 200 := by
      simp only [String.toList_append, List.length_append]
      omega
    refine ⟨"arraycopy: " ++ (toString "length " ++ toString n ++ toString " is negative"), (fin _ hw).1, (fin _ hw).2, fun U hU hv E hE => ?_⟩
    obtain ⟨cs, kcs, c0, g1, g2, g3, g4, g5⟩ := arr_kind hWo hK ht h1 hU hv
    obtain ⟨cd, kcd, c1, k1, k2, k3, k4, k5⟩ := arr_kind hWo hK ht h2 hU hv
    rw [Native.java_lang_System.arraycopy.sem_refs]
    unfold Native.java_lang_System.arraycopy.behind
    simp only [wp_bind', W.classOf, W.theClass, g1, k1, g4, k4, Option.some.injEq, exists_eq_left', g5, k5]
    refine ⟨g2, k2, ?_⟩
    unfold refKind at hty
    simp only [hty, Bool.false_eq_true, if_false]
    simp only [wp_bind', W.sizeOf, g1, k1, Option.some.injEq, exists_eq_left', g3, k3]
    simp only [if_neg d1, if_neg d2, if_pos d3]
    simp only [wp_bind', W.mark, W.throwNew]
    exact hE _
  have e1 := toNatClampNeg_of_not_neg32 sp d1
  have e2 := toNatClampNeg_of_not_neg32 dp d2
  have e3 := toNatClampNeg_of_not_neg32 n d3
  have m1 := Int32.toInt_lt sp
  have m2 := Int32.toInt_lt dp
  have m3 := Int32.toInt_lt n
  by_cases d4 : sp.toInt + n.toInt > n0
  · skip
    have c1 : (toString "last source index ").toList.length = 18 := by decide
    have c2 := arr n0 q1
    have c3 : (toString (sp.toInt + n.toInt)).toList.length ≤ 11 := Nat.le_trans (int_print (by omega) (by omega)) (by omega)
    have hw : (toString "last source index " ++ toString (sp.toInt + n.toInt) ++ toString " out of bounds for " ++ toString (toString (Native.java_lang_System.arraycopy.kindName (aty t)) ++ toString "[" ++ toString n0 ++ toString "]")).toList.length ≤ 200 := by
      have c4 : (toString (toString (Native.java_lang_System.arraycopy.kindName (aty t)) ++ toString "[" ++ toString n0 ++ toString "]")).toList.length ≤ 20 := c2
      simp only [String.toList_append, List.length_append] at c4 ⊢
      omega
    refine ⟨"arraycopy: " ++ (toString "last source index " ++ toString (sp.toInt + n.toInt) ++ toString " out of bounds for " ++ toString (toString (Native.java_lang_System.arraycopy.kindName (aty t)) ++ toString "[" ++ toString n0 ++ toString "]")), (fin _ hw).1, (fin _ hw).2, fun U hU hv E hE => ?_⟩
    obtain ⟨cs, kcs, c0, g1, g2, g3, g4, g5⟩ := arr_kind hWo hK ht h1 hU hv
    obtain ⟨cd, kcd, c1, k1, k2, k3, k4, k5⟩ := arr_kind hWo hK ht h2 hU hv
    rw [Native.java_lang_System.arraycopy.sem_refs]
    unfold Native.java_lang_System.arraycopy.behind
    simp only [wp_bind', W.classOf, W.theClass, g1, k1, g4, k4, Option.some.injEq, exists_eq_left', g5, k5]
    refine ⟨g2, k2, ?_⟩
    unfold refKind at hty
    simp only [hty, Bool.false_eq_true, if_false]
    simp only [wp_bind', W.sizeOf, g1, k1, Option.some.injEq, exists_eq_left', g3, k3]
    simp only [if_neg d1, if_neg d2, if_neg d3, if_pos d4]
    simp only [wp_bind', W.mark, W.throwNew]
    exact hE _
  have d5 : dp.toInt + n.toInt > n1 := by
    rcases hb with q | q | q | q | q
    · exact absurd q d1
    · exact absurd q d2
    · exact absurd q d3
    · omega
    · omega
  have c1 : (toString "last destination index ").toList.length = 23 := by decide
  have c2 := arr n1 q2
  have c3 : (toString (dp.toInt + n.toInt)).toList.length ≤ 11 := Nat.le_trans (int_print (by omega) (by omega)) (by omega)
  have hw : (toString "last destination index " ++ toString (dp.toInt + n.toInt) ++ toString " out of bounds for " ++ toString (toString (Native.java_lang_System.arraycopy.kindName (aty t)) ++ toString "[" ++ toString n1 ++ toString "]")).toList.length ≤ 200 := by
    have c4 : (toString (toString (Native.java_lang_System.arraycopy.kindName (aty t)) ++ toString "[" ++ toString n1 ++ toString "]")).toList.length ≤ 20 := c2
    simp only [String.toList_append, List.length_append] at c4 ⊢
    omega
  refine ⟨"arraycopy: " ++ (toString "last destination index " ++ toString (dp.toInt + n.toInt) ++ toString " out of bounds for " ++ toString (toString (Native.java_lang_System.arraycopy.kindName (aty t)) ++ toString "[" ++ toString n1 ++ toString "]")), (fin _ hw).1, (fin _ hw).2, fun U hU hv E hE => ?_⟩
  obtain ⟨cs, kcs, c0, g1, g2, g3, g4, g5⟩ := arr_kind hWo hK ht h1 hU hv
  obtain ⟨cd, kcd, c1, k1, k2, k3, k4, k5⟩ := arr_kind hWo hK ht h2 hU hv
  rw [Native.java_lang_System.arraycopy.sem_refs]
  unfold Native.java_lang_System.arraycopy.behind
  simp only [wp_bind', W.classOf, W.theClass, g1, k1, g4, k4, Option.some.injEq, exists_eq_left', g5, k5]
  refine ⟨g2, k2, ?_⟩
  unfold refKind at hty
  simp only [hty, Bool.false_eq_true, if_false]
  simp only [wp_bind', W.sizeOf, g1, k1, Option.some.injEq, exists_eq_left', g3, k3]
  simp only [if_neg d1, if_neg d2, if_neg d3, if_neg d4, if_pos d5]
  simp only [wp_bind', W.mark, W.throwNew]
  exact hE _
