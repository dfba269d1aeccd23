/-! instructions on locals and stack alone: checked, and sound -/
def cstB (own : String) (i : Nat) (v : Value) : Bool := cstT.any fun q => decide (q.1 = own) && decide (q.2.1 = i) && decide (q.2.2 = v)
theorem stL_lt {L L' : Lo} {a : Nat} {w : Value} (h : stL L a w = some L') : a < L.length := by
  unfold stL at h
  split at h
  · rename_i hc
    exact of_decide_eq_true hc
  · cases h
theorem con_ra (z : Ad) (x : Nat) : con z (.retAddr x) = .null ∨ ∃ a, con z (.retAddr x) = .ref a := by
  show va_rf (z.1 x) = _ ∨ ∃ a, va_rf (z.1 x) = _
  cases z.1 x with
  | none => exact Or.inl rfl
  | some a => exact Or.inr ⟨a, rfl⟩
theorem cstB_ok {own : String} {i : Nat} {v : Value} (h : cstB own i v = true) : cstP (own, i, v) := by
  obtain ⟨q, hq, h2⟩ := List.any_eq_true.mp h
  simp only [Bool.and_eq_true, decide_eq_true_eq] at h2
  obtain ⟨⟨h3, h4⟩, h5⟩ := h2
  have h6 := cstT_ok q hq
  obtain ⟨q1, q2, q3⟩ := q
  dsimp only at h3 h4 h5
  subst h3; subst h4; subst h5
  exact h6
def pokB (own : String) (ins : Instr) (len a : Nat) (v : Value) : Bool := match ins with
  | .iconst n => decide (len = 1) && decide (Value.int (Int32.ofInt n) = v)
  | .bipush n => decide (len = 2) && decide (Value.int (Int8.ofInt n).toInt32 = v)
  | .sipush n => decide (len = 3) && decide (Value.int (Int16.ofInt n).toInt32 = v)
  | .lconst n => decide (len = 1) && decide (Value.long (Int64.ofNat (n : Nat)) = v)
  | .ldc i => decide (len = 2) && cstB own i v && (match v with | .int _ => true | _ => false)
  | .ldc_w i => decide (len = 3) && cstB own i v && (match v with | .int _ => true | _ => false)
  | .ldc2_w i => decide (len = 3) && cstB own i v && (match v with | .long _ => true | _ => false)
  | .iload_n k => decide (len = 1) && decide (k.val = a)
  | .lload_n k => decide (len = 1) && decide (k.val = a)
  | .aload_n k => decide (len = 1) && decide (k.val = a)
  | .istore_n k => decide (len = 1) && decide (k.val = a)
  | .astore_n k => decide (len = 1) && decide (k.val = a)
  | .iload k => decide (len = 2) && decide (k = a)
  | .lload k => decide (len = 2) && decide (k = a)
  | .aload k => decide (len = 2) && decide (k = a)
  | .istore k => decide (len = 2) && decide (k = a)
  | .astore k => decide (len = 2) && decide (k = a)
  | .iinc k n => decide (len = 3) && decide (k = a) && decide (Value.int (Int32.ofInt n) = v)
  | _ => decide (len = 1)
section Pure
variable {p : Program} {l : Launch} {e : Env} {R : Room} {s : State} {m : MethodId} {args : Array Value} {below : List Frame} {meth : Method} {c : Code} {H : Heap} {locs : List Loc} {cells slots : Nat} {Q : State → Prop} {cc : ByteArray}
theorem bI_snd {f : Int32 → Int32 → Int32} {z : Ad} {nf : Nat} {ls : Array Slot} {L L' : Lo} {st st' : List Value} {pc : Nat} (row : ∀ {x y : Int32} {rest : List Value}, W p l e R s m args below meth c H locs cells slots Q (F0 m (pc + 1) ls (.int (f x y) :: rest)) → W p l e R s m args below meth c H locs cells slots Q (F0 m pc ls (.int y :: .int x :: rest)))
    (h : bI f L st = some (L', st')) (hl : hasL z nf ls L) (hs : okS nf st) (kk : ∀ ls', hasL z nf ls' L' → okS nf st' → W p l e R s m args below meth c H locs cells slots Q (F0 m (pc + 1) ls' (st'.map (con z)))) : W p l e R s m args below meth c H locs cells slots Q (F0 m pc ls (st.map (con z))) := by
  unfold bI at h
  split at h
  · cases h
    exact row (kk ls hl (okS.cons trivial hs.tail.tail))
  · cases h
theorem bL_snd {f : Int64 → Int64 → Int64} {z : Ad} {nf : Nat} {ls : Array Slot} {L L' : Lo} {st st' : List Value} {pc : Nat} (row : ∀ {x y : Int64} {rest : List Value}, W p l e R s m args below meth c H locs cells slots Q (F0 m (pc + 1) ls (.long (f x y) :: rest)) → W p l e R s m args below meth c H locs cells slots Q (F0 m pc ls (.long y :: .long x :: rest)))
    (h : bL f L st = some (L', st')) (hl : hasL z nf ls L) (hs : okS nf st) (kk : ∀ ls', hasL z nf ls' L' → okS nf st' → W p l e R s m args below meth c H locs cells slots Q (F0 m (pc + 1) ls' (st'.map (con z)))) : W p l e R s m args below meth c H locs cells slots Q (F0 m pc ls (st.map (con z))) := by
  unfold bL at h
  split at h
  · cases h
    exact row (kk ls hl (okS.cons trivial hs.tail.tail))
  · cases h
set_option maxHeartbeats 4000000 in
theorem pst_snd (hx : p.tables.exec = Jvm.exec) (hb : c.code = cc) {own : String} (hown : s.vm.findClass own = some m.cls) (hts : ∀ w ∈ lw_all, w.before args s = true) {z : Ad} {nf : Nat} {ls : Array Slot} {L L' : Lo} {st st' : List Value} {pc len a : Nat} {ins : Instr} {v : Value}
    (hd : decode cc pc = .ok (ins, len)) (hok : pokB own ins len a v = true) (h : pst ins a v L st = some (L', st')) (hl : hasL z nf ls L) (hs : okS nf st)
    (kk : ∀ ls', hasL z nf ls' L' → okS nf st' → W p l e R s m args below meth c H locs cells slots Q (F0 m (pc + len) ls' (st'.map (con z)))) : W p l e R s m args below meth c H locs cells slots Q (F0 m pc ls (st.map (con z))) := by
  have hLv : ∀ (i : Nat) (v : Value), L[i]? = some (some v) → vok nf v := fun i v h => (hl.2.2 i v h).1
  have hlv := hl.lv
  unfold pst at h
  split at h
  case h_1 => simp only [pokB, Bool.and_eq_true, decide_eq_true_eq] at hok; obtain ⟨rfl, rfl⟩ := hok; cases h; exact lv_iconst hx hb hd rfl (kk ls hl (okS.cons trivial hs))
  case h_2 => simp only [pokB, Bool.and_eq_true, decide_eq_true_eq] at hok; obtain ⟨rfl, rfl⟩ := hok; cases h; exact lv_bipush hx hb hd rfl (kk ls hl (okS.cons trivial hs))
  case h_3 => simp only [pokB, Bool.and_eq_true, decide_eq_true_eq] at hok; obtain ⟨rfl, rfl⟩ := hok; cases h; exact lv_sipush hx hb hd rfl (kk ls hl (okS.cons trivial hs))
  case h_4 => simp only [pokB, Bool.and_eq_true, decide_eq_true_eq] at hok; obtain ⟨rfl, rfl⟩ := hok; cases h; exact lv_lconst hx hb hd rfl (kk ls hl (okS.cons trivial hs))
  case h_5 =>
    simp only [pokB, Bool.and_eq_true, decide_eq_true_eq] at hok
    obtain ⟨⟨rfl, h1⟩, h2⟩ := hok
    cases h
    have h3 := cstB_ok h1
    cases v <;> first | cases h2 | skip
    exact lv_ldc hx hb hown (hts _ h3) hd (kk ls hl (okS.cons trivial hs))
  case h_6 =>
    simp only [pokB, Bool.and_eq_true, decide_eq_true_eq] at hok
    obtain ⟨⟨rfl, h1⟩, h2⟩ := hok
    cases h
    have h3 := cstB_ok h1
    cases v <;> first | cases h2 | skip
    exact lv_ldcw hx hb hown (hts _ h3) hd (kk ls hl (okS.cons trivial hs))
  case h_7 =>
    simp only [pokB, Bool.and_eq_true, decide_eq_true_eq] at hok
    obtain ⟨⟨rfl, h1⟩, h2⟩ := hok
    cases h
    have h3 := cstB_ok h1
    cases v <;> first | cases h2 | skip
    exact lv_ldc2 hx hb hown (hts _ h3) hd (kk ls hl (okS.cons trivial hs))
  case h_8 => simp only [pokB, decide_eq_true_eq] at hok; subst hok; cases h; exact lv_null hx hb hd (kk ls hl (okS.cons trivial hs))
  case h_9 =>
    simp only [pokB, Bool.and_eq_true, decide_eq_true_eq] at hok; obtain ⟨rfl, hk⟩ := hok
    unfold ldI at h; split at h
    · rename_i hg; cases h; exact lv_iload_n hx hb hd hk (hl.2.2 _ _ (getD_some hg)).2 (kk ls hl (okS.cons trivial hs))
    · cases h
  case h_10 =>
    simp only [pokB, Bool.and_eq_true, decide_eq_true_eq] at hok; obtain ⟨rfl, rfl⟩ := hok
    unfold ldI at h; split at h
    · rename_i hg; cases h; exact lv_iload hx hb hd (hl.2.2 _ _ (getD_some hg)).2 (kk ls hl (okS.cons trivial hs))
    · cases h
  case h_11 =>
    simp only [pokB, Bool.and_eq_true, decide_eq_true_eq] at hok; obtain ⟨rfl, hk⟩ := hok
    unfold ldL at h; split at h
    · rename_i hg; cases h; exact lv_lload_n hx hb hd hk (hl.2.2 _ _ (getD_some hg)).2 (kk ls hl (okS.cons trivial hs))
    · cases h
  case h_12 =>
    simp only [pokB, Bool.and_eq_true, decide_eq_true_eq] at hok; obtain ⟨rfl, rfl⟩ := hok
    unfold ldL at h; split at h
    · rename_i hg; cases h; exact lv_lload hx hb hd (hl.2.2 _ _ (getD_some hg)).2 (kk ls hl (okS.cons trivial hs))
    · cases h
  case h_13 =>
    simp only [pokB, Bool.and_eq_true, decide_eq_true_eq] at hok; obtain ⟨rfl, hk⟩ := hok
    unfold ldA at h; split at h
    · rename_i hg; cases h; exact lv_aload_n hx hb hd hk (hl.2.2 _ _ (getD_some hg)).2 (kk ls hl (okS.cons (hLv _ _ (getD_some hg)) hs))
    · rename_i hg; cases h; exact lv_aload_nN hx hb hd hk (hl.2.2 _ _ (getD_some hg)).2 (kk ls hl (okS.cons trivial hs))
    · rename_i x hg; cases h
      have h2 := (hl.2.2 _ _ (getD_some hg)).2
      have k2 := kk ls hl (okS.cons trivial hs)
      rw [List.map_cons] at k2
      rcases con_ra z x with q | ⟨b, q⟩ <;> rw [q] at h2 k2
      · exact lv_aload_nN hx hb hd hk h2 k2
      · exact lv_aload_n hx hb hd hk h2 k2
    · cases h
  case h_14 =>
    simp only [pokB, Bool.and_eq_true, decide_eq_true_eq] at hok; obtain ⟨rfl, rfl⟩ := hok
    unfold ldA at h; split at h
    · rename_i hg; cases h; exact lv_aload hx hb hd (hl.2.2 _ _ (getD_some hg)).2 (kk ls hl (okS.cons (hLv _ _ (getD_some hg)) hs))
    · rename_i hg; cases h; exact lv_aloadN hx hb hd (hl.2.2 _ _ (getD_some hg)).2 (kk ls hl (okS.cons trivial hs))
    · rename_i x hg; cases h
      have h2 := (hl.2.2 _ _ (getD_some hg)).2
      have k2 := kk ls hl (okS.cons trivial hs)
      rw [List.map_cons] at k2
      rcases con_ra z x with q | ⟨b, q⟩ <;> rw [q] at h2 k2
      · exact lv_aloadN hx hb hd h2 k2
      · exact lv_aload hx hb hd h2 k2
    · cases h
  case h_15 =>
    simp only [pokB, Bool.and_eq_true, decide_eq_true_eq] at hok; obtain ⟨rfl, hk⟩ := hok
    unfold siI at h; split at h
    · obtain ⟨l2, h1, h2⟩ := Option.map_eq_some_iff.mp h
      cases h2
      exact lv_istore_n hx hb hd hk hlv (by unfold stL at h1; split at h1; simp_all; cases h1) rfl (fun ls' hl' => kk ls' (stL_has (z := z) h1 hLv trivial hl').1 hs.tail)
    · cases h
  case h_16 =>
    simp only [pokB, Bool.and_eq_true, decide_eq_true_eq] at hok; obtain ⟨rfl, rfl⟩ := hok
    unfold siI at h; split at h
    · obtain ⟨l2, h1, h2⟩ := Option.map_eq_some_iff.mp h
      cases h2
      exact lv_istore hx hb hd hlv (by unfold stL at h1; split at h1; simp_all; cases h1) rfl (fun ls' hl' => kk ls' (stL_has (z := z) h1 hLv trivial hl').1 hs.tail)
    · cases h
  case h_17 =>
    simp only [pokB, Bool.and_eq_true, decide_eq_true_eq] at hok; obtain ⟨rfl, hk⟩ := hok
    unfold siA at h; split at h
    · obtain ⟨l2, h1, h2⟩ := Option.map_eq_some_iff.mp h
      cases h2
      exact lv_astore_n hx hb hd hk hlv (by unfold stL at h1; split at h1; simp_all; cases h1) rfl (fun ls' hl' => kk ls' (stL_has (z := z) h1 hLv hs.head hl').1 hs.tail)
    · obtain ⟨l2, h1, h2⟩ := Option.map_eq_some_iff.mp h
      cases h2
      exact lv_astore_nN hx hb hd hk hlv (by unfold stL at h1; split at h1; simp_all; cases h1) rfl (fun ls' hl' => kk ls' (stL_has (z := z) h1 hLv trivial hl').1 hs.tail)
    · rename_i x r
      obtain ⟨l2, h1, h2⟩ := Option.map_eq_some_iff.mp h
      cases h2
      have key := fun ls' hl' => kk ls' (stL_has (z := z) h1 hLv trivial hl').1 hs.tail
      have hlt := stL_lt h1
      rw [List.map_cons]
      rcases con_ra z x with q | ⟨b, q⟩ <;> rw [q] at key <;> rw [q]
      · exact lv_astore_nN hx hb hd hk hlv hlt rfl key
      · exact lv_astore_n hx hb hd hk hlv hlt rfl key
    · cases h
  case h_18 =>
    simp only [pokB, Bool.and_eq_true, decide_eq_true_eq] at hok; obtain ⟨rfl, rfl⟩ := hok
    unfold siA at h; split at h
    · obtain ⟨l2, h1, h2⟩ := Option.map_eq_some_iff.mp h
      cases h2
      exact lv_astore hx hb hd hlv (by unfold stL at h1; split at h1; simp_all; cases h1) rfl (fun ls' hl' => kk ls' (stL_has (z := z) h1 hLv hs.head hl').1 hs.tail)
    · obtain ⟨l2, h1, h2⟩ := Option.map_eq_some_iff.mp h
      cases h2
      exact lv_astoreN hx hb hd hlv (by unfold stL at h1; split at h1; simp_all; cases h1) rfl (fun ls' hl' => kk ls' (stL_has (z := z) h1 hLv trivial hl').1 hs.tail)
    · rename_i x r
      obtain ⟨l2, h1, h2⟩ := Option.map_eq_some_iff.mp h
      cases h2
      have key := fun ls' hl' => kk ls' (stL_has (z := z) h1 hLv trivial hl').1 hs.tail
      have hlt := stL_lt h1
      rw [List.map_cons]
      rcases con_ra z x with q | ⟨b, q⟩ <;> rw [q] at key <;> rw [q]
      · exact lv_astoreN hx hb hd hlv hlt rfl key
      · exact lv_astore hx hb hd hlv hlt rfl key
    · cases h
  case h_19 =>
    simp only [pokB, Bool.and_eq_true, decide_eq_true_eq] at hok; obtain ⟨⟨rfl, rfl⟩, rfl⟩ := hok
    unfold inc at h; dsimp only at h; split at h
    · rename_i x hg
      obtain ⟨l2, h1, h2⟩ := Option.map_eq_some_iff.mp h
      cases h2
      obtain ⟨kq, hkq⟩ := List.getElem?_of_mem (lvL_mem.mpr ⟨_, getD_some hg, rfl⟩ : (_, con z (.int x)) ∈ lvL z L)
      exact lv_iinc hx hb hd hlv hkq rfl (by unfold stL at h1; split at h1; simp_all; cases h1) rfl (fun ls' hl' => kk ls' (stL_has (z := z) h1 hLv trivial hl').1 hs)
    · cases h
  case h_20 => simp only [pokB, decide_eq_true_eq] at hok; subst hok; exact bI_snd (fun k => lv_iadd hx hb hd k) h hl hs kk
  case h_21 => simp only [pokB, decide_eq_true_eq] at hok; subst hok; exact bI_snd (fun k => lv_isub hx hb hd k) h hl hs kk
  case h_22 => simp only [pokB, decide_eq_true_eq] at hok; subst hok; exact bI_snd (fun k => lv_imul hx hb hd k) h hl hs kk
  case h_23 => simp only [pokB, decide_eq_true_eq] at hok; subst hok; exact bI_snd (fun k => lv_iand hx hb hd k) h hl hs kk
  case h_24 => simp only [pokB, decide_eq_true_eq] at hok; subst hok; exact bI_snd (fun k => lv_ior hx hb hd k) h hl hs kk
  case h_25 => simp only [pokB, decide_eq_true_eq] at hok; subst hok; exact bI_snd (fun k => lv_ixor hx hb hd k) h hl hs kk
  case h_26 => simp only [pokB, decide_eq_true_eq] at hok; subst hok; exact bI_snd (fun k => lv_ishl hx hb hd k) h hl hs kk
  case h_27 => simp only [pokB, decide_eq_true_eq] at hok; subst hok; exact bI_snd (fun k => lv_ishr hx hb hd k) h hl hs kk
  case h_28 => simp only [pokB, decide_eq_true_eq] at hok; subst hok; exact bI_snd (fun k => lv_iushr hx hb hd rfl k) h hl hs kk
  case h_29 => simp only [pokB, decide_eq_true_eq] at hok; subst hok; exact bL_snd (fun k => lv_ladd hx hb hd k) h hl hs kk
  case h_30 => simp only [pokB, decide_eq_true_eq] at hok; subst hok; exact bL_snd (fun k => lv_lmul hx hb hd k) h hl hs kk
  case h_31 => simp only [pokB, decide_eq_true_eq] at hok; subst hok; exact bL_snd (fun k => lv_land hx hb hd k) h hl hs kk
  case h_32 => simp only [pokB, decide_eq_true_eq] at hok; subst hok; exact bL_snd (fun k => lv_lor hx hb hd k) h hl hs kk
  case h_33 =>
    simp only [pokB, decide_eq_true_eq] at hok; subst hok
    split at h
    · cases h; exact lv_lshl hx hb hd rfl (kk ls hl (okS.cons trivial hs.tail.tail))
    · cases h
  case h_34 =>
    simp only [pokB, decide_eq_true_eq] at hok; subst hok
    split at h
    · cases h; exact W.lcmp hx hb hd (kk ls hl (okS.cons trivial hs.tail.tail))
    · cases h
  case h_35 =>
    simp only [pokB, decide_eq_true_eq] at hok; subst hok
    unfold uI at h; split at h
    · cases h; exact lv_i2l hx hb hd rfl (kk ls hl (okS.cons trivial hs.tail))
    · cases h
  case h_36 =>
    simp only [pokB, decide_eq_true_eq] at hok; subst hok
    unfold uI at h; split at h
    · cases h; exact lv_i2b hx hb hd rfl (kk ls hl (okS.cons trivial hs.tail))
    · cases h
  case h_37 =>
    simp only [pokB, decide_eq_true_eq] at hok; subst hok
    unfold uI at h; split at h
    · cases h; exact lv_i2s hx hb hd rfl (kk ls hl (okS.cons trivial hs.tail))
    · cases h
  case h_38 =>
    simp only [pokB, decide_eq_true_eq] at hok; subst hok
    unfold uI at h; split at h
    · cases h; exact lv_i2c hx hb hd rfl (kk ls hl (okS.cons trivial hs.tail))
    · cases h
  case h_39 =>
    simp only [pokB, decide_eq_true_eq] at hok; subst hok
    split at h
    · cases h; exact lv_l2i hx hb hd rfl (kk ls hl (okS.cons trivial hs.tail))
    · cases h
  case h_40 =>
    simp only [pokB, decide_eq_true_eq] at hok; subst hok
    split at h
    · split at h
      · rename_i hc
        cases h; exact lv_dup hx hb hd (by rw [con_cat]; exact cat1_iff.mp hc) (kk ls hl (okS.cons hs.head hs))
      · cases h
    · cases h
  case h_41 =>
    simp only [pokB, decide_eq_true_eq] at hok; subst hok
    split at h
    · split at h
      · rename_i hc
        rw [Bool.and_eq_true] at hc
        cases h; exact lv_dup2_11 hx hb hd (by rw [con_cat]; exact cat1_iff.mp hc.1) (by rw [con_cat]; exact cat1_iff.mp hc.2) (kk ls hl (okS.cons hs.head (okS.cons hs.tail.head hs)))
      · cases h
    · cases h
  case h_42 =>
    simp only [pokB, decide_eq_true_eq] at hok; subst hok
    split at h
    · split at h
      · rename_i hc
        cases h; exact lv_pop hx hb hd (by rw [con_cat]; exact cat1_iff.mp hc) (kk ls hl hs.tail)
      · cases h
    · cases h
  case h_43 => cases h
end Pure
