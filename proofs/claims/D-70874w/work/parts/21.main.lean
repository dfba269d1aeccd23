theorem take_last {st : List Value} {b : Nat} {w : Value} (hb : b ≤ st.length) (h : (st.take b).getLast? = some w) : ∃ pre, st = pre ++ w :: st.drop b ∧ (st.take b).reverse = w :: pre.reverse ∧ pre.length + 1 = b := by
  obtain ⟨pre, hp⟩ := List.getLast?_eq_some_iff.mp h
  refine ⟨pre, ?_, by rw [hp]; simp, ?_⟩
  · have h2 := List.take_append_drop b st
    rw [hp] at h2
    rw [← h2]
    simp
    have h3 : (st.take b).length = b := by rw [List.length_take]; omega
    rw [hp] at h3
    simp at h3
    have h4 : st = pre ++ w :: st.drop b := by
      have := List.take_append_drop b st
      rw [hp] at this
      rw [← this]; simp [← h3]
    rw [← h4]
  · have h3 : (st.take b).length = b := by rw [List.length_take]; omega
    rw [hp] at h3
    simpa using h3
/-- the methods that may throw are called through an object, have no handlers -/
theorem thr_clk : (clk.all fun q => !(mthr q.2.2.1) || decide (q.2.2.2 = 0)) = true := by decide +kernel
theorem thr_kind {own : String} {i a k : Nat} (h : clkB own i a k = true) (hk : k ≠ 0) : mthr a = false := by
  obtain ⟨q, hq, h2⟩ := List.any_eq_true.mp h
  rw [decide_eq_true_eq] at h2
  subst h2
  have h3 := List.all_eq_true.mp thr_clk _ hq
  rw [Bool.or_eq_true, decide_eq_true_eq] at h3
  rcases h3 with h3 | h3
  · simpa using h3
  · exact absurd h3 hk
theorem thr_noW {own : String} {i a : Nat} (hm : mthr a = true) : ¬ clkB own i a 1 = true := fun h => by
  rw [thr_kind h (by decide)] at hm; cases hm
theorem thr_noS {own : String} {i a : Nat} (h : clkB own i a 2 = true) : mthr a = false := thr_kind h (by decide)
theorem thr_noI {own : String} {i a : Nat} (h : clkB own i a 3 = true ∨ clkB own i a 4 = true) : mthr a = false := h.elim (fun q => thr_kind q (by decide)) (fun q => thr_kind q (by decide))
theorem thr_noU {own : String} {i a : Nat} (h : clkB own i a 5 = true) : mthr a = false := thr_kind h (by decide)
theorem sw_snd {y pc a len : Nat} {ins : Instr} {ts : List Nat} {nf : Nat} {x : Int32} {r : List Value} {z : Ad} {p : Program} {l : Launch} {e : Env} {R : Room} {s : State} {m : MethodId} {args : Array Value} {below : List Frame} {meth : Method} {c : Code} {D : va_G} {dA : Nat → ClassId} {A : Nat → Prop} {Qf : State → Prop} {H : Heap} {locs : List Loc} {cells slots : Nat} {ls : Array Slot} (hC : Ctx y p l R s m args meth c D dA A) (hr : okS nf r) (hd : decode (mcod y) pc = .ok (ins, len)) (hck : swB ins pc a ts = true)
    (k1 : ∀ i, i < ts.length → x = nI i → okS nf r → W p l e R s m args below meth c H locs cells slots Qf (F0 m (ts.getD i 0) ls (r.map (con z)))) (k2 : (x < 0 ∨ nI ts.length ≤ x) → okS nf r → W p l e R s m args below meth c H locs cells slots Qf (F0 m a ls (r.map (con z)))) : W p l e R s m args below meth c H locs cells slots Qf (F0 m pc ls (.int x :: r.map (con z))) := by
  obtain ⟨⟨hx, hb, -⟩, -⟩ := hC
  unfold swB at hck
  split at hck
  · rename_i d lo hi offs
    simp only [Bool.and_eq_true, decide_eq_true_eq] at hck
    obtain ⟨⟨⟨rfl, hhi⟩, hda⟩, hof⟩ := hck
    have hl := congrArg List.length hof
    simp only [List.length_map] at hl
    by_cases hlt : x.toInt < 0
    · exact lv_tableOut hx hb hd (Or.inl hlt) hda (k2 (Or.inl (by rw [Int32.lt_iff_toInt_lt]; simpa using hlt)) hr)
    · by_cases hgt : hi < x.toInt
      · refine lv_tableOut hx hb hd (Or.inr hgt) hda (k2 (Or.inr ?_) hr)
        rw [Int32.le_iff_toInt_le]
        have hxm : x.toInt < 2 ^ 31 := Int32.toInt_lt x
        rw [nI_toInt (by omega)]
        omega
      · have hi2 : x.toInt.toNat < ts.length := by omega
        have ho : ∃ off, offs[(x.toInt - 0).toNat]? = some off ∧ (pc : Int) + off = (ts.getD x.toInt.toNat 0 : Nat) := by
          have h1 : x.toInt.toNat < offs.toList.length := by omega
          refine ⟨offs.toList[x.toInt.toNat], ?_, ?_⟩
          · rw [Int.sub_zero, ← Array.getElem?_toList]
            exact List.getElem?_eq_getElem h1
          · have h2 : (offs.toList.map (fun o => (pc : Int) + o))[x.toInt.toNat]? = (ts.map fun (t : Nat) => (t : Int))[x.toInt.toNat]? := by rw [hof]
            rw [List.getElem?_map, List.getElem?_map, List.getElem?_eq_getElem h1, List.getElem?_eq_getElem hi2] at h2
            rw [List.getD_eq_getElem?_getD, List.getElem?_eq_getElem hi2]
            exact Option.some.inj h2
        obtain ⟨off, ho1, ho2⟩ := ho
        refine lv_tableIn hx hb hd hlt hgt ho1 ho2 (k1 x.toInt.toNat hi2 ?_ hr)
        have hxm : x.toInt < 2 ^ 31 := Int32.toInt_lt x
        apply Int32.toInt_inj.mp
        rw [nI_toInt (by omega)]
        omega
  · cases hck
theorem ldB_lt {ins : Instr} {a : Nat} (h : ldB ins a = true) (h5 : a ≠ 5) : a < 5 := by
  unfold ldB at h
  split at h
  · have q : a = 0 := by simpa using h
    omega
  · have q : a = 1 := by simpa using h
    omega
  · have q : a = 2 := by simpa using h
    omega
  · have q : a = 3 := by simpa using h
    omega
  · have q : a = 4 := by simpa using h
    omega
  · have q : a = 5 := by simpa using h
    exact absurd q h5
  · cases h
set_option maxHeartbeats 8000000 in
theorem step_snd (hall : ∀ y, y < 170 → chkA y = true) {y pc : Nat} {L : Lo} {st : List Value} {u : Nat × Nat} {X : Xs} {Q : Po} (h : stepF Snd y pc L st u X Q) : Snd y pc L st u X Q := by
  intro p l e R s m args below meth c D dA A Qf H locs ls z z0 nf0 hC hEnd hE hWo hag hnf hSv hl hok hlen hu
  unfold stepF at h
  cases ho : opAt y pc with
  | none => rw [ho] at h; exact absurd h id
  | some o =>
  rw [ho] at h
  obtain ⟨hy, hck, hd⟩ := op_facts hall ho
  obtain ⟨tag, len, ins, a, b, v, ts⟩ := o
  dsimp only at h hd
  have hls : ls.size = mloc y := hl.1.trans hlen
  have hx := hC.1.1
  have hb := hC.1.2.1
  have hown := hC.1.2.2.2.1
  have hts := hC.1.2.2.2.2
  have hK := hC.2.2.1
  have hA := hC.2.2.2.1
  have hRc : mmc y ≤ R.cells := hC.2.2.2.2.2.2.1
  have hRs : mms y ≤ R.slots := hC.2.2.2.2.2.2.2
  -- the same store
  have go : ∀ {pc' : Nat} {L' : Lo} {st' : List Value}, Snd y pc' L' st' u X Q → ∀ ls', hasL z X.1.2.2.1 ls' L' → okS X.1.2.2.1 st' → L'.length = mloc y → W p l e R s m args below meth c H locs u.1 u.2 Qf (F0 m pc' ls' (st'.map (con z))) := fun h' ls' hl' ok' len' => h' p l e R s m args below meth c D dA A Qf H locs ls' z z0 nf0 hC hEnd hE hWo hag hnf hSv hl' ok' len' hu
  -- another store over the same places
  have goX : ∀ {X' : Xs} {pc' : Nat} {st' : List Value}, X'.1.2.2 = X.1.2.2 → Snd y pc' L st' u X' Q → okS X.1.2.2.1 st' → ∀ H1 locs1, Wo D dA z A X' H1 → va_S A s.heap H1 locs1 → W p l e R s m args below meth c H1 locs1 u.1 u.2 Qf (F0 m pc' ls (st'.map (con z))) := fun {X' pc' st'} e1 h' ok' H1 locs1 hWo1 hS1 => h' p l e R s m args below meth c D dA A Qf H1 locs1 ls z z0 nf0 hC (by rw [e1]; exact hEnd) (by rw [e1]; exact hE) hWo1 hag (by rw [e1]; exact hnf) hS1 (by rw [e1]; exact hl) (by rw [e1]; exact ok') hlen hu
  split at h
  -- 0
  · split at h
    · rename_i L' st' hp
      exact pst_snd hx hb hown hts hd hck hp hl hok (fun ls' hl' ok' => go h ls' hl' ok' (by rw [pst_len hp]; exact hlen))
    · exact absurd h id
  -- 1
  · have hck : c1B ins len pc a = true := hck
    unfold c1B at hck
    split at h
    · rename_i q neg r hq
      simp only [Bool.and_eq_true, decide_eq_true_eq] at hck
      obtain ⟨rfl, hbr⟩ := hck
      exact cnd_snd hC hok hd hbr hq (fun c0 hr => go (h.1 c0) ls hl hr hlen) (fun c0 hr => go (h.2 c0) ls hl hr hlen)
    · exact absurd h id
  -- 2
  · have hck : c2B ins len pc a = true := hck
    unfold c2B at hck
    split at hck
    · simp only [Bool.and_eq_true, decide_eq_true_eq] at hck
      obtain ⟨rfl, hg⟩ := hck
      exact lv_goto hx hb hd hg (go h ls hl hok hlen)
    · cases hck
  -- 3
  · have hck : c3B y ins len a b = true := hck
    unfold c3B at hck
    split at h
    · rename_i k r
      split at hck
      · simp only [Bool.and_eq_true, decide_eq_true_eq] at hck
        obtain ⟨rfl, hf⟩ := hck
        exact gf_snd hC hWo h.1 hd hf (go h.2 ls hl (okS.cons (fv_vok hWo.1 (wf_lt hWo.1 h.1)) hok.tail) hlen)
      · cases hck
    · exact absurd h id
  -- 4
  · have hck : c4B y ins len a b = true := hck
    unfold c4B at hck
    split at h
    · rename_i w k r
      obtain ⟨hS, h⟩ := h
      split at hck
      · simp only [Bool.and_eq_true, decide_eq_true_eq] at hck
        obtain ⟨⟨rfl, hf⟩, hfin⟩ := hck
        obtain ⟨r0, n0, hP0, hmem0⟩ := flkB_ok hf
        obtain ⟨g1, g2, g3⟩ := flk_fact hmem0
        have h15 : a < 15 := by omega
        obtain ⟨t0, t1, t2, t3⟩ := fk_all a h15 b g2
        split at h
        · rename_i hk0
          obtain ⟨h1, h2⟩ := h
          have hf2 := rf_fits (z := z) (t0 hk0) h1
          exact pf_snd hC hWo hSv hS hd hf hfin hf2.1 hf2.2 (wl_putR hWo.1 hS hk0) (hWo.1.R h1 hok.head) (goX rfl h2 hok.tail.tail)
        · rename_i hk1
          split at h
          · exact pf_snd hC hWo hSv hS hd hf hfin (by rw [t1 hk1]; rfl) (by rw [t1 hk1]; rfl) (wl_putI hWo.1 hS (by rw [hk1]; decide)) hWo.1.I (goX rfl h hok.tail.tail)
          · exact absurd h id
        · rename_i hk2
          split at h
          · obtain ⟨h1, h2⟩ := h
            exact pf_snd hC hWo hSv hS hd hf hfin (by rw [t2 hk2]; rcases h1 with rfl | rfl <;> rfl) (by rw [t2 hk2]; rcases h1 with rfl | rfl <;> rfl) (wl_putI hWo.1 hS (by rw [hk2]; decide)) hWo.1.I (goX rfl h2 hok.tail.tail)
          · exact absurd h id
        · exact absurd h id
      · cases hck
    · exact absurd h id
  -- 5
  · have hck : c5B ins len a = true := hck
    unfold c5B at hck
    simp only [Bool.and_eq_true, decide_eq_true_eq] at hck
    obtain ⟨rfl, hld⟩ := hck
    split at h
    · rename_i i k r
      split at h
      · obtain ⟨n, h1, h2, h3⟩ := h
        have hi : ins = .laload := by unfold ldB at hld; split at hld <;> first | rfl | cases hld
        subst hi
        exact lald_snd hC hWo h1 h2 hd (go h3 ls hl (okS.cons trivial hok.tail.tail) hlen)
      · obtain ⟨t, n, h1, h2, h3, h4⟩ := h
        have hi : ins = .aaload := by unfold ldB at hld; split at hld <;> first | rfl | cases hld
        subst hi
        exact aald_snd hC hWo h1 h2 h3 hd (go h4 ls hl (okS.cons (hWo.1.1 k _ (wf_lt hWo.1 h1)).2 hok.tail.tail) hlen)
      · rename_i hn1 hn5
        obtain ⟨n, h1, h2, h3⟩ := h
        have ha5 : a < 5 := ldB_lt hld (fun q => hn5 q)
        exact ald_snd hC hWo h1 ha5 (fun q => hn1 q) h2 hd hld (go h3 ls hl (okS.cons trivial hok.tail.tail) hlen)
    · rename_i i r
      obtain ⟨rfl, h2, h3⟩ := h
      have hi : ins = .iaload := by unfold ldB at hld; split at hld <;> first | rfl | cases hld
      subst hi
      obtain ⟨⟨b0, hb0, hX0, hX1, hX2⟩, -⟩ := hE
      have e0 : con z (.retAddr 0) = .ref b0 := by show va_rf (z.1 0) = _; rw [hb0]; rfl
      rw [List.map_cons, List.map_cons, e0]
      exact va_sld hx hb hX0 hX1 hX2 hSv h2 hd (go h3 ls hl (okS.cons trivial hok.tail.tail) hlen)
    · exact absurd h id
  -- 6
  · have hck : c6B ins len a = true := hck
    unfold c6B at hck
    simp only [Bool.and_eq_true, decide_eq_true_eq] at hck
    obtain ⟨rfl, hsd⟩ := hck
    split at h
    · rename_i x i k r
      obtain ⟨n, h1, h2, h3, h4⟩ := h
      rcases h4 with ⟨h5, h6⟩ | ⟨h5, h6⟩
      · exact ast_snd hC hWo hSv h1 h3 h2 h5 hd hsd (goX rfl h6 hok.tail.tail.tail)
      · exact sO_snd hy h6.2 hC hEnd hE hWo hag hnf hSv hl hlen hd hsd (v := .int x) (Or.inl ⟨h2, h3, x, rfl⟩) h1 h5 h6.1
    · rename_i x i k r
      obtain ⟨rfl, n, h1, h4⟩ := h
      rcases h4 with ⟨h5, h6⟩ | ⟨h5, h6⟩
      · have hi : ins = .lastore := by unfold sdB at hsd; split at hsd <;> first | rfl | cases hsd
        subst hi
        exact last_snd hC hWo hSv h1 h5 hd (goX rfl h6 hok.tail.tail.tail)
      · exact sO_snd hy h6.2 hC hEnd hE hWo hag hnf hSv hl hlen hd hsd (v := .long x) (Or.inr ⟨rfl, x, rfl⟩) h1 h5 h6.1
    · rename_i q i k r
      obtain ⟨rfl, t, n, ci, h1, h2, h3, h4, h5⟩ := h
      have hi : ins = .aastore := by unfold sdB at hsd; split at hsd <;> first | rfl | cases hsd
      subst hi
      exact aast_snd hC hWo hSv h1 h2 h3 h4 hd (goX rfl h5 hok.tail.tail.tail)
    · rename_i x i r
      exact sN_snd hy h.2.2 hC hEnd hE hWo hag hnf hSv hl hlen hd hsd (v := .int x) (Or.inl ⟨h.1, h.2.1, x, rfl⟩)
    · rename_i x i r
      exact sN_snd hy h.2 hC hEnd hE hWo hag hnf hSv hl hlen hd hsd (v := .long x) (Or.inr ⟨h.1, x, rfl⟩)
    · exact absurd h id
  -- 7
  · have hck : c7B ins len = true := hck
    unfold c7B at hck
    simp only [Bool.and_eq_true, decide_eq_true_eq] at hck
    obtain ⟨rfl, rfl⟩ := hck
    split at h
    · rename_i k r
      obtain ⟨t, n, h1, h2⟩ := h
      exact alen_snd hC hWo h1 hd (go h2 ls hl (okS.cons trivial hok.tail) hlen)
    · obtain ⟨⟨b0, hb0, hX0, hX1, hX2⟩, -⟩ := hE
      have e0 : con z (.retAddr 0) = .ref b0 := by show va_rf (z.1 0) = _; rw [hb0]; rfl
      rw [List.map_cons, e0]
      exact va_slen hx hb hX0 hX1 hX2 hSv hd (go h ls hl (okS.cons trivial hok.tail) hlen)
    · exact absurd h id
  -- 8
  · have hck : c8B y ins len a b ts = true := hck
    unfold c8B at hck
    simp only [Bool.and_eq_true, decide_eq_true_eq] at hck
    obtain ⟨rfl, hca⟩ := hck
    unfold caB at hca
    rw [Bool.and_eq_true, decide_eq_true_eq] at hca
    obtain ⟨ha, hca⟩ := hca
    obtain ⟨hb2, hrec, Q', hM, ⟨hg1, hg1', hg2, hg3, hg4, hg5⟩, hcon⟩ := h
    have hnt : mthr a = false → ∀ k X', ¬ Q' (.threw k) X' := fun hm k X' hq => by
      have := hcon _ _ hq
      have h2 : mthr a = true := this.1
      rw [hm] at h2; cases h2
    have hcl : u.1 + mmc a ≤ R.cells := by omega
    have hsl : u.2 + mms a ≤ R.slots := by omega
    -- behind the call
    have back : ∀ (v : Option Value) (X' : Xs) (z' : Ad) (H1 : Heap) (locs1 : List Loc), Q' (.returned v) X' → (∀ w, v = some w → vok X'.1.2.2.1 w) → agr z z' X.1.2.2.1 → X.1.2.2.1 ≤ X'.1.2.2.1 → X'.1.2.2.2 = X.1.2.2.2 → Wo D dA z' A X' H1 → va_S A s.heap H1 locs1 → W p l e R s m args below meth c H1 locs1 (u.1 + mmc a) (u.2 + mms a) Qf (F0 m (pc + 3) ls ((v.map (con z')).toList ++ (st.drop b).map (con z))) := by
      intro v X' z' H1 locs1 hq hv hag' hnf' hsc hWo' hS'
      have hokd : okS X.1.2.2.1 (st.drop b) := fun w hw => hok w (List.mem_of_mem_drop hw)
      have hE' : Exs z' A X'.1.2.2.2 s s.heap := by
        rw [hsc]
        have e0 : z'.1 = z.1 := hag'.1
        unfold Exs at hE ⊢
        rw [e0]; exact hE
      have hag2 : agr z0 z' nf0 := ⟨hag'.1.trans hag.1, fun k hk => (hag'.2 k (by omega)).trans (hag.2 k hk)⟩
      have hc0 := hcon _ _ hq
      rw [← map_con hag' hokd]
      cases v with
      | none => exact hc0 p l e R s m args below meth c D dA A Qf H1 locs1 ls z' z0 nf0 hC (by rw [hsc]; exact hEnd) hE' hWo' hag2 (by omega) hS' (hl.mono hag' hnf') (hokd.mono hnf') hlen ⟨by omega, by omega⟩
      | some w => exact hc0 p l e R s m args below meth c D dA A Qf H1 locs1 ls z' z0 nf0 hC (by rw [hsc]; exact hEnd) hE' hWo' hag2 (by omega) hS' (hl.mono hag' hnf') (okS.cons (hv w rfl) (hokd.mono hnf')) hlen ⟨by omega, by omega⟩
    split at hca
    · rename_i idx
      simp only [Bool.and_eq_true, decide_eq_true_eq] at hca
      obtain ⟨⟨hk, hbn⟩, hcc⟩ := hca
      split at hcc
      · rename_i ci
        simp only [Bool.and_eq_true, decide_eq_true_eq] at hcc
        obtain ⟨k, hk1, hk2⟩ := hrec
        obtain ⟨pre, e1, e2, e3⟩ := take_last hb2 hk1
        have hpl : pre.length = npar a := by omega
        rw [e2] at hM hg5
        have hokp : okS X.1.2.2.1 (.ref k :: pre.reverse) := fun w hw => hok w (by
          rw [e1]
          rcases List.mem_cons.mp hw with q | q
          · rw [q]; simp
          · simp at q; simp [q])
        rw [e1]
        rw [Bool.or_eq_true, Bool.and_eq_true, Bool.and_eq_true, decide_eq_true_eq] at hk
        rcases hk with ⟨hk, hh0⟩ | ⟨hk, hpn⟩
        · cases hmt : mthr a with
          | false => exact cV_snd hC hE hWo hSv ha hls hd hk ⟨hg1, hg1'⟩ hh0 hpl hcc.1 hcc.2 hk2 hg4 hcl hsl hM (hnt hmt) hokp hg5 back
          | true => exact cT_snd hy hC hEnd hE hWo hag hnf hSv hl hlen ha hd hk hh0 hpl hcc.1 hcc.2 hk2 hM ⟨hg1, hg1', hg2, hg3, hg4, hg5⟩ (by rw [← e1]; exact hok) hcon
        · cases hmt : mthr a with
          | false => exact cVW_snd hC hE hWo hSv ha hls hd hk ⟨hg1, hg1'⟩ hpn hpl hcc.1 hcc.2 hk2 hg4 hcl hsl hM (hnt hmt) hokp hg5 back
          | true => exact absurd hk (thr_noW hmt)
      · cases hcc
    · rename_i idx
      simp only [Bool.and_eq_true, decide_eq_true_eq] at hca
      obtain ⟨⟨⟨hk, hh0⟩, hbn⟩, rfl⟩ := hca
      have e1 : st = (st.take b) ++ st.drop b := (List.take_append_drop b st).symm
      have hpl : (st.take b).length = npar a := by rw [List.length_take]; omega
      have hokp : okS X.1.2.2.1 (st.take b).reverse := fun w hw => hok w (by simp at hw; exact List.mem_of_mem_take hw)
      have hmt : mthr a = false := thr_noS hk
      have := cS_snd (pre := st.take b) (rest := st.drop b) hC hE hWo hSv ha hls hd hk ⟨hg1, hg1'⟩ hh0 hpl hg4 hcl hsl hM (hnt hmt) hokp hg5 back
      rw [← e1] at this
      exact this
    · rename_i idx
      simp only [Bool.and_eq_true, decide_eq_true_eq] at hca
      obtain ⟨⟨⟨hk, hh0⟩, hbn⟩, hts0⟩ := hca
      split at hts0
      · rename_i ci tl
        obtain ⟨k, ci2, hk1, hk2, hci⟩ := hrec
        obtain ⟨pre, e1, e2, e3⟩ := take_last hb2 hk1
        have hpl : pre.length = npar a := by omega
        rw [e2] at hM hg5
        have hokp : okS X.1.2.2.1 (.ref k :: pre.reverse) := fun w hw => hok w (by
          rw [e1]
          rcases List.mem_cons.mp hw with q | q
          · rw [q]; simp
          · simp at q; simp [q])
        rw [e1]
        rw [Bool.or_eq_true, Bool.or_eq_true] at hk
        rcases hk with hk | hk
        · have hmt : mthr a = false := thr_noI hk
          exact cI_snd hC hE hWo hSv ha hls hd hk ⟨hg1, hg1'⟩ hh0 hpl hg4 hcl hsl hM (hnt hmt) hokp hg5 back
        · have hmt : mthr a = false := thr_noU hk
          exact cU_snd hC hE hWo hSv ha hls hd hk ⟨hg1, hg1'⟩ hh0 hpl hci hk2 hg4 hcl hsl hM (hnt hmt) hokp hg5 back
      · cases hts0
    · cases hca
  -- 9
  · have hck : c9B y ins len b ts = true := hck
    unfold c9B at hck
    simp only [Bool.and_eq_true, decide_eq_true_eq] at hck
    obtain ⟨⟨⟨⟨rfl, rfl⟩, hcy⟩, rfl⟩, rfl⟩ := hck
    obtain ⟨hb2, k, ci, hk1, hk2, hc1, hc5, Q', hM, ⟨hg1, hg1', hg2, hg3, hg4, hg5⟩, hcon⟩ := h
    have hyo : ([0, 70, 72, 74, 76, 78] : List Nat).getD ci 0 = yOf ci := rfl
    rw [hyo] at hM hg1 hg1' hg2 hg3 hg5 hcon
    have hmt : mthr (yOf ci) = false := by
      rcases (show ci = 1 ∨ ci = 2 ∨ ci = 3 ∨ ci = 4 ∨ ci = 5 by omega) with rfl | rfl | rfl | rfl | rfl <;> rfl
    have hnt : ∀ k X', ¬ Q' (.threw k) X' := fun k X' hq => by
      have := hcon _ _ hq
      have h2 : mthr (yOf ci) = true := this.1
      rw [hmt] at h2; cases h2
    have hcl : u.1 + mmc (yOf ci) ≤ R.cells := by omega
    have hsl : u.2 + mms (yOf ci) ≤ R.slots := by omega
    obtain ⟨pre, e1, e2, e3⟩ := take_last hb2 hk1
    rw [e2] at hM hg5
    have hokp : okS X.1.2.2.1 (.ref k :: pre.reverse) := fun w hw => hok w (by
      rw [e1]
      rcases List.mem_cons.mp hw with q | q
      · rw [q]; simp
      · simp at q; simp [q])
    have hokd : okS X.1.2.2.1 (st.drop 3) := fun w hw => hok w (List.mem_of_mem_drop hw)
    have := cO_snd (pre := pre) (rest := st.drop 3) hC hE hWo hSv hls hcy hd hc1 hc5 ⟨hg1, hg1'⟩ (by omega) hk2 hg4 hcl hsl hM hnt hokp hg5 (fun v X' z' H1 locs1 hq hv hag' hnf' hsc hWo' hS' => by
      have hE' : Exs z' A X'.1.2.2.2 s s.heap := by
        rw [hsc]
        have e0 : z'.1 = z.1 := hag'.1
        unfold Exs at hE ⊢
        rw [e0]; exact hE
      have hag2 : agr z0 z' nf0 := ⟨hag'.1.trans hag.1, fun k hk => (hag'.2 k (by omega)).trans (hag.2 k hk)⟩
      have hc0 := hcon _ _ hq
      rw [← map_con hag' hokd]
      cases v with
      | none => exact hc0 p l e R s m args below meth c D dA A Qf H1 locs1 ls z' z0 nf0 hC (by rw [hsc]; exact hEnd) hE' hWo' hag2 (by omega) hS' (hl.mono hag' hnf') (hokd.mono hnf') hlen ⟨by omega, by omega⟩
      | some w => exact hc0 p l e R s m args below meth c D dA A Qf H1 locs1 ls z' z0 nf0 hC (by rw [hsc]; exact hEnd) hE' hWo' hag2 (by omega) hS' (hl.mono hag' hnf') (okS.cons (hv w rfl) (hokd.mono hnf')) hlen ⟨by omega, by omega⟩)
    rw [← e1] at this
    exact this
  -- 10
  · have hck : c10B y ins len = true := hck
    unfold c10B at hck
    simp only [Bool.and_eq_true, decide_eq_true_eq] at hck
    obtain ⟨rfl, hrt⟩ := hck
    obtain ⟨r1, r2, r3, r4, -⟩ := hEnd z X H locs u.1 u.2 pc ls hWo hag hnf rfl hSv hu.1 hu.2
    unfold rtB at hrt
    split at h
    · obtain ⟨rfl, h⟩ := h
      exact r1 h (by simpa using hrt) hd
    · obtain ⟨x, rfl, h1, h⟩ := h
      exact r2 x h (by simpa using hrt) h1 hd
    · obtain ⟨x, rfl, h⟩ := h
      exact r3 x h (by simpa using hrt) hd
    · obtain ⟨k, rfl, h⟩ := h
      refine r4 k h hok.head ?_ hd
      dsimp only at hrt
      split at hrt
      · rename_i n hn
        exact ⟨n, hn⟩
      · cases hrt
    · exact absurd h id
  -- 11
  · have hck : c11B y ins len = true := hck
    unfold c11B at hck
    split at hck
    · rename_i idx
      simp only [Bool.and_eq_true, decide_eq_true_eq] at hck
      obtain ⟨rfl, hlk⟩ := hck
      split at h
      · rename_i n dp kd sp ks r
        obtain ⟨hw8, h⟩ := h
        rcases h with ⟨t, n0, n1, h1, h2, h3⟩ | ⟨t0, n0, t1, n1, h1, h2, h3, h4, h5, h6⟩
        · rcases h3 with ⟨g1, g2, g3, g4, g5, g6⟩ | ⟨g1, g2, g3⟩
          · split at g6
            · exact cpl_snd hC hy hWo hSv hls hw8 h1 h2 g1 g2 g3 g4 g5 hd hlk (goX rfl g6 hok.tail.tail.tail.tail.tail)
            · exact cpq_snd hC hy hWo hSv hls hw8 h1 h2 g1 g2 g3 g4 g5 g6.1 hd hlk (goX rfl g6.2 hok.tail.tail.tail.tail.tail)
            · rename_i hn1 hn5
              exact cpi_snd hC hy hWo hSv hls hw8 h1 h2 g6.1 (fun q => hn1 q) g1 g2 g3 g4 g5 g6.2.1 hd hlk (goX rfl g6.2.2 hok.tail.tail.tail.tail.tail)
          · exact cO_raise hy g3.2 hC hEnd hE hWo hag hnf hSv hl hlen hd hlk g1 h1 h2 g2 g3.1
        · exact cA_raise hy h6 hC hEnd hE hWo hag hnf hSv hl hlen hd hlk h1 h2 h3 h4 h5
      · exact cN_raise hy h.2.2.2 hC hEnd hE hWo hag hnf hSv hl hlen hd hlk h.1 h.2.1 h.2.2.1
      · exact absurd h id
    · cases hck
  -- 12
  · have hck : c12B y ins len = true := hck
    unfold c12B at hck
    split at hck
    · simp only [Bool.and_eq_true, decide_eq_true_eq] at hck
      obtain ⟨rfl, hlk⟩ := hck
      split at h
      · exact obi_snd hC hy hls h.1 hd hlk (go h.2 ls hl hok.tail hlen)
      · exact absurd h id
    · cases hck
  -- 13
  · have hck : c13B y ins len a = true := hck
    unfold c13B at hck
    split at hck
    · simp only [Bool.and_eq_true, decide_eq_true_eq] at hck
      obtain ⟨⟨rfl, ha⟩, hlk⟩ := hck
      obtain ⟨⟨h1, h2⟩, h3⟩ := h
      refine new_snd hC hWo hSv ha hd hlk (by omega) (by omega) (fun H1 z' hag' _ hWo' hS' => ?_)
      rw [← map_con hag' hok]
      have hE' : Exs z' A X.1.2.2.2 s s.heap := by
        have e0 : z'.1 = z.1 := hag'.1
        unfold Exs at hE ⊢
        rw [e0]; exact hE
      exact h3 p l e R s m args below meth c D dA A Qf H1 locs ls z' z0 nf0 hC hEnd hE' hWo' ⟨hag'.1.trans hag.1, fun k hk => (hag'.2 k (by omega)).trans (hag.2 k hk)⟩ (Nat.le_succ_of_le hnf) hS' (hl.mono hag' (Nat.le_succ _)) (okS.cons (Nat.lt_succ_self _) (hok.mono (Nat.le_succ _))) hlen ⟨h1, h2⟩
    · cases hck
  -- 14
  · have hck : c14B ins len a = true := hck
    unfold c14B at hck
    split at hck
    · simp only [Bool.and_eq_true, decide_eq_true_eq] at hck
      obtain ⟨⟨rfl, ha⟩, hty⟩ := hck
      split at h
      · rename_i n r
        rcases h with ⟨h1, h2, ⟨h3, h4⟩, h5⟩ | ⟨h1, h2⟩
        · refine newa_snd hC hWo hSv ha hty hd h1 h2 (by omega) (by omega) (fun H1 z' hag' hWo' hS' => ?_)
          rw [← map_con hag' hok.tail]
          have hE' : Exs z' A X.1.2.2.2 s s.heap := by
            have e0 : z'.1 = z.1 := hag'.1
            unfold Exs at hE ⊢
            rw [e0]; exact hE
          exact h5 p l e R s m args below meth c D dA A Qf H1 locs ls z' z0 nf0 hC hEnd hE' hWo' ⟨hag'.1.trans hag.1, fun k hk => (hag'.2 k (by omega)).trans (hag.2 k hk)⟩ (Nat.le_succ_of_le hnf) hS' (hl.mono hag' (Nat.le_succ _)) (okS.cons (Nat.lt_succ_self _) (hok.tail.mono (Nat.le_succ _))) hlen ⟨h3, h4⟩
        · exact nA_snd hy h2 hC hEnd hE hWo hag hnf hSv hl hlen h1 hd
      · exact absurd h id
    · cases hck
  -- 15
  · have hck : c15B y ins len a = true := hck
    unfold c15B at hck
    split at hck
    · simp only [Bool.and_eq_true, decide_eq_true_eq] at hck
      obtain ⟨⟨⟨rfl, ha⟩, ha8⟩, hlk⟩ := hck
      split at h
      · rename_i n r
        obtain ⟨h1, h2, ⟨h3, h4⟩, h5⟩ := h
        refine newq_snd hC hWo hSv ha ha8 hd hlk h1 h2 (by omega) (by omega) (fun H1 z' hag' hWo' hS' => ?_)
        rw [← map_con hag' hok.tail]
        have hE' : Exs z' A X.1.2.2.2 s s.heap := by
          have e0 : z'.1 = z.1 := hag'.1
          unfold Exs at hE ⊢
          rw [e0]; exact hE
        exact h5 p l e R s m args below meth c D dA A Qf H1 locs ls z' z0 nf0 hC hEnd hE' hWo' ⟨hag'.1.trans hag.1, fun k hk => (hag'.2 k (by omega)).trans (hag.2 k hk)⟩ (Nat.le_succ_of_le hnf) hS' (hl.mono hag' (Nat.le_succ _)) (okS.cons (Nat.lt_succ_self _) (hok.tail.mono (Nat.le_succ _))) hlen ⟨h3, h4⟩
      · exact absurd h id
    · cases hck
  -- 16
  · have hck : c16B y ins len a = true := hck
    unfold c16B at hck
    split at h
    · rename_i idx
      simp only [Bool.and_eq_true, decide_eq_true_eq] at hck
      obtain ⟨⟨⟨rfl, ha⟩, ha2⟩, hlk⟩ := hck
      split at h
      · exact lv_castN hx hb hd (go h ls hl hok hlen)
      · rename_i k r
        obtain ⟨t, n, h1, h2, h3⟩ := h
        rcases h3 with ⟨rfl, h4⟩ | ⟨h3, h4⟩
        · exact cas_snd hC hWo h1 h2 hd hlk (go h4 ls hl hok hlen)
        · exact cC_snd hy h4 hC hEnd hE hWo hag hnf hSv hl hlen h1 h2 ha ha2 h3 hd hlk
      · exact absurd h id
    · rename_i idx
      simp only [Bool.and_eq_true, decide_eq_true_eq] at hck
      obtain ⟨⟨⟨rfl, ha⟩, ha2⟩, hlk⟩ := hck
      split at h
      · exact lv_instN hx hb hd (go h ls hl (okS.cons trivial hok.tail) hlen)
      · rename_i k r
        obtain ⟨t, n, h1, h2, h3⟩ := h
        exact ins_snd hC hWo h1 h2 ha ha2 hd hlk (go h3 ls hl (okS.cons trivial hok.tail) hlen)
      · exact absurd h id
    · exact absurd h id
  -- 17
  · have hck : swB ins pc a ts = true := hck
    split at h
    · rename_i x r
      exact sw_snd hC hok.tail hd hck (fun i hi e1 hr => go (h.1 i hi e1) ls hl hr hlen) (fun e1 hr => go (h.2 e1) ls hl hr hlen)
    · exact absurd h id
  -- 18
  · have hck : c18B ins len = true := hck
    unfold c18B at hck
    simp only [Bool.and_eq_true, decide_eq_true_eq] at hck
    obtain ⟨rfl, rfl⟩ := hck
    split at h
    · rename_i k r
      exact ath_snd hC hd (thr_snd hy h hC hEnd hE hWo hag hnf hSv hl hlen hu _)
    · exact absurd h id
  -- 20
  · have hck : c20B ins len = true := hck
    unfold c20B at hck
    simp only [Bool.and_eq_true, decide_eq_true_eq, Bool.or_eq_true] at hck
    obtain ⟨rfl, hi⟩ := hck
    split at h
    · rename_i w x r
      obtain ⟨h1, h2⟩ := h
      split at h2
      · exact lv_idiv hx hb hd h1 (go h2 ls hl (okS.cons trivial hok.tail.tail) hlen)
      · exact lv_irem hx hb hd h1 (go h2 ls hl (okS.cons trivial hok.tail.tail) hlen)
      · exact absurd h2 id
    · exact absurd h id
  -- 21
  · have hck : c21B y ins len v = true := hck
    unfold c21B at hck
    split at hck
    · rename_i idx
      simp only [Bool.and_eq_true, decide_eq_true_eq, Bool.or_eq_true] at hck
      obtain ⟨⟨rfl, hcy⟩, hck⟩ := hck
      rw [hcy] at hown
      rcases hck with ⟨rfl, rfl⟩ | ⟨rfl, rfl⟩
      · exact va_gets hx hb hE.2.1 hSv hown (hts _ (lw_g (lw_at lw_m1 156 rfl) rfl)) (fun _ h => h) hd (go h ls hl (okS.cons trivial hok) hlen)
      · exact va_gets hx hb hE.2.2.1 hSv hown (hts _ (lw_g (lw_at lw_m1 158 rfl) rfl)) (fun _ h => h) hd (go h ls hl (okS.cons trivial hok) hlen)
    · cases hck
  -- 22
  · have hck : c22B ins len pc a = true := hck
    unfold c22B at hck
    split at h
    · simp only [Bool.and_eq_true, decide_eq_true_eq] at hck
      obtain ⟨rfl, ht⟩ := hck
      split at h
      · exact lv_ifnullN hx hb hd ht (go h ls hl hok.tail hlen)
      · exact lv_ifnull hx hb hd (go h ls hl hok.tail hlen)
      · exact absurd h id
    · simp only [Bool.and_eq_true, decide_eq_true_eq] at hck
      obtain ⟨rfl, ht⟩ := hck
      split at h
      · exact lv_ifnonnullN hx hb hd (go h ls hl hok.tail hlen)
      · exact lv_ifnonnull hx hb hd ht (go h ls hl hok.tail hlen)
      · exact absurd h id
    · exact absurd h id
  · exact absurd h id
/-- SOUNDNESS -/
theorem Rn.snd (hall : ∀ y, y < 170 → chkA y = true) {y pc : Nat} {L : Lo} {st : List Value} {u : Nat × Nat} {X : Xs} {Q : Po} (h : Rn y pc L st u X Q) : Snd y pc L st u X Q := h Snd (fun _ _ _ _ _ _ _ k => step_snd hall k)
