/-! soundness: a method's contract out of its frames; a call by the contract -/
def rom (a : Nat) : Room := { frames := mdep a, cells := mmc a, slots := mms a, locals := mlcs a }
def PcP (D : va_G) (dA : Nat → ClassId) (z : Ad) (X : Xs) (vs : List Value) (sz : Nat) : Array Value → State → Prop :=
  va_Pc (vs.map (con z)) (fun U => U.heap.size = sz ∧ Wo D dA z (fun _ => True) X U.heap ∧ KK D dA U ∧ Exs z (va_A (wl dA z X) sz) X.1.2.2.2 U U.heap)
/-- the end of a method that returns -/
def EnR (D : va_G) (dA : Nat → ClassId) (z : Ad) (X : Xs) (sz : Nat) (Q : Po) (o : Outcome) (t : State) : Prop :=
  ∃ (v : Option Value) (X' : Xs) (z' : Ad), Q (.returned v) X' ∧ o = .returned (v.map (con z')) ∧ (∀ w, v = some w → vok X'.1.2.2.1 w) ∧ agr z z' X.1.2.2.1 ∧ X.1.2.2.1 ≤ X'.1.2.2.1 ∧ X'.1.2.2.2 = X.1.2.2.2 ∧ Wo D dA z' (va_A (wl dA z X) sz) X' t.heap
def QcP (D : va_G) (dA : Nat → ClassId) (z : Ad) (X : Xs) (sz : Nat) (Q : Po) : Array Value → State → Outcome → State → Prop := fun _ st0 o t => EnR D dA z X sz Q o t ∧ va_F (va_A (wl dA z X) sz) st0 t
theorem Wo.weak {D : va_G} {dA : Nat → ClassId} {z : Ad} {A B : Nat → Prop} {X : Xs} {H : Heap} (h : Wo D dA z A X H) (hAB : ∀ q, A q → B q) : Wo D dA z B X H := ⟨h.1, h.2.1, h.2.2.weaken (fun _ _ _ k => hAB _ k)⟩
theorem Wo.self {D : va_G} {dA : Nat → ClassId} {z : Ad} {A : Nat → Prop} {X : Xs} {H : Heap} {sz : Nat} (h : Wo D dA z A X H) : Wo D dA z (va_A (wl dA z X) sz) X H := ⟨h.1, h.2.1, h.2.2.self⟩
theorem sl_mem {z : Ad} : ∀ (vs : List Value) (k i : Nat) (v : Value), (sl vs)[i]? = some (some v) → (k + i, con z v) ∈ lv_args k (vs.map (con z)) ∧ v ∈ vs
  | [], k, i, v, h => by simp [sl] at h
  | w :: r, k, i, v, h => by
    unfold sl at h
    show (k + i, con z v) ∈ (k, con z w) :: lv_args (if (con z w).category = 2 then k + 2 else k + 1) (r.map (con z)) ∧ v ∈ w :: r
    rw [con_cat]
    split at h
    · rename_i hc
      rw [cat1_iff] at hc
      rw [if_neg (by omega)]
      cases i with
      | zero => cases h; exact ⟨List.mem_cons_self, List.mem_cons_self⟩
      | succ i =>
        have ih := sl_mem (z := z) r (k + 1) i v (by simpa using h)
        rw [show k + (i + 1) = k + 1 + i by omega]
        exact ⟨List.mem_cons_of_mem _ ih.1, List.mem_cons_of_mem _ ih.2⟩
    · rename_i hc
      have hc2 : w.category = 2 := by cases w <;> first | rfl | exact absurd rfl hc
      rw [if_pos hc2]
      cases i with
      | zero => cases h; exact ⟨List.mem_cons_self, List.mem_cons_self⟩
      | succ i =>
        cases i with
        | zero => simp at h
        | succ i =>
          have ih := sl_mem (z := z) r (k + 2) i v (by simpa using h)
          rw [show k + (i + 1 + 1) = k + 2 + i by omega]
          exact ⟨List.mem_cons_of_mem _ ih.1, List.mem_cons_of_mem _ ih.2⟩
theorem sl_len {z : Ad} : ∀ vs : List Value, (lg_sl (vs.map (con z))).length = (sl vs).length
  | [] => rfl
  | w :: r => by
    have ih := sl_len (z := z) r
    unfold sl
    unfold lg_sl at ih ⊢
    rw [List.map_cons, List.flatMap_cons, List.length_append, ih, con_cat]
    split
    · rename_i hc
      split
      · rename_i hd
        rw [cat1_iff] at hd
        omega
      · simp; omega
    · rename_i hc
      split
      · simp; omega
      · rename_i hd
        exfalso
        have hc2 : w.category = 2 := by cases w <;> first | rfl | exact absurd rfl hd
        exact hc hc2
theorem ent_has {z : Ad} {nf n : Nat} {vs : List Value} (hok : okS nf vs) (hn : (sl vs).length ≤ n) : hasL z nf ((lg_sl (vs.map (con z)) ++ List.replicate (n - (lg_sl (vs.map (con z))).length) Slot.unset).toArray) (entL n vs) := by
  have h := lv_entry (vs.map (con z)) (n := n) (by rw [sl_len]; exact hn)
  refine ⟨?_, h.2.1, fun i v hi => ?_⟩
  · rw [h.1]
    unfold entL
    simp
    omega
  · unfold entL at hi
    have hi2 : (sl vs)[i]? = some (some v) := by
      by_cases hl : i < (sl vs).length
      · rw [List.getElem?_append_left hl] at hi; exact hi
      · rw [List.getElem?_append_right (by omega)] at hi
        have := List.mem_of_getElem? hi
        simp at this
    have := sl_mem (z := z) vs 0 i v hi2
    rw [Nat.zero_add] at this
    exact ⟨hok v this.2, h.2.2 _ this.1⟩
section Ret
variable {p : Program} {l : Launch} {e : Env} {R : Room} {s : State} {m : MethodId} {args : Array Value} {below : List Frame} {meth : Method} {c : Code} {D : va_G} {dA : Nat → ClassId} {y : Nat} {X : Xs} {z : Ad} {Q : Po} {sz : Nat}
/-- the returns of a method that doesn't throw, for its contract -/
theorem end_ret (hC : Ctx y p l R s m args meth c D dA (va_A (wl dA z X) s.heap.size)) (hnt : ∀ k X', ¬ Q (.threw k) X') : EndP y p l e R s m args below meth c D dA (va_A (wl dA z X) s.heap.size) (MQ below (QcP D dA z X s.heap.size Q) args s (mmc y) (mms y) (va_A (wl dA z X) s.heap.size)) z X.1.2.2.1 X.1.2.2.2 Q := by
  obtain ⟨⟨hx, hb, hml, hown, hts⟩, ⟨hr, hlocks, hnm, -⟩, hK, hA, -⟩ := hC
  intro z' X' H locs cs sl pc ls hWo hag hnf hsc hSv hcs hsl
  have fin : ∀ (v : Option Value), Q (.returned v) X' → (∀ w, v = some w → vok X'.1.2.2.1 w) → ∀ t : State, t.heap = H → s.WarmedH t.vm → QcP D dA z X s.heap.size Q args s (.returned (v.map (con z'))) t := fun v hv hw t ht hW => ⟨⟨v, X', z', hv, rfl, hw, hag, hnf, hsc, by rw [ht]; exact hWo⟩, hSv.F ht⟩
  refine ⟨fun hq hrt hd => ?_, fun x hq hrt hbool hd => ?_, fun x hq hrt hd => ?_, fun k hq hk hrt hd => ?_, fun k st hq => absurd hq (hnt k X')⟩
  · refine W.widen hcs hsl ?_
    exact W.vret hx hb (by rw [hr]; exact hrt) (fin none hq (fun w h => by cases h)) hSv.2.2 hd hlocks
  · refine W.widen hcs hsl ?_
    rcases hrt with h1 | h1
    · exact W.zret (ty := .int) hx hb (by rw [hr]; exact h1) rfl (fin (some (.int x)) hq (fun w h => by cases h; exact trivial)) hSv.2.2 hd hlocks
    · refine W.zret (ty := .boolean) hx hb (by rw [hr]; exact h1) ?_ (fin (some (.int x)) hq (fun w h => by cases h; exact trivial)) hSv.2.2 hd hlocks
      rcases hbool h1 with rfl | rfl <;> rfl
  · refine W.widen hcs hsl ?_
    exact W.lret hx hb (by rw [hr]; exact hrt) (fin (some (.long x)) hq (fun w h => by cases h; exact trivial)) hSv.2.2 hd hlocks
  · refine W.widen hcs hsl ?_
    obtain ⟨n, h1⟩ := hrt
    exact W.aret (v := .ref (z'.2 k)) hx hb (by rw [hr]; exact h1) (Or.inl ⟨n, rfl⟩) (Or.inr ⟨_, rfl⟩) (fin (some (.ref k)) hq (fun w h => by cases h; exact hk)) hSv.2.2 hd hlocks
end Ret
/-- the contract of a method that doesn't throw -/
theorem met_snd {l : Launch} {D : va_G} {dA : Nat → ClassId} {z : Ad} {X : Xs} {Q : Po} {a sz : Nat} {vs : List Value} (htr : l.stackTraces = false) (h : Snd a 0 (entL (mloc a) vs) [] (0, 0) X Q) (hh0 : mhnd a = []) (hpl : plainFor (mnam a) = true) (hnt : ∀ k X', ¬ Q (.threw k) X') (hok : okS X.1.2.2.1 vs) (hlen : (sl vs).length ≤ mloc a) : Met l (mnam a) (ws_ (mnam a) (mcod a) (mloc a) (mret a)) (rom a) (PcP D dA z X vs sz) (QcP D dA z X sz Q) (mmc a) (mms a) (va_A (wl dA z X) sz) := by
  refine va_MetF (cc := mcod a) (maxL := mloc a) (ret := mret a) hpl rfl ?_
  intro p e s m args below meth c s₁ B hml hv
  obtain ⟨rfl, hsz, hWo, hK, hE⟩ := hv
  subst hsz
  have hts := atoms_spec (ws := ws_ (mnam a) (mcod a) (mloc a) (mret a)) B.pre
  have hex : exT a c := by
    obtain ⟨meth', c', g1, g2, -, -, -, -, g3, -⟩ := Cond.code_spec B.named (hts _ List.mem_cons_self)
    cases B.method.symm.trans g1
    have g4 : some c' = some c := g2.symm.trans (Stand.of_body B).code
    cases g4
    unfold exT
    rw [hh0]
    have : c.exceptionTable = #[] := by simpa using g3
    rw [this]; rfl
  have hC : Ctx a p l (headSpec (ws_ (mnam a) (mcod a) (mloc a) (mret a)) (rom a)).room s m (vs.map (con z)).toArray meth c D dA (va_A (wl dA z X) s.heap.size) :=
    ⟨⟨B.exec, B.bytes, hml, findClass_of_methodNamed B.named, fun w h => hts w (List.mem_cons_of_mem _ h)⟩, ⟨B.returns, B.notSynchronized, (name_of_methodNamed B.named B.method).1, hex, htr⟩, hK, fun q h => Or.inr h, Nat.le_refl _, Nat.le_refl _, Nat.le_refl _, Nat.le_refl _⟩
  rw [lg_entry_eq]
  exact h p l e _ s m _ below meth c D dA _ _ s.heap [] _ z z X.1.2.2.1 hC (end_ret hC hnt) hE hWo.self ⟨rfl, fun _ _ => rfl⟩ (Nat.le_refl _) va_S.rf (ent_has hok hlen) (fun v hv => by cases hv) (by unfold entL; simp; omega) ⟨Nat.zero_le _, Nat.zero_le _⟩
theorem met_sndW {l : Launch} {D : va_G} {dA : Nat → ClassId} {z : Ad} {X : Xs} {Q : Po} {a sz : Nat} {vs : List Value} (htr : l.stackTraces = false) (h : Snd a 0 (entL (mloc a) vs) [] (0, 0) X Q) (hpl : plainName (mnam a).cls = true) (hnt : ∀ k X', ¬ Q (.threw k) X') (hok : okS X.1.2.2.1 vs) (hlen : (sl vs).length ≤ mloc a) : Met l (mnam a) (wsW_ (mnam a) (mcod a) (mloc a) (mret a) (mhnd a)) (rom a) (PcP D dA z X vs sz) (QcP D dA z X sz Q) (mmc a) (mms a) (va_A (wl dA z X) sz) := by
  refine va_MetW (cc := mcod a) (maxL := mloc a) (ret := mret a) (hh := mhnd a) hpl rfl ?_
  intro p e s m args below meth c s₁ B hml hv
  obtain ⟨rfl, hsz, hWo, hK, hE⟩ := hv
  subst hsz
  have hts := atoms_spec (ws := wsW_ (mnam a) (mcod a) (mloc a) (mret a) (mhnd a)) B.pre
  have hex : exT a c := by
    obtain ⟨m9, meth', c', g0, g1, g2, -, -, g3, -⟩ := Cond.codeWith_spec (hts _ List.mem_cons_self)
    cases B.named.symm.trans g0
    cases B.method.symm.trans g1
    have g4 : some c' = some c := g2.symm.trans (Stand.of_body B).code
    cases g4
    exact g3
  have hC : Ctx a p l (headSpec (wsW_ (mnam a) (mcod a) (mloc a) (mret a) (mhnd a)) (rom a)).room s m (vs.map (con z)).toArray meth c D dA (va_A (wl dA z X) s.heap.size) :=
    ⟨⟨B.exec, B.bytes, hml, findClass_of_methodNamed B.named, fun w h => hts w (List.mem_cons_of_mem _ h)⟩, ⟨B.returns, B.notSynchronized, (name_of_methodNamed B.named B.method).1, hex, htr⟩, hK, fun q h => Or.inr h, Nat.le_refl _, Nat.le_refl _, Nat.le_refl _, Nat.le_refl _⟩
  rw [lg_entry_eq]
  exact h p l e _ s m _ below meth c D dA _ _ s.heap [] _ z z X.1.2.2.1 hC (end_ret hC hnt) hE hWo.self ⟨rfl, fun _ _ => rfl⟩ (Nat.le_refl _) va_S.rf (ent_has hok hlen) (fun v hv => by cases hv) (by unfold entL; simp; omega) ⟨Nat.zero_le _, Nat.zero_le _⟩
