/-! the abstract store as a world of the kit: place k is the k-th cell of the list -/
abbrev Ad : Type := (Nat → Option Nat) × (Nat → Nat)
def con (z : Ad) : Value → Value
  | .ref k => .ref (z.2 k)
  | .retAddr k => va_rf (z.1 k)
  | v => v
def vok (nf : Nat) : Value → Prop
  | .ref k => k < nf
  | _ => True
def refO (z : Ad) : Value → Option Nat
  | .ref k => some (z.2 k)
  | .retAddr k => z.1 k
  | _ => none
theorem rf_con {z : Ad} {v : Value} (h : isRf v = true) : va_rf (refO z v) = con z v := by
  cases v <;> first | rfl | cases h
def celA (dA : Nat → ClassId) (z : Ad) (X : Xs) (k t n : Nat) : va_E := .inl (dA t, n, match t with
  | 1 => .inr (.inl (X.2.2 k))
  | 5 => .inr (.inr (.inr (.inr (fun j => refO z (X.1.2.1 k j)))))
  | 6 => .inr (.inr (.inr (.inr (fun j => refO z (X.1.2.1 k j)))))
  | 7 => .inr (.inr (.inr (.inr (fun j => refO z (X.1.2.1 k j)))))
  | _ => .inl (X.2.1 k))
def cel (dA : Nat → ClassId) (z : Ad) (X : Xs) (k : Nat) : va_E := match X.1.1 k with
  | some (.inl ci) => .inr (ci, (List.range (nfd ci)).map (fun j => con z (fv X ci k j)))
  | some (.inr (t, n)) => celA dA z X k t n
  | none => .inr (99, [])
def wl (dA : Nat → ClassId) (z : Ad) (X : Xs) : va_W := (List.range X.1.2.2.1).map fun k => (z.2 k, cel dA z X k)
def wfX (X : Xs) : Prop := (∀ k j, k < X.1.2.2.1 → isRf (X.1.2.1 k j) = true ∧ vok X.1.2.2.1 (X.1.2.1 k j)) ∧ (∀ k, X.1.1 k ≠ none → k < X.1.2.2.1) ∧ ∀ k t n, X.1.1 k = some (.inr (t, n)) → t < 8
def tyL (dA : Nat → ClassId) : List (ClassId × FieldType) := (List.range 8).map fun t => (dA t, aty t)
def Wo (D : va_G) (dA : Nat → ClassId) (z : Ad) (A : Nat → Prop) (X : Xs) (H : Heap) : Prop := wfX X ∧ va_P D mCl (wl dA z X) H ∧ va_D A (wl dA z X)
/-- words that don't ride in the lists -/
def isNst : Cond → Bool
  | .fieldLinkNest .. => true
  | .methodLinkNest .. => true
  | .castable .. => true
  | .declares _ => true
  | .arrayOver (.object _) => true
  | _ => false
/-- the names of the arrays' classes -/
def aNm (t : Nat) : String := "[" ++ (aty t).toString
/-- pairs of exceptions' classes, the first no subclass of the second -/
def exNc : List (String × String) := [("java/lang/NullPointerException", "java/lang/ClassCastException"), ("java/lang/NullPointerException", "java/lang/ArrayIndexOutOfBoundsException"), ("java/lang/NullPointerException", "java/lang/ArrayStoreException"), ("java/lang/NullPointerException", "java/lang/IndexOutOfBoundsException"), ("java/lang/ClassCastException", "java/lang/NullPointerException"), ("java/lang/ClassCastException", "java/lang/ArrayIndexOutOfBoundsException"), ("java/lang/ArrayIndexOutOfBoundsException", "java/lang/NullPointerException"), ("java/lang/ArrayIndexOutOfBoundsException", "java/lang/ClassCastException"), ("java/lang/ArrayIndexOutOfBoundsException", "java/lang/ArrayStoreException"), ("java/lang/ArrayStoreException", "java/lang/NullPointerException"), ("java/lang/ArrayStoreException", "java/lang/IndexOutOfBoundsException")]
def KK (D : va_G) (dA : Nat → ClassId) (U : State) : Prop := va_K D mCl (tyL dA) U ∧ (∀ w ∈ lw_tbl, isNst w = true → va_Nw w U) ∧ (∀ t t', t < 5 → t' < 5 → t' ≠ 2 → t ≠ t' → va_Nc (aNm t) (aNm t') U) ∧ (∀ q ∈ exNc, va_Nc q.1 q.2 U) ∧ modulesRight_1 U = true
theorem nst_warm {w : Cond} (h : isNst w = true) {s U : State} (hW : s.WarmedH U.vm) (hz : va_Nw w s) : va_Nw w U := by
  unfold isNst at h
  split at h
  · exact va_Nw.warmF hW hz
  · exact va_Nw.warmM hW hz
  · exact va_Nw.warmC hW hz
  · rename_i x
    have h1 : (Cond.declares x).before #[] (s.setVm U.vm) = true := by
      rw [Cond.declares_setVm hW.alike]
      exact hz
    have e := Cond.onTables_vm (A := #[]) (A' := #[]) (U := s) (U' := U) U.vm (Cond.declares x) rfl
    rw [e] at h1
    exact h1
  · exact va_AO.moved hW.alike hz
  · cases h
theorem KK.warm {D : va_G} {dA : Nat → ClassId} {s U : State} (hW : s.WarmedH U.vm) (h : KK D dA s) : KK D dA U := ⟨va_K.moved hW.alike h.1, fun w hw hn => nst_warm hn hW (h.2.1 w hw hn), fun t t' h1 h2 h3 h4 => va_Nc.moved hW.alike (h.2.2.1 t t' h1 h2 h3 h4), fun q hq => va_Nc.moved hW.alike (h.2.2.2.1 q hq), by
    have e : U.vm.modules = s.vm.modules := by rw [hW.alike.1]
    unfold modulesRight_1
    rw [e]
    exact h.2.2.2.2⟩
theorem KK.same {D : va_G} {dA : Nat → ClassId} {s U : State} (hv : s.vm = U.vm) (h : KK D dA s) : KK D dA U := by
  refine ⟨va_K.moved (by rw [hv]; exact Vm.Alike.refl U.vm) h.1, fun w hw hn => ?_, fun t t' h1 h2 h3 h4 => va_Nc.moved (by rw [hv]; exact Vm.Alike.refl U.vm) (h.2.2.1 t t' h1 h2 h3 h4), fun q hq => va_Nc.moved (by rw [hv]; exact Vm.Alike.refl U.vm) (h.2.2.2.1 q hq), by
    unfold modulesRight_1
    rw [← hv]
    exact h.2.2.2.2⟩
  have h2 := h.2.1 w hw hn
  unfold isNst at hn
  split at hn
  · exact va_Nw.same rfl hv h2
  · exact va_Nw.same rfl hv h2
  · exact va_Nw.same rfl hv h2
  · exact va_Nw.same rfl hv h2
  · exact va_AO.moved (by rw [hv]; exact Vm.Alike.refl U.vm) h2
  · cases hn
theorem wl_at {dA : Nat → ClassId} {z : Ad} {X : Xs} {k : Nat} (h : k < X.1.2.2.1) : (wl dA z X)[k]? = some (z.2 k, cel dA z X k) := by
  simp [wl, h]
theorem wl_some {dA : Nat → ClassId} {z : Ad} {X : Xs} {k : Nat} {q : Nat × va_E} (h : (wl dA z X)[k]? = some q) : k < X.1.2.2.1 ∧ q = (z.2 k, cel dA z X k) := by
  have hl : k < (wl dA z X).length := (List.getElem?_eq_some_iff.mp h).1
  simp only [wl, List.length_map, List.length_range] at hl
  rw [wl_at hl] at h
  exact ⟨hl, (Option.some.inj h).symm⟩
theorem wl_set {dA : Nat → ClassId} {z : Ad} {X X' : Xs} {k : Nat} {e : va_E} (hn : X'.1.2.2.1 = X.1.2.2.1) (he : cel dA z X' k = e) (ho : ∀ j, j ≠ k → j < X.1.2.2.1 → cel dA z X' j = cel dA z X j) (hk : k < X.1.2.2.1) : (wl dA z X).set k (z.2 k, e) = wl dA z X' := by
  apply List.ext_getElem?
  intro j
  by_cases hj : j < X.1.2.2.1
  · by_cases hjk : j = k
    · subst hjk
      rw [List.getElem?_set_self (by simp [wl, hk]), wl_at (by rw [hn]; exact hj), he]
    · rw [List.getElem?_set_ne (Ne.symm hjk), wl_at hj, wl_at (by rw [hn]; exact hj), ho j hjk hj]
  · rw [List.getElem?_eq_none (by simp [wl]; omega), List.getElem?_eq_none (by simp [wl]; omega)]
theorem wl_push {dA : Nat → ClassId} {z z' : Ad} {X X' : Xs} {q : Nat} {e : va_E} (hn : X'.1.2.2.1 = X.1.2.2.1 + 1) (hq : z'.2 X.1.2.2.1 = q) (hz : ∀ j, j < X.1.2.2.1 → z'.2 j = z.2 j) (he : cel dA z' X' X.1.2.2.1 = e) (ho : ∀ j, j < X.1.2.2.1 → cel dA z' X' j = cel dA z X j) : wl dA z X ++ [(q, e)] = wl dA z' X' := by
  apply List.ext_getElem?
  intro j
  have hlen : (wl dA z X).length = X.1.2.2.1 := by simp [wl]
  by_cases hj : j < X.1.2.2.1
  · rw [List.getElem?_append_left (by omega), wl_at hj, wl_at (by omega), hz j hj, ho j hj]
  · by_cases hj2 : j = X.1.2.2.1
    · subst hj2
      rw [List.getElem?_append_right (by omega), hlen, Nat.sub_self, wl_at (by omega), hq, he]
      rfl
    · rw [List.getElem?_eq_none (by simp [hlen]; omega), List.getElem?_eq_none (by simp [wl]; omega)]
/-- the locals -/
def hasL (z : Ad) (nf : Nat) (ls : Array Slot) (L : Lo) : Prop := ls.size = L.length ∧ lv_wf ls ∧ ∀ (i : Nat) (v : Value), L[i]? = some (some v) → vok nf v ∧ ls[i]? = some (Slot.val (con z v))
def okS (nf : Nat) (st : List Value) : Prop := ∀ v ∈ st, vok nf v
/-- places told so far stay where they are -/
def agr (z z' : Ad) (nf : Nat) : Prop := z'.1 = z.1 ∧ ∀ k, k < nf → z'.2 k = z.2 k
theorem agr.con {z z' : Ad} {nf : Nat} (h : agr z z' nf) {v : Value} (hv : vok nf v) : con z' v = con z v := by
  cases v with
  | ref k => show Value.ref (z'.2 k) = Value.ref (z.2 k); rw [h.2 k hv]
  | retAddr k => show va_rf (z'.1 k) = va_rf (z.1 k); rw [h.1]
  | _ => rfl
theorem vok.mono {nf nf' : Nat} (h : nf ≤ nf') {v : Value} (hv : vok nf v) : vok nf' v := by
  cases v with
  | ref k => exact Nat.lt_of_lt_of_le hv h
  | _ => exact trivial
theorem hasL.mono {z z' : Ad} {nf nf' : Nat} {ls : Array Slot} {L : Lo} (h : hasL z nf ls L) (ha : agr z z' nf) (hn : nf ≤ nf') : hasL z' nf' ls L :=
  ⟨h.1, h.2.1, fun i v hi => ⟨(h.2.2 i v hi).1.mono hn, by rw [ha.con (h.2.2 i v hi).1]; exact (h.2.2 i v hi).2⟩⟩
theorem map_con {z z' : Ad} {nf : Nat} (ha : agr z z' nf) : ∀ {st : List Value}, okS nf st → st.map (con z') = st.map (con z)
  | [], _ => rfl
  | v :: r, h => by
    rw [List.map_cons, List.map_cons, ha.con (h v List.mem_cons_self), map_con ha (fun w hw => h w (List.mem_cons_of_mem _ hw))]
theorem okS.tail {nf : Nat} {v : Value} {st : List Value} (h : okS nf (v :: st)) : okS nf st := fun w hw => h w (List.mem_cons_of_mem _ hw)
theorem okS.cons {nf : Nat} {v : Value} {st : List Value} (hv : vok nf v) (h : okS nf st) : okS nf (v :: st) := by
  intro w hw
  rcases List.mem_cons.mp hw with e | e
  · rw [e]; exact hv
  · exact h w e
theorem okS.head {nf : Nat} {v : Value} {st : List Value} (h : okS nf (v :: st)) : vok nf v := h v List.mem_cons_self
theorem okS.mono {nf nf' : Nat} (hn : nf ≤ nf') {st : List Value} (h : okS nf st) : okS nf' st := fun v hv => (h v hv).mono hn
theorem con_cat {z : Ad} {v : Value} : (con z v).category = v.category := by
  cases v with
  | retAddr k => show (va_rf (z.1 k)).category = 1; cases z.1 k <;> rfl
  | _ => rfl
theorem cat1_iff {v : Value} : cat1 v = true ↔ v.category = 1 := by cases v <;> simp [cat1, Value.category]
/-- the list of locals that the kit's rows take -/
def lvL (z : Ad) (L : Lo) : List (Nat × Value) := (List.range L.length).filterMap fun i => match L[i]? with
  | some (some v) => some (i, con z v)
  | _ => none
theorem lvL_mem {z : Ad} {L : Lo} {i : Nat} {w : Value} : (i, w) ∈ lvL z L ↔ ∃ v, L[i]? = some (some v) ∧ w = con z v := by
  unfold lvL
  rw [List.mem_filterMap]
  constructor
  · rintro ⟨j, hj, h⟩
    split at h
    · rename_i v hv
      cases h
      exact ⟨v, hv, rfl⟩
    · cases h
  · rintro ⟨v, hv, rfl⟩
    refine ⟨i, List.mem_range.mpr (List.getElem?_eq_some_iff.mp hv).1, ?_⟩
    rw [hv]
theorem hasL.lv {z : Ad} {nf : Nat} {ls : Array Slot} {L : Lo} (h : hasL z nf ls L) : lv_has ls L.length (lvL z L) := by
  refine ⟨h.1, h.2.1, fun q hq => ?_⟩
  obtain ⟨i, w⟩ := q
  obtain ⟨v, hv, rfl⟩ := lvL_mem.mp hq
  exact (h.2.2 i v hv).2
theorem getD_some {L : Lo} {a : Nat} {v : Value} (h : L.getD a none = some v) : L[a]? = some (some v) := by
  rw [List.getD_eq_getElem?_getD] at h
  cases hc : L[a]? with
  | none => rw [hc] at h; cases h
  | some o => rw [hc] at h; exact congrArg some h
theorem kl_len {L : Lo} {a : Nat} : (kl L a).length = L.length := by
  unfold kl
  split
  · rfl
  · split
    · exact List.length_set
    · exact List.length_set
    · rfl
/-- what stands behind the kill stood there before, and isn't the long ahead -/
theorem kl_at {L : Lo} {a i : Nat} {v : Value} (h : (kl L a)[i]? = some (some v)) : L[i]? = some (some v) ∧ (i + 1 = a → v.category = 1) := by
  unfold kl at h
  split at h
  · exact ⟨h, fun q => by omega⟩
  · rename_i j
    have key : ∀ {w : Value}, L.getD j none = some w → (L.set j none)[i]? = some (some v) → L[i]? = some (some v) ∧ (i + 1 = j + 1 → v.category = 1) := by
      intro w hw hs
      by_cases e : i = j
      · subst e
        have hl : i < L.length := (List.getElem?_eq_some_iff.mp (getD_some hw)).1
        rw [List.getElem?_set_self hl] at hs
        cases hs
      · rw [List.getElem?_set_ne (Ne.symm e)] at hs
        exact ⟨hs, fun q => absurd (Nat.succ.inj q) e⟩
    split at h
    · rename_i hw; exact key hw h
    · rename_i hw; exact key hw h
    · rename_i h1 h2
      refine ⟨h, fun q => ?_⟩
      have e : i = j := Nat.succ.inj q
      subst e
      have h4 : L.getD i none = some v := by rw [List.getD_eq_getElem?_getD, h]; rfl
      cases v <;> first | rfl | exact absurd h4 (h1 _) | exact absurd h4 (h2 _)
/-- behind a store -/
theorem stL_has {z : Ad} {nf : Nat} {ls' : Array Slot} {L L' : Lo} {a : Nat} {w : Value} (hw : stL L a w = some L') (hL : ∀ (i : Nat) (v : Value), L[i]? = some (some v) → vok nf v) (hv : vok nf w)
    (h : lv_has ls' L.length ((a, con z w) :: (lvL z L).filter (fun q => !(q.1 == a) && !(q.1 + 1 == a && q.2.category == 2)))) : hasL z nf ls' L' ∧ a < L.length := by
  unfold stL at hw
  split at hw
  · rename_i hc
    rw [decide_eq_true_eq] at hc
    cases hw
    refine ⟨⟨by rw [h.1, List.length_set, kl_len], h.2.1, fun i v hi => ?_⟩, hc⟩
    by_cases hia : i = a
    · subst hia
      rw [List.getElem?_set_self (by rw [kl_len]; exact hc)] at hi
      cases hi
      exact ⟨hv, h.2.2 (i, con z w) List.mem_cons_self⟩
    · rw [List.getElem?_set_ne (Ne.symm hia)] at hi
      obtain ⟨hi, hcat⟩ := kl_at hi
      refine ⟨hL i v hi, h.2.2 (i, con z v) (List.mem_cons_of_mem _ (List.mem_filter.mpr ⟨lvL_mem.mpr ⟨v, hi, rfl⟩, ?_⟩))⟩
      have h1 : (i == a) = false := by simp [hia]
      rw [h1, con_cat]
      by_cases h2 : i + 1 = a
      · have h5 : (v.category == 2) = false := by rw [hcat h2]; rfl
        rw [h5]
        simp
      · have h6 : (i + 1 == a) = false := by simp [h2]
        rw [h6]
        rfl
  · cases hw
