/-! less known of the locals is enough -/
def leL (L L' : Lo) : Prop := L.length = L'.length ∧ ∀ (i : Nat) (v : Value), L[i]? = some (some v) → L'[i]? = some (some v)
theorem leL.rf (L : Lo) : leL L L := ⟨rfl, fun _ _ h => h⟩
theorem le_nil : leL [] [] := leL.rf _
theorem le_s {o : Option Value} {L L' : Lo} (h : leL L L') : leL (o :: L) (o :: L') := by
  refine ⟨by rw [List.length_cons, List.length_cons, h.1], fun i v hi => ?_⟩
  cases i with
  | zero => exact hi
  | succ i => exact h.2 i v hi
theorem le_n {o : Option Value} {L L' : Lo} (h : leL L L') : leL (none :: L) (o :: L') := by
  refine ⟨by rw [List.length_cons, List.length_cons, h.1], fun i v hi => ?_⟩
  cases i with
  | zero => cases hi
  | succ i => exact h.2 i v hi
theorem leL.gd {L L' : Lo} (h : leL L L') {a : Nat} {v : Value} (hg : L.getD a none = some v) : L'.getD a none = some v := by
  have h1 : L[a]? = some (some v) := by
    rw [List.getD_eq_getElem?_getD] at hg
    cases hc : L[a]? with
    | none => rw [hc] at hg; cases hg
    | some o => rw [hc] at hg; exact congrArg some hg
  rw [List.getD_eq_getElem?_getD, h.2 a v h1]
  rfl
theorem kl_ln {L : Lo} {a : Nat} : (kl L a).length = L.length := by
  unfold kl
  split
  · rfl
  · split
    · exact List.length_set
    · exact List.length_set
    · rfl
theorem kl_le {L L' : Lo} (h : leL L L') (a : Nat) : leL (kl L a) (kl L' a) := by
  refine ⟨by rw [kl_ln, kl_ln]; exact h.1, fun i v hi => ?_⟩
  cases a with
  | zero => exact h.2 i v hi
  | succ j =>
    unfold kl at hi ⊢
    dsimp only at hi ⊢
    by_cases e : i = j
    · subst e
      have hL : L[i]? = some (some v) ∧ (∀ x, v ≠ .long x) ∧ ∀ x, v ≠ .double x := by
        split at hi
        · rename_i hw
          have hl : i < L.length := by
            rw [List.getD_eq_getElem?_getD] at hw
            rcases Nat.lt_or_ge i L.length with q | q
            · exact q
            · rw [List.getElem?_eq_none q] at hw; cases hw
          rw [List.getElem?_set_self hl] at hi; cases hi
        · rename_i hw
          have hl : i < L.length := by
            rw [List.getD_eq_getElem?_getD] at hw
            rcases Nat.lt_or_ge i L.length with q | q
            · exact q
            · rw [List.getElem?_eq_none q] at hw; cases hw
          rw [List.getElem?_set_self hl] at hi; cases hi
        · rename_i h1 h2
          have h4 : L.getD i none = some v := by rw [List.getD_eq_getElem?_getD, hi]; rfl
          exact ⟨hi, fun x q => h1 x (by rw [h4, q]), fun x q => h2 x (by rw [h4, q])⟩
      have h5 : L'.getD i none = some v := h.gd (by rw [List.getD_eq_getElem?_getD, hL.1]; rfl)
      rw [h5]
      split
      · rename_i hq; exact absurd (Option.some.inj hq) (hL.2.1 _)
      · rename_i hq; exact absurd (Option.some.inj hq) (hL.2.2 _)
      · exact h.2 i v hL.1
    · have hL : L[i]? = some (some v) := by
        split at hi
        · rw [List.getElem?_set_ne (Ne.symm e)] at hi; exact hi
        · rw [List.getElem?_set_ne (Ne.symm e)] at hi; exact hi
        · exact hi
      have h6 := h.2 i v hL
      split
      · rw [List.getElem?_set_ne (Ne.symm e)]; exact h6
      · rw [List.getElem?_set_ne (Ne.symm e)]; exact h6
      · exact h6
theorem set_le {L L' : Lo} (h : leL L L') (a : Nat) (w : Value) : leL (L.set a (some w)) (L'.set a (some w)) := by
  refine ⟨by rw [List.length_set, List.length_set]; exact h.1, fun i v hi => ?_⟩
  by_cases e : i = a
  · subst e
    by_cases hl : i < L.length
    · rw [List.getElem?_set_self hl] at hi
      rw [List.getElem?_set_self (by rw [← h.1]; exact hl)]
      exact hi
    · rw [List.getElem?_eq_none (by rw [List.length_set]; omega)] at hi; cases hi
  · rw [List.getElem?_set_ne (Ne.symm e)] at hi ⊢
    exact h.2 i v hi
theorem stL_weak {L L' L1 : Lo} (h : leL L L') {a : Nat} {w : Value} (hs : stL L a w = some L1) : ∃ L2, stL L' a w = some L2 ∧ leL L1 L2 := by
  unfold stL at hs ⊢
  rw [← h.1]
  split at hs
  · rename_i hc
    cases hs
    exact ⟨_, if_pos hc, set_le (kl_le h a) a w⟩
  · cases hs
theorem ldI_weak {L L' L1 : Lo} (h : leL L L') {a : Nat} {st st1 : List Value} (hs : ldI L a st = some (L1, st1)) : ∃ L2, ldI L' a st = some (L2, st1) ∧ leL L1 L2 := by
  unfold ldI at hs ⊢
  split at hs
  · rename_i hg; cases hs; rw [h.gd hg]; exact ⟨_, rfl, h⟩
  · cases hs
theorem ldL_weak {L L' L1 : Lo} (h : leL L L') {a : Nat} {st st1 : List Value} (hs : ldL L a st = some (L1, st1)) : ∃ L2, ldL L' a st = some (L2, st1) ∧ leL L1 L2 := by
  unfold ldL at hs ⊢
  split at hs
  · rename_i hg; cases hs; rw [h.gd hg]; exact ⟨_, rfl, h⟩
  · cases hs
theorem ldA_weak {L L' L1 : Lo} (h : leL L L') {a : Nat} {st st1 : List Value} (hs : ldA L a st = some (L1, st1)) : ∃ L2, ldA L' a st = some (L2, st1) ∧ leL L1 L2 := by
  unfold ldA at hs ⊢
  split at hs
  · rename_i hg; cases hs; rw [h.gd hg]; exact ⟨_, rfl, h⟩
  · rename_i hg; cases hs; rw [h.gd hg]; exact ⟨_, rfl, h⟩
  · rename_i hg; cases hs; rw [h.gd hg]; exact ⟨_, rfl, h⟩
  · cases hs
theorem siI_weak {L L' L1 : Lo} (h : leL L L') {a : Nat} {st st1 : List Value} (hs : siI L a st = some (L1, st1)) : ∃ L2, siI L' a st = some (L2, st1) ∧ leL L1 L2 := by
  unfold siI at hs ⊢
  split at hs
  · obtain ⟨l1, h1, h2⟩ := Option.map_eq_some_iff.mp hs
    cases h2
    obtain ⟨l2, h3, h4⟩ := stL_weak h h1
    exact ⟨l2, by rw [h3]; rfl, h4⟩
  · cases hs
theorem siA_weak {L L' L1 : Lo} (h : leL L L') {a : Nat} {st st1 : List Value} (hs : siA L a st = some (L1, st1)) : ∃ L2, siA L' a st = some (L2, st1) ∧ leL L1 L2 := by
  unfold siA at hs ⊢
  split at hs
  · obtain ⟨l1, h1, h2⟩ := Option.map_eq_some_iff.mp hs
    cases h2
    obtain ⟨l2, h3, h4⟩ := stL_weak h h1
    exact ⟨l2, by rw [h3]; rfl, h4⟩
  · obtain ⟨l1, h1, h2⟩ := Option.map_eq_some_iff.mp hs
    cases h2
    obtain ⟨l2, h3, h4⟩ := stL_weak h h1
    exact ⟨l2, by rw [h3]; rfl, h4⟩
  · obtain ⟨l1, h1, h2⟩ := Option.map_eq_some_iff.mp hs
    cases h2
    obtain ⟨l2, h3, h4⟩ := stL_weak h h1
    exact ⟨l2, by rw [h3]; rfl, h4⟩
  · cases hs
theorem inc_weak {L L' L1 : Lo} (h : leL L L') {a : Nat} {v : Value} {st st1 : List Value} (hs : inc L a v st = some (L1, st1)) : ∃ L2, inc L' a v st = some (L2, st1) ∧ leL L1 L2 := by
  unfold inc at hs ⊢
  split at hs
  · split at hs
    · rename_i hg
      rw [h.gd hg]
      obtain ⟨l1, h1, h2⟩ := Option.map_eq_some_iff.mp hs
      cases h2
      obtain ⟨l2, h3, h4⟩ := stL_weak h h1
      exact ⟨l2, by dsimp only; rw [h3]; rfl, h4⟩
    · cases hs
  · cases hs
theorem bI_weak {f : Int32 → Int32 → Int32} {L L' L1 : Lo} (h : leL L L') {st st1 : List Value} (hs : bI f L st = some (L1, st1)) : ∃ L2, bI f L' st = some (L2, st1) ∧ leL L1 L2 := by
  unfold bI at hs ⊢
  split at hs
  · cases hs; exact ⟨_, rfl, h⟩
  · cases hs
theorem bL_weak {f : Int64 → Int64 → Int64} {L L' L1 : Lo} (h : leL L L') {st st1 : List Value} (hs : bL f L st = some (L1, st1)) : ∃ L2, bL f L' st = some (L2, st1) ∧ leL L1 L2 := by
  unfold bL at hs ⊢
  split at hs
  · cases hs; exact ⟨_, rfl, h⟩
  · cases hs
theorem uI_weak {f : Int32 → Value} {L L' L1 : Lo} (h : leL L L') {st st1 : List Value} (hs : uI f L st = some (L1, st1)) : ∃ L2, uI f L' st = some (L2, st1) ∧ leL L1 L2 := by
  unfold uI at hs ⊢
  split at hs
  · cases hs; exact ⟨_, rfl, h⟩
  · cases hs
theorem pst_weak {ins : Instr} {a : Nat} {v : Value} {L L' L1 : Lo} {st st1 : List Value} (h : leL L L') (hs : pst ins a v L st = some (L1, st1)) : ∃ L2, pst ins a v L' st = some (L2, st1) ∧ leL L1 L2 := by
  unfold pst at hs ⊢
  split at hs <;> (try dsimp only) <;> first
    | exact ldI_weak h hs
    | exact ldL_weak h hs
    | exact ldA_weak h hs
    | exact siI_weak h hs
    | exact siA_weak h hs
    | exact inc_weak h hs
    | exact bI_weak h hs
    | exact bL_weak h hs
    | exact uI_weak h hs
    | (cases hs; exact ⟨_, rfl, h⟩)
    | (split at hs <;> first | (cases hs; exact ⟨_, rfl, h⟩) | cases hs | (split at hs <;> first | (rename_i hc; cases hs; exact ⟨_, if_pos hc, h⟩) | cases hs))
    | (cases hs; done)
abbrev WkT (P P' : RnT) : Prop := ∀ y pc L st u X Q L', leL L L' → P y pc L st u X Q → P' y pc L' st u X Q
section Weak
variable {P P' : RnT}
theorem thrF_weak (hm : WkT P P') {L' : Lo} {y pc : Nat} {L : Lo} {u : Nat × Nat} {X : Xs} {Q : Po} {e : Nat} (hle : leL L L') (h : thrF P y pc L u X Q e) : thrF P' y pc L' u X Q e := by
  obtain ⟨ci, h1, h2⟩ := h
  refine ⟨ci, h1, ?_⟩
  cases hh : hfind y pc ci with
  | none => rw [hh] at h2; exact h2
  | some q => rw [hh] at h2; exact hm _ _ _ _ _ _ _ _ hle h2
theorem raiF_weak (hm : WkT P P') {L' : Lo} {y pc : Nat} {L : Lo} {u : Nat × Nat} {X : Xs} {Q : Po} {ci : Nat} {r : List Value} (hle : leL L L') (h : raiF P y pc L u X Q r ci) : raiF P' y pc L' u X Q r ci := ⟨h.1, thrF_weak hm hle h.2⟩
theorem conF_weak (hm : WkT P P') {L' : Lo} {y pc a : Nat} {L : Lo} {rest : List Value} {u : Nat × Nat} {X : Xs} {Q : Po} {o : Outcome} (hle : leL L L') (h : conF P y pc a L rest u X Q o) : conF P' y pc a L' rest u X Q o := by
  match o, h with
  | .returned none, h => exact hm _ _ _ _ _ _ _ _ hle h
  | .returned (some v), h => exact hm _ _ _ _ _ _ _ _ hle h
  | .threw e, h => exact ⟨h.1, thrF_weak hm hle h.2⟩
theorem calF_weak (hm : WkT P P') {L' : Lo} {y pc a : Nat} {args rest : List Value} {L : Lo} {u : Nat × Nat} {X : Xs} {Q : Po} (hle : leL L L') (h : calF P y pc a args rest L u X Q) : calF P' y pc a args rest L' u X Q := by
  obtain ⟨Q', h1, h2, h3⟩ := h
  exact ⟨Q', hm _ _ _ _ _ _ _ _ (leL.rf _) h1, h2, fun o X' k => conF_weak hm hle (h3 o X' k)⟩
set_option maxHeartbeats 4000000 in
theorem stepF_weak (hm : WkT P P') {L' : Lo} {y pc : Nat} {L : Lo} {st : List Value} {u : Nat × Nat} {X : Xs} {Q : Po} (hle : leL L L') (h : stepF P y pc L st u X Q) : stepF P' y pc L' st u X Q := by
  unfold stepF at h ⊢
  cases ho : opAt y pc with
  | none => rw [ho] at h; exact h
  | some o =>
    rw [ho] at h
    obtain ⟨tag, len, ins, a, b, v, ts⟩ := o
    dsimp only at h ⊢
    split at h <;> (try dsimp only)
    · split at h
      · rename_i L1 st1 hp
        obtain ⟨L2, hp2, hle2⟩ := pst_weak hle hp
        rw [hp2]
        exact hm _ _ _ _ _ _ _ _ hle2 h
      · exact absurd h id
    · split at h
      · exact ⟨fun c => hm _ _ _ _ _ _ _ _ hle (h.1 c), fun c => hm _ _ _ _ _ _ _ _ hle (h.2 c)⟩
      · exact h
    · exact hm _ _ _ _ _ _ _ _ hle h
    · split at h
      · exact ⟨h.1, hm _ _ _ _ _ _ _ _ hle h.2⟩
      · exact h
    · split at h
      · refine ⟨h.1, ?_⟩
        have h2 := h.2
        split at h2
        · exact ⟨h2.1, hm _ _ _ _ _ _ _ _ hle h2.2⟩
        · split at h2
          · exact hm _ _ _ _ _ _ _ _ hle h2
          · exact h2
        · split at h2
          · exact ⟨h2.1, hm _ _ _ _ _ _ _ _ hle h2.2⟩
          · exact h2
        · exact h2
      · exact h
    · split at h
      · split at h
        · obtain ⟨n, h1, h2, h3⟩ := h
          exact ⟨n, h1, h2, hm _ _ _ _ _ _ _ _ hle h3⟩
        · obtain ⟨t, n, h1, h2, h3, h4⟩ := h
          exact ⟨t, n, h1, h2, h3, hm _ _ _ _ _ _ _ _ hle h4⟩
        · obtain ⟨n, h1, h2, h3⟩ := h
          exact ⟨n, h1, h2, hm _ _ _ _ _ _ _ _ hle h3⟩
      · exact ⟨h.1, h.2.1, hm _ _ _ _ _ _ _ _ hle h.2.2⟩
      · exact h
    · split at h
      · obtain ⟨n, h1, h2, h3, h4⟩ := h
        exact ⟨n, h1, h2, h3, h4.imp (fun q => ⟨q.1, hm _ _ _ _ _ _ _ _ hle q.2⟩) (fun q => ⟨q.1, q.2.1, raiF_weak hm hle q.2.2⟩)⟩
      · obtain ⟨h0, n, h1, h4⟩ := h
        exact ⟨h0, n, h1, h4.imp (fun q => ⟨q.1, hm _ _ _ _ _ _ _ _ hle q.2⟩) (fun q => ⟨q.1, q.2.1, raiF_weak hm hle q.2.2⟩)⟩
      · obtain ⟨h0, t, n, ci, h1, h2, h3, h4, h5⟩ := h
        exact ⟨h0, t, n, ci, h1, h2, h3, h4, hm _ _ _ _ _ _ _ _ hle h5⟩
      · exact ⟨h.1, h.2.1, raiF_weak hm hle h.2.2⟩
      · exact ⟨h.1, raiF_weak hm hle h.2⟩
      · exact h
    · split at h
      · obtain ⟨t, n, h1, h2⟩ := h
        exact ⟨t, n, h1, hm _ _ _ _ _ _ _ _ hle h2⟩
      · exact hm _ _ _ _ _ _ _ _ hle h
      · exact h
    · exact ⟨h.1, h.2.1, calF_weak hm hle h.2.2⟩
    · obtain ⟨h0, k, ci, h1, h2, h3, h4, h5⟩ := h
      exact ⟨h0, k, ci, h1, h2, h3, h4, calF_weak hm hle h5⟩
    · exact h
    · split at h
      · obtain ⟨hws, h⟩ := h
        refine ⟨hws, ?_⟩
        rcases h with ⟨t, n0, n1, h1, h2, h3⟩ | ⟨t0, n0, t1, n1, h1, h2, h3, h4, h5, h6⟩
        · refine Or.inl ⟨t, n0, n1, h1, h2, ?_⟩
          rcases h3 with ⟨g1, g2, g3, g4, g5, g6⟩ | ⟨g1, g2, g3⟩
          · refine Or.inl ⟨g1, g2, g3, g4, g5, ?_⟩
            split at g6
            · exact hm _ _ _ _ _ _ _ _ hle g6
            · exact ⟨g6.1, hm _ _ _ _ _ _ _ _ hle g6.2⟩
            · exact ⟨g6.1, g6.2.1, hm _ _ _ _ _ _ _ _ hle g6.2.2⟩
          · exact Or.inr ⟨g1, g2, g3.1, raiF_weak hm hle g3.2⟩
        · exact Or.inr ⟨t0, n0, t1, n1, h1, h2, h3, h4, h5, raiF_weak hm hle h6⟩
      · exact ⟨h.1, h.2.1, h.2.2.1, raiF_weak hm hle h.2.2.2⟩
      · exact h
    · split at h
      · exact ⟨h.1, hm _ _ _ _ _ _ _ _ hle h.2⟩
      · exact h
    · exact ⟨h.1, hm _ _ _ _ _ _ _ _ hle h.2⟩
    · split at h
      · exact h.imp (fun q => ⟨q.1, q.2.1, q.2.2.1, hm _ _ _ _ _ _ _ _ hle q.2.2.2⟩) (fun q => ⟨q.1, raiF_weak hm hle q.2⟩)
      · exact h
    · split at h
      · exact ⟨h.1, h.2.1, h.2.2.1, hm _ _ _ _ _ _ _ _ hle h.2.2.2⟩
      · exact h
    · split at h
      · split at h
        · exact hm _ _ _ _ _ _ _ _ hle h
        · obtain ⟨t, n, h1, h2, h3⟩ := h
          exact ⟨t, n, h1, h2, h3.imp (fun q => ⟨q.1, hm _ _ _ _ _ _ _ _ hle q.2⟩) (fun q => ⟨q.1, raiF_weak hm hle q.2⟩)⟩
        · exact h
      · split at h
        · exact hm _ _ _ _ _ _ _ _ hle h
        · obtain ⟨t, n, h1, h2, h3⟩ := h
          exact ⟨t, n, h1, h2, hm _ _ _ _ _ _ _ _ hle h3⟩
        · exact h
      · exact h
    · split at h
      · exact ⟨fun i hi e => hm _ _ _ _ _ _ _ _ hle (h.1 i hi e), fun e => hm _ _ _ _ _ _ _ _ hle (h.2 e)⟩
      · exact h
    · split at h
      · exact thrF_weak hm hle h
      · exact h
    · split at h
      · refine ⟨h.1, ?_⟩
        have h2 := h.2
        split at h2
        · exact hm _ _ _ _ _ _ _ _ hle h2
        · exact hm _ _ _ _ _ _ _ _ hle h2
        · exact h2
      · exact h
    · exact hm _ _ _ _ _ _ _ _ hle h
    · split at h
      · split at h
        · exact hm _ _ _ _ _ _ _ _ hle h
        · exact hm _ _ _ _ _ _ _ _ hle h
        · exact h
      · split at h
        · exact hm _ _ _ _ _ _ _ _ hle h
        · exact hm _ _ _ _ _ _ _ _ hle h
        · exact h
      · exact h
    · exact h
end Weak
theorem Rn.weak {y pc : Nat} {L L' : Lo} {st : List Value} {u : Nat × Nat} {X : Xs} {Q : Po} (h : Rn y pc L st u X Q) (hle : leL L L') : Rn y pc L' st u X Q :=
  h (fun y pc L st u X Q => ∀ L', leL L L' → Rn y pc L' st u X Q) (fun _ _ _ _ _ _ _ k L' hl => Rn.fold (stepF_weak (fun _ _ _ _ _ _ _ _ hl2 q => q _ hl2) hl k)) L' hle
