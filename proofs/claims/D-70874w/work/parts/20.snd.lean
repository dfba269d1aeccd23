/-! SOUNDNESS: one step -/
theorem ops_out {y : Nat} (h : 170 ≤ y) : opsOf y = [] := by
  by_cases h2 : y < 176
  · rcases (show y = 170 ∨ y = 171 ∨ y = 172 ∨ y = 173 ∨ y = 174 ∨ y = 175 by omega) with rfl | rfl | rfl | rfl | rfl | rfl <;> rfl
  · unfold opsOf
    have h3 : 11 ≤ y / 16 := by omega
    rw [show opsOf_t.getD (y / 16) [] = [] from by rw [List.getD_eq_getElem?_getD, List.getElem?_eq_none (Nat.le_trans (by decide) h3)]; rfl]
    rfl
theorem lookup_mem {α : Type} {k : Nat} {v : α} : ∀ {l : List (Nat × α)}, l.lookup k = some v → (k, v) ∈ l
  | [], h => by cases h
  | (a, b) :: r, h => by
    rw [List.lookup_cons] at h
    split at h
    · rename_i e
      have e2 : k = a := by simpa using e
      cases h
      subst e2
      exact List.mem_cons_self
    · exact List.mem_cons_of_mem _ (lookup_mem h)
theorem op_facts (hall : ∀ y, y < 170 → chkA y = true) {y pc : Nat} {o : Op} (h : opAt y pc = some o) : y < 170 ∧ chk y pc o = true ∧ decode (mcod y) pc = .ok (o.2.2.1, o.2.1) := by
  have hy : y < 170 := by
    rcases Nat.lt_or_ge y 170 with q | q
    · exact q
    · unfold opAt at h; rw [ops_out q] at h; cases h
  have h1 := List.all_eq_true.mp (hall y hy) _ (lookup_mem h)
  rw [Bool.and_eq_true, decide_eq_true_eq] at h1
  exact ⟨hy, h1.1, h1.2⟩
theorem stL_len {L L' : Lo} {a : Nat} {w : Value} (h : stL L a w = some L') : L'.length = L.length := by
  unfold stL at h
  split at h
  · cases h; rw [List.length_set, kl_len]
  · cases h
theorem ldI_len {L L' : Lo} {a : Nat} {st st' : List Value} (h : ldI L a st = some (L', st')) : L' = L := by
  unfold ldI at h; split at h <;> cases h; rfl
theorem ldL_len {L L' : Lo} {a : Nat} {st st' : List Value} (h : ldL L a st = some (L', st')) : L' = L := by
  unfold ldL at h; split at h <;> cases h; rfl
theorem ldA_len {L L' : Lo} {a : Nat} {st st' : List Value} (h : ldA L a st = some (L', st')) : L' = L := by
  unfold ldA at h; split at h <;> cases h <;> rfl
theorem bI_len {f : Int32 → Int32 → Int32} {L L' : Lo} {st st' : List Value} (h : bI f L st = some (L', st')) : L' = L := by
  unfold bI at h; split at h <;> cases h; rfl
theorem bL_len {f : Int64 → Int64 → Int64} {L L' : Lo} {st st' : List Value} (h : bL f L st = some (L', st')) : L' = L := by
  unfold bL at h; split at h <;> cases h; rfl
theorem uI_len {f : Int32 → Value} {L L' : Lo} {st st' : List Value} (h : uI f L st = some (L', st')) : L' = L := by
  unfold uI at h; split at h <;> cases h; rfl
theorem siI_len {L L' : Lo} {a : Nat} {st st' : List Value} (h : siI L a st = some (L', st')) : L'.length = L.length := by
  unfold siI at h
  split at h
  · obtain ⟨l2, h1, h2⟩ := Option.map_eq_some_iff.mp h
    cases h2; exact stL_len h1
  · cases h
theorem siA_len {L L' : Lo} {a : Nat} {st st' : List Value} (h : siA L a st = some (L', st')) : L'.length = L.length := by
  unfold siA at h
  split at h
  · obtain ⟨l2, h1, h2⟩ := Option.map_eq_some_iff.mp h
    cases h2; exact stL_len h1
  · obtain ⟨l2, h1, h2⟩ := Option.map_eq_some_iff.mp h
    cases h2; exact stL_len h1
  · obtain ⟨l2, h1, h2⟩ := Option.map_eq_some_iff.mp h
    cases h2; exact stL_len h1
  · cases h
theorem inc_len {L L' : Lo} {a : Nat} {v : Value} {st st' : List Value} (h : inc L a v st = some (L', st')) : L'.length = L.length := by
  unfold inc at h
  split at h
  · split at h
    · obtain ⟨l2, h1, h2⟩ := Option.map_eq_some_iff.mp h
      cases h2; exact stL_len h1
    · cases h
  · cases h
theorem pst_len {ins : Instr} {a : Nat} {v : Value} {L L' : Lo} {st st' : List Value} (h : pst ins a v L st = some (L', st')) : L'.length = L.length := by
  unfold pst at h
  split at h <;> first
    | (cases h; rfl)
    | exact congrArg List.length (ldI_len h)
    | exact congrArg List.length (ldL_len h)
    | exact congrArg List.length (ldA_len h)
    | exact siI_len h
    | exact siA_len h
    | exact inc_len h
    | exact congrArg List.length (bI_len h)
    | exact congrArg List.length (bL_len h)
    | exact congrArg List.length (uI_len h)
    | (split at h <;> first | (cases h; rfl) | cases h | (split at h <;> first | (cases h; rfl) | cases h))
    | (cases h; done)
