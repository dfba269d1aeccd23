/-! THE CONSTRUCTORS: a store that is a list, and runs on it -/
abbrev Cel : Type := Sh × List Value × List Int32
def cS (c : List Cel) (k : Nat) : Option Sh := (c[k]?).map (fun x => x.1)
def cR (c : List Cel) (k j : Nat) : Value := match c[k]? with
  | some x => x.2.1.getD j .null
  | none => .null
def cI (c : List Cel) (k j : Nat) : Int32 := match c[k]? with
  | some x => x.2.2.getD j 0
  | none => 0
def stX (s : (Nat → Int32) × Nat) (c : List Cel) : Xs := ((cS c, cR c, c.length, s), cI c, fun _ _ => 0)
def pad {α : Type} (d : α) : List α → Nat → α → List α
  | [], 0, w => [w]
  | [], j + 1, w => d :: pad d [] j w
  | _ :: l, 0, w => w :: l
  | x :: l, j + 1, w => x :: pad d l j w
theorem pad_get {α : Type} (d : α) : ∀ (l : List α) j w i, (pad d l j w).getD i d = if i = j then w else l.getD i d
  | [], 0, w, i => by
    cases i with
    | zero => rfl
    | succ i => rfl
  | [], j + 1, w, i => by
    cases i with
    | zero => rfl
    | succ i =>
      have := pad_get d [] j w i
      show (pad d [] j w).getD i d = _
      rw [this]
      by_cases h : i = j
      · rw [if_pos h, if_pos (by omega)]
      · rw [if_neg h, if_neg (by omega)]
        rfl
  | x :: l, 0, w, i => by
    cases i with
    | zero => rfl
    | succ i => rfl
  | x :: l, j + 1, w, i => by
    cases i with
    | zero => rfl
    | succ i =>
      have := pad_get d l j w i
      show (pad d l j w).getD i d = _
      rw [this]
      by_cases h : i = j
      · rw [if_pos h, if_pos (by omega)]
      · rw [if_neg h, if_neg (by omega)]
        rfl
def cmod : List Cel → Nat → (Cel → Cel) → List Cel
  | [], _, _ => []
  | x :: l, 0, f => f x :: l
  | x :: l, k + 1, f => x :: cmod l k f
theorem cmod_get : ∀ (c : List Cel) k f (q : Nat), (cmod c k f)[q]? = if q = k then (c[q]?).map f else c[q]?
  | [], k, f, q => by
    show ([] : List Cel)[q]? = _
    simp
  | x :: l, 0, f, q => by
    cases q with
    | zero => rfl
    | succ q => rfl
  | x :: l, k + 1, f, q => by
    cases q with
    | zero => rfl
    | succ q =>
      have := cmod_get l k f q
      show (cmod l k f)[q]? = _
      rw [this]
      by_cases h : q = k
      · rw [if_pos h, if_pos (by omega)]
        rfl
      · rw [if_neg h, if_neg (by omega)]
        rfl
theorem cmod_len : ∀ (c : List Cel) k f, (cmod c k f).length = c.length
  | [], _, _ => rfl
  | _ :: _, 0, _ => rfl
  | x :: l, k + 1, f => by
    show (cmod l k f).length + 1 = l.length + 1
    rw [cmod_len l k f]
def putR (c : List Cel) (k j : Nat) (w : Value) : List Cel := cmod c k (fun x => (x.1, pad .null x.2.1 j w, x.2.2))
def putI (c : List Cel) (k j : Nat) (w : Int32) : List Cel := cmod c k (fun x => (x.1, x.2.1, pad 0 x.2.2 j w))
theorem stX_R {s : (Nat → Int32) × Nat} {c : List Cel} {k j : Nat} {w : Value} {h : Sh} (hk : cS c k = some h) : sR (stX s c) (up2 (stX s c).1.2.1 k j w) = stX s (putR c k j w) := by
  have e1 : cS (putR c k j w) = cS c := by
    funext q
    unfold cS putR
    rw [cmod_get]
    by_cases hq : q = k
    · rw [if_pos hq]
      cases c[q]? <;> rfl
    · rw [if_neg hq]
  have e2 : cR (putR c k j w) = up2 (cR c) k j w := by
    funext q i
    unfold cR putR up2
    rw [cmod_get]
    by_cases hq : q = k
    · subst hq
      rw [if_pos rfl, if_pos rfl]
      unfold cS at hk
      dsimp only
      cases hc : c[q]? with
      | none => rw [hc] at hk; cases hk
      | some x => exact pad_get _ _ _ _ _
    · rw [if_neg hq, if_neg hq]
  have e3 : cI (putR c k j w) = cI c := by
    funext q i
    unfold cI putR
    rw [cmod_get]
    by_cases hq : q = k
    · rw [if_pos hq]
      cases c[q]? <;> rfl
    · rw [if_neg hq]
  have e4 : (putR c k j w).length = c.length := cmod_len _ _ _
  show ((cS c, up2 (cR c) k j w, c.length, s), cI c, _) = ((cS (putR c k j w), cR (putR c k j w), (putR c k j w).length, s), cI (putR c k j w), _)
  rw [e1, e2, e3, e4]
theorem stX_I {s : (Nat → Int32) × Nat} {c : List Cel} {k j : Nat} {w : Int32} {h : Sh} (hk : cS c k = some h) : sI (stX s c) (up2 (stX s c).2.1 k j w) = stX s (putI c k j w) := by
  have e1 : cS (putI c k j w) = cS c := by
    funext q
    unfold cS putI
    rw [cmod_get]
    by_cases hq : q = k
    · rw [if_pos hq]
      cases c[q]? <;> rfl
    · rw [if_neg hq]
  have e2 : cI (putI c k j w) = up2 (cI c) k j w := by
    funext q i
    unfold cI putI up2
    rw [cmod_get]
    by_cases hq : q = k
    · subst hq
      rw [if_pos rfl, if_pos rfl]
      unfold cS at hk
      dsimp only
      cases hc : c[q]? with
      | none => rw [hc] at hk; cases hk
      | some x => exact pad_get _ _ _ _ _
    · rw [if_neg hq, if_neg hq]
  have e3 : cR (putI c k j w) = cR c := by
    funext q i
    unfold cR putI
    rw [cmod_get]
    by_cases hq : q = k
    · rw [if_pos hq]
      cases c[q]? <;> rfl
    · rw [if_neg hq]
  have e4 : (putI c k j w).length = c.length := cmod_len _ _ _
  show ((cS c, cR c, c.length, s), up2 (cI c) k j w, _) = ((cS (putI c k j w), cR (putI c k j w), (putI c k j w).length, s), cI (putI c k j w), _)
  rw [e1, e2, e3, e4]
  rfl
theorem stX_N {s : (Nat → Int32) × Nat} {c : List Cel} {h : Sh} : sN (stX s c) h = stX s (c ++ [(h, [], [])]) := by
  have gt : ∀ q, (c ++ [(h, [], [])])[q]? = if q = c.length then some ((h, [], []) : Cel) else c[q]? := fun q => by
    rcases Nat.lt_trichotomy q c.length with x | x | x
    · rw [List.getElem?_append_left x, if_neg (by omega)]
    · subst x
      rw [if_pos rfl, List.getElem?_append_right (Nat.le_refl _), Nat.sub_self]
      rfl
    · rw [if_neg (by omega), List.getElem?_eq_none (by rw [List.length_append]; show c.length + 1 ≤ q; omega), List.getElem?_eq_none (by omega)]
  have e1 : cS (c ++ [(h, [], [])]) = va_up (cS c) c.length (some h) := by
    funext q
    unfold cS
    rw [gt]
    by_cases hq : q = c.length
    · rw [if_pos hq, hq, va_up_self]
      rfl
    · rw [if_neg hq, va_up_ne _ _ hq]
  have e2 : cR (c ++ [(h, [], [])]) = va_up (cR c) c.length (fun _ => .null) := by
    funext q i
    by_cases hq : q = c.length
    · rw [hq, va_up_self]
      unfold cR
      rw [gt, if_pos rfl]
      rfl
    · rw [va_up_ne _ _ hq]
      unfold cR
      rw [gt, if_neg hq]
  have e3 : cI (c ++ [(h, [], [])]) = va_up (cI c) c.length (fun _ => 0) := by
    funext q i
    by_cases hq : q = c.length
    · rw [hq, va_up_self]
      unfold cI
      rw [gt, if_pos rfl]
      rfl
    · rw [va_up_ne _ _ hq]
      unfold cI
      rw [gt, if_neg hq]
  have e4 : (c ++ [((h, [], []) : Cel)]).length = c.length + 1 := by rw [List.length_append]; rfl
  have e5 : va_up (fun _ _ => (0 : Int64)) c.length (fun _ => 0) = fun (_ : Nat) (_ : Nat) => (0 : Int64) := by
    funext q i
    by_cases hq : q = c.length
    · rw [hq, va_up_self]
    · rw [va_up_ne _ _ hq]
  show ((va_up (cS c) c.length (some h), va_up (cR c) c.length (fun _ => .null), c.length + 1, s), va_up (cI c) c.length (fun _ => 0), va_up (fun _ _ => (0 : Int64)) c.length (fun _ => 0)) = ((cS (c ++ [(h, [], [])]), cR (c ++ [(h, [], [])]), (c ++ [((h, [], []) : Cel)]).length, s), cI (c ++ [(h, [], [])]), _)
  rw [e1, e2, e3, e4, e5]
def isCl (c : List Cel) (k a : Nat) : Bool := match cS c k with
  | some (.inl x) => x == a
  | _ => false
theorem isCl_t {c : List Cel} {k a : Nat} (h : isCl c k a = true) : cS c k = some (.inl a) := by
  unfold isCl at h
  split at h
  · rename_i x hx
    have : x = a := by simpa using h
    rw [hx, this]
  · cases h
def lastC (c : List Cel) (args : List Value) (ts : List Nat) : Bool := match ts with
  | [] => true
  | [ci] => (match args.getLast? with
    | some (.ref k) => isCl c k ci
    | _ => false)
  | _ => (match args.getLast? with
    | some (.ref k) => (match cS c k with
      | some (.inl ci) => decide (ci < 15)
      | _ => false)
    | _ => false)
def roomC (y a : Nat) (args rest : List Value) (u : Nat × Nat) : Bool := decide (mdep a < mdep y) && decide (mlcs a + 60 ≤ mlcs y) && decide (u.1 + mmc a ≤ mmc y) && decide (u.2 + mms a ≤ mms y) && decide (wsum rest ≤ 8) && decide ((sl args).length ≤ mloc a)
def runC : Nat → Nat → Nat → Lo → List Value → Nat × Nat → List Cel → Option (List Cel)
  | 0, _, _, _, _, _, _ => none
  | f + 1, y, pc, L, st, u, c => match opAt y pc with
    | none => none
    | some (tag, len, ins, a, b, v, ts) => match tag with
      | 0 => (match pst ins a v L st with
        | some (L', st') => runC f y (pc + len) L' st' u c
        | none => none)
      | 1 => (match ins, st with
        | .if_icmp .ge _, .int z :: .int x :: r => if x < z then runC f y (pc + len) L r u c else runC f y a L r u c
        | .ifCond .eq _, .int x :: r => if x = 0 then runC f y a L r u c else runC f y (pc + len) L r u c
        | .ifCond .ne _, .int x :: r => if x = 0 then runC f y (pc + len) L r u c else runC f y a L r u c
        | _, _ => none)
      | 2 => runC f y a L st u c
      | 3 => (match st with
        | .ref k :: r => if isCl c k a then runC f y (pc + len) L (fv (stX (fun _ => 0, 0) c) a k b :: r) u c else none
        | _ => none)
      | 4 => (match st with
        | w :: .ref k :: r => if isCl c k a then (match fk a b, w with
            | 0, w => if isRf w then runC f y (pc + len) L r u (putR c k b w) else none
            | 1, .int x => runC f y (pc + len) L r u (putI c k b x)
            | _, _ => none) else none
        | _ => none)
      | 6 => (match st with
        | .int x :: .int i :: .ref k :: r => (match a, cS c k with
          | 0, some (.inr (0, n)) => if ¬ i < 0 ∧ ¬ n ≤ i.toNatClampNeg then runC f y (pc + len) L r u (putI c k i.toNatClampNeg (nrw 0 x)) else none
          | _, _ => none)
        | .ref q :: .int i :: .ref k :: r => (match a, cS c k, cS c q with
          | 5, some (.inr (t, n)), some (.inl ci) => if okel t ci = true ∧ ¬ i < 0 ∧ ¬ n ≤ i.toNatClampNeg then runC f y (pc + len) L r u (putR c k i.toNatClampNeg (.ref q)) else none
          | _, _, _ => none)
        | _ => none)
      | 8 => if b ≤ st.length ∧ lastC c (st.take b) ts = true ∧ roomC y a (st.take b).reverse (st.drop b) u = true then (match runC f a 0 (entL (mloc a) (st.take b).reverse) [] (0, 0) c with
          | some c' => runC f y (pc + 3) L (st.drop b) (u.1 + mmc a, u.2 + mms a) c'
          | none => none) else none
      | 10 => (match ins, st with
        | .return_, [] => some c
        | _, _ => none)
      | 12 => (match st with
        | .ref _ :: r => if wsum r ≤ 8 then runC f y (pc + 3) L r u c else none
        | _ => none)
      | 13 => if u.1 + 1 ≤ mmc y ∧ u.2 + isz a ≤ mms y then runC f y (pc + 3) L (.ref c.length :: st) (u.1 + 1, u.2 + isz a) (c ++ [(.inl a, [], [])]) else none
      | 14 => (match st with
        | .int n :: r => if ¬ n < 0 ∧ n.toNatClampNeg ≤ 1000 ∧ u.1 + 1 ≤ mmc y ∧ u.2 + n.toNatClampNeg ≤ mms y then runC f y (pc + len) L (.ref c.length :: r) (u.1 + 1, u.2 + n.toNatClampNeg) (c ++ [(.inr (a, n.toNatClampNeg), [], [])]) else none
        | _ => none)
      | 15 => (match st with
        | .int n :: r => if ¬ n < 0 ∧ n.toNatClampNeg ≤ 1000 ∧ u.1 + 1 ≤ mmc y ∧ u.2 + n.toNatClampNeg ≤ mms y then runC f y (pc + len) L (.ref c.length :: r) (u.1 + 1, u.2 + n.toNatClampNeg) (c ++ [(.inr (a, n.toNatClampNeg), [], [])]) else none
        | _ => none)
      | 21 => runC f y (pc + len) L (v :: st) u c
      | _ => none
theorem fv_s {s s' : (Nat → Int32) × Nat} {c : List Cel} {a k b : Nat} : fv (stX s c) a k b = fv (stX s' c) a k b := rfl
theorem runC_ok {s : (Nat → Int32) × Nat} : ∀ f {y pc : Nat} {L : Lo} {st : List Value} {u : Nat × Nat} {c c' : List Cel} {Q : Po}, runC f y pc L st u c = some c' → Q (.returned none) (stX s c') → Rn y pc L st u (stX s c) Q := by
  intro f
  induction f with
  | zero => intro y pc L st u c c' Q h hQ; cases h
  | succ f ih =>
    intro y pc L st u c c' Q h hQ
    refine Rn.fold ?_
    unfold runC at h
    unfold stepF
    cases hop : opAt y pc with
    | none => rw [hop] at h; cases h
    | some o =>
      obtain ⟨tag, len, ins, a, b, v, ts⟩ := o
      rw [hop] at h
      dsimp only at h ⊢
      split at h
      · -- 0
        try dsimp only
        split at h
        · rename_i L' st' hp
          rw [hp]
          exact ih h hQ
        · cases h
      · -- 1
        try dsimp only
        split at h
        · show (_ → Rn y (pc + len) L _ u (stX s c) Q) ∧ (_ → Rn y a L _ u (stX s c) Q)
          split at h
          · rename_i hx
            exact ⟨fun _ => ih h hQ, fun hn => absurd hx hn⟩
          · rename_i hx
            exact ⟨fun hn => absurd hn hx, fun _ => ih h hQ⟩
        · show (_ → Rn y a L _ u (stX s c) Q) ∧ (_ → Rn y (pc + len) L _ u (stX s c) Q)
          split at h
          · rename_i hx
            exact ⟨fun _ => ih h hQ, fun hn => absurd hx hn⟩
          · rename_i hx
            exact ⟨fun hn => absurd hn hx, fun _ => ih h hQ⟩
        · show (_ → Rn y (pc + len) L _ u (stX s c) Q) ∧ (_ → Rn y a L _ u (stX s c) Q)
          split at h
          · rename_i hx
            exact ⟨fun _ => ih h hQ, fun hn => absurd hx hn⟩
          · rename_i hx
            exact ⟨fun hn => absurd hn hx, fun _ => ih h hQ⟩
        · cases h
      · -- 2
        exact ih h hQ
      · -- 3
        try dsimp only
        split at h
        · split at h
          · rename_i hx
            exact ⟨isCl_t hx, ih h hQ⟩
          · cases h
        · cases h
      · -- 4
        try dsimp only
        split at h
        · rename_i w k r
          split at h
          · rename_i hx
            have hk := isCl_t hx
            try dsimp only
            refine ⟨hk, ?_⟩
            split at h
            · rename_i hf
              rw [hf]
              split at h
              · rename_i hr
                refine ⟨hr, ?_⟩
                rw [stX_R hk]
                exact ih h hQ
              · cases h
            · rename_i x hf
              rw [hf]
              try dsimp only
              rw [stX_I hk]
              exact ih h hQ
            · cases h
          · cases h
        · cases h
      · -- 6
        try dsimp only
        split at h
        · rename_i x i k r
          split at h
          · rename_i n hk
            split at h
            · rename_i hx
              refine ⟨n, hk, by decide, by decide, Or.inl ⟨fun z => z.elim hx.1 hx.2, ?_⟩⟩
              rw [stX_I hk]
              exact ih h hQ
            · cases h
          · cases h
        · rename_i q i k r
          split at h
          · rename_i t n ci hk hq
            split at h
            · rename_i hx
              refine ⟨rfl, t, n, ci, hk, hq, hx.1, fun z => z.elim hx.2.1 hx.2.2, ?_⟩
              rw [stX_R hk]
              exact ih h hQ
            · cases h
          · cases h
        · cases h
      · -- 8
        try dsimp only
        split at h
        · rename_i hx
          obtain ⟨hb, hl, hr⟩ := hx
          cases hc : runC f a 0 (entL (mloc a) (st.take b).reverse) [] (0, 0) c with
          | none => rw [hc] at h; cases h
          | some c1 =>
            rw [hc] at h
            dsimp only at h
            refine ⟨hb, ?_, fun o X' => o = .returned none ∧ X' = stX s c1, ih hc ⟨rfl, rfl⟩, ?_, fun o X' hq => ?_⟩
            · unfold lastC at hl
              split at hl
              · trivial
              · split at hl
                · rename_i k hk
                  exact ⟨k, hk, isCl_t hl⟩
                · cases hl
              · rename_i h1 h2
                split at hl
                · rename_i k hk
                  split at hl
                  · rename_i ci hci
                    split
                    · trivial
                    · exact absurd rfl (h2 _)
                    · exact ⟨k, ci, hk, hci, of_decide_eq_true hl⟩
                  · cases hl
                · cases hl
            · unfold roomC at hr
              simp only [Bool.and_eq_true, decide_eq_true_eq] at hr
              obtain ⟨⟨⟨⟨⟨r1, r2⟩, r3⟩, r4⟩, r5⟩, r6⟩ := hr
              exact ⟨r1, r2, r3, r4, r5, r6⟩
            · obtain ⟨rfl, rfl⟩ := hq
              exact ih h hQ
        · cases h
      · -- 10
        try dsimp only
        split at h
        · cases h
          exact ⟨rfl, hQ⟩
        · cases h
      · -- 12
        try dsimp only
        split at h
        · split at h
          · rename_i hx
            exact ⟨hx, ih h hQ⟩
          · cases h
        · cases h
      · -- 13
        try dsimp only
        split at h
        · rename_i hx
          refine ⟨hx, ?_⟩
          rw [stX_N]
          exact ih h hQ
        · cases h
      · -- 14
        try dsimp only
        split at h
        · split at h
          · rename_i hx
            refine Or.inl ⟨hx.1, hx.2.1, hx.2.2, ?_⟩
            rw [stX_N]
            exact ih h hQ
          · cases h
        · cases h
      · -- 15
        try dsimp only
        split at h
        · split at h
          · rename_i hx
            refine ⟨hx.1, hx.2.1, hx.2.2, ?_⟩
            rw [stX_N]
            exact ih h hQ
          · cases h
        · cases h
      · -- 21
        exact ih h hQ
      · cases h
