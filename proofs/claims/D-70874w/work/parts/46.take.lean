/-! a State takes from another -/
def stp (e : En) (b : Nat) : Prop := (mkE e).1 b = some (.inl 6) ∧ ∀ o, o < 7 → (mkE e).1 (b + 1 + o) = some (.inr (0, 6)) ∧ (mkE e).2.1 b o = .ref (b + 1 + o)
theorem sw7 {C : Nat → Prop} (h0 : C 0) (h1 : C 1) (h2 : C 2) (h3 : C 3) (h4 : C 4) (h5 : C 5) (h6 : C 6) : ∀ o, o < 7 → C o
  | 0, _ => h0 | 1, _ => h1 | 2, _ => h2 | 3, _ => h3 | 4, _ => h4 | 5, _ => h5 | 6, _ => h6 | n + 7, h => absurd h (by omega)
theorem stp_7 {e : En} : stp e 7 := ⟨rfl, sw7 ⟨rfl, rfl⟩ ⟨rfl, rfl⟩ ⟨rfl, rfl⟩ ⟨rfl, rfl⟩ ⟨rfl, rfl⟩ ⟨rfl, rfl⟩ ⟨rfl, rfl⟩⟩
theorem stp_17 {e : En} : stp e 17 := ⟨rfl, sw7 ⟨rfl, rfl⟩ ⟨rfl, rfl⟩ ⟨rfl, rfl⟩ ⟨rfl, rfl⟩ ⟨rfl, rfl⟩ ⟨rfl, rfl⟩ ⟨rfl, rfl⟩⟩
theorem stp_26 {e : En} : stp e 26 := ⟨rfl, sw7 ⟨rfl, rfl⟩ ⟨rfl, rfl⟩ ⟨rfl, rfl⟩ ⟨rfl, rfl⟩ ⟨rfl, rfl⟩ ⟨rfl, rfl⟩ ⟨rfl, rfl⟩⟩
theorem stp_37 {e : En} : stp e 37 := ⟨rfl, sw7 ⟨rfl, rfl⟩ ⟨rfl, rfl⟩ ⟨rfl, rfl⟩ ⟨rfl, rfl⟩ ⟨rfl, rfl⟩ ⟨rfl, rfl⟩ ⟨rfl, rfl⟩⟩
theorem stp_past {e : En} : ∀ k, k < 8 → stp e (51 + 16 * k)
  | 0, _ => ⟨rfl, sw7 ⟨rfl, rfl⟩ ⟨rfl, rfl⟩ ⟨rfl, rfl⟩ ⟨rfl, rfl⟩ ⟨rfl, rfl⟩ ⟨rfl, rfl⟩ ⟨rfl, rfl⟩⟩
  | 1, _ => ⟨rfl, sw7 ⟨rfl, rfl⟩ ⟨rfl, rfl⟩ ⟨rfl, rfl⟩ ⟨rfl, rfl⟩ ⟨rfl, rfl⟩ ⟨rfl, rfl⟩ ⟨rfl, rfl⟩⟩
  | 2, _ => ⟨rfl, sw7 ⟨rfl, rfl⟩ ⟨rfl, rfl⟩ ⟨rfl, rfl⟩ ⟨rfl, rfl⟩ ⟨rfl, rfl⟩ ⟨rfl, rfl⟩ ⟨rfl, rfl⟩⟩
  | 3, _ => ⟨rfl, sw7 ⟨rfl, rfl⟩ ⟨rfl, rfl⟩ ⟨rfl, rfl⟩ ⟨rfl, rfl⟩ ⟨rfl, rfl⟩ ⟨rfl, rfl⟩ ⟨rfl, rfl⟩⟩
  | 4, _ => ⟨rfl, sw7 ⟨rfl, rfl⟩ ⟨rfl, rfl⟩ ⟨rfl, rfl⟩ ⟨rfl, rfl⟩ ⟨rfl, rfl⟩ ⟨rfl, rfl⟩ ⟨rfl, rfl⟩⟩
  | 5, _ => ⟨rfl, sw7 ⟨rfl, rfl⟩ ⟨rfl, rfl⟩ ⟨rfl, rfl⟩ ⟨rfl, rfl⟩ ⟨rfl, rfl⟩ ⟨rfl, rfl⟩ ⟨rfl, rfl⟩⟩
  | 6, _ => ⟨rfl, sw7 ⟨rfl, rfl⟩ ⟨rfl, rfl⟩ ⟨rfl, rfl⟩ ⟨rfl, rfl⟩ ⟨rfl, rfl⟩ ⟨rfl, rfl⟩ ⟨rfl, rfl⟩⟩
  | 7, _ => ⟨rfl, sw7 ⟨rfl, rfl⟩ ⟨rfl, rfl⟩ ⟨rfl, rfl⟩ ⟨rfl, rfl⟩ ⟨rfl, rfl⟩ ⟨rfl, rfl⟩ ⟨rfl, rfl⟩⟩
  | n + 8, h => absurd h (by omega)
theorem stp_kept {e : En} : ∀ k, k < 8 → stp e (59 + 16 * k)
  | 0, _ => ⟨rfl, sw7 ⟨rfl, rfl⟩ ⟨rfl, rfl⟩ ⟨rfl, rfl⟩ ⟨rfl, rfl⟩ ⟨rfl, rfl⟩ ⟨rfl, rfl⟩ ⟨rfl, rfl⟩⟩
  | 1, _ => ⟨rfl, sw7 ⟨rfl, rfl⟩ ⟨rfl, rfl⟩ ⟨rfl, rfl⟩ ⟨rfl, rfl⟩ ⟨rfl, rfl⟩ ⟨rfl, rfl⟩ ⟨rfl, rfl⟩⟩
  | 2, _ => ⟨rfl, sw7 ⟨rfl, rfl⟩ ⟨rfl, rfl⟩ ⟨rfl, rfl⟩ ⟨rfl, rfl⟩ ⟨rfl, rfl⟩ ⟨rfl, rfl⟩ ⟨rfl, rfl⟩⟩
  | 3, _ => ⟨rfl, sw7 ⟨rfl, rfl⟩ ⟨rfl, rfl⟩ ⟨rfl, rfl⟩ ⟨rfl, rfl⟩ ⟨rfl, rfl⟩ ⟨rfl, rfl⟩ ⟨rfl, rfl⟩⟩
  | 4, _ => ⟨rfl, sw7 ⟨rfl, rfl⟩ ⟨rfl, rfl⟩ ⟨rfl, rfl⟩ ⟨rfl, rfl⟩ ⟨rfl, rfl⟩ ⟨rfl, rfl⟩ ⟨rfl, rfl⟩⟩
  | 5, _ => ⟨rfl, sw7 ⟨rfl, rfl⟩ ⟨rfl, rfl⟩ ⟨rfl, rfl⟩ ⟨rfl, rfl⟩ ⟨rfl, rfl⟩ ⟨rfl, rfl⟩ ⟨rfl, rfl⟩⟩
  | 6, _ => ⟨rfl, sw7 ⟨rfl, rfl⟩ ⟨rfl, rfl⟩ ⟨rfl, rfl⟩ ⟨rfl, rfl⟩ ⟨rfl, rfl⟩ ⟨rfl, rfl⟩ ⟨rfl, rfl⟩⟩
  | 7, _ => ⟨rfl, sw7 ⟨rfl, rfl⟩ ⟨rfl, rfl⟩ ⟨rfl, rfl⟩ ⟨rfl, rfl⟩ ⟨rfl, rfl⟩ ⟨rfl, rfl⟩ ⟨rfl, rfl⟩⟩
  | n + 8, h => absurd h (by omega)
theorem td_0 {e : En} {I : Nat → Nat → Int32} {G : Nat → Nat → Int64} {Q : Po} {b s : Nat} (hs : stp e s) (hb : stp e b) (k : Rn 85 15 [some (.ref b), some (.ref s)] [] (0, 0) (mX e (va_up I (b + 1 + 3) (va_cpy (I (s + 1 + 3)) (I (b + 1 + 3)) 0 0 6)) G) Q) : Rn 85 0 [some (.ref b), some (.ref s)] [] (0, 0) (mX e I G) Q := by
  refine Rn.go 2 ⟨hs.1, ?_⟩
  show Rn 85 4 [some (.ref b), some (.ref s)] [(mkE e).2.1 s 3] (0, 0) (mX e (I) G) Q
  rw [(hs.2 3 (by omega)).2]
  refine Rn.go 3 ⟨hb.1, ?_⟩
  show Rn 85 9 [some (.ref b), some (.ref s)] [(mkE e).2.1 b 3, .int 0, .ref (s + 1 + 3)] (0, 0) (mX e (I) G) Q
  rw [(hb.2 3 (by omega)).2]
  refine Rn.go 3 ⟨by decide, Or.inl ⟨0, 6, 6, (hs.2 3 (by omega)).1, (hb.2 3 (by omega)).1, Or.inl ⟨by decide, by decide, by decide, by decide, by decide, by decide, fun _ _ => rfl, ?_⟩⟩⟩
  exact k
theorem td_15 {e : En} {I : Nat → Nat → Int32} {G : Nat → Nat → Int64} {Q : Po} {b s : Nat} (hs : stp e s) (hb : stp e b) (k : Rn 85 30 [some (.ref b), some (.ref s)] [] (0, 0) (mX e (va_up I (b + 1 + 4) (va_cpy (I (s + 1 + 4)) (I (b + 1 + 4)) 0 0 6)) G) Q) : Rn 85 15 [some (.ref b), some (.ref s)] [] (0, 0) (mX e I G) Q := by
  refine Rn.go 2 ⟨hs.1, ?_⟩
  show Rn 85 19 [some (.ref b), some (.ref s)] [(mkE e).2.1 s 4] (0, 0) (mX e (I) G) Q
  rw [(hs.2 4 (by omega)).2]
  refine Rn.go 3 ⟨hb.1, ?_⟩
  show Rn 85 24 [some (.ref b), some (.ref s)] [(mkE e).2.1 b 4, .int 0, .ref (s + 1 + 4)] (0, 0) (mX e (I) G) Q
  rw [(hb.2 4 (by omega)).2]
  refine Rn.go 3 ⟨by decide, Or.inl ⟨0, 6, 6, (hs.2 4 (by omega)).1, (hb.2 4 (by omega)).1, Or.inl ⟨by decide, by decide, by decide, by decide, by decide, by decide, fun _ _ => rfl, ?_⟩⟩⟩
  exact k
theorem td_30 {e : En} {I : Nat → Nat → Int32} {G : Nat → Nat → Int64} {Q : Po} {b s : Nat} (hs : stp e s) (hb : stp e b) (k : Rn 85 45 [some (.ref b), some (.ref s)] [] (0, 0) (mX e (va_up I (b + 1 + 5) (va_cpy (I (s + 1 + 5)) (I (b + 1 + 5)) 0 0 6)) G) Q) : Rn 85 30 [some (.ref b), some (.ref s)] [] (0, 0) (mX e I G) Q := by
  refine Rn.go 2 ⟨hs.1, ?_⟩
  show Rn 85 34 [some (.ref b), some (.ref s)] [(mkE e).2.1 s 5] (0, 0) (mX e (I) G) Q
  rw [(hs.2 5 (by omega)).2]
  refine Rn.go 3 ⟨hb.1, ?_⟩
  show Rn 85 39 [some (.ref b), some (.ref s)] [(mkE e).2.1 b 5, .int 0, .ref (s + 1 + 5)] (0, 0) (mX e (I) G) Q
  rw [(hb.2 5 (by omega)).2]
  refine Rn.go 3 ⟨by decide, Or.inl ⟨0, 6, 6, (hs.2 5 (by omega)).1, (hb.2 5 (by omega)).1, Or.inl ⟨by decide, by decide, by decide, by decide, by decide, by decide, fun _ _ => rfl, ?_⟩⟩⟩
  exact k
theorem td_45 {e : En} {I : Nat → Nat → Int32} {G : Nat → Nat → Int64} {Q : Po} {b s : Nat} (hs : stp e s) (hb : stp e b) (k : Rn 85 60 [some (.ref b), some (.ref s)] [] (0, 0) (mX e (va_up I (b + 1 + 6) (va_cpy (I (s + 1 + 6)) (I (b + 1 + 6)) 0 0 6)) G) Q) : Rn 85 45 [some (.ref b), some (.ref s)] [] (0, 0) (mX e I G) Q := by
  refine Rn.go 2 ⟨hs.1, ?_⟩
  show Rn 85 49 [some (.ref b), some (.ref s)] [(mkE e).2.1 s 6] (0, 0) (mX e (I) G) Q
  rw [(hs.2 6 (by omega)).2]
  refine Rn.go 3 ⟨hb.1, ?_⟩
  show Rn 85 54 [some (.ref b), some (.ref s)] [(mkE e).2.1 b 6, .int 0, .ref (s + 1 + 6)] (0, 0) (mX e (I) G) Q
  rw [(hb.2 6 (by omega)).2]
  refine Rn.go 3 ⟨by decide, Or.inl ⟨0, 6, 6, (hs.2 6 (by omega)).1, (hb.2 6 (by omega)).1, Or.inl ⟨by decide, by decide, by decide, by decide, by decide, by decide, fun _ _ => rfl, ?_⟩⟩⟩
  exact k
theorem tf_0 {e : En} {I : Nat → Nat → Int32} {G : Nat → Nat → Int64} {Q : Po} {b s : Nat} (hs : stp e s) (hb : stp e b) (k : Rn 84 15 [some (.ref b), some (.ref s)] [] (0, 0) (mX e (va_up I (b + 1 + 0) (va_cpy (I (s + 1 + 0)) (I (b + 1 + 0)) 0 0 6)) G) Q) : Rn 84 0 [some (.ref b), some (.ref s)] [] (0, 0) (mX e I G) Q := by
  refine Rn.go 2 ⟨hs.1, ?_⟩
  show Rn 84 4 [some (.ref b), some (.ref s)] [(mkE e).2.1 s 0] (0, 0) (mX e (I) G) Q
  rw [(hs.2 0 (by omega)).2]
  refine Rn.go 3 ⟨hb.1, ?_⟩
  show Rn 84 9 [some (.ref b), some (.ref s)] [(mkE e).2.1 b 0, .int 0, .ref (s + 1 + 0)] (0, 0) (mX e (I) G) Q
  rw [(hb.2 0 (by omega)).2]
  refine Rn.go 3 ⟨by decide, Or.inl ⟨0, 6, 6, (hs.2 0 (by omega)).1, (hb.2 0 (by omega)).1, Or.inl ⟨by decide, by decide, by decide, by decide, by decide, by decide, fun _ _ => rfl, ?_⟩⟩⟩
  exact k
theorem tf_15 {e : En} {I : Nat → Nat → Int32} {G : Nat → Nat → Int64} {Q : Po} {b s : Nat} (hs : stp e s) (hb : stp e b) (k : Rn 84 30 [some (.ref b), some (.ref s)] [] (0, 0) (mX e (va_up I (b + 1 + 1) (va_cpy (I (s + 1 + 1)) (I (b + 1 + 1)) 0 0 6)) G) Q) : Rn 84 15 [some (.ref b), some (.ref s)] [] (0, 0) (mX e I G) Q := by
  refine Rn.go 2 ⟨hs.1, ?_⟩
  show Rn 84 19 [some (.ref b), some (.ref s)] [(mkE e).2.1 s 1] (0, 0) (mX e (I) G) Q
  rw [(hs.2 1 (by omega)).2]
  refine Rn.go 3 ⟨hb.1, ?_⟩
  show Rn 84 24 [some (.ref b), some (.ref s)] [(mkE e).2.1 b 1, .int 0, .ref (s + 1 + 1)] (0, 0) (mX e (I) G) Q
  rw [(hb.2 1 (by omega)).2]
  refine Rn.go 3 ⟨by decide, Or.inl ⟨0, 6, 6, (hs.2 1 (by omega)).1, (hb.2 1 (by omega)).1, Or.inl ⟨by decide, by decide, by decide, by decide, by decide, by decide, fun _ _ => rfl, ?_⟩⟩⟩
  exact k
theorem tf_30 {e : En} {I : Nat → Nat → Int32} {G : Nat → Nat → Int64} {Q : Po} {b s : Nat} (hs : stp e s) (hb : stp e b) (k : Rn 84 45 [some (.ref b), some (.ref s)] [] (0, 0) (mX e (va_up I (b + 1 + 2) (va_cpy (I (s + 1 + 2)) (I (b + 1 + 2)) 0 0 6)) G) Q) : Rn 84 30 [some (.ref b), some (.ref s)] [] (0, 0) (mX e I G) Q := by
  refine Rn.go 2 ⟨hs.1, ?_⟩
  show Rn 84 34 [some (.ref b), some (.ref s)] [(mkE e).2.1 s 2] (0, 0) (mX e (I) G) Q
  rw [(hs.2 2 (by omega)).2]
  refine Rn.go 3 ⟨hb.1, ?_⟩
  show Rn 84 39 [some (.ref b), some (.ref s)] [(mkE e).2.1 b 2, .int 0, .ref (s + 1 + 2)] (0, 0) (mX e (I) G) Q
  rw [(hb.2 2 (by omega)).2]
  refine Rn.go 3 ⟨by decide, Or.inl ⟨0, 6, 6, (hs.2 2 (by omega)).1, (hb.2 2 (by omega)).1, Or.inl ⟨by decide, by decide, by decide, by decide, by decide, by decide, fun _ _ => rfl, ?_⟩⟩⟩
  exact k
theorem td_60 {e : En} {I : Nat → Nat → Int32} {G : Nat → Nat → Int64} {Q : Po} {b s : Nat} (hs : stp e s) (hb : stp e b) (k : Rn 85 68 [some (.ref b), some (.ref s)] [] (0, 0) (mX e (up2 I b 10 (I s 10)) G) Q) : Rn 85 60 [some (.ref b), some (.ref s)] [] (0, 0) (mX e I G) Q := Rn.go 4 ⟨hs.1, hb.1, k⟩
theorem td_68 {e : En} {I : Nat → Nat → Int32} {G : Nat → Nat → Int64} {Q : Po} {b s : Nat} (hs : stp e s) (hb : stp e b) (k : Rn 85 76 [some (.ref b), some (.ref s)] [] (0, 0) (mX e (up2 I b 11 (I s 11)) G) Q) : Rn 85 68 [some (.ref b), some (.ref s)] [] (0, 0) (mX e I G) Q := Rn.go 4 ⟨hs.1, hb.1, k⟩
theorem td_76 {e : En} {I : Nat → Nat → Int32} {G : Nat → Nat → Int64} {Q : Po} {b s : Nat} (hs : stp e s) (hb : stp e b) (k : Rn 85 84 [some (.ref b), some (.ref s)] [] (0, 0) (mX e (up2 I b 12 (I s 12)) G) Q) : Rn 85 76 [some (.ref b), some (.ref s)] [] (0, 0) (mX e I G) Q := Rn.go 4 ⟨hs.1, hb.1, k⟩
theorem td_84 {e : En} {I : Nat → Nat → Int32} {G : Nat → Nat → Int64} {Q : Po} {b s : Nat} (hs : stp e s) (hb : stp e b) (k : Rn 85 92 [some (.ref b), some (.ref s)] [] (0, 0) (mX e (up2 I b 13 (I s 13)) G) Q) : Rn 85 84 [some (.ref b), some (.ref s)] [] (0, 0) (mX e I G) Q := Rn.go 4 ⟨hs.1, hb.1, k⟩
theorem tf_50 {e : En} {I : Nat → Nat → Int32} {G : Nat → Nat → Int64} {Q : Po} {b s : Nat} (hs : stp e s) (hb : stp e b) (k : Rn 84 58 [some (.ref b), some (.ref s)] [] (0, 0) (mX e (up2 I b 7 (I s 7)) G) Q) : Rn 84 50 [some (.ref b), some (.ref s)] [] (0, 0) (mX e I G) Q := Rn.go 4 ⟨hs.1, hb.1, k⟩
theorem tf_58 {e : En} {I : Nat → Nat → Int32} {G : Nat → Nat → Int64} {Q : Po} {b s : Nat} (hs : stp e s) (hb : stp e b) (k : Rn 84 66 [some (.ref b), some (.ref s)] [] (0, 0) (mX e (up2 I b 8 (I s 8)) G) Q) : Rn 84 58 [some (.ref b), some (.ref s)] [] (0, 0) (mX e I G) Q := Rn.go 4 ⟨hs.1, hb.1, k⟩
theorem tf_66 {e : En} {I : Nat → Nat → Int32} {G : Nat → Nat → Int64} {Q : Po} {b s : Nat} (hs : stp e s) (hb : stp e b) (k : Rn 84 74 [some (.ref b), some (.ref s)] [] (0, 0) (mX e (up2 I b 9 (I s 9)) G) Q) : Rn 84 66 [some (.ref b), some (.ref s)] [] (0, 0) (mX e I G) Q := Rn.go 4 ⟨hs.1, hb.1, k⟩
theorem cpy6 {f g : Nat → Int32} {i : Nat} (h : i < 6) : va_cpy f g 0 0 6 i = f i := by
  unfold va_cpy
  rw [if_pos ⟨Nat.zero_le _, by omega⟩]
  simp
/-- the 28 ints of a town that days and hands change, in the twin's order -/
def dp (i : Nat) : Nat := if i < 4 then ([2, 4, 5, 6] : List Nat).getD i 0 else if i < 10 then 9 + 5 * (i - 4) else if i < 16 then 10 + 5 * (i - 10) else 37 + (i - 16)
def dayT (t : Nat → Int32) : Nat → Int32 := fun i => if i < 28 then t (dp i) else 0
/-- which of them, of a town's int -/
def dq (j : Nat) : Option Nat := if j = 2 then some 0 else if j = 4 then some 1 else if j = 5 then some 2 else if j = 6 then some 3 else if j < 7 then none else if j < 37 then (if (j - 7) % 5 = 2 then some (4 + (j - 7) / 5) else if (j - 7) % 5 = 3 then some (10 + (j - 7) / 5) else none) else if j < 49 then some (16 + (j - 37)) else none
def putD (t u : Nat → Int32) : Nat → Int32 := fun j => match dq j with | some i => u i | none => t j
theorem dq_dp : ∀ i, i < 28 → dq (dp i) = some i := by decide +kernel
theorem dp_lt : ∀ i, i < 28 → dp i < 49 := by decide +kernel
theorem dq_49 : ∀ j, j < 49 → ∀ i, dq j = some i → i < 28 ∧ dp i = j := by decide +kernel
/-- by cells: those of takeDay -/
theorem dq_ta : ∀ j, j < 49 → (((ta j).1 = 0 ∧ 10 ≤ (ta j).2 ∧ (ta j).2 ≤ 13 ∧ (dq j).isSome = true) ∨ (4 ≤ (ta j).1 ∧ (ta j).1 ≤ 7 ∧ (ta j).2 < 6 ∧ (dq j).isSome = true) ∨ ((ta j).1 = 0 ∧ 7 ≤ (ta j).2 ∧ (ta j).2 ≤ 9 ∧ dq j = none) ∨ (1 ≤ (ta j).1 ∧ (ta j).1 ≤ 3 ∧ (ta j).2 < 6 ∧ dq j = none)) := by decide +kernel
section S46
variable {e : En} {I : Nat → Nat → Int32} {G : Nat → Nat → Int64} {Q : Po} {b s : Nat}
/-- two States of the store: apart -/
def apart (b s : Nat) : Prop := b + 7 < s ∨ s + 7 < b
/-- what the cells say is what the towns say -/
theorem day_of {I' : Nat → Nat → Int32} (h1 : ∀ o, 4 ≤ o → o ≤ 7 → ∀ i, i < 6 → I' (b + o) i = I (s + o) i) (h2 : ∀ f, 10 ≤ f → f ≤ 13 → I' b f = I s f) (h3 : ∀ o, 1 ≤ o → o ≤ 3 → I' (b + o) = I (b + o)) (h4 : ∀ f, 7 ≤ f → f ≤ 9 → I' b f = I b f) : twn I' b = putD (twn I b) (dayT (twn I s)) := by
  funext j
  unfold putD
  by_cases hj : j < 49
  · have hr := dq_ta j hj
    cases hq : dq j with
    | some i =>
      obtain ⟨hi, hd⟩ := dq_49 j hj i hq
      show twn I' b j = dayT (twn I s) i
      unfold dayT twn
      rw [if_pos hi, if_pos hj, hd, if_pos hj]
      rw [hq] at hr
      rcases hr with ⟨a1, a2, a3, -⟩ | ⟨a1, a2, a3, -⟩ | ⟨-, -, -, a4⟩ | ⟨-, -, -, a4⟩
      · rw [a1]; exact h2 _ a2 a3
      · exact h1 _ a1 a2 _ a3
      · cases a4
      · cases a4
    | none =>
      show twn I' b j = twn I b j
      unfold twn
      rw [if_pos hj, if_pos hj]
      rw [hq] at hr
      rcases hr with ⟨-, -, -, a4⟩ | ⟨-, -, -, a4⟩ | ⟨a1, a2, a3, -⟩ | ⟨a1, a2, a3, -⟩
      · cases a4
      · cases a4
      · rw [a1]; exact h4 _ a2 a3
      · rw [h3 _ a1 a2]
  · have : dq j = none := by
      unfold dq
      rw [if_neg (by omega), if_neg (by omega), if_neg (by omega), if_neg (by omega), if_neg (by omega), if_neg (by omega), if_neg hj]
    rw [this]
    show twn I' b j = twn I b j
    unfold twn
    rw [if_neg hj, if_neg hj]
theorem c_takeDayR (hs : stp e s) (hb : stp e b) (ha : apart b s) (hQ : ∀ I', (∀ o, 4 ≤ o → o ≤ 7 → ∀ i, i < 6 → I' (b + o) i = I (s + o) i) → (∀ f, 10 ≤ f → f ≤ 13 → I' b f = I s f) → (∀ o, 1 ≤ o → o ≤ 3 → I' (b + o) = I (b + o)) → (∀ f, 7 ≤ f → f ≤ 9 → I' b f = I b f) → fr b (b + 7) I I' → Q (.returned none) (mX e I' G)) : Rn 85 0 [some (.ref b), some (.ref s)] [] (0, 0) (mX e I G) Q := by
  unfold apart at ha
  refine td_0 hs hb (td_15 hs hb (td_30 hs hb (td_45 hs hb (td_60 hs hb (td_68 hs hb (td_76 hs hb (td_84 hs hb (Rn.go 1 ⟨rfl, hQ _ ?_ ?_ ?_ ?_ ?_⟩))))))))
  · intro o h1 h2 i hi
    rcases (show o = 4 ∨ o = 5 ∨ o = 6 ∨ o = 7 by omega) with rfl | rfl | rfl | rfl
    all_goals
      rw [up2_ne (by omega), up2_ne (by omega), up2_ne (by omega), up2_ne (by omega)]
    · rw [va_up_ne _ _ (by omega), va_up_ne _ _ (by omega), va_up_ne _ _ (by omega), show b + 4 = b + 1 + 3 by omega, va_up_self, cpy6 hi, show s + 4 = s + 1 + 3 by omega]
    · rw [va_up_ne _ _ (by omega), va_up_ne _ _ (by omega), show b + 5 = b + 1 + 4 by omega, va_up_self, cpy6 hi, va_up_ne _ _ (by omega), show s + 5 = s + 1 + 4 by omega]
    · rw [va_up_ne _ _ (by omega), show b + 6 = b + 1 + 5 by omega, va_up_self, cpy6 hi, va_up_ne _ _ (by omega), va_up_ne _ _ (by omega), show s + 6 = s + 1 + 5 by omega]
    · rw [show b + 7 = b + 1 + 6 by omega, va_up_self, cpy6 hi, va_up_ne _ _ (by omega), va_up_ne _ _ (by omega), va_up_ne _ _ (by omega), show s + 7 = s + 1 + 6 by omega]
  · intro f h1 h2
    have e1 : ∀ (J : Nat → Nat → Int32) (g : Nat → Int32) (o q : Nat), q ≠ b + 1 + o → va_up J (b + 1 + o) g q = J q := fun J g o q hq => va_up_ne _ _ hq
    rcases (show f = 10 ∨ f = 11 ∨ f = 12 ∨ f = 13 by omega) with rfl | rfl | rfl | rfl
    · rw [up2_i (by omega), up2_i (by omega), up2_i (by omega), up2_v]
      rw [e1 _ _ _ _ (by omega), e1 _ _ _ _ (by omega), e1 _ _ _ _ (by omega), e1 _ _ _ _ (by omega)]
    · rw [up2_i (by omega), up2_i (by omega), up2_v, up2_ne (by omega)]
      rw [e1 _ _ _ _ (by omega), e1 _ _ _ _ (by omega), e1 _ _ _ _ (by omega), e1 _ _ _ _ (by omega)]
    · rw [up2_i (by omega), up2_v, up2_ne (by omega), up2_ne (by omega)]
      rw [e1 _ _ _ _ (by omega), e1 _ _ _ _ (by omega), e1 _ _ _ _ (by omega), e1 _ _ _ _ (by omega)]
    · rw [up2_v, up2_ne (by omega), up2_ne (by omega), up2_ne (by omega)]
      rw [e1 _ _ _ _ (by omega), e1 _ _ _ _ (by omega), e1 _ _ _ _ (by omega), e1 _ _ _ _ (by omega)]
  · intro o h1 h2
    rw [up2_ne (by omega), up2_ne (by omega), up2_ne (by omega), up2_ne (by omega), va_up_ne _ _ (by omega), va_up_ne _ _ (by omega), va_up_ne _ _ (by omega), va_up_ne _ _ (by omega)]
  · intro f h1 h2
    rw [up2_i (by omega), up2_i (by omega), up2_i (by omega), up2_i (by omega), va_up_ne _ _ (by omega), va_up_ne _ _ (by omega), va_up_ne _ _ (by omega), va_up_ne _ _ (by omega)]
  · intro k hk
    rw [up2_ne (by omega), up2_ne (by omega), up2_ne (by omega), up2_ne (by omega), va_up_ne _ _ (by omega), va_up_ne _ _ (by omega), va_up_ne _ _ (by omega), va_up_ne _ _ (by omega)]
/-- what days and hands change is taken -/
theorem c_takeDay (hs : stp e s) (hb : stp e b) (ha : apart b s) (hQ : ∀ I', twn I' b = putD (twn I b) (dayT (twn I s)) → fr b (b + 7) I I' → Q (.returned none) (mX e I' G)) : Rn 85 0 [some (.ref b), some (.ref s)] [] (0, 0) (mX e I G) Q :=
  c_takeDayR hs hb ha fun I' h1 h2 h3 h4 h5 => hQ I' (day_of h1 h2 h3 h4) h5
/-- all is taken -/
theorem c_takeFrom (hs : stp e s) (hb : stp e b) (ha : apart b s) (hQ : ∀ I', twn I' b = twn I s → fr b (b + 7) I I' → Q (.returned none) (mX e I' G)) : Rn 84 0 [some (.ref b), some (.ref s)] [] (0, 0) (mX e I G) Q := by
  have ha2 := ha
  unfold apart at ha2
  refine tf_0 hs hb (tf_15 hs hb (tf_30 hs hb (Rn.go 3 ⟨Nat.le_of_ble_eq_true rfl, ⟨b, rfl, hb.1⟩, _, c_takeDayR hs hb ha ?_, ⟨Nat.le_of_ble_eq_true rfl, Nat.le_of_ble_eq_true rfl, Nat.le_of_ble_eq_true rfl, Nat.le_of_ble_eq_true rfl, Nat.le_of_ble_eq_true rfl, Nat.le_of_ble_eq_true rfl⟩, fun _ _ hq => hq⟩)))
  intro I1 h1 h2 h3 h4 h5
  show Rn 84 50 [some (.ref b), some (.ref s)] [] (0, 0) (mX e I1 G) Q
  have hx : ∀ k, (k < b ∨ b + 7 < k) → I1 k = I k := by
    intro k hk
    rw [h5 k hk, va_up_ne _ _ (by omega), va_up_ne _ _ (by omega), va_up_ne _ _ (by omega)]
  refine tf_50 hs hb (tf_58 hs hb (tf_66 hs hb (Rn.go 1 ⟨rfl, hQ _ ?_ ?_⟩)))
  · funext j
    unfold twn
    by_cases hj : j < 49
    · rw [if_pos hj, if_pos hj]
      rcases dq_ta j hj with ⟨a1, a2, a3, -⟩ | ⟨a1, a2, a3, -⟩ | ⟨a1, a2, a3, -⟩ | ⟨a1, a2, a3, -⟩
      · rw [a1]
        show up2 _ b 9 _ b _ = I s _
        rw [up2_i (by omega), up2_i (by omega), up2_i (by omega), h2 _ a2 a3, va_up_ne _ _ (by omega), va_up_ne _ _ (by omega), va_up_ne _ _ (by omega)]
      · rw [up2_ne (by omega), up2_ne (by omega), up2_ne (by omega), h1 _ a1 a2 _ a3, va_up_ne _ _ (by omega), va_up_ne _ _ (by omega), va_up_ne _ _ (by omega)]
      · rw [a1]
        show up2 _ b 9 _ b _ = I s _
        generalize (ta j).2 = f at a2 a3
        rcases (show f = 7 ∨ f = 8 ∨ f = 9 by omega) with rfl | rfl | rfl
        · rw [up2_i (by omega), up2_i (by omega), up2_v, hx s (by omega)]
        · rw [up2_i (by omega), up2_v, up2_ne (by omega), hx s (by omega)]
        · rw [up2_v, up2_ne (by omega), up2_ne (by omega), hx s (by omega)]
      · rw [up2_ne (by omega), up2_ne (by omega), up2_ne (by omega), h3 _ a1 a2]
        generalize (ta j).1 = o at a1 a2
        rcases (show o = 1 ∨ o = 2 ∨ o = 3 by omega) with rfl | rfl | rfl
        · rw [va_up_ne _ _ (by omega), va_up_ne _ _ (by omega), show b + 1 = b + 1 + 0 by omega, va_up_self, cpy6 a3]
        · rw [va_up_ne _ _ (by omega), show b + 2 = b + 1 + 1 by omega, va_up_self, cpy6 a3, va_up_ne _ _ (by omega)]
        · rw [show b + 3 = b + 1 + 2 by omega, va_up_self, cpy6 a3, va_up_ne _ _ (by omega), va_up_ne _ _ (by omega)]
    · rw [if_neg hj, if_neg hj]
  · intro k hk
    rw [up2_ne (by omega), up2_ne (by omega), up2_ne (by omega)]
    exact hx k hk
end S46
