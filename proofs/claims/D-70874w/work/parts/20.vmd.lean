/-! EXCEPTIONS: behind the machine's own -/
theorem rai_room : ∀ y, y < 170 → exC ≤ mmc y → exS ≤ mms y → 8 < mdep y ∧ 10250 ≤ mlcs y := by decide +kernel
theorem nfd_ex : ∀ ci, 10 ≤ ci → nfd ci = 0
  | 0, h => by omega
  | 1, h => by omega
  | 2, h => by omega
  | 3, h => by omega
  | 4, h => by omega
  | 5, h => by omega
  | 6, h => by omega
  | 7, h => by omega
  | 8, h => by omega
  | 9, h => by omega
  | 10, _ => rfl
  | 11, _ => rfl
  | 12, _ => rfl
  | 13, _ => rfl
  | 14, _ => rfl
  | n + 15, _ => rfl
/-- a start that comes to throw an object of the machine's own making, over the method's frame g -/
def NTX (p : Program) (l : Launch) (e : Env) (R : Room) (s : State) (m : MethodId) (args : Array Value) (below : List Frame) (meth : Method) (c : Code) (T S0 : State) (g : JFrame) (cls : String) (locs : List Loc) (cells slots : Nat) : Prop :=
  ∃ (U : State) (locs' : List Loc) (a n : Nat) (ce : Cell), n ≤ slots + 3500 ∧ Stand p l e R s m args below meth c U locs' (cells + 3) n ∧ (∀ q ∈ locs', q ∈ locs ∨ T.heap.size ≤ q.base) ∧
    (∀ tg, Steps p.tables e below ((U.setTop g).pushFrame (.throwing a)) tg → Steps p.tables e below S0 tg) ∧ T.heap.size ≤ U.heap.size ∧ (∀ q, q < T.heap.size → U.heap[q]? = T.heap[q]?) ∧ T.heap.size ≤ a ∧ U.heap[a]? = some ce ∧ s.vm.findClass cls = some ce.cls ∧ ce.vm = .none
theorem nte_snd {y pc : Nat} {L : Lo} {u : Nat × Nat} {X : Xs} {Q : Po} {ci : Nat} {r : List Value} (hy : y < 170) (h : raiF Snd y pc L u X Q r ci) {p : Program} {l : Launch} {e : Env} {R : Room} {s : State} {m : MethodId} {args : Array Value} {below : List Frame} {meth : Method} {c : Code} {D : va_G} {dA : Nat → ClassId} {A : Nat → Prop} {Qf : State → Prop} {H : Heap} {locs : List Loc} {ls : Array Slot} {z z0 : Ad} {nf0 : Nat}
    (hC : Ctx y p l R s m args meth c D dA A) (hEnd : EndP y p l e R s m args below meth c D dA A Qf z0 nf0 X.1.2.2.2 Q) (hE : Exs z A X.1.2.2.2 s s.heap) (hWo : Wo D dA z A X H) (hag : agr z0 z nf0) (hnf : nf0 ≤ X.1.2.2.1) (hSv : va_S A s.heap H locs) (hl : hasL z X.1.2.2.1 ls L) (hlen : L.length = mloc y)
    {st0 : List Value} (h10 : 10 ≤ ci) (h15 : ci < 15) {T S0 : State} (hT : T.heap = H) (hN : NTX p l e R s m args below meth c T S0 (F0 m pc ls st0) (cRn ci) locs u.1 u.2) : ∃ t, Steps p.tables e below S0 t ∧ Qf t := by
  obtain ⟨⟨hu1, hu2, hw8⟩, hthr⟩ := h
  obtain ⟨U, locs', a, n, ce, hn, XU, hlc, hst, hsz, hkeep, hale, hce, hfc, hvm⟩ := hN
  rw [hT] at hsz hkeep hale hlc
  have hK := hC.2.2.1
  have hA := hC.2.2.2.1
  have hdc : D.1 ci = ce.cls := Option.some.inj ((hK.1.1 ci _ (mCl_at ci h15)).2.1.symm.trans hfc)
  have hz : agr z (z.1, va_up z.2 X.1.2.2.1 a) X.1.2.2.1 := agr_up
  have hkept : ∀ (k : Nat) (x : Nat × va_E), (wl dA z X)[k]? = some x → U.heap[x.1]? = H[x.1]? := fun k x hx => hkeep x.1 ((hWo.2.1 k x hx).lt)
  have key : wl dA z X ++ [(a, .inr (ci, []))] = wl dA (z.1, va_up z.2 X.1.2.2.1 a) (sN X (.inl ci)) := by
    refine wl_push rfl uo_self (fun j hj => uo_ne (by omega)) ?_ (fun j hj => cel_new hWo.1 hz hj)
    rw [cel_obj (X := sN X (.inl ci)) (a := ci) uo_self, nfd_ex ci h10]
    rfl
  have hAa : A a := hA a (Nat.le_trans hSv.1 hale)
  have one : ∀ {P : Nat → (Nat × va_E) → Prop}, P 0 (a, .inr (ci, [])) → ∀ k x, ([(a, .inr (ci, []))] : va_W)[k]? = some x → P k x := fun {P} h0 k x hx => by
    have hk1 : k < 1 := (List.getElem?_eq_some_iff.mp hx).1
    rw [show k = 0 by omega] at hx ⊢
    cases hx
    exact h0
  have hP1 : va_P D mCl (wl dA z X ++ [(a, .inr (ci, []))]) U.heap := (hWo.2.1.kept hkept).app (fun k x hx => one (P := fun _ x => va_at D mCl x U.heap) ⟨_, mCl_at ci h15, ce, hce, hdc.symm, hvm, fun j hj => by
    have h0 : j < nfd ci := hj
    rw [nfd_ex ci h10] at h0
    omega⟩ k x hx)
  have hD1 : va_D A (wl dA z X ++ [(a, .inr (ci, []))]) := hWo.2.2.app ⟨fun i j x q hi hj _ => by
      have h1 : i < 1 := (List.getElem?_eq_some_iff.mp hi).1
      have h2 : j < 1 := (List.getElem?_eq_some_iff.mp hj).1
      omega, fun k x hx => one (P := fun _ x => A x.1) hAa k x hx⟩ (fun i j x q hi hj e1 => by
      have h1 := (hWo.2.1 i x hi).lt
      have h2 : q.1 = a := one (P := fun _ x => x.1 = a) rfl j q hj
      rw [e1, h2] at h1
      omega)
  rw [key] at hP1 hD1
  have hS1 : va_S A s.heap U.heap locs' := ⟨Nat.le_trans hSv.1 hsz, fun q h1 h2 => (hkeep q (Nat.lt_of_lt_of_le h1 hSv.1)).trans (hSv.2.1 q h1 h2), fun q hq => by
    rcases hlc q hq with h1 | h1
    · exact hSv.2.2 q h1
    · exact hA _ (Nat.le_trans hSv.1 h1)⟩
  have hE' : Exs (z.1, va_up z.2 X.1.2.2.1 a) A X.1.2.2.2 s s.heap := hE
  have hfin := thr_snd (ls := ls) (z := (z.1, va_up z.2 X.1.2.2.1 a)) hy hthr hC hEnd hE' ⟨hWo.1.N (fun t n h => by cases h), hP1, hD1⟩ ⟨hz.1.trans hag.1, fun k hk => (hz.2 k (by omega)).trans (hag.2 k hk)⟩ (Nat.le_succ_of_le hnf) hS1 (hl.mono hz (Nat.le_succ _)) hlen ⟨hu1, hu2⟩ st0
  obtain ⟨t, s1, q1⟩ := hfin U rfl (stand_widen XU (show u.1 + 3 ≤ u.1 + exC by unfold exC; omega) (show n ≤ u.2 + exS by unfold exS; omega))
  rw [show ((z.1, va_up z.2 X.1.2.2.1 a) : Ad).2 X.1.2.2.1 = a from uo_self] at s1
  exact ⟨t, hst t s1, q1⟩
