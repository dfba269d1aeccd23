/-! the machine's step is monotone; Rn is its least fixed point -/
abbrev MonT (P P' : RnT) : Prop := ∀ y pc L st u X Q, P y pc L st u X Q → P' y pc L st u X Q
section Mono
variable {P P' : RnT}
theorem thrF_mono (hm : MonT P P') {y pc : Nat} {L : Lo} {u : Nat × Nat} {X : Xs} {Q : Po} {e : Nat} (h : thrF P y pc L u X Q e) : thrF P' y pc L u X Q e := by
  obtain ⟨ci, h1, h2⟩ := h
  refine ⟨ci, h1, ?_⟩
  cases hh : hfind y pc ci with
  | none => rw [hh] at h2; exact h2
  | some q => rw [hh] at h2; exact hm _ _ _ _ _ _ _ h2
theorem raiF_mono (hm : MonT P P') {y pc : Nat} {L : Lo} {u : Nat × Nat} {X : Xs} {Q : Po} {ci : Nat} {r : List Value} (h : raiF P y pc L u X Q r ci) : raiF P' y pc L u X Q r ci := ⟨h.1, thrF_mono hm h.2⟩
theorem conF_mono (hm : MonT P P') {y pc a : Nat} {L : Lo} {rest : List Value} {u : Nat × Nat} {X : Xs} {Q : Po} {o : Outcome} (h : conF P y pc a L rest u X Q o) : conF P' y pc a L rest u X Q o := by
  match o, h with
  | .returned none, h => exact hm _ _ _ _ _ _ _ h
  | .returned (some v), h => exact hm _ _ _ _ _ _ _ h
  | .threw e, h => exact ⟨h.1, thrF_mono hm h.2⟩
theorem calF_mono (hm : MonT P P') {y pc a : Nat} {args rest : List Value} {L : Lo} {u : Nat × Nat} {X : Xs} {Q : Po} (h : calF P y pc a args rest L u X Q) : calF P' y pc a args rest L u X Q := by
  obtain ⟨Q', h1, h2, h3⟩ := h
  exact ⟨Q', hm _ _ _ _ _ _ _ h1, h2, fun o X' k => conF_mono hm (h3 o X' k)⟩
set_option maxHeartbeats 4000000 in
theorem stepF_mono (hm : MonT P P') {y pc : Nat} {L : Lo} {st : List Value} {u : Nat × Nat} {X : Xs} {Q : Po} (h : stepF P y pc L st u X Q) : stepF P' y pc L st u X Q := by
  unfold stepF at h ⊢
  cases ho : opAt y pc with
  | none => rw [ho] at h; exact h
  | some o =>
    rw [ho] at h
    obtain ⟨tag, len, ins, a, b, v, ts⟩ := o
    dsimp only at h ⊢
    split at h <;> (try dsimp only)
    · split at h
      · exact hm _ _ _ _ _ _ _ h
      · exact h
    · split at h
      · exact ⟨fun c => hm _ _ _ _ _ _ _ (h.1 c), fun c => hm _ _ _ _ _ _ _ (h.2 c)⟩
      · exact h
    · exact hm _ _ _ _ _ _ _ h
    · split at h
      · exact ⟨h.1, hm _ _ _ _ _ _ _ h.2⟩
      · exact h
    · split at h
      · refine ⟨h.1, ?_⟩
        have h2 := h.2
        split at h2
        · exact ⟨h2.1, hm _ _ _ _ _ _ _ h2.2⟩
        · split at h2
          · exact hm _ _ _ _ _ _ _ h2
          · exact h2
        · split at h2
          · exact ⟨h2.1, hm _ _ _ _ _ _ _ h2.2⟩
          · exact h2
        · exact h2
      · exact h
    · split at h
      · split at h
        · obtain ⟨n, h1, h2, h3⟩ := h
          exact ⟨n, h1, h2, hm _ _ _ _ _ _ _ h3⟩
        · obtain ⟨t, n, h1, h2, h3, h4⟩ := h
          exact ⟨t, n, h1, h2, h3, hm _ _ _ _ _ _ _ h4⟩
        · obtain ⟨n, h1, h2, h3⟩ := h
          exact ⟨n, h1, h2, hm _ _ _ _ _ _ _ h3⟩
      · exact ⟨h.1, h.2.1, hm _ _ _ _ _ _ _ h.2.2⟩
      · exact h
    · split at h
      · obtain ⟨n, h1, h2, h3, h4⟩ := h
        exact ⟨n, h1, h2, h3, h4.imp (fun q => ⟨q.1, hm _ _ _ _ _ _ _ q.2⟩) (fun q => ⟨q.1, q.2.1, raiF_mono hm q.2.2⟩)⟩
      · obtain ⟨h0, n, h1, h4⟩ := h
        exact ⟨h0, n, h1, h4.imp (fun q => ⟨q.1, hm _ _ _ _ _ _ _ q.2⟩) (fun q => ⟨q.1, q.2.1, raiF_mono hm q.2.2⟩)⟩
      · obtain ⟨h0, t, n, ci, h1, h2, h3, h4, h5⟩ := h
        exact ⟨h0, t, n, ci, h1, h2, h3, h4, hm _ _ _ _ _ _ _ h5⟩
      · exact ⟨h.1, h.2.1, raiF_mono hm h.2.2⟩
      · exact ⟨h.1, raiF_mono hm h.2⟩
      · exact h
    · split at h
      · obtain ⟨t, n, h1, h2⟩ := h
        exact ⟨t, n, h1, hm _ _ _ _ _ _ _ h2⟩
      · exact hm _ _ _ _ _ _ _ h
      · exact h
    · exact ⟨h.1, h.2.1, calF_mono hm h.2.2⟩
    · obtain ⟨h0, k, ci, h1, h2, h3, h4, h5⟩ := h
      exact ⟨h0, k, ci, h1, h2, h3, h4, calF_mono hm h5⟩
    · exact h
    · split at h
      · obtain ⟨hws, h⟩ := h
        refine ⟨hws, ?_⟩
        rcases h with ⟨t, n0, n1, h1, h2, h3⟩ | ⟨t0, n0, t1, n1, h1, h2, h3, h4, h5, h6⟩
        · refine Or.inl ⟨t, n0, n1, h1, h2, ?_⟩
          rcases h3 with ⟨g1, g2, g3, g4, g5, g6⟩ | ⟨g1, g2, g3⟩
          · refine Or.inl ⟨g1, g2, g3, g4, g5, ?_⟩
            split at g6
            · exact hm _ _ _ _ _ _ _ g6
            · exact ⟨g6.1, hm _ _ _ _ _ _ _ g6.2⟩
            · exact ⟨g6.1, g6.2.1, hm _ _ _ _ _ _ _ g6.2.2⟩
          · exact Or.inr ⟨g1, g2, g3.1, raiF_mono hm g3.2⟩
        · exact Or.inr ⟨t0, n0, t1, n1, h1, h2, h3, h4, h5, raiF_mono hm h6⟩
      · exact ⟨h.1, h.2.1, h.2.2.1, raiF_mono hm h.2.2.2⟩
      · exact h
    · split at h
      · exact ⟨h.1, hm _ _ _ _ _ _ _ h.2⟩
      · exact h
    · exact ⟨h.1, hm _ _ _ _ _ _ _ h.2⟩
    · split at h
      · exact h.imp (fun q => ⟨q.1, q.2.1, q.2.2.1, hm _ _ _ _ _ _ _ q.2.2.2⟩) (fun q => ⟨q.1, raiF_mono hm q.2⟩)
      · exact h
    · split at h
      · exact ⟨h.1, h.2.1, h.2.2.1, hm _ _ _ _ _ _ _ h.2.2.2⟩
      · exact h
    · split at h
      · split at h
        · exact hm _ _ _ _ _ _ _ h
        · obtain ⟨t, n, h1, h2, h3⟩ := h
          exact ⟨t, n, h1, h2, h3.imp (fun q => ⟨q.1, hm _ _ _ _ _ _ _ q.2⟩) (fun q => ⟨q.1, raiF_mono hm q.2⟩)⟩
        · exact h
      · split at h
        · exact hm _ _ _ _ _ _ _ h
        · obtain ⟨t, n, h1, h2, h3⟩ := h
          exact ⟨t, n, h1, h2, hm _ _ _ _ _ _ _ h3⟩
        · exact h
      · exact h
    · split at h
      · exact ⟨fun i hi e => hm _ _ _ _ _ _ _ (h.1 i hi e), fun e => hm _ _ _ _ _ _ _ (h.2 e)⟩
      · exact h
    · split at h
      · exact thrF_mono hm h
      · exact h
    · split at h
      · refine ⟨h.1, ?_⟩
        have h2 := h.2
        split at h2
        · exact hm _ _ _ _ _ _ _ h2
        · exact hm _ _ _ _ _ _ _ h2
        · exact h2
      · exact h
    · exact hm _ _ _ _ _ _ _ h
    · split at h
      · split at h
        · exact hm _ _ _ _ _ _ _ h
        · exact hm _ _ _ _ _ _ _ h
        · exact h
      · split at h
        · exact hm _ _ _ _ _ _ _ h
        · exact hm _ _ _ _ _ _ _ h
        · exact h
      · exact h
    · exact h
end Mono
theorem Rn.fold {y pc : Nat} {L : Lo} {st : List Value} {u : Nat × Nat} {X : Xs} {Q : Po} (h : stepF Rn y pc L st u X Q) : Rn y pc L st u X Q :=
  fun P hP => hP _ _ _ _ _ _ _ (stepF_mono (fun _ _ _ _ _ _ _ k => k P hP) h)
/-- several steps at once -/
def goF : Nat → RnT → RnT
  | 0, P => P
  | n + 1, P => fun y pc L st u X Q => stepF (goF n P) y pc L st u X Q
theorem Rn.go : ∀ (n : Nat) {y pc : Nat} {L : Lo} {st : List Value} {u : Nat × Nat} {X : Xs} {Q : Po}, goF n Rn y pc L st u X Q → Rn y pc L st u X Q
  | 0, _, _, _, _, _, _, _, h => h
  | n + 1, _, _, _, _, _, _, _, h => Rn.fold (stepF_mono (fun _ _ _ _ _ _ _ k => Rn.go n k) h)
