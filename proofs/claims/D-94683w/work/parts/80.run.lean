set_option maxRecDepth 100000
/-! A MACHINE's RUN: step by step till an end -/
def rn {S R : Type} (step : S → S ⊕ R) : Nat → S → Option R
  | 0, _ => none
  | k + 1, s => match step s with
    | .inl s' => rn step k s'
    | .inr r => some r
def Rn {S R : Type} (step : S → S ⊕ R) (s : S) (r : R) : Prop := ∃ k, rn step k s = some r
theorem rn_up {S R : Type} {step : S → S ⊕ R} {r : R} : ∀ (k j : Nat) (s : S), rn step k s = some r → k ≤ j → rn step j s = some r := by
  intro k
  induction k with
  | zero => intro j s h; cases h
  | succ k ih =>
    intro j s h hj
    obtain ⟨j, rfl⟩ : ∃ i, j = i + 1 := ⟨j - 1, by omega⟩
    unfold rn at h ⊢
    cases hs : step s with
    | inl s' => rw [hs] at h; exact ih j s' h (by omega)
    | inr q => rw [hs] at h; exact h
theorem Rn.det {S R : Type} {step : S → S ⊕ R} {s : S} {r q : R} (h1 : Rn step s r) (h2 : Rn step s q) : r = q := by
  obtain ⟨k, hk⟩ := h1
  obtain ⟨j, hj⟩ := h2
  have a := rn_up k (k + j) s hk (by omega)
  have b := rn_up j (k + j) s hj (by omega)
  rw [a] at b
  cases b
  rfl
theorem Rn.st {S R : Type} {step : S → S ⊕ R} {s s' : S} {r : R} (h : step s = .inl s') (h2 : Rn step s' r) : Rn step s r := by
  obtain ⟨k, hk⟩ := h2
  exact ⟨k + 1, by unfold rn; rw [h]; exact hk⟩
theorem Rn.en {S R : Type} {step : S → S ⊕ R} {s : S} {r : R} (h : step s = .inr r) : Rn step s r := ⟨1, by unfold rn; rw [h]⟩
theorem Rn.tot {S R : Type} {step : S → S ⊕ R} (μ : S → Nat) (h : ∀ s s', step s = .inl s' → μ s' < μ s) : ∀ s, ∃ r, Rn step s r := by
  have key : ∀ (n : Nat) (s : S), μ s < n → ∃ r, Rn step s r := by
    intro n
    induction n with
    | zero => exact fun s h => absurd h (Nat.not_lt_zero _)
    | succ n ih =>
      intro s hs
      cases e : step s with
      | inl s' =>
        obtain ⟨r, hr⟩ := ih s' (by have := h s s' e; omega)
        exact ⟨r, hr.st e⟩
      | inr r => exact ⟨r, Rn.en e⟩
  exact fun s => key _ s (Nat.lt_succ_self _)
/-- .. leads on to another state -/
def Rc {S R : Type} (step : S → S ⊕ R) (s s' : S) : Prop := ∀ r, Rn step s' r → Rn step s r
theorem Rc.rf {S R : Type} {step : S → S ⊕ R} {s : S} : Rc step s s := fun _ h => h
theorem Rc.tr {S R : Type} {step : S → S ⊕ R} {s s' t : S} (h : Rc step s s') (h2 : Rc step s' t) : Rc step s t := fun r q => h r (h2 r q)
theorem Rc.one {S R : Type} {step : S → S ⊕ R} {s s' : S} (h : step s = .inl s') : Rc step s s' := fun _ q => q.st h
/-- a loop that goes with a machine -/
theorem lp_rn {α S R : Type} {body : (α → Prop) → α → Prop} {step : S → S ⊕ R} (I : S → α → Prop) {r : R}
    (h : ∀ (K : α → Prop) (s : S) (x : α), I s x → (∀ s' y, step s = .inl s' → I s' y → K y) → (∀ r', step s = .inr r' → r' = r) → body K x) {s : S} {x : α} (hI : I s x) (hr : Rn step s r) : lp body x := by
  obtain ⟨k, hk⟩ := hr
  refine lp_step (fun k x => ∃ s, I s x ∧ rn step k s = some r) ?_ (k := k) ⟨s, hI, hk⟩
  rintro k K x ⟨s, hI, hk⟩ hK
  cases k with
  | zero => cases hk
  | succ k =>
    unfold rn at hk
    refine h K s x hI (fun s' y e hy => ?_) (fun r' e => ?_)
    · rw [e] at hk
      exact hK k y (Nat.lt_succ_self _) ⟨s', hy, hk⟩
    · rw [e] at hk
      cases hk
      rfl
