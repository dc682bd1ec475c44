set_option maxRecDepth 100000
/-- what a text told, but for what is said of its notes (these may change) -/
def rnN (R : RlA) : RlA := (aL R, aF R, aP R, aD R, [], aS R, aK R)
def MKr (m : Nat) (σ : Hp) (R : RlA) : Prop := MRl m 0 σ (rnN R) ∧ RBd R ∧ gI σ m 12 = Int32.ofNat (aL R).length ∧ gI σ m 13 = Int32.ofNat (aF R).length ∧ gI σ m 14 = Int32.ofNat (aP R).length ∧ gI σ m 15 = Int32.ofNat (aD R).length ∧ gI σ m 58 = Int32.ofNat (aN R).length ∧ gI σ m 17 = Int32.ofNat (aK R) ∧ ∀ i x, (aN R)[i]? = some x → gI σ (m + 15) i = x.1
theorem MKd.r {m : Nat} {σ : Hp} {R : RlA} (h : MKd m σ R) (h58 : gI σ m 58 = Int32.ofNat (aN R).length) : MKr m σ R := by
  obtain ⟨⟨h1, h2, h3, h4, h5, h6⟩, hb, c1, c2, c3, c4, c5, c6⟩ := h
  refine ⟨⟨h1, h2, h3, h4, fun i x hi => (by cases hi), h6⟩, hb, c1, c2, c3, c4, h58, c6, fun i x hi => ?_⟩
  have := (h5 i x hi).1
  rw [show i = 6 * 0 + i by omega]
  exact this
