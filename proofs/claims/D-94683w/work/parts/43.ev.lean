set_option maxRecDepth 100000
/-- what a sum's part at p answers, by its depth -/
def EVn (σ : Hp) (nm : Nat) : Nat → Nat → (Int64 → Prop) → Prop → Prop
  | 0 => fun _ _ _ => False
  | k + 1 => fun p Q E => (OB 12 p σ ∧ wp_X15_of p σ nm 6 Q E (EVn σ nm k)) ∨ (OB 13 p σ ∧ wp_X16_of p σ nm 6 Q E (EVn σ nm k)) ∨ (OB 14 p σ ∧ wp_X17_of p σ nm 6 Q E (EVn σ nm k)) ∨ (OB 15 p σ ∧ wp_X18_of p σ nm 6 Q E (EVn σ nm k))
theorem pm_all {σ : Hp} {nm : Nat} (hn : gT σ nm = some (.inr (.long, 6))) : ∀ (k p : Nat) (Q : Int64 → Prop) (E : Prop), EVn σ nm k p Q E → PM k σ nm p Q E := by
  intro k
  induction k with
  | zero => exact fun p Q E h => h.elim
  | succ k ih =>
    intro p Q E h
    rcases h with ⟨hb, h⟩ | ⟨hb, h⟩ | ⟨hb, h⟩ | ⟨hb, h⟩
    · exact ⟨12, 2, _, _, se_X15, hb, by decide, met_X15_of k p σ nm 6 Q E (EVn σ nm k) hb hn ih h⟩
    · exact ⟨13, 2, _, _, se_X16, hb, by decide, met_X16_of k p σ nm 6 Q E (EVn σ nm k) hb hn ih h⟩
    · exact ⟨14, 2, _, _, se_X17, hb, by decide, met_X17_of k p σ nm 6 Q E (EVn σ nm k) hb hn ih h⟩
    · exact ⟨15, 6, _, _, se_X18, hb, by decide, met_X18_of k p σ nm 6 Q E (EVn σ nm k) hb hn ih h⟩
