set_option maxRecDepth 100000
/-! HEAPS: what is read behind what is written -/
theorem gI_pI (σ : Hp) (a k : Nat) (v : Int32) (b j : Nat) : gI (pI σ a k v) b j = if b = a ∧ j = k then v else gI σ b j := by
  show u2 _ _ _ _ _ _ = _
  unfold u2
  by_cases h1 : b = a
  · by_cases h2 : j = k
    · rw [if_pos h1, if_pos h2, if_pos ⟨h1, h2⟩]
    · rw [if_pos h1, if_neg h2, if_neg (fun q => h2 q.2)]; rfl
  · rw [if_neg h1, if_neg (fun q => h1 q.1)]; rfl
theorem gL_pL (σ : Hp) (a k : Nat) (v : Int64) (b j : Nat) : gL (pL σ a k v) b j = if b = a ∧ j = k then v else gL σ b j := by
  show u2 _ _ _ _ _ _ = _
  unfold u2
  by_cases h1 : b = a
  · by_cases h2 : j = k
    · rw [if_pos h1, if_pos h2, if_pos ⟨h1, h2⟩]
    · rw [if_pos h1, if_neg h2, if_neg (fun q => h2 q.2)]; rfl
  · rw [if_neg h1, if_neg (fun q => h1 q.1)]; rfl
theorem gR_pR (σ : Hp) (a k : Nat) (v : Option Nat) (b j : Nat) : gR (pR σ a k v) b j = if b = a ∧ j = k then v else gR σ b j := by
  show u2 _ _ _ _ _ _ = _
  unfold u2
  by_cases h1 : b = a
  · by_cases h2 : j = k
    · rw [if_pos h1, if_pos h2, if_pos ⟨h1, h2⟩]
    · rw [if_pos h1, if_neg h2, if_neg (fun q => h2 q.2)]; rfl
  · rw [if_neg h1, if_neg (fun q => h1 q.1)]; rfl
theorem gI_pL (σ : Hp) (a k : Nat) (v : Int64) (b j : Nat) : gI (pL σ a k v) b j = gI σ b j := rfl
theorem gI_pR (σ : Hp) (a k : Nat) (v : Option Nat) (b j : Nat) : gI (pR σ a k v) b j = gI σ b j := rfl
theorem gL_pI (σ : Hp) (a k : Nat) (v : Int32) (b j : Nat) : gL (pI σ a k v) b j = gL σ b j := rfl
theorem gL_pR (σ : Hp) (a k : Nat) (v : Option Nat) (b j : Nat) : gL (pR σ a k v) b j = gL σ b j := rfl
theorem gR_pI (σ : Hp) (a k : Nat) (v : Int32) (b j : Nat) : gR (pI σ a k v) b j = gR σ b j := rfl
theorem gR_pL (σ : Hp) (a k : Nat) (v : Int64) (b j : Nat) : gR (pL σ a k v) b j = gR σ b j := rfl
theorem gT_pI (σ : Hp) (a k : Nat) (v : Int32) (b : Nat) : gT (pI σ a k v) b = gT σ b := rfl
theorem gT_pL (σ : Hp) (a k : Nat) (v : Int64) (b : Nat) : gT (pL σ a k v) b = gT σ b := rfl
theorem gT_pR (σ : Hp) (a k : Nat) (v : Option Nat) (b : Nat) : gT (pR σ a k v) b = gT σ b := rfl
theorem gS_pI (σ : Hp) (a k : Nat) (v : Int32) : gS (pI σ a k v) = gS σ := rfl
theorem gS_pL (σ : Hp) (a k : Nat) (v : Int64) : gS (pL σ a k v) = gS σ := rfl
theorem gS_pR (σ : Hp) (a k : Nat) (v : Option Nat) : gS (pR σ a k v) = gS σ := rfl
theorem gS_pN (σ : Hp) (t : Nat ⊕ (FieldType × Nat)) : gS (pN σ t) = gS σ + 1 := rfl
theorem gI_pN (σ : Hp) (t : Nat ⊕ (FieldType × Nat)) (b j : Nat) : gI (pN σ t) b j = if b = gS σ then 0 else gI σ b j := by
  by_cases h : b = gS σ
  · rw [if_pos h]
    subst h
    simp [gI, pN, u1, gS]
  · rw [if_neg h, gI_old h]
theorem gL_pN (σ : Hp) (t : Nat ⊕ (FieldType × Nat)) (b j : Nat) : gL (pN σ t) b j = if b = gS σ then 0 else gL σ b j := by
  by_cases h : b = gS σ
  · rw [if_pos h]
    subst h
    simp [gL, pN, u1, gS]
  · rw [if_neg h, gL_old h]
theorem gR_pN (σ : Hp) (t : Nat ⊕ (FieldType × Nat)) (b j : Nat) : gR (pN σ t) b j = if b = gS σ then none else gR σ b j := by
  by_cases h : b = gS σ
  · rw [if_pos h]
    subst h
    simp [gR, pN, u1, gS]
  · rw [if_neg h, gR_old h]
theorem gT_pN (σ : Hp) (t : Nat ⊕ (FieldType × Nat)) (b : Nat) : gT (pN σ t) b = if b = gS σ then some t else gT σ b := by
  by_cases h : b = gS σ
  · rw [if_pos h]
    subst h
    exact gT_new
  · rw [if_neg h, gT_old h]
theorem u2_same {α : Type} (f : Nat → Nat → α) (a k : Nat) (v w : α) : u2 (u2 f a k v) a k w = u2 f a k w := by
  funext b j
  unfold u2
  by_cases h1 : b = a <;> by_cases h2 : j = k <;> simp [h1, h2]
theorem u2_comm {α : Type} (f : Nat → Nat → α) {a k a' k' : Nat} (v w : α) (h : a ≠ a' ∨ k ≠ k') : u2 (u2 f a k v) a' k' w = u2 (u2 f a' k' w) a k v := by
  funext b j
  unfold u2
  by_cases h1 : b = a <;> by_cases h2 : b = a' <;> by_cases h3 : j = k <;> by_cases h4 : j = k' <;> simp_all
theorem u2_id {α : Type} (f : Nat → Nat → α) (a k : Nat) : u2 f a k (f a k) = f := by
  funext b j
  unfold u2
  by_cases h1 : b = a
  · by_cases h2 : j = k
    · rw [if_pos h1, if_pos h2, h1, h2]
    · rw [if_pos h1, if_neg h2]
  · rw [if_neg h1]
theorem pI_same (σ : Hp) (a k : Nat) (v w : Int32) : pI (pI σ a k v) a k w = pI σ a k w := by
  unfold pI; simp only [u2_same]
theorem pI_comm (σ : Hp) {a k a' k' : Nat} (v w : Int32) (h : a ≠ a' ∨ k ≠ k') : pI (pI σ a k v) a' k' w = pI (pI σ a' k' w) a k v := by
  unfold pI; simp only [u2_comm _ v w h]
theorem pI_id (σ : Hp) (a k : Nat) : pI σ a k (gI σ a k) = σ := by
  unfold pI gI; rw [u2_id]
theorem pL_same (σ : Hp) (a k : Nat) (v w : Int64) : pL (pL σ a k v) a k w = pL σ a k w := by
  unfold pL; simp only [u2_same]
theorem pL_id (σ : Hp) (a k : Nat) : pL σ a k (gL σ a k) = σ := by
  unfold pL gL; rw [u2_id]
/-- only places in S have changed -/
def Ch (S : Nat → Nat → Prop) (σ σ' : Hp) : Prop := SH σ σ' ∧ ∀ a k, ¬ S a k → gI σ' a k = gI σ a k ∧ gL σ' a k = gL σ a k
theorem Ch.rf {S : Nat → Nat → Prop} {σ : Hp} : Ch S σ σ := ⟨SH.rf, fun _ _ _ => ⟨rfl, rfl⟩⟩
theorem Ch.tr {S : Nat → Nat → Prop} {σ σ' τ : Hp} (h : Ch S σ σ') (h2 : Ch S σ' τ) : Ch S σ τ := ⟨h.1.tr h2.1, fun a k q => ⟨(h2.2 a k q).1.trans (h.2 a k q).1, (h2.2 a k q).2.trans (h.2 a k q).2⟩⟩
theorem Ch.up {S S' : Nat → Nat → Prop} {σ σ' : Hp} (h : Ch S σ σ') (hs : ∀ a k, S a k → S' a k) : Ch S' σ σ' := ⟨h.1, fun a k q => h.2 a k (fun w => q (hs a k w))⟩
theorem Ch.i {S : Nat → Nat → Prop} {σ σ' : Hp} (h : Ch S σ σ') {a k : Nat} (hs : S a k) {v : Int32} : Ch S σ (pI σ' a k v) := ⟨h.1.i, fun b j q => by
  rw [gI_pI, if_neg (fun w => q (by rw [w.1, w.2]; exact hs)), gL_pI]
  exact h.2 b j q⟩
theorem Ch.l {S : Nat → Nat → Prop} {σ σ' : Hp} (h : Ch S σ σ') {a k : Nat} (hs : S a k) {v : Int64} : Ch S σ (pL σ' a k v) := ⟨h.1.l, fun b j q => by
  rw [gL_pL, if_neg (fun w => q (by rw [w.1, w.2]; exact hs)), gI_pL]
  exact h.2 b j q⟩
theorem Ch.gi {S : Nat → Nat → Prop} {σ σ' : Hp} (h : Ch S σ σ') {a k : Nat} (hs : ¬ S a k) : gI σ' a k = gI σ a k := (h.2 a k hs).1
theorem Ch.gl {S : Nat → Nat → Prop} {σ σ' : Hp} (h : Ch S σ σ') {a k : Nat} (hs : ¬ S a k) : gL σ' a k = gL σ a k := (h.2 a k hs).2
theorem Ch.gr {S : Nat → Nat → Prop} {σ σ' : Hp} (h : Ch S σ σ') {a k : Nat} : gR σ' a k = gR σ a k := by rw [h.1.2.2]
theorem Ch.gt {S : Nat → Nat → Prop} {σ σ' : Hp} (h : Ch S σ σ') {a : Nat} : gT σ' a = gT σ a := by rw [h.1.2.1]
theorem Ch.gs {S : Nat → Nat → Prop} {σ σ' : Hp} (h : Ch S σ σ') : gS σ' = gS σ := h.1.1
