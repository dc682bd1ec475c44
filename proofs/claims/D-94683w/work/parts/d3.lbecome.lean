set_option maxRecDepth 100000
/-! LongYears' NOTES: one becomes another -/
def SBe (p a k : Nat) : Prop := (a = p ∧ k = 1) ∨ a = p + 1 ∨ a = p + 2
theorem l_become {p q : Nat} {σ : Hp} {w : NoteW} {Q : Hp → Prop} (hpq : p + 3 ≤ q ∨ q + 3 ≤ p) (h : pNw σ q w) (hQ : ∀ σ', Ch (SBe p) σ σ' → pNw σ' p w → Q σ') : wp_X5_become p σ q Q := by
  have c0 : Ch (SBe p) σ (pI σ p 1 (gI σ q 1)) := Ch.rf.i (Or.inl ⟨rfl, rfl⟩)
  refine lp_of (fun z => ∃ k, k ≤ 8 ∧ z.1 = Int32.ofNat k ∧ Ch (SBe p) σ z.2 ∧ gI z.2 p 1 = gI σ q 1 ∧ ∀ i, i < k → gI z.2 (p + 1) i = gI σ (q + 1) i ∧ gI z.2 (p + 2) i = gI σ (q + 2) i) (fun z => 8 - z.1.toNatClampNeg) ?_ ⟨0, by omega, rfl, c0, by show gI (pI σ p 1 (gI σ q 1)) p 1 = _; rw [gI_pI, if_pos ⟨rfl, rfl⟩], fun i q => absurd q (by omega)⟩
  rintro K ⟨x2, s⟩ ⟨k, hk, rfl, g1, g2, g3⟩ hK
  simp only at g1 g2 g3
  show (_ → _) ∧ (_ → _)
  rw [show (8 : Int32) = Int32.ofNat 8 from rfl, nat_le (by omega) (by omega)]
  refine ⟨fun c => hQ s g1 ⟨g2.trans h.1, fun i hi hh => ?_⟩, fun c => ?_⟩
  · have := h.2 i hi hh
    rw [(g3 i (by omega)).1, (g3 i (by omega)).2]
    exact this
  rw [nat_c (by omega), nat_s (by omega)]
  have v : vp_in (Int32.ofNat k) 8 := nat_v (by omega) (by omega)
  refine ⟨v, v, v, v, hK _ ⟨k + 1, by omega, rfl, (g1.i (Or.inr (Or.inl rfl))).i (Or.inr (Or.inr rfl)), ?_, fun i hi => ?_⟩ ?_⟩
  · show gI (pI (pI s (p + 1) k _) (p + 2) k _) p 1 = _
    rw [pIo (by omega), pIo (by omega)]; exact g2
  · show gI (pI (pI s (p + 1) k (gI s (q + 1) k)) (p + 2) k (gI (pI s (p + 1) k (gI s (q + 1) k)) (q + 2) k)) (p + 1) i = _ ∧ gI (pI (pI s (p + 1) k (gI s (q + 1) k)) (p + 2) k (gI (pI s (p + 1) k (gI s (q + 1) k)) (q + 2) k)) (p + 2) i = _
    have e1 : gI s (q + 1) k = gI σ (q + 1) k := g1.gi (by unfold SBe; omega)
    have e2 : gI (pI s (p + 1) k (gI s (q + 1) k)) (q + 2) k = gI σ (q + 2) k := by rw [pIo (by omega)]; exact g1.gi (by unfold SBe; omega)
    rw [e2, e1]
    by_cases c : i = k
    · subst c
      exact ⟨by rw [pIo (by omega), gI_pI, if_pos ⟨rfl, rfl⟩], by rw [gI_pI, if_pos ⟨rfl, rfl⟩]⟩
    · exact ⟨by rw [pIo (by omega), gI_pI, if_neg (fun w => c w.2)]; exact (g3 i (by omega)).1, by rw [gI_pI, if_neg (fun w => c w.2), pIo (by omega)]; exact (g3 i (by omega)).2⟩
  · show 8 - (Int32.ofNat (k + 1)).toNatClampNeg < 8 - (Int32.ofNat k).toNatClampNeg
    rw [nat_c (by omega), nat_c (by omega)]; omega
theorem l_forgetRows {o c : Nat} {σ : Hp} {Q : Hp → Prop} (hQ : ∀ σ', Ch (fun a _ => a = o + 35) σ σ' → (∀ k, k < 12 → gI σ' (o + 35) k = 0) → Q σ') : wp_X1_forgetRows o c σ Q := by
  refine lp_of (fun z => ∃ k, k ≤ 12 ∧ z.1 = Int32.ofNat k ∧ Ch (fun a _ => a = o + 35) σ z.2 ∧ ∀ i, i < k → gI z.2 (o + 35) i = 0) (fun z => 12 - z.1.toNatClampNeg) ?_ ⟨0, by omega, rfl, Ch.rf, fun i q => absurd q (by omega)⟩
  rintro K ⟨x2, s⟩ ⟨k, hk, rfl, g1, g2⟩ hK
  simp only at g1 g2
  show (_ → _) ∧ (_ → _)
  rw [show (12 : Int32) = Int32.ofNat 12 from rfl, nat_le (by omega) (by omega)]
  refine ⟨fun c => hQ s g1 (fun i hi => g2 i (by omega)), fun c => ?_⟩
  rw [nat_c (by omega), nat_s (by omega)]
  refine ⟨nat_v (by omega) (by omega), hK _ ⟨k + 1, by omega, rfl, g1.i rfl, fun i hi => ?_⟩ ?_⟩
  · show gI (pI s (o + 35) k (vp_nar .boolean 0)) (o + 35) i = 0
    rw [gI_pI]
    by_cases c : i = k
    · rw [if_pos ⟨rfl, c⟩]; rfl
    · rw [if_neg (fun w => c w.2)]; exact g2 i (by omega)
  · show 12 - (Int32.ofNat (k + 1)).toNatClampNeg < 12 - (Int32.ofNat k).toNatClampNeg
    rw [nat_c (by omega), nat_c (by omega)]; omega
