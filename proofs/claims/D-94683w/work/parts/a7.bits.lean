set_option maxRecDepth 100000
/-! BITS -/
theorem sh_k : ∀ k, k < 32 → (Int32.ofNat k &&& 31).toBitVec.smod 32 = BitVec.ofNat 32 k := by decide +kernel
theorem bv_has (x : BitVec 32) {k : Nat} (hk : k < 32) : (x.sshiftRight k &&& 1#32 = 1#32) ↔ x.getLsbD k = true := by
  constructor
  · intro h
    have := congrArg (fun y => y.getLsbD 0) h
    simp only [BitVec.getLsbD_and, BitVec.getLsbD_sshiftRight] at this
    simpa [hk] using this
  · intro h
    apply BitVec.eq_of_getLsbD_eq
    intro i hi
    by_cases h0 : i = 0
    · subst h0; simp [BitVec.getLsbD_sshiftRight, hk, h]
    · simp [h0]
theorem has_iff (w : Int32) {k : Nat} (hk : k < 32) : ((w >>> (Int32.ofNat k &&& 31)) &&& 1) = 1 ↔ nHas w k = true := by
  rw [← Int32.toBitVec_inj, Int32.toBitVec_and, Int32.toBitVec_shiftRight, sh_k k hk]
  unfold nHas
  rw [← bv_has w.toBitVec hk]
  have : (BitVec.ofNat 32 k).toNat = k := by simp; omega
  rw [BitVec.sshiftRight', this]
  rfl
theorem sh1 : ∀ k, k < 32 → ∀ j, j < 32 → ((1 : Int32) <<< (Int32.ofNat k &&& 31)).toBitVec.getLsbD j = decide (j = k) := by decide +kernel
theorem has_or (w : Int32) {k j : Nat} (hk : k < 32) (hj : j < 32) : nHas (w ||| (1 <<< (Int32.ofNat k &&& 31))) j = (nHas w j || decide (j = k)) := by
  unfold nHas
  rw [Int32.toBitVec_or, BitVec.getLsbD_or, sh1 k hk j hj]
theorem has_not (w : Int32) {k j : Nat} (hk : k < 32) (hj : j < 32) : nHas (w &&& ~~~(1 <<< (Int32.ofNat k &&& 31))) j = (nHas w j && !decide (j = k)) := by
  unfold nHas
  rw [Int32.toBitVec_and, Int32.toBitVec_not, BitVec.getLsbD_and, BitVec.getLsbD_not, sh1 k hk j hj]
  simp [hj]
theorem has_0 (k : Nat) : nHas 0 k = false := by
  unfold nHas
  simp
theorem has5 {p : Nat} {σ : Hp} {k : Nat} (hk : k < 32) : f_X5_has p σ (Int32.ofNat k) = 0 ↔ nHas (gI σ p 1) k = false := by
  unfold f_X5_has
  have h := has_iff (gI σ p 1) hk
  by_cases q : ((gI σ p 1) >>> (Int32.ofNat k &&& 31)) &&& 1 = 1
  · rw [if_pos q]
    rw [h.mp q]
    exact ⟨fun w => (by cases w), fun w => (by cases w)⟩
  · rw [if_neg q]
    exact ⟨fun _ => bf (fun w => q (h.mpr w)), fun _ => rfl⟩
theorem isOf_iff {w : Int32} {k : Nat} (hk : k < 32) : f_X6_isOf w (Int32.ofNat k) = 0 ↔ nHas w k = false := by
  unfold f_X6_isOf
  have h := has_iff w hk
  by_cases q : (w >>> (Int32.ofNat k &&& 31)) &&& 1 = 1
  · rw [if_pos q]
    rw [h.mp q]
    exact ⟨fun w => (by cases w), fun w => (by cases w)⟩
  · rw [if_neg q]
    exact ⟨fun _ => bf (fun w => q (h.mpr w)), fun _ => rfl⟩
