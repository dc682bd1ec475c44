set_option maxRecDepth 100000
/-- what the reference holds of its last text -/
def MKd (m : Nat) (σ : Hp) (R : RlA) : Prop := MRl m 0 σ R ∧ RBd R ∧ gI σ m 12 = Int32.ofNat (aL R).length ∧ gI σ m 13 = Int32.ofNat (aF R).length ∧ gI σ m 14 = Int32.ofNat (aP R).length ∧ gI σ m 15 = Int32.ofNat (aD R).length ∧ gI σ m 16 = Int32.ofNat (aN R).length ∧ gI σ m 17 = Int32.ofNat (aK R)
def SKp (m a k : Nat) : Prop := (a = m ∧ ((12 ≤ k ∧ k ≤ 17) ∨ k = 58 ∨ k = 59 ∨ k = 67 ∨ k = 70)) ∨ CpS m 20 a k
theorem m_keep {m : Nat} {σ : Hp} {P : PSt} {Q : Hp → Prop} (hR : MRl m 1 σ P.1) (hC : MC m σ P) (hQ : ∀ σ', Ch (SKp m) σ σ' → MKd m σ' P.1 → gI σ' m 58 = Int32.ofNat (aN P.1).length → gI σ' m 67 = 0 → gI σ' m 59 = 0 → gI σ' m 70 = 0 → Q σ') : wp_X6_keepText m σ Q := by
  obtain ⟨c1, c2, c3, c4, c5, c6, -⟩ := hC
  have hb : RBd P.1 := ⟨c1.2, c2.2, c3.2, c4.2, c5.2, c6.2.2⟩
  unfold wp_X6_keepText
  simp only [c1.1, c2.1, c3.1, c4.1, c5.1, c6.1]
  generalize hs : pI (pI (pI (pI (pI (pI σ m 12 _) m 13 _) m 14 _) m 15 _) m 16 _) m 17 _ = s1
  have k1 : Ch (fun a k => a = m ∧ 12 ≤ k ∧ k ≤ 17) σ s1 := by
    rw [← hs]
    exact (((((Ch.rf.i ⟨rfl, by omega, by omega⟩).i ⟨rfl, by omega, by omega⟩).i ⟨rfl, by omega, by omega⟩).i ⟨rfl, by omega, by omega⟩).i ⟨rfl, by omega, by omega⟩).i ⟨rfl, by omega, by omega⟩
  have R1 : MRl m 1 s1 P.1 := hR.fr (fun a k q => by
    have : ¬ (fun a k => a = m ∧ 12 ≤ k ∧ k ≤ 17) a k := q.by (S := fun a k => a = m ∧ 12 ≤ k ∧ k ≤ 17) (fun k _ _ => by omega) (fun k _ _ => by omega) (fun k _ _ => by omega) (fun k _ _ => by omega) (fun k _ _ => by omega) (fun k _ _ => by omega) (fun k _ _ => by omega) (fun k _ _ => by omega) (fun k _ _ => by omega) (fun k _ _ => by omega)
    exact ⟨k1.gi this, k1.gl this⟩)
  refine cp_i CP.rf rfl (by omega) rfl rfl (by decide) (fun s2 h => ?_)
  refine cp_i h rfl (by omega) rfl rfl (by decide) (fun s3 h => ?_)
  refine cp_i h rfl (by omega) rfl rfl (by decide) (fun s4 h => ?_)
  refine cp_i h rfl (by omega) rfl rfl (by decide) (fun s5 h => ?_)
  refine cp_i h rfl (by omega) rfl rfl (by decide) (fun s6 h => ?_)
  refine cp_i h rfl (by omega) rfl rfl (by decide) (fun s7 h => ?_)
  refine cp_i h rfl (by omega) rfl rfl (by decide) (fun s8 h => ?_)
  refine cp_l h rfl (by omega) rfl rfl (by decide) (fun s9 h => ?_)
  refine cp_l h rfl (by omega) rfl rfl (by decide) (fun s10 h => ?_)
  refine cp_i h rfl (by omega) rfl rfl (by decide) (fun s11 h => ?_)
  refine cp_l h rfl (by omega) rfl rfl (by decide) (fun s12 h => ?_)
  refine cp_i h rfl (by omega) rfl rfl (by decide) (fun s13 h => ?_)
  refine cp_i h rfl (by omega) rfl rfl (by decide) (fun s14 h => ?_)
  refine cp_i h rfl (by omega) rfl rfl (by decide) (fun s15 h => ?_)
  refine cp_i h rfl (by omega) rfl rfl (by decide) (fun s16 h => ?_)
  refine cp_i h rfl (by omega) rfl rfl (by decide) (fun s17 h => ?_)
  refine cp_i h rfl (by omega) rfl rfl (by decide) (fun s18 h => ?_)
  have h : CP m 20 s1 s18 := h
  have nm : ∀ k, ¬ CpS m 20 m k := fun k ⟨r, q1, _, q2, _⟩ => by omega
  have f : ∀ k, gI s18 m k = gI s1 m k := fun k => h.1.gi (nm k)
  have R0 := mrl_0 R1 hb h
  have e16 : gI s18 m 16 = Int32.ofNat (aN P.1).length := by rw [f, ← hs]; simp [gI_pI]
  rw [e16]
  have kz : Ch (SKp m) s18 (pI (pI (pI (pI s18 m 58 (Int32.ofNat (aN P.1).length)) m 67 0) m 59 0) m 70 0) := (((Ch.rf.i (Or.inl ⟨rfl, by omega⟩)).i (Or.inl ⟨rfl, by omega⟩)).i (Or.inl ⟨rfl, by omega⟩)).i (Or.inl ⟨rfl, by omega⟩)
  have R9 : MRl m 0 (pI (pI (pI (pI s18 m 58 (Int32.ofNat (aN P.1).length)) m 67 0) m 59 0) m 70 0) P.1 := R0.fr (fun a k q => by
    have : ¬ (fun a (_ : Nat) => a = m) a k := q.by (S := fun a _ => a = m) (fun k _ _ => by omega) (fun k _ _ => by omega) (fun k _ _ => by omega) (fun k _ _ => by omega) (fun k _ _ => by omega) (fun k _ _ => by omega) (fun k _ _ => by omega) (fun k _ _ => by omega) (fun k _ _ => by omega) (fun k _ _ => by omega)
    have : a ≠ m := this
    exact ⟨by rw [pIo (by omega), pIo (by omega), pIo (by omega), pIo (by omega)], rfl⟩)
  refine hQ _ (((k1.up (fun a k q => Or.inl ⟨q.1, Or.inl q.2⟩)).tr (h.1.up (fun a k q => Or.inr q))).tr kz) ⟨R9, hb, ?_, ?_, ?_, ?_, ?_, ?_⟩ ?_ ?_ ?_ ?_
  · rw [pIo (by omega), pIo (by omega), pIo (by omega), pIo (by omega), f, ← hs]; simp [gI_pI]
  · rw [pIo (by omega), pIo (by omega), pIo (by omega), pIo (by omega), f, ← hs]; simp [gI_pI]
  · rw [pIo (by omega), pIo (by omega), pIo (by omega), pIo (by omega), f, ← hs]; simp [gI_pI]
  · rw [pIo (by omega), pIo (by omega), pIo (by omega), pIo (by omega), f, ← hs]; simp [gI_pI]
  · rw [pIo (by omega), pIo (by omega), pIo (by omega), pIo (by omega)]; exact e16
  · rw [pIo (by omega), pIo (by omega), pIo (by omega), pIo (by omega), f, ← hs]; simp [gI_pI]
  · simp [gI_pI]
  · simp [gI_pI]
  · simp [gI_pI]
  · simp [gI_pI]
