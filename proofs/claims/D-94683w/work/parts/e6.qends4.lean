set_option maxRecDepth 100000
/-- what a query of the reference may write: its last date, and thrown -/
def SDt (m a k : Nat) : Prop := a = m ∧ (k = 2 ∨ k = 53 ∨ k = 54)
theorem DS.ch {m : Nat} {σ σ' : Hp} (h : DS m σ σ') : Ch (SDt m) σ σ' := (DS.tr h (Or.inl rfl)).up (fun a k q => ⟨q.1, by omega⟩)
theorem Ch.th {m : Nat} {σ : Hp} {v : Int32} : Ch (SDt m) σ (pI σ m 2 v) := Ch.rf.i ⟨rfl, by omega⟩
theorem qm_ends {m : Nat} {σ : Hp} {R : RlA} {l n : Int32} {d : Int64} {Q : Int32 → Hp → Prop} (hM : MKr m σ R) (hk : LsOk (aL R)) (hQ : ∀ σ', Ch (SDt m) σ σ' → gI σ' m 2 = 0 → Q (endsQ R l d n) σ') : wp_X6_ends m σ l d n Q := by
  have M2 : MKr m (pI σ m 2 0) R := hM.o (by omega)
  have h4 := hM.2.1.1
  unfold endsQ at hQ
  have g2 : gI (pI σ m 2 0) m 2 = 0 := by rw [gI_pI, if_pos ⟨rfl, rfl⟩]
  have h0 := hQ _ Ch.th g2
  rcases at_cases (aL R) l (by omega) with nl | ⟨i, x, rfl, hi, hr⟩
  · rw [landAt_no nl] at h0
    exact ⟨fun _ => h0, fun q => absurd ((m_isLand M2 l).mpr nl) q⟩
  · have b : ¬ f_X6_isLand m (pI σ m 2 0) (Int32.ofNat i) = 0 := fun q => (m_isLand M2 _).mp q hr
    have dd := m_landAt M2 hi
    have k := hk x (List.mem_of_getElem? hi)
    rw [landAt_at h4 hi] at h0 hQ
    have h0 : Q (@ite _ (cOk d ∧ dOk n ∧ d + n.toInt64 ≤ 1000000000000) (Classical.propDecidable _) (endA x (d + n.toInt64) - endA x d).toInt32 (-1)) _ := h0
    have hQ : ∀ σ', Ch (SDt m) σ σ' → gI σ' m 2 = 0 → Q (@ite _ (cOk d ∧ dOk n ∧ d + n.toInt64 ≤ 1000000000000) (Classical.propDecidable _) (endA x (d + n.toInt64) - endA x d).toInt32 (-1)) σ' := hQ
    refine ⟨fun q => absurd q b, fun _ => ⟨fun q => ?_, fun q => ⟨(m_days n).1, fun q2 => ?_, fun q2 => ⟨fun q3 => ?_, fun q3 => ?_⟩⟩⟩⟩
    · rw [if_neg (fun z => (m_cnt d).mp q z.1)] at h0; exact h0
    · rw [if_neg (fun z => (m_days n).2.mp q2 z.2.1)] at h0; exact h0
    · have cc : cOk d := Classical.byContradiction (fun z => q ((m_cnt d).mpr z))
      have ww : dOk n := Classical.byContradiction (fun z => q2 ((m_days n).2.mpr z))
      rw [if_pos ⟨cc, ww, q3⟩] at hQ
      have e := cn_i cc ww
      rw [l3_le e (y := 1000000000000) (by rfl)] at q3
      have c2 : cOk (d + n.toInt64) := ⟨by rw [e]; have := cc.1; have := ww.1; omega, by rw [e]; exact q3⟩
      exact m_ended dd k c2 (fun s1 d1 => m_ended (dd.ds d1) k cc (fun s2 d2 => hQ s2 (Ch.th.tr (d1.ch.tr d2.ch)) (by rw [(DS.tr d1 d2).gi (by omega)]; exact g2)))
    · rw [if_neg (fun z => q3 z.2.2)] at h0; exact h0
