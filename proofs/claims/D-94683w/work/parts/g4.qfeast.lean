set_option maxRecDepth 100000
def QLh {α : Type} (o : Nat) (σ : Hp) (w : (α → Hp → Prop) → Prop) (v : α) : Prop := ∀ Q : α → Hp → Prop, (∀ σ', Ch (SLq o) σ σ' → Q v σ') → w Q
def fsV (v : Option Int64) : Prop := ∃ q, v = some q ∧ ¬ q = 0
theorem rV_ne {v : Option Int64} (hb : ∀ q, v = some q → bd q) : (¬ rV v = 0 ∧ ¬ rV v = -9223372036854775808) ↔ fsV v := by
  cases v with
  | none =>
    constructor
    · intro h; exact absurd rfl h.2
    · rintro ⟨q, hq, _⟩; cases hq
  | some q =>
    have b := hb q rfl
    constructor
    · intro h; exact ⟨q, rfl, h.1⟩
    · rintro ⟨r, hr, h0⟩
      cases hr
      refine ⟨h0, fun z => ?_⟩
      have z : q = -9223372036854775808 := z
      rw [z] at b
      exact absurd b.1 (by decide)
theorem l_festive {o c i : Nat} {σ : Hp} {R : RlA} {y : FeastA} {d : Int64} {Q : Int32 → Hp → Prop} (hL : LRx o c σ R) (hk : ROk R) (hi : (aF R)[i]? = some y) (hd : cOk d) (h1 : fsV (y.2 (nuS R d)) → ∀ σ', Ch (SLq o) σ σ' → Q 1 σ') (h0 : ¬ fsV (y.2 (nuS R d)) → ∀ σ', Ch (SLq o) σ σ' → Q 0 σ') : wp_X1_isFestive o c σ (Int32.ofNat i) d Q := by
  refine l_ruled hL hk hi hd (fun σ' hc hb => ?_)
  have e := rV_ne hb
  exact ⟨fun z => h0 (fun w => (e.mpr w).1 z) σ' hc, fun z => ⟨fun z2 => h0 (fun w => (e.mpr w).2 z2) σ' hc, fun z2 => h1 (e.mp ⟨z, z2⟩) σ' hc⟩⟩
theorem m_festive {m i : Nat} {σ : Hp} {R : RlA} {y : FeastA} {d : Int64} {Q : Int64 → Hp → Prop} (hM : MKr m σ R) (hk : ROk R) (hi : (aF R)[i]? = some y) (hd : cOk d) (h1 : fsV (y.2 (nuS R d)) → ∀ r τ', ¬ r = 0 → Ch (SMq m) σ τ' → gI τ' m 2 = gI σ m 2 → Q r τ') (h0 : ¬ fsV (y.2 (nuS R d)) → ∀ τ', Ch (SMq m) σ τ' → gI τ' m 2 = gI σ m 2 → Q 0 τ') : wp_X6_sumOf m σ (Int32.ofNat i) d Q := by
  refine m_sumOf hM hk hi hd (fun r τ' c1 c2 hs hn => ?_)
  cases hv : y.2 (nuS R d) with
  | none =>
    rw [(hn hv).1]
    exact h0 (fun ⟨q, hq, _⟩ => by rw [hv] at hq; cases hq) τ' c1 c2
  | some q =>
    obtain ⟨b, e, -⟩ := hs q hv
    by_cases z : r = 0
    · rw [z]
      exact h0 (fun ⟨q', hq, h⟩ => by rw [hv] at hq; cases hq; exact h (e.symm.trans z)) τ' c1 c2
    · exact h1 ⟨q, hv, fun w => z (e.trans w)⟩ r τ' z c1 c2
/-- the first feast from a count on -/
noncomputable def ffV (y : FeastA) (R : RlA) (d : Int64) : Int64 := srL (srV (fun z => d + 20000 ≤ z ∨ 1000000000000 < z) (fun z => fsV (y.2 (nuS R z))) 20000 d)
theorem l_first {o c i : Nat} {σ : Hp} {R : RlA} {y : FeastA} {d : Int64} {Q : Int64 → Hp → Prop} (hL : LRx o c σ R) (hk : ROk R) (hi : (aF R)[i]? = some y) (hd : 0 ≤ d.toInt ∧ d.toInt ≤ 1000000000001) (hQ : ∀ σ', Ch (SLq o) σ σ' → Q (ffV y R d) σ') : wp_X1_firstFeast o c σ (Int32.ofNat i) d Q := by
  have e2 : (d + 20000).toInt = d.toInt + 20000 := l3_add rfl (by rfl) (by omega) (by omega)
  unfold ffV at hQ
  obtain ⟨r, er⟩ : ∃ r, srV (fun z => d + 20000 ≤ z ∨ 1000000000000 < z) (fun z => fsV (y.2 (nuS R z))) 20000 d = r := ⟨_, rfl⟩
  rw [er] at hQ
  have lL : ∀ z : Int64, 1000000000000 < z ↔ (1000000000000 : Int) < z.toInt := fun z => l3_lt (by rfl) rfl
  refine sr_lp (fun n z u => ∃ σ', u = (z, σ') ∧ Ch (SLq o) σ σ' ∧ z.toInt + n = d.toInt + 20000 ∧ d.toInt ≤ z.toInt) _ (fun z u ⟨_, _, _, hI, _⟩ => Or.inl (by rw [l3_le e2 rfl]; omega)) ?_ ⟨_, rfl, Ch.rf, rfl, Int.le_refl _⟩ er
  rintro K n z u ⟨σ', rfl, t1, hn, h1⟩ hK hs hh
  show (_ → _) ∧ (_ → _)
  refine ⟨fun c1 => ?_, fun c1 => ⟨fun c2 => ?_, fun c2 => ?_⟩⟩
  · have e := hs (Or.inl c1); rw [e] at hQ; exact hQ _ t1
  · have e := hs (Or.inr c2); rw [e] at hQ; exact hQ _ t1
  have ns : ¬ (d + 20000 ≤ z ∨ 1000000000000 < z) := fun z => z.elim c1 c2
  rw [l3_le e2 rfl] at c1
  rw [lL] at c2
  have L1 := hL.q t1
  refine l_festive L1 hk hi ⟨by omega, by omega⟩ (fun hf s hc => cF (by decide) ?_) (fun hf s hc => cT rfl ?_)
  · have e := hh ns hf; rw [e] at hQ; exact hQ _ (t1.tr hc)
  · exact hK (n - 1) _ (by omega) ns hf ⟨_, rfl, t1.tr hc, by rw [l3_add (a := z) (b := 1) rfl (y := 1) (by rfl) (by omega) (by omega)]; omega, by rw [l3_add (a := z) (b := 1) rfl (y := 1) (by rfl) (by omega) (by omega)]; omega⟩
theorem m_first {m i : Nat} {σ : Hp} {R : RlA} {y : FeastA} {d : Int64} {Q : Int64 → Hp → Prop} (hM : MKr m σ R) (hk : ROk R) (hi : (aF R)[i]? = some y) (hd : 0 ≤ d.toInt ∧ d.toInt ≤ 1000000000001) (hQ : ∀ τ', Ch (SMq m) σ τ' → gI τ' m 2 = gI σ m 2 → Q (ffV y R d) τ') : wp_X6_festiveOf m σ (Int32.ofNat i) d Q := by
  have e2 : (d + 20000).toInt = d.toInt + 20000 := l3_add rfl (by rfl) (by omega) (by omega)
  unfold ffV at hQ
  obtain ⟨r, er⟩ : ∃ r, srV (fun z => d + 20000 ≤ z ∨ 1000000000000 < z) (fun z => fsV (y.2 (nuS R z))) 20000 d = r := ⟨_, rfl⟩
  rw [er] at hQ
  have lL : ∀ z : Int64, 1000000000000 < z ↔ (1000000000000 : Int) < z.toInt := fun z => l3_lt (by rfl) rfl
  refine sr_lp (fun n z u => ∃ σ', u = (z, σ') ∧ Ch (SMq m) σ σ' ∧ gI σ' m 2 = gI σ m 2 ∧ z.toInt + n = d.toInt + 20000 ∧ d.toInt ≤ z.toInt) _ (fun z u ⟨_, _, _, _, hI, _⟩ => Or.inl (by rw [l3_le e2 rfl]; omega)) ?_ ⟨_, rfl, Ch.rf, rfl, rfl, Int.le_refl _⟩ er
  rintro K n z u ⟨σ', rfl, t1, t2, hn, h1⟩ hK hs hh
  show (_ → _) ∧ (_ → _)
  refine ⟨fun c1 => ?_, fun c1 => ⟨fun c2 => ?_, fun c2 => ?_⟩⟩
  · have e := hs (Or.inl c1); rw [e] at hQ; exact hQ _ t1 t2
  · have e := hs (Or.inr c2); rw [e] at hQ; exact hQ _ t1 t2
  have ns : ¬ (d + 20000 ≤ z ∨ 1000000000000 < z) := fun z => z.elim c1 c2
  rw [l3_le e2 rfl] at c1
  rw [lL] at c2
  have M1 := hM.ch t1
  refine m_festive M1 hk hi ⟨by omega, by omega⟩ (fun hf r s r0 hc h2 => cF r0 ?_) (fun hf s hc h2 => cT rfl ?_)
  · have e := hh ns hf; rw [e] at hQ; exact hQ _ (t1.tr hc) (h2.trans t2)
  · exact hK (n - 1) _ (by omega) ns hf ⟨_, rfl, t1.tr hc, h2.trans t2, by rw [l3_add (a := z) (b := 1) rfl (y := 1) (by rfl) (by omega) (by omega)]; omega, by rw [l3_add (a := z) (b := 1) rfl (y := 1) (by rfl) (by omega) (by omega)]; omega⟩
theorem q_feast {o c m : Nat} {σ : Hp} {R : RlA} {f : Int32} {d : Int64} (hL : LRx o c σ R) (hk : ROk R) : ∃ v, QLh o σ (wp_X1_feast o c σ f d) v ∧ ∀ τ, MKr m τ R → QM m τ (wp_X6_feast m τ f d) v := by
  have M2 : ∀ τ, MKr m τ R → MKr m (pI τ m 2 0) R := fun τ hM => hM.ch Ch.t0
  have h4 := hL.1.2.1.2.1
  rcases at_cases (aF R) f (by omega) with nl | ⟨i, y, rfl, hi, hr⟩
  · exact ⟨-1, fun Q hQ => ⟨in_01 _ _ _, cT ((l_isFeast hL.1 f).mpr nl) (hQ _ Ch.rf)⟩, fun τ hM Q hQ => cT ((m_isFeast (M2 τ hM) f).mpr nl) (hQ _ Ch.t0 t0_2)⟩
  have a : ¬ f_X1_isFeast o c σ (Int32.ofNat i) = 0 := fun w => (l_isFeast hL.1 _).mp w hr
  have b : ∀ τ, MKr m τ R → ¬ f_X6_isFeast m (pI τ m 2 0) (Int32.ofNat i) = 0 := fun τ hM w => (m_isFeast (M2 τ hM) _).mp w hr
  rcases (Classical.em (cOk d)).symm with q1 | q1
  · exact ⟨-1, fun Q hQ => ⟨in_01 _ _ _, cF a ⟨in_01 _ _ _, cT ((l_cnt d).mpr q1) (hQ _ Ch.rf)⟩⟩, fun τ hM Q hQ => cF (b τ hM) (cT ((m_cnt d).mpr q1) (hQ _ Ch.t0 t0_2))⟩
  have nl1 : ¬ f_X1_isCount d = 0 := fun z => (l_cnt d).mp z q1
  have nm1 : ¬ f_X6_isCount d = 0 := fun z => (m_cnt d).mp z q1
  by_cases hf : fsV (y.2 (nuS R d))
  · exact ⟨1, fun Q hQ => ⟨in_01 _ _ _, cF a ⟨in_01 _ _ _, cF nl1 (l_festive hL hk hi q1 (fun _ s hc => cF (by decide) (hQ _ hc)) (fun z => absurd hf z))⟩⟩, fun τ hM Q hQ => cF (b τ hM) (cF nm1 (m_festive (M2 τ hM) hk hi q1 (fun _ r s r0 hc h2 => cF r0 (hQ _ (Ch.t0.tr hc) (h2.trans t0_2))) (fun z => absurd hf z)))⟩
  · exact ⟨0, fun Q hQ => ⟨in_01 _ _ _, cF a ⟨in_01 _ _ _, cF nl1 (l_festive hL hk hi q1 (fun z => absurd z hf) (fun _ s hc => cT rfl (hQ _ hc)))⟩⟩, fun τ hM Q hQ => cF (b τ hM) (cF nm1 (m_festive (M2 τ hM) hk hi q1 (fun z => absurd z hf) (fun _ s hc h2 => cT rfl (hQ _ (Ch.t0.tr hc) (h2.trans t0_2)))))⟩
theorem q_festive {o c m : Nat} {σ : Hp} {R : RlA} {f : Int32} {d : Int64} (hL : LRx o c σ R) (hk : ROk R) : ∃ v, QLh o σ (wp_X1_festive o c σ f d) v ∧ ∀ τ, MKr m τ R → QM m τ (wp_X6_festive m τ f d) v := by
  have M2 : ∀ τ, MKr m τ R → MKr m (pI τ m 2 0) R := fun τ hM => hM.ch Ch.t0
  have h4 := hL.1.2.1.2.1
  rcases at_cases (aF R) f (by omega) with nl | ⟨i, y, rfl, hi, hr⟩
  · exact ⟨-1, fun Q hQ => ⟨in_01 _ _ _, cT ((l_isFeast hL.1 f).mpr nl) (hQ _ Ch.rf)⟩, fun τ hM Q hQ => cT ((m_isFeast (M2 τ hM) f).mpr nl) (hQ _ Ch.t0 t0_2)⟩
  have a : ¬ f_X1_isFeast o c σ (Int32.ofNat i) = 0 := fun w => (l_isFeast hL.1 _).mp w hr
  have b : ∀ τ, MKr m τ R → ¬ f_X6_isFeast m (pI τ m 2 0) (Int32.ofNat i) = 0 := fun τ hM w => (m_isFeast (M2 τ hM) _).mp w hr
  rcases (Classical.em (cOk d)).symm with q1 | q1
  · exact ⟨-1, fun Q hQ => ⟨in_01 _ _ _, cF a ⟨in_01 _ _ _, cT ((l_cnt d).mpr q1) (hQ _ Ch.rf)⟩⟩, fun τ hM Q hQ => cF (b τ hM) (cT ((m_cnt d).mpr q1) (hQ _ Ch.t0 t0_2))⟩
  have nl1 : ¬ f_X1_isCount d = 0 := fun z => (l_cnt d).mp z q1
  have nm1 : ¬ f_X6_isCount d = 0 := fun z => (m_cnt d).mp z q1
  exact ⟨ffV y R d, fun Q hQ => ⟨in_01 _ _ _, cF a ⟨in_01 _ _ _, cF nl1 (l_first hL hk hi ⟨q1.1, by have := q1.2; omega⟩ (fun s hc => hQ _ hc))⟩⟩, fun τ hM Q hQ => cF (b τ hM) (cF nm1 (m_first (M2 τ hM) hk hi ⟨q1.1, by have := q1.2; omega⟩ (fun s hc h2 => hQ _ (Ch.t0.tr hc) (h2.trans t0_2))))⟩
theorem q_rule {o c m : Nat} {σ : Hp} {R : RlA} {f : Int32} {d : Int64} (hL : LRx o c σ R) (hk : ROk R) : ∃ v, QLh o σ (wp_X1_rule o c σ f d) v ∧ ∀ τ, MKr m τ R → QM m τ (wp_X6_rule m τ f d) v := by
  have M2 : ∀ τ, MKr m τ R → MKr m (pI τ m 2 0) R := fun τ hM => hM.ch Ch.t0
  have h4 := hL.1.2.1.2.1
  rcases at_cases (aF R) f (by omega) with nl | ⟨i, y, rfl, hi, hr⟩
  · exact ⟨_, fun Q hQ => ⟨in_01 _ _ _, cT ((l_isFeast hL.1 f).mpr nl) (hQ _ Ch.rf)⟩, fun τ hM Q hQ => cT ((m_isFeast (M2 τ hM) f).mpr nl) (hQ _ Ch.t0 t0_2)⟩
  have a : ¬ f_X1_isFeast o c σ (Int32.ofNat i) = 0 := fun w => (l_isFeast hL.1 _).mp w hr
  have b : ∀ τ, MKr m τ R → ¬ f_X6_isFeast m (pI τ m 2 0) (Int32.ofNat i) = 0 := fun τ hM w => (m_isFeast (M2 τ hM) _).mp w hr
  rcases (Classical.em (cOk d)).symm with q1 | q1
  · exact ⟨_, fun Q hQ => ⟨in_01 _ _ _, cF a ⟨in_01 _ _ _, cT ((l_cnt d).mpr q1) (hQ _ Ch.rf)⟩⟩, fun τ hM Q hQ => cF (b τ hM) (cT ((m_cnt d).mpr q1) (hQ _ Ch.t0 t0_2))⟩
  have nl1 : ¬ f_X1_isCount d = 0 := fun z => (l_cnt d).mp z q1
  have nm1 : ¬ f_X6_isCount d = 0 := fun z => (m_cnt d).mp z q1
  refine ⟨rV (y.2 (nuS R d)), fun Q hQ => ⟨in_01 _ _ _, cF a ⟨in_01 _ _ _, cF nl1 (l_ruled hL hk hi q1 (fun s hc _ => hQ _ hc))⟩⟩, fun τ hM Q hQ => cF (b τ hM) (cF nm1 (m_sumOf (M2 τ hM) hk hi q1 (fun r s hc h2 hs hn => ?_)))⟩
  have hq := hQ s (Ch.t0.tr hc) (h2.trans t0_2)
  cases hv : y.2 (nuS R d) with
  | none =>
    rw [hv] at hq
    exact cF (hn hv).2 hq
  | some q =>
    rw [hv] at hq
    obtain ⟨-, e, z⟩ := hs q hv
    rw [e]
    exact cT z hq
