set_option maxRecDepth 100000
/-! .. BY THE REFERENCE -/
def DM (m : Nat) (σ : Hp) (P : Prop) (Q : Int32 → Hp → Prop) : Prop := (P → ∀ τ', Ch (SMq m) σ τ' → gI τ' m 2 = gI σ m 2 → Q 1 τ') ∧ (¬ P → ∀ τ', Ch (SMq m) σ τ' → gI τ' m 2 = gI σ m 2 → Q 0 τ')
theorem DM.t {m : Nat} {σ : Hp} {P P' : Prop} {Q : Int32 → Hp → Prop} (h : DM m σ (P ∧ P') Q) (hp : P) : DM m σ P' Q := ⟨fun q => h.1 ⟨hp, q⟩, fun q => h.2 (fun z => q z.2)⟩
theorem DM.f {m : Nat} {σ : Hp} {P P' : Prop} {Q : Int32 → Hp → Prop} (h : DM m σ (P ∧ P') Q) (hp : ¬ P) : Q 0 σ := h.2 (fun z => hp z.1) σ Ch.rf rfl
theorem DM.ch {m : Nat} {σ σ' : Hp} {P : Prop} {Q : Int32 → Hp → Prop} (h : DM m σ P Q) (hc : Ch (SMq m) σ σ') (h2 : gI σ' m 2 = gI σ m 2) : DM m σ' P Q := ⟨fun q τ' c1 c2 => h.1 q τ' (hc.tr c1) (c2.trans h2), fun q τ' c1 c2 => h.2 q τ' (hc.tr c1) (c2.trans h2)⟩
theorem and3 (w : Int32) : w &&& 3 = 0 ↔ nHas w 0 = false ∧ nHas w 1 = false := by
  have t3 : ∀ j, j < 32 → (3#32).getLsbD j = decide (j < 2) := by decide
  rw [← Int32.toBitVec_inj, Int32.toBitVec_and]
  have e3 : (3 : Int32).toBitVec = 3#32 := rfl
  have e0 : (0 : Int32).toBitVec = 0#32 := rfl
  rw [e3, e0]
  unfold nHas
  constructor
  · intro h
    have h0 := congrArg (fun y => y.getLsbD 0) h
    have h1 := congrArg (fun y => y.getLsbD 1) h
    simp only [BitVec.getLsbD_and, t3 0 (by omega), t3 1 (by omega)] at h0 h1
    exact ⟨by simpa using h0, by simpa using h1⟩
  · rintro ⟨h0, h1⟩
    apply BitVec.eq_of_getLsbD_eq
    intro j hj
    rw [BitVec.getLsbD_and, t3 j hj]
    have : j = 0 ∨ j = 1 ∨ 2 ≤ j := by omega
    rcases this with rfl | rfl | q
    · rw [h0]; simp
    · rw [h1]; simp
    · simp [show ¬ j < 2 by omega]
theorem mNw.q {m : Nat} {σ σ' : Hp} {p : Nat} {w : NoteW} (h : mNw m σ p w) (hc : Ch (SMq m) σ σ') : mNw m σ' p w := h.fr (fun k _ _ => hc.gi (by unfold SMq; omega))
section
variable {m i : Nat} {σ : Hp} {R : RlA} {w : NoteW} {x2 : Int32} {Q : Int32 → Hp → Prop}
theorem mn_i {k : Nat} (hi : i < 12) (hk : k < 11) : (11 : Int32) * Int32.ofNat i + Int32.ofNat k = Int32.ofNat (11 * i + k) := by
  rw [show (11 : Int32) = Int32.ofNat 11 from rfl, nat_m (by omega) (by omega) (by omega), nat_a (by omega)]
theorem mn_0 (hi : i < 12) : (11 : Int32) * Int32.ofNat i = Int32.ofNat (11 * i) := by
  rw [show (11 : Int32) = Int32.ofNat 11 from rfl, nat_m (by omega) (by omega) (by omega)]
/-- what a word says, in its place -/
theorem mn_g {k : Nat} (hN : mNw m σ (11 * i) w) (hi : i < 12) (hk : k < 8) (h0 : 0 < k) (hs : nHas w.1 k = true) : vp_in (11 * Int32.ofNat i + Int32.ofNat (2 + k)) 264 ∧ gI σ (m + 16) (11 * Int32.ofNat i + Int32.ofNat (2 + k)).toNatClampNeg = w.2.1 k := by
  rw [mn_i hi (by omega), nat_c (by omega)]
  refine ⟨nat_v (by omega) (by omega), ?_⟩
  have := (hN.2 k hk hs).1
  rw [if_neg (by omega)] at this
  exact this
theorem m_sd6 (hM : MKr m σ R) (hk : ROk R) (hi : i < 12) (hN : mNw m σ (11 * i) w) (hW : NwOk (aP R).length (aF R).length i w) (hd : cOk x2.toInt64) (hQ : DM m σ (sd6 R w x2.toInt64) Q) : wj_X6_canBe_270 m σ x2 (11 * Int32.ofNat i) w.1 Q := by
  have h6 : f_X6_isOf w.1 6 = 0 ↔ nHas w.1 6 = false := isOf_iff (k := 6) (by omega)
  have hl := hM.2.1.2.1
  refine ⟨fun q => hQ.1 (no_hs (h6.mp q)) σ Ch.rf rfl, fun q => ?_⟩
  have hs : nHas w.1 6 = true := bt (fun z => q (h6.mpr z))
  obtain ⟨v, e1⟩ := mn_g (k := 6) hN hi (by omega) (by omega) hs
  obtain ⟨j, y, ev, hy⟩ := at_get (hW.2.1 hs) (by omega)
  refine ⟨v, ?_⟩
  have e1 : gI σ (m + 16) (11 * Int32.ofNat i + 8).toNatClampNeg = w.2.1 6 := e1
  rw [e1, ev]
  exact m_festive hM hk hy hd (fun z r τ' r0 hc h2 => cF r0 (hQ.1 (fun _ => ⟨j, y, ev, hy, z⟩) τ' hc h2)) (fun z τ' hc h2 => cT rfl (hQ.2 (fun f => by
    obtain ⟨j', y', ev', hy', z'⟩ := f hs
    rw [at_u (by omega) ev hy ev' hy'] at z'
    exact z z') τ' hc h2))
theorem m_sd1 {x : LandA} (hM : MKr m σ R) (hk : ROk R) (hi : i < 12) (hN : mNw m σ (11 * i) w) (hW : NwOk (aP R).length (aF R).length i w) (hd : cOk x2.toInt64) (hx : (aL R)[0]? = some x) (hy : yrA x x2.toInt64 ≠ -1) (h54 : gL σ m 54 = dyA x x2.toInt64) (hQ : DM m σ (sd1 R w x2.toInt64 ∧ sd6 R w x2.toInt64) Q) : wj_X6_canBe_242 m σ x2 (11 * Int32.ofNat i) w.1 Q := by
  have h6 : f_X6_isOf w.1 1 = 0 ↔ nHas w.1 1 = false := isOf_iff (k := 1) (by omega)
  refine ⟨fun q => m_sd6 hM hk hi hN hW hd (hQ.t (no_hs (h6.mp q))), fun q => ?_⟩
  have hs : nHas w.1 1 = true := bt (fun z => q (h6.mpr z))
  obtain ⟨v, e1⟩ := mn_g (k := 1) hN hi (by omega) (by omega) hs
  refine ⟨v, ?_⟩
  have e1 : gI σ (m + 16) (11 * Int32.ofNat i + 3).toNatClampNeg = w.2.1 1 := e1
  rw [e1, h54]
  refine ⟨fun z => m_sd6 hM hk hi hN hW hd (hQ.t (fun _ => ⟨x, hx, hy, z⟩)), fun z => hQ.f (fun f => ?_)⟩
  obtain ⟨x', hx', _, f3⟩ := f hs
  rw [hx] at hx'; cases hx'
  exact z f3
theorem m_sd0 (hM : MKr m σ R) (hk : ROk R) (hi : i < 12) (hN : mNw m σ (11 * i) w) (hW : NwOk (aP R).length (aF R).length i w) (hd : cOk x2.toInt64) (hQ : DM m σ (sd0 R w x2.toInt64 ∧ sd1 R w x2.toInt64 ∧ sd6 R w x2.toInt64) Q) : wj_X6_canBe_171 m σ x2 (11 * Int32.ofNat i) w.1 Q := by
  have h0 : f_X6_isOf w.1 0 = 0 ↔ nHas w.1 0 = false := isOf_iff (k := 0) (by omega)
  refine ⟨fun q => ?_, fun q => ?_⟩
  · obtain ⟨a, b⟩ := (and3 w.1).mp q
    exact m_sd6 hM hk hi hN hW hd ((hQ.t (no_hs a)).t (no_hs b))
  have bad : ∀ P : Prop, P → (∀ x, (aL R)[0]? = some x → yrA x x2.toInt64 = -1) → ¬ (sd0 R w x2.toInt64 ∧ sd1 R w x2.toInt64 ∧ sd6 R w x2.toInt64) := fun P _ hn hall => by
    have : nHas w.1 0 = true ∨ nHas w.1 1 = true := by
      cases a : nHas w.1 0 with
      | true => exact Or.inl rfl
      | false => cases b : nHas w.1 1 with
        | true => exact Or.inr rfl
        | false => exact absurd ((and3 w.1).mpr ⟨a, b⟩) q
    rcases this with a | a
    · obtain ⟨x, hx, hy, _⟩ := hall.1 a
      exact hy (hn x hx)
    · obtain ⟨x, hx, hy, _⟩ := hall.2.1 a
      exact hy (hn x hx)
  have h12 : gI σ m 12 = 0 ↔ aL R = [] := by
    have hb := hM.2.1.1
    rw [hM.2.2.1, show (0 : Int32) = Int32.ofNat 0 from rfl, nat_e (by omega) (by omega)]
    exact List.length_eq_zero_iff
  refine ⟨fun z => hQ.2 (bad True trivial (fun x hx => by rw [h12.mp z] at hx; cases hx)) σ Ch.rf rfl, fun z => ?_⟩
  cases hl : aL R with
  | nil => exact absurd (h12.mpr hl) z
  | cons x l =>
    have hx : (aL R)[0]? = some x := by rw [hl]; rfl
    have kx := hk.1 x (List.mem_of_getElem? hx)
    refine wp_dateA (x := x) (m_landAt hM hx) kx hd (fun hy σ' hc => ?_) (fun hy σ' hc e53 e54 => ?_)
    · have e2 : gI σ' m 2 = gI σ m 2 := (DS.tr hc (Or.inl rfl)).gi (by omega)
      exact cT rfl (hQ.2 (bad True trivial (fun x' hx' => by rw [hx] at hx'; cases hx'; exact hy)) σ' hc.chq e2)
    · have e2 : gI σ' m 2 = gI σ m 2 := (DS.tr hc (Or.inl rfl)).gi (by omega)
      have hQ' := hQ.ch hc.chq e2
      have hM' := hM.ch hc.chq
      have hN' := hN.q hc.chq
      refine cF (fun a => (by cases a)) ⟨fun q0 => m_sd1 hM' hk hi hN' hW hd hx hy e54 (hQ'.t (no_hs (h0.mp q0))), fun q0 => ?_⟩
      have hs : nHas w.1 0 = true := bt (fun z => q0 (h0.mpr z))
      obtain ⟨n1, n2, -⟩ := hN'.2 0 (by omega) hs
      have n2 := n2 rfl
      rw [if_pos rfl] at n1
      have i1 : (11 : Int32) * Int32.ofNat i + 1 = Int32.ofNat (11 * i + 1) := mn_i (k := 1) hi (by omega)
      have i2 : (11 : Int32) * Int32.ofNat i + 2 = Int32.ofNat (11 * i + 2) := mn_i (k := 2) hi (by omega)
      rw [i1, i2, nat_c (by omega), nat_c (by omega), n1, n2, e53]
      have no : ¬ ((w.2.1 0).toInt64 ≤ yrA x x2.toInt64 ∧ yrA x x2.toInt64 ≤ (w.2.2 0).toInt64) → Q 0 σ' := fun u => hQ'.f (fun f => by
        obtain ⟨x', hx', _, f3⟩ := f hs
        rw [hx] at hx'; cases hx'
        exact u f3)
      refine ⟨nat_v (by omega) (by omega), fun u => no (fun v => ?_), fun u => ⟨nat_v (by omega) (by omega), fun v => m_sd1 hM' hk hi hN' hW hd hx hy e54 (hQ'.t (fun _ => ⟨x, hx, hy, ?_, v⟩)), fun v => no (fun a => v a.2)⟩⟩
      · have v1 := v.1
        rw [l2_le] at v1
        rw [l2_lt] at u
        omega
      · rw [l2_lt] at u
        rw [l2_le]
        omega
theorem m_sd5 (hM : MKr m σ R) (hk : ROk R) (hi : i < 12) (hN : mNw m σ (11 * i) w) (hW : NwOk (aP R).length (aF R).length i w) (hd : cOk x2.toInt64) (hQ : DM m σ (sd5 R w x2.toInt64 ∧ sd0 R w x2.toInt64 ∧ sd1 R w x2.toInt64 ∧ sd6 R w x2.toInt64) Q) : wj_X6_canBe_101 m σ x2 (11 * Int32.ofNat i) w.1 Q := by
  have h6 : f_X6_isOf w.1 5 = 0 ↔ nHas w.1 5 = false := isOf_iff (k := 5) (by omega)
  have hl := hM.2.1.2.2.1
  refine ⟨fun q => m_sd0 hM hk hi hN hW hd (hQ.t (no_hs (h6.mp q))), fun q => ?_⟩
  have hs : nHas w.1 5 = true := bt (fun z => q (h6.mpr z))
  obtain ⟨v, e1⟩ := mn_g (k := 5) hN hi (by omega) (by omega) hs
  obtain ⟨j, y, ev, hy⟩ := at_get (hW.1 hs) (by omega)
  have e1 : gI σ (m + 16) (11 * Int32.ofNat i + 7).toNatClampNeg = w.2.1 5 := e1
  have hj := get_lt hy
  obtain ⟨-, b1, b2⟩ := hM.1.2.2.1 j y hy
  have b1 : gL σ (m + 10) j = y.2.1 := by rw [← b1]; congr 1; omega
  have b2 : gL σ (m + 11) j = y.2.2 := by rw [← b2]; congr 1; omega
  have vj : vp_in (Int32.ofNat j) 12 := nat_v (by omega) (by omega)
  rw [e1, ev, nat_c (by omega), b1, b2]
  have ps := hk.2.2.1 y (List.mem_of_getElem? hy)
  have no : ¬ (y.2.1 ≤ x2.toInt64 ∧ (y.2.2 = -1 ∨ x2.toInt64 ≤ y.2.2)) → Q 0 σ := fun u => hQ.f (fun f => by
    obtain ⟨j', y', ev', hy', z'⟩ := f hs
    rw [at_u (by omega) ev hy ev' hy'] at z'
    exact u z')
  have yes : (y.2.1 ≤ x2.toInt64 ∧ (y.2.2 = -1 ∨ x2.toInt64 ≤ y.2.2)) → wj_X6_canBe_171 m σ x2 (11 * Int32.ofNat i) w.1 Q := fun u => m_sd0 hM hk hi hN hW hd (hQ.t (fun _ => ⟨j, y, ev, hy, u⟩))
  have dn : y.2.2 < 0 ↔ y.2.2 = -1 := by
    rw [l3_lt rfl (y := 0) (by rfl), l3_eq rfl (y := -1) (by rfl)]
    rcases ps.2 with a | a
    · rw [a, show (-1 : Int64).toInt = -1 from rfl]; omega
    · have := a.1; omega
  refine ⟨v, vj, fun z => no (fun u => ?_), fun z => ⟨v, vj, fun z2 => yes ⟨?_, Or.inl (dn.mp z2)⟩, fun z2 => ⟨v, vj, fun z3 => yes ⟨?_, Or.inr z3⟩, fun z3 => no (fun u => u.2.elim (fun a => z2 (dn.mpr a)) z3)⟩⟩⟩
  · have := u.1
    rw [l2_le] at this
    rw [l2_lt] at z
    omega
  · rw [l2_lt] at z
    rw [l2_le]
    omega
  · rw [l2_lt] at z
    rw [l2_le]
    omega
theorem m_sd4 (hM : MKr m σ R) (hk : ROk R) (hi : i < 12) (hN : mNw m σ (11 * i) w) (hW : NwOk (aP R).length (aF R).length i w) (hd : cOk x2.toInt64) (hQ : DM m σ (sd4 R w x2.toInt64 ∧ sd5 R w x2.toInt64 ∧ sd0 R w x2.toInt64 ∧ sd1 R w x2.toInt64 ∧ sd6 R w x2.toInt64) Q) : wj_X6_canBe_71 m σ x2 (11 * Int32.ofNat i) w.1 Q := by
  have h6 : f_X6_isOf w.1 4 = 0 ↔ nHas w.1 4 = false := isOf_iff (k := 4) (by omega)
  refine ⟨fun q => m_sd5 hM hk hi hN hW hd (hQ.t (no_hs (h6.mp q))), fun q => ?_⟩
  have hs : nHas w.1 4 = true := bt (fun z => q (h6.mpr z))
  obtain ⟨v, e1⟩ := mn_g (k := 4) hN hi (by omega) (by omega) hs
  have e1 : gI σ (m + 16) (11 * Int32.ofNat i + 6).toNatClampNeg = w.2.1 4 := e1
  obtain ⟨a1, a2⟩ := m_rnd hM hk x2.toInt64 2
  have a2 : f_X6_roundOf m σ x2.toInt64 2 = skN (aS R) x2.toInt64 := a2
  rw [e1, a2]
  exact ⟨a1, v, fun z => m_sd5 hM hk hi hN hW hd (hQ.t (fun _ => z)), fun z => hQ.f (fun f => z (f hs))⟩
theorem m_sd3 (hM : MKr m σ R) (hk : ROk R) (hi : i < 12) (hN : mNw m σ (11 * i) w) (hW : NwOk (aP R).length (aF R).length i w) (hd : cOk x2.toInt64) (hQ : DM m σ (sd3 R w x2.toInt64 ∧ sd4 R w x2.toInt64 ∧ sd5 R w x2.toInt64 ∧ sd0 R w x2.toInt64 ∧ sd1 R w x2.toInt64 ∧ sd6 R w x2.toInt64) Q) : wj_X6_canBe_42 m σ x2 (11 * Int32.ofNat i) w.1 Q := by
  have h6 : f_X6_isOf w.1 3 = 0 ↔ nHas w.1 3 = false := isOf_iff (k := 3) (by omega)
  refine ⟨fun q => m_sd4 hM hk hi hN hW hd (hQ.t (no_hs (h6.mp q))), fun q => ?_⟩
  have hs : nHas w.1 3 = true := bt (fun z => q (h6.mpr z))
  obtain ⟨v, e1⟩ := mn_g (k := 3) hN hi (by omega) (by omega) hs
  have e1 : gI σ (m + 16) (11 * Int32.ofNat i + 5).toNatClampNeg = w.2.1 3 := e1
  obtain ⟨a1, a2⟩ := m_rnd hM hk x2.toInt64 1
  have a2 : f_X6_roundOf m σ x2.toInt64 1 = skM (aS R) x2.toInt64 := a2
  rw [e1, a2]
  exact ⟨a1, v, fun z => m_sd4 hM hk hi hN hW hd (hQ.t (fun _ => z)), fun z => hQ.f (fun f => z (f hs))⟩
theorem m_canBe (hM : MKr m σ R) (hk : ROk R) (hi : i < 12) (hN : mNw m σ (11 * i) w) (hW : NwOk (aP R).length (aF R).length i w) (hd : cOk x2.toInt64) (hQ : DM m σ (said R w x2.toInt64) Q) : wp_X6_canBe m σ (Int32.ofNat i) x2 Q := by
  have hQ : DM m σ (sd2 R w x2.toInt64 ∧ sd3 R w x2.toInt64 ∧ sd4 R w x2.toInt64 ∧ sd5 R w x2.toInt64 ∧ sd0 R w x2.toInt64 ∧ sd1 R w x2.toInt64 ∧ sd6 R w x2.toInt64) Q := ⟨fun q => hQ.1 ⟨q.2.2.2.2.1, q.2.2.2.2.2.1, q.1, q.2.1, q.2.2.1, q.2.2.2.1, q.2.2.2.2.2.2⟩, fun q => hQ.2 (fun z => q ⟨z.2.2.1, z.2.2.2.1, z.2.2.2.2.1, z.2.2.2.2.2.1, z.1, z.2.1, z.2.2.2.2.2.2⟩)⟩
  have h6 : f_X6_isOf w.1 2 = 0 ↔ nHas w.1 2 = false := isOf_iff (k := 2) (by omega)
  have e0 : gI σ (m + 16) ((11 : Int32) * Int32.ofNat i).toNatClampNeg = w.1 := by rw [mn_0 hi, nat_c (by omega)]; exact hN.1
  refine ⟨by rw [mn_0 hi]; exact nat_v (by omega) (by omega), fun v2 hv => ?_⟩
  rw [e0] at hv
  subst hv
  refine ⟨fun q => m_sd3 hM hk hi hN hW hd (hQ.t (no_hs (h6.mp q))), fun q => ?_⟩
  have hs : nHas w.1 2 = true := bt (fun z => q (h6.mpr z))
  obtain ⟨v, e1⟩ := mn_g (k := 2) hN hi (by omega) (by omega) hs
  have e1 : gI σ (m + 16) (11 * Int32.ofNat i + 4).toNatClampNeg = w.2.1 2 := e1
  obtain ⟨a1, a2⟩ := m_rnd hM hk x2.toInt64 0
  have a2 : f_X6_roundOf m σ x2.toInt64 0 = skW (aS R) x2.toInt64 := a2
  rw [e1, a2]
  exact ⟨a1, v, fun z => m_sd3 hM hk hi hN hW hd (hQ.t (fun _ => z)), fun z => hQ.f (fun f => z (f hs))⟩
end
