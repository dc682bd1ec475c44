set_option maxRecDepth 100000
/-! THE REFERENCE KEEPS WHAT IT READ -/
def hz (r : Nat) : Nat := if r = 3 then 7 else if r = 5 then 12 else if r = 14 then 12 else if r = 9 then 6 else if r = 10 then 6 else if r = 11 then 6 else if r = 15 then 6 else if r = 16 then 132 else if r = 17 then 64 else if r = 18 then 64 else if r = 19 then 64 else 4
def isLg (r : Nat) : Bool := r == 10 || r == 11 || r == 13
def CpS (m j a k : Nat) : Prop := ∃ r, 3 ≤ r ∧ r < j ∧ a = m + r ∧ k < hz r
def CP (m j : Nat) (σ τ : Hp) : Prop := Ch (CpS m j) σ τ ∧ ∀ r, 3 ≤ r → r < j → ∀ k, k < hz r → (isLg r = false → gI τ (m + r) k = gI σ (m + r) (hz r + k)) ∧ (isLg r = true → gL τ (m + r) k = gL σ (m + r) (hz r + k))
theorem CP.rf {m : Nat} {σ : Hp} : CP m 3 σ σ := ⟨Ch.rf, fun r h1 h2 => absurd h2 (by omega)⟩
theorem CP.add {m j : Nat} {σ τ τ' : Hp} (h : CP m j σ τ) (h3 : 3 ≤ j) (hc : Ch (fun a k => a = m + j ∧ k < hz j) τ τ') (hv : ∀ k, k < hz j → (isLg j = false → gI τ' (m + j) k = gI τ (m + j) (hz j + k)) ∧ (isLg j = true → gL τ' (m + j) k = gL τ (m + j) (hz j + k))) : CP m (j + 1) σ τ' := by
  refine ⟨(h.1.up (fun a k ⟨r, q1, q2, q3, q4⟩ => ⟨r, q1, by omega, q3, q4⟩)).tr (hc.up (fun a k q => ⟨j, h3, by omega, q.1, q.2⟩)), fun r r3 rj k hk => ?_⟩
  by_cases e : r = j
  · subst e
    have n : ¬ CpS m r (m + r) (hz r + k) := fun ⟨r', q1, q2, q3, q4⟩ => by omega
    exact ⟨fun q => ((hv k hk).1 q).trans (h.1.gi n), fun q => ((hv k hk).2 q).trans (h.1.gl n)⟩
  · have n : ¬ (m + r = m + j ∧ k < hz j) := by omega
    have := h.2 r r3 (by omega) k hk
    exact ⟨fun q => (hc.gi n).trans (this.1 q), fun q => (hc.gl n).trans (this.2 q)⟩
theorem cp_i {m j n0 : Nat} {x : Int32} {σ τ : Hp} {Q : Hp → Prop} (h : CP m j σ τ) (hl : isLg j = false) (h3 : 3 ≤ j) (hx : x = Int32.ofNat (hz j)) (hn : n0 = 2 * hz j) (hb : hz j ≤ 132) (hQ : ∀ τ', CP m (j + 1) σ τ' → Q τ') : wp_X6_copies τ (m + j) n0 x Q := by
  subst hx
  refine lp_of (fun z => ∃ k, k ≤ hz j ∧ z.1 = Int32.ofNat k ∧ Ch (fun a k => a = m + j ∧ k < hz j) τ z.2 ∧ ∀ i, i < k → gI z.2 (m + j) i = gI τ (m + j) (hz j + i)) (fun z => hz j - z.1.toNatClampNeg) ?_ ⟨0, by omega, rfl, Ch.rf, fun i q => absurd q (by omega)⟩
  rintro K ⟨x2, s⟩ ⟨k, hk, rfl, g1, g2⟩ hK
  simp only at g1 g2
  show (_ → _) ∧ (_ → _)
  rw [nat_le (by omega) (by omega)]
  refine ⟨fun q => hQ s (h.add h3 g1 (fun i hi => ⟨fun _ => g2 i (by omega), fun w => by rw [hl] at w; cases w⟩)), fun q => ?_⟩
  rw [nat_a (by omega), nat_c (by omega), nat_c (by omega), nat_s (by omega)]
  have e : gI s (m + j) (hz j + k) = gI τ (m + j) (hz j + k) := g1.gi (by omega)
  refine ⟨nat_v (by omega) (by omega), nat_v (by omega) (by omega), hK _ ⟨k + 1, by omega, rfl, g1.i ⟨rfl, by omega⟩, fun i hi => ?_⟩ ?_⟩
  · show gI (pI s (m + j) k (gI s (m + j) (hz j + k))) (m + j) i = _
    rw [gI_pI]
    by_cases c : i = k
    · subst c
      rw [if_pos ⟨rfl, rfl⟩, e]
    · rw [if_neg (fun w => c w.2)]
      exact g2 i (by omega)
  · show hz j - (Int32.ofNat (k + 1)).toNatClampNeg < hz j - (Int32.ofNat k).toNatClampNeg
    rw [nat_c (by omega), nat_c (by omega)]; omega
theorem cp_l {m j n0 : Nat} {x : Int32} {σ τ : Hp} {Q : Hp → Prop} (h : CP m j σ τ) (hl : isLg j = true) (h3 : 3 ≤ j) (hx : x = Int32.ofNat (hz j)) (hn : n0 = 2 * hz j) (hb : hz j ≤ 132) (hQ : ∀ τ', CP m (j + 1) σ τ' → Q τ') : wp_X6_copiesLong τ (m + j) n0 x Q := by
  subst hx
  refine lp_of (fun z => ∃ k, k ≤ hz j ∧ z.1 = Int32.ofNat k ∧ Ch (fun a k => a = m + j ∧ k < hz j) τ z.2 ∧ ∀ i, i < k → gL z.2 (m + j) i = gL τ (m + j) (hz j + i)) (fun z => hz j - z.1.toNatClampNeg) ?_ ⟨0, by omega, rfl, Ch.rf, fun i q => absurd q (by omega)⟩
  rintro K ⟨x2, s⟩ ⟨k, hk, rfl, g1, g2⟩ hK
  simp only at g1 g2
  show (_ → _) ∧ (_ → _)
  rw [nat_le (by omega) (by omega)]
  refine ⟨fun q => hQ s (h.add h3 g1 (fun i hi => ⟨fun w => by (rw [hl] at w; cases w), fun _ => g2 i (by omega)⟩)), fun q => ?_⟩
  rw [nat_a (by omega), nat_c (by omega), nat_c (by omega), nat_s (by omega)]
  have e : gL s (m + j) (hz j + k) = gL τ (m + j) (hz j + k) := g1.gl (by omega)
  refine ⟨nat_v (by omega) (by omega), nat_v (by omega) (by omega), hK _ ⟨k + 1, by omega, rfl, g1.l ⟨rfl, by omega⟩, fun i hi => ?_⟩ ?_⟩
  · show gL (pL s (m + j) k (gL s (m + j) (hz j + k))) (m + j) i = _
    rw [gL_pL]
    by_cases c : i = k
    · subst c
      rw [if_pos ⟨rfl, rfl⟩, e]
    · rw [if_neg (fun w => c w.2)]
      exact g2 i (by omega)
  · show hz j - (Int32.ofNat (k + 1)).toNatClampNeg < hz j - (Int32.ofNat k).toNatClampNeg
    rw [nat_c (by omega), nat_c (by omega)]; omega
theorem mNw.mv {m : Nat} {σ σ' : Hp} {p p' : Nat} {w : NoteW} (h : mNw m σ p w) (hf : ∀ k, k < 11 → gI σ' (m + 16) (p' + k) = gI σ (m + 16) (p + k)) : mNw m σ' p' w := by
  refine ⟨by rw [show p' = p' + 0 from rfl, hf _ (by omega)]; exact h.1, fun k hk hh => ?_⟩
  rw [hf _ (by split <;> omega), hf _ (by omega), hf _ (by omega)]
  exact h.2 k hk hh
/-- the lengths that fit -/
def RBd (R : RlA) : Prop := (aL R).length ≤ 4 ∧ (aF R).length ≤ 4 ∧ (aP R).length ≤ 6 ∧ (aD R).length ≤ 4 ∧ (aN R).length ≤ 6 ∧ aK R ≤ 64
theorem mrl_0 {m : Nat} {σ s : Hp} {R : RlA} (h : MRl m 1 σ R) (hb : RBd R) (hc : CP m 20 σ s) : MRl m 0 s R := by
  obtain ⟨l1, l2, l3, l4, l5, l6⟩ := hb
  obtain ⟨h1, h2, h3, h4, h5, h6⟩ := h
  have gi : ∀ r hh k k0 k1, 3 ≤ r → r < 20 → isLg r = false → hz r = hh → k < hh → k0 = k → k1 = hh + k → gI s (m + r) k0 = gI σ (m + r) k1 := fun r hh k k0 k1 q1 q2 q3 q4 q5 q6 q7 => by
    subst q4; subst q6; subst q7
    exact (hc.2 r q1 q2 k0 q5).1 q3
  have gl : ∀ r hh k k0 k1, 3 ≤ r → r < 20 → isLg r = true → hz r = hh → k < hh → k0 = k → k1 = hh + k → gL s (m + r) k0 = gL σ (m + r) k1 := fun r hh k k0 k1 q1 q2 q3 q4 q5 q6 q7 => by
    subst q4; subst q6; subst q7
    exact (hc.2 r q1 q2 k0 q5).2 q3
  refine ⟨fun i x hi => ?_, fun i x hi => ?_, fun i x hi => ?_, fun i x hi => ?_, fun i x hi => ?_, fun j hj => ?_⟩
  · have := get_lt hi
    rw [gi 4 4 i _ (4 * 1 + i) (by omega) (by omega) rfl rfl (by omega) (by omega) (by omega), gi 5 12 (3 * i) _ (12 * 1 + 3 * i) (by omega) (by omega) rfl rfl (by omega) (by omega) (by omega), gi 5 12 (3 * i + 1) _ (12 * 1 + 3 * i + 1) (by omega) (by omega) rfl rfl (by omega) (by omega) (by omega), gi 5 12 (3 * i + 2) _ (12 * 1 + 3 * i + 2) (by omega) (by omega) rfl rfl (by omega) (by omega) (by omega)]
    exact h1 i x hi
  · have := get_lt hi
    obtain ⟨q1, a, e, q2, q3, q4, q5⟩ := h2 i x hi
    rw [gi 6 4 i _ (4 * 1 + i) (by omega) (by omega) rfl rfl (by omega) (by omega) (by omega), gi 7 4 i _ (4 * 1 + i) (by omega) (by omega) rfl rfl (by omega) (by omega) (by omega), gi 8 4 i _ (4 * 1 + i) (by omega) (by omega) rfl rfl (by omega) (by omega) (by omega)]
    refine ⟨q1, a, e, q2, q3, q4, q5.cg (fun j j1 j2 => ?_)⟩
    unfold kN kP kO
    exact ⟨gi 17 64 j _ _ (by omega) (by omega) rfl rfl (by omega) (by omega) (by omega), gi 18 64 j _ _ (by omega) (by omega) rfl rfl (by omega) (by omega) (by omega), gi 19 64 j _ _ (by omega) (by omega) rfl rfl (by omega) (by omega) (by omega)⟩
  · have := get_lt hi
    rw [gi 9 6 i _ (6 * 1 + i) (by omega) (by omega) rfl rfl (by omega) (by omega) (by omega), gl 10 6 i _ (6 * 1 + i) (by omega) (by omega) rfl rfl (by omega) (by omega) (by omega), gl 11 6 i _ (6 * 1 + i) (by omega) (by omega) rfl rfl (by omega) (by omega) (by omega)]
    exact h3 i x hi
  · have := get_lt hi
    rw [gi 12 4 i _ (4 * 1 + i) (by omega) (by omega) rfl rfl (by omega) (by omega) (by omega), gl 13 4 i _ (4 * 1 + i) (by omega) (by omega) rfl rfl (by omega) (by omega) (by omega), gi 14 12 (3 * i) _ (12 * 1 + 3 * i) (by omega) (by omega) rfl rfl (by omega) (by omega) (by omega), gi 14 12 (3 * i + 1) _ (12 * 1 + 3 * i + 1) (by omega) (by omega) rfl rfl (by omega) (by omega) (by omega), gi 14 12 (3 * i + 2) _ (12 * 1 + 3 * i + 2) (by omega) (by omega) rfl rfl (by omega) (by omega) (by omega)]
    exact h4 i x hi
  · have := get_lt hi
    rw [gi 15 6 i _ (6 * 1 + i) (by omega) (by omega) rfl rfl (by omega) (by omega) (by omega)]
    exact ⟨(h5 i x hi).1, (h5 i x hi).2.mv (fun k hk => gi 16 132 (11 * i + k) _ _ (by omega) (by omega) rfl rfl (by omega) (by omega) (by omega))⟩
  · rw [gi 3 7 j _ (7 * 1 + j) (by omega) (by omega) rfl rfl (by omega) (by omega) (by omega)]
    exact h6 j hj
