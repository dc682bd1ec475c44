set_option maxRecDepth 100000
/-! FEASTS -/
/-- the names of a sum on a count: day, year, week, moon, season, length -/
noncomputable def nuS (R : RlA) (d : Int64) (i : Nat) : Int64 := if i = 2 then (skW (aS R) d).toInt64 else if i = 3 then (skM (aS R) d).toInt64 else if i = 4 then (skN (aS R) d).toInt64 else match (aL R)[0]? with
  | none => 0
  | some x => if yrA x d = -1 then 0 else if i = 0 then dyA x d else if i = 1 then yrA x d else mLen x.2.1 x.2.2.1 (yrA x d)
theorem loop_of {m i e : Nat} {σ0 : Hp} {Q : Int64 → Hp → Prop} (hi : i < 4) (he : e ≤ 64) (h8 : gI σ0 (m + 8) i = Int32.ofNat e) (e1 : 1 ≤ e) : ∀ (n k : Nat) (σ : Hp), k + n = e → Ch (SV m) σ0 σ → LoopN m σ0 n k σ (fun σ' => Ch (SV m) σ0 σ' ∧ (gI σ' m 57 = 0 → Q (gL σ' (m + 23) (e - 1)) σ') ∧ (¬ gI σ' m 57 = 0 → Q 0 σ')) → lp (lb_X6_sumOf_130 m (Int32.ofNat i) Q) (Int32.ofNat k, σ) := by
  intro n k σ hk hc h
  refine lp_step (fun j z => ∃ k σ, z = (Int32.ofNat k, σ) ∧ k + j = e ∧ (j = 0 ∨ Ch (SV m) σ0 σ) ∧ LoopN m σ0 j k σ (fun σ' => Ch (SV m) σ0 σ' ∧ (gI σ' m 57 = 0 → Q (gL σ' (m + 23) (e - 1)) σ') ∧ (¬ gI σ' m 57 = 0 → Q 0 σ'))) ?_ (k := n) ⟨k, σ, rfl, hk, Or.inr hc, h⟩
  rintro j K z ⟨k, σ, rfl, hk, hc, h⟩ hK
  cases j with
  | zero =>
    obtain ⟨c1, c2, c3⟩ := h
    show vp_in _ 8 ∧ (_ → _) ∧ (_ → _)
    have e8 : gI σ (m + 8) (Int32.ofNat i).toNatClampNeg = Int32.ofNat e := by rw [nat_c (by omega), c1.gi (by unfold SV; omega)]; exact h8
    have v8 : vp_in (Int32.ofNat i) 8 := nat_v (by omega) (by omega)
    rw [e8]
    refine ⟨v8, cT (by rw [nat_le (by omega) (by omega)]; omega) ⟨fun g => ⟨v8, ?_, ?_⟩, c3⟩⟩
    · rw [show (1 : Int32) = Int32.ofNat 1 from rfl, nat_d (by omega) (by omega)]
      exact nat_v (by omega) (by omega)
    · rw [show (1 : Int32) = Int32.ofNat 1 from rfl, nat_d (by omega) (by omega), nat_c (by omega)]
      exact c2 g
  | succ j =>
    obtain ⟨c1, h⟩ := h
    show vp_in _ 8 ∧ (_ → _) ∧ (_ → _)
    have e8 : gI σ (m + 8) (Int32.ofNat i).toNatClampNeg = Int32.ofNat e := by rw [nat_c (by omega), c1.gi (by unfold SV; omega)]; exact h8
    have v8 : vp_in (Int32.ofNat i) 8 := nat_v (by omega) (by omega)
    rw [e8]
    refine ⟨v8, cF (by rw [nat_le (by omega) (by omega)]; omega) ?_⟩
    refine h _ (fun r s hL => ⟨nat_v (by omega) (by omega), ?_⟩)
    rw [nat_s (by omega), nat_c (by omega)]
    cases j with
    | zero => exact hK 0 _ (by omega) ⟨k + 1, _, rfl, by omega, Or.inl rfl, hL⟩
    | succ j => exact hK (j + 1) _ (by omega) ⟨k + 1, _, rfl, by omega, Or.inr hL.1, hL⟩
