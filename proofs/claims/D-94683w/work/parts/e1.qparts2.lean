set_option maxRecDepth 100000
theorem partS_no {R : RlA} {i : Nat} {x : LandA} {y w : Int32} (h4 : (aL R).length ≤ 4) (hi : (aL R)[i]? = some x) (z : ¬ (askY x y.toInt64 ∧ (0 ≤ w.toInt ∧ w.toInt ≤ 1))) : partS R (Int32.ofNat i) y w = -1 := by
  have il := get_lt hi
  unfold partS
  rw [dif_neg (fun ⟨j, z', e1, e2, _, e3, e4⟩ => z ⟨by
    have jl := get_lt e2
    have ej := ofNat_inj (by omega) (by omega) e1
    rw [← ej, hi] at e2
    cases e2
    exact e3, e4⟩)]
theorem qm_parts {m : Nat} {σ : Hp} {R : RlA} {l y w : Int32} {Q : Int32 → Hp → Prop} (hM : MKr m σ R) (hk : LsOk (aL R)) (hQ : Q (partS R l y w) (pI σ m 2 0)) : wp_X6_parts m σ l y w Q := by
  have M2 : MKr m (pI σ m 2 0) R := hM.o (by omega)
  have h4 := hM.2.1.1
  have w01 : f_X6_isIn w 0 1 = 0 ↔ ¬ (0 ≤ w.toInt ∧ w.toInt ≤ 1) := isIn_iff w 0 1
  rcases at_cases (aL R) l (by omega) with nl | ⟨i, x, rfl, hi, hr⟩
  · have b : f_X6_isLand m (pI σ m 2 0) l = 0 := (m_isLand M2 l).mpr nl
    have e : partS R l y w = -1 := by
      unfold partS
      rw [dif_neg (fun ⟨_, _, _, _, q, _⟩ => nl q)]
    rw [e] at hQ
    exact ⟨fun _ => hQ, fun w => absurd b w⟩
  · have b : ¬ f_X6_isLand m (pI σ m 2 0) (Int32.ofNat i) = 0 := fun w => (m_isLand M2 _).mp w hr
    obtain ⟨b1, b2⟩ := m_isAsked (y := y.toInt64) M2 hk hi
    have d := m_landAt M2 hi
    refine ⟨fun q => absurd q b, fun _ => ⟨b1, fun q => ?_, fun q => ⟨fun q2 => ?_, fun q2 => ?_⟩⟩⟩
    · rw [partS_no h4 hi (fun z => b2.mp q z.1)] at hQ; exact hQ
    · rw [partS_no h4 hi (fun z => w01.mp q2 z.2)] at hQ; exact hQ
    · have ay : askY x y.toInt64 := Classical.byContradiction (fun z => q (b2.mpr z))
      have ww : 0 ≤ w.toInt ∧ w.toInt ≤ 1 := Classical.byContradiction (fun z => q2 (w01.mpr z))
      rw [partS_eq h4 hi hr ay ww] at hQ
      have hr' := rsOf_rn (z := ((0 : Int32), (0 : Int32))) (pt_tot (mLen x.2.1 x.2.2.1 y.toInt64))
      refine lp_rn (step := ptStep (mLen x.2.1 x.2.2.1 y.toInt64)) (fun S z => z = (S.1, S.2.1, S.2.2, pI σ m 2 0) ∧ ptI S) ?_ (s := (0, 0, 1)) ⟨rfl, ⟨1, by omega, by omega, rfl⟩⟩ hr'
      rintro K ⟨s1, s2, s3⟩ z ⟨rfl, hI⟩ hK hE
      have ne := pt_ne hI
      show (_ → _) ∧ (_ → _)
      have c100 : (100 : Int32) ≤ s3 ↔ 99 < s3 := by
        obtain ⟨k, k1, k2, e⟩ := hI
        have e : s3 = Int32.ofNat k := e
        rw [e, i3_le (x := 100) (by rfl) (nat_i (by omega)), i3_lt (x := 99) (by rfl) (nat_i (by omega))]
        omega
      rw [fm_len d, c100]
      refine ⟨fun c9 => ?_, fun c9 => ⟨om_len d _, ne, fun v => ?_, fun v => ?_⟩⟩
      · have es : ptStep (mLen x.2.1 x.2.2.1 y.toInt64) (s1, s2, s3) = .inr (s1, s2) := by unfold ptStep; rw [if_pos c9]
        have er := hE _ es
        have ev : ptV (mLen x.2.1 x.2.2.1 y.toInt64) = (s1, s2) := er.symm
        rw [ev] at hQ
        exact ⟨fun w0 => by rw [if_pos w0] at hQ; exact hQ, fun w0 => by rw [if_neg w0] at hQ; exact hQ⟩
      · have es : ptStep (mLen x.2.1 x.2.2.1 y.toInt64) (s1, s2, s3) = .inl (s1 + 1, s3, s3 + 1) := by unfold ptStep; rw [if_neg c9, if_pos v]
        exact hK _ _ es ⟨rfl, (pt_n hI es).1⟩
      · have es : ptStep (mLen x.2.1 x.2.2.1 y.toInt64) (s1, s2, s3) = .inl (s1, s2, s3 + 1) := by unfold ptStep; rw [if_neg c9, if_neg v]
        exact hK _ _ es ⟨rfl, (pt_n hI es).1⟩
