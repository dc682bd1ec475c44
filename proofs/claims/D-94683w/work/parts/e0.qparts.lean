set_option maxRecDepth 100000
/-- the parts of a number: how many, and the greatest -/
def ptStep (V : Int64) (s : Int32 × Int32 × Int32) : (Int32 × Int32 × Int32) ⊕ (Int32 × Int32) := if 99 < s.2.2 then .inr (s.1, s.2.1) else if V - V / s.2.2.toInt64 * s.2.2.toInt64 = 0 then .inl (s.1 + 1, s.2.2, s.2.2 + 1) else .inl (s.1, s.2.1, s.2.2 + 1)
def ptI (s : Int32 × Int32 × Int32) : Prop := ∃ k, 1 ≤ k ∧ k ≤ 100 ∧ s.2.2 = Int32.ofNat k
theorem pt_n {V : Int64} {s s' : Int32 × Int32 × Int32} (h : ptI s) (e : ptStep V s = .inl s') : ptI s' ∧ 100 - s'.2.2.toNatClampNeg < 100 - s.2.2.toNatClampNeg := by
  obtain ⟨k, k1, k2, hk⟩ := h
  unfold ptStep at e
  have c9 : (99 < s.2.2) ↔ 99 < k := by rw [hk, i3_lt (x := 99) (by rfl) (nat_i (by omega))]; omega
  by_cases c : 99 < s.2.2
  · rw [if_pos c] at e; cases e
  · rw [if_neg c] at e
    rw [c9] at c
    have en : s'.2.2 = Int32.ofNat (k + 1) := by
      by_cases v : V - V / s.2.2.toInt64 * s.2.2.toInt64 = 0
      · rw [if_pos v] at e; cases e; show s.2.2 + 1 = _; rw [hk, nat_s (by omega)]
      · rw [if_neg v] at e; cases e; show s.2.2 + 1 = _; rw [hk, nat_s (by omega)]
    exact ⟨⟨k + 1, by omega, by omega, en⟩, by rw [en, hk, nat_c (by omega), nat_c (by omega)]; omega⟩
theorem pt_tot (V : Int64) : ∃ r, Rn (ptStep V) (0, 0, 1) r := Rn.tot2 ptI (fun s => 100 - s.2.2.toNatClampNeg) (fun s s' h e => pt_n h e) (0, 0, 1) ⟨1, by omega, by omega, rfl⟩
noncomputable def ptV (V : Int64) : Int32 × Int32 := rsOf (ptStep V) (0, 0, 1) (0, 0)
theorem pt_ne {s : Int32 × Int32 × Int32} (h : ptI s) : ¬ s.2.2.toInt64 = 0 := by
  obtain ⟨k, k1, k2, hk⟩ := h
  rw [hk, l3_eq (x := (k : Int)) (by rw [Int32.toInt_toInt64]; exact nat_i (by omega)) (y := 0) (by rfl)]
  omega
noncomputable def partS (R : RlA) (l y w : Int32) : Int32 := @dite _ (∃ i x, l = Int32.ofNat i ∧ (aL R)[i]? = some x ∧ (0 ≤ l.toInt ∧ l.toInt < (aL R).length) ∧ askY x y.toInt64 ∧ (0 ≤ w.toInt ∧ w.toInt ≤ 1)) (Classical.propDecidable _) (fun h => if w = 0 then (ptV (mLen h.choose_spec.choose.2.1 h.choose_spec.choose.2.2.1 y.toInt64)).1 else (ptV (mLen h.choose_spec.choose.2.1 h.choose_spec.choose.2.2.1 y.toInt64)).2) (fun _ => -1)
theorem ofNat_inj {i j : Nat} (hi : i ≤ 1000000) (hj : j ≤ 1000000) (h : Int32.ofNat i = Int32.ofNat j) : i = j := (nat_e (by omega) (by omega)).mp h
theorem partS_eq {R : RlA} {i : Nat} {x : LandA} {y w : Int32} (h4 : (aL R).length ≤ 4) (hi : (aL R)[i]? = some x) (hr : 0 ≤ (Int32.ofNat i).toInt ∧ (Int32.ofNat i).toInt < (aL R).length) (ha : askY x y.toInt64) (hw : 0 ≤ w.toInt ∧ w.toInt ≤ 1) : partS R (Int32.ofNat i) y w = if w = 0 then (ptV (mLen x.2.1 x.2.2.1 y.toInt64)).1 else (ptV (mLen x.2.1 x.2.2.1 y.toInt64)).2 := by
  unfold partS
  have h : ∃ j z, Int32.ofNat i = Int32.ofNat j ∧ (aL R)[j]? = some z ∧ (0 ≤ (Int32.ofNat i).toInt ∧ (Int32.ofNat i).toInt < (aL R).length) ∧ askY z y.toInt64 ∧ (0 ≤ w.toInt ∧ w.toInt ≤ 1) := ⟨i, x, rfl, hi, hr, ha, hw⟩
  rw [dif_pos h]
  have e := h.choose_spec.choose_spec
  have il := get_lt hi
  have jl := get_lt e.2.1
  have ej := ofNat_inj (by omega) (by omega) e.1
  have ex : h.choose_spec.choose = x := by
    have e2 := (congrArg (fun k => (aL R)[k]?) ej).trans e.2.1
    exact (Option.some.inj (hi.symm.trans e2)).symm
  rw [ex]
theorem ql_parts {o c : Nat} {σ : Hp} {R : RlA} {l y w : Int32} {Q : Int32 → Prop} (hL : LRl c σ R) (hk : LsOk (aL R)) (hQ : Q (partS R l y w)) : wp_X1_parts o c σ l y w Q := by
  have h4 := hL.1.2.1
  have w01 : f_X1_in w.toInt64 0 1 = 0 ↔ ¬ (0 ≤ w.toInt ∧ w.toInt ≤ 1) := in_iff (by rw [Int32.toInt_toInt64]) (by rfl) (by rfl)
  rcases at_cases (aL R) l (by omega) with nl | ⟨i, x, rfl, hi, hr⟩
  · have a : f_X1_isLand o c σ l = 0 := (l_isLand hL l).mpr nl
    have a2 : f_X1_isYear o c σ l y = 0 := by unfold f_X1_isYear; rw [if_pos a]
    have e : partS R l y w = -1 := by
      unfold partS
      rw [dif_neg (fun ⟨_, _, _, _, q, _⟩ => nl q)]
    rw [e] at hQ
    exact ⟨⟨in_01 _ _ _, fun _ => trivial, fun w => absurd a w⟩, fun _ => hQ, fun w => absurd a2 w⟩
  · obtain ⟨p1, p2, p3⟩ := l_land (o := o) hL hi
    obtain ⟨a1, a2⟩ := l_isYear (o := o) (y := y) hL hk hi hr
    have il := get_lt hi
    have no : ∀ (_ : ¬ (askY x y.toInt64 ∧ (0 ≤ w.toInt ∧ w.toInt ≤ 1))), partS R (Int32.ofNat i) y w = -1 := fun z => by
      unfold partS
      rw [dif_neg (fun ⟨j, z', e1, e2, _, e3, e4⟩ => z ⟨by
        have jl := get_lt e2
        have ej := ofNat_inj (by omega) (by omega) e1
        rw [← ej, hi] at e2
        cases e2
        exact e3, e4⟩)]
    refine ⟨a1, fun q => ?_, fun q => ⟨fun q2 => ?_, fun q2 => ?_⟩⟩
    · rw [no (fun z => a2.mp q z.1)] at hQ; exact hQ
    · rw [no (fun z => w01.mp q2 z.2)] at hQ; exact hQ
    · have ay : askY x y.toInt64 := Classical.byContradiction (fun z => q (a2.mpr z))
      have ww : 0 ≤ w.toInt ∧ w.toInt ≤ 1 := Classical.byContradiction (fun z => q2 (w01.mpr z))
      rw [partS_eq h4 hi hr ay ww] at hQ
      have hr' := rsOf_rn (z := ((0 : Int32), (0 : Int32))) (pt_tot (mLen x.2.1 x.2.2.1 y.toInt64))
      refine lp_rn (step := ptStep (mLen x.2.1 x.2.2.1 y.toInt64)) (fun S z => z = S ∧ ptI S) ?_ (s := (0, 0, 1)) ⟨rfl, ⟨1, by omega, by omega, rfl⟩⟩ hr'
      rintro K ⟨s1, s2, s3⟩ z ⟨rfl, hI⟩ hK hE
      have ne := pt_ne hI
      show (_ → _) ∧ (_ → _)
      rw [fl_len p3]
      refine ⟨fun c9 => ?_, fun c9 => ⟨p1, p2, ne, fun v => ?_, fun v => ?_⟩⟩
      · have es : ptStep (mLen x.2.1 x.2.2.1 y.toInt64) (s1, s2, s3) = .inr (s1, s2) := by unfold ptStep; rw [if_pos c9]
        have er := hE _ es
        have ev : ptV (mLen x.2.1 x.2.2.1 y.toInt64) = (s1, s2) := er.symm
        rw [ev] at hQ
        exact ⟨fun w0 => by rw [if_pos w0] at hQ; exact hQ, fun w0 => by rw [if_neg w0] at hQ; exact hQ⟩
      · have es : ptStep (mLen x.2.1 x.2.2.1 y.toInt64) (s1, s2, s3) = .inl (s1 + 1, s3, s3 + 1) := by unfold ptStep; rw [if_neg c9, if_pos v]
        exact hK _ _ es ⟨rfl, (pt_n hI es).1⟩
      · have es : ptStep (mLen x.2.1 x.2.2.1 y.toInt64) (s1, s2, s3) = .inl (s1, s2, s3 + 1) := by unfold ptStep; rw [if_neg c9, if_neg v]
        exact hK _ _ es ⟨rfl, (pt_n hI es).1⟩
