set_option maxRecDepth 100000
/-! HOW BOTH LOOK AT WHAT THEY HOLD -/
theorem idx {x : Int32} {n : Nat} (h : 0 ≤ x.toInt ∧ x.toInt < n) (hn : n ≤ 1000000) : ∃ i, i < n ∧ x = Int32.ofNat i :=
  ⟨x.toInt.toNat, by omega, by rw [i2_eq, nat_i (by omega)]; omega⟩
theorem lst_in {α : Type} {d off cap : Nat} {P : Hp → Nat → α → Prop} {l : List α} {σ : Hp} (h : LST d off cap P l σ) (hc : cap ≤ 100) (x : Int32) : f_X1_in x.toInt64 0 ((f_J2_size (d + off) cap σ - 1).toInt64) = 0 ↔ ¬ (0 ≤ x.toInt ∧ x.toInt < l.length) := by
  have h2 := h.2.1
  have e : f_J2_size (d + off) cap σ = Int32.ofNat l.length := h.1
  have e1 : (Int32.ofNat l.length - 1).toInt = (l.length : Int) - 1 := i3_sub (nat_i (by omega)) (by rfl) (by omega) (by omega)
  rw [e, in_iff (x := x.toInt) (y := 0) (z := (l.length : Int) - 1) (by rw [Int32.toInt_toInt64]) (by rfl) (by rw [Int32.toInt_toInt64]; exact e1)]
  omega
theorem m_in {n : Nat} {x y : Int32} (hn : n ≤ 1000000) (h : y = Int32.ofNat n) : (if x < 0 then (0 : Int32) else if y ≤ x then 0 else 1) = 0 ↔ ¬ (0 ≤ x.toInt ∧ x.toInt < n) := by
  subst h
  by_cases c1 : x < 0
  · rw [if_pos c1]
    rw [i3_lt rfl (y := 0) (by rfl)] at c1
    exact ⟨fun _ q => by omega, fun _ => rfl⟩
  · rw [if_neg c1]
    rw [i3_lt rfl (y := 0) (by rfl)] at c1
    by_cases c2 : Int32.ofNat n ≤ x
    · rw [if_pos c2]
      rw [i3_le (nat_i (by omega)) rfl] at c2
      exact ⟨fun _ q => by omega, fun _ => rfl⟩
    · rw [if_neg c2]
      rw [i3_le (nat_i (by omega)) rfl] at c2
      exact ⟨fun q => (by cases q), fun q => absurd ⟨by omega, by omega⟩ q⟩
theorem l_isLand {o c : Nat} {σ : Hp} {R : RlA} (h : LRl c σ R) (x : Int32) : f_X1_isLand o c σ x = 0 ↔ ¬ (0 ≤ x.toInt ∧ x.toInt < (aL R).length) := lst_in h.1 (by omega) x
theorem l_isFeast {o c : Nat} {σ : Hp} {R : RlA} (h : LRl c σ R) (x : Int32) : f_X1_isFeast o c σ x = 0 ↔ ¬ (0 ≤ x.toInt ∧ x.toInt < (aF R).length) := lst_in h.2.1 (by omega) x
theorem l_isPerson {o c : Nat} {σ : Hp} {R : RlA} (h : LRl c σ R) (x : Int32) : f_X1_isPerson o c σ x = 0 ↔ ¬ (0 ≤ x.toInt ∧ x.toInt < (aP R).length) := lst_in h.2.2.1 (by omega) x
theorem m_isLand {m : Nat} {σ : Hp} {R : RlA} (h : MKr m σ R) (x : Int32) : f_X6_isLand m σ x = 0 ↔ ¬ (0 ≤ x.toInt ∧ x.toInt < (aL R).length) := m_in (by have := h.2.1.1; omega) h.2.2.1
theorem m_isFeast {m : Nat} {σ : Hp} {R : RlA} (h : MKr m σ R) (x : Int32) : f_X6_isFeast m σ x = 0 ↔ ¬ (0 ≤ x.toInt ∧ x.toInt < (aF R).length) := m_in (by have := h.2.1.2.1; omega) h.2.2.2.1
theorem m_isPerson {m : Nat} {σ : Hp} {R : RlA} (h : MKr m σ R) (x : Int32) : f_X6_isPerson m σ x = 0 ↔ ¬ (0 ≤ x.toInt ∧ x.toInt < (aP R).length) := m_in (by have := h.2.1.2.2.1; omega) h.2.2.2.2.1
/-- the l-th land, as LongYears holds it -/
theorem l_land {o c : Nat} {σ : Hp} {R : RlA} {i : Nat} {x : LandA} (h : LRl c σ R) (hi : (aL R)[i]? = some x) : ok_X1_land o c σ (Int32.ofNat i) ∧ OB 6 (f_X1_land o c σ (Int32.ofNat i)) σ ∧ LDo (f_X1_land o c σ (Int32.ofNat i)) σ x.2.1 x.2.2.1 x.2.2.2 := by
  obtain ⟨p, p1, p2, p3, p4⟩ := lst_get h.1 (by omega) hi
  have e : f_X1_land o c σ (Int32.ofNat i) = p := p1
  refine ⟨⟨p2, ?_⟩, ?_, ?_⟩
  · rw [p1]; exact p4.2.1
  · rw [e]; exact p4.2.1
  · rw [e]; exact p4.2.2.2
/-- .. as the reference holds it -/
theorem m_landAt {m : Nat} {σ : Hp} {R : RlA} {i : Nat} {x : LandA} (h : MKr m σ R) (hi : (aL R)[i]? = some x) : MDo m σ (Int32.ofNat i) x.2.1 x.2.2.1 x.2.2.2 := by
  have hl := get_lt hi
  have h4 := h.2.1.1
  obtain ⟨-, q1, q2, q3⟩ := h.1.1 i x hi
  have e0 : (3 : Int32) * Int32.ofNat i = Int32.ofNat (3 * i) := by rw [show (3 : Int32) = Int32.ofNat 3 from rfl, nat_m (by omega) (by omega) (by omega)]
  have e1 : Int32.ofNat (3 * i) + 1 = Int32.ofNat (3 * i + 1) := nat_s (by omega)
  have e2 : Int32.ofNat (3 * i) + 2 = Int32.ofNat (3 * i + 2) := nat_a (q := 2) (by omega)
  unfold MDo
  rw [e0, e1, e2, nat_c (by omega), nat_c (by omega), nat_c (by omega)]
  refine ⟨nat_v (by omega) (by omega), nat_v (by omega) (by omega), nat_v (by omega) (by omega), ?_, ?_, ?_⟩
  · rw [← q1]; congr 1; omega
  · rw [← q2]; congr 1; omega
  · rw [← q3]; congr 1; omega
