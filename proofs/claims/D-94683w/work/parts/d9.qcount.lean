set_option maxRecDepth 100000
theorem hasY_b {L g f : Int32} {y : Int64} (k : LOK3 L g f) (h : hasY L g y) : 0 ≤ g.toInt ∨ y.toInt ≤ 20000 := by
  by_cases c : 0 ≤ g.toInt
  · exact Or.inl c
  · have h2 := h.2
    have h1 := h.1
    unfold lenI at h2
    have k2 := k.2.1
    have e : g.toInt * (y.toInt - 1) ≤ (-1) * (y.toInt - 1) := Int.mul_le_mul_of_nonneg_right (by omega) (by omega)
    exact Or.inr (by omega)
theorem lenI_b {L g f : Int32} {y : Int} (k : LOK3 L g f) (h1 : 1 ≤ y) (h2 : y ≤ 1000000000) : lenI L.toInt g.toInt y ≤ 1000000000000 := by
  unfold lenI
  have k2 := k.2.1
  have k4 := k.2.2.2.1
  have e : g.toInt * (y - 1) ≤ 99 * (y - 1) := Int.mul_le_mul_of_nonneg_right (by omega) (by omega)
  omega
theorem q_count {o c m : Nat} {σ τ : Hp} {R : RlA} {l y : Int32} {d : Int64} (hL : LRl c σ R) (hM : MKr m τ R) (hk : LsOk (aL R)) : ok_X1_count o c σ l y d ∧ ok_X6_count m τ l y d ∧ f_X6_count m τ l y d = (f_X1_count o c σ l y d, pI τ m 2 0) := by
  have M2 : MKr m (pI τ m 2 0) R := hM.o (by omega)
  have h4 := hM.2.1.1
  rcases at_cases (aL R) l (by omega) with nl | ⟨i, x, rfl, hi, hr⟩
  · have a : f_X1_isLand o c σ l = 0 := (l_isLand hL l).mpr nl
    have b : f_X6_isLand m (pI τ m 2 0) l = 0 := (m_isLand M2 l).mpr nl
    have a2 : f_X1_isYear o c σ l y = 0 := by unfold f_X1_isYear; rw [if_pos a]
    refine ⟨⟨⟨in_01 _ _ _, fun _ => trivial, fun w => absurd a w⟩, fun _ => trivial, fun w => absurd a2 w⟩, ⟨fun _ => trivial, fun w => absurd b w⟩, ?_⟩
    unfold f_X6_count f_X1_count
    rw [if_pos b, if_pos a2]
  · have b : ¬ f_X6_isLand m (pI τ m 2 0) (Int32.ofNat i) = 0 := fun w => (m_isLand M2 _).mp w hr
    obtain ⟨p1, p2, p3⟩ := l_land (o := o) hL hi
    obtain ⟨a1, a2⟩ := l_isYear (o := o) (y := y) hL hk hi hr
    have dd := m_landAt M2 hi
    have k := hk x (List.mem_of_getElem? hi)
    have ye : y.toInt64.toInt = y.toInt := by rw [Int32.toInt_toInt64]
    have c9 : (1000000000 < y) ↔ (1000000000 : Int) < y.toInt := i3_lt (by rfl) rfl
    refine ⟨⟨a1, fun _ => trivial, fun _ => ⟨p1, p2, fun _ => trivial, fun _ => ⟨p1, fun _ => p1, fun _ => trivial⟩⟩⟩, ⟨fun _ => trivial, fun _ => ⟨fun _ => trivial, fun _ => ⟨om_isYear dd _, fun _ => trivial, fun _ => ⟨fun _ => trivial, fun _ => ⟨om_len dd _, fun _ => om_beg dd _, fun _ => trivial⟩⟩⟩⟩⟩, ?_⟩
    unfold f_X6_count f_X1_count
    rw [if_neg b]
    by_cases q : askY x y.toInt64
    · rw [if_neg (fun w => a2.mp w q)]
      have q1 := q.1
      have q2 := q.2.1
      rw [ye] at q1 q2
      rw [if_neg (by rw [c9]; omega)]
      unfold f_X6_countOf
      rw [if_neg (fun w => (fm_isYear dd k (by rw [ye]; omega)).1.mp w q.2), fm_len dd, fm_beg dd, fl_len p3, fl_start p3]
      have eL := mLen_i (y := y.toInt64) k (by rw [ye]; omega) (by rw [ye]; omega)
      have lb := lenI_b (y := y.toInt64.toInt) k (by rw [ye]; exact q2) (by rw [ye]; exact q1)
      have h3 := hasY_b k q.2
      have inn : f_X1_in d 1 (mLen x.2.1 x.2.2.1 y.toInt64) = 0 ↔ ¬ (1 ≤ d.toInt ∧ d.toInt ≤ lenI x.2.1.toInt x.2.2.1.toInt y.toInt64.toInt) := in_iff rfl (by rfl) eL
      by_cases d1 : d < 1
      · rw [if_pos d1, if_pos (inn.mpr (fun w => by rw [l3_lt rfl (y := 1) (by rfl)] at d1; omega))]
      rw [if_neg d1]
      rw [l3_lt rfl (y := 1) (by rfl)] at d1
      by_cases d2 : d ≤ mLen x.2.1 x.2.2.1 y.toInt64
      · rw [if_pos d2]
        rw [l3_le rfl eL] at d2
        rw [if_neg (fun w => inn.mp w ⟨by omega, d2⟩)]
        by_cases bg : begI x.2.1.toInt x.2.2.1.toInt x.2.2.2.toInt y.toInt64.toInt ≤ 1000000000000
        · obtain ⟨s1, s2⟩ := st_beg (c := 0) k (by decide) (y := y.toInt64) (by rw [ye]; exact q2) (by rw [ye]; omega) h3 bg
          have sl : mStart x.2.1 x.2.2.1 x.2.2.2 y.toInt64 ≤ 1000000000000 := by rw [l3_le s2 (y := 1000000000000) (by rfl)]; exact bg
          rw [s1, if_pos sl]
          rfl
        · have s2 := mStart_i (y := y.toInt64) k (by rw [ye]; exact q2) (by rw [ye]; omega) h3
          obtain ⟨s3, s4, s5⟩ := mBeg_i (y := y.toInt64) k (by rw [ye]; exact q2) (by rw [ye]; omega) h3
          have e1 : (mBeg x.2.1 x.2.2.1 x.2.2.2 y.toInt64 + d).toInt = (mBeg x.2.1 x.2.2.1 x.2.2.2 y.toInt64).toInt + d.toInt := l3_add rfl rfl (by omega) (by omega)
          have e2 : (mBeg x.2.1 x.2.2.1 x.2.2.2 y.toInt64 + d - 1).toInt = (mBeg x.2.1 x.2.2.1 x.2.2.2 y.toInt64).toInt + d.toInt - 1 := l3_sub e1 (by rfl) (by omega) (by omega)
          rw [if_neg (by rw [l3_le e2 (y := 1000000000000) (by rfl)]; omega), if_neg (by rw [l3_le s2 (y := 1000000000000) (by rfl)]; omega)]
      · rw [if_neg d2]
        rw [l3_le rfl eL] at d2
        rw [if_pos (inn.mpr (fun w => d2 w.2))]
    · rw [if_pos (a2.mpr q)]
      by_cases y9 : 1000000000 < y
      · rw [if_pos y9]
      · rw [if_neg y9]
        rw [c9] at y9
        unfold f_X6_countOf
        rw [if_pos ((fm_isYear dd k (by rw [ye]; omega)).1.mpr (fun w => q ⟨by rw [ye]; omega, w⟩))]
