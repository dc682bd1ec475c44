set_option maxRecDepth 100000
theorem l_pers {c : Nat} {σ : Hp} {R : RlA} {i : Nat} {x : PersA} (h : LRl c σ R) (hi : (aP R)[i]? = some x) : ok_J2_get (c + 5) 6 σ (Int32.ofNat i) ∧ OB 8 (f_J2_get (c + 5) 6 σ (Int32.ofNat i)) σ ∧ gL σ (f_J2_get (c + 5) 6 σ (Int32.ofNat i)) 1 = x.2.1 ∧ gL σ (f_J2_get (c + 5) 6 σ (Int32.ofNat i)) 2 = x.2.2 := by
  obtain ⟨p, p1, p2, p3, p4⟩ := lst_get h.2.2.1 (by omega) hi
  rw [p1]
  exact ⟨p2, p4.2.1, p4.2.2.2⟩
theorem m_pers {m : Nat} {σ : Hp} {R : RlA} {i : Nat} {x : PersA} (h : MKr m σ R) (hi : (aP R)[i]? = some x) : vp_in (Int32.ofNat i) 12 ∧ gL σ (m + 10) (Int32.ofNat i).toNatClampNeg = x.2.1 ∧ gL σ (m + 11) (Int32.ofNat i).toNatClampNeg = x.2.2 := by
  have hl := get_lt hi
  have h6 := h.2.1.2.2.1
  obtain ⟨-, q1, q2⟩ := h.1.2.2.1 i x hi
  rw [nat_c (by omega)]
  refine ⟨nat_v (by omega) (by omega), ?_, ?_⟩
  · rw [← q1]; congr 1; omega
  · rw [← q2]; congr 1; omega
theorem q_life {o c m : Nat} {σ τ : Hp} {R : RlA} {p w : Int32} (hL : LRl c σ R) (hM : MKr m τ R) : ok_X1_life o c σ p w ∧ ok_X6_life m τ p w ∧ f_X6_life m τ p w = (f_X1_life o c σ p w, pI τ m 2 0) := by
  have M2 : MKr m (pI τ m 2 0) R := hM.o (by omega)
  have h6 := hM.2.1.2.2.1
  rcases at_cases (aP R) p (by omega) with nl | ⟨i, x, rfl, hi, hr⟩
  · have a : f_X1_isPerson o c σ p = 0 := (l_isPerson hL p).mpr nl
    have b : f_X6_isPerson m (pI τ m 2 0) p = 0 := (m_isPerson M2 p).mpr nl
    refine ⟨⟨in_01 _ _ _, fun _ => trivial, fun w => absurd a w⟩, ⟨fun _ => trivial, fun w => absurd b w⟩, ?_⟩
    unfold f_X6_life f_X1_life
    rw [if_pos b, if_pos a]
  · have a : ¬ f_X1_isPerson o c σ (Int32.ofNat i) = 0 := fun w => (l_isPerson hL _).mp w hr
    have b : ¬ f_X6_isPerson m (pI τ m 2 0) (Int32.ofNat i) = 0 := fun w => (m_isPerson M2 _).mp w hr
    obtain ⟨p1, p2, p3, p4⟩ := l_pers hL hi
    obtain ⟨r1, r2, r3⟩ := m_pers M2 hi
    refine ⟨⟨in_01 _ _ _, fun _ => trivial, fun _ => ⟨fun _ => ⟨p1, p2⟩, fun _ => ⟨fun _ => ⟨p1, p2⟩, fun _ => trivial⟩⟩⟩, ⟨fun _ => trivial, fun _ => ⟨fun _ => r1, fun _ => ⟨fun _ => r1, fun _ => trivial⟩⟩⟩, ?_⟩
    unfold f_X6_life f_X1_life
    rw [if_neg b, if_neg a, r2, r3, p3, p4]
    by_cases w0 : w = 0
    · rw [if_pos w0, if_pos w0]
    · rw [if_neg w0, if_neg w0]
      by_cases w1 : w = 1
      · rw [if_pos w1, if_pos w1]
      · rw [if_neg w1, if_neg w1]
theorem q_elder {o c m : Nat} {σ τ : Hp} {R : RlA} {p w : Int32} (hL : LRl c σ R) (hM : MKr m τ R) : ok_X1_elder o c σ p w ∧ ok_X6_elder m τ p w ∧ f_X6_elder m τ p w = (f_X1_elder o c σ p w, pI τ m 2 0) := by
  have M2 : MKr m (pI τ m 2 0) R := hM.o (by omega)
  have h6 := hM.2.1.2.2.1
  rcases at_cases (aP R) p (by omega) with nl | ⟨i, x, rfl, hi, hr⟩
  · have a : f_X1_isPerson o c σ p = 0 := (l_isPerson hL p).mpr nl
    have b : f_X6_isPerson m (pI τ m 2 0) p = 0 := (m_isPerson M2 p).mpr nl
    refine ⟨⟨in_01 _ _ _, fun _ => trivial, fun w => absurd a w⟩, ⟨fun _ => trivial, fun w => absurd b w⟩, ?_⟩
    unfold f_X6_elder f_X1_elder
    rw [if_pos b, if_pos a]
  have a : ¬ f_X1_isPerson o c σ (Int32.ofNat i) = 0 := fun w => (l_isPerson hL _).mp w hr
  have b : ¬ f_X6_isPerson m (pI τ m 2 0) (Int32.ofNat i) = 0 := fun w => (m_isPerson M2 _).mp w hr
  rcases at_cases (aP R) w (by omega) with nl | ⟨j, y, rfl, hj, hs⟩
  · have a' : f_X1_isPerson o c σ w = 0 := (l_isPerson hL w).mpr nl
    have b' : f_X6_isPerson m (pI τ m 2 0) w = 0 := (m_isPerson M2 w).mpr nl
    refine ⟨⟨in_01 _ _ _, fun _ => trivial, fun _ => ⟨in_01 _ _ _, fun _ => trivial, fun w => absurd a' w⟩⟩, ⟨fun _ => trivial, fun _ => ⟨fun _ => trivial, fun w => absurd b' w⟩⟩, ?_⟩
    unfold f_X6_elder f_X1_elder
    rw [if_neg b, if_neg a, if_pos b', if_pos a']
  · have a' : ¬ f_X1_isPerson o c σ (Int32.ofNat j) = 0 := fun w => (l_isPerson hL _).mp w hs
    have b' : ¬ f_X6_isPerson m (pI τ m 2 0) (Int32.ofNat j) = 0 := fun w => (m_isPerson M2 _).mp w hs
    obtain ⟨p1, p2, p3, p4⟩ := l_pers hL hi
    obtain ⟨r1, r2, r3⟩ := m_pers M2 hi
    obtain ⟨p1', p2', p3', p4'⟩ := l_pers hL hj
    obtain ⟨r1', r2', r3'⟩ := m_pers M2 hj
    refine ⟨⟨in_01 _ _ _, fun _ => trivial, fun _ => ⟨in_01 _ _ _, fun _ => trivial, fun _ => ⟨p1, p2, p1', p2'⟩⟩⟩, ⟨fun _ => trivial, fun _ => ⟨fun _ => trivial, fun _ => ⟨r1', r1⟩⟩⟩, ?_⟩
    unfold f_X6_elder f_X1_elder
    rw [if_neg b, if_neg a, if_neg b', if_neg a', r2, r2', p3, p3']
    by_cases q : x.2.1 ≤ y.2.1
    · rw [if_pos q, if_neg (by rw [l2_le] at q; rw [l2_lt]; omega)]
    · rw [if_neg q, if_pos (by rw [l2_le] at q; rw [l2_lt]; omega)]
