set_option maxRecDepth 100000
theorem us_ne {m u : Nat} {R : RlA} {a k : Nat} (q : US m u R a k) : a ≠ m := by
  have : ¬ (fun a (_ : Nat) => a = m) a k := q.by (S := fun a _ => a = m) (fun k _ _ => by omega) (fun k _ _ => by omega) (fun k _ _ => by omega) (fun k _ _ => by omega) (fun k _ _ => by omega) (fun k _ _ => by omega) (fun k _ _ => by omega) (fun k _ _ => by omega) (fun k _ _ => by omega) (fun k _ _ => by omega)
  exact this
theorem MKr.o {m : Nat} {σ : Hp} {R : RlA} {k : Nat} {v : Int32} (h : MKr m σ R) (hk : k < 12 ∨ (18 ≤ k ∧ k ≠ 58)) : MKr m (pI σ m k v) R := by
  obtain ⟨h1, h2, c1, c2, c3, c4, c5, c6, c7⟩ := h
  refine ⟨h1.fr (fun a i q => ⟨pIo (by have := us_ne q; omega), rfl⟩), h2, ?_, ?_, ?_, ?_, ?_, ?_, fun i x hi => ?_⟩
  · rw [pIo (by omega)]; exact c1
  · rw [pIo (by omega)]; exact c2
  · rw [pIo (by omega)]; exact c3
  · rw [pIo (by omega)]; exact c4
  · rw [pIo (by omega)]; exact c5
  · rw [pIo (by omega)]; exact c6
  · rw [pIo (by omega)]; exact c7 i x hi
theorem MKr.ol {m : Nat} {σ : Hp} {R : RlA} {k : Nat} {v : Int64} (h : MKr m σ R) : MKr m (pL σ m k v) R := by
  obtain ⟨h1, h2, c⟩ := h
  exact ⟨h1.fr (fun a i q => ⟨rfl, by have := us_ne q; rw [gL_pL, if_neg (by omega)]⟩), h2, c⟩
theorem at_cases {α : Type} (l : List α) (x : Int32) (hl : l.length ≤ 1000000) : (¬ (0 ≤ x.toInt ∧ x.toInt < l.length)) ∨ ∃ i y, x = Int32.ofNat i ∧ l[i]? = some y ∧ (0 ≤ x.toInt ∧ x.toInt < l.length) := by
  by_cases c : 0 ≤ x.toInt ∧ x.toInt < l.length
  · obtain ⟨i, hi, e⟩ := idx c hl
    exact Or.inr ⟨i, l[i], e, List.getElem?_eq_getElem hi, c⟩
  · exact Or.inl c
theorem y_in {y : Int32} : f_X1_in y.toInt64 1 1000000000 = 0 ↔ ¬ (1 ≤ y.toInt ∧ y.toInt ≤ 1000000000) := in_iff (by rw [Int32.toInt_toInt64]) (by rfl) (by rfl)
theorem ol_last {a : Nat} {σ : Hp} {L g f : Int32} (h : LDo a σ L g f) (k : LOK3 L g f) : ok_X8_last a σ := by
  refine ⟨fun _ => trivial, fun w => ?_⟩
  rw [h.2.1] at w ⊢
  have k1 := k.2.2.1
  have k2 := k.2.2.2.1
  have e : (-g).toInt = -g.toInt := i3_neg rfl (by omega)
  rw [i3_le (x := 0) (by rfl) rfl] at w
  rw [i3_eq e (y := 0) (by rfl)]
  omega
/-- the year y of the land x is there and may be asked -/
def askY (x : LandA) (y : Int64) : Prop := y.toInt ≤ 1000000000 ∧ hasY x.2.1 x.2.2.1 y
theorem l_isYear {o c : Nat} {σ : Hp} {R : RlA} {i : Nat} {x : LandA} {y : Int32} (h : LRl c σ R) (hk : LsOk (aL R)) (hi : (aL R)[i]? = some x) (hr : 0 ≤ (Int32.ofNat i).toInt ∧ (Int32.ofNat i).toInt < (aL R).length) : ok_X1_isYear o c σ (Int32.ofNat i) y ∧ (f_X1_isYear o c σ (Int32.ofNat i) y = 0 ↔ ¬ askY x y.toInt64) := by
  have q : ¬ f_X1_isLand o c σ (Int32.ofNat i) = 0 := fun w => (l_isLand h _).mp w hr
  obtain ⟨p1, p2, p3⟩ := l_land (o := o) h hi
  have hh := fl_has p3 (hk x (List.mem_of_getElem? hi)) y.toInt64
  refine ⟨⟨in_01 _ _ _, fun _ => trivial, fun _ => ⟨fun _ => trivial, fun _ => ⟨p1, p2, ?_⟩⟩⟩, ?_⟩
  · exact ⟨fun _ => trivial, fun _ => ol_last p3 (hk x (List.mem_of_getElem? hi))⟩
  · unfold f_X1_isYear
    rw [if_neg q]
    by_cases c1 : f_X1_in y.toInt64 1 1000000000 = 0
    · rw [if_pos c1]
      rw [y_in] at c1
      refine ⟨fun _ w => c1 ?_, fun _ => rfl⟩
      have w1 := w.1
      have w2 := w.2.1
      rw [Int32.toInt_toInt64] at w1 w2
      exact ⟨w2, w1⟩
    · rw [if_neg c1]
      rw [y_in] at c1
      by_cases c2 : f_X8_has (f_X1_land o c σ (Int32.ofNat i)) σ y.toInt64 = 0
      · rw [if_pos c2]
        exact ⟨fun _ w => hh.1.mp c2 w.2, fun _ => rfl⟩
      · rw [if_neg c2]
        refine ⟨fun w => (by cases w), fun w => absurd ⟨by rw [Int32.toInt_toInt64]; omega, Classical.byContradiction (fun z => c2 (hh.1.mpr z))⟩ w⟩
theorem m_isAsked {m : Nat} {σ : Hp} {i : Nat} {x : LandA} {y : Int64} {R : RlA} (h : MKr m σ R) (hk : LsOk (aL R)) (hi : (aL R)[i]? = some x) : ok_X6_isAsked m σ (Int32.ofNat i) y ∧ (f_X6_isAsked m σ (Int32.ofNat i) y = 0 ↔ ¬ askY x y) := by
  have d := m_landAt h hi
  have k := hk x (List.mem_of_getElem? hi)
  refine ⟨⟨fun _ => trivial, fun _ => om_isYear d y⟩, ?_⟩
  unfold f_X6_isAsked
  have e : (1000000000 < y) ↔ (1000000000 : Int) < y.toInt := l3_lt (by rfl) rfl
  by_cases c : 1000000000 < y
  · rw [if_pos c]
    rw [e] at c
    exact ⟨fun _ w => by have := w.1; omega, fun _ => rfl⟩
  · rw [if_neg c]
    rw [e] at c
    have q := (fm_isYear d k (y := y) (by omega)).1
    by_cases c2 : f_X6_isYear m σ (Int32.ofNat i) y = 0
    · rw [if_pos c2]
      exact ⟨fun _ w => q.mp c2 w.2, fun _ => rfl⟩
    · rw [if_neg c2]
      exact ⟨fun w => (by cases w), fun w => absurd ⟨by omega, Classical.byContradiction (fun z => c2 (q.mpr z))⟩ w⟩
theorem q_length {o c m : Nat} {σ τ : Hp} {R : RlA} {l y : Int32} (hL : LRl c σ R) (hM : MKr m τ R) (hk : LsOk (aL R)) : ok_X1_length o c σ l y ∧ ok_X6_length m τ l y ∧ f_X6_length m τ l y = (f_X1_length o c σ l y, pI τ m 2 0) := by
  have M2 : MKr m (pI τ m 2 0) R := hM.o (by omega)
  have h4 := hM.2.1.1
  rcases at_cases (aL R) l (by omega) with nl | ⟨i, x, rfl, hi, hr⟩
  · have a : f_X1_isLand o c σ l = 0 := (l_isLand hL l).mpr nl
    have b : f_X6_isLand m (pI τ m 2 0) l = 0 := (m_isLand M2 l).mpr nl
    have a2 : f_X1_isYear o c σ l y = 0 := by unfold f_X1_isYear; rw [if_pos a]
    refine ⟨⟨⟨in_01 _ _ _, fun _ => trivial, fun w => absurd a w⟩, fun _ => trivial, fun w => absurd a2 w⟩, ⟨fun _ => trivial, fun w => absurd b w⟩, ?_⟩
    unfold f_X6_length f_X1_length
    rw [if_pos b, if_pos a2]
  · have b : ¬ f_X6_isLand m (pI τ m 2 0) (Int32.ofNat i) = 0 := fun w => (m_isLand M2 _).mp w hr
    obtain ⟨p1, p2, p3⟩ := l_land (o := o) hL hi
    obtain ⟨a1, a2⟩ := l_isYear (o := o) (y := y) hL hk hi hr
    obtain ⟨b1, b2⟩ := m_isAsked (y := y.toInt64) M2 hk hi
    have d := m_landAt M2 hi
    refine ⟨⟨a1, fun _ => trivial, fun _ => ⟨p1, p2⟩⟩, ⟨fun _ => trivial, fun _ => ⟨b1, fun _ => trivial, fun _ => om_len d _⟩⟩, ?_⟩
    unfold f_X6_length f_X1_length
    rw [if_neg b]
    by_cases q : askY x y.toInt64
    · rw [if_neg (fun w => b2.mp w q), if_neg (fun w => a2.mp w q), fm_len d, fl_len p3]
    · rw [if_pos (b2.mpr q), if_pos (a2.mpr q)]
