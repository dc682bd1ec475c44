set_option maxRecDepth 100000
def begY (x : LandA) (y : Int64) : Prop := askY x y ∧ begI x.2.1.toInt x.2.2.1.toInt x.2.2.2.toInt y.toInt ≤ 1000000000000
theorem l_isBegun {o c : Nat} {σ : Hp} {R : RlA} {i : Nat} {x : LandA} {y : Int64} (h : LRl c σ R) (hk : ROk R) (hi : (aL R)[i]? = some x) (hy : y.toInt ≤ 3000000000000) : ok_X1_isBegun o c σ (Int32.ofNat i) y ∧ (f_X1_isBegun o c σ (Int32.ofNat i) y = 0 ↔ ¬ begY x y) := by
  obtain ⟨p1, p2, p3⟩ := l_land (o := o) h hi
  have kx : LOK3 x.2.1 x.2.2.1 x.2.2.2 := hk.1 x (List.mem_of_getElem? hi)
  have hh := fl_has p3 kx y
  refine ⟨⟨p1, p2, ⟨fun _ => trivial, fun _ => ok_last p3 kx⟩, fun _ => trivial, fun _ => ⟨fun _ => trivial, fun _ => p1⟩⟩, ?_⟩
  unfold f_X1_isBegun
  have e : (1000000000 < y) ↔ (1000000000 : Int) < y.toInt := l3_lt (by rfl) rfl
  by_cases c1 : f_X8_has (f_X1_land o c σ (Int32.ofNat i)) σ y = 0
  · rw [if_pos c1]; exact ⟨fun _ w => hh.1.mp c1 w.1.2, fun _ => rfl⟩
  rw [if_neg c1]
  have hy1 : hasY x.2.1 x.2.2.1 y := Classical.byContradiction (fun z => c1 (hh.1.mpr z))
  by_cases c2 : 1000000000 < y
  · rw [if_pos c2]; rw [e] at c2; exact ⟨fun _ w => by have := w.1.1; omega, fun _ => rfl⟩
  rw [if_neg c2, fl_start p3]
  rw [e] at c2
  have s := mStart_i kx hy1.1 hy (hasY_b kx hy1)
  by_cases c3 : 1000000000000 < mStart x.2.1 x.2.2.1 x.2.2.2 y
  · rw [if_pos c3]
    rw [l3_lt (x := 1000000000000) (by rfl) s] at c3
    exact ⟨fun _ w => by have := w.2; omega, fun _ => rfl⟩
  · rw [if_neg c3]
    rw [l3_lt (x := 1000000000000) (by rfl) s] at c3
    exact ⟨fun w => (by cases w), fun w => absurd ⟨⟨by omega, hy1⟩, by omega⟩ w⟩
theorem m_begins {m : Nat} {τ : Hp} {R : RlA} {i : Nat} {x : LandA} {y : Int64} (h : MKr m τ R) (hk : ROk R) (hi : (aL R)[i]? = some x) : ok_X6_begins m τ (Int32.ofNat i) y ∧ (f_X6_begins m τ (Int32.ofNat i) y = 0 ↔ ¬ begY x y) := by
  have d := m_landAt h hi
  have kx : LOK3 x.2.1 x.2.2.1 x.2.2.2 := hk.1 x (List.mem_of_getElem? hi)
  obtain ⟨b1, b2⟩ := m_isAsked (y := y) h hk.1 hi
  refine ⟨⟨b1, fun _ => trivial, fun _ => om_beg d y⟩, ?_⟩
  unfold f_X6_begins
  by_cases c1 : f_X6_isAsked m τ (Int32.ofNat i) y = 0
  · rw [if_pos c1]; exact ⟨fun _ w => b2.mp c1 w.1, fun _ => rfl⟩
  rw [if_neg c1, fm_beg d]
  have ay : askY x y := Classical.byContradiction (fun z => c1 (b2.mpr z))
  obtain ⟨s1, s2, s3⟩ := mBeg_i kx ay.2.1 (by have := ay.1; omega) (hasY_b kx ay.2)
  by_cases c3 : 1000000000000 < mBeg x.2.1 x.2.2.1 x.2.2.2 y
  · rw [if_pos c3]
    rw [l3_lt (x := 1000000000000) (by rfl) rfl] at c3
    exact ⟨fun _ w => by have := w.2; omega, fun _ => rfl⟩
  · rw [if_neg c3]
    rw [l3_lt (x := 1000000000000) (by rfl) rfl] at c3
    exact ⟨fun w => (by cases w), fun w => absurd ⟨ay, by omega⟩ w⟩
/-- springs of a year: both count the same -/
theorem spr_eq {o c m : Nat} {σ τ : Hp} {R : RlA} {i : Nat} {x : LandA} {y : Int64} (hL : LRl c σ R) (hM : MKr m τ R) (hk : ROk R) (hi : (aL R)[i]? = some x) (hy : begY x y) : ok_X1_springsIn o c σ (f_X1_land o c σ (Int32.ofNat i)) y ∧ ok_X6_springsOf m τ (Int32.ofNat i) y ∧ f_X1_springsIn o c σ (f_X1_land o c σ (Int32.ofNat i)) y = f_X6_springsOf m τ (Int32.ofNat i) y := by
  obtain ⟨p1, p2, p3⟩ := l_land (o := o) hL hi
  have d := m_landAt hM hi
  have kx : LOK3 x.2.1 x.2.2.1 x.2.2.2 := hk.1 x (List.mem_of_getElem? hi)
  obtain ⟨s0, s1, s2, s3, s4, s5, s6⟩ := hL.2.2.2.2.2
  have k5 := hk.2.1.2.2.2.2.2.1
  have k6 := hk.2.1.2.2.2.2.2.2
  have ay := hy.1
  have a1 := ay.1
  have a2 := ay.2.1
  have n5 : ¬ gL σ c 13 = 0 := by rw [s5]; exact ne0 k5.1
  have m5 : gI τ (m + 3) 5 = aS R 5 := m_sky hM (by omega)
  have m6 : gI τ (m + 3) 6 = aS R 6 := m_sky hM (by omega)
  have n6 : ¬ (gI τ (m + 3) 5).toInt64 = 0 := by rw [m5]; exact ne0 k5.1
  refine ⟨⟨n5, n5⟩, ⟨om_beg d y, om_len d y, ⟨fun _ => n6, fun _ => n6⟩, ⟨fun _ => n6, fun _ => n6⟩⟩, ?_⟩
  unfold f_X1_springsIn f_X6_springsOf f_X3_springs
  obtain ⟨e1, e2⟩ := st_beg (c := 0) kx (by decide) a2 (by omega) (hasY_b kx ay.2) hy.2
  rw [fl_start p3, fl_len p3, fm_beg d, fm_len d, s5, s6, m5, m6, e1]
  have eL := mLen_i kx (y := y) (by omega) (by omega)
  have lb := lenI_b (y := y.toInt) kx a2 a1
  have l1 := ay.2.2
  have b0 : 0 ≤ begI x.2.1.toInt x.2.2.1.toInt x.2.2.2.toInt y.toInt := by
    have kf := kx.2.2.2.2.1
    by_cases e : y.toInt = 1
    · rw [e, beg_one]; exact kf
    · have := beg_lt (f := x.2.2.2.toInt) (g := x.2.2.1.toInt) (y := 1) (z := y.toInt) kx.1 (Int.le_refl _) (by omega) (Or.inr (len_dn kx.1 (by omega) (by omega) (Or.inr l1)))
      rw [beg_one] at this
      omega
  have hb := hy.2
  have f1 : ((mStart x.2.1 x.2.2.1 x.2.2.2 y + mLen x.2.1 x.2.2.1 y) - 1).toInt = begI x.2.1.toInt x.2.2.1.toInt x.2.2.2.toInt y.toInt + lenI x.2.1.toInt x.2.2.1.toInt y.toInt - 1 := l3_sub (l3_add e2 eL (by omega) (by omega)) (by rfl) (by omega) (by omega)
  have f2 : (mStart x.2.1 x.2.2.1 x.2.2.2 y - 1).toInt = begI x.2.1.toInt x.2.2.1.toInt x.2.2.2.toInt y.toInt - 1 := l3_sub e2 (by rfl) (by omega) (by omega)
  have h6 : (aS R 6).toInt64.toInt = (aS R 6).toInt := i2_l _
  have h5 : (aS R 5).toInt64.toInt = (aS R 5).toInt := i2_l _
  have mb1 := mul_bd (a := begI x.2.1.toInt x.2.2.1.toInt x.2.2.2.toInt y.toInt + lenI x.2.1.toInt x.2.2.1.toInt y.toInt - 1) (b := (aS R 6).toInt) (A := 2000000000000) (B := 99) (by omega) (by omega) (by omega) (by omega)
  have mb2 : -99 ≤ (begI x.2.1.toInt x.2.2.1.toInt x.2.2.2.toInt y.toInt - 1) * (aS R 6).toInt ∧ (begI x.2.1.toInt x.2.2.1.toInt x.2.2.2.toInt y.toInt - 1) * (aS R 6).toInt ≤ 1000000000000000 := by
    have := mul_bd (a := begI x.2.1.toInt x.2.2.1.toInt x.2.2.2.toInt y.toInt) (b := (aS R 6).toInt) (A := 1000000000000) (B := 99) (by omega) (by omega) (by omega) (by omega)
    rw [Int.sub_mul]
    omega
  have g1 := l3_mul f1 h6 (by omega) (by omega)
  have g2 := l3_mul f2 h6 (by omega) (by omega)
  rw [fl_eq (by omega) (by omega) (by omega) (by omega), fl_eq (a := (mStart x.2.1 x.2.2.1 x.2.2.2 y - 1) * (aS R 6).toInt64) (by omega) (by omega) (by omega) (by omega)]
  grind
theorem q_springs {o c m : Nat} {σ τ : Hp} {R : RlA} {l y : Int32} (hL : LRl c σ R) (hM : MKr m τ R) (hk : ROk R) : ok_X1_springs o c σ l y ∧ ok_X6_springs m τ l y ∧ f_X6_springs m τ l y = (f_X1_springs o c σ l y, pI τ m 2 0) := by
  have M2 : MKr m (pI τ m 2 0) R := hM.ch Ch.t0
  have h4 := hM.2.1.1
  rcases at_cases (aL R) l (by omega) with nl | ⟨i, x, rfl, hi, hr⟩
  · have a : f_X1_isLand o c σ l = 0 := (l_isLand hL l).mpr nl
    have b : f_X6_isLand m (pI τ m 2 0) l = 0 := (m_isLand M2 l).mpr nl
    have a2 : f_X1_isYear o c σ l y = 0 := by unfold f_X1_isYear; rw [if_pos a]
    refine ⟨⟨⟨in_01 _ _ _, cT a trivial⟩, cT a2 trivial⟩, cT b trivial, ?_⟩
    unfold f_X6_springs f_X1_springs
    rw [if_pos b, if_pos a2]
  have b : ¬ f_X6_isLand m (pI τ m 2 0) (Int32.ofNat i) = 0 := fun w => (m_isLand M2 _).mp w hr
  obtain ⟨p1, p2, p3⟩ := l_land (o := o) hL hi
  obtain ⟨a1, a2⟩ := l_isYear (o := o) (y := y) hL hk.1 hi hr
  have ye : y.toInt64.toInt = y.toInt := by rw [Int32.toInt_toInt64]
  have yb := i2_b y
  obtain ⟨b1, b2⟩ := l_isBegun (o := o) (y := y.toInt64) hL hk hi (by omega)
  obtain ⟨c1, c2⟩ := m_begins (y := y.toInt64) M2 hk hi
  by_cases q : begY x y.toInt64
  · have u := spr_eq (o := o) hL M2 hk hi q
    refine ⟨⟨a1, cF (fun z => a2.mp z q.1) ⟨b1, cF (fun z => b2.mp z q) ⟨p1, p2, u.1⟩⟩⟩, cF b ⟨c1, cF (fun z => c2.mp z q) u.2.1⟩, ?_⟩
    unfold f_X6_springs f_X1_springs
    rw [if_neg b, if_neg (fun z => c2.mp z q), if_neg (fun z => a2.mp z q.1), if_neg (fun z => b2.mp z q), u.2.2]
  · refine ⟨⟨a1, fun _ => trivial, fun _ => ⟨b1, cT (b2.mpr q) trivial⟩⟩, cF b ⟨c1, cT (c2.mpr q) trivial⟩, ?_⟩
    unfold f_X6_springs f_X1_springs
    rw [if_neg b, if_pos (c2.mpr q), if_pos (b2.mpr q)]
    split <;> rfl
theorem q_many {o c m : Nat} {σ τ : Hp} {R : RlA} {l y w : Int32} (hL : LRl c σ R) (hM : MKr m τ R) (hk : ROk R) : ∃ v, QL (wp_X1_many o c σ l y w) v ∧ QM m τ (wp_X6_many m τ l y w) v := by
  have M2 : MKr m (pI τ m 2 0) R := hM.ch Ch.t0
  have h4 := hL.1.2.1
  have wl : f_X1_in w.toInt64 0 99 = 0 ↔ ¬ (0 ≤ w.toInt ∧ w.toInt ≤ 99) := in_iff (by rw [Int32.toInt_toInt64]) (by rfl) (by rfl)
  have wm : f_X6_isIn w 0 99 = 0 ↔ ¬ (0 ≤ w.toInt ∧ w.toInt ≤ 99) := isIn_iff w 0 99
  rcases at_cases (aL R) l (by omega) with nl | ⟨i, x, rfl, hi, hr⟩
  · have a : f_X1_isLand o c σ l = 0 := (l_isLand hL l).mpr nl
    have b : f_X6_isLand m (pI τ m 2 0) l = 0 := (m_isLand M2 l).mpr nl
    have a2 : f_X1_isYear o c σ l y = 0 := by unfold f_X1_isYear; rw [if_pos a]
    exact ⟨-1, fun Q hQ => ⟨⟨in_01 _ _ _, cT a trivial⟩, cT a2 hQ⟩, fun Q hQ => cT b (hQ _ Ch.t0 t0_2)⟩
  have b : ¬ f_X6_isLand m (pI τ m 2 0) (Int32.ofNat i) = 0 := fun w => (m_isLand M2 _).mp w hr
  obtain ⟨p1, p2, p3⟩ := l_land (o := o) hL hi
  obtain ⟨a1, a2⟩ := l_isYear (o := o) (y := y) hL hk.1 hi hr
  have ye : y.toInt64.toInt = y.toInt := by rw [Int32.toInt_toInt64]
  have yb := i2_b y
  obtain ⟨b1, b2⟩ := l_isBegun (o := o) (y := y.toInt64) hL hk hi (by omega)
  obtain ⟨c1, c2⟩ := m_begins (y := y.toInt64) M2 hk hi
  by_cases q : begY x y.toInt64
  · by_cases ww : 0 ≤ w.toInt ∧ w.toInt ≤ 99
    · have q1 := q.1.1
      have q2 := q.1.2.1
      have e1000 : (y.toInt64 + 1000).toInt = y.toInt64.toInt + 1000 := l3_add rfl (by rfl) (by omega) (by omega)
      obtain ⟨r, er⟩ : ∃ r, srV (fun z => y.toInt64 + 1000 ≤ z ∨ ¬ begY x z) (fun z => f_X6_springsOf m (pI τ m 2 0) (Int32.ofNat i) z = w.toInt64) 1000 y.toInt64 = r := ⟨_, rfl⟩
      refine ⟨srI r, fun Q hQ => ⟨a1, cF (fun z => a2.mp z q.1) ⟨b1, cF (fun z => b2.mp z q) (cF (fun z => wl.mp z ww) ?_)⟩⟩, fun Q hQ => cF b (cF (fun z => wm.mp z ww) ⟨c1, cF (fun z => c2.mp z q) ?_⟩)⟩
      · refine sr_lp (fun n z u => u = z ∧ z.toInt + n = y.toInt64.toInt + 1000 ∧ 1 ≤ z.toInt) _ (fun z u hI => Or.inl (by rw [l3_le e1000 rfl]; omega)) ?_ ⟨rfl, rfl, q2⟩ er
        rintro K n z u ⟨rfl, hn, h1⟩ hK hs hh
        obtain ⟨b1, b2⟩ := l_isBegun (o := o) (y := u) hL hk hi (by omega)
        show (_ → _) ∧ (_ → _)
        refine ⟨fun c1 => ?_, fun c1 => ⟨b1, fun c2 => ?_, fun c2 => ⟨p1, p2, ?_⟩⟩⟩
        · have e := hs (Or.inl c1); rw [e] at hQ; exact hQ
        · have e := hs (Or.inr (b2.mp c2)); rw [e] at hQ; exact hQ
        · have bg : begY x u := Classical.byContradiction (fun z => c2 (b2.mpr z))
          have ns : ¬ (y.toInt64 + 1000 ≤ u ∨ ¬ begY x u) := fun z => z.elim c1 (fun z => z bg)
          have s := spr_eq (o := o) hL M2 hk hi bg
          rw [s.2.2]
          refine ⟨s.1, fun c4 => ?_, fun c4 => ?_⟩
          · have e := hh ns c4; rw [e] at hQ; exact hQ
          · rw [l3_le e1000 rfl] at c1
            exact hK (n - 1) _ (by omega) ns c4 ⟨rfl, by rw [l3_add (a := u) (b := 1) rfl (y := 1) (by rfl) (by omega) (by omega)]; omega, by rw [l3_add (a := u) (b := 1) rfl (y := 1) (by rfl) (by omega) (by omega)]; omega⟩
      · have hQ := hQ _ Ch.t0 t0_2
        refine sr_lp (fun n z u => u = (z, pI τ m 2 0) ∧ z.toInt + n = y.toInt64.toInt + 1000 ∧ 1 ≤ z.toInt) _ (fun z u hI => Or.inl (by rw [l3_le e1000 rfl]; omega)) ?_ ⟨rfl, rfl, q2⟩ er
        rintro K n z u ⟨rfl, hn, h1⟩ hK hs hh
        obtain ⟨b1, b2⟩ := m_begins (y := z) M2 hk hi
        show (_ → _) ∧ (_ → _)
        refine ⟨fun c1 => ?_, fun c1 => ⟨b1, fun c2 => ?_, fun c2 => ?_⟩⟩
        · have e := hs (Or.inl c1); rw [e] at hQ; exact hQ
        · have e := hs (Or.inr (b2.mp c2)); rw [e] at hQ; exact hQ
        · have bg : begY x z := Classical.byContradiction (fun z => c2 (b2.mpr z))
          have ns : ¬ (y.toInt64 + 1000 ≤ z ∨ ¬ begY x z) := fun u => u.elim c1 (fun u => u bg)
          have s := spr_eq (o := o) hL M2 hk hi bg
          refine ⟨s.2.1, fun c4 => ?_, fun c4 => ?_⟩
          · have e := hh ns c4; rw [e] at hQ; exact hQ
          · rw [l3_le e1000 rfl] at c1
            exact hK (n - 1) _ (by omega) ns c4 ⟨rfl, by rw [l3_add (a := z) (b := 1) rfl (y := 1) (by rfl) (by omega) (by omega)]; omega, by rw [l3_add (a := z) (b := 1) rfl (y := 1) (by rfl) (by omega) (by omega)]; omega⟩
    · exact ⟨-1, fun Q hQ => ⟨a1, cF (fun z => a2.mp z q.1) ⟨b1, cF (fun z => b2.mp z q) (cT (wl.mpr ww) hQ)⟩⟩, fun Q hQ => cF b (cT (wm.mpr ww) (hQ _ Ch.t0 t0_2))⟩
  · refine ⟨-1, fun Q hQ => ⟨a1, fun _ => hQ, fun _ => ⟨b1, cT (b2.mpr q) hQ⟩⟩, fun Q hQ => cF b ⟨fun _ => hQ _ Ch.t0 t0_2, fun _ => ⟨c1, cT (c2.mpr q) (hQ _ Ch.t0 t0_2)⟩⟩⟩
