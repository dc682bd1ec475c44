set_option maxRecDepth 100000
/-! DEEDS -/
theorem cnt_eq {x : LandA} {y D : Int64} (k : LOK3 x.2.1 x.2.2.1 x.2.2.2) (hy : hasY x.2.1 x.2.2.1 y) (hy2 : y.toInt ≤ 2000000000000) (h1 : 1 ≤ D.toInt) (h2 : D.toInt ≤ 1000000000000000) : (if (mBeg x.2.1 x.2.2.1 x.2.2.2 y + D) - 1 ≤ 1000000000000 then (mBeg x.2.1 x.2.2.1 x.2.2.2 y + D) - 1 else -1) = f_X10_counted ((mStart x.2.1 x.2.2.1 x.2.2.2 y + D) - 1) := by
  unfold f_X10_counted
  have h3 := hasY_b k hy
  by_cases bg : begI x.2.1.toInt x.2.2.1.toInt x.2.2.2.toInt y.toInt ≤ 1000000000000
  · obtain ⟨s1, s2⟩ := st_beg (c := 0) k (by decide) (y := y) hy.1 (by omega) h3 bg
    rw [s1]
  · have s2 := mStart_i (y := y) k hy.1 (by omega) h3
    obtain ⟨s3, s4, s5⟩ := mBeg_i (y := y) k hy.1 (by omega) h3
    have e2 : (mBeg x.2.1 x.2.2.1 x.2.2.2 y + D - 1).toInt = (mBeg x.2.1 x.2.2.1 x.2.2.2 y).toInt + D.toInt - 1 := l3_sub (l3_add rfl rfl (by omega) (by omega)) (by rfl) (by omega) (by omega)
    have e3 : (mStart x.2.1 x.2.2.1 x.2.2.2 y + D - 1).toInt = (mStart x.2.1 x.2.2.1 x.2.2.2 y).toInt + D.toInt - 1 := l3_sub (l3_add rfl rfl (by omega) (by omega)) (by rfl) (by omega) (by omega)
    rw [if_neg (by rw [l3_le e2 (y := 1000000000000) (by rfl)]; omega), if_neg (by rw [l3_le e3 (y := 1000000000000) (by rfl)]; omega)]
def wOk (w : Int64) : Prop := w = -1 ∨ w = -2 ∨ cOk w
theorem counted_ok {w : Int64} (h : 0 ≤ w.toInt) : wOk (f_X10_counted w) := by
  unfold f_X10_counted
  by_cases q : w ≤ 1000000000000
  · rw [if_pos q]
    rw [l3_le rfl (y := 1000000000000) (by rfl)] at q
    exact Or.inr (Or.inr ⟨h, q⟩)
  · rw [if_neg q]; exact Or.inl rfl
/-- so many years later, on the same day -/
noncomputable def laterV (x : LandA) (Y D : Int64) : Int64 := @ite _ (hasY x.2.1 x.2.2.1 Y) (Classical.propDecidable _) (if mLen x.2.1 x.2.2.1 Y < D then @ite _ (hasY x.2.1 x.2.2.1 (Y + 1)) (Classical.propDecidable _) (f_X10_counted (mStart x.2.1 x.2.2.1 x.2.2.2 (Y + 1))) (-1) else f_X10_counted ((mStart x.2.1 x.2.2.1 x.2.2.2 Y + D) - 1)) (-1)
theorem start_nn {x : LandA} {y : Int64} (k : LOK3 x.2.1 x.2.2.1 x.2.2.2) (hy : hasY x.2.1 x.2.2.1 y) (hy2 : y.toInt ≤ 2000000000000) : 0 ≤ (mStart x.2.1 x.2.2.1 x.2.2.2 y).toInt := by
  have s2 := mStart_i (y := y) k hy.1 (by omega) (hasY_b k hy)
  have b0 : 0 ≤ begI x.2.1.toInt x.2.2.1.toInt x.2.2.2.toInt y.toInt := by
    have kf := k.2.2.2.2.1
    have y1 := hy.1
    by_cases e : y.toInt = 1
    · rw [e, beg_one]; exact kf
    · have := beg_lt (f := x.2.2.2.toInt) (g := x.2.2.1.toInt) (y := 1) (z := y.toInt) k.1 (Int.le_refl _) (by omega) (Or.inr (len_dn k.1 (by omega) (by omega) (Or.inr hy.2)))
      rw [beg_one] at this
      omega
  omega
theorem later_ok {x : LandA} {Y D : Int64} (k : LOK3 x.2.1 x.2.2.1 x.2.2.2) (h0 : Y.toInt ≤ 1500000000000) (h1 : 1 ≤ D.toInt) (h2 : D.toInt ≤ 1000000000000000) (h3 : 0 ≤ Y.toInt) : wOk (laterV x Y D) := by
  unfold laterV
  have e1 : (Y + 1).toInt = Y.toInt + 1 := l3_add rfl (by rfl) (by omega) (by omega)
  by_cases q : hasY x.2.1 x.2.2.1 Y
  · rw [if_pos q]
    by_cases q2 : mLen x.2.1 x.2.2.1 Y < D
    · rw [if_pos q2]
      by_cases q3 : hasY x.2.1 x.2.2.1 (Y + 1)
      · rw [if_pos q3]
        exact counted_ok (start_nn k q3 (by omega))
      · rw [if_neg q3]; exact Or.inl rfl
    · rw [if_neg q2]
      have s := start_nn k q (by omega)
      have sb := mStart_i (y := Y) k q.1 (by omega) (hasY_b k q)
      refine counted_ok ?_
      rw [l3_sub (l3_add (a := mStart x.2.1 x.2.2.1 x.2.2.2 Y) (b := D) rfl rfl (by omega) (by omega)) (b := 1) (y := 1) (by rfl) (by omega) (by omega)]
      omega
  · rw [if_neg q]; exact Or.inl rfl
theorem m_later {m : Nat} {τ : Hp} {l : Int32} {x : LandA} {Y D : Int64} (d : MDo m τ l x.2.1 x.2.2.1 x.2.2.2) (k : LOK3 x.2.1 x.2.2.1 x.2.2.2) (h0 : Y.toInt ≤ 1500000000000) (h1 : 1 ≤ D.toInt) (h2 : D.toInt ≤ 1000000000000000) (h3 : 0 ≤ Y.toInt) : ok_X6_yearsLater m τ l Y D ∧ f_X6_yearsLater m τ l Y D = laterV x Y D := by
  have e1 : (Y + 1).toInt = Y.toInt + 1 := l3_add rfl (by rfl) (by omega) (by omega)
  have okc : ∀ y d', ok_X6_countOf m τ l y d' := fun y d' => ⟨om_isYear d y, fun _ => trivial, fun _ => ⟨fun _ => trivial, fun _ => ⟨om_len d y, fun _ => om_beg d y, fun _ => trivial⟩⟩⟩
  refine ⟨⟨om_isYear d Y, fun _ => trivial, fun _ => ⟨om_len d Y, fun _ => okc _ _, fun _ => okc _ _⟩⟩, ?_⟩
  have hy := (fm_isYear d k (y := Y) (by omega)).1
  have hy1 := (fm_isYear d k (y := Y + 1) (by omega)).1
  unfold f_X6_yearsLater laterV f_X6_countOf
  by_cases q : hasY x.2.1 x.2.2.1 Y
  · rw [if_neg (fun z => hy.mp z q), if_pos q, fm_len d]
    by_cases q2 : mLen x.2.1 x.2.2.1 Y < D
    · rw [if_pos q2, if_pos q2]
      by_cases q3 : hasY x.2.1 x.2.2.1 (Y + 1)
      · rw [if_neg (fun z => hy1.mp z q3), if_pos q3, if_neg (by decide), fm_len d, fm_beg d]
        have lm := mLen_i k (y := Y + 1) (by omega) (by omega)
        rw [if_pos (by rw [l3_le (x := 1) (by rfl) lm]; exact q3.2), cnt_eq (D := 1) k q3 (by omega) (by decide) (by decide)]
        congr 1
        grind
      · rw [if_pos (hy1.mpr q3), if_neg q3]
    · rw [if_neg q2, if_neg q2, if_neg (fun z => hy.mp z q), if_neg (by rw [l3_lt rfl (y := 1) (by rfl)]; omega), if_pos (by rw [lt_nle, Classical.not_not] at q2; exact q2), fm_beg d]
      exact cnt_eq k q (by omega) h1 h2
  · rw [if_pos (hy.mpr q), if_neg q]
theorem l_later {a o c p : Nat} {σ : Hp} {x : LandA} {on : Int64} {t : Int32} {Q : Int64 → Prop} (h : LDo a σ x.2.1 x.2.2.1 x.2.2.2) (k : LOK3 x.2.1 x.2.2.1 x.2.2.2) (g1 : gL σ p 1 = on) (g2 : gI σ p 2 = t) (hc : cOk on) (hQ : Q (laterV x (yrA x on + t.toInt64) (dyA x on))) : wp_X11_due p σ o c a Q := by
  unfold wp_X11_due
  rw [g1, g2]
  refine wp_year h k hc.1 hc.2 (wp_year h k hc.1 hc.2 ⟨⟨fun _ => trivial, fun _ => ok_last h k⟩, ?_⟩)
  have e1 := (fl_has h k (yrA x on + t.toInt64)).1
  have e2 := (fl_has h k (yrA x on + t.toInt64 + 1)).1
  simp only [fl_start h, fl_len h]
  unfold laterV at hQ
  show (f_X8_has a σ (yrA x on + t.toInt64) = 0 → Q (-1)) ∧ (¬ f_X8_has a σ (yrA x on + t.toInt64) = 0 → (mLen x.2.1 x.2.2.1 (yrA x on + t.toInt64) < dyA x on → _ ∧ (f_X8_has a σ (yrA x on + t.toInt64 + 1) = 0 → Q (-1)) ∧ (¬ f_X8_has a σ (yrA x on + t.toInt64 + 1) = 0 → Q (f_X10_counted (mStart x.2.1 x.2.2.1 x.2.2.2 (yrA x on + t.toInt64 + 1))))) ∧ (¬ mLen x.2.1 x.2.2.1 (yrA x on + t.toInt64) < dyA x on → Q (f_X10_counted ((mStart x.2.1 x.2.2.1 x.2.2.2 (yrA x on + t.toInt64) + dyA x on) - 1))))
  refine ⟨fun z => ?_, fun z => ⟨fun z2 => ⟨⟨fun _ => trivial, fun _ => ok_last h k⟩, fun z3 => ?_, fun z3 => ?_⟩, fun z2 => ?_⟩⟩
  · rw [if_neg (e1.mp z)] at hQ; exact hQ
  · rw [if_pos (Classical.byContradiction (fun w => z (e1.mpr w))), if_pos z2, if_neg (e2.mp z3)] at hQ; exact hQ
  · rw [if_pos (Classical.byContradiction (fun w => z (e1.mpr w))), if_pos z2, if_pos (Classical.byContradiction (fun w => z3 (e2.mpr w)))] at hQ; exact hQ
  · rw [if_pos (Classical.byContradiction (fun w => z (e1.mpr w))), if_neg z2] at hQ; exact hQ
