set_option maxRecDepth 100000
/-- how look throws -/
def lkX (σ : Hp) (E1 E2 : Prop) : Nat → String → Hp → Prop := fun _ C σ' => ((C = "java/lang/IndexOutOfBoundsException" ∧ E1) ∨ (C = "java/util/NoSuchElementException" ∧ E2)) ∧ ∃ n, gS σ ≤ n ∧ σ' = sz n σ
abbrev rm_X1_look : Room := { frames := 6, cells := 1, slots := 6, locals := 100 }
def wp_X1_look (o c : Nat) (σ : Hp) (x1 : Int32) (x2 : Int32) (Q : Int32 → Prop) (E1 E2 : Prop) : Prop := (ok_X1_isLand o c σ x1) ∧ (((f_X1_isLand o c σ x1) = 0 → E1) ∧ (¬ (f_X1_isLand o c σ x1) = 0 → (x2 = 0 → (ok_X1_land o c σ x1) ∧ ((OB 6 (f_X1_land o c σ x1) σ) ∧ (Q (gI σ (f_X1_land o c σ x1) 1)))) ∧ (¬ x2 = 0 → (x2 = 1 → (ok_X1_land o c σ x1) ∧ ((OB 6 (f_X1_land o c σ x1) σ) ∧ (Q (gI σ (f_X1_land o c σ x1) 2)))) ∧ (¬ x2 = 1 → (x2 = 2 → (ok_X1_land o c σ x1) ∧ ((OB 6 (f_X1_land o c σ x1) σ) ∧ (Q (gI σ (f_X1_land o c σ x1) 3)))) ∧ (¬ x2 = 2 → E2)))))
theorem met_X1_look (o c : Nat) (σ : Hp) (x1 : Int32) (x2 : Int32) (Q : Int32 → Prop) (E1 E2 : Prop) (hB : LB o c σ) (h : wp_X1_look o c σ x1 x2 Q E1 E2) : MetY yX1_look cX1_look 3 (some .int)  rm_X1_look σ [.ref o, .int x1, .int x2] (oI (fun r σ' => σ' = σ ∧ Q r)) (lkX σ E1 E2) 1 6 := by
  refine metY_of (own := RX1) (lvs := [(0, .ref o), (1, .int x1), (2, .int x2)]) (by decide) rfl (Nat.le_of_ble_eq_true rfl) rfl (fun G rq => ?_)
  unfold wp_X1_look at h
  refine x_aload_n dX1_look_0 (n := 1) rfl rfl 0 rfl ?_
  refine x_iload_n dX1_look_1 (n := 2) rfl rfl 1 rfl ?_
  obtain ⟨b1, h⟩ := h
  refine x_cVip (As := [.int x1]) (rest := []) cv_X1_171 ck1 (met_X1_isLand o c σ x1 hB b1) hB.1 (by decide) rfl rfl rfl dX1_look_2 (n := 5) rfl (fun r2 q => ?_)
  subst q
  refine x_if_ne (tgt := 16) dX1_look_5 rfl (n := 8) rfl (fun c3 => ?_) (fun c3 => ?_)
  · have h := h.2 c3
    refine x_iload_n dX1_look_16 (n := 17) rfl rfl 2 rfl ?_
    refine x_by (x2 = 0) (fun c4 => ?_) (fun c4 => ?_)
    · have h := h.1 c4
      have z4 := tsw_in c4 ti_0
      refine x_tswIn (tgt := 44) dX1_look_17 (by rw [z4]; decide) (by rw [z4]; decide) (by rw [z4]; rfl) rfl ?_
      refine x_aload_n dX1_look_44 (n := 45) rfl rfl 0 rfl ?_
      refine x_iload_n dX1_look_45 (n := 46) rfl rfl 1 rfl ?_
      obtain ⟨b5, h⟩ := h
      refine x_cVrp (As := [.int x1]) (rest := []) cv_X1_177 ck1 (met_X1_land o c σ x1 hB b5) hB.1 (by decide) rfl rfl rfl dX1_look_46 (n := 49) rfl (fun r6 q => ?_)
      subst q
      obtain ⟨b7, h⟩ := h
      refine x_geti fl_X1_188_6 rfl b7 rfl dX1_look_49 (n := 52) rfl ?_
      exact x_widen (by decide) (by decide) (y_iret rq ⟨rfl, h⟩ dX1_look_52)
    · have h := h.2 c4
      refine x_by (x2 = 1) (fun c8 => ?_) (fun c8 => ?_)
      · have h := h.1 c8
        have z8 := tsw_in c8 ti_1
        refine x_tswIn (tgt := 53) dX1_look_17 (by rw [z8]; decide) (by rw [z8]; decide) (by rw [z8]; rfl) rfl ?_
        refine x_aload_n dX1_look_53 (n := 54) rfl rfl 0 rfl ?_
        refine x_iload_n dX1_look_54 (n := 55) rfl rfl 1 rfl ?_
        obtain ⟨b9, h⟩ := h
        refine x_cVrp (As := [.int x1]) (rest := []) cv_X1_177 ck1 (met_X1_land o c σ x1 hB b9) hB.1 (by decide) rfl rfl rfl dX1_look_55 (n := 58) rfl (fun r10 q => ?_)
        subst q
        obtain ⟨b11, h⟩ := h
        refine x_geti fl_X1_191_6 rfl b11 rfl dX1_look_58 (n := 61) rfl ?_
        exact x_widen (by decide) (by decide) (y_iret rq ⟨rfl, h⟩ dX1_look_61)
      · have h := h.2 c8
        refine x_by (x2 = 2) (fun c12 => ?_) (fun c12 => ?_)
        · have h := h.1 c12
          have z12 := tsw_in c12 ti_2
          refine x_tswIn (tgt := 62) dX1_look_17 (by rw [z12]; decide) (by rw [z12]; decide) (by rw [z12]; rfl) rfl ?_
          refine x_aload_n dX1_look_62 (n := 63) rfl rfl 0 rfl ?_
          refine x_iload_n dX1_look_63 (n := 64) rfl rfl 1 rfl ?_
          obtain ⟨b13, h⟩ := h
          refine x_cVrp (As := [.int x1]) (rest := []) cv_X1_177 ck1 (met_X1_land o c σ x1 hB b13) hB.1 (by decide) rfl rfl rfl dX1_look_64 (n := 67) rfl (fun r14 q => ?_)
          subst q
          obtain ⟨b15, h⟩ := h
          refine x_geti fl_X1_194_6 rfl b15 rfl dX1_look_67 (n := 70) rfl ?_
          exact x_widen (by decide) (by decide) (y_iret rq ⟨rfl, h⟩ dX1_look_70)
        · have h := h.2 c12
          have z4 := ne_int c4 ti_0
          have z8 := ne_int c8 ti_1
          have z12 := ne_int c12 ti_2
          refine x_tswOut (tgt := 71) dX1_look_17 (by omega) rfl ?_
          exact y_throw0 (names := ["java/lang/RuntimeException", "java/lang/Exception"]) rq (by decide +kernel) (by decide +kernel) q1489 q166 lkw_N (by decide +kernel) dX1_look_71 dX1_look_74 dX1_look_75 dX1_look_78 (by decide) (by decide) (fun q n hn => ⟨Or.inr ⟨rfl, h⟩, n, hn, rfl⟩)
  · have h := h.1 c3
    exact y_throw0 (names := ["java/lang/RuntimeException", "java/lang/Exception"]) rq (by decide +kernel) (by decide +kernel) q1468 q164 lkw_I (by decide +kernel) dX1_look_8 dX1_look_11 dX1_look_12 dX1_look_15 (by decide) (by decide) (fun q n hn => ⟨Or.inl ⟨rfl, h⟩, n, hn, rfl⟩)
