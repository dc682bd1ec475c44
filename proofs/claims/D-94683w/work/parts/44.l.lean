set_option maxRecDepth 100000
abbrev rm_X1_ruled : Room := { frames := 74, cells := 0, slots := 0, locals := 1875 }
def wj_X1_ruled_137 (o c : Nat) (σ : Hp) (x1 : Int32) (w0 : Int64) (Q : Int64 → Hp → Prop)  : Prop := (ok_J2_get (c + 3) 4 (pL σ (o + 14) 5 w0) x1) ∧ ((OB 7 (f_J2_get (c + 3) 4 (pL σ (o + 14) 5 w0) x1) (pL σ (o + 14) 5 w0)) ∧ ((gR (pL σ (o + 14) 5 w0) (f_J2_get (c + 3) 4 (pL σ (o + 14) 5 w0) x1) 1 ≠ none) ∧ (EVn (pL σ (o + 14) 5 w0) (o + 14) 70 (rf (pL σ (o + 14) 5 w0) (f_J2_get (c + 3) 4 (pL σ (o + 14) 5 w0) x1) 1) (fun r25 => Q r25 (pL σ (o + 14) 5 w0)) (Q (-9223372036854775808) (pL σ (o + 14) 5 w0)))))
def wj_X1_ruled_108 (o c : Nat) (σ : Hp) (x1 : Int32) (y4 : Int64) (w0 : Int64) (Q : Int64 → Hp → Prop)  : Prop := (y4 = (-1) → wj_X1_ruled_137 o c (pL σ (o + 14) 2 w0) x1 0 Q) ∧ (¬ y4 = (-1) → (ok_X1_land o c (pL σ (o + 14) 2 w0) 0) ∧ ((OB 6 (f_X1_land o c (pL σ (o + 14) 2 w0) 0) (pL σ (o + 14) 2 w0)) ∧ (wj_X1_ruled_137 o c (pL σ (o + 14) 2 w0) x1 (f_X8_length (f_X1_land o c (pL σ (o + 14) 2 w0) 0) (pL σ (o + 14) 2 w0) y4) Q)))
def wj_X1_ruled_75 (o c : Nat) (σ : Hp) (x1 : Int32) (y2 : Int64) (y4 : Int64) (w0 : Int64) (Q : Int64 → Hp → Prop)  : Prop := (y4 = (-1) → wj_X1_ruled_108 o c (pL σ (o + 14) 3 w0) x1 y4 0 Q) ∧ (¬ y4 = (-1) → (ok_X1_land o c (pL σ (o + 14) 3 w0) 0) ∧ ((OB 6 (f_X1_land o c (pL σ (o + 14) 3 w0) 0) (pL σ (o + 14) 3 w0)) ∧ (wj_X1_ruled_108 o c (pL σ (o + 14) 3 w0) x1 y4 ((y2 - (f_X8_start (f_X1_land o c (pL σ (o + 14) 3 w0) 0) (pL σ (o + 14) 3 w0) y4)) + 1) Q)))
def wp_X1_ruled (o c : Nat) (σ0 : Hp) (x1 : Int32) (y2 : Int64) (Q : Int64 → Hp → Prop) : Prop := wp_X3_year c σ0 y2 (fun r1 => (ok_X3_week c σ0 y2) ∧ ((ok_X3_moon c (pL σ0 (o + 14) 0 ((f_X3_week c σ0 y2).toInt64)) y2) ∧ ((ok_X3_season c (pL (pL σ0 (o + 14) 0 ((f_X3_week c σ0 y2).toInt64)) (o + 14) 1 ((f_X3_moon c (pL σ0 (o + 14) 0 ((f_X3_week c σ0 y2).toInt64)) y2).toInt64)) y2) ∧ ((r1 = (-1) → wj_X1_ruled_75 o c (pL (pL (pL σ0 (o + 14) 0 ((f_X3_week c σ0 y2).toInt64)) (o + 14) 1 ((f_X3_moon c (pL σ0 (o + 14) 0 ((f_X3_week c σ0 y2).toInt64)) y2).toInt64)) (o + 14) 4 ((f_X3_season c (pL (pL σ0 (o + 14) 0 ((f_X3_week c σ0 y2).toInt64)) (o + 14) 1 ((f_X3_moon c (pL σ0 (o + 14) 0 ((f_X3_week c σ0 y2).toInt64)) y2).toInt64)) y2).toInt64)) x1 y2 r1 0 Q) ∧ (¬ r1 = (-1) → wj_X1_ruled_75 o c (pL (pL (pL σ0 (o + 14) 0 ((f_X3_week c σ0 y2).toInt64)) (o + 14) 1 ((f_X3_moon c (pL σ0 (o + 14) 0 ((f_X3_week c σ0 y2).toInt64)) y2).toInt64)) (o + 14) 4 ((f_X3_season c (pL (pL σ0 (o + 14) 0 ((f_X3_week c σ0 y2).toInt64)) (o + 14) 1 ((f_X3_moon c (pL σ0 (o + 14) 0 ((f_X3_week c σ0 y2).toInt64)) y2).toInt64)) y2).toInt64)) x1 y2 r1 r1 Q)))))
theorem xj_X1_ruled_137 (o c : Nat) (σ0 : Hp) (Q : Int64 → Hp → Prop) (G : XE) (hB0 : LB o c σ0) (rq : RQx G [((138 : Nat), (162 : Nat), (163 : Nat), (249 : Nat))] 0 0 (oL (fun r σ' => SH σ0 σ' ∧ Q r σ')) (fun _ _ _ => False)) (σ : Hp) (x1 : Int32) (w0 : Int64)    (hs : SH σ0 σ) (h : wj_X1_ruled_137 o c σ x1 w0 Q ) : X G rm_X1_ruled cX1_ruled RX1 7 (some .long) σ 0 0 137 [(0, .ref o), (1, .int x1)] [.long w0, .int 5, .ref (o + 14)] := by
  have hs : SH σ0 σ := hs
  have hB := hB0.sh hs
  unfold wj_X1_ruled_137 at h
  refine x_last hB.a6 (vin_of (by decide) tn_5 rfl) tn_5 dX1_ruled_137 (n := 138) rfl ?_
  refine x_aload_n dX1_ruled_138 (n := 139) rfl rfl 0 rfl ?_
  refine x_getr fl_X1_39_1 rfl hB.l.1 hB.l.r5 dX1_ruled_139 (n := 142) rfl ?_
  refine x_getr fl_X1_160_3 rfl hB.l.rb.1 hB.l.rb.r1 dX1_ruled_142 (n := 145) rfl ?_
  refine x_iload_n dX1_ruled_145 (n := 146) rfl rfl 1 rfl ?_
  obtain ⟨b21, h⟩ := h
  refine x_cVrp (As := [.int x1]) (rest := []) cv_X1_127 ck4 (met_J2_get (c + 3) 4 (pL σ (o + 14) 5 w0) x1 hB.l.rb.b1 b21) hB.l.rb.b1.1 (by decide) rfl rfl rfl dX1_ruled_146 (n := 149) rfl (fun r22 q => ?_)
  subst q
  obtain ⟨b23, h⟩ := h
  refine x_cast cx_X1_237_7 b23 dX1_ruled_149 (n := 152) rfl ?_
  obtain ⟨b24, h⟩ := h
  refine x_getrn fl_X1_239_7 rfl b23 b24 rfl dX1_ruled_152 (n := 155) rfl ?_
  refine x_aload_n dX1_ruled_155 (n := 156) rfl rfl 0 rfl ?_
  refine x_getr fl_X1_43_1 rfl hB.l.1 hB.l.r6 dX1_ruled_156 (n := 159) rfl ?_
  refine y_part (d := 70) (rest := []) cu_X1_243 (pm_all hB.l.a6 _ _ _ _ h) (by decide) rfl rfl dX1_ruled_159 (n := 162) rfl (fun e26 q => ?_) (fun r25 h => ?_)
  · refine t_catch (x := (138, 162, 163, 249)) (suf := []) (hpc := 163) (ct := 249) rq rfl (by decide) (by decide) q1123 q2231 ?_
    have h := e26
    refine x_astore (lvs' := [(6, .ref q), (0, .ref o), (1, .int x1)]) dX1_ruled_163 (n := 165) rfl (by decide) rfl ?_
    refine x_ldc2 dX1_ruled_165 (n := 168) rfl q1172 ?_
    exact y_lret rq ⟨hs.l, h⟩ dX1_ruled_168
  exact y_lret rq ⟨hs.l, h⟩ dX1_ruled_162
theorem xj_X1_ruled_108 (o c : Nat) (σ0 : Hp) (Q : Int64 → Hp → Prop) (G : XE) (hB0 : LB o c σ0) (rq : RQx G [((138 : Nat), (162 : Nat), (163 : Nat), (249 : Nat))] 0 0 (oL (fun r σ' => SH σ0 σ' ∧ Q r σ')) (fun _ _ _ => False)) (σ : Hp) (x1 : Int32) (y4 : Int64) (w0 : Int64)    (hs : SH σ0 σ) (h : wj_X1_ruled_108 o c σ x1 y4 w0 Q ) : X G rm_X1_ruled cX1_ruled RX1 7 (some .long) σ 0 0 108 [(0, .ref o), (1, .int x1), (4, .long y4)] [.long w0, .int 2, .ref (o + 14)] := by
  have hs : SH σ0 σ := hs
  have hB := hB0.sh hs
  unfold wj_X1_ruled_108 at h
  refine x_last hB.a6 (vin_of (by decide) tn_2 rfl) tn_2 dX1_ruled_108 (n := 109) rfl ?_
  refine x_aload_n dX1_ruled_109 (n := 110) rfl rfl 0 rfl ?_
  refine x_getr fl_X1_43_1 rfl hB.l.1 hB.l.r6 dX1_ruled_110 (n := 113) rfl ?_
  refine x_iconst dX1_ruled_113 (n := 114) rfl ic_5 ?_
  refine x_lload dX1_ruled_114 (n := 116) rfl 2 rfl ?_
  refine x_ldc2 dX1_ruled_116 (n := 119) rfl q1059 ?_
  refine x_lcmp_ne (tgt := 127) dX1_ruled_119 (pc1 := 120) rfl dX1_ruled_120 rfl (n := 123) rfl (fun c15 => ?_) (fun c15 => ?_)
  · have h := h.2 c15
    refine x_aload_n dX1_ruled_127 (n := 128) rfl rfl 0 rfl ?_
    refine x_iconst dX1_ruled_128 (n := 129) rfl ic_0 ?_
    obtain ⟨b16, h⟩ := h
    refine x_cVrp (As := [.int 0]) (rest := [.int 5, .ref (o + 14)]) cv_X1_177 ck1 (met_X1_land o c (pL σ (o + 14) 2 w0) 0 hB.l b16) hB.l.1 (by decide) rfl rfl rfl dX1_ruled_129 (n := 132) rfl (fun r17 q => ?_)
    subst q
    refine x_lload dX1_ruled_132 (n := 134) rfl 2 rfl ?_
    obtain ⟨b18, h⟩ := h
    refine x_cVlp (As := [.long y4]) (rest := [.int 5, .ref (o + 14)]) cv_X1_204 ck6 (met_X8_length (f_X1_land o c (pL σ (o + 14) 2 w0) 0) (pL σ (o + 14) 2 w0) y4 b18) b18 (by decide) rfl rfl rfl dX1_ruled_134 (n := 137) rfl (fun r20 q => ?_)
    subst q
    exact x_sub [0, 1] rfl (xj_X1_ruled_137 o c σ0 Q G hB0 rq (pL σ (o + 14) 2 w0) x1 (f_X8_length (f_X1_land o c (pL σ (o + 14) 2 w0) 0) (pL σ (o + 14) 2 w0) y4) hs.l h)
  · have h := h.1 c15
    refine x_lconst dX1_ruled_123 (n := 124) rfl lc_0 ?_
    refine x_goto (tgt := 137) dX1_ruled_124 rfl ?_
    exact x_sub [0, 1] rfl (xj_X1_ruled_137 o c σ0 Q G hB0 rq (pL σ (o + 14) 2 w0) x1 0 hs.l h)
theorem xj_X1_ruled_75 (o c : Nat) (σ0 : Hp) (Q : Int64 → Hp → Prop) (G : XE) (hB0 : LB o c σ0) (rq : RQx G [((138 : Nat), (162 : Nat), (163 : Nat), (249 : Nat))] 0 0 (oL (fun r σ' => SH σ0 σ' ∧ Q r σ')) (fun _ _ _ => False)) (σ : Hp) (x1 : Int32) (y2 : Int64) (y4 : Int64) (w0 : Int64)    (hs : SH σ0 σ) (h : wj_X1_ruled_75 o c σ x1 y2 y4 w0 Q ) : X G rm_X1_ruled cX1_ruled RX1 7 (some .long) σ 0 0 75 [(0, .ref o), (1, .int x1), (2, .long y2), (4, .long y4)] [.long w0, .int 3, .ref (o + 14)] := by
  have hs : SH σ0 σ := hs
  have hB := hB0.sh hs
  unfold wj_X1_ruled_75 at h
  refine x_last hB.a6 (vin_of (by decide) tn_3 rfl) tn_3 dX1_ruled_75 (n := 76) rfl ?_
  refine x_aload_n dX1_ruled_76 (n := 77) rfl rfl 0 rfl ?_
  refine x_getr fl_X1_43_1 rfl hB.l.1 hB.l.r6 dX1_ruled_77 (n := 80) rfl ?_
  refine x_iconst dX1_ruled_80 (n := 81) rfl ic_2 ?_
  refine x_lload dX1_ruled_81 (n := 83) rfl 3 rfl ?_
  refine x_ldc2 dX1_ruled_83 (n := 86) rfl q1059 ?_
  refine x_lcmp_ne (tgt := 94) dX1_ruled_86 (pc1 := 87) rfl dX1_ruled_87 rfl (n := 90) rfl (fun c9 => ?_) (fun c9 => ?_)
  · have h := h.2 c9
    refine x_lload_n dX1_ruled_94 (n := 95) rfl rfl 2 rfl ?_
    refine x_aload_n dX1_ruled_95 (n := 96) rfl rfl 0 rfl ?_
    refine x_iconst dX1_ruled_96 (n := 97) rfl ic_0 ?_
    obtain ⟨b10, h⟩ := h
    refine x_cVrp (As := [.int 0]) (rest := [.long y2, .int 2, .ref (o + 14)]) cv_X1_177 ck1 (met_X1_land o c (pL σ (o + 14) 3 w0) 0 hB.l b10) hB.l.1 (by decide) rfl rfl rfl dX1_ruled_97 (n := 100) rfl (fun r11 q => ?_)
    subst q
    refine x_lload dX1_ruled_100 (n := 102) rfl 3 rfl ?_
    obtain ⟨b12, h⟩ := h
    refine x_cVlp (As := [.long y4]) (rest := [.long y2, .int 2, .ref (o + 14)]) cv_X1_218 ck6 (met_X8_start (f_X1_land o c (pL σ (o + 14) 3 w0) 0) (pL σ (o + 14) 3 w0) y4 b12) b12 (by decide) rfl rfl rfl dX1_ruled_102 (n := 105) rfl (fun r14 q => ?_)
    subst q
    refine x_lsub dX1_ruled_105 (n := 106) rfl ?_
    refine x_lconst dX1_ruled_106 (n := 107) rfl lc_1 ?_
    refine x_ladd dX1_ruled_107 (n := 108) rfl ?_
    exact x_sub [0, 1, 3] rfl (xj_X1_ruled_108 o c σ0 Q G hB0 rq (pL σ (o + 14) 3 w0) x1 y4 ((y2 - (f_X8_start (f_X1_land o c (pL σ (o + 14) 3 w0) 0) (pL σ (o + 14) 3 w0) y4)) + 1) hs.l h)
  · have h := h.1 c9
    refine x_lconst dX1_ruled_90 (n := 91) rfl lc_0 ?_
    refine x_goto (tgt := 108) dX1_ruled_91 rfl ?_
    exact x_sub [0, 1, 3] rfl (xj_X1_ruled_108 o c σ0 Q G hB0 rq (pL σ (o + 14) 3 w0) x1 y4 0 hs.l h)
theorem met_X1_ruled (o c : Nat) (σ0 : Hp) (x1 : Int32) (y2 : Int64) (Q : Int64 → Hp → Prop) (hB0 : LB o c σ0) (h : wp_X1_ruled o c σ0 x1 y2 Q) : MetYW yX1_ruled cX1_ruled 7 (some .long) [((138 : Nat), (162 : Nat), (163 : Nat), (249 : Nat))] rm_X1_ruled σ0 [.ref o, .int x1, .long y2] (oL (fun r σ' => SH σ0 σ' ∧ Q r σ')) (fun _ _ _ => False) 0 0 := by
  refine metYW_of (own := RX1) (lvs := [(0, .ref o), (1, .int x1), (2, .long y2)]) (by decide) rfl (Nat.le_of_ble_eq_true rfl) rfl (fun G rq => ?_)
  unfold wp_X1_ruled at h
  refine x_aload_n dX1_ruled_0 (n := 1) rfl rfl 0 rfl ?_
  refine x_getr fl_X1_39_1 rfl hB0.1 hB0.r5 dX1_ruled_1 (n := 4) rfl ?_
  refine x_lload_n dX1_ruled_4 (n := 5) rfl rfl 2 rfl ?_
  refine x_cVlp (As := [.long y2]) (rest := []) cv_X1_236 ck3 (met_X3_year c σ0 y2 _ hB0.rb h) hB0.rb.1 (by decide) rfl rfl rfl dX1_ruled_5 (n := 8) rfl (fun r1 h => ?_)
  refine x_lstore (lvs' := [(4, .long r1), (0, .ref o), (1, .int x1), (2, .long y2)]) dX1_ruled_8 (n := 10) rfl (by decide) rfl ?_
  refine x_aload_n dX1_ruled_10 (n := 11) rfl rfl 1 rfl ?_
  refine x_getr fl_X1_43_1 rfl hB0.1 hB0.r6 dX1_ruled_11 (n := 14) rfl ?_
  refine x_iconst dX1_ruled_14 (n := 15) rfl ic_0 ?_
  refine x_aload_n dX1_ruled_15 (n := 16) rfl rfl 1 rfl ?_
  refine x_getr fl_X1_39_1 rfl hB0.1 hB0.r5 dX1_ruled_16 (n := 19) rfl ?_
  refine x_lload_n dX1_ruled_19 (n := 20) rfl rfl 3 rfl ?_
  obtain ⟨b2, h⟩ := h
  refine x_cVip (As := [.long y2]) (rest := [.int 0, .ref (o + 14)]) cv_X1_226 ck3 (met_X3_week c σ0 y2 hB0.rb b2) hB0.rb.1 (by decide) rfl rfl rfl dX1_ruled_20 (n := 23) rfl (fun r3 q => ?_)
  subst q
  refine x_i2l dX1_ruled_23 (n := 24) rfl ?_
  refine x_last hB0.a6 (vin_of (by decide) tn_0 rfl) tn_0 dX1_ruled_24 (n := 25) rfl ?_
  refine x_aload_n dX1_ruled_25 (n := 26) rfl rfl 1 rfl ?_
  refine x_getr fl_X1_43_1 rfl hB0.l.1 hB0.l.r6 dX1_ruled_26 (n := 29) rfl ?_
  refine x_iconst dX1_ruled_29 (n := 30) rfl ic_1 ?_
  refine x_aload_n dX1_ruled_30 (n := 31) rfl rfl 1 rfl ?_
  refine x_getr fl_X1_39_1 rfl hB0.l.1 hB0.l.r5 dX1_ruled_31 (n := 34) rfl ?_
  refine x_lload_n dX1_ruled_34 (n := 35) rfl rfl 3 rfl ?_
  obtain ⟨b4, h⟩ := h
  refine x_cVip (As := [.long y2]) (rest := [.int 1, .ref (o + 14)]) cv_X1_230 ck3 (met_X3_moon c (pL σ0 (o + 14) 0 ((f_X3_week c σ0 y2).toInt64)) y2 hB0.l.rb b4) hB0.l.rb.1 (by decide) rfl rfl rfl dX1_ruled_35 (n := 38) rfl (fun r5 q => ?_)
  subst q
  refine x_i2l dX1_ruled_38 (n := 39) rfl ?_
  refine x_last hB0.l.a6 (vin_of (by decide) tn_1 rfl) tn_1 dX1_ruled_39 (n := 40) rfl ?_
  refine x_aload_n dX1_ruled_40 (n := 41) rfl rfl 1 rfl ?_
  refine x_getr fl_X1_43_1 rfl hB0.l.l.1 hB0.l.l.r6 dX1_ruled_41 (n := 44) rfl ?_
  refine x_iconst dX1_ruled_44 (n := 45) rfl ic_4 ?_
  refine x_aload_n dX1_ruled_45 (n := 46) rfl rfl 1 rfl ?_
  refine x_getr fl_X1_39_1 rfl hB0.l.l.1 hB0.l.l.r5 dX1_ruled_46 (n := 49) rfl ?_
  refine x_lload_n dX1_ruled_49 (n := 50) rfl rfl 3 rfl ?_
  obtain ⟨b6, h⟩ := h
  refine x_cVip (As := [.long y2]) (rest := [.int 4, .ref (o + 14)]) cv_X1_233 ck3 (met_X3_season c (pL (pL σ0 (o + 14) 0 ((f_X3_week c σ0 y2).toInt64)) (o + 14) 1 ((f_X3_moon c (pL σ0 (o + 14) 0 ((f_X3_week c σ0 y2).toInt64)) y2).toInt64)) y2 hB0.l.l.rb b6) hB0.l.l.rb.1 (by decide) rfl rfl rfl dX1_ruled_50 (n := 53) rfl (fun r7 q => ?_)
  subst q
  refine x_i2l dX1_ruled_53 (n := 54) rfl ?_
  refine x_last hB0.l.l.a6 (vin_of (by decide) tn_4 rfl) tn_4 dX1_ruled_54 (n := 55) rfl ?_
  refine x_aload_n dX1_ruled_55 (n := 56) rfl rfl 1 rfl ?_
  refine x_getr fl_X1_43_1 rfl hB0.l.l.l.1 hB0.l.l.l.r6 dX1_ruled_56 (n := 59) rfl ?_
  refine x_iconst dX1_ruled_59 (n := 60) rfl ic_3 ?_
  refine x_lload dX1_ruled_60 (n := 62) rfl 0 rfl ?_
  refine x_ldc2 dX1_ruled_62 (n := 65) rfl q1059 ?_
  refine x_lcmp_ne (tgt := 73) dX1_ruled_65 (pc1 := 66) rfl dX1_ruled_66 rfl (n := 69) rfl (fun c8 => ?_) (fun c8 => ?_)
  · have h := h.2 c8
    refine x_lload dX1_ruled_73 (n := 75) rfl 0 rfl ?_
    exact x_sub [1, 2, 3, 0] rfl (xj_X1_ruled_75 o c σ0 Q G hB0 rq (pL (pL (pL σ0 (o + 14) 0 ((f_X3_week c σ0 y2).toInt64)) (o + 14) 1 ((f_X3_moon c (pL σ0 (o + 14) 0 ((f_X3_week c σ0 y2).toInt64)) y2).toInt64)) (o + 14) 4 ((f_X3_season c (pL (pL σ0 (o + 14) 0 ((f_X3_week c σ0 y2).toInt64)) (o + 14) 1 ((f_X3_moon c (pL σ0 (o + 14) 0 ((f_X3_week c σ0 y2).toInt64)) y2).toInt64)) y2).toInt64)) x1 y2 r1 r1 (SH.rf (σ := σ0)).l.l.l h)
  · have h := h.1 c8
    refine x_lconst dX1_ruled_69 (n := 70) rfl lc_0 ?_
    refine x_goto (tgt := 75) dX1_ruled_70 rfl ?_
    exact x_sub [1, 2, 3, 0] rfl (xj_X1_ruled_75 o c σ0 Q G hB0 rq (pL (pL (pL σ0 (o + 14) 0 ((f_X3_week c σ0 y2).toInt64)) (o + 14) 1 ((f_X3_moon c (pL σ0 (o + 14) 0 ((f_X3_week c σ0 y2).toInt64)) y2).toInt64)) (o + 14) 4 ((f_X3_season c (pL (pL σ0 (o + 14) 0 ((f_X3_week c σ0 y2).toInt64)) (o + 14) 1 ((f_X3_moon c (pL σ0 (o + 14) 0 ((f_X3_week c σ0 y2).toInt64)) y2).toInt64)) y2).toInt64)) x1 y2 r1 0 (SH.rf (σ := σ0)).l.l.l h)
abbrev rm_X1_isFestive : Room := { frames := 75, cells := 0, slots := 0, locals := 1901 }
def wp_X1_isFestive (o c : Nat) (σ0 : Hp) (x1 : Int32) (y2 : Int64) (Q : Int32 → Hp → Prop) : Prop := wp_X1_ruled o c σ0 x1 y2 (fun r3 s1 => (r3 = 0 → Q 0 s1) ∧ (¬ r3 = 0 → (r3 = (-9223372036854775808) → Q 0 s1) ∧ (¬ r3 = (-9223372036854775808) → Q 1 s1)))
theorem met_X1_isFestive (o c : Nat) (σ0 : Hp) (x1 : Int32) (y2 : Int64) (Q : Int32 → Hp → Prop) (hB0 : LB o c σ0) (h : wp_X1_isFestive o c σ0 x1 y2 Q) : MetX yX1_isFestive cX1_isFestive 6 (some .boolean) rm_X1_isFestive σ0 [.ref o, .int x1, .long y2] (oI (fun r σ' => SH σ0 σ' ∧ Q r σ')) 0 0 := by
  refine metX_of (own := RX1) (lvs := [(0, .ref o), (1, .int x1), (2, .long y2)]) (by decide) rfl (Nat.le_of_ble_eq_true rfl) rfl (fun G rq => ?_)
  unfold wp_X1_isFestive at h
  refine x_aload_n dX1_isFestive_0 (n := 1) rfl rfl 0 rfl ?_
  refine x_iload_n dX1_isFestive_1 (n := 2) rfl rfl 1 rfl ?_
  refine x_lload_n dX1_isFestive_2 (n := 3) rfl rfl 2 rfl ?_
  refine x_cVlmW (As := [.int x1, .long y2]) (rest := []) cvw_X1_253 ck1 (met_X1_ruled o c σ0 x1 y2 _ hB0 h) hB0.1 (by decide) rfl rfl rfl dX1_isFestive_3 (n := 6) rfl (fun r3 s1 hs2 h => ?_)
  have hs2t := (SH.rf (σ := σ0)).tr hs2; have hBs1 := hB0.sh hs2t
  refine x_lstore (lvs' := [(4, .long r3), (0, .ref o), (1, .int x1), (2, .long y2)]) dX1_isFestive_6 (n := 8) rfl (by decide) rfl ?_
  refine x_lload dX1_isFestive_8 (n := 10) rfl 0 rfl ?_
  refine x_lconst dX1_isFestive_10 (n := 11) rfl lc_0 ?_
  refine x_lcmp_eq (tgt := 28) dX1_isFestive_11 (pc1 := 12) rfl dX1_isFestive_12 rfl (n := 15) rfl (fun c4 => ?_) (fun c4 => ?_)
  · have h := h.1 c4
    refine x_iconst dX1_isFestive_28 (n := 29) rfl ic_0 ?_
    exact x_zret rq ⟨hs2t, h⟩ isB0 dX1_isFestive_29
  · have h := h.2 c4
    refine x_lload dX1_isFestive_15 (n := 17) rfl 0 rfl ?_
    refine x_ldc2 dX1_isFestive_17 (n := 20) rfl q1172 ?_
    refine x_lcmp_eq (tgt := 28) dX1_isFestive_20 (pc1 := 21) rfl dX1_isFestive_21 rfl (n := 24) rfl (fun c5 => ?_) (fun c5 => ?_)
    · have h := h.1 c5
      refine x_iconst dX1_isFestive_28 (n := 29) rfl ic_0 ?_
      exact x_zret rq ⟨hs2t, h⟩ isB0 dX1_isFestive_29
    · have h := h.2 c5
      refine x_iconst dX1_isFestive_24 (n := 25) rfl ic_1 ?_
      refine x_goto (tgt := 29) dX1_isFestive_25 rfl ?_
      exact x_zret rq ⟨hs2t, h⟩ isB1 dX1_isFestive_29
abbrev rm_X1_feast : Room := { frames := 76, cells := 0, slots := 0, locals := 1926 }
def wp_X1_feast (o c : Nat) (σ0 : Hp) (x1 : Int32) (y2 : Int64) (Q : Int32 → Hp → Prop) : Prop := (ok_X1_isFeast o c σ0 x1) ∧ (((f_X1_isFeast o c σ0 x1) = 0 → Q (-1) σ0) ∧ (¬ (f_X1_isFeast o c σ0 x1) = 0 → (ok_X1_isCount y2) ∧ (((f_X1_isCount y2) = 0 → Q (-1) σ0) ∧ (¬ (f_X1_isCount y2) = 0 → wp_X1_isFestive o c σ0 x1 y2 (fun r9 s7 => (r9 = 0 → Q 0 s7) ∧ (¬ r9 = 0 → Q 1 s7))))))
theorem met_X1_feast (o c : Nat) (σ0 : Hp) (x1 : Int32) (y2 : Int64) (Q : Int32 → Hp → Prop) (hB0 : LB o c σ0) (h : wp_X1_feast o c σ0 x1 y2 Q) : MetX yX1_feast cX1_feast 4 (some .int) rm_X1_feast σ0 [.ref o, .int x1, .long y2] (oI (fun r σ' => SH σ0 σ' ∧ Q r σ')) 0 0 := by
  refine metX_of (own := RX1) (lvs := [(0, .ref o), (1, .int x1), (2, .long y2)]) (by decide) rfl (Nat.le_of_ble_eq_true rfl) rfl (fun G rq => ?_)
  unfold wp_X1_feast at h
  refine x_aload_n dX1_feast_0 (n := 1) rfl rfl 0 rfl ?_
  refine x_iload_n dX1_feast_1 (n := 2) rfl rfl 1 rfl ?_
  obtain ⟨b1, h⟩ := h
  refine x_cVip (As := [.int x1]) (rest := []) cv_X1_265 ck1 (met_X1_isFeast o c σ0 x1 hB0 b1) hB0.1 (by decide) rfl rfl rfl dX1_feast_2 (n := 5) rfl (fun r2 q => ?_)
  subst q
  refine x_if_eq (tgt := 15) dX1_feast_5 rfl (n := 8) rfl (fun c3 => ?_) (fun c3 => ?_)
  · have h := h.1 c3
    refine x_iconst dX1_feast_15 (n := 16) rfl ic_m1 ?_
    refine x_goto (tgt := 33) dX1_feast_16 rfl ?_
    exact x_iret rq ⟨(SH.rf (σ := σ0)), h⟩ dX1_feast_33
  · have h := h.2 c3
    refine x_lload_n dX1_feast_8 (n := 9) rfl rfl 2 rfl ?_
    obtain ⟨b4, h⟩ := h
    refine x_cSip (As := [.long y2]) (rest := []) cs_X1_209 (met_X1_isCount σ0 y2  b4) (by decide) rfl rfl rfl dX1_feast_9 (n := 12) rfl (fun r5 q => ?_)
    subst q
    refine x_if_ne (tgt := 19) dX1_feast_12 rfl (n := 15) rfl (fun c6 => ?_) (fun c6 => ?_)
    · have h := h.2 c6
      refine x_aload_n dX1_feast_19 (n := 20) rfl rfl 0 rfl ?_
      refine x_iload_n dX1_feast_20 (n := 21) rfl rfl 1 rfl ?_
      refine x_lload_n dX1_feast_21 (n := 22) rfl rfl 2 rfl ?_
      refine x_cVim (As := [.int x1, .long y2]) (rest := []) cv_X1_259 ck1 (met_X1_isFestive o c σ0 x1 y2 _ hB0 h) hB0.1 (by decide) rfl rfl rfl dX1_feast_22 (n := 25) rfl (fun r9 s7 hs8 h => ?_)
      have hs8t := (SH.rf (σ := σ0)).tr hs8; have hBs7 := hB0.sh hs8t
      refine x_if_eq (tgt := 32) dX1_feast_25 rfl (n := 28) rfl (fun c10 => ?_) (fun c10 => ?_)
      · have h := h.1 c10
        refine x_iconst dX1_feast_32 (n := 33) rfl ic_0 ?_
        exact x_iret rq ⟨hs8t, h⟩ dX1_feast_33
      · have h := h.2 c10
        refine x_iconst dX1_feast_28 (n := 29) rfl ic_1 ?_
        refine x_goto (tgt := 33) dX1_feast_29 rfl ?_
        exact x_iret rq ⟨hs8t, h⟩ dX1_feast_33
    · have h := h.1 c6
      refine x_iconst dX1_feast_15 (n := 16) rfl ic_m1 ?_
      refine x_goto (tgt := 33) dX1_feast_16 rfl ?_
      exact x_iret rq ⟨(SH.rf (σ := σ0)), h⟩ dX1_feast_33
abbrev rm_X1_firstFeast : Room := { frames := 76, cells := 0, slots := 0, locals := 1926 }
def lb_X1_firstFeast_3 (o c : Nat) (x1 : Int32) (y2 : Int64) (Q : Int64 → Hp → Prop)  (K3 : Int64 × Hp → Prop) (z : Int64 × Hp) : Prop := match z with
  | (y4, σ) => ((y2 + 20000) ≤ y4 → Q (-2) σ) ∧ (¬ (y2 + 20000) ≤ y4 → (1000000000000 < y4 → Q (-2) σ) ∧ (¬ 1000000000000 < y4 → wp_X1_isFestive o c σ x1 y4 (fun r5 s3 => (r5 = 0 → K3 (y4 + 1, s3)) ∧ (¬ r5 = 0 → Q y4 s3))))
def wp_X1_firstFeast (o c : Nat) (σ0 : Hp) (x1 : Int32) (y2 : Int64) (Q : Int64 → Hp → Prop) : Prop := lp (lb_X1_firstFeast_3 o c x1 y2 Q) (y2, σ0)
theorem xl_X1_firstFeast_3 (o c : Nat) (σ0 : Hp) (Q : Int64 → Hp → Prop) (G : XE) (hB0 : LB o c σ0) (rq : RQ G 0 0 (oL (fun r σ' => SH σ0 σ' ∧ Q r σ'))) (x1 : Int32) (y2 : Int64)    : ∀ z : Int64 × Hp, SH σ0 z.2 → lp (lb_X1_firstFeast_3 o c x1 y2 Q ) z → X G rm_X1_firstFeast cX1_firstFeast RX1 6 (some .long) z.2 0 0 3 [(0, .ref o), (1, .int x1), (2, .long y2), (4, .long z.1)] [] := by
  intro z
  refine fun hs h => lp_X (P := fun z => SH σ0 z.2 → X G rm_X1_firstFeast cX1_firstFeast RX1 6 (some .long) z.2 0 0 3 [(0, .ref o), (1, .int x1), (2, .long y2), (4, .long z.1)] []) ?_ h hs
  intro K3 hK3 z h hs
  obtain ⟨y4, σ⟩ := z
  have hs : SH σ0 σ := hs
  have hB := hB0.sh hs
  simp only [lb_X1_firstFeast_3] at h
  show X G rm_X1_firstFeast cX1_firstFeast RX1 6 (some .long) σ 0 0 3 [(0, .ref o), (1, .int x1), (2, .long y2), (4, .long y4)] []
  have hK3 : ∀ z : (Int64 × Hp), SH σ0 z.2 → K3 z → X G rm_X1_firstFeast cX1_firstFeast RX1 6 (some .long) z.2 0 0 3 [(0, .ref o), (1, .int x1), (2, .long y2), (4, .long z.1)] [] := fun z hs h => hK3 z h hs
  refine x_lload dX1_firstFeast_3 (n := 5) rfl 3 rfl ?_
  refine x_lload_n dX1_firstFeast_5 (n := 6) rfl rfl 2 rfl ?_
  refine x_ldc2 dX1_firstFeast_6 (n := 9) rfl q1181 ?_
  refine x_ladd dX1_firstFeast_9 (n := 10) rfl ?_
  refine x_lcmp_ge (tgt := 45) dX1_firstFeast_10 (pc1 := 11) rfl dX1_firstFeast_11 rfl (n := 14) rfl (fun c1 => ?_) (fun c1 => ?_)
  · have h := h.1 c1
    refine x_ldc2 dX1_firstFeast_45 (n := 48) rfl q1182 ?_
    exact x_lret rq ⟨hs, h⟩ dX1_firstFeast_48
  · have h := h.2 c1
    refine x_lload dX1_firstFeast_14 (n := 16) rfl 3 rfl ?_
    refine x_ldc2 dX1_firstFeast_16 (n := 19) rfl q1067 ?_
    refine x_lcmp_gt (tgt := 45) dX1_firstFeast_19 (pc1 := 20) rfl dX1_firstFeast_20 rfl (n := 23) rfl (fun c2 => ?_) (fun c2 => ?_)
    · have h := h.1 c2
      refine x_ldc2 dX1_firstFeast_45 (n := 48) rfl q1182 ?_
      exact x_lret rq ⟨hs, h⟩ dX1_firstFeast_48
    · have h := h.2 c2
      refine x_aload_n dX1_firstFeast_23 (n := 24) rfl rfl 0 rfl ?_
      refine x_iload_n dX1_firstFeast_24 (n := 25) rfl rfl 1 rfl ?_
      refine x_lload dX1_firstFeast_25 (n := 27) rfl 3 rfl ?_
      refine x_cVim (As := [.int x1, .long y4]) (rest := []) cv_X1_259 ck1 (met_X1_isFestive o c σ x1 y4 _ hB h) hB.1 (by decide) rfl rfl rfl dX1_firstFeast_27 (n := 30) rfl (fun r5 s3 hs4 h => ?_)
      have hs4t := hs.tr hs4; have hBs3 := hB0.sh hs4t
      refine x_if_eq (tgt := 36) dX1_firstFeast_30 rfl (n := 33) rfl (fun c6 => ?_) (fun c6 => ?_)
      · have h := h.1 c6
        refine x_lload dX1_firstFeast_36 (n := 38) rfl 3 rfl ?_
        refine x_lconst dX1_firstFeast_38 (n := 39) rfl lc_1 ?_
        refine x_ladd dX1_firstFeast_39 (n := 40) rfl ?_
        refine x_lstore (lvs' := [(4, .long (y4 + 1)), (0, .ref o), (1, .int x1), (2, .long y2)]) dX1_firstFeast_40 (n := 42) rfl (by decide) rfl ?_
        refine x_goto (tgt := 3) dX1_firstFeast_42 rfl ?_
        exact x_sub [1, 2, 3, 0] rfl (hK3 (y4 + 1, s3) hs4t h)
      · have h := h.2 c6
        refine x_lload dX1_firstFeast_33 (n := 35) rfl 3 rfl ?_
        exact x_lret rq ⟨hs4t, h⟩ dX1_firstFeast_35
theorem met_X1_firstFeast (o c : Nat) (σ0 : Hp) (x1 : Int32) (y2 : Int64) (Q : Int64 → Hp → Prop) (hB0 : LB o c σ0) (h : wp_X1_firstFeast o c σ0 x1 y2 Q) : MetX yX1_firstFeast cX1_firstFeast 6 (some .long) rm_X1_firstFeast σ0 [.ref o, .int x1, .long y2] (oL (fun r σ' => SH σ0 σ' ∧ Q r σ')) 0 0 := by
  refine metX_of (own := RX1) (lvs := [(0, .ref o), (1, .int x1), (2, .long y2)]) (by decide) rfl (Nat.le_of_ble_eq_true rfl) rfl (fun G rq => ?_)
  unfold wp_X1_firstFeast at h
  refine x_lload_n dX1_firstFeast_0 (n := 1) rfl rfl 2 rfl ?_
  refine x_lstore (lvs' := [(4, .long y2), (0, .ref o), (1, .int x1), (2, .long y2)]) dX1_firstFeast_1 (n := 3) rfl (by decide) rfl ?_
  exact x_sub [1, 2, 3, 0] rfl (xl_X1_firstFeast_3 o c σ0 Q G hB0 rq x1 y2 (y2, σ0) (SH.rf (σ := σ0)) h)
abbrev rm_X1_festive : Room := { frames := 77, cells := 0, slots := 0, locals := 1951 }
def wp_X1_festive (o c : Nat) (σ0 : Hp) (x1 : Int32) (y2 : Int64) (Q : Int64 → Hp → Prop) : Prop := (ok_X1_isFeast o c σ0 x1) ∧ (((f_X1_isFeast o c σ0 x1) = 0 → Q (-1) σ0) ∧ (¬ (f_X1_isFeast o c σ0 x1) = 0 → (ok_X1_isCount y2) ∧ (((f_X1_isCount y2) = 0 → Q (-1) σ0) ∧ (¬ (f_X1_isCount y2) = 0 → wp_X1_firstFeast o c σ0 x1 y2 (fun r9 s7 => Q r9 s7)))))
theorem met_X1_festive (o c : Nat) (σ0 : Hp) (x1 : Int32) (y2 : Int64) (Q : Int64 → Hp → Prop) (hB0 : LB o c σ0) (h : wp_X1_festive o c σ0 x1 y2 Q) : MetX yX1_festive cX1_festive 4 (some .long) rm_X1_festive σ0 [.ref o, .int x1, .long y2] (oL (fun r σ' => SH σ0 σ' ∧ Q r σ')) 0 0 := by
  refine metX_of (own := RX1) (lvs := [(0, .ref o), (1, .int x1), (2, .long y2)]) (by decide) rfl (Nat.le_of_ble_eq_true rfl) rfl (fun G rq => ?_)
  unfold wp_X1_festive at h
  refine x_aload_n dX1_festive_0 (n := 1) rfl rfl 0 rfl ?_
  refine x_iload_n dX1_festive_1 (n := 2) rfl rfl 1 rfl ?_
  obtain ⟨b1, h⟩ := h
  refine x_cVip (As := [.int x1]) (rest := []) cv_X1_265 ck1 (met_X1_isFeast o c σ0 x1 hB0 b1) hB0.1 (by decide) rfl rfl rfl dX1_festive_2 (n := 5) rfl (fun r2 q => ?_)
  subst q
  refine x_if_eq (tgt := 24) dX1_festive_5 rfl (n := 8) rfl (fun c3 => ?_) (fun c3 => ?_)
  · have h := h.1 c3
    refine x_ldc2 dX1_festive_24 (n := 27) rfl q1059 ?_
    exact x_lret rq ⟨(SH.rf (σ := σ0)), h⟩ dX1_festive_27
  · have h := h.2 c3
    refine x_lload_n dX1_festive_8 (n := 9) rfl rfl 2 rfl ?_
    obtain ⟨b4, h⟩ := h
    refine x_cSip (As := [.long y2]) (rest := []) cs_X1_209 (met_X1_isCount σ0 y2  b4) (by decide) rfl rfl rfl dX1_festive_9 (n := 12) rfl (fun r5 q => ?_)
    subst q
    refine x_if_eq (tgt := 24) dX1_festive_12 rfl (n := 15) rfl (fun c6 => ?_) (fun c6 => ?_)
    · have h := h.1 c6
      refine x_ldc2 dX1_festive_24 (n := 27) rfl q1059 ?_
      exact x_lret rq ⟨(SH.rf (σ := σ0)), h⟩ dX1_festive_27
    · have h := h.2 c6
      refine x_aload_n dX1_festive_15 (n := 16) rfl rfl 0 rfl ?_
      refine x_iload_n dX1_festive_16 (n := 17) rfl rfl 1 rfl ?_
      refine x_lload_n dX1_festive_17 (n := 18) rfl rfl 2 rfl ?_
      refine x_cVlm (As := [.int x1, .long y2]) (rest := []) cv_X1_268 ck1 (met_X1_firstFeast o c σ0 x1 y2 _ hB0 h) hB0.1 (by decide) rfl rfl rfl dX1_festive_18 (n := 21) rfl (fun r9 s7 hs8 h => ?_)
      have hs8t := (SH.rf (σ := σ0)).tr hs8; have hBs7 := hB0.sh hs8t
      refine x_goto (tgt := 27) dX1_festive_21 rfl ?_
      exact x_lret rq ⟨hs8t, h⟩ dX1_festive_27
abbrev rm_X1_rule : Room := { frames := 75, cells := 0, slots := 0, locals := 1901 }
def wp_X1_rule (o c : Nat) (σ0 : Hp) (x1 : Int32) (y2 : Int64) (Q : Int64 → Hp → Prop) : Prop := (ok_X1_isFeast o c σ0 x1) ∧ (((f_X1_isFeast o c σ0 x1) = 0 → Q (-9223372036854775808) σ0) ∧ (¬ (f_X1_isFeast o c σ0 x1) = 0 → (ok_X1_isCount y2) ∧ (((f_X1_isCount y2) = 0 → Q (-9223372036854775808) σ0) ∧ (¬ (f_X1_isCount y2) = 0 → wp_X1_ruled o c σ0 x1 y2 (fun r9 s7 => Q r9 s7)))))
theorem met_X1_rule (o c : Nat) (σ0 : Hp) (x1 : Int32) (y2 : Int64) (Q : Int64 → Hp → Prop) (hB0 : LB o c σ0) (h : wp_X1_rule o c σ0 x1 y2 Q) : MetX yX1_rule cX1_rule 4 (some .long) rm_X1_rule σ0 [.ref o, .int x1, .long y2] (oL (fun r σ' => SH σ0 σ' ∧ Q r σ')) 0 0 := by
  refine metX_of (own := RX1) (lvs := [(0, .ref o), (1, .int x1), (2, .long y2)]) (by decide) rfl (Nat.le_of_ble_eq_true rfl) rfl (fun G rq => ?_)
  unfold wp_X1_rule at h
  refine x_aload_n dX1_rule_0 (n := 1) rfl rfl 0 rfl ?_
  refine x_iload_n dX1_rule_1 (n := 2) rfl rfl 1 rfl ?_
  obtain ⟨b1, h⟩ := h
  refine x_cVip (As := [.int x1]) (rest := []) cv_X1_265 ck1 (met_X1_isFeast o c σ0 x1 hB0 b1) hB0.1 (by decide) rfl rfl rfl dX1_rule_2 (n := 5) rfl (fun r2 q => ?_)
  subst q
  refine x_if_eq (tgt := 24) dX1_rule_5 rfl (n := 8) rfl (fun c3 => ?_) (fun c3 => ?_)
  · have h := h.1 c3
    refine x_ldc2 dX1_rule_24 (n := 27) rfl q1172 ?_
    exact x_lret rq ⟨(SH.rf (σ := σ0)), h⟩ dX1_rule_27
  · have h := h.2 c3
    refine x_lload_n dX1_rule_8 (n := 9) rfl rfl 2 rfl ?_
    obtain ⟨b4, h⟩ := h
    refine x_cSip (As := [.long y2]) (rest := []) cs_X1_209 (met_X1_isCount σ0 y2  b4) (by decide) rfl rfl rfl dX1_rule_9 (n := 12) rfl (fun r5 q => ?_)
    subst q
    refine x_if_eq (tgt := 24) dX1_rule_12 rfl (n := 15) rfl (fun c6 => ?_) (fun c6 => ?_)
    · have h := h.1 c6
      refine x_ldc2 dX1_rule_24 (n := 27) rfl q1172 ?_
      exact x_lret rq ⟨(SH.rf (σ := σ0)), h⟩ dX1_rule_27
    · have h := h.2 c6
      refine x_aload_n dX1_rule_15 (n := 16) rfl rfl 0 rfl ?_
      refine x_iload_n dX1_rule_16 (n := 17) rfl rfl 1 rfl ?_
      refine x_lload_n dX1_rule_17 (n := 18) rfl rfl 2 rfl ?_
      refine x_cVlmW (As := [.int x1, .long y2]) (rest := []) cvw_X1_253 ck1 (met_X1_ruled o c σ0 x1 y2 _ hB0 h) hB0.1 (by decide) rfl rfl rfl dX1_rule_18 (n := 21) rfl (fun r9 s7 hs8 h => ?_)
      have hs8t := (SH.rf (σ := σ0)).tr hs8; have hBs7 := hB0.sh hs8t
      refine x_goto (tgt := 27) dX1_rule_21 rfl ?_
      exact x_lret rq ⟨hs8t, h⟩ dX1_rule_27
abbrev rm_X1_isSaid : Room := { frames := 76, cells := 0, slots := 0, locals := 1926 }
def wj_X1_isSaid_209 (o c : Nat) (a1 : Nat) (σ : Hp) (x2 : Int32) (Q : Int32 → Hp → Prop)  : Prop := ((f_X5_has a1 σ 6) = 0 → Q 1 σ) ∧ (¬ (f_X5_has a1 σ 6) = 0 → wp_X1_isFestive o c σ (gI σ (a1 + 1) 6) x2.toInt64 (fun r51 s49 => (r51 = 0 → Q 0 s49) ∧ (¬ r51 = 0 → Q 1 s49)))
def wj_X1_isSaid_172 (o c : Nat) (a1 : Nat) (σ : Hp) (x2 : Int32) (Q : Int32 → Hp → Prop)  : Prop := ((f_X5_has a1 σ 5) = 0 → wj_X1_isSaid_209 o c a1 σ x2 Q) ∧ (¬ (f_X5_has a1 σ 5) = 0 → (ok_J2_get (c + 5) 6 σ (gI σ (a1 + 1) 5)) ∧ ((OB 8 (f_J2_get (c + 5) 6 σ (gI σ (a1 + 1) 5)) σ) ∧ (((f_X9_isAlive (f_J2_get (c + 5) 6 σ (gI σ (a1 + 1) 5)) σ x2.toInt64) = 0 → Q 0 σ) ∧ (¬ (f_X9_isAlive (f_J2_get (c + 5) 6 σ (gI σ (a1 + 1) 5)) σ x2.toInt64) = 0 → wj_X1_isSaid_209 o c a1 σ x2 Q))))
def wj_X1_isSaid_144 (o c : Nat) (a1 : Nat) (σ : Hp) (x2 : Int32) (Q : Int32 → Hp → Prop)  : Prop := ((f_X5_has a1 σ 4) = 0 → wj_X1_isSaid_172 o c a1 σ x2 Q) ∧ (¬ (f_X5_has a1 σ 4) = 0 → (ok_X3_season c σ x2.toInt64) ∧ (((f_X3_season c σ x2.toInt64) = (gI σ (a1 + 1) 4) → wj_X1_isSaid_172 o c a1 σ x2 Q) ∧ (¬ (f_X3_season c σ x2.toInt64) = (gI σ (a1 + 1) 4) → Q 0 σ)))
def wj_X1_isSaid_118 (o c : Nat) (a1 : Nat) (σ : Hp) (x2 : Int32) (Q : Int32 → Hp → Prop)  : Prop := ((f_X5_has a1 σ 3) = 0 → wj_X1_isSaid_144 o c a1 σ x2 Q) ∧ (¬ (f_X5_has a1 σ 3) = 0 → (ok_X3_moon c σ x2.toInt64) ∧ (((f_X3_moon c σ x2.toInt64) = (gI σ (a1 + 1) 3) → wj_X1_isSaid_144 o c a1 σ x2 Q) ∧ (¬ (f_X3_moon c σ x2.toInt64) = (gI σ (a1 + 1) 3) → Q 0 σ)))
def wj_X1_isSaid_92 (o c : Nat) (a1 : Nat) (σ : Hp) (x2 : Int32) (Q : Int32 → Hp → Prop)  : Prop := ((f_X5_has a1 σ 2) = 0 → wj_X1_isSaid_118 o c a1 σ x2 Q) ∧ (¬ (f_X5_has a1 σ 2) = 0 → (ok_X3_week c σ x2.toInt64) ∧ (((f_X3_week c σ x2.toInt64) = (gI σ (a1 + 1) 2) → wj_X1_isSaid_118 o c a1 σ x2 Q) ∧ (¬ (f_X3_week c σ x2.toInt64) = (gI σ (a1 + 1) 2) → Q 0 σ)))
def wj_X1_isSaid_49 (o c : Nat) (a1 : Nat) (σ : Hp) (x2 : Int32) (y3 : Int64) (Q : Int32 → Hp → Prop)  : Prop := ((f_X5_has a1 σ 1) = 0 → wj_X1_isSaid_92 o c a1 σ x2 Q) ∧ (¬ (f_X5_has a1 σ 1) = 0 → (y3 = (-1) → Q 0 σ) ∧ (¬ y3 = (-1) → (ok_X1_land o c σ 0) ∧ ((OB 6 (f_X1_land o c σ 0) σ) ∧ ((((x2.toInt64 - (f_X8_start (f_X1_land o c σ 0) σ y3)) + 1) = ((gI σ (a1 + 1) 1).toInt64) → wj_X1_isSaid_92 o c a1 σ x2 Q) ∧ (¬ ((x2.toInt64 - (f_X8_start (f_X1_land o c σ 0) σ y3)) + 1) = ((gI σ (a1 + 1) 1).toInt64) → Q 0 σ)))))
def wp_X1_isSaid (o c : Nat) (σ0 : Hp) (a1 : Nat) (x2 : Int32) (Q : Int32 → Hp → Prop) : Prop := wp_X3_year c σ0 x2.toInt64 (fun r1 => ((f_X5_has a1 σ0 0) = 0 → wj_X1_isSaid_49 o c a1 σ0 x2 r1 Q) ∧ (¬ (f_X5_has a1 σ0 0) = 0 → (r1 = (-1) → Q 0 σ0) ∧ (¬ r1 = (-1) → ((f_X1_in r1 ((gI σ0 (a1 + 1) 0).toInt64) ((gI σ0 (a1 + 2) 0).toInt64)) = 0 → Q 0 σ0) ∧ (¬ (f_X1_in r1 ((gI σ0 (a1 + 1) 0).toInt64) ((gI σ0 (a1 + 2) 0).toInt64)) = 0 → wj_X1_isSaid_49 o c a1 σ0 x2 r1 Q))))
theorem xj_X1_isSaid_209 (o c : Nat) (σ0 : Hp) (a1 : Nat) (Q : Int32 → Hp → Prop) (G : XE) (hB0 : LB o c σ0) (ha1 : NB a1 σ0) (rq : RQ G 0 0 (oI (fun r σ' => SH σ0 σ' ∧ Q r σ'))) (σ : Hp) (x2 : Int32)    (hs : SH σ0 σ) (h : wj_X1_isSaid_209 o c a1 σ x2 Q ) : X G rm_X1_isSaid cX1_isSaid RX1 5 (some .boolean) σ 0 0 209 [(0, .ref o), (1, .ref a1), (2, .int x2)] [] := by
  have hs : SH σ0 σ := hs
  have hB := hB0.sh hs
  unfold wj_X1_isSaid_209 at h
  refine x_aload_n dX1_isSaid_209 (n := 210) rfl rfl 1 rfl ?_
  refine x_bipush dX1_isSaid_210 (n := 212) rfl bp_6 ?_
  refine x_cVip (As := [.int 6]) (rest := []) cv_X1_347 ck5 (met_X5_has a1 σ 6 (ha1.sh hs)) (ha1.sh hs).1 (by decide) rfl rfl rfl dX1_isSaid_212 (n := 215) rfl (fun r47 q => ?_)
  subst q
  refine x_if_eq (tgt := 234) dX1_isSaid_215 rfl (n := 218) rfl (fun c48 => ?_) (fun c48 => ?_)
  · have h := h.1 c48
    refine x_iconst dX1_isSaid_234 (n := 235) rfl ic_1 ?_
    refine x_goto (tgt := 239) dX1_isSaid_235 rfl ?_
    exact x_zret rq ⟨hs, h⟩ isB1 dX1_isSaid_239
  · have h := h.2 c48
    refine x_aload_n dX1_isSaid_218 (n := 219) rfl rfl 0 rfl ?_
    refine x_aload_n dX1_isSaid_219 (n := 220) rfl rfl 1 rfl ?_
    refine x_getr fl_X1_349_5 rfl (ha1.sh hs).1 (ha1.sh hs).2.1 dX1_isSaid_220 (n := 223) rfl ?_
    refine x_bipush dX1_isSaid_223 (n := 225) rfl bp_6 ?_
    refine x_iald (ha1.sh hs).2.2.1 (vin_of (by decide) tn_6 rfl) tn_6 dX1_isSaid_225 (n := 226) rfl ?_
    refine x_iload_n dX1_isSaid_226 (n := 227) rfl rfl 2 rfl ?_
    refine x_i2l dX1_isSaid_227 (n := 228) rfl ?_
    refine x_cVim (As := [.int (gI σ (a1 + 1) 6), .long x2.toInt64]) (rest := []) cv_X1_259 ck1 (met_X1_isFestive o c σ (gI σ (a1 + 1) 6) x2.toInt64 _ hB h) hB.1 (by decide) rfl rfl rfl dX1_isSaid_228 (n := 231) rfl (fun r51 s49 hs50 h => ?_)
    have hs50t := hs.tr hs50; have hBs49 := hB0.sh hs50t
    refine x_if_eq (tgt := 238) dX1_isSaid_231 rfl (n := 234) rfl (fun c52 => ?_) (fun c52 => ?_)
    · have h := h.1 c52
      refine x_iconst dX1_isSaid_238 (n := 239) rfl ic_0 ?_
      exact x_zret rq ⟨hs50t, h⟩ isB0 dX1_isSaid_239
    · have h := h.2 c52
      refine x_iconst dX1_isSaid_234 (n := 235) rfl ic_1 ?_
      refine x_goto (tgt := 239) dX1_isSaid_235 rfl ?_
      exact x_zret rq ⟨hs50t, h⟩ isB1 dX1_isSaid_239
theorem xj_X1_isSaid_172 (o c : Nat) (σ0 : Hp) (a1 : Nat) (Q : Int32 → Hp → Prop) (G : XE) (hB0 : LB o c σ0) (ha1 : NB a1 σ0) (rq : RQ G 0 0 (oI (fun r σ' => SH σ0 σ' ∧ Q r σ'))) (σ : Hp) (x2 : Int32)    (hs : SH σ0 σ) (h : wj_X1_isSaid_172 o c a1 σ x2 Q ) : X G rm_X1_isSaid cX1_isSaid RX1 5 (some .boolean) σ 0 0 172 [(0, .ref o), (1, .ref a1), (2, .int x2)] [] := by
  have hs : SH σ0 σ := hs
  have hB := hB0.sh hs
  unfold wj_X1_isSaid_172 at h
  refine x_aload_n dX1_isSaid_172 (n := 173) rfl rfl 1 rfl ?_
  refine x_iconst dX1_isSaid_173 (n := 174) rfl ic_5 ?_
  refine x_cVip (As := [.int 5]) (rest := []) cv_X1_347 ck5 (met_X5_has a1 σ 5 (ha1.sh hs)) (ha1.sh hs).1 (by decide) rfl rfl rfl dX1_isSaid_174 (n := 177) rfl (fun r38 q => ?_)
  subst q
  refine x_if_eq (tgt := 209) dX1_isSaid_177 rfl (n := 180) rfl (fun c39 => ?_) (fun c39 => ?_)
  · have h := h.1 c39
    exact x_sub [0, 1, 2] rfl (xj_X1_isSaid_209 o c σ0 a1 Q G hB0 ha1 rq σ x2 hs h)
  · have h := h.2 c39
    refine x_aload_n dX1_isSaid_180 (n := 181) rfl rfl 0 rfl ?_
    refine x_getr fl_X1_39_1 rfl hB.1 hB.r5 dX1_isSaid_181 (n := 184) rfl ?_
    refine x_getr fl_X1_163_3 rfl hB.rb.1 hB.rb.r2 dX1_isSaid_184 (n := 187) rfl ?_
    refine x_aload_n dX1_isSaid_187 (n := 188) rfl rfl 1 rfl ?_
    refine x_getr fl_X1_349_5 rfl (ha1.sh hs).1 (ha1.sh hs).2.1 dX1_isSaid_188 (n := 191) rfl ?_
    refine x_iconst dX1_isSaid_191 (n := 192) rfl ic_5 ?_
    refine x_iald (ha1.sh hs).2.2.1 (vin_of (by decide) tn_5 rfl) tn_5 dX1_isSaid_192 (n := 193) rfl ?_
    obtain ⟨b40, h⟩ := h
    refine x_cVrp (As := [.int (gI σ (a1 + 1) 5)]) (rest := []) cv_X1_127 ck4 (met_J2_get (c + 5) 6 σ (gI σ (a1 + 1) 5) hB.rb.b2 b40) hB.rb.b2.1 (by decide) rfl rfl rfl dX1_isSaid_193 (n := 196) rfl (fun r41 q => ?_)
    subst q
    obtain ⟨b42, h⟩ := h
    refine x_cast cx_X1_274_8 b42 dX1_isSaid_196 (n := 199) rfl ?_
    refine x_iload_n dX1_isSaid_199 (n := 200) rfl rfl 2 rfl ?_
    refine x_i2l dX1_isSaid_200 (n := 201) rfl ?_
    refine x_cVip (As := [.long x2.toInt64]) (rest := []) cv_X1_355 ck8 (met_X9_isAlive (f_J2_get (c + 5) 6 σ (gI σ (a1 + 1) 5)) σ x2.toInt64 b42) b42 (by decide) rfl rfl rfl dX1_isSaid_201 (n := 204) rfl (fun r44 q => ?_)
    subst q
    refine x_if_ne (tgt := 209) dX1_isSaid_204 rfl (n := 207) rfl (fun c45 => ?_) (fun c45 => ?_)
    · have h := h.2 c45
      exact x_sub [0, 1, 2] rfl (xj_X1_isSaid_209 o c σ0 a1 Q G hB0 ha1 rq σ x2 hs h)
    · have h := h.1 c45
      refine x_iconst dX1_isSaid_207 (n := 208) rfl ic_0 ?_
      exact x_zret rq ⟨hs, h⟩ isB0 dX1_isSaid_208
theorem xj_X1_isSaid_144 (o c : Nat) (σ0 : Hp) (a1 : Nat) (Q : Int32 → Hp → Prop) (G : XE) (hB0 : LB o c σ0) (ha1 : NB a1 σ0) (rq : RQ G 0 0 (oI (fun r σ' => SH σ0 σ' ∧ Q r σ'))) (σ : Hp) (x2 : Int32)    (hs : SH σ0 σ) (h : wj_X1_isSaid_144 o c a1 σ x2 Q ) : X G rm_X1_isSaid cX1_isSaid RX1 5 (some .boolean) σ 0 0 144 [(0, .ref o), (1, .ref a1), (2, .int x2)] [] := by
  have hs : SH σ0 σ := hs
  have hB := hB0.sh hs
  unfold wj_X1_isSaid_144 at h
  refine x_aload_n dX1_isSaid_144 (n := 145) rfl rfl 1 rfl ?_
  refine x_iconst dX1_isSaid_145 (n := 146) rfl ic_4 ?_
  refine x_cVip (As := [.int 4]) (rest := []) cv_X1_347 ck5 (met_X5_has a1 σ 4 (ha1.sh hs)) (ha1.sh hs).1 (by decide) rfl rfl rfl dX1_isSaid_146 (n := 149) rfl (fun r32 q => ?_)
  subst q
  refine x_if_eq (tgt := 172) dX1_isSaid_149 rfl (n := 152) rfl (fun c33 => ?_) (fun c33 => ?_)
  · have h := h.1 c33
    exact x_sub [0, 1, 2] rfl (xj_X1_isSaid_172 o c σ0 a1 Q G hB0 ha1 rq σ x2 hs h)
  · have h := h.2 c33
    refine x_aload_n dX1_isSaid_152 (n := 153) rfl rfl 0 rfl ?_
    refine x_getr fl_X1_39_1 rfl hB.1 hB.r5 dX1_isSaid_153 (n := 156) rfl ?_
    refine x_iload_n dX1_isSaid_156 (n := 157) rfl rfl 2 rfl ?_
    refine x_i2l dX1_isSaid_157 (n := 158) rfl ?_
    obtain ⟨b34, h⟩ := h
    refine x_cVip (As := [.long x2.toInt64]) (rest := []) cv_X1_233 ck3 (met_X3_season c σ x2.toInt64 hB.rb b34) hB.rb.1 (by decide) rfl rfl rfl dX1_isSaid_158 (n := 161) rfl (fun r35 q => ?_)
    subst q
    refine x_aload_n dX1_isSaid_161 (n := 162) rfl rfl 1 rfl ?_
    refine x_getr fl_X1_349_5 rfl (ha1.sh hs).1 (ha1.sh hs).2.1 dX1_isSaid_162 (n := 165) rfl ?_
    refine x_iconst dX1_isSaid_165 (n := 166) rfl ic_4 ?_
    refine x_iald (ha1.sh hs).2.2.1 (vin_of (by decide) tn_4 rfl) tn_4 dX1_isSaid_166 (n := 167) rfl ?_
    refine x_icmp_eq (tgt := 172) dX1_isSaid_167 rfl (n := 170) rfl (fun c36 => ?_) (fun c36 => ?_)
    · have h := h.1 c36
      exact x_sub [0, 1, 2] rfl (xj_X1_isSaid_172 o c σ0 a1 Q G hB0 ha1 rq σ x2 hs h)
    · have h := h.2 c36
      refine x_iconst dX1_isSaid_170 (n := 171) rfl ic_0 ?_
      exact x_zret rq ⟨hs, h⟩ isB0 dX1_isSaid_171
theorem xj_X1_isSaid_118 (o c : Nat) (σ0 : Hp) (a1 : Nat) (Q : Int32 → Hp → Prop) (G : XE) (hB0 : LB o c σ0) (ha1 : NB a1 σ0) (rq : RQ G 0 0 (oI (fun r σ' => SH σ0 σ' ∧ Q r σ'))) (σ : Hp) (x2 : Int32)    (hs : SH σ0 σ) (h : wj_X1_isSaid_118 o c a1 σ x2 Q ) : X G rm_X1_isSaid cX1_isSaid RX1 5 (some .boolean) σ 0 0 118 [(0, .ref o), (1, .ref a1), (2, .int x2)] [] := by
  have hs : SH σ0 σ := hs
  have hB := hB0.sh hs
  unfold wj_X1_isSaid_118 at h
  refine x_aload_n dX1_isSaid_118 (n := 119) rfl rfl 1 rfl ?_
  refine x_iconst dX1_isSaid_119 (n := 120) rfl ic_3 ?_
  refine x_cVip (As := [.int 3]) (rest := []) cv_X1_347 ck5 (met_X5_has a1 σ 3 (ha1.sh hs)) (ha1.sh hs).1 (by decide) rfl rfl rfl dX1_isSaid_120 (n := 123) rfl (fun r26 q => ?_)
  subst q
  refine x_if_eq (tgt := 144) dX1_isSaid_123 rfl (n := 126) rfl (fun c27 => ?_) (fun c27 => ?_)
  · have h := h.1 c27
    exact x_sub [0, 1, 2] rfl (xj_X1_isSaid_144 o c σ0 a1 Q G hB0 ha1 rq σ x2 hs h)
  · have h := h.2 c27
    refine x_aload_n dX1_isSaid_126 (n := 127) rfl rfl 0 rfl ?_
    refine x_getr fl_X1_39_1 rfl hB.1 hB.r5 dX1_isSaid_127 (n := 130) rfl ?_
    refine x_iload_n dX1_isSaid_130 (n := 131) rfl rfl 2 rfl ?_
    refine x_i2l dX1_isSaid_131 (n := 132) rfl ?_
    obtain ⟨b28, h⟩ := h
    refine x_cVip (As := [.long x2.toInt64]) (rest := []) cv_X1_230 ck3 (met_X3_moon c σ x2.toInt64 hB.rb b28) hB.rb.1 (by decide) rfl rfl rfl dX1_isSaid_132 (n := 135) rfl (fun r29 q => ?_)
    subst q
    refine x_aload_n dX1_isSaid_135 (n := 136) rfl rfl 1 rfl ?_
    refine x_getr fl_X1_349_5 rfl (ha1.sh hs).1 (ha1.sh hs).2.1 dX1_isSaid_136 (n := 139) rfl ?_
    refine x_iconst dX1_isSaid_139 (n := 140) rfl ic_3 ?_
    refine x_iald (ha1.sh hs).2.2.1 (vin_of (by decide) tn_3 rfl) tn_3 dX1_isSaid_140 (n := 141) rfl ?_
    refine x_icmp_ne (tgt := 170) dX1_isSaid_141 rfl (n := 144) rfl (fun c30 => ?_) (fun c30 => ?_)
    · have h := h.2 c30
      refine x_iconst dX1_isSaid_170 (n := 171) rfl ic_0 ?_
      exact x_zret rq ⟨hs, h⟩ isB0 dX1_isSaid_171
    · have h := h.1 c30
      exact x_sub [0, 1, 2] rfl (xj_X1_isSaid_144 o c σ0 a1 Q G hB0 ha1 rq σ x2 hs h)
theorem xj_X1_isSaid_92 (o c : Nat) (σ0 : Hp) (a1 : Nat) (Q : Int32 → Hp → Prop) (G : XE) (hB0 : LB o c σ0) (ha1 : NB a1 σ0) (rq : RQ G 0 0 (oI (fun r σ' => SH σ0 σ' ∧ Q r σ'))) (σ : Hp) (x2 : Int32)    (hs : SH σ0 σ) (h : wj_X1_isSaid_92 o c a1 σ x2 Q ) : X G rm_X1_isSaid cX1_isSaid RX1 5 (some .boolean) σ 0 0 92 [(0, .ref o), (1, .ref a1), (2, .int x2)] [] := by
  have hs : SH σ0 σ := hs
  have hB := hB0.sh hs
  unfold wj_X1_isSaid_92 at h
  refine x_aload_n dX1_isSaid_92 (n := 93) rfl rfl 1 rfl ?_
  refine x_iconst dX1_isSaid_93 (n := 94) rfl ic_2 ?_
  refine x_cVip (As := [.int 2]) (rest := []) cv_X1_347 ck5 (met_X5_has a1 σ 2 (ha1.sh hs)) (ha1.sh hs).1 (by decide) rfl rfl rfl dX1_isSaid_94 (n := 97) rfl (fun r20 q => ?_)
  subst q
  refine x_if_eq (tgt := 118) dX1_isSaid_97 rfl (n := 100) rfl (fun c21 => ?_) (fun c21 => ?_)
  · have h := h.1 c21
    exact x_sub [0, 1, 2] rfl (xj_X1_isSaid_118 o c σ0 a1 Q G hB0 ha1 rq σ x2 hs h)
  · have h := h.2 c21
    refine x_aload_n dX1_isSaid_100 (n := 101) rfl rfl 0 rfl ?_
    refine x_getr fl_X1_39_1 rfl hB.1 hB.r5 dX1_isSaid_101 (n := 104) rfl ?_
    refine x_iload_n dX1_isSaid_104 (n := 105) rfl rfl 2 rfl ?_
    refine x_i2l dX1_isSaid_105 (n := 106) rfl ?_
    obtain ⟨b22, h⟩ := h
    refine x_cVip (As := [.long x2.toInt64]) (rest := []) cv_X1_226 ck3 (met_X3_week c σ x2.toInt64 hB.rb b22) hB.rb.1 (by decide) rfl rfl rfl dX1_isSaid_106 (n := 109) rfl (fun r23 q => ?_)
    subst q
    refine x_aload_n dX1_isSaid_109 (n := 110) rfl rfl 1 rfl ?_
    refine x_getr fl_X1_349_5 rfl (ha1.sh hs).1 (ha1.sh hs).2.1 dX1_isSaid_110 (n := 113) rfl ?_
    refine x_iconst dX1_isSaid_113 (n := 114) rfl ic_2 ?_
    refine x_iald (ha1.sh hs).2.2.1 (vin_of (by decide) tn_2 rfl) tn_2 dX1_isSaid_114 (n := 115) rfl ?_
    refine x_icmp_ne (tgt := 170) dX1_isSaid_115 rfl (n := 118) rfl (fun c24 => ?_) (fun c24 => ?_)
    · have h := h.2 c24
      refine x_iconst dX1_isSaid_170 (n := 171) rfl ic_0 ?_
      exact x_zret rq ⟨hs, h⟩ isB0 dX1_isSaid_171
    · have h := h.1 c24
      exact x_sub [0, 1, 2] rfl (xj_X1_isSaid_118 o c σ0 a1 Q G hB0 ha1 rq σ x2 hs h)
theorem xj_X1_isSaid_49 (o c : Nat) (σ0 : Hp) (a1 : Nat) (Q : Int32 → Hp → Prop) (G : XE) (hB0 : LB o c σ0) (ha1 : NB a1 σ0) (rq : RQ G 0 0 (oI (fun r σ' => SH σ0 σ' ∧ Q r σ'))) (σ : Hp) (x2 : Int32) (y3 : Int64)    (hs : SH σ0 σ) (h : wj_X1_isSaid_49 o c a1 σ x2 y3 Q ) : X G rm_X1_isSaid cX1_isSaid RX1 5 (some .boolean) σ 0 0 49 [(0, .ref o), (1, .ref a1), (2, .int x2), (3, .long y3)] [] := by
  have hs : SH σ0 σ := hs
  have hB := hB0.sh hs
  unfold wj_X1_isSaid_49 at h
  refine x_aload_n dX1_isSaid_49 (n := 50) rfl rfl 1 rfl ?_
  refine x_iconst dX1_isSaid_50 (n := 51) rfl ic_1 ?_
  refine x_cVip (As := [.int 1]) (rest := []) cv_X1_347 ck5 (met_X5_has a1 σ 1 (ha1.sh hs)) (ha1.sh hs).1 (by decide) rfl rfl rfl dX1_isSaid_51 (n := 54) rfl (fun r10 q => ?_)
  subst q
  refine x_if_eq (tgt := 92) dX1_isSaid_54 rfl (n := 57) rfl (fun c11 => ?_) (fun c11 => ?_)
  · have h := h.1 c11
    exact x_sub [0, 1, 2] rfl (xj_X1_isSaid_92 o c σ0 a1 Q G hB0 ha1 rq σ x2 hs h)
  · have h := h.2 c11
    refine x_lload_n dX1_isSaid_57 (n := 58) rfl rfl 3 rfl ?_
    refine x_ldc2 dX1_isSaid_58 (n := 61) rfl q1059 ?_
    refine x_lcmp_eq (tgt := 90) dX1_isSaid_61 (pc1 := 62) rfl dX1_isSaid_62 rfl (n := 65) rfl (fun c12 => ?_) (fun c12 => ?_)
    · have h := h.1 c12
      refine x_iconst dX1_isSaid_90 (n := 91) rfl ic_0 ?_
      exact x_zret rq ⟨hs, h⟩ isB0 dX1_isSaid_91
    · have h := h.2 c12
      refine x_iload_n dX1_isSaid_65 (n := 66) rfl rfl 2 rfl ?_
      refine x_i2l dX1_isSaid_66 (n := 67) rfl ?_
      refine x_aload_n dX1_isSaid_67 (n := 68) rfl rfl 0 rfl ?_
      refine x_iconst dX1_isSaid_68 (n := 69) rfl ic_0 ?_
      obtain ⟨b13, h⟩ := h
      refine x_cVrp (As := [.int 0]) (rest := [.long x2.toInt64]) cv_X1_177 ck1 (met_X1_land o c σ 0 hB b13) hB.1 (by decide) rfl rfl rfl dX1_isSaid_69 (n := 72) rfl (fun r14 q => ?_)
      subst q
      refine x_lload_n dX1_isSaid_72 (n := 73) rfl rfl 3 rfl ?_
      obtain ⟨b15, h⟩ := h
      refine x_cVlp (As := [.long y3]) (rest := [.long x2.toInt64]) cv_X1_218 ck6 (met_X8_start (f_X1_land o c σ 0) σ y3 b15) b15 (by decide) rfl rfl rfl dX1_isSaid_73 (n := 76) rfl (fun r17 q => ?_)
      subst q
      refine x_lsub dX1_isSaid_76 (n := 77) rfl ?_
      refine x_lconst dX1_isSaid_77 (n := 78) rfl lc_1 ?_
      refine x_ladd dX1_isSaid_78 (n := 79) rfl ?_
      refine x_aload_n dX1_isSaid_79 (n := 80) rfl rfl 1 rfl ?_
      refine x_getr fl_X1_349_5 rfl (ha1.sh hs).1 (ha1.sh hs).2.1 dX1_isSaid_80 (n := 83) rfl ?_
      refine x_iconst dX1_isSaid_83 (n := 84) rfl ic_1 ?_
      refine x_iald (ha1.sh hs).2.2.1 (vin_of (by decide) tn_1 rfl) tn_1 dX1_isSaid_84 (n := 85) rfl ?_
      refine x_i2l dX1_isSaid_85 (n := 86) rfl ?_
      refine x_lcmp_eq (tgt := 92) dX1_isSaid_86 (pc1 := 87) rfl dX1_isSaid_87 rfl (n := 90) rfl (fun c18 => ?_) (fun c18 => ?_)
      · have h := h.1 c18
        exact x_sub [0, 1, 2] rfl (xj_X1_isSaid_92 o c σ0 a1 Q G hB0 ha1 rq σ x2 hs h)
      · have h := h.2 c18
        refine x_iconst dX1_isSaid_90 (n := 91) rfl ic_0 ?_
        exact x_zret rq ⟨hs, h⟩ isB0 dX1_isSaid_91
theorem met_X1_isSaid (o c : Nat) (σ0 : Hp) (a1 : Nat) (x2 : Int32) (Q : Int32 → Hp → Prop) (hB0 : LB o c σ0) (ha1 : NB a1 σ0) (h : wp_X1_isSaid o c σ0 a1 x2 Q) : MetX yX1_isSaid cX1_isSaid 5 (some .boolean) rm_X1_isSaid σ0 [.ref o, .ref a1, .int x2] (oI (fun r σ' => SH σ0 σ' ∧ Q r σ')) 0 0 := by
  refine metX_of (own := RX1) (lvs := [(0, .ref o), (1, .ref a1), (2, .int x2)]) (by decide) rfl (Nat.le_of_ble_eq_true rfl) rfl (fun G rq => ?_)
  unfold wp_X1_isSaid at h
  refine x_aload_n dX1_isSaid_0 (n := 1) rfl rfl 0 rfl ?_
  refine x_getr fl_X1_39_1 rfl hB0.1 hB0.r5 dX1_isSaid_1 (n := 4) rfl ?_
  refine x_iload_n dX1_isSaid_4 (n := 5) rfl rfl 2 rfl ?_
  refine x_i2l dX1_isSaid_5 (n := 6) rfl ?_
  refine x_cVlp (As := [.long x2.toInt64]) (rest := []) cv_X1_236 ck3 (met_X3_year c σ0 x2.toInt64 _ hB0.rb h) hB0.rb.1 (by decide) rfl rfl rfl dX1_isSaid_6 (n := 9) rfl (fun r1 h => ?_)
  refine x_lstore_n (lvs' := [(3, .long r1), (0, .ref o), (1, .ref a1), (2, .int x2)]) dX1_isSaid_9 (n := 10) rfl rfl (by decide) rfl ?_
  refine x_aload_n dX1_isSaid_10 (n := 11) rfl rfl 2 rfl ?_
  refine x_iconst dX1_isSaid_11 (n := 12) rfl ic_0 ?_
  refine x_cVip (As := [.int 0]) (rest := []) cv_X1_347 ck5 (met_X5_has a1 σ0 0 (ha1.sh (SH.rf (σ := σ0)))) (ha1.sh (SH.rf (σ := σ0))).1 (by decide) rfl rfl rfl dX1_isSaid_12 (n := 15) rfl (fun r3 q => ?_)
  subst q
  refine x_if_eq (tgt := 49) dX1_isSaid_15 rfl (n := 18) rfl (fun c4 => ?_) (fun c4 => ?_)
  · have h := h.1 c4
    exact x_sub [1, 2, 3, 0] rfl (xj_X1_isSaid_49 o c σ0 a1 Q G hB0 ha1 rq σ0 x2 r1 (SH.rf (σ := σ0)) h)
  · have h := h.2 c4
    refine x_lload_n dX1_isSaid_18 (n := 19) rfl rfl 0 rfl ?_
    refine x_ldc2 dX1_isSaid_19 (n := 22) rfl q1059 ?_
    refine x_lcmp_eq (tgt := 47) dX1_isSaid_22 (pc1 := 23) rfl dX1_isSaid_23 rfl (n := 26) rfl (fun c5 => ?_) (fun c5 => ?_)
    · have h := h.1 c5
      refine x_iconst dX1_isSaid_47 (n := 48) rfl ic_0 ?_
      exact x_zret rq ⟨(SH.rf (σ := σ0)), h⟩ isB0 dX1_isSaid_48
    · have h := h.2 c5
      refine x_lload_n dX1_isSaid_26 (n := 27) rfl rfl 0 rfl ?_
      refine x_aload_n dX1_isSaid_27 (n := 28) rfl rfl 2 rfl ?_
      refine x_getr fl_X1_349_5 rfl (ha1.sh (SH.rf (σ := σ0))).1 (ha1.sh (SH.rf (σ := σ0))).2.1 dX1_isSaid_28 (n := 31) rfl ?_
      refine x_iconst dX1_isSaid_31 (n := 32) rfl ic_0 ?_
      refine x_iald (ha1.sh (SH.rf (σ := σ0))).2.2.1 (vin_of (by decide) tn_0 rfl) tn_0 dX1_isSaid_32 (n := 33) rfl ?_
      refine x_i2l dX1_isSaid_33 (n := 34) rfl ?_
      refine x_aload_n dX1_isSaid_34 (n := 35) rfl rfl 2 rfl ?_
      refine x_getr fl_X1_352_5 rfl (ha1.sh (SH.rf (σ := σ0))).1 (ha1.sh (SH.rf (σ := σ0))).2.2.2.1 dX1_isSaid_35 (n := 38) rfl ?_
      refine x_iconst dX1_isSaid_38 (n := 39) rfl ic_0 ?_
      refine x_iald (ha1.sh (SH.rf (σ := σ0))).2.2.2.2 (vin_of (by decide) tn_0 rfl) tn_0 dX1_isSaid_39 (n := 40) rfl ?_
      refine x_i2l dX1_isSaid_40 (n := 41) rfl ?_
      refine x_cSip (As := [.long r1, .long ((gI σ0 (a1 + 1) 0).toInt64), .long ((gI σ0 (a1 + 2) 0).toInt64)]) (rest := []) cs_X1_96 (met_X1_in σ0 r1 ((gI σ0 (a1 + 1) 0).toInt64) ((gI σ0 (a1 + 2) 0).toInt64) ) (by decide) rfl rfl rfl dX1_isSaid_41 (n := 44) rfl (fun r7 q => ?_)
      subst q
      refine x_if_ne (tgt := 49) dX1_isSaid_44 rfl (n := 47) rfl (fun c8 => ?_) (fun c8 => ?_)
      · have h := h.2 c8
        exact x_sub [1, 2, 3, 0] rfl (xj_X1_isSaid_49 o c σ0 a1 Q G hB0 ha1 rq σ0 x2 r1 (SH.rf (σ := σ0)) h)
      · have h := h.1 c8
        refine x_iconst dX1_isSaid_47 (n := 48) rfl ic_0 ?_
        exact x_zret rq ⟨(SH.rf (σ := σ0)), h⟩ isB0 dX1_isSaid_48
abbrev rm_X1_lay : Room := { frames := 77, cells := 0, slots := 0, locals := 1950 }
def lb_X1_lay_26 (o c : Nat) (x1 : Int32) (Q : Hp → Prop)  (K26 : Int32 × Hp → Prop) (z : Int32 × Hp) : Prop := match z with
  | (x2, σ) => (20000 ≤ x2 → (vp_in x1 12) ∧ (Q (pI σ (o + 35) x1.toNatClampNeg (vp_nar .boolean 1)))) ∧ (¬ 20000 ≤ x2 → (vp_in x1 12) ∧ (wp_X1_isSaid o c σ (o + 38 + 6 * x1.toNatClampNeg) x2 (fun r9 s7 => (r9 = 0 → K26 (x2 + 1, s7)) ∧ (¬ r9 = 0 → (vp_in x1 12) ∧ ((vp_in (x2 >>> (6 &&& 31)) 313) ∧ ((vp_in (x2 >>> (6 &&& 31)) 313) ∧ (K26 (x2 + 1, pL s7 (o + 23 + x1.toNatClampNeg) (x2 >>> (6 &&& 31)).toNatClampNeg ((gL s7 (o + 23 + x1.toNatClampNeg) (x2 >>> (6 &&& 31)).toNatClampNeg) ||| (1 <<< ((x2 &&& 63).toInt64 &&& 63)))))))))))
def lb_X1_lay_2 (o c : Nat) (x1 : Int32) (Q : Hp → Prop)  (K2 : Int32 × Hp → Prop) (z : Int32 × Hp) : Prop := match z with
  | (x2, σ) => (313 ≤ x2 → lp (lb_X1_lay_26 o c x1 Q) (0, σ)) ∧ (¬ 313 ≤ x2 → (vp_in x1 12) ∧ ((vp_in x2 313) ∧ (K2 (x2 + 1, pL σ (o + 23 + x1.toNatClampNeg) x2.toNatClampNeg 0))))
def wp_X1_lay (o c : Nat) (σ0 : Hp) (x1 : Int32) (Q : Hp → Prop) : Prop := lp (lb_X1_lay_2 o c x1 Q) (0, σ0)
theorem xl_X1_lay_26 (o c : Nat) (σ0 : Hp) (Q : Hp → Prop) (G : XE) (hB0 : LB o c σ0) (rq : RQ G 0 0 (oV (fun σ' => SH σ0 σ' ∧ Q σ'))) (x1 : Int32)    : ∀ z : Int32 × Hp, SH σ0 z.2 → lp (lb_X1_lay_26 o c x1 Q ) z → X G rm_X1_lay cX1_lay RX1 3 none z.2 0 0 26 [(0, .ref o), (1, .int x1), (2, .int z.1)] [] := by
  intro z
  refine fun hs h => lp_X (P := fun z => SH σ0 z.2 → X G rm_X1_lay cX1_lay RX1 3 none z.2 0 0 26 [(0, .ref o), (1, .int x1), (2, .int z.1)] []) ?_ h hs
  intro K26 hK26 z h hs
  obtain ⟨x2, σ⟩ := z
  have hs : SH σ0 σ := hs
  have hB := hB0.sh hs
  simp only [lb_X1_lay_26] at h
  show X G rm_X1_lay cX1_lay RX1 3 none σ 0 0 26 [(0, .ref o), (1, .int x1), (2, .int x2)] []
  have hK26 : ∀ z : (Int32 × Hp), SH σ0 z.2 → K26 z → X G rm_X1_lay cX1_lay RX1 3 none z.2 0 0 26 [(0, .ref o), (1, .int x1), (2, .int z.1)] [] := fun z hs h => hK26 z h hs
  refine x_iload_n dX1_lay_26 (n := 27) rfl rfl 2 rfl ?_
  refine x_sipush dX1_lay_27 (n := 30) rfl sp_20000 ?_
  refine x_icmp_ge (tgt := 73) dX1_lay_30 rfl (n := 33) rfl (fun c4 => ?_) (fun c4 => ?_)
  · have h := h.1 c4
    refine x_aload_n dX1_lay_73 (n := 74) rfl rfl 0 rfl ?_
    refine x_getr fl_X1_77_1 rfl hB.1 hB.r21 dX1_lay_74 (n := 77) rfl ?_
    refine x_iload_n dX1_lay_77 (n := 78) rfl rfl 1 rfl ?_
    refine x_iconst dX1_lay_78 (n := 79) rfl ic_1 ?_
    obtain ⟨b5, h⟩ := h
    refine x_zast hB.a21 b5 rfl dX1_lay_79 (n := 80) rfl ?_
    exact x_vret rq ⟨hs.i, h⟩ dX1_lay_80
  · have h := h.2 c4
    refine x_aload_n dX1_lay_33 (n := 34) rfl rfl 0 rfl ?_
    refine x_aload_n dX1_lay_34 (n := 35) rfl rfl 0 rfl ?_
    refine x_getr fl_X1_49_1 rfl hB.1 hB.r7 dX1_lay_35 (n := 38) rfl ?_
    refine x_iload_n dX1_lay_38 (n := 39) rfl rfl 1 rfl ?_
    obtain ⟨b6, h⟩ := h
    refine x_aald at_note rfl hB.a7 b6 rfl (hB.n7 b6) dX1_lay_39 (n := 40) rfl ?_
    refine x_iload_n dX1_lay_40 (n := 41) rfl rfl 2 rfl ?_
    refine x_cVim (As := [.ref (o + 38 + 6 * x1.toNatClampNeg), .int x2]) (rest := []) cv_X1_365 ck1 (met_X1_isSaid o c σ (o + 38 + 6 * x1.toNatClampNeg) x2 _ hB (hB.b7 b6) h) hB.1 (by decide) rfl rfl rfl dX1_lay_41 (n := 44) rfl (fun r9 s7 hs8 h => ?_)
    have hs8t := hs.tr hs8; have hBs7 := hB0.sh hs8t
    refine x_if_eq (tgt := 67) dX1_lay_44 rfl (n := 47) rfl (fun c10 => ?_) (fun c10 => ?_)
    · have h := h.1 c10
      refine x_iinc (v := x2 + 1) (lvs' := [(2, .int (x2 + 1)), (0, .ref o), (1, .int x1)]) dX1_lay_67 (n := 70) rfl 2 rfl rfl (by decide) rfl ?_
      refine x_goto (tgt := 26) dX1_lay_70 rfl ?_
      exact x_sub [1, 2, 0] rfl (hK26 (x2 + 1, s7) hs8t h)
    · have h := h.2 c10
      refine x_aload_n dX1_lay_47 (n := 48) rfl rfl 0 rfl ?_
      refine x_getr fl_X1_74_1 rfl hBs7.1 hBs7.r20 dX1_lay_48 (n := 51) rfl ?_
      refine x_iload_n dX1_lay_51 (n := 52) rfl rfl 1 rfl ?_
      obtain ⟨b11, h⟩ := h
      refine x_aald at_larr rfl hBs7.a20 b11 rfl (hBs7.n20 b11) dX1_lay_52 (n := 53) rfl ?_
      refine x_iload_n dX1_lay_53 (n := 54) rfl rfl 2 rfl ?_
      refine x_bipush dX1_lay_54 (n := 56) rfl bp_6 ?_
      refine x_ishr dX1_lay_56 (n := 57) rfl ?_
      refine x_dup2 dX1_lay_57 (n := 58) rfl rfl rfl ?_
      obtain ⟨b12, h⟩ := h
      refine x_lald (hBs7.b20 b11) b12 rfl dX1_lay_58 (n := 59) rfl ?_
      refine x_lconst dX1_lay_59 (n := 60) rfl lc_1 ?_
      refine x_iload_n dX1_lay_60 (n := 61) rfl rfl 2 rfl ?_
      refine x_bipush dX1_lay_61 (n := 63) rfl bp_63 ?_
      refine x_iand dX1_lay_63 (n := 64) rfl ?_
      refine x_lshl dX1_lay_64 (n := 65) rfl ?_
      refine x_lor dX1_lay_65 (n := 66) rfl ?_
      obtain ⟨b13, h⟩ := h
      refine x_last (hBs7.b20 b11) b13 rfl dX1_lay_66 (n := 67) rfl ?_
      refine x_iinc (v := x2 + 1) (lvs' := [(2, .int (x2 + 1)), (0, .ref o), (1, .int x1)]) dX1_lay_67 (n := 70) rfl 2 rfl rfl (by decide) rfl ?_
      refine x_goto (tgt := 26) dX1_lay_70 rfl ?_
      exact x_sub [1, 2, 0] rfl (hK26 (x2 + 1, pL s7 (o + 23 + x1.toNatClampNeg) (x2 >>> (6 &&& 31)).toNatClampNeg ((gL s7 (o + 23 + x1.toNatClampNeg) (x2 >>> (6 &&& 31)).toNatClampNeg) ||| (1 <<< ((x2 &&& 63).toInt64 &&& 63)))) hs8t.l h)
theorem xl_X1_lay_2 (o c : Nat) (σ0 : Hp) (Q : Hp → Prop) (G : XE) (hB0 : LB o c σ0) (rq : RQ G 0 0 (oV (fun σ' => SH σ0 σ' ∧ Q σ'))) (x1 : Int32)    : ∀ z : Int32 × Hp, SH σ0 z.2 → lp (lb_X1_lay_2 o c x1 Q ) z → X G rm_X1_lay cX1_lay RX1 3 none z.2 0 0 2 [(0, .ref o), (1, .int x1), (2, .int z.1)] [] := by
  intro z
  refine fun hs h => lp_X (P := fun z => SH σ0 z.2 → X G rm_X1_lay cX1_lay RX1 3 none z.2 0 0 2 [(0, .ref o), (1, .int x1), (2, .int z.1)] []) ?_ h hs
  intro K2 hK2 z h hs
  obtain ⟨x2, σ⟩ := z
  have hs : SH σ0 σ := hs
  have hB := hB0.sh hs
  simp only [lb_X1_lay_2] at h
  show X G rm_X1_lay cX1_lay RX1 3 none σ 0 0 2 [(0, .ref o), (1, .int x1), (2, .int x2)] []
  have hK2 : ∀ z : (Int32 × Hp), SH σ0 z.2 → K2 z → X G rm_X1_lay cX1_lay RX1 3 none z.2 0 0 2 [(0, .ref o), (1, .int x1), (2, .int z.1)] [] := fun z hs h => hK2 z h hs
  refine x_iload_n dX1_lay_2 (n := 3) rfl rfl 2 rfl ?_
  refine x_sipush dX1_lay_3 (n := 6) rfl sp_313 ?_
  refine x_icmp_ge (tgt := 24) dX1_lay_6 rfl (n := 9) rfl (fun c1 => ?_) (fun c1 => ?_)
  · have h := h.1 c1
    refine x_iconst dX1_lay_24 (n := 25) rfl ic_0 ?_
    refine x_istore_n (lvs' := [(2, .int 0), (0, .ref o), (1, .int x1)]) dX1_lay_25 (n := 26) rfl rfl (by decide) rfl ?_
    exact x_sub [1, 2, 0] rfl (xl_X1_lay_26 o c σ0 Q G hB0 rq x1 (0, σ) hs h)
  · have h := h.2 c1
    refine x_aload_n dX1_lay_9 (n := 10) rfl rfl 0 rfl ?_
    refine x_getr fl_X1_74_1 rfl hB.1 hB.r20 dX1_lay_10 (n := 13) rfl ?_
    refine x_iload_n dX1_lay_13 (n := 14) rfl rfl 1 rfl ?_
    obtain ⟨b2, h⟩ := h
    refine x_aald at_larr rfl hB.a20 b2 rfl (hB.n20 b2) dX1_lay_14 (n := 15) rfl ?_
    refine x_iload_n dX1_lay_15 (n := 16) rfl rfl 2 rfl ?_
    refine x_lconst dX1_lay_16 (n := 17) rfl lc_0 ?_
    obtain ⟨b3, h⟩ := h
    refine x_last (hB.b20 b2) b3 rfl dX1_lay_17 (n := 18) rfl ?_
    refine x_iinc (v := x2 + 1) (lvs' := [(2, .int (x2 + 1)), (0, .ref o), (1, .int x1)]) dX1_lay_18 (n := 21) rfl 2 rfl rfl (by decide) rfl ?_
    refine x_goto (tgt := 2) dX1_lay_21 rfl ?_
    exact x_sub [1, 2, 0] rfl (hK2 (x2 + 1, pL σ (o + 23 + x1.toNatClampNeg) x2.toNatClampNeg 0) hs.l h)
theorem met_X1_lay (o c : Nat) (σ0 : Hp) (x1 : Int32) (Q : Hp → Prop) (hB0 : LB o c σ0) (h : wp_X1_lay o c σ0 x1 Q) : MetX yX1_lay cX1_lay 3 none rm_X1_lay σ0 [.ref o, .int x1] (oV (fun σ' => SH σ0 σ' ∧ Q σ')) 0 0 := by
  refine metX_of (own := RX1) (lvs := [(0, .ref o), (1, .int x1)]) (by decide) rfl (Nat.le_of_ble_eq_true rfl) rfl (fun G rq => ?_)
  unfold wp_X1_lay at h
  refine x_iconst dX1_lay_0 (n := 1) rfl ic_0 ?_
  refine x_istore_n (lvs' := [(2, .int 0), (0, .ref o), (1, .int x1)]) dX1_lay_1 (n := 2) rfl rfl (by decide) rfl ?_
  exact x_sub [1, 2, 0] rfl (xl_X1_lay_2 o c σ0 Q G hB0 rq x1 (0, σ0) (SH.rf (σ := σ0)) h)
abbrev rm_X1_can : Room := { frames := 78, cells := 0, slots := 0, locals := 1972 }
def wj_X1_can_27 (o c : Nat) (σ : Hp) (x1 : Int32) (y2 : Int64) (Q : Int32 → Hp → Prop)  : Prop := (vp_in x1 12) ∧ ((vp_in (y2.toInt32 >>> (6 &&& 31)) 313) ∧ (((((gL σ (o + 23 + x1.toNatClampNeg) (y2.toInt32 >>> (6 &&& 31)).toNatClampNeg) >>> (((y2 &&& 63).toInt32).toInt64 &&& 63)) &&& 1) = 1 → Q 1 σ) ∧ (¬ (((gL σ (o + 23 + x1.toNatClampNeg) (y2.toInt32 >>> (6 &&& 31)).toNatClampNeg) >>> (((y2 &&& 63).toInt32).toInt64 &&& 63)) &&& 1) = 1 → Q 0 σ)))
def wp_X1_can (o c : Nat) (σ0 : Hp) (x1 : Int32) (y2 : Int64) (Q : Int32 → Hp → Prop) : Prop := ((f_X1_in y2 0 19999) = 0 → Q 0 σ0) ∧ (¬ (f_X1_in y2 0 19999) = 0 → (vp_in x1 12) ∧ (((gI σ0 (o + 35) x1.toNatClampNeg) = 0 → wp_X1_lay o c σ0 x1 (fun  s6 => wj_X1_can_27 o c s6 x1 y2 Q)) ∧ (¬ (gI σ0 (o + 35) x1.toNatClampNeg) = 0 → wj_X1_can_27 o c σ0 x1 y2 Q)))
theorem xj_X1_can_27 (o c : Nat) (σ0 : Hp) (Q : Int32 → Hp → Prop) (G : XE) (hB0 : LB o c σ0) (rq : RQ G 0 0 (oI (fun r σ' => SH σ0 σ' ∧ Q r σ'))) (σ : Hp) (x1 : Int32) (y2 : Int64)    (hs : SH σ0 σ) (h : wj_X1_can_27 o c σ x1 y2 Q ) : X G rm_X1_can cX1_can RX1 4 (some .boolean) σ 0 0 27 [(0, .ref o), (1, .int x1), (2, .long y2)] [] := by
  have hs : SH σ0 σ := hs
  have hB := hB0.sh hs
  unfold wj_X1_can_27 at h
  refine x_aload_n dX1_can_27 (n := 28) rfl rfl 0 rfl ?_
  refine x_getr fl_X1_74_1 rfl hB.1 hB.r20 dX1_can_28 (n := 31) rfl ?_
  refine x_iload_n dX1_can_31 (n := 32) rfl rfl 1 rfl ?_
  obtain ⟨b8, h⟩ := h
  refine x_aald at_larr rfl hB.a20 b8 rfl (hB.n20 b8) dX1_can_32 (n := 33) rfl ?_
  refine x_lload_n dX1_can_33 (n := 34) rfl rfl 2 rfl ?_
  refine x_l2i dX1_can_34 (n := 35) rfl ?_
  refine x_bipush dX1_can_35 (n := 37) rfl bp_6 ?_
  refine x_ishr dX1_can_37 (n := 38) rfl ?_
  obtain ⟨b9, h⟩ := h
  refine x_lald (hB.b20 b8) b9 rfl dX1_can_38 (n := 39) rfl ?_
  refine x_lload_n dX1_can_39 (n := 40) rfl rfl 2 rfl ?_
  refine x_ldc2 dX1_can_40 (n := 43) rfl q1367 ?_
  refine x_land dX1_can_43 (n := 44) rfl ?_
  refine x_l2i dX1_can_44 (n := 45) rfl ?_
  refine x_lshr dX1_can_45 (n := 46) rfl ?_
  refine x_lconst dX1_can_46 (n := 47) rfl lc_1 ?_
  refine x_land dX1_can_47 (n := 48) rfl ?_
  refine x_lconst dX1_can_48 (n := 49) rfl lc_1 ?_
  refine x_lcmp_ne (tgt := 57) dX1_can_49 (pc1 := 50) rfl dX1_can_50 rfl (n := 53) rfl (fun c10 => ?_) (fun c10 => ?_)
  · have h := h.2 c10
    refine x_iconst dX1_can_57 (n := 58) rfl ic_0 ?_
    exact x_zret rq ⟨hs, h⟩ isB0 dX1_can_58
  · have h := h.1 c10
    refine x_iconst dX1_can_53 (n := 54) rfl ic_1 ?_
    refine x_goto (tgt := 58) dX1_can_54 rfl ?_
    exact x_zret rq ⟨hs, h⟩ isB1 dX1_can_58
theorem met_X1_can (o c : Nat) (σ0 : Hp) (x1 : Int32) (y2 : Int64) (Q : Int32 → Hp → Prop) (hB0 : LB o c σ0) (h : wp_X1_can o c σ0 x1 y2 Q) : MetX yX1_can cX1_can 4 (some .boolean) rm_X1_can σ0 [.ref o, .int x1, .long y2] (oI (fun r σ' => SH σ0 σ' ∧ Q r σ')) 0 0 := by
  refine metX_of (own := RX1) (lvs := [(0, .ref o), (1, .int x1), (2, .long y2)]) (by decide) rfl (Nat.le_of_ble_eq_true rfl) rfl (fun G rq => ?_)
  unfold wp_X1_can at h
  refine x_lload_n dX1_can_0 (n := 1) rfl rfl 2 rfl ?_
  refine x_lconst dX1_can_1 (n := 2) rfl lc_0 ?_
  refine x_ldc2 dX1_can_2 (n := 5) rfl q1354 ?_
  refine x_cSip (As := [.long y2, .long 0, .long 19999]) (rest := []) cs_X1_96 (met_X1_in σ0 y2 0 19999 ) (by decide) rfl rfl rfl dX1_can_5 (n := 8) rfl (fun r2 q => ?_)
  subst q
  refine x_if_ne (tgt := 13) dX1_can_8 rfl (n := 11) rfl (fun c3 => ?_) (fun c3 => ?_)
  · have h := h.2 c3
    refine x_aload_n dX1_can_13 (n := 14) rfl rfl 0 rfl ?_
    refine x_getr fl_X1_77_1 rfl hB0.1 hB0.r21 dX1_can_14 (n := 17) rfl ?_
    refine x_iload_n dX1_can_17 (n := 18) rfl rfl 1 rfl ?_
    obtain ⟨b4, h⟩ := h
    refine x_zald hB0.a21 b4 rfl dX1_can_18 (n := 19) rfl ?_
    refine x_if_ne (tgt := 27) dX1_can_19 rfl (n := 22) rfl (fun c5 => ?_) (fun c5 => ?_)
    · have h := h.2 c5
      exact x_sub [0, 1, 2] rfl (xj_X1_can_27 o c σ0 Q G hB0 rq σ0 x1 y2 (SH.rf (σ := σ0)) h)
    · have h := h.1 c5
      refine x_aload_n dX1_can_22 (n := 23) rfl rfl 0 rfl ?_
      refine x_iload_n dX1_can_23 (n := 24) rfl rfl 1 rfl ?_
      refine x_cVvm (As := [.int x1]) (rest := []) cv_X1_360 ck1 (met_X1_lay o c σ0 x1 _ hB0 h) hB0.1 (by decide) rfl rfl rfl dX1_can_24 (n := 27) rfl (fun  s6 hs7 h => ?_)
      have hs7t := (SH.rf (σ := σ0)).tr hs7; have hBs6 := hB0.sh hs7t
      exact x_sub [0, 1, 2] rfl (xj_X1_can_27 o c σ0 Q G hB0 rq s6 x1 y2 hs7t h)
  · have h := h.1 c3
    refine x_iconst dX1_can_11 (n := 12) rfl ic_0 ?_
    exact x_zret rq ⟨(SH.rf (σ := σ0)), h⟩ isB0 dX1_can_12
abbrev rm_X1_holds : Room := { frames := 79, cells := 0, slots := 0, locals := 1995 }
def lb_X1_holds_3 (o c : Nat) (x1 : Int32) (x2 : Int32) (x3 : Int32) (Q : Int32 → Hp → Prop)  (K3 : Int32 × Hp → Prop) (z : Int32 × Hp) : Prop := match z with
  | (x4, σ) => ((gI σ o 9) ≤ x4 → Q 1 σ) ∧ (¬ (gI σ o 9) ≤ x4 → (((x1 >>> (x4 &&& 31)) &&& 1) = 1 → (vp_in x4 12) ∧ (((gI σ (o + 36) x4.toNatClampNeg) = x2 → (vp_in x4 12) ∧ (wp_X1_can o c σ x4 (x3.toInt64 + ((gI σ (o + 37) x4.toNatClampNeg).toInt64)) (fun r8 s6 => (r8 = 0 → Q 0 s6) ∧ (¬ r8 = 0 → K3 (x4 + 1, s6))))) ∧ (¬ (gI σ (o + 36) x4.toNatClampNeg) = x2 → K3 (x4 + 1, σ)))) ∧ (¬ ((x1 >>> (x4 &&& 31)) &&& 1) = 1 → K3 (x4 + 1, σ)))
def wp_X1_holds (o c : Nat) (σ0 : Hp) (x1 : Int32) (x2 : Int32) (x3 : Int32) (Q : Int32 → Hp → Prop) : Prop := lp (lb_X1_holds_3 o c x1 x2 x3 Q) (0, σ0)
theorem xl_X1_holds_3 (o c : Nat) (σ0 : Hp) (Q : Int32 → Hp → Prop) (G : XE) (hB0 : LB o c σ0) (rq : RQ G 0 0 (oI (fun r σ' => SH σ0 σ' ∧ Q r σ'))) (x1 : Int32) (x2 : Int32) (x3 : Int32)    : ∀ z : Int32 × Hp, SH σ0 z.2 → lp (lb_X1_holds_3 o c x1 x2 x3 Q ) z → X G rm_X1_holds cX1_holds RX1 5 (some .boolean) z.2 0 0 3 [(0, .ref o), (1, .int x1), (2, .int x2), (3, .int x3), (4, .int z.1)] [] := by
  intro z
  refine fun hs h => lp_X (P := fun z => SH σ0 z.2 → X G rm_X1_holds cX1_holds RX1 5 (some .boolean) z.2 0 0 3 [(0, .ref o), (1, .int x1), (2, .int x2), (3, .int x3), (4, .int z.1)] []) ?_ h hs
  intro K3 hK3 z h hs
  obtain ⟨x4, σ⟩ := z
  have hs : SH σ0 σ := hs
  have hB := hB0.sh hs
  simp only [lb_X1_holds_3] at h
  show X G rm_X1_holds cX1_holds RX1 5 (some .boolean) σ 0 0 3 [(0, .ref o), (1, .int x1), (2, .int x2), (3, .int x3), (4, .int x4)] []
  have hK3 : ∀ z : (Int32 × Hp), SH σ0 z.2 → K3 z → X G rm_X1_holds cX1_holds RX1 5 (some .boolean) z.2 0 0 3 [(0, .ref o), (1, .int x1), (2, .int x2), (3, .int x3), (4, .int z.1)] [] := fun z hs h => hK3 z h hs
  refine x_iload dX1_holds_3 (n := 5) rfl 4 rfl ?_
  refine x_aload_n dX1_holds_5 (n := 6) rfl rfl 0 rfl ?_
  refine x_geti fl_X1_124_1 rfl hB.1 rfl dX1_holds_6 (n := 9) rfl ?_
  refine x_icmp_ge (tgt := 61) dX1_holds_9 rfl (n := 12) rfl (fun c1 => ?_) (fun c1 => ?_)
  · have h := h.1 c1
    refine x_iconst dX1_holds_61 (n := 62) rfl ic_1 ?_
    exact x_zret rq ⟨hs, h⟩ isB1 dX1_holds_62
  · have h := h.2 c1
    refine x_iload_n dX1_holds_12 (n := 13) rfl rfl 1 rfl ?_
    refine x_iload dX1_holds_13 (n := 15) rfl 4 rfl ?_
    refine x_ishr dX1_holds_15 (n := 16) rfl ?_
    refine x_iconst dX1_holds_16 (n := 17) rfl ic_1 ?_
    refine x_iand dX1_holds_17 (n := 18) rfl ?_
    refine x_iconst dX1_holds_18 (n := 19) rfl ic_1 ?_
    refine x_icmp_ne (tgt := 55) dX1_holds_19 rfl (n := 22) rfl (fun c2 => ?_) (fun c2 => ?_)
    · have h := h.2 c2
      refine x_iinc (v := x4 + 1) (lvs' := [(4, .int (x4 + 1)), (0, .ref o), (1, .int x1), (2, .int x2), (3, .int x3)]) dX1_holds_55 (n := 58) rfl 4 rfl rfl (by decide) rfl ?_
      refine x_goto (tgt := 3) dX1_holds_58 rfl ?_
      exact x_sub [1, 2, 3, 4, 0] rfl (hK3 (x4 + 1, σ) hs h)
    · have h := h.1 c2
      refine x_aload_n dX1_holds_22 (n := 23) rfl rfl 0 rfl ?_
      refine x_getr fl_X1_81_1 rfl hB.1 hB.r22 dX1_holds_23 (n := 26) rfl ?_
      refine x_iload dX1_holds_26 (n := 28) rfl 4 rfl ?_
      obtain ⟨b3, h⟩ := h
      refine x_iald hB.a22 b3 rfl dX1_holds_28 (n := 29) rfl ?_
      refine x_iload_n dX1_holds_29 (n := 30) rfl rfl 2 rfl ?_
      refine x_icmp_ne (tgt := 55) dX1_holds_30 rfl (n := 33) rfl (fun c4 => ?_) (fun c4 => ?_)
      · have h := h.2 c4
        refine x_iinc (v := x4 + 1) (lvs' := [(4, .int (x4 + 1)), (0, .ref o), (1, .int x1), (2, .int x2), (3, .int x3)]) dX1_holds_55 (n := 58) rfl 4 rfl rfl (by decide) rfl ?_
        refine x_goto (tgt := 3) dX1_holds_58 rfl ?_
        exact x_sub [1, 2, 3, 4, 0] rfl (hK3 (x4 + 1, σ) hs h)
      · have h := h.1 c4
        refine x_aload_n dX1_holds_33 (n := 34) rfl rfl 0 rfl ?_
        refine x_iload dX1_holds_34 (n := 36) rfl 4 rfl ?_
        refine x_iload_n dX1_holds_36 (n := 37) rfl rfl 3 rfl ?_
        refine x_i2l dX1_holds_37 (n := 38) rfl ?_
        refine x_aload_n dX1_holds_38 (n := 39) rfl rfl 0 rfl ?_
        refine x_getr fl_X1_84_1 rfl hB.1 hB.r23 dX1_holds_39 (n := 42) rfl ?_
        refine x_iload dX1_holds_42 (n := 44) rfl 4 rfl ?_
        obtain ⟨b5, h⟩ := h
        refine x_iald hB.a23 b5 rfl dX1_holds_44 (n := 45) rfl ?_
        refine x_i2l dX1_holds_45 (n := 46) rfl ?_
        refine x_ladd dX1_holds_46 (n := 47) rfl ?_
        refine x_cVim (As := [.int x4, .long (x3.toInt64 + ((gI σ (o + 37) x4.toNatClampNeg).toInt64))]) (rest := []) cv_X1_369 ck1 (met_X1_can o c σ x4 (x3.toInt64 + ((gI σ (o + 37) x4.toNatClampNeg).toInt64)) _ hB h) hB.1 (by decide) rfl rfl rfl dX1_holds_47 (n := 50) rfl (fun r8 s6 hs7 h => ?_)
        have hs7t := hs.tr hs7; have hBs6 := hB0.sh hs7t
        refine x_if_ne (tgt := 55) dX1_holds_50 rfl (n := 53) rfl (fun c9 => ?_) (fun c9 => ?_)
        · have h := h.2 c9
          refine x_iinc (v := x4 + 1) (lvs' := [(4, .int (x4 + 1)), (0, .ref o), (1, .int x1), (2, .int x2), (3, .int x3)]) dX1_holds_55 (n := 58) rfl 4 rfl rfl (by decide) rfl ?_
          refine x_goto (tgt := 3) dX1_holds_58 rfl ?_
          exact x_sub [1, 2, 3, 4, 0] rfl (hK3 (x4 + 1, s6) hs7t h)
        · have h := h.1 c9
          refine x_iconst dX1_holds_53 (n := 54) rfl ic_0 ?_
          exact x_zret rq ⟨hs7t, h⟩ isB0 dX1_holds_54
theorem met_X1_holds (o c : Nat) (σ0 : Hp) (x1 : Int32) (x2 : Int32) (x3 : Int32) (Q : Int32 → Hp → Prop) (hB0 : LB o c σ0) (h : wp_X1_holds o c σ0 x1 x2 x3 Q) : MetX yX1_holds cX1_holds 5 (some .boolean) rm_X1_holds σ0 [.ref o, .int x1, .int x2, .int x3] (oI (fun r σ' => SH σ0 σ' ∧ Q r σ')) 0 0 := by
  refine metX_of (own := RX1) (lvs := [(0, .ref o), (1, .int x1), (2, .int x2), (3, .int x3)]) (by decide) rfl (Nat.le_of_ble_eq_true rfl) rfl (fun G rq => ?_)
  unfold wp_X1_holds at h
  refine x_iconst dX1_holds_0 (n := 1) rfl ic_0 ?_
  refine x_istore (lvs' := [(4, .int 0), (0, .ref o), (1, .int x1), (2, .int x2), (3, .int x3)]) dX1_holds_1 (n := 3) rfl (by decide) rfl ?_
  exact x_sub [1, 2, 3, 4, 0] rfl (xl_X1_holds_3 o c σ0 Q G hB0 rq x1 x2 x3 (0, σ0) (SH.rf (σ := σ0)) h)
abbrev rm_X1_fit : Room := { frames := 80, cells := 0, slots := 0, locals := 2019 }
def wj_X1_fit_49 (o c : Nat) (σ : Hp) (x1 : Int32) (x2 : Int32) (x3 : Int32) (Q : Int32 → Hp → Prop) (K17 : (Int32 × Hp) → Prop) : Prop := K17 (x3 + 1, pI (pI σ o 26 x3) o 24 ((gI σ o 24) + 1))
def lb_X1_fit_17 (o c : Nat) (x1 : Int32) (x2 : Int32) (Q : Int32 → Hp → Prop)  (K17 : Int32 × Hp → Prop) (z : Int32 × Hp) : Prop := match z with
  | (x3, σ) => (20000 ≤ x3 → Q (gI σ o 24) σ) ∧ (¬ 20000 ≤ x3 → wp_X1_holds o c σ x1 x2 x3 (fun r4 s2 => (r4 = 0 → K17 (x3 + 1, s2)) ∧ (¬ r4 = 0 → ((gI s2 o 24) = 0 → wj_X1_fit_49 o c (pI s2 o 25 x3) x1 x2 x3 Q K17) ∧ (¬ (gI s2 o 24) = 0 → wj_X1_fit_49 o c s2 x1 x2 x3 Q K17))))
def wp_X1_fit (o c : Nat) (σ0 : Hp) (x1 : Int32) (x2 : Int32) (Q : Int32 → Hp → Prop) : Prop := lp (lb_X1_fit_17 o c x1 x2 Q) (0, pI (pI (pI σ0 o 24 0) o 25 (-1)) o 26 (-1))
theorem xj_X1_fit_49 (o c : Nat) (σ0 : Hp) (Q : Int32 → Hp → Prop) (G : XE) (hB0 : LB o c σ0) (rq : RQ G 0 0 (oI (fun r σ' => SH σ0 σ' ∧ Q r σ'))) (σ : Hp) (x1 : Int32) (x2 : Int32) (x3 : Int32)  (K17 : (Int32 × Hp) → Prop) (hK17 : ∀ z : (Int32 × Hp), SH σ0 z.2 → K17 z → X G rm_X1_fit cX1_fit RX1 4 (some .int) z.2 0 0 17 [(0, .ref o), (1, .int x1), (2, .int x2), (3, .int z.1)] []) (hs : SH σ0 σ) (h : wj_X1_fit_49 o c σ x1 x2 x3 Q K17) : X G rm_X1_fit cX1_fit RX1 4 (some .int) σ 0 0 49 [(0, .ref o), (1, .int x1), (2, .int x2), (3, .int x3)] [] := by
  have hs : SH σ0 σ := hs
  have hB := hB0.sh hs
  unfold wj_X1_fit_49 at h
  refine x_aload_n dX1_fit_49 (n := 50) rfl rfl 0 rfl ?_
  refine x_iload_n dX1_fit_50 (n := 51) rfl rfl 3 rfl ?_
  refine x_puti fp_X1_378_1 rfl hB.1 dX1_fit_51 (n := 54) rfl ?_
  refine x_aload_n dX1_fit_54 (n := 55) rfl rfl 0 rfl ?_
  refine x_dup dX1_fit_55 (n := 56) rfl rfl ?_
  refine x_geti fl_X1_372_1 rfl hB.i.1 (gIn (by decide)) dX1_fit_56 (n := 59) rfl ?_
  refine x_iconst dX1_fit_59 (n := 60) rfl ic_1 ?_
  refine x_iadd dX1_fit_60 (n := 61) rfl ?_
  refine x_puti fp_X1_372_1 rfl hB.i.1 dX1_fit_61 (n := 64) rfl ?_
  refine x_iinc (v := x3 + 1) (lvs' := [(3, .int (x3 + 1)), (0, .ref o), (1, .int x1), (2, .int x2)]) dX1_fit_64 (n := 67) rfl 3 rfl rfl (by decide) rfl ?_
  refine x_goto (tgt := 17) dX1_fit_67 rfl ?_
  exact x_sub [1, 2, 3, 0] rfl (hK17 (x3 + 1, pI (pI σ o 26 x3) o 24 ((gI σ o 24) + 1)) hs.i.i h)
theorem xl_X1_fit_17 (o c : Nat) (σ0 : Hp) (Q : Int32 → Hp → Prop) (G : XE) (hB0 : LB o c σ0) (rq : RQ G 0 0 (oI (fun r σ' => SH σ0 σ' ∧ Q r σ'))) (x1 : Int32) (x2 : Int32)    : ∀ z : Int32 × Hp, SH σ0 z.2 → lp (lb_X1_fit_17 o c x1 x2 Q ) z → X G rm_X1_fit cX1_fit RX1 4 (some .int) z.2 0 0 17 [(0, .ref o), (1, .int x1), (2, .int x2), (3, .int z.1)] [] := by
  intro z
  refine fun hs h => lp_X (P := fun z => SH σ0 z.2 → X G rm_X1_fit cX1_fit RX1 4 (some .int) z.2 0 0 17 [(0, .ref o), (1, .int x1), (2, .int x2), (3, .int z.1)] []) ?_ h hs
  intro K17 hK17 z h hs
  obtain ⟨x3, σ⟩ := z
  have hs : SH σ0 σ := hs
  have hB := hB0.sh hs
  simp only [lb_X1_fit_17] at h
  show X G rm_X1_fit cX1_fit RX1 4 (some .int) σ 0 0 17 [(0, .ref o), (1, .int x1), (2, .int x2), (3, .int x3)] []
  have hK17 : ∀ z : (Int32 × Hp), SH σ0 z.2 → K17 z → X G rm_X1_fit cX1_fit RX1 4 (some .int) z.2 0 0 17 [(0, .ref o), (1, .int x1), (2, .int x2), (3, .int z.1)] [] := fun z hs h => hK17 z h hs
  refine x_iload_n dX1_fit_17 (n := 18) rfl rfl 3 rfl ?_
  refine x_sipush dX1_fit_18 (n := 21) rfl sp_20000 ?_
  refine x_icmp_ge (tgt := 70) dX1_fit_21 rfl (n := 24) rfl (fun c1 => ?_) (fun c1 => ?_)
  · have h := h.1 c1
    refine x_aload_n dX1_fit_70 (n := 71) rfl rfl 0 rfl ?_
    refine x_geti fl_X1_372_1 rfl hB.1 rfl dX1_fit_71 (n := 74) rfl ?_
    exact x_iret rq ⟨hs, h⟩ dX1_fit_74
  · have h := h.2 c1
    refine x_aload_n dX1_fit_24 (n := 25) rfl rfl 0 rfl ?_
    refine x_iload_n dX1_fit_25 (n := 26) rfl rfl 1 rfl ?_
    refine x_iload_n dX1_fit_26 (n := 27) rfl rfl 2 rfl ?_
    refine x_iload_n dX1_fit_27 (n := 28) rfl rfl 3 rfl ?_
    refine x_cVim (As := [.int x1, .int x2, .int x3]) (rest := []) cv_X1_381 ck1 (met_X1_holds o c σ x1 x2 x3 _ hB h) hB.1 (by decide) rfl rfl rfl dX1_fit_28 (n := 31) rfl (fun r4 s2 hs3 h => ?_)
    have hs3t := hs.tr hs3; have hBs2 := hB0.sh hs3t
    refine x_if_ne (tgt := 37) dX1_fit_31 rfl (n := 34) rfl (fun c5 => ?_) (fun c5 => ?_)
    · have h := h.2 c5
      refine x_aload_n dX1_fit_37 (n := 38) rfl rfl 0 rfl ?_
      refine x_geti fl_X1_372_1 rfl hBs2.1 rfl dX1_fit_38 (n := 41) rfl ?_
      refine x_if_ne (tgt := 49) dX1_fit_41 rfl (n := 44) rfl (fun c6 => ?_) (fun c6 => ?_)
      · have h := h.2 c6
        exact x_sub [0, 1, 2, 3] rfl (xj_X1_fit_49 o c σ0 Q G hB0 rq s2 x1 x2 x3 K17 hK17 hs3t h)
      · have h := h.1 c6
        refine x_aload_n dX1_fit_44 (n := 45) rfl rfl 0 rfl ?_
        refine x_iload_n dX1_fit_45 (n := 46) rfl rfl 3 rfl ?_
        refine x_puti fp_X1_375_1 rfl hBs2.1 dX1_fit_46 (n := 49) rfl ?_
        exact x_sub [0, 1, 2, 3] rfl (xj_X1_fit_49 o c σ0 Q G hB0 rq (pI s2 o 25 x3) x1 x2 x3 K17 hK17 hs3t.i h)
    · have h := h.1 c5
      refine x_goto (tgt := 64) dX1_fit_34 rfl ?_
      refine x_iinc (v := x3 + 1) (lvs' := [(3, .int (x3 + 1)), (0, .ref o), (1, .int x1), (2, .int x2)]) dX1_fit_64 (n := 67) rfl 3 rfl rfl (by decide) rfl ?_
      refine x_goto (tgt := 17) dX1_fit_67 rfl ?_
      exact x_sub [1, 2, 3, 0] rfl (hK17 (x3 + 1, s2) hs3t h)
theorem met_X1_fit (o c : Nat) (σ0 : Hp) (x1 : Int32) (x2 : Int32) (Q : Int32 → Hp → Prop) (hB0 : LB o c σ0) (h : wp_X1_fit o c σ0 x1 x2 Q) : MetX yX1_fit cX1_fit 4 (some .int) rm_X1_fit σ0 [.ref o, .int x1, .int x2] (oI (fun r σ' => SH σ0 σ' ∧ Q r σ')) 0 0 := by
  refine metX_of (own := RX1) (lvs := [(0, .ref o), (1, .int x1), (2, .int x2)]) (by decide) rfl (Nat.le_of_ble_eq_true rfl) rfl (fun G rq => ?_)
  unfold wp_X1_fit at h
  refine x_aload_n dX1_fit_0 (n := 1) rfl rfl 0 rfl ?_
  refine x_iconst dX1_fit_1 (n := 2) rfl ic_0 ?_
  refine x_puti fp_X1_372_1 rfl hB0.1 dX1_fit_2 (n := 5) rfl ?_
  refine x_aload_n dX1_fit_5 (n := 6) rfl rfl 0 rfl ?_
  refine x_iconst dX1_fit_6 (n := 7) rfl ic_m1 ?_
  refine x_puti fp_X1_375_1 rfl hB0.i.1 dX1_fit_7 (n := 10) rfl ?_
  refine x_aload_n dX1_fit_10 (n := 11) rfl rfl 0 rfl ?_
  refine x_iconst dX1_fit_11 (n := 12) rfl ic_m1 ?_
  refine x_puti fp_X1_378_1 rfl hB0.i.i.1 dX1_fit_12 (n := 15) rfl ?_
  refine x_iconst dX1_fit_15 (n := 16) rfl ic_0 ?_
  refine x_istore_n (lvs' := [(3, .int 0), (0, .ref o), (1, .int x1), (2, .int x2)]) dX1_fit_16 (n := 17) rfl rfl (by decide) rfl ?_
  exact x_sub [1, 2, 3, 0] rfl (xl_X1_fit_17 o c σ0 Q G hB0 rq x1 x2 (0, pI (pI (pI σ0 o 24 0) o 25 (-1)) o 26 (-1)) (SH.rf (σ := σ0)).i.i.i h)
abbrev rm_X1_alone : Room := { frames := 81, cells := 0, slots := 0, locals := 2042 }
def wp_X1_alone (o c : Nat) (σ0 : Hp) (x1 : Int32) (x2 : Int32) (Q : Int32 → Hp → Prop) : Prop := (ok_X1_isNote o c σ0 x1) ∧ (((f_X1_isNote o c σ0 x1) = 0 → Q (-1) σ0) ∧ (¬ (f_X1_isNote o c σ0 x1) = 0 → ((f_X1_in x2.toInt64 0 2) = 0 → Q (-1) σ0) ∧ (¬ (f_X1_in x2.toInt64 0 2) = 0 → wp_X1_link o c σ0 0 (fun  s7 => wp_X1_fit o c s7 (1 <<< (x1 &&& 31)) x1 (fun r11 s9 => (x2 = 0 → Q (gI s9 o 24) s9) ∧ (¬ x2 = 0 → (x2 = 1 → Q (gI s9 o 25) s9) ∧ (¬ x2 = 1 → Q (gI s9 o 26) s9)))))))
theorem met_X1_alone (o c : Nat) (σ0 : Hp) (x1 : Int32) (x2 : Int32) (Q : Int32 → Hp → Prop) (hB0 : LB o c σ0) (h : wp_X1_alone o c σ0 x1 x2 Q) : MetX yX1_alone cX1_alone 3 (some .int) rm_X1_alone σ0 [.ref o, .int x1, .int x2] (oI (fun r σ' => SH σ0 σ' ∧ Q r σ')) 0 0 := by
  refine metX_of (own := RX1) (lvs := [(0, .ref o), (1, .int x1), (2, .int x2)]) (by decide) rfl (Nat.le_of_ble_eq_true rfl) rfl (fun G rq => ?_)
  unfold wp_X1_alone at h
  refine x_aload_n dX1_alone_0 (n := 1) rfl rfl 0 rfl ?_
  refine x_iload_n dX1_alone_1 (n := 2) rfl rfl 1 rfl ?_
  obtain ⟨b1, h⟩ := h
  refine x_cVip (As := [.int x1]) (rest := []) cv_X1_410 ck1 (met_X1_isNote o c σ0 x1 hB0 b1) hB0.1 (by decide) rfl rfl rfl dX1_alone_2 (n := 5) rfl (fun r2 q => ?_)
  subst q
  refine x_if_eq (tgt := 20) dX1_alone_5 rfl (n := 8) rfl (fun c3 => ?_) (fun c3 => ?_)
  · have h := h.1 c3
    refine x_iconst dX1_alone_20 (n := 21) rfl ic_m1 ?_
    exact x_iret rq ⟨(SH.rf (σ := σ0)), h⟩ dX1_alone_21
  · have h := h.2 c3
    refine x_iload_n dX1_alone_8 (n := 9) rfl rfl 2 rfl ?_
    refine x_i2l dX1_alone_9 (n := 10) rfl ?_
    refine x_lconst dX1_alone_10 (n := 11) rfl lc_0 ?_
    refine x_ldc2 dX1_alone_11 (n := 14) rfl q1262 ?_
    refine x_cSip (As := [.long x2.toInt64, .long 0, .long 2]) (rest := []) cs_X1_96 (met_X1_in σ0 x2.toInt64 0 2 ) (by decide) rfl rfl rfl dX1_alone_14 (n := 17) rfl (fun r5 q => ?_)
    subst q
    refine x_if_ne (tgt := 22) dX1_alone_17 rfl (n := 20) rfl (fun c6 => ?_) (fun c6 => ?_)
    · have h := h.2 c6
      refine x_aload_n dX1_alone_22 (n := 23) rfl rfl 0 rfl ?_
      refine x_iconst dX1_alone_23 (n := 24) rfl ic_0 ?_
      refine x_cVvm (As := [.int 0]) (rest := []) cv_X1_385 ck1 (met_X1_link o c σ0 0 _ hB0 h) hB0.1 (by decide) rfl rfl rfl dX1_alone_24 (n := 27) rfl (fun  s7 hs8 h => ?_)
      have hs8t := (SH.rf (σ := σ0)).tr hs8; have hBs7 := hB0.sh hs8t
      refine x_aload_n dX1_alone_27 (n := 28) rfl rfl 0 rfl ?_
      refine x_iconst dX1_alone_28 (n := 29) rfl ic_1 ?_
      refine x_iload_n dX1_alone_29 (n := 30) rfl rfl 1 rfl ?_
      refine x_ishl dX1_alone_30 (n := 31) rfl ?_
      refine x_iload_n dX1_alone_31 (n := 32) rfl rfl 1 rfl ?_
      refine x_cVim (As := [.int (1 <<< (x1 &&& 31)), .int x1]) (rest := []) cv_X1_413 ck1 (met_X1_fit o c s7 (1 <<< (x1 &&& 31)) x1 _ hBs7 h) hBs7.1 (by decide) rfl rfl rfl dX1_alone_32 (n := 35) rfl (fun r11 s9 hs10 h => ?_)
      have hs10t := hs8t.tr hs10; have hBs9 := hB0.sh hs10t
      refine x_pop dX1_alone_35 (n := 36) rfl rfl ?_
      refine x_iload_n dX1_alone_36 (n := 37) rfl rfl 2 rfl ?_
      refine x_if_ne (tgt := 47) dX1_alone_37 rfl (n := 40) rfl (fun c12 => ?_) (fun c12 => ?_)
      · have h := h.2 c12
        refine x_iload_n dX1_alone_47 (n := 48) rfl rfl 2 rfl ?_
        refine x_iconst dX1_alone_48 (n := 49) rfl ic_1 ?_
        refine x_icmp_ne (tgt := 59) dX1_alone_49 rfl (n := 52) rfl (fun c13 => ?_) (fun c13 => ?_)
        · have h := h.2 c13
          refine x_aload_n dX1_alone_59 (n := 60) rfl rfl 0 rfl ?_
          refine x_geti fl_X1_378_1 rfl hBs9.1 rfl dX1_alone_60 (n := 63) rfl ?_
          exact x_iret rq ⟨hs10t, h⟩ dX1_alone_63
        · have h := h.1 c13
          refine x_aload_n dX1_alone_52 (n := 53) rfl rfl 0 rfl ?_
          refine x_geti fl_X1_375_1 rfl hBs9.1 rfl dX1_alone_53 (n := 56) rfl ?_
          refine x_goto (tgt := 63) dX1_alone_56 rfl ?_
          exact x_iret rq ⟨hs10t, h⟩ dX1_alone_63
      · have h := h.1 c12
        refine x_aload_n dX1_alone_40 (n := 41) rfl rfl 0 rfl ?_
        refine x_geti fl_X1_372_1 rfl hBs9.1 rfl dX1_alone_41 (n := 44) rfl ?_
        refine x_goto (tgt := 63) dX1_alone_44 rfl ?_
        exact x_iret rq ⟨hs10t, h⟩ dX1_alone_63
    · have h := h.1 c6
      refine x_iconst dX1_alone_20 (n := 21) rfl ic_m1 ?_
      exact x_iret rq ⟨(SH.rf (σ := σ0)), h⟩ dX1_alone_21
abbrev rm_X1_isFit : Room := { frames := 80, cells := 0, slots := 0, locals := 2019 }
def lb_X1_isFit_2 (o c : Nat) (x1 : Int32) (x2 : Int32) (Q : Int32 → Hp → Prop)  (K2 : Int32 × Hp → Prop) (z : Int32 × Hp) : Prop := match z with
  | (x3, σ) => (20000 ≤ x3 → Q 0 σ) ∧ (¬ 20000 ≤ x3 → wp_X1_holds o c σ x1 x2 x3 (fun r4 s2 => (r4 = 0 → K2 (x3 + 1, s2)) ∧ (¬ r4 = 0 → Q 1 s2)))
def wp_X1_isFit (o c : Nat) (σ0 : Hp) (x1 : Int32) (x2 : Int32) (Q : Int32 → Hp → Prop) : Prop := lp (lb_X1_isFit_2 o c x1 x2 Q) (0, σ0)
theorem xl_X1_isFit_2 (o c : Nat) (σ0 : Hp) (Q : Int32 → Hp → Prop) (G : XE) (hB0 : LB o c σ0) (rq : RQ G 0 0 (oI (fun r σ' => SH σ0 σ' ∧ Q r σ'))) (x1 : Int32) (x2 : Int32)    : ∀ z : Int32 × Hp, SH σ0 z.2 → lp (lb_X1_isFit_2 o c x1 x2 Q ) z → X G rm_X1_isFit cX1_isFit RX1 4 (some .boolean) z.2 0 0 2 [(0, .ref o), (1, .int x1), (2, .int x2), (3, .int z.1)] [] := by
  intro z
  refine fun hs h => lp_X (P := fun z => SH σ0 z.2 → X G rm_X1_isFit cX1_isFit RX1 4 (some .boolean) z.2 0 0 2 [(0, .ref o), (1, .int x1), (2, .int x2), (3, .int z.1)] []) ?_ h hs
  intro K2 hK2 z h hs
  obtain ⟨x3, σ⟩ := z
  have hs : SH σ0 σ := hs
  have hB := hB0.sh hs
  simp only [lb_X1_isFit_2] at h
  show X G rm_X1_isFit cX1_isFit RX1 4 (some .boolean) σ 0 0 2 [(0, .ref o), (1, .int x1), (2, .int x2), (3, .int x3)] []
  have hK2 : ∀ z : (Int32 × Hp), SH σ0 z.2 → K2 z → X G rm_X1_isFit cX1_isFit RX1 4 (some .boolean) z.2 0 0 2 [(0, .ref o), (1, .int x1), (2, .int x2), (3, .int z.1)] [] := fun z hs h => hK2 z h hs
  refine x_iload_n dX1_isFit_2 (n := 3) rfl rfl 3 rfl ?_
  refine x_sipush dX1_isFit_3 (n := 6) rfl sp_20000 ?_
  refine x_icmp_ge (tgt := 27) dX1_isFit_6 rfl (n := 9) rfl (fun c1 => ?_) (fun c1 => ?_)
  · have h := h.1 c1
    refine x_iconst dX1_isFit_27 (n := 28) rfl ic_0 ?_
    exact x_zret rq ⟨hs, h⟩ isB0 dX1_isFit_28
  · have h := h.2 c1
    refine x_aload_n dX1_isFit_9 (n := 10) rfl rfl 0 rfl ?_
    refine x_iload_n dX1_isFit_10 (n := 11) rfl rfl 1 rfl ?_
    refine x_iload_n dX1_isFit_11 (n := 12) rfl rfl 2 rfl ?_
    refine x_iload_n dX1_isFit_12 (n := 13) rfl rfl 3 rfl ?_
    refine x_cVim (As := [.int x1, .int x2, .int x3]) (rest := []) cv_X1_381 ck1 (met_X1_holds o c σ x1 x2 x3 _ hB h) hB.1 (by decide) rfl rfl rfl dX1_isFit_13 (n := 16) rfl (fun r4 s2 hs3 h => ?_)
    have hs3t := hs.tr hs3; have hBs2 := hB0.sh hs3t
    refine x_if_eq (tgt := 21) dX1_isFit_16 rfl (n := 19) rfl (fun c5 => ?_) (fun c5 => ?_)
    · have h := h.1 c5
      refine x_iinc (v := x3 + 1) (lvs' := [(3, .int (x3 + 1)), (0, .ref o), (1, .int x1), (2, .int x2)]) dX1_isFit_21 (n := 24) rfl 3 rfl rfl (by decide) rfl ?_
      refine x_goto (tgt := 2) dX1_isFit_24 rfl ?_
      exact x_sub [1, 2, 3, 0] rfl (hK2 (x3 + 1, s2) hs3t h)
    · have h := h.2 c5
      refine x_iconst dX1_isFit_19 (n := 20) rfl ic_1 ?_
      exact x_zret rq ⟨hs3t, h⟩ isB1 dX1_isFit_20
theorem met_X1_isFit (o c : Nat) (σ0 : Hp) (x1 : Int32) (x2 : Int32) (Q : Int32 → Hp → Prop) (hB0 : LB o c σ0) (h : wp_X1_isFit o c σ0 x1 x2 Q) : MetX yX1_isFit cX1_isFit 4 (some .boolean) rm_X1_isFit σ0 [.ref o, .int x1, .int x2] (oI (fun r σ' => SH σ0 σ' ∧ Q r σ')) 0 0 := by
  refine metX_of (own := RX1) (lvs := [(0, .ref o), (1, .int x1), (2, .int x2)]) (by decide) rfl (Nat.le_of_ble_eq_true rfl) rfl (fun G rq => ?_)
  unfold wp_X1_isFit at h
  refine x_iconst dX1_isFit_0 (n := 1) rfl ic_0 ?_
  refine x_istore_n (lvs' := [(3, .int 0), (0, .ref o), (1, .int x1), (2, .int x2)]) dX1_isFit_1 (n := 2) rfl rfl (by decide) rfl ?_
  exact x_sub [1, 2, 3, 0] rfl (xl_X1_isFit_2 o c σ0 Q G hB0 rq x1 x2 (0, σ0) (SH.rf (σ := σ0)) h)
abbrev rm_X1_holdsAll : Room := { frames := 81, cells := 0, slots := 0, locals := 2042 }
def lb_X1_holdsAll_7 (o c : Nat) (x1 : Int32) (Q : Int32 → Hp → Prop)  (K7 : Int32 × Hp → Prop) (z : Int32 × Hp) : Prop := match z with
  | (x2, σ) => ((gI σ o 9) ≤ x2 → Q 1 σ) ∧ (¬ (gI σ o 9) ≤ x2 → (((x1 >>> (x2 &&& 31)) &&& 1) = 1 → (vp_in x2 12) ∧ (((gI σ (o + 36) x2.toNatClampNeg) = x2 → wp_X1_isFit o c σ x1 x2 (fun r9 s7 => (r9 = 0 → Q 0 s7) ∧ (¬ r9 = 0 → K7 (x2 + 1, s7)))) ∧ (¬ (gI σ (o + 36) x2.toNatClampNeg) = x2 → K7 (x2 + 1, σ)))) ∧ (¬ ((x1 >>> (x2 &&& 31)) &&& 1) = 1 → K7 (x2 + 1, σ)))
def wp_X1_holdsAll (o c : Nat) (σ0 : Hp) (x1 : Int32) (Q : Int32 → Hp → Prop) : Prop := wp_X1_link o c σ0 x1 (fun  s1 => lp (lb_X1_holdsAll_7 o c x1 Q) (0, s1))
theorem xl_X1_holdsAll_7 (o c : Nat) (σ0 : Hp) (Q : Int32 → Hp → Prop) (G : XE) (hB0 : LB o c σ0) (rq : RQ G 0 0 (oI (fun r σ' => SH σ0 σ' ∧ Q r σ'))) (x1 : Int32)    : ∀ z : Int32 × Hp, SH σ0 z.2 → lp (lb_X1_holdsAll_7 o c x1 Q ) z → X G rm_X1_holdsAll cX1_holdsAll RX1 3 (some .boolean) z.2 0 0 7 [(0, .ref o), (1, .int x1), (2, .int z.1)] [] := by
  intro z
  refine fun hs h => lp_X (P := fun z => SH σ0 z.2 → X G rm_X1_holdsAll cX1_holdsAll RX1 3 (some .boolean) z.2 0 0 7 [(0, .ref o), (1, .int x1), (2, .int z.1)] []) ?_ h hs
  intro K7 hK7 z h hs
  obtain ⟨x2, σ⟩ := z
  have hs : SH σ0 σ := hs
  have hB := hB0.sh hs
  simp only [lb_X1_holdsAll_7] at h
  show X G rm_X1_holdsAll cX1_holdsAll RX1 3 (some .boolean) σ 0 0 7 [(0, .ref o), (1, .int x1), (2, .int x2)] []
  have hK7 : ∀ z : (Int32 × Hp), SH σ0 z.2 → K7 z → X G rm_X1_holdsAll cX1_holdsAll RX1 3 (some .boolean) z.2 0 0 7 [(0, .ref o), (1, .int x1), (2, .int z.1)] [] := fun z hs h => hK7 z h hs
  refine x_iload_n dX1_holdsAll_7 (n := 8) rfl rfl 2 rfl ?_
  refine x_aload_n dX1_holdsAll_8 (n := 9) rfl rfl 0 rfl ?_
  refine x_geti fl_X1_124_1 rfl hB.1 rfl dX1_holdsAll_9 (n := 12) rfl ?_
  refine x_icmp_ge (tgt := 51) dX1_holdsAll_12 rfl (n := 15) rfl (fun c3 => ?_) (fun c3 => ?_)
  · have h := h.1 c3
    refine x_iconst dX1_holdsAll_51 (n := 52) rfl ic_1 ?_
    exact x_zret rq ⟨hs, h⟩ isB1 dX1_holdsAll_52
  · have h := h.2 c3
    refine x_iload_n dX1_holdsAll_15 (n := 16) rfl rfl 1 rfl ?_
    refine x_iload_n dX1_holdsAll_16 (n := 17) rfl rfl 2 rfl ?_
    refine x_ishr dX1_holdsAll_17 (n := 18) rfl ?_
    refine x_iconst dX1_holdsAll_18 (n := 19) rfl ic_1 ?_
    refine x_iand dX1_holdsAll_19 (n := 20) rfl ?_
    refine x_iconst dX1_holdsAll_20 (n := 21) rfl ic_1 ?_
    refine x_icmp_ne (tgt := 45) dX1_holdsAll_21 rfl (n := 24) rfl (fun c4 => ?_) (fun c4 => ?_)
    · have h := h.2 c4
      refine x_iinc (v := x2 + 1) (lvs' := [(2, .int (x2 + 1)), (0, .ref o), (1, .int x1)]) dX1_holdsAll_45 (n := 48) rfl 2 rfl rfl (by decide) rfl ?_
      refine x_goto (tgt := 7) dX1_holdsAll_48 rfl ?_
      exact x_sub [1, 2, 0] rfl (hK7 (x2 + 1, σ) hs h)
    · have h := h.1 c4
      refine x_aload_n dX1_holdsAll_24 (n := 25) rfl rfl 0 rfl ?_
      refine x_getr fl_X1_81_1 rfl hB.1 hB.r22 dX1_holdsAll_25 (n := 28) rfl ?_
      refine x_iload_n dX1_holdsAll_28 (n := 29) rfl rfl 2 rfl ?_
      obtain ⟨b5, h⟩ := h
      refine x_iald hB.a22 b5 rfl dX1_holdsAll_29 (n := 30) rfl ?_
      refine x_iload_n dX1_holdsAll_30 (n := 31) rfl rfl 2 rfl ?_
      refine x_icmp_ne (tgt := 45) dX1_holdsAll_31 rfl (n := 34) rfl (fun c6 => ?_) (fun c6 => ?_)
      · have h := h.2 c6
        refine x_iinc (v := x2 + 1) (lvs' := [(2, .int (x2 + 1)), (0, .ref o), (1, .int x1)]) dX1_holdsAll_45 (n := 48) rfl 2 rfl rfl (by decide) rfl ?_
        refine x_goto (tgt := 7) dX1_holdsAll_48 rfl ?_
        exact x_sub [1, 2, 0] rfl (hK7 (x2 + 1, σ) hs h)
      · have h := h.1 c6
        refine x_aload_n dX1_holdsAll_34 (n := 35) rfl rfl 0 rfl ?_
        refine x_iload_n dX1_holdsAll_35 (n := 36) rfl rfl 1 rfl ?_
        refine x_iload_n dX1_holdsAll_36 (n := 37) rfl rfl 2 rfl ?_
        refine x_cVim (As := [.int x1, .int x2]) (rest := []) cv_X1_388 ck1 (met_X1_isFit o c σ x1 x2 _ hB h) hB.1 (by decide) rfl rfl rfl dX1_holdsAll_37 (n := 40) rfl (fun r9 s7 hs8 h => ?_)
        have hs8t := hs.tr hs8; have hBs7 := hB0.sh hs8t
        refine x_if_ne (tgt := 45) dX1_holdsAll_40 rfl (n := 43) rfl (fun c10 => ?_) (fun c10 => ?_)
        · have h := h.2 c10
          refine x_iinc (v := x2 + 1) (lvs' := [(2, .int (x2 + 1)), (0, .ref o), (1, .int x1)]) dX1_holdsAll_45 (n := 48) rfl 2 rfl rfl (by decide) rfl ?_
          refine x_goto (tgt := 7) dX1_holdsAll_48 rfl ?_
          exact x_sub [1, 2, 0] rfl (hK7 (x2 + 1, s7) hs8t h)
        · have h := h.1 c10
          refine x_iconst dX1_holdsAll_43 (n := 44) rfl ic_0 ?_
          exact x_zret rq ⟨hs8t, h⟩ isB0 dX1_holdsAll_44
theorem met_X1_holdsAll (o c : Nat) (σ0 : Hp) (x1 : Int32) (Q : Int32 → Hp → Prop) (hB0 : LB o c σ0) (h : wp_X1_holdsAll o c σ0 x1 Q) : MetX yX1_holdsAll cX1_holdsAll 3 (some .boolean) rm_X1_holdsAll σ0 [.ref o, .int x1] (oI (fun r σ' => SH σ0 σ' ∧ Q r σ')) 0 0 := by
  refine metX_of (own := RX1) (lvs := [(0, .ref o), (1, .int x1)]) (by decide) rfl (Nat.le_of_ble_eq_true rfl) rfl (fun G rq => ?_)
  unfold wp_X1_holdsAll at h
  refine x_aload_n dX1_holdsAll_0 (n := 1) rfl rfl 0 rfl ?_
  refine x_iload_n dX1_holdsAll_1 (n := 2) rfl rfl 1 rfl ?_
  refine x_cVvm (As := [.int x1]) (rest := []) cv_X1_385 ck1 (met_X1_link o c σ0 x1 _ hB0 h) hB0.1 (by decide) rfl rfl rfl dX1_holdsAll_2 (n := 5) rfl (fun  s1 hs2 h => ?_)
  have hs2t := (SH.rf (σ := σ0)).tr hs2; have hBs1 := hB0.sh hs2t
  refine x_iconst dX1_holdsAll_5 (n := 6) rfl ic_0 ?_
  refine x_istore_n (lvs' := [(2, .int 0), (0, .ref o), (1, .int x1)]) dX1_holdsAll_6 (n := 7) rfl rfl (by decide) rfl ?_
  exact x_sub [1, 2, 0] rfl (xl_X1_holdsAll_7 o c σ0 Q G hB0 rq x1 (0, s1) hs2t h)
abbrev rm_X1_fits : Room := { frames := 82, cells := 0, slots := 0, locals := 2064 }
def wp_X1_fits (o c : Nat) (σ0 : Hp) (x1 : Int32) (x2 : Int32) (Q : Int32 → Hp → Prop) : Prop := (ok_X1_isNote o c σ0 x1) ∧ (((f_X1_isNote o c σ0 x1) = 0 → Q (-1) σ0) ∧ (¬ (f_X1_isNote o c σ0 x1) = 0 → ((f_X1_in x2.toInt64 0 2) = 0 → Q (-1) σ0) ∧ (¬ (f_X1_in x2.toInt64 0 2) = 0 → wp_X1_holdsAll o c σ0 (f_X1_all o c σ0) (fun r11 s9 => (r11 = 0 → (x2 = 0 → Q 0 s9) ∧ (¬ x2 = 0 → Q (-1) s9)) ∧ (¬ r11 = 0 → (vp_in x1 12) ∧ (wp_X1_fit o c s9 (f_X1_all o c s9) (gI s9 (o + 36) x1.toNatClampNeg) (fun r18 s16 => (x2 = 0 → Q (gI s16 o 24) s16) ∧ (¬ x2 = 0 → (x2 = 1 → (vp_in x1 12) ∧ (Q ((gI s16 o 25) + (gI s16 (o + 37) x1.toNatClampNeg)) s16)) ∧ (¬ x2 = 1 → (vp_in x1 12) ∧ (Q ((gI s16 o 26) + (gI s16 (o + 37) x1.toNatClampNeg)) s16))))))))))
theorem met_X1_fits (o c : Nat) (σ0 : Hp) (x1 : Int32) (x2 : Int32) (Q : Int32 → Hp → Prop) (hB0 : LB o c σ0) (h : wp_X1_fits o c σ0 x1 x2 Q) : MetX yX1_fits cX1_fits 3 (some .int) rm_X1_fits σ0 [.ref o, .int x1, .int x2] (oI (fun r σ' => SH σ0 σ' ∧ Q r σ')) 0 0 := by
  refine metX_of (own := RX1) (lvs := [(0, .ref o), (1, .int x1), (2, .int x2)]) (by decide) rfl (Nat.le_of_ble_eq_true rfl) rfl (fun G rq => ?_)
  unfold wp_X1_fits at h
  refine x_aload_n dX1_fits_0 (n := 1) rfl rfl 0 rfl ?_
  refine x_iload_n dX1_fits_1 (n := 2) rfl rfl 1 rfl ?_
  obtain ⟨b1, h⟩ := h
  refine x_cVip (As := [.int x1]) (rest := []) cv_X1_410 ck1 (met_X1_isNote o c σ0 x1 hB0 b1) hB0.1 (by decide) rfl rfl rfl dX1_fits_2 (n := 5) rfl (fun r2 q => ?_)
  subst q
  refine x_if_eq (tgt := 20) dX1_fits_5 rfl (n := 8) rfl (fun c3 => ?_) (fun c3 => ?_)
  · have h := h.1 c3
    refine x_iconst dX1_fits_20 (n := 21) rfl ic_m1 ?_
    exact x_iret rq ⟨(SH.rf (σ := σ0)), h⟩ dX1_fits_21
  · have h := h.2 c3
    refine x_iload_n dX1_fits_8 (n := 9) rfl rfl 2 rfl ?_
    refine x_i2l dX1_fits_9 (n := 10) rfl ?_
    refine x_lconst dX1_fits_10 (n := 11) rfl lc_0 ?_
    refine x_ldc2 dX1_fits_11 (n := 14) rfl q1262 ?_
    refine x_cSip (As := [.long x2.toInt64, .long 0, .long 2]) (rest := []) cs_X1_96 (met_X1_in σ0 x2.toInt64 0 2 ) (by decide) rfl rfl rfl dX1_fits_14 (n := 17) rfl (fun r5 q => ?_)
    subst q
    refine x_if_ne (tgt := 22) dX1_fits_17 rfl (n := 20) rfl (fun c6 => ?_) (fun c6 => ?_)
    · have h := h.2 c6
      refine x_aload_n dX1_fits_22 (n := 23) rfl rfl 0 rfl ?_
      refine x_aload_n dX1_fits_23 (n := 24) rfl rfl 0 rfl ?_
      refine x_cVip (As := []) (rest := [.ref o]) cv_X1_416 ck1 (met_X1_all o c σ0 hB0) hB0.1 (by decide) rfl rfl rfl dX1_fits_24 (n := 27) rfl (fun r8 q => ?_)
      subst q
      refine x_cVim (As := [.int (f_X1_all o c σ0)]) (rest := []) cv_X1_419 ck1 (met_X1_holdsAll o c σ0 (f_X1_all o c σ0) _ hB0 h) hB0.1 (by decide) rfl rfl rfl dX1_fits_27 (n := 30) rfl (fun r11 s9 hs10 h => ?_)
      have hs10t := (SH.rf (σ := σ0)).tr hs10; have hBs9 := hB0.sh hs10t
      refine x_if_ne (tgt := 43) dX1_fits_30 rfl (n := 33) rfl (fun c12 => ?_) (fun c12 => ?_)
      · have h := h.2 c12
        refine x_aload_n dX1_fits_43 (n := 44) rfl rfl 0 rfl ?_
        refine x_aload_n dX1_fits_44 (n := 45) rfl rfl 0 rfl ?_
        refine x_cVip (As := []) (rest := [.ref o]) cv_X1_416 ck1 (met_X1_all o c s9 hBs9) hBs9.1 (by decide) rfl rfl rfl dX1_fits_45 (n := 48) rfl (fun r14 q => ?_)
        subst q
        refine x_aload_n dX1_fits_48 (n := 49) rfl rfl 0 rfl ?_
        refine x_getr fl_X1_81_1 rfl hBs9.1 hBs9.r22 dX1_fits_49 (n := 52) rfl ?_
        refine x_iload_n dX1_fits_52 (n := 53) rfl rfl 1 rfl ?_
        obtain ⟨b15, h⟩ := h
        refine x_iald hBs9.a22 b15 rfl dX1_fits_53 (n := 54) rfl ?_
        refine x_cVim (As := [.int (f_X1_all o c s9), .int (gI s9 (o + 36) x1.toNatClampNeg)]) (rest := []) cv_X1_413 ck1 (met_X1_fit o c s9 (f_X1_all o c s9) (gI s9 (o + 36) x1.toNatClampNeg) _ hBs9 h) hBs9.1 (by decide) rfl rfl rfl dX1_fits_54 (n := 57) rfl (fun r18 s16 hs17 h => ?_)
        have hs17t := hs10t.tr hs17; have hBs16 := hB0.sh hs17t
        refine x_pop dX1_fits_57 (n := 58) rfl rfl ?_
        refine x_iload_n dX1_fits_58 (n := 59) rfl rfl 2 rfl ?_
        refine x_if_ne (tgt := 69) dX1_fits_59 rfl (n := 62) rfl (fun c19 => ?_) (fun c19 => ?_)
        · have h := h.2 c19
          refine x_iload_n dX1_fits_69 (n := 70) rfl rfl 2 rfl ?_
          refine x_iconst dX1_fits_70 (n := 71) rfl ic_1 ?_
          refine x_icmp_ne (tgt := 81) dX1_fits_71 rfl (n := 74) rfl (fun c20 => ?_) (fun c20 => ?_)
          · have h := h.2 c20
            refine x_aload_n dX1_fits_81 (n := 82) rfl rfl 0 rfl ?_
            refine x_geti fl_X1_378_1 rfl hBs16.1 rfl dX1_fits_82 (n := 85) rfl ?_
            refine x_aload_n dX1_fits_85 (n := 86) rfl rfl 0 rfl ?_
            refine x_getr fl_X1_84_1 rfl hBs16.1 hBs16.r23 dX1_fits_86 (n := 89) rfl ?_
            refine x_iload_n dX1_fits_89 (n := 90) rfl rfl 1 rfl ?_
            obtain ⟨b21, h⟩ := h
            refine x_iald hBs16.a23 b21 rfl dX1_fits_90 (n := 91) rfl ?_
            refine x_iadd dX1_fits_91 (n := 92) rfl ?_
            exact x_iret rq ⟨hs17t, h⟩ dX1_fits_92
          · have h := h.1 c20
            refine x_aload_n dX1_fits_74 (n := 75) rfl rfl 0 rfl ?_
            refine x_geti fl_X1_375_1 rfl hBs16.1 rfl dX1_fits_75 (n := 78) rfl ?_
            refine x_goto (tgt := 85) dX1_fits_78 rfl ?_
            refine x_aload_n dX1_fits_85 (n := 86) rfl rfl 0 rfl ?_
            refine x_getr fl_X1_84_1 rfl hBs16.1 hBs16.r23 dX1_fits_86 (n := 89) rfl ?_
            refine x_iload_n dX1_fits_89 (n := 90) rfl rfl 1 rfl ?_
            obtain ⟨b22, h⟩ := h
            refine x_iald hBs16.a23 b22 rfl dX1_fits_90 (n := 91) rfl ?_
            refine x_iadd dX1_fits_91 (n := 92) rfl ?_
            exact x_iret rq ⟨hs17t, h⟩ dX1_fits_92
        · have h := h.1 c19
          refine x_aload_n dX1_fits_62 (n := 63) rfl rfl 0 rfl ?_
          refine x_geti fl_X1_372_1 rfl hBs16.1 rfl dX1_fits_63 (n := 66) rfl ?_
          refine x_goto (tgt := 92) dX1_fits_66 rfl ?_
          exact x_iret rq ⟨hs17t, h⟩ dX1_fits_92
      · have h := h.1 c12
        refine x_iload_n dX1_fits_33 (n := 34) rfl rfl 2 rfl ?_
        refine x_if_ne (tgt := 41) dX1_fits_34 rfl (n := 37) rfl (fun c23 => ?_) (fun c23 => ?_)
        · have h := h.2 c23
          refine x_iconst dX1_fits_41 (n := 42) rfl ic_m1 ?_
          exact x_iret rq ⟨hs10t, h⟩ dX1_fits_42
        · have h := h.1 c23
          refine x_iconst dX1_fits_37 (n := 38) rfl ic_0 ?_
          refine x_goto (tgt := 42) dX1_fits_38 rfl ?_
          exact x_iret rq ⟨hs10t, h⟩ dX1_fits_42
    · have h := h.1 c6
      refine x_iconst dX1_fits_20 (n := 21) rfl ic_m1 ?_
      exact x_iret rq ⟨(SH.rf (σ := σ0)), h⟩ dX1_fits_21
abbrev rm_X1_gap : Room := { frames := 82, cells := 0, slots := 0, locals := 2064 }
def lb_X1_gap_25 (o c : Nat) (x1 : Int32) (Q : Int32 → Hp → Prop) (K15 : (Int32 × Hp) → Prop) (K25 : Int32 × Hp → Prop) (z : Int32 × Hp) : Prop := match z with
  | (x2, σ) => ((f_X1_all o c σ) < x2 → K15 (x1 + 1, σ)) ∧ (¬ (f_X1_all o c σ) < x2 → ((f_J18_bitCount x2) = x1 → wp_X1_isOne o c σ x2 (fun r16 s14 => (r16 = 0 → K25 (x2 + 1, s14)) ∧ (¬ r16 = 0 → wp_X1_holdsAll o c s14 x2 (fun r20 s18 => (r20 = 0 → Q x2 s18) ∧ (¬ r20 = 0 → K25 (x2 + 1, s18)))))) ∧ (¬ (f_J18_bitCount x2) = x1 → K25 (x2 + 1, σ)))
def lb_X1_gap_15 (o c : Nat)  (Q : Int32 → Hp → Prop)  (K15 : Int32 × Hp → Prop) (z : Int32 × Hp) : Prop := match z with
  | (x1, σ) => ((gI σ o 9) < x1 → Q 0 σ) ∧ (¬ (gI σ o 9) < x1 → lp (lb_X1_gap_25 o c x1 Q K15) (1, σ))
def wp_X1_gap (o c : Nat) (σ0 : Hp) (Q : Int32 → Hp → Prop) : Prop := wp_X1_holdsAll o c σ0 (f_X1_all o c σ0) (fun r5 s3 => (r5 = 0 → lp (lb_X1_gap_15 o c Q) (1, s3)) ∧ (¬ r5 = 0 → Q 0 s3))
theorem xl_X1_gap_25 (o c : Nat) (σ0 : Hp) (Q : Int32 → Hp → Prop) (G : XE) (hB0 : LB o c σ0) (rq : RQ G 0 0 (oI (fun r σ' => SH σ0 σ' ∧ Q r σ'))) (x1 : Int32)  (K15 : (Int32 × Hp) → Prop) (hK15 : ∀ z : (Int32 × Hp), SH σ0 z.2 → K15 z → X G rm_X1_gap cX1_gap RX1 3 (some .int) z.2 0 0 15 [(0, .ref o), (1, .int z.1)] []) : ∀ z : Int32 × Hp, SH σ0 z.2 → lp (lb_X1_gap_25 o c x1 Q K15) z → X G rm_X1_gap cX1_gap RX1 3 (some .int) z.2 0 0 25 [(0, .ref o), (1, .int x1), (2, .int z.1)] [] := by
  intro z
  refine fun hs h => lp_X (P := fun z => SH σ0 z.2 → X G rm_X1_gap cX1_gap RX1 3 (some .int) z.2 0 0 25 [(0, .ref o), (1, .int x1), (2, .int z.1)] []) ?_ h hs
  intro K25 hK25 z h hs
  obtain ⟨x2, σ⟩ := z
  have hs : SH σ0 σ := hs
  have hB := hB0.sh hs
  simp only [lb_X1_gap_25] at h
  show X G rm_X1_gap cX1_gap RX1 3 (some .int) σ 0 0 25 [(0, .ref o), (1, .int x1), (2, .int x2)] []
  have hK25 : ∀ z : (Int32 × Hp), SH σ0 z.2 → K25 z → X G rm_X1_gap cX1_gap RX1 3 (some .int) z.2 0 0 25 [(0, .ref o), (1, .int x1), (2, .int z.1)] [] := fun z hs h => hK25 z h hs
  refine x_iload_n dX1_gap_25 (n := 26) rfl rfl 2 rfl ?_
  refine x_aload_n dX1_gap_26 (n := 27) rfl rfl 0 rfl ?_
  refine x_cVip (As := []) (rest := [.int x2]) cv_X1_416 ck1 (met_X1_all o c σ hB) hB.1 (by decide) rfl rfl rfl dX1_gap_27 (n := 30) rfl (fun r9 q => ?_)
  subst q
  refine x_icmp_gt (tgt := 65) dX1_gap_30 rfl (n := 33) rfl (fun c10 => ?_) (fun c10 => ?_)
  · have h := h.1 c10
    refine x_iinc (v := x1 + 1) (lvs' := [(1, .int (x1 + 1)), (0, .ref o), (2, .int x2)]) dX1_gap_65 (n := 68) rfl 1 rfl rfl (by decide) rfl ?_
    refine x_goto (tgt := 15) dX1_gap_68 rfl ?_
    exact x_sub [1, 0] rfl (hK15 (x1 + 1, σ) hs h)
  · have h := h.2 c10
    refine x_iload_n dX1_gap_33 (n := 34) rfl rfl 2 rfl ?_
    refine x_cSip (As := [.int x2]) (rest := []) cs_X1_422 (met_J18_bitCount σ x2 ) (by decide) rfl rfl rfl dX1_gap_34 (n := 37) rfl (fun r12 q => ?_)
    subst q
    refine x_iload_n dX1_gap_37 (n := 38) rfl rfl 1 rfl ?_
    refine x_icmp_ne (tgt := 59) dX1_gap_38 rfl (n := 41) rfl (fun c13 => ?_) (fun c13 => ?_)
    · have h := h.2 c13
      refine x_iinc (v := x2 + 1) (lvs' := [(2, .int (x2 + 1)), (0, .ref o), (1, .int x1)]) dX1_gap_59 (n := 62) rfl 2 rfl rfl (by decide) rfl ?_
      refine x_goto (tgt := 25) dX1_gap_62 rfl ?_
      exact x_sub [1, 2, 0] rfl (hK25 (x2 + 1, σ) hs h)
    · have h := h.1 c13
      refine x_aload_n dX1_gap_41 (n := 42) rfl rfl 0 rfl ?_
      refine x_iload_n dX1_gap_42 (n := 43) rfl rfl 2 rfl ?_
      refine x_cVim (As := [.int x2]) (rest := []) cv_X1_428 ck1 (met_X1_isOne o c σ x2 _ hB h) hB.1 (by decide) rfl rfl rfl dX1_gap_43 (n := 46) rfl (fun r16 s14 hs15 h => ?_)
      have hs15t := hs.tr hs15; have hBs14 := hB0.sh hs15t
      refine x_if_eq (tgt := 59) dX1_gap_46 rfl (n := 49) rfl (fun c17 => ?_) (fun c17 => ?_)
      · have h := h.1 c17
        refine x_iinc (v := x2 + 1) (lvs' := [(2, .int (x2 + 1)), (0, .ref o), (1, .int x1)]) dX1_gap_59 (n := 62) rfl 2 rfl rfl (by decide) rfl ?_
        refine x_goto (tgt := 25) dX1_gap_62 rfl ?_
        exact x_sub [1, 2, 0] rfl (hK25 (x2 + 1, s14) hs15t h)
      · have h := h.2 c17
        refine x_aload_n dX1_gap_49 (n := 50) rfl rfl 0 rfl ?_
        refine x_iload_n dX1_gap_50 (n := 51) rfl rfl 2 rfl ?_
        refine x_cVim (As := [.int x2]) (rest := []) cv_X1_419 ck1 (met_X1_holdsAll o c s14 x2 _ hBs14 h) hBs14.1 (by decide) rfl rfl rfl dX1_gap_51 (n := 54) rfl (fun r20 s18 hs19 h => ?_)
        have hs19t := hs15t.tr hs19; have hBs18 := hB0.sh hs19t
        refine x_if_ne (tgt := 59) dX1_gap_54 rfl (n := 57) rfl (fun c21 => ?_) (fun c21 => ?_)
        · have h := h.2 c21
          refine x_iinc (v := x2 + 1) (lvs' := [(2, .int (x2 + 1)), (0, .ref o), (1, .int x1)]) dX1_gap_59 (n := 62) rfl 2 rfl rfl (by decide) rfl ?_
          refine x_goto (tgt := 25) dX1_gap_62 rfl ?_
          exact x_sub [1, 2, 0] rfl (hK25 (x2 + 1, s18) hs19t h)
        · have h := h.1 c21
          refine x_iload_n dX1_gap_57 (n := 58) rfl rfl 2 rfl ?_
          exact x_iret rq ⟨hs19t, h⟩ dX1_gap_58
theorem xl_X1_gap_15 (o c : Nat) (σ0 : Hp) (Q : Int32 → Hp → Prop) (G : XE) (hB0 : LB o c σ0) (rq : RQ G 0 0 (oI (fun r σ' => SH σ0 σ' ∧ Q r σ')))     : ∀ z : Int32 × Hp, SH σ0 z.2 → lp (lb_X1_gap_15 o c  Q ) z → X G rm_X1_gap cX1_gap RX1 3 (some .int) z.2 0 0 15 [(0, .ref o), (1, .int z.1)] [] := by
  intro z
  refine fun hs h => lp_X (P := fun z => SH σ0 z.2 → X G rm_X1_gap cX1_gap RX1 3 (some .int) z.2 0 0 15 [(0, .ref o), (1, .int z.1)] []) ?_ h hs
  intro K15 hK15 z h hs
  obtain ⟨x1, σ⟩ := z
  have hs : SH σ0 σ := hs
  have hB := hB0.sh hs
  simp only [lb_X1_gap_15] at h
  show X G rm_X1_gap cX1_gap RX1 3 (some .int) σ 0 0 15 [(0, .ref o), (1, .int x1)] []
  have hK15 : ∀ z : (Int32 × Hp), SH σ0 z.2 → K15 z → X G rm_X1_gap cX1_gap RX1 3 (some .int) z.2 0 0 15 [(0, .ref o), (1, .int z.1)] [] := fun z hs h => hK15 z h hs
  refine x_iload_n dX1_gap_15 (n := 16) rfl rfl 1 rfl ?_
  refine x_aload_n dX1_gap_16 (n := 17) rfl rfl 0 rfl ?_
  refine x_geti fl_X1_124_1 rfl hB.1 rfl dX1_gap_17 (n := 20) rfl ?_
  refine x_icmp_gt (tgt := 71) dX1_gap_20 rfl (n := 23) rfl (fun c7 => ?_) (fun c7 => ?_)
  · have h := h.1 c7
    refine x_iconst dX1_gap_71 (n := 72) rfl ic_0 ?_
    exact x_iret rq ⟨hs, h⟩ dX1_gap_72
  · have h := h.2 c7
    refine x_iconst dX1_gap_23 (n := 24) rfl ic_1 ?_
    refine x_istore_n (lvs' := [(2, .int 1), (0, .ref o), (1, .int x1)]) dX1_gap_24 (n := 25) rfl rfl (by decide) rfl ?_
    exact x_sub [1, 2, 0] rfl (xl_X1_gap_25 o c σ0 Q G hB0 rq x1 K15 hK15 (1, σ) hs h)
theorem met_X1_gap (o c : Nat) (σ0 : Hp) (Q : Int32 → Hp → Prop) (hB0 : LB o c σ0) (h : wp_X1_gap o c σ0 Q) : MetX yX1_gap cX1_gap 3 (some .int) rm_X1_gap σ0 [.ref o] (oI (fun r σ' => SH σ0 σ' ∧ Q r σ')) 0 0 := by
  refine metX_of (own := RX1) (lvs := [(0, .ref o)]) (by decide) rfl (Nat.le_of_ble_eq_true rfl) rfl (fun G rq => ?_)
  unfold wp_X1_gap at h
  refine x_aload_n dX1_gap_0 (n := 1) rfl rfl 0 rfl ?_
  refine x_aload_n dX1_gap_1 (n := 2) rfl rfl 0 rfl ?_
  refine x_cVip (As := []) (rest := [.ref o]) cv_X1_416 ck1 (met_X1_all o c σ0 hB0) hB0.1 (by decide) rfl rfl rfl dX1_gap_2 (n := 5) rfl (fun r2 q => ?_)
  subst q
  refine x_cVim (As := [.int (f_X1_all o c σ0)]) (rest := []) cv_X1_419 ck1 (met_X1_holdsAll o c σ0 (f_X1_all o c σ0) _ hB0 h) hB0.1 (by decide) rfl rfl rfl dX1_gap_5 (n := 8) rfl (fun r5 s3 hs4 h => ?_)
  have hs4t := (SH.rf (σ := σ0)).tr hs4; have hBs3 := hB0.sh hs4t
  refine x_if_eq (tgt := 13) dX1_gap_8 rfl (n := 11) rfl (fun c6 => ?_) (fun c6 => ?_)
  · have h := h.1 c6
    refine x_iconst dX1_gap_13 (n := 14) rfl ic_1 ?_
    refine x_istore_n (lvs' := [(1, .int 1), (0, .ref o)]) dX1_gap_14 (n := 15) rfl rfl (by decide) rfl ?_
    exact x_sub [1, 0] rfl (xl_X1_gap_15 o c σ0 Q G hB0 rq (1, s3) hs4t h)
  · have h := h.2 c6
    refine x_iconst dX1_gap_11 (n := 12) rfl ic_0 ?_
    exact x_iret rq ⟨hs4t, h⟩ dX1_gap_12
abbrev rm_X1_isTrue : Room := { frames := 79, cells := 0, slots := 0, locals := 1995 }
def lb_X1_isTrue_38 (o c : Nat) (x1 : Int32) (r2 : Nat) (Q : Int32 → Hp → Prop)  (K38 : Int32 × Hp → Prop) (z : Int32 × Hp) : Prop := match z with
  | (x3, σ) => (x3 < 0 → Q 1 σ) ∧ (¬ x3 < 0 → ((f_X5_has r2 σ 7) = 0 → Q 1 σ) ∧ (¬ (f_X5_has r2 σ 7) = 0 → (vp_in x3 20) ∧ (((gI σ (o + 18) x3.toNatClampNeg) = (gI σ (r2 + 1) 7) → (vp_in x1 20) ∧ ((vp_in x3 20) ∧ (((gI σ (o + 19) x1.toNatClampNeg) = ((gI σ (o + 19) x3.toNatClampNeg) + (gI σ (r2 + 2) 7)) → Q 1 σ) ∧ (¬ (gI σ (o + 19) x1.toNatClampNeg) = ((gI σ (o + 19) x3.toNatClampNeg) + (gI σ (r2 + 2) 7)) → Q 0 σ)))) ∧ (¬ (gI σ (o + 18) x3.toNatClampNeg) = (gI σ (r2 + 1) 7) → K38 (x3 + (-1), σ)))))
def wp_X1_isTrue (o c : Nat) (σ0 : Hp) (x1 : Int32) (Q : Int32 → Hp → Prop) : Prop := (vp_in x1 20) ∧ ((vp_in (gI σ0 (o + 18) x1.toNatClampNeg) 12) ∧ ((vp_in x1 20) ∧ ((vp_in x1 20) ∧ (wp_X1_can o c σ0 (gI σ0 (o + 18) x1.toNatClampNeg) ((gI σ0 (o + 19) x1.toNatClampNeg).toInt64) (fun r7 s5 => (r7 = 0 → Q 0 s5) ∧ (¬ r7 = 0 → lp (lb_X1_isTrue_38 o c x1 (o + 38 + 6 * (gI σ0 (o + 18) x1.toNatClampNeg).toNatClampNeg) Q) (x1 - 1, s5)))))))
theorem xl_X1_isTrue_38 (o c : Nat) (σ0 : Hp) (Q : Int32 → Hp → Prop) (G : XE) (hB0 : LB o c σ0) (rq : RQ G 0 0 (oI (fun r σ' => SH σ0 σ' ∧ Q r σ'))) (x1 : Int32) (r2 : Nat) (hr2 : NB r2 σ0)   : ∀ z : Int32 × Hp, SH σ0 z.2 → lp (lb_X1_isTrue_38 o c x1 r2 Q ) z → X G rm_X1_isTrue cX1_isTrue RX1 4 (some .boolean) z.2 0 0 38 [(0, .ref o), (1, .int x1), (2, .ref r2), (3, .int z.1)] [] := by
  intro z
  refine fun hs h => lp_X (P := fun z => SH σ0 z.2 → X G rm_X1_isTrue cX1_isTrue RX1 4 (some .boolean) z.2 0 0 38 [(0, .ref o), (1, .int x1), (2, .ref r2), (3, .int z.1)] []) ?_ h hs
  intro K38 hK38 z h hs
  obtain ⟨x3, σ⟩ := z
  have hs : SH σ0 σ := hs
  have hB := hB0.sh hs
  simp only [lb_X1_isTrue_38] at h
  show X G rm_X1_isTrue cX1_isTrue RX1 4 (some .boolean) σ 0 0 38 [(0, .ref o), (1, .int x1), (2, .ref r2), (3, .int x3)] []
  have hK38 : ∀ z : (Int32 × Hp), SH σ0 z.2 → K38 z → X G rm_X1_isTrue cX1_isTrue RX1 4 (some .boolean) z.2 0 0 38 [(0, .ref o), (1, .int x1), (2, .ref r2), (3, .int z.1)] [] := fun z hs h => hK38 z h hs
  refine x_iload_n dX1_isTrue_38 (n := 39) rfl rfl 3 rfl ?_
  refine x_if_lt (tgt := 102) dX1_isTrue_39 rfl (n := 42) rfl (fun c9 => ?_) (fun c9 => ?_)
  · have h := h.1 c9
    refine x_iconst dX1_isTrue_102 (n := 103) rfl ic_1 ?_
    exact x_zret rq ⟨hs, h⟩ isB1 dX1_isTrue_103
  · have h := h.2 c9
    refine x_aload_n dX1_isTrue_42 (n := 43) rfl rfl 2 rfl ?_
    refine x_bipush dX1_isTrue_43 (n := 45) rfl bp_7 ?_
    refine x_cVip (As := [.int 7]) (rest := []) cv_X1_347 ck5 (met_X5_has r2 σ 7 (hr2.sh hs)) (hr2.sh hs).1 (by decide) rfl rfl rfl dX1_isTrue_45 (n := 48) rfl (fun r11 q => ?_)
    subst q
    refine x_if_eq (tgt := 102) dX1_isTrue_48 rfl (n := 51) rfl (fun c12 => ?_) (fun c12 => ?_)
    · have h := h.1 c12
      refine x_iconst dX1_isTrue_102 (n := 103) rfl ic_1 ?_
      exact x_zret rq ⟨hs, h⟩ isB1 dX1_isTrue_103
    · have h := h.2 c12
      refine x_aload_n dX1_isTrue_51 (n := 52) rfl rfl 0 rfl ?_
      refine x_getr fl_X1_60_1 rfl hB.1 hB.r16 dX1_isTrue_52 (n := 55) rfl ?_
      refine x_iload_n dX1_isTrue_55 (n := 56) rfl rfl 3 rfl ?_
      obtain ⟨b13, h⟩ := h
      refine x_iald hB.a16 b13 rfl dX1_isTrue_56 (n := 57) rfl ?_
      refine x_aload_n dX1_isTrue_57 (n := 58) rfl rfl 2 rfl ?_
      refine x_getr fl_X1_349_5 rfl (hr2.sh hs).1 (hr2.sh hs).2.1 dX1_isTrue_58 (n := 61) rfl ?_
      refine x_bipush dX1_isTrue_61 (n := 63) rfl bp_7 ?_
      refine x_iald (hr2.sh hs).2.2.1 (vin_of (by decide) tn_7 rfl) tn_7 dX1_isTrue_63 (n := 64) rfl ?_
      refine x_icmp_ne (tgt := 96) dX1_isTrue_64 rfl (n := 67) rfl (fun c14 => ?_) (fun c14 => ?_)
      · have h := h.2 c14
        refine x_iinc (v := x3 + (-1)) (lvs' := [(3, .int (x3 + (-1))), (0, .ref o), (1, .int x1), (2, .ref r2)]) dX1_isTrue_96 (n := 99) rfl 3 rfl rfl (by decide) rfl ?_
        refine x_goto (tgt := 38) dX1_isTrue_99 rfl ?_
        exact x_sub [1, 2, 3, 0] rfl (hK38 (x3 + (-1), σ) hs h)
      · have h := h.1 c14
        refine x_aload_n dX1_isTrue_67 (n := 68) rfl rfl 0 rfl ?_
        refine x_getr fl_X1_63_1 rfl hB.1 hB.r17 dX1_isTrue_68 (n := 71) rfl ?_
        refine x_iload_n dX1_isTrue_71 (n := 72) rfl rfl 1 rfl ?_
        obtain ⟨b15, h⟩ := h
        refine x_iald hB.a17 b15 rfl dX1_isTrue_72 (n := 73) rfl ?_
        refine x_aload_n dX1_isTrue_73 (n := 74) rfl rfl 0 rfl ?_
        refine x_getr fl_X1_63_1 rfl hB.1 hB.r17 dX1_isTrue_74 (n := 77) rfl ?_
        refine x_iload_n dX1_isTrue_77 (n := 78) rfl rfl 3 rfl ?_
        obtain ⟨b16, h⟩ := h
        refine x_iald hB.a17 b16 rfl dX1_isTrue_78 (n := 79) rfl ?_
        refine x_aload_n dX1_isTrue_79 (n := 80) rfl rfl 2 rfl ?_
        refine x_getr fl_X1_352_5 rfl (hr2.sh hs).1 (hr2.sh hs).2.2.2.1 dX1_isTrue_80 (n := 83) rfl ?_
        refine x_bipush dX1_isTrue_83 (n := 85) rfl bp_7 ?_
        refine x_iald (hr2.sh hs).2.2.2.2 (vin_of (by decide) tn_7 rfl) tn_7 dX1_isTrue_85 (n := 86) rfl ?_
        refine x_iadd dX1_isTrue_86 (n := 87) rfl ?_
        refine x_icmp_ne (tgt := 94) dX1_isTrue_87 rfl (n := 90) rfl (fun c17 => ?_) (fun c17 => ?_)
        · have h := h.2 c17
          refine x_iconst dX1_isTrue_94 (n := 95) rfl ic_0 ?_
          exact x_zret rq ⟨hs, h⟩ isB0 dX1_isTrue_95
        · have h := h.1 c17
          refine x_iconst dX1_isTrue_90 (n := 91) rfl ic_1 ?_
          refine x_goto (tgt := 95) dX1_isTrue_91 rfl ?_
          exact x_zret rq ⟨hs, h⟩ isB1 dX1_isTrue_95
theorem met_X1_isTrue (o c : Nat) (σ0 : Hp) (x1 : Int32) (Q : Int32 → Hp → Prop) (hB0 : LB o c σ0) (h : wp_X1_isTrue o c σ0 x1 Q) : MetX yX1_isTrue cX1_isTrue 4 (some .boolean) rm_X1_isTrue σ0 [.ref o, .int x1] (oI (fun r σ' => SH σ0 σ' ∧ Q r σ')) 0 0 := by
  refine metX_of (own := RX1) (lvs := [(0, .ref o), (1, .int x1)]) (by decide) rfl (Nat.le_of_ble_eq_true rfl) rfl (fun G rq => ?_)
  unfold wp_X1_isTrue at h
  refine x_aload_n dX1_isTrue_0 (n := 1) rfl rfl 0 rfl ?_
  refine x_getr fl_X1_49_1 rfl hB0.1 hB0.r7 dX1_isTrue_1 (n := 4) rfl ?_
  refine x_aload_n dX1_isTrue_4 (n := 5) rfl rfl 0 rfl ?_
  refine x_getr fl_X1_60_1 rfl hB0.1 hB0.r16 dX1_isTrue_5 (n := 8) rfl ?_
  refine x_iload_n dX1_isTrue_8 (n := 9) rfl rfl 1 rfl ?_
  obtain ⟨b1, h⟩ := h
  refine x_iald hB0.a16 b1 rfl dX1_isTrue_9 (n := 10) rfl ?_
  obtain ⟨b2, h⟩ := h
  refine x_aald at_note rfl hB0.a7 b2 rfl (hB0.n7 b2) dX1_isTrue_10 (n := 11) rfl ?_
  refine x_astore_n (lvs' := [(2, .ref (o + 38 + 6 * (gI σ0 (o + 18) x1.toNatClampNeg).toNatClampNeg)), (0, .ref o), (1, .int x1)]) dX1_isTrue_11 (n := 12) rfl rfl (by decide) rfl ?_
  refine x_aload_n dX1_isTrue_12 (n := 13) rfl rfl 1 rfl ?_
  refine x_aload_n dX1_isTrue_13 (n := 14) rfl rfl 1 rfl ?_
  refine x_getr fl_X1_60_1 rfl hB0.1 hB0.r16 dX1_isTrue_14 (n := 17) rfl ?_
  refine x_iload_n dX1_isTrue_17 (n := 18) rfl rfl 2 rfl ?_
  obtain ⟨b3, h⟩ := h
  refine x_iald hB0.a16 b3 rfl dX1_isTrue_18 (n := 19) rfl ?_
  refine x_aload_n dX1_isTrue_19 (n := 20) rfl rfl 1 rfl ?_
  refine x_getr fl_X1_63_1 rfl hB0.1 hB0.r17 dX1_isTrue_20 (n := 23) rfl ?_
  refine x_iload_n dX1_isTrue_23 (n := 24) rfl rfl 2 rfl ?_
  obtain ⟨b4, h⟩ := h
  refine x_iald hB0.a17 b4 rfl dX1_isTrue_24 (n := 25) rfl ?_
  refine x_i2l dX1_isTrue_25 (n := 26) rfl ?_
  refine x_cVim (As := [.int (gI σ0 (o + 18) x1.toNatClampNeg), .long ((gI σ0 (o + 19) x1.toNatClampNeg).toInt64)]) (rest := []) cv_X1_369 ck1 (met_X1_can o c σ0 (gI σ0 (o + 18) x1.toNatClampNeg) ((gI σ0 (o + 19) x1.toNatClampNeg).toInt64) _ hB0 h) hB0.1 (by decide) rfl rfl rfl dX1_isTrue_26 (n := 29) rfl (fun r7 s5 hs6 h => ?_)
  have hs6t := (SH.rf (σ := σ0)).tr hs6; have hBs5 := hB0.sh hs6t
  refine x_if_ne (tgt := 34) dX1_isTrue_29 rfl (n := 32) rfl (fun c8 => ?_) (fun c8 => ?_)
  · have h := h.2 c8
    refine x_iload_n dX1_isTrue_34 (n := 35) rfl rfl 2 rfl ?_
    refine x_iconst dX1_isTrue_35 (n := 36) rfl ic_1 ?_
    refine x_isub dX1_isTrue_36 (n := 37) rfl ?_
    refine x_istore_n (lvs' := [(3, .int (x1 - 1)), (2, .ref (o + 38 + 6 * (gI σ0 (o + 18) x1.toNatClampNeg).toNatClampNeg)), (0, .ref o), (1, .int x1)]) dX1_isTrue_37 (n := 38) rfl rfl (by decide) rfl ?_
    exact x_sub [2, 3, 1, 0] rfl (xl_X1_isTrue_38 o c σ0 Q G hB0 rq x1 (o + 38 + 6 * (gI σ0 (o + 18) x1.toNatClampNeg).toNatClampNeg) ((hBs5.b7 b2).sh hs6t.sy) (x1 - 1, s5) hs6t h)
  · have h := h.1 c8
    refine x_iconst dX1_isTrue_32 (n := 33) rfl ic_0 ?_
    exact x_zret rq ⟨hs6t, h⟩ isB0 dX1_isTrue_33
abbrev rm_X1_judged : Room := { frames := 80, cells := 0, slots := 0, locals := 2018 }
def lb_X1_judged_2 (o c : Nat)  (Q : Int32 → Hp → Prop)  (K2 : Int32 × Hp → Prop) (z : Int32 × Hp) : Prop := match z with
  | (x1, σ) => ((gI σ o 11) ≤ x1 → Q (gI σ o 11) σ) ∧ (¬ (gI σ o 11) ≤ x1 → (vp_in x1 20) ∧ ((ok_X1_isNote o c σ (gI σ (o + 18) x1.toNatClampNeg)) ∧ (((f_X1_isNote o c σ (gI σ (o + 18) x1.toNatClampNeg)) = 0 → Q x1 σ) ∧ (¬ (f_X1_isNote o c σ (gI σ (o + 18) x1.toNatClampNeg)) = 0 → wp_X1_isTrue o c σ x1 (fun r8 s6 => (r8 = 0 → Q x1 s6) ∧ (¬ r8 = 0 → K2 (x1 + 1, s6)))))))
def wp_X1_judged (o c : Nat) (σ0 : Hp) (Q : Int32 → Hp → Prop) : Prop := lp (lb_X1_judged_2 o c Q) (0, σ0)
theorem xl_X1_judged_2 (o c : Nat) (σ0 : Hp) (Q : Int32 → Hp → Prop) (G : XE) (hB0 : LB o c σ0) (rq : RQ G 0 0 (oI (fun r σ' => SH σ0 σ' ∧ Q r σ')))     : ∀ z : Int32 × Hp, SH σ0 z.2 → lp (lb_X1_judged_2 o c  Q ) z → X G rm_X1_judged cX1_judged RX1 2 (some .int) z.2 0 0 2 [(0, .ref o), (1, .int z.1)] [] := by
  intro z
  refine fun hs h => lp_X (P := fun z => SH σ0 z.2 → X G rm_X1_judged cX1_judged RX1 2 (some .int) z.2 0 0 2 [(0, .ref o), (1, .int z.1)] []) ?_ h hs
  intro K2 hK2 z h hs
  obtain ⟨x1, σ⟩ := z
  have hs : SH σ0 σ := hs
  have hB := hB0.sh hs
  simp only [lb_X1_judged_2] at h
  show X G rm_X1_judged cX1_judged RX1 2 (some .int) σ 0 0 2 [(0, .ref o), (1, .int x1)] []
  have hK2 : ∀ z : (Int32 × Hp), SH σ0 z.2 → K2 z → X G rm_X1_judged cX1_judged RX1 2 (some .int) z.2 0 0 2 [(0, .ref o), (1, .int z.1)] [] := fun z hs h => hK2 z h hs
  refine x_iload_n dX1_judged_2 (n := 3) rfl rfl 1 rfl ?_
  refine x_aload_n dX1_judged_3 (n := 4) rfl rfl 0 rfl ?_
  refine x_geti fl_X1_135_1 rfl hB.1 rfl dX1_judged_4 (n := 7) rfl ?_
  refine x_icmp_ge (tgt := 39) dX1_judged_7 rfl (n := 10) rfl (fun c1 => ?_) (fun c1 => ?_)
  · have h := h.1 c1
    refine x_aload_n dX1_judged_39 (n := 40) rfl rfl 0 rfl ?_
    refine x_geti fl_X1_135_1 rfl hB.1 rfl dX1_judged_40 (n := 43) rfl ?_
    exact x_iret rq ⟨hs, h⟩ dX1_judged_43
  · have h := h.2 c1
    refine x_aload_n dX1_judged_10 (n := 11) rfl rfl 0 rfl ?_
    refine x_aload_n dX1_judged_11 (n := 12) rfl rfl 0 rfl ?_
    refine x_getr fl_X1_60_1 rfl hB.1 hB.r16 dX1_judged_12 (n := 15) rfl ?_
    refine x_iload_n dX1_judged_15 (n := 16) rfl rfl 1 rfl ?_
    obtain ⟨b2, h⟩ := h
    refine x_iald hB.a16 b2 rfl dX1_judged_16 (n := 17) rfl ?_
    obtain ⟨b3, h⟩ := h
    refine x_cVip (As := [.int (gI σ (o + 18) x1.toNatClampNeg)]) (rest := []) cv_X1_410 ck1 (met_X1_isNote o c σ (gI σ (o + 18) x1.toNatClampNeg) hB b3) hB.1 (by decide) rfl rfl rfl dX1_judged_17 (n := 20) rfl (fun r4 q => ?_)
    subst q
    refine x_if_eq (tgt := 31) dX1_judged_20 rfl (n := 23) rfl (fun c5 => ?_) (fun c5 => ?_)
    · have h := h.1 c5
      refine x_iload_n dX1_judged_31 (n := 32) rfl rfl 1 rfl ?_
      exact x_iret rq ⟨hs, h⟩ dX1_judged_32
    · have h := h.2 c5
      refine x_aload_n dX1_judged_23 (n := 24) rfl rfl 0 rfl ?_
      refine x_iload_n dX1_judged_24 (n := 25) rfl rfl 1 rfl ?_
      refine x_cVim (As := [.int x1]) (rest := []) cv_X1_431 ck1 (met_X1_isTrue o c σ x1 _ hB h) hB.1 (by decide) rfl rfl rfl dX1_judged_25 (n := 28) rfl (fun r8 s6 hs7 h => ?_)
      have hs7t := hs.tr hs7; have hBs6 := hB0.sh hs7t
      refine x_if_ne (tgt := 33) dX1_judged_28 rfl (n := 31) rfl (fun c9 => ?_) (fun c9 => ?_)
      · have h := h.2 c9
        refine x_iinc (v := x1 + 1) (lvs' := [(1, .int (x1 + 1)), (0, .ref o)]) dX1_judged_33 (n := 36) rfl 1 rfl rfl (by decide) rfl ?_
        refine x_goto (tgt := 2) dX1_judged_36 rfl ?_
        exact x_sub [1, 0] rfl (hK2 (x1 + 1, s6) hs7t h)
      · have h := h.1 c9
        refine x_iload_n dX1_judged_31 (n := 32) rfl rfl 1 rfl ?_
        exact x_iret rq ⟨hs7t, h⟩ dX1_judged_32
theorem met_X1_judged (o c : Nat) (σ0 : Hp) (Q : Int32 → Hp → Prop) (hB0 : LB o c σ0) (h : wp_X1_judged o c σ0 Q) : MetX yX1_judged cX1_judged 2 (some .int) rm_X1_judged σ0 [.ref o] (oI (fun r σ' => SH σ0 σ' ∧ Q r σ')) 0 0 := by
  refine metX_of (own := RX1) (lvs := [(0, .ref o)]) (by decide) rfl (Nat.le_of_ble_eq_true rfl) rfl (fun G rq => ?_)
  unfold wp_X1_judged at h
  refine x_iconst dX1_judged_0 (n := 1) rfl ic_0 ?_
  refine x_istore_n (lvs' := [(1, .int 0), (0, .ref o)]) dX1_judged_1 (n := 2) rfl rfl (by decide) rfl ?_
  exact x_sub [1, 0] rfl (xl_X1_judged_2 o c σ0 Q G hB0 rq (0, σ0) (SH.rf (σ := σ0)) h)
abbrev rm_X12_due : Room := { frames := 77, cells := 0, slots := 0, locals := 1951 }
def wp_X12_due (o : Nat) (σ0 : Hp) (a1 c1 : Nat) (a2 : Nat) (Q : Int64 → Hp → Prop) : Prop := wp_X1_firstFeast a1 c1 σ0 (gI σ0 o 2) ((gL σ0 o 1) + 1) (fun r3 s1 => Q r3 s1)
theorem met_X12_due (o : Nat) (σ0 : Hp) (a1 c1 : Nat) (a2 : Nat) (Q : Int64 → Hp → Prop) (hB0 : OB 11 o σ0) (ha1 : LB a1 c1 σ0) (ha2 : OB 6 a2 σ0) (h : wp_X12_due o σ0 a1 c1 a2 Q) : MetX yX12_due cX12_due 3 (some .long) rm_X12_due σ0 [.ref o, .ref a1, .ref a2] (oL (fun r σ' => SH σ0 σ' ∧ Q r σ')) 0 0 := by
  refine metX_of (own := RX12) (lvs := [(0, .ref o), (1, .ref a1), (2, .ref a2)]) (by decide) rfl (Nat.le_of_ble_eq_true rfl) rfl (fun G rq => ?_)
  unfold wp_X12_due at h
  refine x_aload_n dX12_due_0 (n := 1) rfl rfl 1 rfl ?_
  refine x_aload_n dX12_due_1 (n := 2) rfl rfl 0 rfl ?_
  refine x_geti fl_X12_7_11 rfl hB0 rfl dX12_due_2 (n := 5) rfl ?_
  refine x_aload_n dX12_due_5 (n := 6) rfl rfl 0 rfl ?_
  refine x_getl fl_X12_13_11 rfl hB0 rfl dX12_due_6 (n := 9) rfl ?_
  refine x_lconst dX12_due_9 (n := 10) rfl lc_1 ?_
  refine x_ladd dX12_due_10 (n := 11) rfl ?_
  refine x_cVlm (As := [.int (gI σ0 o 2), .long ((gL σ0 o 1) + 1)]) (rest := []) cv_X12_17 ck1 (met_X1_firstFeast a1 c1 σ0 (gI σ0 o 2) ((gL σ0 o 1) + 1) _ (ha1.sh (SH.rf (σ := σ0))) h) (ha1.sh (SH.rf (σ := σ0))).1 (by decide) rfl rfl rfl dX12_due_11 (n := 14) rfl (fun r3 s1 hs2 h => ?_)
  have hs2t := (SH.rf (σ := σ0)).tr hs2; have hBs1 := hB0.sh hs2t
  exact x_lret rq ⟨hs2t, h⟩ dX12_due_14
