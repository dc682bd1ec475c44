set_option maxRecDepth 100000
abbrev rm_X2_line (Mx : Nat) (σ0 : Hp) : Room := rmG 831 27422 Mx σ0
def wj_X2_line_431 (o c d : Nat) (σ : Hp)  (Mx : Nat) (Q : Hp → Prop) (E : Nat → Hp → Prop)  : Prop := ((f_X2_isSign o c d σ 59) = 0 → wp_X2_wrong o c d σ 1 Mx (fun r138 s135 => GX σ s135 → (OB 16 r138 s135) ∧ (E r138 s135)) E) ∧ (¬ (f_X2_isSign o c d σ 59) = 0 → wp_X2_next o c d σ (fun  s133 => SH σ s133 → Q (pI s133 d 11 ((gI s133 d 11) + 1))))
def wj_X2_line_158 (o c d : Nat) (σ : Hp) (x1 : Int32) (Mx : Nat) (Q : Hp → Prop) (E : Nat → Hp → Prop)  : Prop := wp_X2_next o c d (pI σ o 6 ((gI σ o 6) ||| (1 <<< (x1 &&& 31)))) (fun  s57 => SH (pI σ o 6 ((gI σ o 6) ||| (1 <<< (x1 &&& 31)))) s57 → (x1 = 0 → wp_X2_land o c d s57 Mx (fun  s60 => GX s57 s60 → wj_X2_line_431 o c d s60 Mx Q E) E) ∧ (¬ x1 = 0 → (x1 = 1 → wp_X2_person o c d s57 Mx (fun  s64 => GX s57 s64 → wj_X2_line_431 o c d s64 Mx Q E) E) ∧ (¬ x1 = 1 → (x1 = 2 → wp_X2_deed o c d s57 Mx (fun  s68 => GX s57 s68 → wj_X2_line_431 o c d s68 Mx Q E) E) ∧ (¬ x1 = 2 → (x1 = 3 → wp_X2_note o c d s57 Mx (fun  s72 => GX s57 s72 → wj_X2_line_431 o c d s72 Mx Q E) E) ∧ (¬ x1 = 3 → (x1 = 4 → wp_X2_number o c d s57 1 9999 Mx (fun r79 s76 => GX s57 s76 → wp_X2_number o c d (pL s76 d 13 r79.toInt64) 1 (f_J7_min 99 (r79.toInt64.toInt32 / 8)) Mx (fun r85 s82 => GX (pL s76 d 13 r79.toInt64) s82 → wj_X2_line_431 o c d (pI s82 d 9 r85) Mx Q E) E) E) ∧ (¬ x1 = 4 → (x1 = 5 → (gS s57 + 1 ≤ Mx) ∧ (wp_X2_fresh o c d (pN s57 (.inl 7)) (d + 3) 4 Mx (fun r93 s90 => GX (pN s57 (.inl 7)) s90 → wp_X2_orT o c d s90 Mx (fun r97 s94 => GX s90 s94 → ∀ s100 : Hp, s100 = f_X13_init (gS s57) s94 r93 r97 → wp_J2_add (d + 3) 4 s100 (gS s57) Mx (fun r106 s103 => GX s100 s103 → wj_X2_line_431 o c d s103 Mx Q E) E) E) E)) ∧ (¬ x1 = 5 → (x1 = 6 → wp_X2_number o c d s57 2 30 Mx (fun r111 s108 => GX s57 s108 → wp_X2_number o c d (pI s108 d 5 r111) 0 (r111 - 1) Mx (fun r115 s112 => GX (pI s108 d 5 r111) s112 → wj_X2_line_431 o c d (pI s112 d 6 r115) Mx Q E) E) E) ∧ (¬ x1 = 6 → wp_X2_number o c d s57 1 9999 Mx (fun r119 s116 => GX s57 s116 → wp_X2_number o c d (pL s116 d 12 r119.toInt64) 1 (f_J7_min 99 (r119.toInt64.toInt32 / 8)) Mx (fun r125 s122 => GX (pL s116 d 12 r119.toInt64) s122 → wp_X2_number o c d (pI s122 d 8 r125) 0 (((gL s122 d 12).toInt32) - 1) Mx (fun r129 s126 => GX (pI s122 d 8 r125) s126 → wj_X2_line_431 o c d (pI s126 d 7 r129) Mx Q E) E) E) E))))))))
def wj_X2_line_140 (o c d : Nat) (σ : Hp) (x1 : Int32) (Mx : Nat) (Q : Hp → Prop) (E : Nat → Hp → Prop)  : Prop := ((((gI σ o 6) >>> (x1 &&& 31)) &&& 1) = 1 → wp_X2_wrong o c d σ 3 Mx (fun r144 s141 => GX σ s141 → (OB 16 r144 s141) ∧ (E r144 s141)) E) ∧ (¬ (((gI σ o 6) >>> (x1 &&& 31)) &&& 1) = 1 → wj_X2_line_158 o c d σ x1 Mx Q E)
def wj_X2_line_123 (o c d : Nat) (σ : Hp) (x1 : Int32) (Mx : Nat) (Q : Hp → Prop) (E : Nat → Hp → Prop)  : Prop := (x1 = 4 → wj_X2_line_140 o c d σ x1 Mx Q E) ∧ (¬ x1 = 4 → (x1 = 6 → wj_X2_line_140 o c d σ x1 Mx Q E) ∧ (¬ x1 = 6 → (x1 = 7 → wj_X2_line_140 o c d σ x1 Mx Q E) ∧ (¬ x1 = 7 → wj_X2_line_158 o c d σ x1 Mx Q E)))
def wj_X2_line_98 (o c d : Nat) (σ : Hp) (x1 : Int32) (Mx : Nat) (Q : Hp → Prop) (E : Nat → Hp → Prop)  : Prop := (x1 = 5 → ((f_J2_size (d + 3) 4 σ) = 4 → wp_X2_wrong o c d σ 2 Mx (fun r52 s49 => GX σ s49 → (OB 16 r52 s49) ∧ (E r52 s49)) E) ∧ (¬ (f_J2_size (d + 3) 4 σ) = 4 → wj_X2_line_123 o c d σ x1 Mx Q E)) ∧ (¬ x1 = 5 → wj_X2_line_123 o c d σ x1 Mx Q E)
def wj_X2_line_78 (o c d : Nat) (σ : Hp) (x1 : Int32) (Mx : Nat) (Q : Hp → Prop) (E : Nat → Hp → Prop)  : Prop := (x1 = 3 → ((f_J2_size (d + 9) 6 σ) = 6 → wp_X2_wrong o c d σ 2 Mx (fun r43 s40 => GX σ s40 → (OB 16 r43 s40) ∧ (E r43 s40)) E) ∧ (¬ (f_J2_size (d + 9) 6 σ) = 6 → wj_X2_line_98 o c d σ x1 Mx Q E)) ∧ (¬ x1 = 3 → wj_X2_line_98 o c d σ x1 Mx Q E)
def wj_X2_line_59 (o c d : Nat) (σ : Hp) (x1 : Int32) (Mx : Nat) (Q : Hp → Prop) (E : Nat → Hp → Prop)  : Prop := (x1 = 2 → ((f_J2_size (d + 7) 4 σ) = 4 → wp_X2_wrong o c d σ 2 Mx (fun r34 s31 => GX σ s31 → (OB 16 r34 s31) ∧ (E r34 s31)) E) ∧ (¬ (f_J2_size (d + 7) 4 σ) = 4 → wj_X2_line_78 o c d σ x1 Mx Q E)) ∧ (¬ x1 = 2 → wj_X2_line_78 o c d σ x1 Mx Q E)
def wj_X2_line_39 (o c d : Nat) (σ : Hp) (x1 : Int32) (Mx : Nat) (Q : Hp → Prop) (E : Nat → Hp → Prop)  : Prop := (x1 = 1 → ((f_J2_size (d + 5) 6 σ) = 6 → wp_X2_wrong o c d σ 2 Mx (fun r25 s22 => GX σ s22 → (OB 16 r25 s22) ∧ (E r25 s22)) E) ∧ (¬ (f_J2_size (d + 5) 6 σ) = 6 → wj_X2_line_59 o c d σ x1 Mx Q E)) ∧ (¬ x1 = 1 → wj_X2_line_59 o c d σ x1 Mx Q E)
def wp_X2_line (o c d : Nat) (σ0 : Hp) (Mx : Nat) (Q : Hp → Prop) (E : Nat → Hp → Prop) : Prop := ((f_X2_isWord o c d σ0 0 7) = 0 → wp_X2_wrong o c d σ0 1 Mx (fun r16 s13 => GX σ0 s13 → (OB 16 r16 s13) ∧ (E r16 s13)) E) ∧ (¬ (f_X2_isWord o c d σ0 0 7) = 0 → ((gI σ0 o 4) = 0 → ((f_J2_size (d + 1) 4 σ0) = 4 → wp_X2_wrong o c d σ0 2 Mx (fun r11 s8 => GX σ0 s8 → (OB 16 r11 s8) ∧ (E r11 s8)) E) ∧ (¬ (f_J2_size (d + 1) 4 σ0) = 4 → wj_X2_line_39 o c d σ0 (gI σ0 o 4) Mx Q E)) ∧ (¬ (gI σ0 o 4) = 0 → wj_X2_line_39 o c d σ0 (gI σ0 o 4) Mx Q E))
theorem xj_X2_line_431 (o c d : Nat) (σ0 : Hp) (Mx : Nat) (Q : Hp → Prop) (E : Nat → Hp → Prop) (G : XE) (hB0 : EB o c d σ0) (rq : RQx G [] (Mx - gS σ0) (16 * (Mx - gS σ0)) (oV (fun σ' => gP Mx σ0 Q σ')) (pxF Mx σ0 E)) (hz : G.2.2.2.1.heap.size = gS σ0) (w0 : WF σ0) (hM0 : gS σ0 ≤ Mx) (σ : Hp)     (hs : (GX σ0 σ ∧ gS σ ≤ Mx)) (h : wj_X2_line_431 o c d σ Mx Q E ) : X G (rm_X2_line Mx σ0) cX2_line RX2 2 none σ (gS σ - gS σ0) (16 * (gS σ - gS σ0)) 431 [(0, .ref o)] [] := by
  have hle : gS σ ≤ Mx := hs.2
  have hs : GX σ0 σ := hs.1
  have hB := hB0.gx hs
  unfold wj_X2_line_431 at h
  refine x_aload_n dX2_line_431 (n := 432) rfl rfl 0 rfl ?_
  refine x_bipush dX2_line_432 (n := 434) rfl bp_59 ?_
  refine x_cVip (As := [.int 59]) (rest := []) cv_X2_92 ck2 (met_X2_isSign o c d σ 59 hB) hB.1 (hRg (fr := 831) (lo := 27422) (by decide) hle) rfl rfl rfl dX2_line_434 (n := 437) rfl (fun r131 q => ?_)
  subst q
  refine x_if_ne (tgt := 446) dX2_line_437 rfl (n := 440) rfl (fun cc132 => ?_) (fun cc132 => ?_)
  · have h := h.2 cc132
    refine x_aload_n dX2_line_446 (n := 447) rfl rfl 0 rfl ?_
    refine x_cVvm (As := []) (rest := []) cv_X2_89 ck2 (met_X2_next o c d σ _ hB h) hB.1 (hRg (fr := 831) (lo := 27422) (by decide) hle) rfl rfl rfl dX2_line_447 (n := 450) rfl (fun  s133 hs134 h => ?_)
    have hs134t := hs.s hs134
    have hBs133 := hB0.gx hs134t
    have hls133 : gS s133 ≤ Mx := Nat.le_trans (Nat.le_of_eq hs134.1) hle
    refine x_tight hz hs134t ?_
    have h := h hs134
    refine x_aload_n dX2_line_450 (n := 451) rfl rfl 0 rfl ?_
    refine x_getr fl_X2_115_2 rfl hBs133.1 hBs133.2.2.2.2.2.1 dX2_line_451 (n := 454) rfl ?_
    refine x_dup dX2_line_454 (n := 455) rfl rfl ?_
    refine x_geti fl_X2_202_3 rfl hBs133.2.2.2.2.2.2.1 rfl dX2_line_455 (n := 458) rfl ?_
    refine x_iconst dX2_line_458 (n := 459) rfl ic_1 ?_
    refine x_iadd dX2_line_459 (n := 460) rfl ?_
    refine x_puti fp_X2_202_3 rfl hBs133.2.2.2.2.2.2.1 dX2_line_460 (n := 463) rfl ?_
    exact g_vret rq hs134t.i hls133 h dX2_line_463
  · have h := h.1 cc132
    refine x_aload_n dX2_line_440 (n := 441) rfl rfl 0 rfl ?_
    refine x_iconst dX2_line_441 (n := 442) rfl ic_1 ?_
    refine g_cVr (fr := 831) (lo := 27422) (As := [.int 1]) (rest := []) hz hs cv_X2_85 ck2 (met_X2_wrong o c d σ 1 Mx _ _  hB hle  h) hB.1 (by decide) hle rfl rfl rfl dX2_line_442 (n := 445) rfl (fun q s135 hs136 hls135 h => g_out rq (hs.tr hs136) hls135 h) (fun r138 s135 hs136 hls135 h => ?_)
    have hs136t := hs.tr hs136
    have hBs135 := hB0.gx hs136t
    have h := h hs136
    obtain ⟨b139, h⟩ := h
    exact g_athrow rq hs136t hls135 b139 h dX2_line_445
theorem xj_X2_line_158 (o c d : Nat) (σ0 : Hp) (Mx : Nat) (Q : Hp → Prop) (E : Nat → Hp → Prop) (G : XE) (hB0 : EB o c d σ0) (rq : RQx G [] (Mx - gS σ0) (16 * (Mx - gS σ0)) (oV (fun σ' => gP Mx σ0 Q σ')) (pxF Mx σ0 E)) (hz : G.2.2.2.1.heap.size = gS σ0) (w0 : WF σ0) (hM0 : gS σ0 ≤ Mx) (σ : Hp) (x1 : Int32)    (hs : (GX σ0 σ ∧ gS σ ≤ Mx)) (h : wj_X2_line_158 o c d σ x1 Mx Q E ) : X G (rm_X2_line Mx σ0) cX2_line RX2 2 none σ (gS σ - gS σ0) (16 * (gS σ - gS σ0)) 158 [(0, .ref o), (1, .int x1)] [] := by
  have hle : gS σ ≤ Mx := hs.2
  have hs : GX σ0 σ := hs.1
  have hB := hB0.gx hs
  unfold wj_X2_line_158 at h
  refine x_aload_n dX2_line_158 (n := 159) rfl rfl 0 rfl ?_
  refine x_dup dX2_line_159 (n := 160) rfl rfl ?_
  refine x_geti fl_X2_109_2 rfl hB.1 rfl dX2_line_160 (n := 163) rfl ?_
  refine x_iconst dX2_line_163 (n := 164) rfl ic_1 ?_
  refine x_iload_n dX2_line_164 (n := 165) rfl rfl 1 rfl ?_
  refine x_ishl dX2_line_165 (n := 166) rfl ?_
  refine x_ior dX2_line_166 (n := 167) rfl ?_
  refine x_puti fp_X2_109_2 rfl hB.1 dX2_line_167 (n := 170) rfl ?_
  refine x_aload_n dX2_line_170 (n := 171) rfl rfl 0 rfl ?_
  refine x_cVvm (As := []) (rest := []) cv_X2_89 ck2 (met_X2_next o c d (pI σ o 6 ((gI σ o 6) ||| (1 <<< (x1 &&& 31)))) _ hB.i h) hB.i.1 (hRg (fr := 831) (lo := 27422) (by decide) hle) rfl rfl rfl dX2_line_171 (n := 174) rfl (fun  s57 hs58 h => ?_)
  have hs58t := hs.i.s hs58
  have hBs57 := hB0.gx hs58t
  have hls57 : gS s57 ≤ Mx := Nat.le_trans (Nat.le_of_eq hs58.1) hle
  refine x_tight hz hs58t ?_
  have h := h hs58
  refine x_iload_n dX2_line_174 (n := 175) rfl rfl 1 rfl ?_
  refine x_by (x1 = 0) (fun cc59 => ?_) (fun cc59 => ?_)
  · have h := h.1 cc59
    have zc59 := tsw_in cc59 ti_0
    refine x_tswIn (tgt := 216) dX2_line_175 (by rw [zc59]; decide) (by rw [zc59]; decide) (by rw [zc59]; rfl) rfl ?_
    refine x_aload_n dX2_line_216 (n := 217) rfl rfl 0 rfl ?_
    refine g_cVv (fr := 831) (lo := 27422) (As := []) (rest := []) hz hs58t cv_X2_146 ck2 (met_X2_land o c d s57 Mx _ _  hBs57 hls57  h) hBs57.1 (by decide) hls57 rfl rfl rfl dX2_line_217 (n := 220) rfl (fun q s60 hs61 hls60 h => g_out rq (hs58t.tr hs61) hls60 h) (fun  s60 hs61 hls60 h => ?_)
    have hs61t := hs58t.tr hs61
    have hBs60 := hB0.gx hs61t
    have h := h hs61
    refine x_goto (tgt := 431) dX2_line_220 rfl ?_
    exact x_sub [0] rfl (xj_X2_line_431 o c d σ0 Mx Q E G hB0 rq hz w0 hM0 s60 ⟨hs61t, hls60⟩ h)
  · have h := h.2 cc59
    refine x_by (x1 = 1) (fun cc63 => ?_) (fun cc63 => ?_)
    · have h := h.1 cc63
      have zc63 := tsw_in cc63 ti_1
      refine x_tswIn (tgt := 223) dX2_line_175 (by rw [zc63]; decide) (by rw [zc63]; decide) (by rw [zc63]; rfl) rfl ?_
      refine x_aload_n dX2_line_223 (n := 224) rfl rfl 0 rfl ?_
      refine g_cVv (fr := 831) (lo := 27422) (As := []) (rest := []) hz hs58t cv_X2_149 ck2 (met_X2_person o c d s57 Mx _ _  hBs57 hls57  h) hBs57.1 (by decide) hls57 rfl rfl rfl dX2_line_224 (n := 227) rfl (fun q s64 hs65 hls64 h => g_out rq (hs58t.tr hs65) hls64 h) (fun  s64 hs65 hls64 h => ?_)
      have hs65t := hs58t.tr hs65
      have hBs64 := hB0.gx hs65t
      have h := h hs65
      refine x_goto (tgt := 431) dX2_line_227 rfl ?_
      exact x_sub [0] rfl (xj_X2_line_431 o c d σ0 Mx Q E G hB0 rq hz w0 hM0 s64 ⟨hs65t, hls64⟩ h)
    · have h := h.2 cc63
      refine x_by (x1 = 2) (fun cc67 => ?_) (fun cc67 => ?_)
      · have h := h.1 cc67
        have zc67 := tsw_in cc67 ti_2
        refine x_tswIn (tgt := 230) dX2_line_175 (by rw [zc67]; decide) (by rw [zc67]; decide) (by rw [zc67]; rfl) rfl ?_
        refine x_aload_n dX2_line_230 (n := 231) rfl rfl 0 rfl ?_
        refine g_cVv (fr := 831) (lo := 27422) (As := []) (rest := []) hz hs58t cv_X2_152 ck2 (met_X2_deed o c d s57 Mx _ _  hBs57 hls57  h) hBs57.1 (by decide) hls57 rfl rfl rfl dX2_line_231 (n := 234) rfl (fun q s68 hs69 hls68 h => g_out rq (hs58t.tr hs69) hls68 h) (fun  s68 hs69 hls68 h => ?_)
        have hs69t := hs58t.tr hs69
        have hBs68 := hB0.gx hs69t
        have h := h hs69
        refine x_goto (tgt := 431) dX2_line_234 rfl ?_
        exact x_sub [0] rfl (xj_X2_line_431 o c d σ0 Mx Q E G hB0 rq hz w0 hM0 s68 ⟨hs69t, hls68⟩ h)
      · have h := h.2 cc67
        refine x_by (x1 = 3) (fun cc71 => ?_) (fun cc71 => ?_)
        · have h := h.1 cc71
          have zc71 := tsw_in cc71 ti_3
          refine x_tswIn (tgt := 237) dX2_line_175 (by rw [zc71]; decide) (by rw [zc71]; decide) (by rw [zc71]; rfl) rfl ?_
          refine x_aload_n dX2_line_237 (n := 238) rfl rfl 0 rfl ?_
          refine g_cVv (fr := 831) (lo := 27422) (As := []) (rest := []) hz hs58t cv_X2_155 ck2 (met_X2_note o c d s57 Mx _ _  hBs57 hls57  h) hBs57.1 (by decide) hls57 rfl rfl rfl dX2_line_238 (n := 241) rfl (fun q s72 hs73 hls72 h => g_out rq (hs58t.tr hs73) hls72 h) (fun  s72 hs73 hls72 h => ?_)
          have hs73t := hs58t.tr hs73
          have hBs72 := hB0.gx hs73t
          have h := h hs73
          refine x_goto (tgt := 431) dX2_line_241 rfl ?_
          exact x_sub [0] rfl (xj_X2_line_431 o c d σ0 Mx Q E G hB0 rq hz w0 hM0 s72 ⟨hs73t, hls72⟩ h)
        · have h := h.2 cc71
          refine x_by (x1 = 4) (fun cc75 => ?_) (fun cc75 => ?_)
          · have h := h.1 cc75
            have zc75 := tsw_in cc75 ti_4
            refine x_tswIn (tgt := 244) dX2_line_175 (by rw [zc75]; decide) (by rw [zc75]; decide) (by rw [zc75]; rfl) rfl ?_
            refine x_aload_n dX2_line_244 (n := 245) rfl rfl 0 rfl ?_
            refine x_getr fl_X2_115_2 rfl hBs57.1 hBs57.2.2.2.2.2.1 dX2_line_245 (n := 248) rfl ?_
            refine x_aload_n dX2_line_248 (n := 249) rfl rfl 0 rfl ?_
            refine x_iconst dX2_line_249 (n := 250) rfl ic_1 ?_
            refine x_sipush dX2_line_250 (n := 253) rfl sp_9999 ?_
            refine g_cVi (fr := 831) (lo := 27422) (As := [.int 1, .int 9999]) (rest := [.ref d]) hz hs58t cv_X2_96 ck2 (met_X2_number o c d s57 1 9999 Mx _ _  hBs57 hls57  h) hBs57.1 (by decide) hls57 rfl rfl rfl dX2_line_253 (n := 256) rfl (fun q s76 hs77 hls76 h => g_out rq (hs58t.tr hs77) hls76 h) (fun r79 s76 hs77 hls76 h => ?_)
            have hs77t := hs58t.tr hs77
            have hBs76 := hB0.gx hs77t
            have h := h hs77
            refine x_i2l dX2_line_256 (n := 257) rfl ?_
            refine x_putl fp_X2_158_3 rfl hBs76.2.2.2.2.2.2.1 dX2_line_257 (n := 260) rfl ?_
            refine x_aload_n dX2_line_260 (n := 261) rfl rfl 0 rfl ?_
            refine x_getr fl_X2_115_2 rfl hBs76.l.1 hBs76.l.2.2.2.2.2.1 dX2_line_261 (n := 264) rfl ?_
            refine x_aload_n dX2_line_264 (n := 265) rfl rfl 0 rfl ?_
            refine x_iconst dX2_line_265 (n := 266) rfl ic_1 ?_
            refine x_bipush dX2_line_266 (n := 268) rfl bp_99 ?_
            refine x_aload_n dX2_line_268 (n := 269) rfl rfl 0 rfl ?_
            refine x_getr fl_X2_115_2 rfl hBs76.l.1 hBs76.l.2.2.2.2.2.1 dX2_line_269 (n := 272) rfl ?_
            refine x_getl fl_X2_158_3 rfl hBs76.l.2.2.2.2.2.2.1 (gLs) dX2_line_272 (n := 275) rfl ?_
            refine x_l2i dX2_line_275 (n := 276) rfl ?_
            refine x_bipush dX2_line_276 (n := 278) rfl bp_8 ?_
            refine x_idiv dX2_line_278 (n := 279) rfl (by decide) ?_
            refine x_cSip (As := [.int 99, .int (r79.toInt64.toInt32 / 8)]) (rest := [.int 1, .ref o, .ref d]) cs_X2_162 (met_J7_min (pL s76 d 13 r79.toInt64) 99 (r79.toInt64.toInt32 / 8) ) (hRg (fr := 831) (lo := 27422) (by decide) hls76) rfl rfl rfl dX2_line_279 (n := 282) rfl (fun r81 q => ?_)
            subst q
            refine g_cVi (fr := 831) (lo := 27422) (As := [.int 1, .int (f_J7_min 99 (r79.toInt64.toInt32 / 8))]) (rest := [.ref d]) hz hs77t.l cv_X2_96 ck2 (met_X2_number o c d (pL s76 d 13 r79.toInt64) 1 (f_J7_min 99 (r79.toInt64.toInt32 / 8)) Mx _ _  hBs76.l hls76  h) hBs76.l.1 (by decide) hls76 rfl rfl rfl dX2_line_282 (n := 285) rfl (fun q s82 hs83 hls82 h => g_out rq (hs77t.l.tr hs83) hls82 h) (fun r85 s82 hs83 hls82 h => ?_)
            have hs83t := hs77t.l.tr hs83
            have hBs82 := hB0.gx hs83t
            have h := h hs83
            refine x_puti fp_X2_167_3 rfl hBs82.2.2.2.2.2.2.1 dX2_line_285 (n := 288) rfl ?_
            refine x_goto (tgt := 431) dX2_line_288 rfl ?_
            exact x_sub [0] rfl (xj_X2_line_431 o c d σ0 Mx Q E G hB0 rq hz w0 hM0 (pI s82 d 9 r85) ⟨hs83t.i, hls82⟩ h)
          · have h := h.2 cc75
            refine x_by (x1 = 5) (fun cc86 => ?_) (fun cc86 => ?_)
            · have h := h.1 cc86
              have zc86 := tsw_in cc86 ti_5
              refine x_tswIn (tgt := 291) dX2_line_175 (by rw [zc86]; decide) (by rw [zc86]; decide) (by rw [zc86]; rfl) rfl ?_
              refine x_aload_n dX2_line_291 (n := 292) rfl rfl 0 rfl ?_
              refine x_getr fl_X2_115_2 rfl hBs57.1 hBs57.2.2.2.2.2.1 dX2_line_292 (n := 295) rfl ?_
              refine x_getr fl_X2_143_3 rfl hBs57.2.2.2.2.2.2.1 hBs57.2.2.2.2.2.2.r1 dX2_line_295 (n := 298) rfl ?_
              obtain ⟨b87, h⟩ := h
              refine g_new hz hs58t nx_X2_170 (by decide) b87 dX2_line_298 (n := 301) rfl (fun w89 hn88 => ?_)
              refine x_dup dX2_line_301 (n := 302) rfl rfl ?_
              refine x_aload_n dX2_line_302 (n := 303) rfl rfl 0 rfl ?_
              refine x_aload_n dX2_line_303 (n := 304) rfl rfl 0 rfl ?_
              refine x_getr fl_X2_115_2 rfl (hB0.gx hn88).1 (hB0.gx hn88).2.2.2.2.2.1 dX2_line_304 (n := 307) rfl ?_
              refine x_getr fl_X2_143_3 rfl (hB0.gx hn88).2.2.2.2.2.2.1 (hB0.gx hn88).2.2.2.2.2.2.r1 dX2_line_307 (n := 310) rfl ?_
              refine g_cVi (fr := 831) (lo := 27422) (As := [.ref (d + 3)]) (rest := [.ref (gS s57), .ref (gS s57), .ref (d + 3)]) hz hn88 cv_X2_172 ck2 (met_X2_fresh o c d (pN s57 (.inl 7)) (d + 3) 4 Mx _ _  (hB0.gx hn88) (hB0.gx hn88).2.2.2.2.2.2.b1 b87  h) (hB0.gx hn88).1 (by decide) b87 rfl rfl rfl dX2_line_310 (n := 313) rfl (fun q s90 hs91 hls90 h => g_out rq (hn88.tr hs91) hls90 h) (fun r93 s90 hs91 hls90 h => ?_)
              have hs91t := hn88.tr hs91
              have hBs90 := hB0.gx hs91t
              have h := h hs91
              refine x_aload_n dX2_line_313 (n := 314) rfl rfl 0 rfl ?_
              refine g_cVr (fr := 831) (lo := 27422) (As := []) (rest := [.int r93, .ref (gS s57), .ref (gS s57), .ref (d + 3)]) hz hs91t cv_X2_176 ck2 (met_X2_orT o c d s90 Mx _ _  hBs90 hls90  h) hBs90.1 (by decide) hls90 rfl rfl rfl dX2_line_314 (n := 317) rfl (fun q s94 hs95 hls94 h => g_out rq (hs91t.tr hs95) hls94 h) (fun r97 s94 hs95 hls94 h => ?_)
              have hs95t := hs91t.tr hs95
              have hBs94 := hB0.gx hs95t
              have h := h hs95
              refine x_wf (fun w98 => ?_)
              refine x_callI (mc := 0) (ms := 0) (As := [.int r93, .ref r97]) (rest := [.ref (gS s57), .ref (d + 3)]) ci_X2_180 (met_X13_init (gS s57) s94 r93 r97 (hs95.t (hs91.t (gT_new (σ := s57))))) (hRi (fr := 831) (lo := 27422) (mc := 0) (ms := 0) hs95t rfl rfl (by decide) (by decide) hls94) rfl rfl rfl dX2_line_317 (n := 320) rfl (fun s100 hp => ?_)
              obtain ⟨hk99, e102⟩ := hp
              have hn101 : GX σ0 s100 := hk99.2 σ0 w0 hs95t (hs58t.fresh w0) w98
              have hls100 : gS s100 ≤ Mx := by rw [e102]; exact hls94
              refine x_tight hz hn101 ?_
              have hBs100 := hB0.gx hn101
              have h := h s100 e102
              refine g_cVi (fr := 831) (lo := 27422) (As := [.ref (gS s57)]) (rest := []) hz hn101 cv_X2_183 ck4 (met_J2_add (d + 3) 4 s100 (gS s57) Mx _ _  hBs100.2.2.2.2.2.2.b1 hls100  h) hBs100.2.2.2.2.2.2.b1.1 (by decide) hls100 rfl rfl rfl dX2_line_320 (n := 323) rfl (fun q s103 hs104 hls103 h => g_out rq (hn101.tr hs104) hls103 h) (fun r106 s103 hs104 hls103 h => ?_)
              have hs104t := hn101.tr hs104
              have hBs103 := hB0.gx hs104t
              have h := h hs104
              refine x_pop dX2_line_323 (n := 324) rfl rfl ?_
              refine x_goto (tgt := 431) dX2_line_324 rfl ?_
              exact x_sub [0] rfl (xj_X2_line_431 o c d σ0 Mx Q E G hB0 rq hz w0 hM0 s103 ⟨hs104t, hls103⟩ h)
            · have h := h.2 cc86
              refine x_by (x1 = 6) (fun cc107 => ?_) (fun cc107 => ?_)
              · have h := h.1 cc107
                have zc107 := tsw_in cc107 ti_6
                refine x_tswIn (tgt := 327) dX2_line_175 (by rw [zc107]; decide) (by rw [zc107]; decide) (by rw [zc107]; rfl) rfl ?_
                refine x_aload_n dX2_line_327 (n := 328) rfl rfl 0 rfl ?_
                refine x_getr fl_X2_115_2 rfl hBs57.1 hBs57.2.2.2.2.2.1 dX2_line_328 (n := 331) rfl ?_
                refine x_aload_n dX2_line_331 (n := 332) rfl rfl 0 rfl ?_
                refine x_iconst dX2_line_332 (n := 333) rfl ic_2 ?_
                refine x_bipush dX2_line_333 (n := 335) rfl bp_30 ?_
                refine g_cVi (fr := 831) (lo := 27422) (As := [.int 2, .int 30]) (rest := [.ref d]) hz hs58t cv_X2_96 ck2 (met_X2_number o c d s57 2 30 Mx _ _  hBs57 hls57  h) hBs57.1 (by decide) hls57 rfl rfl rfl dX2_line_335 (n := 338) rfl (fun q s108 hs109 hls108 h => g_out rq (hs58t.tr hs109) hls108 h) (fun r111 s108 hs109 hls108 h => ?_)
                have hs109t := hs58t.tr hs109
                have hBs108 := hB0.gx hs109t
                have h := h hs109
                refine x_puti fp_X2_187_3 rfl hBs108.2.2.2.2.2.2.1 dX2_line_338 (n := 341) rfl ?_
                refine x_aload_n dX2_line_341 (n := 342) rfl rfl 0 rfl ?_
                refine x_getr fl_X2_115_2 rfl hBs108.i.1 hBs108.i.2.2.2.2.2.1 dX2_line_342 (n := 345) rfl ?_
                refine x_aload_n dX2_line_345 (n := 346) rfl rfl 0 rfl ?_
                refine x_iconst dX2_line_346 (n := 347) rfl ic_0 ?_
                refine x_aload_n dX2_line_347 (n := 348) rfl rfl 0 rfl ?_
                refine x_getr fl_X2_115_2 rfl hBs108.i.1 hBs108.i.2.2.2.2.2.1 dX2_line_348 (n := 351) rfl ?_
                refine x_geti fl_X2_187_3 rfl hBs108.i.2.2.2.2.2.2.1 (gIs) dX2_line_351 (n := 354) rfl ?_
                refine x_iconst dX2_line_354 (n := 355) rfl ic_1 ?_
                refine x_isub dX2_line_355 (n := 356) rfl ?_
                refine g_cVi (fr := 831) (lo := 27422) (As := [.int 0, .int (r111 - 1)]) (rest := [.ref d]) hz hs109t.i cv_X2_96 ck2 (met_X2_number o c d (pI s108 d 5 r111) 0 (r111 - 1) Mx _ _  hBs108.i hls108  h) hBs108.i.1 (by decide) hls108 rfl rfl rfl dX2_line_356 (n := 359) rfl (fun q s112 hs113 hls112 h => g_out rq (hs109t.i.tr hs113) hls112 h) (fun r115 s112 hs113 hls112 h => ?_)
                have hs113t := hs109t.i.tr hs113
                have hBs112 := hB0.gx hs113t
                have h := h hs113
                refine x_puti fp_X2_190_3 rfl hBs112.2.2.2.2.2.2.1 dX2_line_359 (n := 362) rfl ?_
                refine x_goto (tgt := 431) dX2_line_362 rfl ?_
                exact x_sub [0] rfl (xj_X2_line_431 o c d σ0 Mx Q E G hB0 rq hz w0 hM0 (pI s112 d 6 r115) ⟨hs113t.i, hls112⟩ h)
              · have h := h.2 cc107
                have zc59 := ne_int cc59 ti_0
                have zc63 := ne_int cc63 ti_1
                have zc67 := ne_int cc67 ti_2
                have zc71 := ne_int cc71 ti_3
                have zc75 := ne_int cc75 ti_4
                have zc86 := ne_int cc86 ti_5
                have zc107 := ne_int cc107 ti_6
                refine x_tswOut (tgt := 365) dX2_line_175 (by omega) rfl ?_
                refine x_aload_n dX2_line_365 (n := 366) rfl rfl 0 rfl ?_
                refine x_getr fl_X2_115_2 rfl hBs57.1 hBs57.2.2.2.2.2.1 dX2_line_366 (n := 369) rfl ?_
                refine x_aload_n dX2_line_369 (n := 370) rfl rfl 0 rfl ?_
                refine x_iconst dX2_line_370 (n := 371) rfl ic_1 ?_
                refine x_sipush dX2_line_371 (n := 374) rfl sp_9999 ?_
                refine g_cVi (fr := 831) (lo := 27422) (As := [.int 1, .int 9999]) (rest := [.ref d]) hz hs58t cv_X2_96 ck2 (met_X2_number o c d s57 1 9999 Mx _ _  hBs57 hls57  h) hBs57.1 (by decide) hls57 rfl rfl rfl dX2_line_374 (n := 377) rfl (fun q s116 hs117 hls116 h => g_out rq (hs58t.tr hs117) hls116 h) (fun r119 s116 hs117 hls116 h => ?_)
                have hs117t := hs58t.tr hs117
                have hBs116 := hB0.gx hs117t
                have h := h hs117
                refine x_i2l dX2_line_377 (n := 378) rfl ?_
                refine x_putl fp_X2_193_3 rfl hBs116.2.2.2.2.2.2.1 dX2_line_378 (n := 381) rfl ?_
                refine x_aload_n dX2_line_381 (n := 382) rfl rfl 0 rfl ?_
                refine x_getr fl_X2_115_2 rfl hBs116.l.1 hBs116.l.2.2.2.2.2.1 dX2_line_382 (n := 385) rfl ?_
                refine x_aload_n dX2_line_385 (n := 386) rfl rfl 0 rfl ?_
                refine x_iconst dX2_line_386 (n := 387) rfl ic_1 ?_
                refine x_bipush dX2_line_387 (n := 389) rfl bp_99 ?_
                refine x_aload_n dX2_line_389 (n := 390) rfl rfl 0 rfl ?_
                refine x_getr fl_X2_115_2 rfl hBs116.l.1 hBs116.l.2.2.2.2.2.1 dX2_line_390 (n := 393) rfl ?_
                refine x_getl fl_X2_193_3 rfl hBs116.l.2.2.2.2.2.2.1 (gLs) dX2_line_393 (n := 396) rfl ?_
                refine x_l2i dX2_line_396 (n := 397) rfl ?_
                refine x_bipush dX2_line_397 (n := 399) rfl bp_8 ?_
                refine x_idiv dX2_line_399 (n := 400) rfl (by decide) ?_
                refine x_cSip (As := [.int 99, .int (r119.toInt64.toInt32 / 8)]) (rest := [.int 1, .ref o, .ref d]) cs_X2_162 (met_J7_min (pL s116 d 12 r119.toInt64) 99 (r119.toInt64.toInt32 / 8) ) (hRg (fr := 831) (lo := 27422) (by decide) hls116) rfl rfl rfl dX2_line_400 (n := 403) rfl (fun r121 q => ?_)
                subst q
                refine g_cVi (fr := 831) (lo := 27422) (As := [.int 1, .int (f_J7_min 99 (r119.toInt64.toInt32 / 8))]) (rest := [.ref d]) hz hs117t.l cv_X2_96 ck2 (met_X2_number o c d (pL s116 d 12 r119.toInt64) 1 (f_J7_min 99 (r119.toInt64.toInt32 / 8)) Mx _ _  hBs116.l hls116  h) hBs116.l.1 (by decide) hls116 rfl rfl rfl dX2_line_403 (n := 406) rfl (fun q s122 hs123 hls122 h => g_out rq (hs117t.l.tr hs123) hls122 h) (fun r125 s122 hs123 hls122 h => ?_)
                have hs123t := hs117t.l.tr hs123
                have hBs122 := hB0.gx hs123t
                have h := h hs123
                refine x_puti fp_X2_196_3 rfl hBs122.2.2.2.2.2.2.1 dX2_line_406 (n := 409) rfl ?_
                refine x_aload_n dX2_line_409 (n := 410) rfl rfl 0 rfl ?_
                refine x_getr fl_X2_115_2 rfl hBs122.i.1 hBs122.i.2.2.2.2.2.1 dX2_line_410 (n := 413) rfl ?_
                refine x_aload_n dX2_line_413 (n := 414) rfl rfl 0 rfl ?_
                refine x_iconst dX2_line_414 (n := 415) rfl ic_0 ?_
                refine x_aload_n dX2_line_415 (n := 416) rfl rfl 0 rfl ?_
                refine x_getr fl_X2_115_2 rfl hBs122.i.1 hBs122.i.2.2.2.2.2.1 dX2_line_416 (n := 419) rfl ?_
                refine x_getl fl_X2_193_3 rfl hBs122.i.2.2.2.2.2.2.1 (gLi) dX2_line_419 (n := 422) rfl ?_
                refine x_l2i dX2_line_422 (n := 423) rfl ?_
                refine x_iconst dX2_line_423 (n := 424) rfl ic_1 ?_
                refine x_isub dX2_line_424 (n := 425) rfl ?_
                refine g_cVi (fr := 831) (lo := 27422) (As := [.int 0, .int (((gL s122 d 12).toInt32) - 1)]) (rest := [.ref d]) hz hs123t.i cv_X2_96 ck2 (met_X2_number o c d (pI s122 d 8 r125) 0 (((gL s122 d 12).toInt32) - 1) Mx _ _  hBs122.i hls122  h) hBs122.i.1 (by decide) hls122 rfl rfl rfl dX2_line_425 (n := 428) rfl (fun q s126 hs127 hls126 h => g_out rq (hs123t.i.tr hs127) hls126 h) (fun r129 s126 hs127 hls126 h => ?_)
                have hs127t := hs123t.i.tr hs127
                have hBs126 := hB0.gx hs127t
                have h := h hs127
                refine x_puti fp_X2_199_3 rfl hBs126.2.2.2.2.2.2.1 dX2_line_428 (n := 431) rfl ?_
                exact x_sub [0] rfl (xj_X2_line_431 o c d σ0 Mx Q E G hB0 rq hz w0 hM0 (pI s126 d 7 r129) ⟨hs127t.i, hls126⟩ h)
theorem xj_X2_line_140 (o c d : Nat) (σ0 : Hp) (Mx : Nat) (Q : Hp → Prop) (E : Nat → Hp → Prop) (G : XE) (hB0 : EB o c d σ0) (rq : RQx G [] (Mx - gS σ0) (16 * (Mx - gS σ0)) (oV (fun σ' => gP Mx σ0 Q σ')) (pxF Mx σ0 E)) (hz : G.2.2.2.1.heap.size = gS σ0) (w0 : WF σ0) (hM0 : gS σ0 ≤ Mx) (σ : Hp) (x1 : Int32)    (hs : (GX σ0 σ ∧ gS σ ≤ Mx)) (h : wj_X2_line_140 o c d σ x1 Mx Q E ) : X G (rm_X2_line Mx σ0) cX2_line RX2 2 none σ (gS σ - gS σ0) (16 * (gS σ - gS σ0)) 140 [(0, .ref o), (1, .int x1)] [] := by
  have hle : gS σ ≤ Mx := hs.2
  have hs : GX σ0 σ := hs.1
  have hB := hB0.gx hs
  unfold wj_X2_line_140 at h
  refine x_aload_n dX2_line_140 (n := 141) rfl rfl 0 rfl ?_
  refine x_geti fl_X2_109_2 rfl hB.1 rfl dX2_line_141 (n := 144) rfl ?_
  refine x_iload_n dX2_line_144 (n := 145) rfl rfl 1 rfl ?_
  refine x_ishr dX2_line_145 (n := 146) rfl ?_
  refine x_iconst dX2_line_146 (n := 147) rfl ic_1 ?_
  refine x_iand dX2_line_147 (n := 148) rfl ?_
  refine x_iconst dX2_line_148 (n := 149) rfl ic_1 ?_
  refine x_icmp_ne (tgt := 158) dX2_line_149 rfl (n := 152) rfl (fun cc140 => ?_) (fun cc140 => ?_)
  · have h := h.2 cc140
    exact x_sub [0, 1] rfl (xj_X2_line_158 o c d σ0 Mx Q E G hB0 rq hz w0 hM0 σ x1 ⟨hs, hle⟩ h)
  · have h := h.1 cc140
    refine x_aload_n dX2_line_152 (n := 153) rfl rfl 0 rfl ?_
    refine x_iconst dX2_line_153 (n := 154) rfl ic_3 ?_
    refine g_cVr (fr := 831) (lo := 27422) (As := [.int 3]) (rest := []) hz hs cv_X2_85 ck2 (met_X2_wrong o c d σ 3 Mx _ _  hB hle  h) hB.1 (by decide) hle rfl rfl rfl dX2_line_154 (n := 157) rfl (fun q s141 hs142 hls141 h => g_out rq (hs.tr hs142) hls141 h) (fun r144 s141 hs142 hls141 h => ?_)
    have hs142t := hs.tr hs142
    have hBs141 := hB0.gx hs142t
    have h := h hs142
    obtain ⟨b145, h⟩ := h
    exact g_athrow rq hs142t hls141 b145 h dX2_line_157
theorem xj_X2_line_123 (o c d : Nat) (σ0 : Hp) (Mx : Nat) (Q : Hp → Prop) (E : Nat → Hp → Prop) (G : XE) (hB0 : EB o c d σ0) (rq : RQx G [] (Mx - gS σ0) (16 * (Mx - gS σ0)) (oV (fun σ' => gP Mx σ0 Q σ')) (pxF Mx σ0 E)) (hz : G.2.2.2.1.heap.size = gS σ0) (w0 : WF σ0) (hM0 : gS σ0 ≤ Mx) (σ : Hp) (x1 : Int32)    (hs : (GX σ0 σ ∧ gS σ ≤ Mx)) (h : wj_X2_line_123 o c d σ x1 Mx Q E ) : X G (rm_X2_line Mx σ0) cX2_line RX2 2 none σ (gS σ - gS σ0) (16 * (gS σ - gS σ0)) 123 [(0, .ref o), (1, .int x1)] [] := by
  have hle : gS σ ≤ Mx := hs.2
  have hs : GX σ0 σ := hs.1
  have hB := hB0.gx hs
  unfold wj_X2_line_123 at h
  refine x_iload_n dX2_line_123 (n := 124) rfl rfl 1 rfl ?_
  refine x_iconst dX2_line_124 (n := 125) rfl ic_4 ?_
  refine x_icmp_eq (tgt := 140) dX2_line_125 rfl (n := 128) rfl (fun cc54 => ?_) (fun cc54 => ?_)
  · have h := h.1 cc54
    exact x_sub [0, 1] rfl (xj_X2_line_140 o c d σ0 Mx Q E G hB0 rq hz w0 hM0 σ x1 ⟨hs, hle⟩ h)
  · have h := h.2 cc54
    refine x_iload_n dX2_line_128 (n := 129) rfl rfl 1 rfl ?_
    refine x_bipush dX2_line_129 (n := 131) rfl bp_6 ?_
    refine x_icmp_eq (tgt := 140) dX2_line_131 rfl (n := 134) rfl (fun cc55 => ?_) (fun cc55 => ?_)
    · have h := h.1 cc55
      exact x_sub [0, 1] rfl (xj_X2_line_140 o c d σ0 Mx Q E G hB0 rq hz w0 hM0 σ x1 ⟨hs, hle⟩ h)
    · have h := h.2 cc55
      refine x_iload_n dX2_line_134 (n := 135) rfl rfl 1 rfl ?_
      refine x_bipush dX2_line_135 (n := 137) rfl bp_7 ?_
      refine x_icmp_ne (tgt := 158) dX2_line_137 rfl (n := 140) rfl (fun cc56 => ?_) (fun cc56 => ?_)
      · have h := h.2 cc56
        exact x_sub [0, 1] rfl (xj_X2_line_158 o c d σ0 Mx Q E G hB0 rq hz w0 hM0 σ x1 ⟨hs, hle⟩ h)
      · have h := h.1 cc56
        exact x_sub [0, 1] rfl (xj_X2_line_140 o c d σ0 Mx Q E G hB0 rq hz w0 hM0 σ x1 ⟨hs, hle⟩ h)
theorem xj_X2_line_98 (o c d : Nat) (σ0 : Hp) (Mx : Nat) (Q : Hp → Prop) (E : Nat → Hp → Prop) (G : XE) (hB0 : EB o c d σ0) (rq : RQx G [] (Mx - gS σ0) (16 * (Mx - gS σ0)) (oV (fun σ' => gP Mx σ0 Q σ')) (pxF Mx σ0 E)) (hz : G.2.2.2.1.heap.size = gS σ0) (w0 : WF σ0) (hM0 : gS σ0 ≤ Mx) (σ : Hp) (x1 : Int32)    (hs : (GX σ0 σ ∧ gS σ ≤ Mx)) (h : wj_X2_line_98 o c d σ x1 Mx Q E ) : X G (rm_X2_line Mx σ0) cX2_line RX2 2 none σ (gS σ - gS σ0) (16 * (gS σ - gS σ0)) 98 [(0, .ref o), (1, .int x1)] [] := by
  have hle : gS σ ≤ Mx := hs.2
  have hs : GX σ0 σ := hs.1
  have hB := hB0.gx hs
  unfold wj_X2_line_98 at h
  refine x_iload_n dX2_line_98 (n := 99) rfl rfl 1 rfl ?_
  refine x_iconst dX2_line_99 (n := 100) rfl ic_5 ?_
  refine x_icmp_ne (tgt := 123) dX2_line_100 rfl (n := 103) rfl (fun cc45 => ?_) (fun cc45 => ?_)
  · have h := h.2 cc45
    exact x_sub [0, 1] rfl (xj_X2_line_123 o c d σ0 Mx Q E G hB0 rq hz w0 hM0 σ x1 ⟨hs, hle⟩ h)
  · have h := h.1 cc45
    refine x_aload_n dX2_line_103 (n := 104) rfl rfl 0 rfl ?_
    refine x_getr fl_X2_115_2 rfl hB.1 hB.2.2.2.2.2.1 dX2_line_104 (n := 107) rfl ?_
    refine x_getr fl_X2_143_3 rfl hB.2.2.2.2.2.2.1 hB.2.2.2.2.2.2.r1 dX2_line_107 (n := 110) rfl ?_
    refine x_cVip (As := []) (rest := []) cv_X2_130 ck4 (met_J2_size (d + 3) 4 σ hB.2.2.2.2.2.2.b1) hB.2.2.2.2.2.2.b1.1 (hRg (fr := 831) (lo := 27422) (by decide) hle) rfl rfl rfl dX2_line_110 (n := 113) rfl (fun r47 q => ?_)
    subst q
    refine x_iconst dX2_line_113 (n := 114) rfl ic_4 ?_
    refine x_icmp_ne (tgt := 123) dX2_line_114 rfl (n := 117) rfl (fun cc48 => ?_) (fun cc48 => ?_)
    · have h := h.2 cc48
      exact x_sub [0, 1] rfl (xj_X2_line_123 o c d σ0 Mx Q E G hB0 rq hz w0 hM0 σ x1 ⟨hs, hle⟩ h)
    · have h := h.1 cc48
      refine x_aload_n dX2_line_117 (n := 118) rfl rfl 0 rfl ?_
      refine x_iconst dX2_line_118 (n := 119) rfl ic_2 ?_
      refine g_cVr (fr := 831) (lo := 27422) (As := [.int 2]) (rest := []) hz hs cv_X2_85 ck2 (met_X2_wrong o c d σ 2 Mx _ _  hB hle  h) hB.1 (by decide) hle rfl rfl rfl dX2_line_119 (n := 122) rfl (fun q s49 hs50 hls49 h => g_out rq (hs.tr hs50) hls49 h) (fun r52 s49 hs50 hls49 h => ?_)
      have hs50t := hs.tr hs50
      have hBs49 := hB0.gx hs50t
      have h := h hs50
      obtain ⟨b53, h⟩ := h
      exact g_athrow rq hs50t hls49 b53 h dX2_line_122
theorem xj_X2_line_78 (o c d : Nat) (σ0 : Hp) (Mx : Nat) (Q : Hp → Prop) (E : Nat → Hp → Prop) (G : XE) (hB0 : EB o c d σ0) (rq : RQx G [] (Mx - gS σ0) (16 * (Mx - gS σ0)) (oV (fun σ' => gP Mx σ0 Q σ')) (pxF Mx σ0 E)) (hz : G.2.2.2.1.heap.size = gS σ0) (w0 : WF σ0) (hM0 : gS σ0 ≤ Mx) (σ : Hp) (x1 : Int32)    (hs : (GX σ0 σ ∧ gS σ ≤ Mx)) (h : wj_X2_line_78 o c d σ x1 Mx Q E ) : X G (rm_X2_line Mx σ0) cX2_line RX2 2 none σ (gS σ - gS σ0) (16 * (gS σ - gS σ0)) 78 [(0, .ref o), (1, .int x1)] [] := by
  have hle : gS σ ≤ Mx := hs.2
  have hs : GX σ0 σ := hs.1
  have hB := hB0.gx hs
  unfold wj_X2_line_78 at h
  refine x_iload_n dX2_line_78 (n := 79) rfl rfl 1 rfl ?_
  refine x_iconst dX2_line_79 (n := 80) rfl ic_3 ?_
  refine x_icmp_ne (tgt := 98) dX2_line_80 rfl (n := 83) rfl (fun cc36 => ?_) (fun cc36 => ?_)
  · have h := h.2 cc36
    exact x_sub [0, 1] rfl (xj_X2_line_98 o c d σ0 Mx Q E G hB0 rq hz w0 hM0 σ x1 ⟨hs, hle⟩ h)
  · have h := h.1 cc36
    refine x_aload_n dX2_line_83 (n := 84) rfl rfl 0 rfl ?_
    refine x_getr fl_X2_115_2 rfl hB.1 hB.2.2.2.2.2.1 dX2_line_84 (n := 87) rfl ?_
    refine x_getr fl_X2_140_3 rfl hB.2.2.2.2.2.2.1 hB.2.2.2.2.2.2.r4 dX2_line_87 (n := 90) rfl ?_
    refine x_cVip (As := []) (rest := []) cv_X2_130 ck4 (met_J2_size (d + 9) 6 σ hB.2.2.2.2.2.2.b4) hB.2.2.2.2.2.2.b4.1 (hRg (fr := 831) (lo := 27422) (by decide) hle) rfl rfl rfl dX2_line_90 (n := 93) rfl (fun r38 q => ?_)
    subst q
    refine x_bipush dX2_line_93 (n := 95) rfl bp_6 ?_
    refine x_icmp_eq (tgt := 117) dX2_line_95 rfl (n := 98) rfl (fun cc39 => ?_) (fun cc39 => ?_)
    · have h := h.1 cc39
      refine x_aload_n dX2_line_117 (n := 118) rfl rfl 0 rfl ?_
      refine x_iconst dX2_line_118 (n := 119) rfl ic_2 ?_
      refine g_cVr (fr := 831) (lo := 27422) (As := [.int 2]) (rest := []) hz hs cv_X2_85 ck2 (met_X2_wrong o c d σ 2 Mx _ _  hB hle  h) hB.1 (by decide) hle rfl rfl rfl dX2_line_119 (n := 122) rfl (fun q s40 hs41 hls40 h => g_out rq (hs.tr hs41) hls40 h) (fun r43 s40 hs41 hls40 h => ?_)
      have hs41t := hs.tr hs41
      have hBs40 := hB0.gx hs41t
      have h := h hs41
      obtain ⟨b44, h⟩ := h
      exact g_athrow rq hs41t hls40 b44 h dX2_line_122
    · have h := h.2 cc39
      exact x_sub [0, 1] rfl (xj_X2_line_98 o c d σ0 Mx Q E G hB0 rq hz w0 hM0 σ x1 ⟨hs, hle⟩ h)
theorem xj_X2_line_59 (o c d : Nat) (σ0 : Hp) (Mx : Nat) (Q : Hp → Prop) (E : Nat → Hp → Prop) (G : XE) (hB0 : EB o c d σ0) (rq : RQx G [] (Mx - gS σ0) (16 * (Mx - gS σ0)) (oV (fun σ' => gP Mx σ0 Q σ')) (pxF Mx σ0 E)) (hz : G.2.2.2.1.heap.size = gS σ0) (w0 : WF σ0) (hM0 : gS σ0 ≤ Mx) (σ : Hp) (x1 : Int32)    (hs : (GX σ0 σ ∧ gS σ ≤ Mx)) (h : wj_X2_line_59 o c d σ x1 Mx Q E ) : X G (rm_X2_line Mx σ0) cX2_line RX2 2 none σ (gS σ - gS σ0) (16 * (gS σ - gS σ0)) 59 [(0, .ref o), (1, .int x1)] [] := by
  have hle : gS σ ≤ Mx := hs.2
  have hs : GX σ0 σ := hs.1
  have hB := hB0.gx hs
  unfold wj_X2_line_59 at h
  refine x_iload_n dX2_line_59 (n := 60) rfl rfl 1 rfl ?_
  refine x_iconst dX2_line_60 (n := 61) rfl ic_2 ?_
  refine x_icmp_ne (tgt := 78) dX2_line_61 rfl (n := 64) rfl (fun cc27 => ?_) (fun cc27 => ?_)
  · have h := h.2 cc27
    exact x_sub [0, 1] rfl (xj_X2_line_78 o c d σ0 Mx Q E G hB0 rq hz w0 hM0 σ x1 ⟨hs, hle⟩ h)
  · have h := h.1 cc27
    refine x_aload_n dX2_line_64 (n := 65) rfl rfl 0 rfl ?_
    refine x_getr fl_X2_115_2 rfl hB.1 hB.2.2.2.2.2.1 dX2_line_65 (n := 68) rfl ?_
    refine x_getr fl_X2_137_3 rfl hB.2.2.2.2.2.2.1 hB.2.2.2.2.2.2.r3 dX2_line_68 (n := 71) rfl ?_
    refine x_cVip (As := []) (rest := []) cv_X2_130 ck4 (met_J2_size (d + 7) 4 σ hB.2.2.2.2.2.2.b3) hB.2.2.2.2.2.2.b3.1 (hRg (fr := 831) (lo := 27422) (by decide) hle) rfl rfl rfl dX2_line_71 (n := 74) rfl (fun r29 q => ?_)
    subst q
    refine x_iconst dX2_line_74 (n := 75) rfl ic_4 ?_
    refine x_icmp_eq (tgt := 117) dX2_line_75 rfl (n := 78) rfl (fun cc30 => ?_) (fun cc30 => ?_)
    · have h := h.1 cc30
      refine x_aload_n dX2_line_117 (n := 118) rfl rfl 0 rfl ?_
      refine x_iconst dX2_line_118 (n := 119) rfl ic_2 ?_
      refine g_cVr (fr := 831) (lo := 27422) (As := [.int 2]) (rest := []) hz hs cv_X2_85 ck2 (met_X2_wrong o c d σ 2 Mx _ _  hB hle  h) hB.1 (by decide) hle rfl rfl rfl dX2_line_119 (n := 122) rfl (fun q s31 hs32 hls31 h => g_out rq (hs.tr hs32) hls31 h) (fun r34 s31 hs32 hls31 h => ?_)
      have hs32t := hs.tr hs32
      have hBs31 := hB0.gx hs32t
      have h := h hs32
      obtain ⟨b35, h⟩ := h
      exact g_athrow rq hs32t hls31 b35 h dX2_line_122
    · have h := h.2 cc30
      exact x_sub [0, 1] rfl (xj_X2_line_78 o c d σ0 Mx Q E G hB0 rq hz w0 hM0 σ x1 ⟨hs, hle⟩ h)
theorem xj_X2_line_39 (o c d : Nat) (σ0 : Hp) (Mx : Nat) (Q : Hp → Prop) (E : Nat → Hp → Prop) (G : XE) (hB0 : EB o c d σ0) (rq : RQx G [] (Mx - gS σ0) (16 * (Mx - gS σ0)) (oV (fun σ' => gP Mx σ0 Q σ')) (pxF Mx σ0 E)) (hz : G.2.2.2.1.heap.size = gS σ0) (w0 : WF σ0) (hM0 : gS σ0 ≤ Mx) (σ : Hp) (x1 : Int32)    (hs : (GX σ0 σ ∧ gS σ ≤ Mx)) (h : wj_X2_line_39 o c d σ x1 Mx Q E ) : X G (rm_X2_line Mx σ0) cX2_line RX2 2 none σ (gS σ - gS σ0) (16 * (gS σ - gS σ0)) 39 [(0, .ref o), (1, .int x1)] [] := by
  have hle : gS σ ≤ Mx := hs.2
  have hs : GX σ0 σ := hs.1
  have hB := hB0.gx hs
  unfold wj_X2_line_39 at h
  refine x_iload_n dX2_line_39 (n := 40) rfl rfl 1 rfl ?_
  refine x_iconst dX2_line_40 (n := 41) rfl ic_1 ?_
  refine x_icmp_ne (tgt := 59) dX2_line_41 rfl (n := 44) rfl (fun cc18 => ?_) (fun cc18 => ?_)
  · have h := h.2 cc18
    exact x_sub [0, 1] rfl (xj_X2_line_59 o c d σ0 Mx Q E G hB0 rq hz w0 hM0 σ x1 ⟨hs, hle⟩ h)
  · have h := h.1 cc18
    refine x_aload_n dX2_line_44 (n := 45) rfl rfl 0 rfl ?_
    refine x_getr fl_X2_115_2 rfl hB.1 hB.2.2.2.2.2.1 dX2_line_45 (n := 48) rfl ?_
    refine x_getr fl_X2_134_3 rfl hB.2.2.2.2.2.2.1 hB.2.2.2.2.2.2.r2 dX2_line_48 (n := 51) rfl ?_
    refine x_cVip (As := []) (rest := []) cv_X2_130 ck4 (met_J2_size (d + 5) 6 σ hB.2.2.2.2.2.2.b2) hB.2.2.2.2.2.2.b2.1 (hRg (fr := 831) (lo := 27422) (by decide) hle) rfl rfl rfl dX2_line_51 (n := 54) rfl (fun r20 q => ?_)
    subst q
    refine x_bipush dX2_line_54 (n := 56) rfl bp_6 ?_
    refine x_icmp_eq (tgt := 117) dX2_line_56 rfl (n := 59) rfl (fun cc21 => ?_) (fun cc21 => ?_)
    · have h := h.1 cc21
      refine x_aload_n dX2_line_117 (n := 118) rfl rfl 0 rfl ?_
      refine x_iconst dX2_line_118 (n := 119) rfl ic_2 ?_
      refine g_cVr (fr := 831) (lo := 27422) (As := [.int 2]) (rest := []) hz hs cv_X2_85 ck2 (met_X2_wrong o c d σ 2 Mx _ _  hB hle  h) hB.1 (by decide) hle rfl rfl rfl dX2_line_119 (n := 122) rfl (fun q s22 hs23 hls22 h => g_out rq (hs.tr hs23) hls22 h) (fun r25 s22 hs23 hls22 h => ?_)
      have hs23t := hs.tr hs23
      have hBs22 := hB0.gx hs23t
      have h := h hs23
      obtain ⟨b26, h⟩ := h
      exact g_athrow rq hs23t hls22 b26 h dX2_line_122
    · have h := h.2 cc21
      exact x_sub [0, 1] rfl (xj_X2_line_59 o c d σ0 Mx Q E G hB0 rq hz w0 hM0 σ x1 ⟨hs, hle⟩ h)
theorem met_X2_line (o c d : Nat) (σ0 : Hp) (Mx : Nat) (Q : Hp → Prop) (E : Nat → Hp → Prop) (hB0 : EB o c d σ0) (hM0 : gS σ0 ≤ Mx) (h : wp_X2_line o c d σ0 Mx Q E) : MetY yX2_line cX2_line 2 none (rm_X2_line Mx σ0) σ0 [.ref o] (oV (fun σ' => gP Mx σ0 Q σ')) (pxF Mx σ0 E) (Mx - gS σ0) (16 * (Mx - gS σ0)) := by
  refine metG_of (own := RX2) (lvs := [(0, .ref o)]) (by decide) rfl (Nat.le_of_ble_eq_true rfl) rfl (fun G rq hz w0 => ?_)
  unfold wp_X2_line at h
  refine x_aload_n dX2_line_0 (n := 1) rfl rfl 0 rfl ?_
  refine x_iconst dX2_line_1 (n := 2) rfl ic_0 ?_
  refine x_bipush dX2_line_2 (n := 4) rfl bp_7 ?_
  refine x_cVip (As := [.int 0, .int 7]) (rest := []) cv_X2_122 ck2 (met_X2_isWord o c d σ0 0 7 hB0) hB0.1 (hRg (fr := 831) (lo := 27422) (by decide) hM0) rfl rfl rfl dX2_line_4 (n := 7) rfl (fun r2 q => ?_)
  subst q
  refine x_if_ne (tgt := 16) dX2_line_7 rfl (n := 10) rfl (fun cc3 => ?_) (fun cc3 => ?_)
  · have h := h.2 cc3
    refine x_aload_n dX2_line_16 (n := 17) rfl rfl 0 rfl ?_
    refine x_geti fl_X2_47_2 rfl hB0.1 rfl dX2_line_17 (n := 20) rfl ?_
    refine x_istore_n (lvs' := [(1, .int (gI σ0 o 4)), (0, .ref o)]) dX2_line_20 (n := 21) rfl rfl (by decide) rfl ?_
    refine x_iload_n dX2_line_21 (n := 22) rfl rfl 0 rfl ?_
    refine x_if_ne (tgt := 39) dX2_line_22 rfl (n := 25) rfl (fun cc4 => ?_) (fun cc4 => ?_)
    · have h := h.2 cc4
      exact x_sub [1, 0] rfl (xj_X2_line_39 o c d σ0 Mx Q E G hB0 rq hz w0 hM0 σ0 (gI σ0 o 4) ⟨(GX.rf (σ := σ0)), hM0⟩ h)
    · have h := h.1 cc4
      refine x_aload_n dX2_line_25 (n := 26) rfl rfl 1 rfl ?_
      refine x_getr fl_X2_115_2 rfl hB0.1 hB0.2.2.2.2.2.1 dX2_line_26 (n := 29) rfl ?_
      refine x_getr fl_X2_126_3 rfl hB0.2.2.2.2.2.2.1 hB0.2.2.2.2.2.2.r0 dX2_line_29 (n := 32) rfl ?_
      refine x_cVip (As := []) (rest := []) cv_X2_130 ck4 (met_J2_size (d + 1) 4 σ0 hB0.2.2.2.2.2.2.b0) hB0.2.2.2.2.2.2.b0.1 (hRg (fr := 831) (lo := 27422) (by decide) hM0) rfl rfl rfl dX2_line_32 (n := 35) rfl (fun r6 q => ?_)
      subst q
      refine x_iconst dX2_line_35 (n := 36) rfl ic_4 ?_
      refine x_icmp_eq (tgt := 117) dX2_line_36 rfl (n := 39) rfl (fun cc7 => ?_) (fun cc7 => ?_)
      · have h := h.1 cc7
        refine x_aload_n dX2_line_117 (n := 118) rfl rfl 1 rfl ?_
        refine x_iconst dX2_line_118 (n := 119) rfl ic_2 ?_
        refine g_cVr (fr := 831) (lo := 27422) (As := [.int 2]) (rest := []) hz (GX.rf (σ := σ0)) cv_X2_85 ck2 (met_X2_wrong o c d σ0 2 Mx _ _  hB0 hM0  h) hB0.1 (by decide) hM0 rfl rfl rfl dX2_line_119 (n := 122) rfl (fun q s8 hs9 hls8 h => g_out rq ((GX.rf (σ := σ0)).tr hs9) hls8 h) (fun r11 s8 hs9 hls8 h => ?_)
        have hs9t := (GX.rf (σ := σ0)).tr hs9
        have hBs8 := hB0.gx hs9t
        have h := h hs9
        obtain ⟨b12, h⟩ := h
        exact g_athrow rq hs9t hls8 b12 h dX2_line_122
      · have h := h.2 cc7
        exact x_sub [1, 0] rfl (xj_X2_line_39 o c d σ0 Mx Q E G hB0 rq hz w0 hM0 σ0 (gI σ0 o 4) ⟨(GX.rf (σ := σ0)), hM0⟩ h)
  · have h := h.1 cc3
    refine x_aload_n dX2_line_10 (n := 11) rfl rfl 0 rfl ?_
    refine x_iconst dX2_line_11 (n := 12) rfl ic_1 ?_
    refine g_cVr (fr := 831) (lo := 27422) (As := [.int 1]) (rest := []) hz (GX.rf (σ := σ0)) cv_X2_85 ck2 (met_X2_wrong o c d σ0 1 Mx _ _  hB0 hM0  h) hB0.1 (by decide) hM0 rfl rfl rfl dX2_line_12 (n := 15) rfl (fun q s13 hs14 hls13 h => g_out rq ((GX.rf (σ := σ0)).tr hs14) hls13 h) (fun r16 s13 hs14 hls13 h => ?_)
    have hs14t := (GX.rf (σ := σ0)).tr hs14
    have hBs13 := hB0.gx hs14t
    have h := h hs14
    obtain ⟨b17, h⟩ := h
    exact g_athrow rq hs14t hls13 b17 h dX2_line_15
