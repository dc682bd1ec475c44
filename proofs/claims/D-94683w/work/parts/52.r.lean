set_option maxRecDepth 100000
abbrev rm_X2_one (n : Nat) (Mx : Nat) (σ0 : Hp) : Room := rmG (21 + 9 * n) (422 + 300 * n) Mx σ0
def wp_X2_one (o c d : Nat) (σ0 : Hp) (Mx : Nat) (Q : Nat → Hp → Prop) (E : Nat → Hp → Prop) (OR : Hp → (Nat → Hp → Prop) → (Nat → Hp → Prop) → Prop) : Prop := ((f_X2_isSign o c d σ0 40) = 0 → ((gI σ0 o 3) = 2 → ((gI σ0 o 4) ≤ 9999 → (gS σ0 + 1 ≤ Mx) ∧ (wp_X2_knot o c d (pN σ0 (.inl 12)) Mx (fun r32 s29 => GX (pN σ0 (.inl 12)) s29 → ∀ s35 : Hp, s35 = f_X15_init (gS σ0) s29 r32 → Q (gS σ0) s35) E)) ∧ (¬ (gI σ0 o 4) ≤ 9999 → wp_X2_wrong o c d σ0 2 Mx (fun r41 s38 => GX σ0 s38 → (OB 16 r41 s38) ∧ (E r41 s38)) E)) ∧ (¬ (gI σ0 o 3) = 2 → ((f_X2_nameAtHand o c d σ0) = (-1) → wp_X2_wrong o c d σ0 1 Mx (fun r23 s20 => GX σ0 s20 → (OB 16 r23 s20) ∧ (E r23 s20)) E) ∧ (¬ (f_X2_nameAtHand o c d σ0) = (-1) → wp_X2_knot o c d σ0 Mx (fun r11 s8 => GX σ0 s8 → (gS s8 + 1 ≤ Mx) ∧ (∀ s17 : Hp, s17 = f_X16_init (gS s8) (pN s8 (.inl 13)) (f_X2_nameAtHand o c d σ0) → Q (gS s8) s17)) E))) ∧ (¬ (f_X2_isSign o c d σ0 40) = 0 → ((gI σ0 o 5) = 8 → wp_X2_wrong o c d σ0 2 Mx (fun r63 s60 => GX σ0 s60 → (OB 16 r63 s60) ∧ (E r63 s60)) E) ∧ (¬ (gI σ0 o 5) = 8 → wp_X2_next o c d (pI σ0 o 5 ((gI σ0 o 5) + 1)) (fun  s44 => SH (pI σ0 o 5 ((gI σ0 o 5) + 1)) s44 → OR s44 (fun r49 s46 => GX s44 s46 → ((f_X2_isSign o c d s46 41) = 0 → wp_X2_wrong o c d s46 1 Mx (fun r58 s55 => GX s46 s55 → (OB 16 r58 s55) ∧ (E r58 s55)) E) ∧ (¬ (f_X2_isSign o c d s46 41) = 0 → wp_X2_next o c d (pI s46 o 5 ((gI s46 o 5) - 1)) (fun  s53 => SH (pI s46 o 5 ((gI s46 o 5) - 1)) s53 → Q r49 s53))) E)))
theorem met_X2_one (n : Nat) (o c d : Nat) (σ0 : Hp) (Mx : Nat) (Q : Nat → Hp → Prop) (E : Nat → Hp → Prop) (OR : Hp → (Nat → Hp → Prop) → (Nat → Hp → Prop) → Prop) (hB0 : EB o c d σ0) (hM0 : gS σ0 ≤ Mx) (hOR : ∀ σ Q E, EB o c d σ → gS σ ≤ Mx → OR σ Q E → MetY yX2_or cX2_or 3 (some (.object "LongYears$Part")) (rmG (20 + 9 * n) (400 + 300 * n) Mx σ) σ [.ref o] (oR (fun r σ' => gP Mx σ (Q r) σ')) (pxF Mx σ E) (Mx - gS σ) (16 * (Mx - gS σ))) (h : wp_X2_one o c d σ0 Mx Q E OR) : MetY yX2_one cX2_one 2 (some (.object "LongYears$Part")) (rm_X2_one n Mx σ0) σ0 [.ref o] (oR (fun r σ' => gP Mx σ0 (Q r) σ')) (pxF Mx σ0 E) (Mx - gS σ0) (16 * (Mx - gS σ0)) := by
  refine metG_of (own := RX2) (lvs := [(0, .ref o)]) (by decide) rfl (Nat.le_of_ble_eq_true rfl) rfl (fun G rq hz w0 => ?_)
  unfold wp_X2_one at h
  refine x_aload_n dX2_one_0 (n := 1) rfl rfl 0 rfl ?_
  refine x_bipush dX2_one_1 (n := 3) rfl bp_40 ?_
  refine x_cVip (As := [.int 40]) (rest := []) cv_X2_92 ck2 (met_X2_isSign o c d σ0 40 hB0) hB0.1 (hRg (fr := (21 + 9 * n)) (lo := (422 + 300 * n)) ⟨rfl, rfl, Nat.le_add_right_of_le (by decide), Nat.le_add_right_of_le (by decide)⟩ hM0) rfl rfl rfl dX2_one_3 (n := 6) rfl (fun r2 q => ?_)
  subst q
  refine x_if_eq (tgt := 74) dX2_one_6 rfl (n := 9) rfl (fun cc3 => ?_) (fun cc3 => ?_)
  · have h := h.1 cc3
    refine x_aload_n dX2_one_74 (n := 75) rfl rfl 0 rfl ?_
    refine x_geti fl_X2_33_2 rfl hB0.1 rfl dX2_one_75 (n := 78) rfl ?_
    refine x_iconst dX2_one_78 (n := 79) rfl ic_2 ?_
    refine x_icmp_ne (tgt := 110) dX2_one_79 rfl (n := 82) rfl (fun cc4 => ?_) (fun cc4 => ?_)
    · have h := h.2 cc4
      refine x_aload_n dX2_one_110 (n := 111) rfl rfl 0 rfl ?_
      refine x_cVip (As := []) (rest := []) cv_X2_315 ck2 (met_X2_nameAtHand o c d σ0 hB0) hB0.1 (hRg (fr := (21 + 9 * n)) (lo := (422 + 300 * n)) ⟨rfl, rfl, Nat.le_add_right_of_le (by decide), Nat.le_add_right_of_le (by decide)⟩ hM0) rfl rfl rfl dX2_one_111 (n := 114) rfl (fun r6 q => ?_)
      subst q
      refine x_istore_n (lvs' := [(1, .int (f_X2_nameAtHand o c d σ0)), (0, .ref o)]) dX2_one_114 (n := 115) rfl rfl (by decide) rfl ?_
      refine x_iload_n dX2_one_115 (n := 116) rfl rfl 0 rfl ?_
      refine x_iconst dX2_one_116 (n := 117) rfl ic_m1 ?_
      refine x_icmp_ne (tgt := 126) dX2_one_117 rfl (n := 120) rfl (fun cc7 => ?_) (fun cc7 => ?_)
      · have h := h.2 cc7
        refine x_aload_n dX2_one_126 (n := 127) rfl rfl 1 rfl ?_
        refine g_cVi (fr := (21 + 9 * n)) (lo := (422 + 300 * n)) (As := []) (rest := []) hz (GX.rf (σ := σ0)) cv_X2_284 ck2 (met_X2_knot o c d σ0 Mx _ _  hB0 hM0  h) hB0.1 ⟨Nat.le_add_right_of_le (by decide), Nat.le_add_right_of_le (by decide)⟩ hM0 rfl rfl rfl dX2_one_127 (n := 130) rfl (fun q s8 hs9 hls8 h => g_out rq ((GX.rf (σ := σ0)).tr hs9) hls8 h) (fun r11 s8 hs9 hls8 h => ?_)
        have hs9t := (GX.rf (σ := σ0)).tr hs9
        have hBs8 := hB0.gx hs9t
        have h := h hs9
        refine x_pop dX2_one_130 (n := 131) rfl rfl ?_
        obtain ⟨b12, h⟩ := h
        refine g_new hz hs9t nx_X2_318 (by decide) b12 dX2_one_131 (n := 134) rfl (fun w14 hn13 => ?_)
        refine x_dup dX2_one_134 (n := 135) rfl rfl ?_
        refine x_iload_n dX2_one_135 (n := 136) rfl rfl 0 rfl ?_
        refine x_wf (fun w15 => ?_)
        refine x_callI (mc := 0) (ms := 0) (As := [.int (f_X2_nameAtHand o c d σ0)]) (rest := [.ref (gS s8)]) ci_X2_320 (met_X16_init (gS s8) (pN s8 (.inl 13)) (f_X2_nameAtHand o c d σ0) (gT_new (σ := s8))) (hRi (fr := (21 + 9 * n)) (lo := (422 + 300 * n)) (mc := 0) (ms := 0) hn13 rfl rfl ⟨Nat.le_add_right_of_le (by decide), Nat.le_add_right_of_le (by decide)⟩ (by decide) b12) rfl rfl rfl dX2_one_136 (n := 139) rfl (fun s17 hp => ?_)
        obtain ⟨hk16, e19⟩ := hp
        have hn18 : GX σ0 s17 := hk16.2 σ0 w0 hn13 (hs9t.fresh w0) w15
        have hls17 : gS s17 ≤ Mx := by rw [e19]; exact b12
        refine x_tight hz hn18 ?_
        have hBs17 := hB0.gx hn18
        have h := h s17 e19
        exact g_aret rfl rq hn18 hls17 h dX2_one_139
      · have h := h.1 cc7
        refine x_aload_n dX2_one_120 (n := 121) rfl rfl 1 rfl ?_
        refine x_iconst dX2_one_121 (n := 122) rfl ic_1 ?_
        refine g_cVr (fr := (21 + 9 * n)) (lo := (422 + 300 * n)) (As := [.int 1]) (rest := []) hz (GX.rf (σ := σ0)) cv_X2_85 ck2 (met_X2_wrong o c d σ0 1 Mx _ _  hB0 hM0  h) hB0.1 ⟨Nat.le_add_right_of_le (by decide), Nat.le_add_right_of_le (by decide)⟩ hM0 rfl rfl rfl dX2_one_122 (n := 125) rfl (fun q s20 hs21 hls20 h => g_out rq ((GX.rf (σ := σ0)).tr hs21) hls20 h) (fun r23 s20 hs21 hls20 h => ?_)
        have hs21t := (GX.rf (σ := σ0)).tr hs21
        have hBs20 := hB0.gx hs21t
        have h := h hs21
        obtain ⟨b24, h⟩ := h
        exact g_athrow rq hs21t hls20 b24 h dX2_one_125
    · have h := h.1 cc4
      refine x_aload_n dX2_one_82 (n := 83) rfl rfl 0 rfl ?_
      refine x_geti fl_X2_47_2 rfl hB0.1 rfl dX2_one_83 (n := 86) rfl ?_
      refine x_sipush dX2_one_86 (n := 89) rfl sp_9999 ?_
      refine x_icmp_le (tgt := 98) dX2_one_89 rfl (n := 92) rfl (fun cc25 => ?_) (fun cc25 => ?_)
      · have h := h.1 cc25
        obtain ⟨b26, h⟩ := h
        refine g_new hz (GX.rf (σ := σ0)) nx_X2_312 (by decide) b26 dX2_one_98 (n := 101) rfl (fun w28 hn27 => ?_)
        refine x_dup dX2_one_101 (n := 102) rfl rfl ?_
        refine x_aload_n dX2_one_102 (n := 103) rfl rfl 0 rfl ?_
        refine g_cVi (fr := (21 + 9 * n)) (lo := (422 + 300 * n)) (As := []) (rest := [.ref (gS σ0), .ref (gS σ0)]) hz hn27 cv_X2_284 ck2 (met_X2_knot o c d (pN σ0 (.inl 12)) Mx _ _  (hB0.gx hn27) b26  h) (hB0.gx hn27).1 ⟨Nat.le_add_right_of_le (by decide), Nat.le_add_right_of_le (by decide)⟩ b26 rfl rfl rfl dX2_one_103 (n := 106) rfl (fun q s29 hs30 hls29 h => g_out rq (hn27.tr hs30) hls29 h) (fun r32 s29 hs30 hls29 h => ?_)
        have hs30t := hn27.tr hs30
        have hBs29 := hB0.gx hs30t
        have h := h hs30
        refine x_wf (fun w33 => ?_)
        refine x_callI (mc := 0) (ms := 0) (As := [.int r32]) (rest := [.ref (gS σ0)]) ci_X2_314 (met_X15_init (gS σ0) s29 r32 (hs30.t (gT_new (σ := σ0)))) (hRi (fr := (21 + 9 * n)) (lo := (422 + 300 * n)) (mc := 0) (ms := 0) hs30t rfl rfl ⟨Nat.le_add_right_of_le (by decide), Nat.le_add_right_of_le (by decide)⟩ (by decide) hls29) rfl rfl rfl dX2_one_106 (n := 109) rfl (fun s35 hp => ?_)
        obtain ⟨hk34, e37⟩ := hp
        have hn36 : GX σ0 s35 := hk34.2 σ0 w0 hs30t ((GX.rf (σ := σ0)).fresh w0) w33
        have hls35 : gS s35 ≤ Mx := by rw [e37]; exact hls29
        refine x_tight hz hn36 ?_
        have hBs35 := hB0.gx hn36
        have h := h s35 e37
        exact g_aret rfl rq hn36 hls35 h dX2_one_109
      · have h := h.2 cc25
        refine x_aload_n dX2_one_92 (n := 93) rfl rfl 0 rfl ?_
        refine x_iconst dX2_one_93 (n := 94) rfl ic_2 ?_
        refine g_cVr (fr := (21 + 9 * n)) (lo := (422 + 300 * n)) (As := [.int 2]) (rest := []) hz (GX.rf (σ := σ0)) cv_X2_85 ck2 (met_X2_wrong o c d σ0 2 Mx _ _  hB0 hM0  h) hB0.1 ⟨Nat.le_add_right_of_le (by decide), Nat.le_add_right_of_le (by decide)⟩ hM0 rfl rfl rfl dX2_one_94 (n := 97) rfl (fun q s38 hs39 hls38 h => g_out rq ((GX.rf (σ := σ0)).tr hs39) hls38 h) (fun r41 s38 hs39 hls38 h => ?_)
        have hs39t := (GX.rf (σ := σ0)).tr hs39
        have hBs38 := hB0.gx hs39t
        have h := h hs39
        obtain ⟨b42, h⟩ := h
        exact g_athrow rq hs39t hls38 b42 h dX2_one_97
  · have h := h.2 cc3
    refine x_aload_n dX2_one_9 (n := 10) rfl rfl 0 rfl ?_
    refine x_geti fl_X2_106_2 rfl hB0.1 rfl dX2_one_10 (n := 13) rfl ?_
    refine x_bipush dX2_one_13 (n := 15) rfl bp_8 ?_
    refine x_icmp_ne (tgt := 24) dX2_one_15 rfl (n := 18) rfl (fun cc43 => ?_) (fun cc43 => ?_)
    · have h := h.2 cc43
      refine x_aload_n dX2_one_24 (n := 25) rfl rfl 0 rfl ?_
      refine x_dup dX2_one_25 (n := 26) rfl rfl ?_
      refine x_geti fl_X2_106_2 rfl hB0.1 rfl dX2_one_26 (n := 29) rfl ?_
      refine x_iconst dX2_one_29 (n := 30) rfl ic_1 ?_
      refine x_iadd dX2_one_30 (n := 31) rfl ?_
      refine x_puti fp_X2_106_2 rfl hB0.1 dX2_one_31 (n := 34) rfl ?_
      refine x_aload_n dX2_one_34 (n := 35) rfl rfl 0 rfl ?_
      refine x_cVvm (As := []) (rest := []) cv_X2_89 ck2 (met_X2_next o c d (pI σ0 o 5 ((gI σ0 o 5) + 1)) _ hB0.i h) hB0.i.1 (hRg (fr := (21 + 9 * n)) (lo := (422 + 300 * n)) ⟨rfl, rfl, Nat.le_add_right_of_le (by decide), Nat.le_add_right_of_le (by decide)⟩ hM0) rfl rfl rfl dX2_one_35 (n := 38) rfl (fun  s44 hs45 h => ?_)
      have hs45t := (GX.rf (σ := σ0)).i.s hs45
      have hBs44 := hB0.gx hs45t
      have hls44 : gS s44 ≤ Mx := Nat.le_trans (Nat.le_of_eq hs45.1) hM0
      refine x_tight hz hs45t ?_
      have h := h hs45
      refine x_aload_n dX2_one_38 (n := 39) rfl rfl 0 rfl ?_
      refine g_cVr (fr := (21 + 9 * n)) (lo := (422 + 300 * n)) (As := []) (rest := []) hz hs45t cv_X2_176 ck2 (hOR s44 _ _ hBs44 hls44 h) hBs44.1 ⟨by omega, by omega⟩ hls44 rfl rfl rfl dX2_one_39 (n := 42) rfl (fun q s46 hs47 hls46 h => g_out rq (hs45t.tr hs47) hls46 h) (fun r49 s46 hs47 hls46 h => ?_)
      have hs47t := hs45t.tr hs47
      have hBs46 := hB0.gx hs47t
      have h := h hs47
      refine x_astore_n (lvs' := [(1, .ref r49), (0, .ref o)]) dX2_one_42 (n := 43) rfl rfl (by decide) rfl ?_
      refine x_aload_n dX2_one_43 (n := 44) rfl rfl 1 rfl ?_
      refine x_bipush dX2_one_44 (n := 46) rfl bp_41 ?_
      refine x_cVip (As := [.int 41]) (rest := []) cv_X2_92 ck2 (met_X2_isSign o c d s46 41 hBs46) hBs46.1 (hRg (fr := (21 + 9 * n)) (lo := (422 + 300 * n)) ⟨rfl, rfl, Nat.le_add_right_of_le (by decide), Nat.le_add_right_of_le (by decide)⟩ hls46) rfl rfl rfl dX2_one_46 (n := 49) rfl (fun r51 q => ?_)
      subst q
      refine x_if_ne (tgt := 58) dX2_one_49 rfl (n := 52) rfl (fun cc52 => ?_) (fun cc52 => ?_)
      · have h := h.2 cc52
        refine x_aload_n dX2_one_58 (n := 59) rfl rfl 1 rfl ?_
        refine x_dup dX2_one_59 (n := 60) rfl rfl ?_
        refine x_geti fl_X2_106_2 rfl hBs46.1 rfl dX2_one_60 (n := 63) rfl ?_
        refine x_iconst dX2_one_63 (n := 64) rfl ic_1 ?_
        refine x_isub dX2_one_64 (n := 65) rfl ?_
        refine x_puti fp_X2_106_2 rfl hBs46.1 dX2_one_65 (n := 68) rfl ?_
        refine x_aload_n dX2_one_68 (n := 69) rfl rfl 1 rfl ?_
        refine x_cVvm (As := []) (rest := []) cv_X2_89 ck2 (met_X2_next o c d (pI s46 o 5 ((gI s46 o 5) - 1)) _ hBs46.i h) hBs46.i.1 (hRg (fr := (21 + 9 * n)) (lo := (422 + 300 * n)) ⟨rfl, rfl, Nat.le_add_right_of_le (by decide), Nat.le_add_right_of_le (by decide)⟩ hls46) rfl rfl rfl dX2_one_69 (n := 72) rfl (fun  s53 hs54 h => ?_)
        have hs54t := hs47t.i.s hs54
        have hBs53 := hB0.gx hs54t
        have hls53 : gS s53 ≤ Mx := Nat.le_trans (Nat.le_of_eq hs54.1) hls46
        refine x_tight hz hs54t ?_
        have h := h hs54
        refine x_aload_n dX2_one_72 (n := 73) rfl rfl 0 rfl ?_
        exact g_aret rfl rq hs54t hls53 h dX2_one_73
      · have h := h.1 cc52
        refine x_aload_n dX2_one_52 (n := 53) rfl rfl 1 rfl ?_
        refine x_iconst dX2_one_53 (n := 54) rfl ic_1 ?_
        refine g_cVr (fr := (21 + 9 * n)) (lo := (422 + 300 * n)) (As := [.int 1]) (rest := []) hz hs47t cv_X2_85 ck2 (met_X2_wrong o c d s46 1 Mx _ _  hBs46 hls46  h) hBs46.1 ⟨Nat.le_add_right_of_le (by decide), Nat.le_add_right_of_le (by decide)⟩ hls46 rfl rfl rfl dX2_one_54 (n := 57) rfl (fun q s55 hs56 hls55 h => g_out rq (hs47t.tr hs56) hls55 h) (fun r58 s55 hs56 hls55 h => ?_)
        have hs56t := hs47t.tr hs56
        have hBs55 := hB0.gx hs56t
        have h := h hs56
        obtain ⟨b59, h⟩ := h
        exact g_athrow rq hs56t hls55 b59 h dX2_one_57
    · have h := h.1 cc43
      refine x_aload_n dX2_one_18 (n := 19) rfl rfl 0 rfl ?_
      refine x_iconst dX2_one_19 (n := 20) rfl ic_2 ?_
      refine g_cVr (fr := (21 + 9 * n)) (lo := (422 + 300 * n)) (As := [.int 2]) (rest := []) hz (GX.rf (σ := σ0)) cv_X2_85 ck2 (met_X2_wrong o c d σ0 2 Mx _ _  hB0 hM0  h) hB0.1 ⟨Nat.le_add_right_of_le (by decide), Nat.le_add_right_of_le (by decide)⟩ hM0 rfl rfl rfl dX2_one_20 (n := 23) rfl (fun q s60 hs61 hls60 h => g_out rq ((GX.rf (σ := σ0)).tr hs61) hls60 h) (fun r63 s60 hs61 hls60 h => ?_)
      have hs61t := (GX.rf (σ := σ0)).tr hs61
      have hBs60 := hB0.gx hs61t
      have h := h hs61
      obtain ⟨b64, h⟩ := h
      exact g_athrow rq hs61t hls60 b64 h dX2_one_23
abbrev rm_X2_product (n : Nat) (Mx : Nat) (σ0 : Hp) : Room := rmG (22 + 9 * n) (443 + 300 * n) Mx σ0
def wj_X2_product_32 (o c d : Nat) (σ : Hp) (r1 : Nat) (Mx : Nat) (Q : Nat → Hp → Prop) (E : Nat → Hp → Prop) (OR : Hp → (Nat → Hp → Prop) → (Nat → Hp → Prop) → Prop) (K5 : (Nat × Hp) → Prop) : Prop := wp_X2_knot o c d σ Mx (fun r17 s14 => GX σ s14 → (gS s14 + 1 ≤ Mx) ∧ (wp_X2_one o c d (pN s14 (.inl 15)) Mx (fun r24 s21 => GX (pN s14 (.inl 15)) s21 → ∀ s27 : Hp, s27 = f_X18_init (gS s14) s21 r17 r1 r24 → K5 (gS s14, s27)) E OR)) E
def lb_X2_product_5 (o c d : Nat)  (Mx : Nat) (Q : Nat → Hp → Prop) (E : Nat → Hp → Prop) (OR : Hp → (Nat → Hp → Prop) → (Nat → Hp → Prop) → Prop)  (K5 : Nat × Hp → Prop) (z : Nat × Hp) : Prop := match z with
  | (r1, σ) => ((f_X2_isSign o c d σ 42) = 0 → ((f_X2_isSign o c d σ 47) = 0 → ((f_X2_isSign o c d σ 37) = 0 → Q r1 σ) ∧ (¬ (f_X2_isSign o c d σ 37) = 0 → wj_X2_product_32 o c d σ r1 Mx Q E OR K5)) ∧ (¬ (f_X2_isSign o c d σ 47) = 0 → wj_X2_product_32 o c d σ r1 Mx Q E OR K5)) ∧ (¬ (f_X2_isSign o c d σ 42) = 0 → wj_X2_product_32 o c d σ r1 Mx Q E OR K5)
def wp_X2_product (o c d : Nat) (σ0 : Hp) (Mx : Nat) (Q : Nat → Hp → Prop) (E : Nat → Hp → Prop) (OR : Hp → (Nat → Hp → Prop) → (Nat → Hp → Prop) → Prop) : Prop := wp_X2_one o c d σ0 Mx (fun r4 s1 => GX σ0 s1 → lp (lb_X2_product_5 o c d Mx Q E OR) (r4, s1)) E OR
theorem xj_X2_product_32 (n : Nat) (o c d : Nat) (σ0 : Hp) (Mx : Nat) (Q : Nat → Hp → Prop) (E : Nat → Hp → Prop) (OR : Hp → (Nat → Hp → Prop) → (Nat → Hp → Prop) → Prop) (G : XE) (hB0 : EB o c d σ0) (rq : RQx G [] (Mx - gS σ0) (16 * (Mx - gS σ0)) (oR (fun r σ' => gP Mx σ0 (Q r) σ')) (pxF Mx σ0 E)) (hz : G.2.2.2.1.heap.size = gS σ0) (w0 : WF σ0) (hM0 : gS σ0 ≤ Mx) (hOR : ∀ σ Q E, EB o c d σ → gS σ ≤ Mx → OR σ Q E → MetY yX2_or cX2_or 3 (some (.object "LongYears$Part")) (rmG (20 + 9 * n) (400 + 300 * n) Mx σ) σ [.ref o] (oR (fun r σ' => gP Mx σ (Q r) σ')) (pxF Mx σ E) (Mx - gS σ) (16 * (Mx - gS σ))) (σ : Hp) (r1 : Nat)  (K5 : (Nat × Hp) → Prop) (hK5 : ∀ z : (Nat × Hp), (GX σ0 z.2 ∧ gS z.2 ≤ Mx) → K5 z → X G (rm_X2_product n Mx σ0) cX2_product RX2 3 (some (.object "LongYears$Part")) z.2 (gS z.2 - gS σ0) (16 * (gS z.2 - gS σ0)) 5 [(0, .ref o), (1, .ref z.1)] []) (hs : (GX σ0 σ ∧ gS σ ≤ Mx)) (h : wj_X2_product_32 o c d σ r1 Mx Q E OR K5) : X G (rm_X2_product n Mx σ0) cX2_product RX2 3 (some (.object "LongYears$Part")) σ (gS σ - gS σ0) (16 * (gS σ - gS σ0)) 32 [(0, .ref o), (1, .ref r1)] [] := by
  have hle : gS σ ≤ Mx := hs.2
  have hs : GX σ0 σ := hs.1
  have hB := hB0.gx hs
  unfold wj_X2_product_32 at h
  refine x_aload_n dX2_product_32 (n := 33) rfl rfl 0 rfl ?_
  refine g_cVi (fr := (22 + 9 * n)) (lo := (443 + 300 * n)) (As := []) (rest := []) hz hs cv_X2_284 ck2 (met_X2_knot o c d σ Mx _ _  hB hle  h) hB.1 ⟨Nat.le_add_right_of_le (by decide), Nat.le_add_right_of_le (by decide)⟩ hle rfl rfl rfl dX2_product_33 (n := 36) rfl (fun q s14 hs15 hls14 h => g_out rq (hs.tr hs15) hls14 h) (fun r17 s14 hs15 hls14 h => ?_)
  have hs15t := hs.tr hs15
  have hBs14 := hB0.gx hs15t
  have h := h hs15
  refine x_istore_n (lvs' := [(2, .int r17), (0, .ref o), (1, .ref r1)]) dX2_product_36 (n := 37) rfl rfl (by decide) rfl ?_
  obtain ⟨b18, h⟩ := h
  refine g_new hz hs15t nx_X2_287 (by decide) b18 dX2_product_37 (n := 40) rfl (fun w20 hn19 => ?_)
  refine x_dup dX2_product_40 (n := 41) rfl rfl ?_
  refine x_iload_n dX2_product_41 (n := 42) rfl rfl 0 rfl ?_
  refine x_aload_n dX2_product_42 (n := 43) rfl rfl 2 rfl ?_
  refine x_aload_n dX2_product_43 (n := 44) rfl rfl 1 rfl ?_
  refine g_cVr (fr := (22 + 9 * n)) (lo := (443 + 300 * n)) (As := []) (rest := [.ref r1, .int r17, .ref (gS s14), .ref (gS s14)]) hz hn19 cv_X2_309 ck2 (met_X2_one n o c d (pN s14 (.inl 15)) Mx _ _ OR (hB0.gx hn19) b18 hOR h) (hB0.gx hn19).1 ⟨by omega, by omega⟩ b18 rfl rfl rfl dX2_product_44 (n := 47) rfl (fun q s21 hs22 hls21 h => g_out rq (hn19.tr hs22) hls21 h) (fun r24 s21 hs22 hls21 h => ?_)
  have hs22t := hn19.tr hs22
  have hBs21 := hB0.gx hs22t
  have h := h hs22
  refine x_wf (fun w25 => ?_)
  refine x_callI (mc := 0) (ms := 0) (As := [.int r17, .ref r1, .ref r24]) (rest := [.ref (gS s14)]) ci_X2_289 (met_X18_init (gS s14) s21 r17 r1 r24 (hs22.t (gT_new (σ := s14)))) (hRi (fr := (22 + 9 * n)) (lo := (443 + 300 * n)) (mc := 0) (ms := 0) hs22t rfl rfl ⟨Nat.le_add_right_of_le (by decide), Nat.le_add_right_of_le (by decide)⟩ (by decide) hls21) rfl rfl rfl dX2_product_47 (n := 50) rfl (fun s27 hp => ?_)
  obtain ⟨hk26, e29⟩ := hp
  have hn28 : GX σ0 s27 := hk26.2 σ0 w0 hs22t (hs15t.fresh w0) w25
  have hls27 : gS s27 ≤ Mx := by rw [e29]; exact hls21
  refine x_tight hz hn28 ?_
  have hBs27 := hB0.gx hn28
  have h := h s27 e29
  refine x_astore_n (lvs' := [(1, .ref (gS s14)), (2, .int r17), (0, .ref o)]) dX2_product_50 (n := 51) rfl rfl (by decide) rfl ?_
  refine x_goto (tgt := 5) dX2_product_51 rfl ?_
  exact x_sub [2, 0] rfl (hK5 (gS s14, s27) ⟨hn28, hls27⟩ h)
theorem xl_X2_product_5 (n : Nat) (o c d : Nat) (σ0 : Hp) (Mx : Nat) (Q : Nat → Hp → Prop) (E : Nat → Hp → Prop) (OR : Hp → (Nat → Hp → Prop) → (Nat → Hp → Prop) → Prop) (G : XE) (hB0 : EB o c d σ0) (rq : RQx G [] (Mx - gS σ0) (16 * (Mx - gS σ0)) (oR (fun r σ' => gP Mx σ0 (Q r) σ')) (pxF Mx σ0 E)) (hz : G.2.2.2.1.heap.size = gS σ0) (w0 : WF σ0) (hM0 : gS σ0 ≤ Mx) (hOR : ∀ σ Q E, EB o c d σ → gS σ ≤ Mx → OR σ Q E → MetY yX2_or cX2_or 3 (some (.object "LongYears$Part")) (rmG (20 + 9 * n) (400 + 300 * n) Mx σ) σ [.ref o] (oR (fun r σ' => gP Mx σ (Q r) σ')) (pxF Mx σ E) (Mx - gS σ) (16 * (Mx - gS σ)))     : ∀ z : Nat × Hp, (GX σ0 z.2 ∧ gS z.2 ≤ Mx) → lp (lb_X2_product_5 o c d  Mx Q E OR ) z → X G (rm_X2_product n Mx σ0) cX2_product RX2 3 (some (.object "LongYears$Part")) z.2 (gS z.2 - gS σ0) (16 * (gS z.2 - gS σ0)) 5 [(0, .ref o), (1, .ref z.1)] [] := by
  intro z
  refine fun hs h => lp_X (P := fun z => (GX σ0 z.2 ∧ gS z.2 ≤ Mx) → X G (rm_X2_product n Mx σ0) cX2_product RX2 3 (some (.object "LongYears$Part")) z.2 (gS z.2 - gS σ0) (16 * (gS z.2 - gS σ0)) 5 [(0, .ref o), (1, .ref z.1)] []) ?_ h hs
  intro K5 hK5 z h hs
  obtain ⟨r1, σ⟩ := z
  have hle : gS σ ≤ Mx := hs.2
  have hs : GX σ0 σ := hs.1
  have hB := hB0.gx hs
  simp only [lb_X2_product_5] at h
  show X G (rm_X2_product n Mx σ0) cX2_product RX2 3 (some (.object "LongYears$Part")) σ (gS σ - gS σ0) (16 * (gS σ - gS σ0)) 5 [(0, .ref o), (1, .ref r1)] []
  have hK5 : ∀ z : (Nat × Hp), (GX σ0 z.2 ∧ gS z.2 ≤ Mx) → K5 z → X G (rm_X2_product n Mx σ0) cX2_product RX2 3 (some (.object "LongYears$Part")) z.2 (gS z.2 - gS σ0) (16 * (gS z.2 - gS σ0)) 5 [(0, .ref o), (1, .ref z.1)] [] := fun z hs h => hK5 z h hs
  refine x_aload_n dX2_product_5 (n := 6) rfl rfl 0 rfl ?_
  refine x_bipush dX2_product_6 (n := 8) rfl bp_42 ?_
  refine x_cVip (As := [.int 42]) (rest := []) cv_X2_92 ck2 (met_X2_isSign o c d σ 42 hB) hB.1 (hRg (fr := (22 + 9 * n)) (lo := (443 + 300 * n)) ⟨rfl, rfl, Nat.le_add_right_of_le (by decide), Nat.le_add_right_of_le (by decide)⟩ hle) rfl rfl rfl dX2_product_8 (n := 11) rfl (fun r6 q => ?_)
  subst q
  refine x_if_ne (tgt := 32) dX2_product_11 rfl (n := 14) rfl (fun cc7 => ?_) (fun cc7 => ?_)
  · have h := h.2 cc7
    exact x_sub [0, 1] rfl (xj_X2_product_32 n o c d σ0 Mx Q E OR G hB0 rq hz w0 hM0 hOR σ r1 K5 hK5 ⟨hs, hle⟩ h)
  · have h := h.1 cc7
    refine x_aload_n dX2_product_14 (n := 15) rfl rfl 0 rfl ?_
    refine x_bipush dX2_product_15 (n := 17) rfl bp_47 ?_
    refine x_cVip (As := [.int 47]) (rest := []) cv_X2_92 ck2 (met_X2_isSign o c d σ 47 hB) hB.1 (hRg (fr := (22 + 9 * n)) (lo := (443 + 300 * n)) ⟨rfl, rfl, Nat.le_add_right_of_le (by decide), Nat.le_add_right_of_le (by decide)⟩ hle) rfl rfl rfl dX2_product_17 (n := 20) rfl (fun r9 q => ?_)
    subst q
    refine x_if_ne (tgt := 32) dX2_product_20 rfl (n := 23) rfl (fun cc10 => ?_) (fun cc10 => ?_)
    · have h := h.2 cc10
      exact x_sub [0, 1] rfl (xj_X2_product_32 n o c d σ0 Mx Q E OR G hB0 rq hz w0 hM0 hOR σ r1 K5 hK5 ⟨hs, hle⟩ h)
    · have h := h.1 cc10
      refine x_aload_n dX2_product_23 (n := 24) rfl rfl 0 rfl ?_
      refine x_bipush dX2_product_24 (n := 26) rfl bp_37 ?_
      refine x_cVip (As := [.int 37]) (rest := []) cv_X2_92 ck2 (met_X2_isSign o c d σ 37 hB) hB.1 (hRg (fr := (22 + 9 * n)) (lo := (443 + 300 * n)) ⟨rfl, rfl, Nat.le_add_right_of_le (by decide), Nat.le_add_right_of_le (by decide)⟩ hle) rfl rfl rfl dX2_product_26 (n := 29) rfl (fun r12 q => ?_)
      subst q
      refine x_if_eq (tgt := 54) dX2_product_29 rfl (n := 32) rfl (fun cc13 => ?_) (fun cc13 => ?_)
      · have h := h.1 cc13
        refine x_aload_n dX2_product_54 (n := 55) rfl rfl 1 rfl ?_
        exact g_aret rfl rq hs hle h dX2_product_55
      · have h := h.2 cc13
        exact x_sub [0, 1] rfl (xj_X2_product_32 n o c d σ0 Mx Q E OR G hB0 rq hz w0 hM0 hOR σ r1 K5 hK5 ⟨hs, hle⟩ h)
theorem met_X2_product (n : Nat) (o c d : Nat) (σ0 : Hp) (Mx : Nat) (Q : Nat → Hp → Prop) (E : Nat → Hp → Prop) (OR : Hp → (Nat → Hp → Prop) → (Nat → Hp → Prop) → Prop) (hB0 : EB o c d σ0) (hM0 : gS σ0 ≤ Mx) (hOR : ∀ σ Q E, EB o c d σ → gS σ ≤ Mx → OR σ Q E → MetY yX2_or cX2_or 3 (some (.object "LongYears$Part")) (rmG (20 + 9 * n) (400 + 300 * n) Mx σ) σ [.ref o] (oR (fun r σ' => gP Mx σ (Q r) σ')) (pxF Mx σ E) (Mx - gS σ) (16 * (Mx - gS σ))) (h : wp_X2_product o c d σ0 Mx Q E OR) : MetY yX2_product cX2_product 3 (some (.object "LongYears$Part")) (rm_X2_product n Mx σ0) σ0 [.ref o] (oR (fun r σ' => gP Mx σ0 (Q r) σ')) (pxF Mx σ0 E) (Mx - gS σ0) (16 * (Mx - gS σ0)) := by
  refine metG_of (own := RX2) (lvs := [(0, .ref o)]) (by decide) rfl (Nat.le_of_ble_eq_true rfl) rfl (fun G rq hz w0 => ?_)
  unfold wp_X2_product at h
  refine x_aload_n dX2_product_0 (n := 1) rfl rfl 0 rfl ?_
  refine g_cVr (fr := (22 + 9 * n)) (lo := (443 + 300 * n)) (As := []) (rest := []) hz (GX.rf (σ := σ0)) cv_X2_309 ck2 (met_X2_one n o c d σ0 Mx _ _ OR hB0 hM0 hOR h) hB0.1 ⟨by omega, by omega⟩ hM0 rfl rfl rfl dX2_product_1 (n := 4) rfl (fun q s1 hs2 hls1 h => g_out rq ((GX.rf (σ := σ0)).tr hs2) hls1 h) (fun r4 s1 hs2 hls1 h => ?_)
  have hs2t := (GX.rf (σ := σ0)).tr hs2
  have hBs1 := hB0.gx hs2t
  have h := h hs2
  refine x_astore_n (lvs' := [(1, .ref r4), (0, .ref o)]) dX2_product_4 (n := 5) rfl rfl (by decide) rfl ?_
  exact x_sub [1, 0] rfl (xl_X2_product_5 n o c d σ0 Mx Q E OR G hB0 rq hz w0 hM0 hOR (r4, s1) ⟨hs2t, hls1⟩ h)
abbrev rm_X2_sum (n : Nat) (Mx : Nat) (σ0 : Hp) : Room := rmG (23 + 9 * n) (465 + 300 * n) Mx σ0
def wj_X2_sum_23 (o c d : Nat) (σ : Hp) (r1 : Nat) (Mx : Nat) (Q : Nat → Hp → Prop) (E : Nat → Hp → Prop) (OR : Hp → (Nat → Hp → Prop) → (Nat → Hp → Prop) → Prop) (K5 : (Nat × Hp) → Prop) : Prop := wp_X2_knot o c d σ Mx (fun r14 s11 => GX σ s11 → (gS s11 + 1 ≤ Mx) ∧ (wp_X2_product o c d (pN s11 (.inl 15)) Mx (fun r21 s18 => GX (pN s11 (.inl 15)) s18 → ∀ s24 : Hp, s24 = f_X18_init (gS s11) s18 r14 r1 r21 → K5 (gS s11, s24)) E OR)) E
def lb_X2_sum_5 (o c d : Nat)  (Mx : Nat) (Q : Nat → Hp → Prop) (E : Nat → Hp → Prop) (OR : Hp → (Nat → Hp → Prop) → (Nat → Hp → Prop) → Prop)  (K5 : Nat × Hp → Prop) (z : Nat × Hp) : Prop := match z with
  | (r1, σ) => ((f_X2_isSign o c d σ 43) = 0 → ((f_X2_isSign o c d σ 45) = 0 → Q r1 σ) ∧ (¬ (f_X2_isSign o c d σ 45) = 0 → wj_X2_sum_23 o c d σ r1 Mx Q E OR K5)) ∧ (¬ (f_X2_isSign o c d σ 43) = 0 → wj_X2_sum_23 o c d σ r1 Mx Q E OR K5)
def wp_X2_sum (o c d : Nat) (σ0 : Hp) (Mx : Nat) (Q : Nat → Hp → Prop) (E : Nat → Hp → Prop) (OR : Hp → (Nat → Hp → Prop) → (Nat → Hp → Prop) → Prop) : Prop := wp_X2_product o c d σ0 Mx (fun r4 s1 => GX σ0 s1 → lp (lb_X2_sum_5 o c d Mx Q E OR) (r4, s1)) E OR
theorem xj_X2_sum_23 (n : Nat) (o c d : Nat) (σ0 : Hp) (Mx : Nat) (Q : Nat → Hp → Prop) (E : Nat → Hp → Prop) (OR : Hp → (Nat → Hp → Prop) → (Nat → Hp → Prop) → Prop) (G : XE) (hB0 : EB o c d σ0) (rq : RQx G [] (Mx - gS σ0) (16 * (Mx - gS σ0)) (oR (fun r σ' => gP Mx σ0 (Q r) σ')) (pxF Mx σ0 E)) (hz : G.2.2.2.1.heap.size = gS σ0) (w0 : WF σ0) (hM0 : gS σ0 ≤ Mx) (hOR : ∀ σ Q E, EB o c d σ → gS σ ≤ Mx → OR σ Q E → MetY yX2_or cX2_or 3 (some (.object "LongYears$Part")) (rmG (20 + 9 * n) (400 + 300 * n) Mx σ) σ [.ref o] (oR (fun r σ' => gP Mx σ (Q r) σ')) (pxF Mx σ E) (Mx - gS σ) (16 * (Mx - gS σ))) (σ : Hp) (r1 : Nat)  (K5 : (Nat × Hp) → Prop) (hK5 : ∀ z : (Nat × Hp), (GX σ0 z.2 ∧ gS z.2 ≤ Mx) → K5 z → X G (rm_X2_sum n Mx σ0) cX2_sum RX2 3 (some (.object "LongYears$Part")) z.2 (gS z.2 - gS σ0) (16 * (gS z.2 - gS σ0)) 5 [(0, .ref o), (1, .ref z.1)] []) (hs : (GX σ0 σ ∧ gS σ ≤ Mx)) (h : wj_X2_sum_23 o c d σ r1 Mx Q E OR K5) : X G (rm_X2_sum n Mx σ0) cX2_sum RX2 3 (some (.object "LongYears$Part")) σ (gS σ - gS σ0) (16 * (gS σ - gS σ0)) 23 [(0, .ref o), (1, .ref r1)] [] := by
  have hle : gS σ ≤ Mx := hs.2
  have hs : GX σ0 σ := hs.1
  have hB := hB0.gx hs
  unfold wj_X2_sum_23 at h
  refine x_aload_n dX2_sum_23 (n := 24) rfl rfl 0 rfl ?_
  refine g_cVi (fr := (23 + 9 * n)) (lo := (465 + 300 * n)) (As := []) (rest := []) hz hs cv_X2_284 ck2 (met_X2_knot o c d σ Mx _ _  hB hle  h) hB.1 ⟨Nat.le_add_right_of_le (by decide), Nat.le_add_right_of_le (by decide)⟩ hle rfl rfl rfl dX2_sum_24 (n := 27) rfl (fun q s11 hs12 hls11 h => g_out rq (hs.tr hs12) hls11 h) (fun r14 s11 hs12 hls11 h => ?_)
  have hs12t := hs.tr hs12
  have hBs11 := hB0.gx hs12t
  have h := h hs12
  refine x_istore_n (lvs' := [(2, .int r14), (0, .ref o), (1, .ref r1)]) dX2_sum_27 (n := 28) rfl rfl (by decide) rfl ?_
  obtain ⟨b15, h⟩ := h
  refine g_new hz hs12t nx_X2_287 (by decide) b15 dX2_sum_28 (n := 31) rfl (fun w17 hn16 => ?_)
  refine x_dup dX2_sum_31 (n := 32) rfl rfl ?_
  refine x_iload_n dX2_sum_32 (n := 33) rfl rfl 0 rfl ?_
  refine x_aload_n dX2_sum_33 (n := 34) rfl rfl 2 rfl ?_
  refine x_aload_n dX2_sum_34 (n := 35) rfl rfl 1 rfl ?_
  refine g_cVr (fr := (23 + 9 * n)) (lo := (465 + 300 * n)) (As := []) (rest := [.ref r1, .int r14, .ref (gS s11), .ref (gS s11)]) hz hn16 cv_X2_306 ck2 (met_X2_product n o c d (pN s11 (.inl 15)) Mx _ _ OR (hB0.gx hn16) b15 hOR h) (hB0.gx hn16).1 ⟨by omega, by omega⟩ b15 rfl rfl rfl dX2_sum_35 (n := 38) rfl (fun q s18 hs19 hls18 h => g_out rq (hn16.tr hs19) hls18 h) (fun r21 s18 hs19 hls18 h => ?_)
  have hs19t := hn16.tr hs19
  have hBs18 := hB0.gx hs19t
  have h := h hs19
  refine x_wf (fun w22 => ?_)
  refine x_callI (mc := 0) (ms := 0) (As := [.int r14, .ref r1, .ref r21]) (rest := [.ref (gS s11)]) ci_X2_289 (met_X18_init (gS s11) s18 r14 r1 r21 (hs19.t (gT_new (σ := s11)))) (hRi (fr := (23 + 9 * n)) (lo := (465 + 300 * n)) (mc := 0) (ms := 0) hs19t rfl rfl ⟨Nat.le_add_right_of_le (by decide), Nat.le_add_right_of_le (by decide)⟩ (by decide) hls18) rfl rfl rfl dX2_sum_38 (n := 41) rfl (fun s24 hp => ?_)
  obtain ⟨hk23, e26⟩ := hp
  have hn25 : GX σ0 s24 := hk23.2 σ0 w0 hs19t (hs12t.fresh w0) w22
  have hls24 : gS s24 ≤ Mx := by rw [e26]; exact hls18
  refine x_tight hz hn25 ?_
  have hBs24 := hB0.gx hn25
  have h := h s24 e26
  refine x_astore_n (lvs' := [(1, .ref (gS s11)), (2, .int r14), (0, .ref o)]) dX2_sum_41 (n := 42) rfl rfl (by decide) rfl ?_
  refine x_goto (tgt := 5) dX2_sum_42 rfl ?_
  exact x_sub [2, 0] rfl (hK5 (gS s11, s24) ⟨hn25, hls24⟩ h)
theorem xl_X2_sum_5 (n : Nat) (o c d : Nat) (σ0 : Hp) (Mx : Nat) (Q : Nat → Hp → Prop) (E : Nat → Hp → Prop) (OR : Hp → (Nat → Hp → Prop) → (Nat → Hp → Prop) → Prop) (G : XE) (hB0 : EB o c d σ0) (rq : RQx G [] (Mx - gS σ0) (16 * (Mx - gS σ0)) (oR (fun r σ' => gP Mx σ0 (Q r) σ')) (pxF Mx σ0 E)) (hz : G.2.2.2.1.heap.size = gS σ0) (w0 : WF σ0) (hM0 : gS σ0 ≤ Mx) (hOR : ∀ σ Q E, EB o c d σ → gS σ ≤ Mx → OR σ Q E → MetY yX2_or cX2_or 3 (some (.object "LongYears$Part")) (rmG (20 + 9 * n) (400 + 300 * n) Mx σ) σ [.ref o] (oR (fun r σ' => gP Mx σ (Q r) σ')) (pxF Mx σ E) (Mx - gS σ) (16 * (Mx - gS σ)))     : ∀ z : Nat × Hp, (GX σ0 z.2 ∧ gS z.2 ≤ Mx) → lp (lb_X2_sum_5 o c d  Mx Q E OR ) z → X G (rm_X2_sum n Mx σ0) cX2_sum RX2 3 (some (.object "LongYears$Part")) z.2 (gS z.2 - gS σ0) (16 * (gS z.2 - gS σ0)) 5 [(0, .ref o), (1, .ref z.1)] [] := by
  intro z
  refine fun hs h => lp_X (P := fun z => (GX σ0 z.2 ∧ gS z.2 ≤ Mx) → X G (rm_X2_sum n Mx σ0) cX2_sum RX2 3 (some (.object "LongYears$Part")) z.2 (gS z.2 - gS σ0) (16 * (gS z.2 - gS σ0)) 5 [(0, .ref o), (1, .ref z.1)] []) ?_ h hs
  intro K5 hK5 z h hs
  obtain ⟨r1, σ⟩ := z
  have hle : gS σ ≤ Mx := hs.2
  have hs : GX σ0 σ := hs.1
  have hB := hB0.gx hs
  simp only [lb_X2_sum_5] at h
  show X G (rm_X2_sum n Mx σ0) cX2_sum RX2 3 (some (.object "LongYears$Part")) σ (gS σ - gS σ0) (16 * (gS σ - gS σ0)) 5 [(0, .ref o), (1, .ref r1)] []
  have hK5 : ∀ z : (Nat × Hp), (GX σ0 z.2 ∧ gS z.2 ≤ Mx) → K5 z → X G (rm_X2_sum n Mx σ0) cX2_sum RX2 3 (some (.object "LongYears$Part")) z.2 (gS z.2 - gS σ0) (16 * (gS z.2 - gS σ0)) 5 [(0, .ref o), (1, .ref z.1)] [] := fun z hs h => hK5 z h hs
  refine x_aload_n dX2_sum_5 (n := 6) rfl rfl 0 rfl ?_
  refine x_bipush dX2_sum_6 (n := 8) rfl bp_43 ?_
  refine x_cVip (As := [.int 43]) (rest := []) cv_X2_92 ck2 (met_X2_isSign o c d σ 43 hB) hB.1 (hRg (fr := (23 + 9 * n)) (lo := (465 + 300 * n)) ⟨rfl, rfl, Nat.le_add_right_of_le (by decide), Nat.le_add_right_of_le (by decide)⟩ hle) rfl rfl rfl dX2_sum_8 (n := 11) rfl (fun r6 q => ?_)
  subst q
  refine x_if_ne (tgt := 23) dX2_sum_11 rfl (n := 14) rfl (fun cc7 => ?_) (fun cc7 => ?_)
  · have h := h.2 cc7
    exact x_sub [0, 1] rfl (xj_X2_sum_23 n o c d σ0 Mx Q E OR G hB0 rq hz w0 hM0 hOR σ r1 K5 hK5 ⟨hs, hle⟩ h)
  · have h := h.1 cc7
    refine x_aload_n dX2_sum_14 (n := 15) rfl rfl 0 rfl ?_
    refine x_bipush dX2_sum_15 (n := 17) rfl bp_45 ?_
    refine x_cVip (As := [.int 45]) (rest := []) cv_X2_92 ck2 (met_X2_isSign o c d σ 45 hB) hB.1 (hRg (fr := (23 + 9 * n)) (lo := (465 + 300 * n)) ⟨rfl, rfl, Nat.le_add_right_of_le (by decide), Nat.le_add_right_of_le (by decide)⟩ hle) rfl rfl rfl dX2_sum_17 (n := 20) rfl (fun r9 q => ?_)
    subst q
    refine x_if_eq (tgt := 45) dX2_sum_20 rfl (n := 23) rfl (fun cc10 => ?_) (fun cc10 => ?_)
    · have h := h.1 cc10
      refine x_aload_n dX2_sum_45 (n := 46) rfl rfl 1 rfl ?_
      exact g_aret rfl rq hs hle h dX2_sum_46
    · have h := h.2 cc10
      exact x_sub [0, 1] rfl (xj_X2_sum_23 n o c d σ0 Mx Q E OR G hB0 rq hz w0 hM0 hOR σ r1 K5 hK5 ⟨hs, hle⟩ h)
theorem met_X2_sum (n : Nat) (o c d : Nat) (σ0 : Hp) (Mx : Nat) (Q : Nat → Hp → Prop) (E : Nat → Hp → Prop) (OR : Hp → (Nat → Hp → Prop) → (Nat → Hp → Prop) → Prop) (hB0 : EB o c d σ0) (hM0 : gS σ0 ≤ Mx) (hOR : ∀ σ Q E, EB o c d σ → gS σ ≤ Mx → OR σ Q E → MetY yX2_or cX2_or 3 (some (.object "LongYears$Part")) (rmG (20 + 9 * n) (400 + 300 * n) Mx σ) σ [.ref o] (oR (fun r σ' => gP Mx σ (Q r) σ')) (pxF Mx σ E) (Mx - gS σ) (16 * (Mx - gS σ))) (h : wp_X2_sum o c d σ0 Mx Q E OR) : MetY yX2_sum cX2_sum 3 (some (.object "LongYears$Part")) (rm_X2_sum n Mx σ0) σ0 [.ref o] (oR (fun r σ' => gP Mx σ0 (Q r) σ')) (pxF Mx σ0 E) (Mx - gS σ0) (16 * (Mx - gS σ0)) := by
  refine metG_of (own := RX2) (lvs := [(0, .ref o)]) (by decide) rfl (Nat.le_of_ble_eq_true rfl) rfl (fun G rq hz w0 => ?_)
  unfold wp_X2_sum at h
  refine x_aload_n dX2_sum_0 (n := 1) rfl rfl 0 rfl ?_
  refine g_cVr (fr := (23 + 9 * n)) (lo := (465 + 300 * n)) (As := []) (rest := []) hz (GX.rf (σ := σ0)) cv_X2_306 ck2 (met_X2_product n o c d σ0 Mx _ _ OR hB0 hM0 hOR h) hB0.1 ⟨by omega, by omega⟩ hM0 rfl rfl rfl dX2_sum_1 (n := 4) rfl (fun q s1 hs2 hls1 h => g_out rq ((GX.rf (σ := σ0)).tr hs2) hls1 h) (fun r4 s1 hs2 hls1 h => ?_)
  have hs2t := (GX.rf (σ := σ0)).tr hs2
  have hBs1 := hB0.gx hs2t
  have h := h hs2
  refine x_astore_n (lvs' := [(1, .ref r4), (0, .ref o)]) dX2_sum_4 (n := 5) rfl rfl (by decide) rfl ?_
  exact x_sub [1, 0] rfl (xl_X2_sum_5 n o c d σ0 Mx Q E OR G hB0 rq hz w0 hM0 hOR (r4, s1) ⟨hs2t, hls1⟩ h)
abbrev rm_X2_compare (n : Nat) (Mx : Nat) (σ0 : Hp) : Room := rmG (24 + 9 * n) (487 + 300 * n) Mx σ0
def wj_X2_compare_52 (o c d : Nat) (σ : Hp) (r1 : Nat) (Mx : Nat) (Q : Nat → Hp → Prop) (E : Nat → Hp → Prop) (OR : Hp → (Nat → Hp → Prop) → (Nat → Hp → Prop) → Prop)  : Prop := wp_X2_knot o c d σ Mx (fun r19 s16 => GX σ s16 → (gS s16 + 1 ≤ Mx) ∧ (wp_X2_sum o c d (pN s16 (.inl 15)) Mx (fun r26 s23 => GX (pN s16 (.inl 15)) s23 → ∀ s29 : Hp, s29 = f_X18_init (gS s16) s23 r19 r1 r26 → Q (gS s16) s29) E OR)) E
def wp_X2_compare (o c d : Nat) (σ0 : Hp) (Mx : Nat) (Q : Nat → Hp → Prop) (E : Nat → Hp → Prop) (OR : Hp → (Nat → Hp → Prop) → (Nat → Hp → Prop) → Prop) : Prop := wp_X2_sum o c d σ0 Mx (fun r4 s1 => GX σ0 s1 → ((f_X2_isSign o c d s1 60) = 0 → ((f_X2_isSign o c d s1 62) = 0 → ((f_X2_isSign o c d s1 61) = 0 → ((gI s1 o 3) = 3 → (256 ≤ (gI s1 o 4) → wj_X2_compare_52 o c d s1 r4 Mx Q E OR) ∧ (¬ 256 ≤ (gI s1 o 4) → Q r4 s1)) ∧ (¬ (gI s1 o 3) = 3 → Q r4 s1)) ∧ (¬ (f_X2_isSign o c d s1 61) = 0 → wj_X2_compare_52 o c d s1 r4 Mx Q E OR)) ∧ (¬ (f_X2_isSign o c d s1 62) = 0 → wj_X2_compare_52 o c d s1 r4 Mx Q E OR)) ∧ (¬ (f_X2_isSign o c d s1 60) = 0 → wj_X2_compare_52 o c d s1 r4 Mx Q E OR)) E OR
theorem xj_X2_compare_52 (n : Nat) (o c d : Nat) (σ0 : Hp) (Mx : Nat) (Q : Nat → Hp → Prop) (E : Nat → Hp → Prop) (OR : Hp → (Nat → Hp → Prop) → (Nat → Hp → Prop) → Prop) (G : XE) (hB0 : EB o c d σ0) (rq : RQx G [] (Mx - gS σ0) (16 * (Mx - gS σ0)) (oR (fun r σ' => gP Mx σ0 (Q r) σ')) (pxF Mx σ0 E)) (hz : G.2.2.2.1.heap.size = gS σ0) (w0 : WF σ0) (hM0 : gS σ0 ≤ Mx) (hOR : ∀ σ Q E, EB o c d σ → gS σ ≤ Mx → OR σ Q E → MetY yX2_or cX2_or 3 (some (.object "LongYears$Part")) (rmG (20 + 9 * n) (400 + 300 * n) Mx σ) σ [.ref o] (oR (fun r σ' => gP Mx σ (Q r) σ')) (pxF Mx σ E) (Mx - gS σ) (16 * (Mx - gS σ))) (σ : Hp) (r1 : Nat)    (hs : (GX σ0 σ ∧ gS σ ≤ Mx)) (h : wj_X2_compare_52 o c d σ r1 Mx Q E OR ) : X G (rm_X2_compare n Mx σ0) cX2_compare RX2 3 (some (.object "LongYears$Part")) σ (gS σ - gS σ0) (16 * (gS σ - gS σ0)) 52 [(0, .ref o), (1, .ref r1)] [] := by
  have hle : gS σ ≤ Mx := hs.2
  have hs : GX σ0 σ := hs.1
  have hB := hB0.gx hs
  unfold wj_X2_compare_52 at h
  refine x_aload_n dX2_compare_52 (n := 53) rfl rfl 0 rfl ?_
  refine g_cVi (fr := (24 + 9 * n)) (lo := (487 + 300 * n)) (As := []) (rest := []) hz hs cv_X2_284 ck2 (met_X2_knot o c d σ Mx _ _  hB hle  h) hB.1 ⟨Nat.le_add_right_of_le (by decide), Nat.le_add_right_of_le (by decide)⟩ hle rfl rfl rfl dX2_compare_53 (n := 56) rfl (fun q s16 hs17 hls16 h => g_out rq (hs.tr hs17) hls16 h) (fun r19 s16 hs17 hls16 h => ?_)
  have hs17t := hs.tr hs17
  have hBs16 := hB0.gx hs17t
  have h := h hs17
  refine x_istore_n (lvs' := [(2, .int r19), (0, .ref o), (1, .ref r1)]) dX2_compare_56 (n := 57) rfl rfl (by decide) rfl ?_
  obtain ⟨b20, h⟩ := h
  refine g_new hz hs17t nx_X2_287 (by decide) b20 dX2_compare_57 (n := 60) rfl (fun w22 hn21 => ?_)
  refine x_dup dX2_compare_60 (n := 61) rfl rfl ?_
  refine x_iload_n dX2_compare_61 (n := 62) rfl rfl 0 rfl ?_
  refine x_aload_n dX2_compare_62 (n := 63) rfl rfl 2 rfl ?_
  refine x_aload_n dX2_compare_63 (n := 64) rfl rfl 1 rfl ?_
  refine g_cVr (fr := (24 + 9 * n)) (lo := (487 + 300 * n)) (As := []) (rest := [.ref r1, .int r19, .ref (gS s16), .ref (gS s16)]) hz hn21 cv_X2_303 ck2 (met_X2_sum n o c d (pN s16 (.inl 15)) Mx _ _ OR (hB0.gx hn21) b20 hOR h) (hB0.gx hn21).1 ⟨by omega, by omega⟩ b20 rfl rfl rfl dX2_compare_64 (n := 67) rfl (fun q s23 hs24 hls23 h => g_out rq (hn21.tr hs24) hls23 h) (fun r26 s23 hs24 hls23 h => ?_)
  have hs24t := hn21.tr hs24
  have hBs23 := hB0.gx hs24t
  have h := h hs24
  refine x_wf (fun w27 => ?_)
  refine x_callI (mc := 0) (ms := 0) (As := [.int r19, .ref r1, .ref r26]) (rest := [.ref (gS s16)]) ci_X2_289 (met_X18_init (gS s16) s23 r19 r1 r26 (hs24.t (gT_new (σ := s16)))) (hRi (fr := (24 + 9 * n)) (lo := (487 + 300 * n)) (mc := 0) (ms := 0) hs24t rfl rfl ⟨Nat.le_add_right_of_le (by decide), Nat.le_add_right_of_le (by decide)⟩ (by decide) hls23) rfl rfl rfl dX2_compare_67 (n := 70) rfl (fun s29 hp => ?_)
  obtain ⟨hk28, e31⟩ := hp
  have hn30 : GX σ0 s29 := hk28.2 σ0 w0 hs24t (hs17t.fresh w0) w27
  have hls29 : gS s29 ≤ Mx := by rw [e31]; exact hls23
  refine x_tight hz hn30 ?_
  have hBs29 := hB0.gx hn30
  have h := h s29 e31
  exact g_aret rfl rq hn30 hls29 h dX2_compare_70
theorem met_X2_compare (n : Nat) (o c d : Nat) (σ0 : Hp) (Mx : Nat) (Q : Nat → Hp → Prop) (E : Nat → Hp → Prop) (OR : Hp → (Nat → Hp → Prop) → (Nat → Hp → Prop) → Prop) (hB0 : EB o c d σ0) (hM0 : gS σ0 ≤ Mx) (hOR : ∀ σ Q E, EB o c d σ → gS σ ≤ Mx → OR σ Q E → MetY yX2_or cX2_or 3 (some (.object "LongYears$Part")) (rmG (20 + 9 * n) (400 + 300 * n) Mx σ) σ [.ref o] (oR (fun r σ' => gP Mx σ (Q r) σ')) (pxF Mx σ E) (Mx - gS σ) (16 * (Mx - gS σ))) (h : wp_X2_compare o c d σ0 Mx Q E OR) : MetY yX2_compare cX2_compare 3 (some (.object "LongYears$Part")) (rm_X2_compare n Mx σ0) σ0 [.ref o] (oR (fun r σ' => gP Mx σ0 (Q r) σ')) (pxF Mx σ0 E) (Mx - gS σ0) (16 * (Mx - gS σ0)) := by
  refine metG_of (own := RX2) (lvs := [(0, .ref o)]) (by decide) rfl (Nat.le_of_ble_eq_true rfl) rfl (fun G rq hz w0 => ?_)
  unfold wp_X2_compare at h
  refine x_aload_n dX2_compare_0 (n := 1) rfl rfl 0 rfl ?_
  refine g_cVr (fr := (24 + 9 * n)) (lo := (487 + 300 * n)) (As := []) (rest := []) hz (GX.rf (σ := σ0)) cv_X2_303 ck2 (met_X2_sum n o c d σ0 Mx _ _ OR hB0 hM0 hOR h) hB0.1 ⟨by omega, by omega⟩ hM0 rfl rfl rfl dX2_compare_1 (n := 4) rfl (fun q s1 hs2 hls1 h => g_out rq ((GX.rf (σ := σ0)).tr hs2) hls1 h) (fun r4 s1 hs2 hls1 h => ?_)
  have hs2t := (GX.rf (σ := σ0)).tr hs2
  have hBs1 := hB0.gx hs2t
  have h := h hs2
  refine x_astore_n (lvs' := [(1, .ref r4), (0, .ref o)]) dX2_compare_4 (n := 5) rfl rfl (by decide) rfl ?_
  refine x_aload_n dX2_compare_5 (n := 6) rfl rfl 1 rfl ?_
  refine x_bipush dX2_compare_6 (n := 8) rfl bp_60 ?_
  refine x_cVip (As := [.int 60]) (rest := []) cv_X2_92 ck2 (met_X2_isSign o c d s1 60 hBs1) hBs1.1 (hRg (fr := (24 + 9 * n)) (lo := (487 + 300 * n)) ⟨rfl, rfl, Nat.le_add_right_of_le (by decide), Nat.le_add_right_of_le (by decide)⟩ hls1) rfl rfl rfl dX2_compare_8 (n := 11) rfl (fun r6 q => ?_)
  subst q
  refine x_if_ne (tgt := 52) dX2_compare_11 rfl (n := 14) rfl (fun cc7 => ?_) (fun cc7 => ?_)
  · have h := h.2 cc7
    exact x_sub [1, 0] rfl (xj_X2_compare_52 n o c d σ0 Mx Q E OR G hB0 rq hz w0 hM0 hOR s1 r4 ⟨hs2t, hls1⟩ h)
  · have h := h.1 cc7
    refine x_aload_n dX2_compare_14 (n := 15) rfl rfl 1 rfl ?_
    refine x_bipush dX2_compare_15 (n := 17) rfl bp_62 ?_
    refine x_cVip (As := [.int 62]) (rest := []) cv_X2_92 ck2 (met_X2_isSign o c d s1 62 hBs1) hBs1.1 (hRg (fr := (24 + 9 * n)) (lo := (487 + 300 * n)) ⟨rfl, rfl, Nat.le_add_right_of_le (by decide), Nat.le_add_right_of_le (by decide)⟩ hls1) rfl rfl rfl dX2_compare_17 (n := 20) rfl (fun r9 q => ?_)
    subst q
    refine x_if_ne (tgt := 52) dX2_compare_20 rfl (n := 23) rfl (fun cc10 => ?_) (fun cc10 => ?_)
    · have h := h.2 cc10
      exact x_sub [1, 0] rfl (xj_X2_compare_52 n o c d σ0 Mx Q E OR G hB0 rq hz w0 hM0 hOR s1 r4 ⟨hs2t, hls1⟩ h)
    · have h := h.1 cc10
      refine x_aload_n dX2_compare_23 (n := 24) rfl rfl 1 rfl ?_
      refine x_bipush dX2_compare_24 (n := 26) rfl bp_61 ?_
      refine x_cVip (As := [.int 61]) (rest := []) cv_X2_92 ck2 (met_X2_isSign o c d s1 61 hBs1) hBs1.1 (hRg (fr := (24 + 9 * n)) (lo := (487 + 300 * n)) ⟨rfl, rfl, Nat.le_add_right_of_le (by decide), Nat.le_add_right_of_le (by decide)⟩ hls1) rfl rfl rfl dX2_compare_26 (n := 29) rfl (fun r12 q => ?_)
      subst q
      refine x_if_ne (tgt := 52) dX2_compare_29 rfl (n := 32) rfl (fun cc13 => ?_) (fun cc13 => ?_)
      · have h := h.2 cc13
        exact x_sub [1, 0] rfl (xj_X2_compare_52 n o c d σ0 Mx Q E OR G hB0 rq hz w0 hM0 hOR s1 r4 ⟨hs2t, hls1⟩ h)
      · have h := h.1 cc13
        refine x_aload_n dX2_compare_32 (n := 33) rfl rfl 1 rfl ?_
        refine x_geti fl_X2_33_2 rfl hBs1.1 rfl dX2_compare_33 (n := 36) rfl ?_
        refine x_iconst dX2_compare_36 (n := 37) rfl ic_3 ?_
        refine x_icmp_ne (tgt := 50) dX2_compare_37 rfl (n := 40) rfl (fun cc14 => ?_) (fun cc14 => ?_)
        · have h := h.2 cc14
          refine x_aload_n dX2_compare_50 (n := 51) rfl rfl 0 rfl ?_
          exact g_aret rfl rq hs2t hls1 h dX2_compare_51
        · have h := h.1 cc14
          refine x_aload_n dX2_compare_40 (n := 41) rfl rfl 1 rfl ?_
          refine x_geti fl_X2_47_2 rfl hBs1.1 rfl dX2_compare_41 (n := 44) rfl ?_
          refine x_sipush dX2_compare_44 (n := 47) rfl sp_256 ?_
          refine x_icmp_ge (tgt := 52) dX2_compare_47 rfl (n := 50) rfl (fun cc15 => ?_) (fun cc15 => ?_)
          · have h := h.1 cc15
            exact x_sub [1, 0] rfl (xj_X2_compare_52 n o c d σ0 Mx Q E OR G hB0 rq hz w0 hM0 hOR s1 r4 ⟨hs2t, hls1⟩ h)
          · have h := h.2 cc15
            refine x_aload_n dX2_compare_50 (n := 51) rfl rfl 0 rfl ?_
            exact g_aret rfl rq hs2t hls1 h dX2_compare_51
abbrev rm_X2_not (n : Nat) (Mx : Nat) (σ0 : Hp) : Room := rmG (20 + 9 * (n + 1)) (400 + 300 * (n + 1)) Mx σ0
def wp_X2_not (o c d : Nat) (σ0 : Hp) (Mx : Nat) (Q : Nat → Hp → Prop) (E : Nat → Hp → Prop) (OR : Hp → (Nat → Hp → Prop) → (Nat → Hp → Prop) → Prop) (NOT : Hp → (Nat → Hp → Prop) → (Nat → Hp → Prop) → Prop) : Prop := ((f_X2_isWord o c d σ0 18 18) = 0 → wp_X2_compare o c d σ0 Mx (fun r23 s20 => GX σ0 s20 → Q r23 s20) E OR) ∧ (¬ (f_X2_isWord o c d σ0 18 18) = 0 → wp_X2_knot o c d σ0 Mx (fun r7 s4 => GX σ0 s4 → (gS s4 + 1 ≤ Mx) ∧ (NOT (pN s4 (.inl 14)) (fun r14 s11 => GX (pN s4 (.inl 14)) s11 → ∀ s17 : Hp, s17 = f_X17_init (gS s4) s11 r14 → Q (gS s4) s17) E)) E)
theorem met_X2_not (n : Nat) (o c d : Nat) (σ0 : Hp) (Mx : Nat) (Q : Nat → Hp → Prop) (E : Nat → Hp → Prop) (OR : Hp → (Nat → Hp → Prop) → (Nat → Hp → Prop) → Prop) (NOT : Hp → (Nat → Hp → Prop) → (Nat → Hp → Prop) → Prop) (hB0 : EB o c d σ0) (hM0 : gS σ0 ≤ Mx) (hOR : ∀ σ Q E, EB o c d σ → gS σ ≤ Mx → OR σ Q E → MetY yX2_or cX2_or 3 (some (.object "LongYears$Part")) (rmG (20 + 9 * n) (400 + 300 * n) Mx σ) σ [.ref o] (oR (fun r σ' => gP Mx σ (Q r) σ')) (pxF Mx σ E) (Mx - gS σ) (16 * (Mx - gS σ))) (hNOT : ∀ σ Q E, EB o c d σ → gS σ ≤ Mx → NOT σ Q E → MetY yX2_not cX2_not 1 (some (.object "LongYears$Part")) (rmG (20 + 9 * n) (400 + 300 * n) Mx σ) σ [.ref o] (oR (fun r σ' => gP Mx σ (Q r) σ')) (pxF Mx σ E) (Mx - gS σ) (16 * (Mx - gS σ))) (h : wp_X2_not o c d σ0 Mx Q E OR NOT) : MetY yX2_not cX2_not 1 (some (.object "LongYears$Part")) (rm_X2_not n Mx σ0) σ0 [.ref o] (oR (fun r σ' => gP Mx σ0 (Q r) σ')) (pxF Mx σ0 E) (Mx - gS σ0) (16 * (Mx - gS σ0)) := by
  refine metG_of (own := RX2) (lvs := [(0, .ref o)]) (by decide) rfl (Nat.le_of_ble_eq_true rfl) rfl (fun G rq hz w0 => ?_)
  unfold wp_X2_not at h
  refine x_aload_n dX2_not_0 (n := 1) rfl rfl 0 rfl ?_
  refine x_bipush dX2_not_1 (n := 3) rfl bp_18 ?_
  refine x_bipush dX2_not_3 (n := 5) rfl bp_18 ?_
  refine x_cVip (As := [.int 18, .int 18]) (rest := []) cv_X2_122 ck2 (met_X2_isWord o c d σ0 18 18 hB0) hB0.1 (hRg (fr := (20 + 9 * (n + 1))) (lo := (400 + 300 * (n + 1))) ⟨rfl, rfl, Nat.le_add_right_of_le (by decide), Nat.le_add_right_of_le (by decide)⟩ hM0) rfl rfl rfl dX2_not_5 (n := 8) rfl (fun r2 q => ?_)
  subst q
  refine x_if_ne (tgt := 16) dX2_not_8 rfl (n := 11) rfl (fun cc3 => ?_) (fun cc3 => ?_)
  · have h := h.2 cc3
    refine x_aload_n dX2_not_16 (n := 17) rfl rfl 0 rfl ?_
    refine g_cVi (fr := (20 + 9 * (n + 1))) (lo := (400 + 300 * (n + 1))) (As := []) (rest := []) hz (GX.rf (σ := σ0)) cv_X2_284 ck2 (met_X2_knot o c d σ0 Mx _ _  hB0 hM0  h) hB0.1 ⟨Nat.le_add_right_of_le (by decide), Nat.le_add_right_of_le (by decide)⟩ hM0 rfl rfl rfl dX2_not_17 (n := 20) rfl (fun q s4 hs5 hls4 h => g_out rq ((GX.rf (σ := σ0)).tr hs5) hls4 h) (fun r7 s4 hs5 hls4 h => ?_)
    have hs5t := (GX.rf (σ := σ0)).tr hs5
    have hBs4 := hB0.gx hs5t
    have h := h hs5
    refine x_pop dX2_not_20 (n := 21) rfl rfl ?_
    obtain ⟨b8, h⟩ := h
    refine g_new hz hs5t nx_X2_298 (by decide) b8 dX2_not_21 (n := 24) rfl (fun w10 hn9 => ?_)
    refine x_dup dX2_not_24 (n := 25) rfl rfl ?_
    refine x_aload_n dX2_not_25 (n := 26) rfl rfl 0 rfl ?_
    refine g_cVr (fr := (20 + 9 * (n + 1))) (lo := (400 + 300 * (n + 1))) (As := []) (rest := [.ref (gS s4), .ref (gS s4)]) hz hn9 cv_X2_292 ck2 (hNOT (pN s4 (.inl 14)) _ _ (hB0.gx hn9) b8 h) (hB0.gx hn9).1 ⟨by omega, by omega⟩ b8 rfl rfl rfl dX2_not_26 (n := 29) rfl (fun q s11 hs12 hls11 h => g_out rq (hn9.tr hs12) hls11 h) (fun r14 s11 hs12 hls11 h => ?_)
    have hs12t := hn9.tr hs12
    have hBs11 := hB0.gx hs12t
    have h := h hs12
    refine x_wf (fun w15 => ?_)
    refine x_callI (mc := 0) (ms := 0) (As := [.ref r14]) (rest := [.ref (gS s4)]) ci_X2_300 (met_X17_init (gS s4) s11 r14 14 (by decide) (hs12.t (gT_new (σ := s4)))) (hRi (fr := (20 + 9 * (n + 1))) (lo := (400 + 300 * (n + 1))) (mc := 0) (ms := 0) hs12t rfl rfl ⟨Nat.le_add_right_of_le (by decide), Nat.le_add_right_of_le (by decide)⟩ (by decide) hls11) rfl rfl rfl dX2_not_29 (n := 32) rfl (fun s17 hp => ?_)
    obtain ⟨hk16, e19⟩ := hp
    have hn18 : GX σ0 s17 := hk16.2 σ0 w0 hs12t (hs5t.fresh w0) w15
    have hls17 : gS s17 ≤ Mx := by rw [e19]; exact hls11
    refine x_tight hz hn18 ?_
    have hBs17 := hB0.gx hn18
    have h := h s17 e19
    exact g_aret rfl rq hn18 hls17 h dX2_not_32
  · have h := h.1 cc3
    refine x_aload_n dX2_not_11 (n := 12) rfl rfl 0 rfl ?_
    refine g_cVr (fr := (20 + 9 * (n + 1))) (lo := (400 + 300 * (n + 1))) (As := []) (rest := []) hz (GX.rf (σ := σ0)) cv_X2_295 ck2 (met_X2_compare n o c d σ0 Mx _ _ OR hB0 hM0 hOR h) hB0.1 ⟨by omega, by omega⟩ hM0 rfl rfl rfl dX2_not_12 (n := 15) rfl (fun q s20 hs21 hls20 h => g_out rq ((GX.rf (σ := σ0)).tr hs21) hls20 h) (fun r23 s20 hs21 hls20 h => ?_)
    have hs21t := (GX.rf (σ := σ0)).tr hs21
    have hBs20 := hB0.gx hs21t
    have h := h hs21
    exact g_aret rfl rq hs21t hls20 h dX2_not_15
abbrev rm_X2_and (n : Nat) (Mx : Nat) (σ0 : Hp) : Room := rmG (21 + 9 * n) (420 + 300 * n) Mx σ0
def lb_X2_and_5 (o c d : Nat)  (Mx : Nat) (Q : Nat → Hp → Prop) (E : Nat → Hp → Prop) (OR : Hp → (Nat → Hp → Prop) → (Nat → Hp → Prop) → Prop) (NOT : Hp → (Nat → Hp → Prop) → (Nat → Hp → Prop) → Prop)  (K5 : Nat × Hp → Prop) (z : Nat × Hp) : Prop := match z with
  | (r1, σ) => ((f_X2_isWord o c d σ 17 17) = 0 → Q r1 σ) ∧ (¬ (f_X2_isWord o c d σ 17 17) = 0 → wp_X2_knot o c d σ Mx (fun r11 s8 => GX σ s8 → (gS s8 + 1 ≤ Mx) ∧ (NOT (pN s8 (.inl 15)) (fun r18 s15 => GX (pN s8 (.inl 15)) s15 → ∀ s21 : Hp, s21 = f_X18_init (gS s8) s15 r11 r1 r18 → K5 (gS s8, s21)) E)) E)
def wp_X2_and (o c d : Nat) (σ0 : Hp) (Mx : Nat) (Q : Nat → Hp → Prop) (E : Nat → Hp → Prop) (OR : Hp → (Nat → Hp → Prop) → (Nat → Hp → Prop) → Prop) (NOT : Hp → (Nat → Hp → Prop) → (Nat → Hp → Prop) → Prop) : Prop := NOT σ0 (fun r4 s1 => GX σ0 s1 → lp (lb_X2_and_5 o c d Mx Q E OR NOT) (r4, s1)) E
theorem xl_X2_and_5 (n : Nat) (o c d : Nat) (σ0 : Hp) (Mx : Nat) (Q : Nat → Hp → Prop) (E : Nat → Hp → Prop) (OR : Hp → (Nat → Hp → Prop) → (Nat → Hp → Prop) → Prop) (NOT : Hp → (Nat → Hp → Prop) → (Nat → Hp → Prop) → Prop) (G : XE) (hB0 : EB o c d σ0) (rq : RQx G [] (Mx - gS σ0) (16 * (Mx - gS σ0)) (oR (fun r σ' => gP Mx σ0 (Q r) σ')) (pxF Mx σ0 E)) (hz : G.2.2.2.1.heap.size = gS σ0) (w0 : WF σ0) (hM0 : gS σ0 ≤ Mx) (hOR : ∀ σ Q E, EB o c d σ → gS σ ≤ Mx → OR σ Q E → MetY yX2_or cX2_or 3 (some (.object "LongYears$Part")) (rmG (20 + 9 * n) (400 + 300 * n) Mx σ) σ [.ref o] (oR (fun r σ' => gP Mx σ (Q r) σ')) (pxF Mx σ E) (Mx - gS σ) (16 * (Mx - gS σ))) (hNOT : ∀ σ Q E, EB o c d σ → gS σ ≤ Mx → NOT σ Q E → MetY yX2_not cX2_not 1 (some (.object "LongYears$Part")) (rmG (20 + 9 * n) (400 + 300 * n) Mx σ) σ [.ref o] (oR (fun r σ' => gP Mx σ (Q r) σ')) (pxF Mx σ E) (Mx - gS σ) (16 * (Mx - gS σ)))     : ∀ z : Nat × Hp, (GX σ0 z.2 ∧ gS z.2 ≤ Mx) → lp (lb_X2_and_5 o c d  Mx Q E OR NOT ) z → X G (rm_X2_and n Mx σ0) cX2_and RX2 3 (some (.object "LongYears$Part")) z.2 (gS z.2 - gS σ0) (16 * (gS z.2 - gS σ0)) 5 [(0, .ref o), (1, .ref z.1)] [] := by
  intro z
  refine fun hs h => lp_X (P := fun z => (GX σ0 z.2 ∧ gS z.2 ≤ Mx) → X G (rm_X2_and n Mx σ0) cX2_and RX2 3 (some (.object "LongYears$Part")) z.2 (gS z.2 - gS σ0) (16 * (gS z.2 - gS σ0)) 5 [(0, .ref o), (1, .ref z.1)] []) ?_ h hs
  intro K5 hK5 z h hs
  obtain ⟨r1, σ⟩ := z
  have hle : gS σ ≤ Mx := hs.2
  have hs : GX σ0 σ := hs.1
  have hB := hB0.gx hs
  simp only [lb_X2_and_5] at h
  show X G (rm_X2_and n Mx σ0) cX2_and RX2 3 (some (.object "LongYears$Part")) σ (gS σ - gS σ0) (16 * (gS σ - gS σ0)) 5 [(0, .ref o), (1, .ref r1)] []
  have hK5 : ∀ z : (Nat × Hp), (GX σ0 z.2 ∧ gS z.2 ≤ Mx) → K5 z → X G (rm_X2_and n Mx σ0) cX2_and RX2 3 (some (.object "LongYears$Part")) z.2 (gS z.2 - gS σ0) (16 * (gS z.2 - gS σ0)) 5 [(0, .ref o), (1, .ref z.1)] [] := fun z hs h => hK5 z h hs
  refine x_aload_n dX2_and_5 (n := 6) rfl rfl 0 rfl ?_
  refine x_bipush dX2_and_6 (n := 8) rfl bp_17 ?_
  refine x_bipush dX2_and_8 (n := 10) rfl bp_17 ?_
  refine x_cVip (As := [.int 17, .int 17]) (rest := []) cv_X2_122 ck2 (met_X2_isWord o c d σ 17 17 hB) hB.1 (hRg (fr := (21 + 9 * n)) (lo := (420 + 300 * n)) ⟨rfl, rfl, Nat.le_add_right_of_le (by decide), Nat.le_add_right_of_le (by decide)⟩ hle) rfl rfl rfl dX2_and_10 (n := 13) rfl (fun r6 q => ?_)
  subst q
  refine x_if_eq (tgt := 38) dX2_and_13 rfl (n := 16) rfl (fun cc7 => ?_) (fun cc7 => ?_)
  · have h := h.1 cc7
    refine x_aload_n dX2_and_38 (n := 39) rfl rfl 1 rfl ?_
    exact g_aret rfl rq hs hle h dX2_and_39
  · have h := h.2 cc7
    refine x_aload_n dX2_and_16 (n := 17) rfl rfl 0 rfl ?_
    refine g_cVi (fr := (21 + 9 * n)) (lo := (420 + 300 * n)) (As := []) (rest := []) hz hs cv_X2_284 ck2 (met_X2_knot o c d σ Mx _ _  hB hle  h) hB.1 ⟨Nat.le_add_right_of_le (by decide), Nat.le_add_right_of_le (by decide)⟩ hle rfl rfl rfl dX2_and_17 (n := 20) rfl (fun q s8 hs9 hls8 h => g_out rq (hs.tr hs9) hls8 h) (fun r11 s8 hs9 hls8 h => ?_)
    have hs9t := hs.tr hs9
    have hBs8 := hB0.gx hs9t
    have h := h hs9
    refine x_istore_n (lvs' := [(2, .int r11), (0, .ref o), (1, .ref r1)]) dX2_and_20 (n := 21) rfl rfl (by decide) rfl ?_
    obtain ⟨b12, h⟩ := h
    refine g_new hz hs9t nx_X2_287 (by decide) b12 dX2_and_21 (n := 24) rfl (fun w14 hn13 => ?_)
    refine x_dup dX2_and_24 (n := 25) rfl rfl ?_
    refine x_iload_n dX2_and_25 (n := 26) rfl rfl 0 rfl ?_
    refine x_aload_n dX2_and_26 (n := 27) rfl rfl 2 rfl ?_
    refine x_aload_n dX2_and_27 (n := 28) rfl rfl 1 rfl ?_
    refine g_cVr (fr := (21 + 9 * n)) (lo := (420 + 300 * n)) (As := []) (rest := [.ref r1, .int r11, .ref (gS s8), .ref (gS s8)]) hz hn13 cv_X2_292 ck2 (hNOT (pN s8 (.inl 15)) _ _ (hB0.gx hn13) b12 h) (hB0.gx hn13).1 ⟨by omega, by omega⟩ b12 rfl rfl rfl dX2_and_28 (n := 31) rfl (fun q s15 hs16 hls15 h => g_out rq (hn13.tr hs16) hls15 h) (fun r18 s15 hs16 hls15 h => ?_)
    have hs16t := hn13.tr hs16
    have hBs15 := hB0.gx hs16t
    have h := h hs16
    refine x_wf (fun w19 => ?_)
    refine x_callI (mc := 0) (ms := 0) (As := [.int r11, .ref r1, .ref r18]) (rest := [.ref (gS s8)]) ci_X2_289 (met_X18_init (gS s8) s15 r11 r1 r18 (hs16.t (gT_new (σ := s8)))) (hRi (fr := (21 + 9 * n)) (lo := (420 + 300 * n)) (mc := 0) (ms := 0) hs16t rfl rfl ⟨Nat.le_add_right_of_le (by decide), Nat.le_add_right_of_le (by decide)⟩ (by decide) hls15) rfl rfl rfl dX2_and_31 (n := 34) rfl (fun s21 hp => ?_)
    obtain ⟨hk20, e23⟩ := hp
    have hn22 : GX σ0 s21 := hk20.2 σ0 w0 hs16t (hs9t.fresh w0) w19
    have hls21 : gS s21 ≤ Mx := by rw [e23]; exact hls15
    refine x_tight hz hn22 ?_
    have hBs21 := hB0.gx hn22
    have h := h s21 e23
    refine x_astore_n (lvs' := [(1, .ref (gS s8)), (2, .int r11), (0, .ref o)]) dX2_and_34 (n := 35) rfl rfl (by decide) rfl ?_
    refine x_goto (tgt := 5) dX2_and_35 rfl ?_
    exact x_sub [2, 0] rfl (hK5 (gS s8, s21) ⟨hn22, hls21⟩ h)
theorem met_X2_and (n : Nat) (o c d : Nat) (σ0 : Hp) (Mx : Nat) (Q : Nat → Hp → Prop) (E : Nat → Hp → Prop) (OR : Hp → (Nat → Hp → Prop) → (Nat → Hp → Prop) → Prop) (NOT : Hp → (Nat → Hp → Prop) → (Nat → Hp → Prop) → Prop) (hB0 : EB o c d σ0) (hM0 : gS σ0 ≤ Mx) (hOR : ∀ σ Q E, EB o c d σ → gS σ ≤ Mx → OR σ Q E → MetY yX2_or cX2_or 3 (some (.object "LongYears$Part")) (rmG (20 + 9 * n) (400 + 300 * n) Mx σ) σ [.ref o] (oR (fun r σ' => gP Mx σ (Q r) σ')) (pxF Mx σ E) (Mx - gS σ) (16 * (Mx - gS σ))) (hNOT : ∀ σ Q E, EB o c d σ → gS σ ≤ Mx → NOT σ Q E → MetY yX2_not cX2_not 1 (some (.object "LongYears$Part")) (rmG (20 + 9 * n) (400 + 300 * n) Mx σ) σ [.ref o] (oR (fun r σ' => gP Mx σ (Q r) σ')) (pxF Mx σ E) (Mx - gS σ) (16 * (Mx - gS σ))) (h : wp_X2_and o c d σ0 Mx Q E OR NOT) : MetY yX2_and cX2_and 3 (some (.object "LongYears$Part")) (rm_X2_and n Mx σ0) σ0 [.ref o] (oR (fun r σ' => gP Mx σ0 (Q r) σ')) (pxF Mx σ0 E) (Mx - gS σ0) (16 * (Mx - gS σ0)) := by
  refine metG_of (own := RX2) (lvs := [(0, .ref o)]) (by decide) rfl (Nat.le_of_ble_eq_true rfl) rfl (fun G rq hz w0 => ?_)
  unfold wp_X2_and at h
  refine x_aload_n dX2_and_0 (n := 1) rfl rfl 0 rfl ?_
  refine g_cVr (fr := (21 + 9 * n)) (lo := (420 + 300 * n)) (As := []) (rest := []) hz (GX.rf (σ := σ0)) cv_X2_292 ck2 (hNOT σ0 _ _ hB0 hM0 h) hB0.1 ⟨by omega, by omega⟩ hM0 rfl rfl rfl dX2_and_1 (n := 4) rfl (fun q s1 hs2 hls1 h => g_out rq ((GX.rf (σ := σ0)).tr hs2) hls1 h) (fun r4 s1 hs2 hls1 h => ?_)
  have hs2t := (GX.rf (σ := σ0)).tr hs2
  have hBs1 := hB0.gx hs2t
  have h := h hs2
  refine x_astore_n (lvs' := [(1, .ref r4), (0, .ref o)]) dX2_and_4 (n := 5) rfl rfl (by decide) rfl ?_
  exact x_sub [1, 0] rfl (xl_X2_and_5 n o c d σ0 Mx Q E OR NOT G hB0 rq hz w0 hM0 hOR hNOT (r4, s1) ⟨hs2t, hls1⟩ h)
abbrev rm_X2_or (n : Nat) (Mx : Nat) (σ0 : Hp) : Room := rmG (20 + 9 * (n + 1)) (400 + 300 * (n + 1)) Mx σ0
def lb_X2_or_5 (o c d : Nat)  (Mx : Nat) (Q : Nat → Hp → Prop) (E : Nat → Hp → Prop) (OR : Hp → (Nat → Hp → Prop) → (Nat → Hp → Prop) → Prop) (NOT : Hp → (Nat → Hp → Prop) → (Nat → Hp → Prop) → Prop)  (K5 : Nat × Hp → Prop) (z : Nat × Hp) : Prop := match z with
  | (r1, σ) => ((f_X2_isWord o c d σ 16 16) = 0 → Q r1 σ) ∧ (¬ (f_X2_isWord o c d σ 16 16) = 0 → wp_X2_knot o c d σ Mx (fun r11 s8 => GX σ s8 → (gS s8 + 1 ≤ Mx) ∧ (wp_X2_and o c d (pN s8 (.inl 15)) Mx (fun r18 s15 => GX (pN s8 (.inl 15)) s15 → ∀ s21 : Hp, s21 = f_X18_init (gS s8) s15 r11 r1 r18 → K5 (gS s8, s21)) E OR NOT)) E)
def wp_X2_or (o c d : Nat) (σ0 : Hp) (Mx : Nat) (Q : Nat → Hp → Prop) (E : Nat → Hp → Prop) (OR : Hp → (Nat → Hp → Prop) → (Nat → Hp → Prop) → Prop) (NOT : Hp → (Nat → Hp → Prop) → (Nat → Hp → Prop) → Prop) : Prop := wp_X2_and o c d σ0 Mx (fun r4 s1 => GX σ0 s1 → lp (lb_X2_or_5 o c d Mx Q E OR NOT) (r4, s1)) E OR NOT
theorem xl_X2_or_5 (n : Nat) (o c d : Nat) (σ0 : Hp) (Mx : Nat) (Q : Nat → Hp → Prop) (E : Nat → Hp → Prop) (OR : Hp → (Nat → Hp → Prop) → (Nat → Hp → Prop) → Prop) (NOT : Hp → (Nat → Hp → Prop) → (Nat → Hp → Prop) → Prop) (G : XE) (hB0 : EB o c d σ0) (rq : RQx G [] (Mx - gS σ0) (16 * (Mx - gS σ0)) (oR (fun r σ' => gP Mx σ0 (Q r) σ')) (pxF Mx σ0 E)) (hz : G.2.2.2.1.heap.size = gS σ0) (w0 : WF σ0) (hM0 : gS σ0 ≤ Mx) (hOR : ∀ σ Q E, EB o c d σ → gS σ ≤ Mx → OR σ Q E → MetY yX2_or cX2_or 3 (some (.object "LongYears$Part")) (rmG (20 + 9 * n) (400 + 300 * n) Mx σ) σ [.ref o] (oR (fun r σ' => gP Mx σ (Q r) σ')) (pxF Mx σ E) (Mx - gS σ) (16 * (Mx - gS σ))) (hNOT : ∀ σ Q E, EB o c d σ → gS σ ≤ Mx → NOT σ Q E → MetY yX2_not cX2_not 1 (some (.object "LongYears$Part")) (rmG (20 + 9 * n) (400 + 300 * n) Mx σ) σ [.ref o] (oR (fun r σ' => gP Mx σ (Q r) σ')) (pxF Mx σ E) (Mx - gS σ) (16 * (Mx - gS σ)))     : ∀ z : Nat × Hp, (GX σ0 z.2 ∧ gS z.2 ≤ Mx) → lp (lb_X2_or_5 o c d  Mx Q E OR NOT ) z → X G (rm_X2_or n Mx σ0) cX2_or RX2 3 (some (.object "LongYears$Part")) z.2 (gS z.2 - gS σ0) (16 * (gS z.2 - gS σ0)) 5 [(0, .ref o), (1, .ref z.1)] [] := by
  intro z
  refine fun hs h => lp_X (P := fun z => (GX σ0 z.2 ∧ gS z.2 ≤ Mx) → X G (rm_X2_or n Mx σ0) cX2_or RX2 3 (some (.object "LongYears$Part")) z.2 (gS z.2 - gS σ0) (16 * (gS z.2 - gS σ0)) 5 [(0, .ref o), (1, .ref z.1)] []) ?_ h hs
  intro K5 hK5 z h hs
  obtain ⟨r1, σ⟩ := z
  have hle : gS σ ≤ Mx := hs.2
  have hs : GX σ0 σ := hs.1
  have hB := hB0.gx hs
  simp only [lb_X2_or_5] at h
  show X G (rm_X2_or n Mx σ0) cX2_or RX2 3 (some (.object "LongYears$Part")) σ (gS σ - gS σ0) (16 * (gS σ - gS σ0)) 5 [(0, .ref o), (1, .ref r1)] []
  have hK5 : ∀ z : (Nat × Hp), (GX σ0 z.2 ∧ gS z.2 ≤ Mx) → K5 z → X G (rm_X2_or n Mx σ0) cX2_or RX2 3 (some (.object "LongYears$Part")) z.2 (gS z.2 - gS σ0) (16 * (gS z.2 - gS σ0)) 5 [(0, .ref o), (1, .ref z.1)] [] := fun z hs h => hK5 z h hs
  refine x_aload_n dX2_or_5 (n := 6) rfl rfl 0 rfl ?_
  refine x_bipush dX2_or_6 (n := 8) rfl bp_16 ?_
  refine x_bipush dX2_or_8 (n := 10) rfl bp_16 ?_
  refine x_cVip (As := [.int 16, .int 16]) (rest := []) cv_X2_122 ck2 (met_X2_isWord o c d σ 16 16 hB) hB.1 (hRg (fr := (20 + 9 * (n + 1))) (lo := (400 + 300 * (n + 1))) ⟨rfl, rfl, Nat.le_add_right_of_le (by decide), Nat.le_add_right_of_le (by decide)⟩ hle) rfl rfl rfl dX2_or_10 (n := 13) rfl (fun r6 q => ?_)
  subst q
  refine x_if_eq (tgt := 38) dX2_or_13 rfl (n := 16) rfl (fun cc7 => ?_) (fun cc7 => ?_)
  · have h := h.1 cc7
    refine x_aload_n dX2_or_38 (n := 39) rfl rfl 1 rfl ?_
    exact g_aret rfl rq hs hle h dX2_or_39
  · have h := h.2 cc7
    refine x_aload_n dX2_or_16 (n := 17) rfl rfl 0 rfl ?_
    refine g_cVi (fr := (20 + 9 * (n + 1))) (lo := (400 + 300 * (n + 1))) (As := []) (rest := []) hz hs cv_X2_284 ck2 (met_X2_knot o c d σ Mx _ _  hB hle  h) hB.1 ⟨Nat.le_add_right_of_le (by decide), Nat.le_add_right_of_le (by decide)⟩ hle rfl rfl rfl dX2_or_17 (n := 20) rfl (fun q s8 hs9 hls8 h => g_out rq (hs.tr hs9) hls8 h) (fun r11 s8 hs9 hls8 h => ?_)
    have hs9t := hs.tr hs9
    have hBs8 := hB0.gx hs9t
    have h := h hs9
    refine x_istore_n (lvs' := [(2, .int r11), (0, .ref o), (1, .ref r1)]) dX2_or_20 (n := 21) rfl rfl (by decide) rfl ?_
    obtain ⟨b12, h⟩ := h
    refine g_new hz hs9t nx_X2_287 (by decide) b12 dX2_or_21 (n := 24) rfl (fun w14 hn13 => ?_)
    refine x_dup dX2_or_24 (n := 25) rfl rfl ?_
    refine x_iload_n dX2_or_25 (n := 26) rfl rfl 0 rfl ?_
    refine x_aload_n dX2_or_26 (n := 27) rfl rfl 2 rfl ?_
    refine x_aload_n dX2_or_27 (n := 28) rfl rfl 1 rfl ?_
    refine g_cVr (fr := (20 + 9 * (n + 1))) (lo := (400 + 300 * (n + 1))) (As := []) (rest := [.ref r1, .int r11, .ref (gS s8), .ref (gS s8)]) hz hn13 cv_X2_281 ck2 (met_X2_and n o c d (pN s8 (.inl 15)) Mx _ _ OR NOT (hB0.gx hn13) b12 hOR hNOT h) (hB0.gx hn13).1 ⟨by omega, by omega⟩ b12 rfl rfl rfl dX2_or_28 (n := 31) rfl (fun q s15 hs16 hls15 h => g_out rq (hn13.tr hs16) hls15 h) (fun r18 s15 hs16 hls15 h => ?_)
    have hs16t := hn13.tr hs16
    have hBs15 := hB0.gx hs16t
    have h := h hs16
    refine x_wf (fun w19 => ?_)
    refine x_callI (mc := 0) (ms := 0) (As := [.int r11, .ref r1, .ref r18]) (rest := [.ref (gS s8)]) ci_X2_289 (met_X18_init (gS s8) s15 r11 r1 r18 (hs16.t (gT_new (σ := s8)))) (hRi (fr := (20 + 9 * (n + 1))) (lo := (400 + 300 * (n + 1))) (mc := 0) (ms := 0) hs16t rfl rfl ⟨Nat.le_add_right_of_le (by decide), Nat.le_add_right_of_le (by decide)⟩ (by decide) hls15) rfl rfl rfl dX2_or_31 (n := 34) rfl (fun s21 hp => ?_)
    obtain ⟨hk20, e23⟩ := hp
    have hn22 : GX σ0 s21 := hk20.2 σ0 w0 hs16t (hs9t.fresh w0) w19
    have hls21 : gS s21 ≤ Mx := by rw [e23]; exact hls15
    refine x_tight hz hn22 ?_
    have hBs21 := hB0.gx hn22
    have h := h s21 e23
    refine x_astore_n (lvs' := [(1, .ref (gS s8)), (2, .int r11), (0, .ref o)]) dX2_or_34 (n := 35) rfl rfl (by decide) rfl ?_
    refine x_goto (tgt := 5) dX2_or_35 rfl ?_
    exact x_sub [2, 0] rfl (hK5 (gS s8, s21) ⟨hn22, hls21⟩ h)
theorem met_X2_or (n : Nat) (o c d : Nat) (σ0 : Hp) (Mx : Nat) (Q : Nat → Hp → Prop) (E : Nat → Hp → Prop) (OR : Hp → (Nat → Hp → Prop) → (Nat → Hp → Prop) → Prop) (NOT : Hp → (Nat → Hp → Prop) → (Nat → Hp → Prop) → Prop) (hB0 : EB o c d σ0) (hM0 : gS σ0 ≤ Mx) (hOR : ∀ σ Q E, EB o c d σ → gS σ ≤ Mx → OR σ Q E → MetY yX2_or cX2_or 3 (some (.object "LongYears$Part")) (rmG (20 + 9 * n) (400 + 300 * n) Mx σ) σ [.ref o] (oR (fun r σ' => gP Mx σ (Q r) σ')) (pxF Mx σ E) (Mx - gS σ) (16 * (Mx - gS σ))) (hNOT : ∀ σ Q E, EB o c d σ → gS σ ≤ Mx → NOT σ Q E → MetY yX2_not cX2_not 1 (some (.object "LongYears$Part")) (rmG (20 + 9 * n) (400 + 300 * n) Mx σ) σ [.ref o] (oR (fun r σ' => gP Mx σ (Q r) σ')) (pxF Mx σ E) (Mx - gS σ) (16 * (Mx - gS σ))) (h : wp_X2_or o c d σ0 Mx Q E OR NOT) : MetY yX2_or cX2_or 3 (some (.object "LongYears$Part")) (rm_X2_or n Mx σ0) σ0 [.ref o] (oR (fun r σ' => gP Mx σ0 (Q r) σ')) (pxF Mx σ0 E) (Mx - gS σ0) (16 * (Mx - gS σ0)) := by
  refine metG_of (own := RX2) (lvs := [(0, .ref o)]) (by decide) rfl (Nat.le_of_ble_eq_true rfl) rfl (fun G rq hz w0 => ?_)
  unfold wp_X2_or at h
  refine x_aload_n dX2_or_0 (n := 1) rfl rfl 0 rfl ?_
  refine g_cVr (fr := (20 + 9 * (n + 1))) (lo := (400 + 300 * (n + 1))) (As := []) (rest := []) hz (GX.rf (σ := σ0)) cv_X2_281 ck2 (met_X2_and n o c d σ0 Mx _ _ OR NOT hB0 hM0 hOR hNOT h) hB0.1 ⟨by omega, by omega⟩ hM0 rfl rfl rfl dX2_or_1 (n := 4) rfl (fun q s1 hs2 hls1 h => g_out rq ((GX.rf (σ := σ0)).tr hs2) hls1 h) (fun r4 s1 hs2 hls1 h => ?_)
  have hs2t := (GX.rf (σ := σ0)).tr hs2
  have hBs1 := hB0.gx hs2t
  have h := h hs2
  refine x_astore_n (lvs' := [(1, .ref r4), (0, .ref o)]) dX2_or_4 (n := 5) rfl rfl (by decide) rfl ?_
  exact x_sub [1, 0] rfl (xl_X2_or_5 n o c d σ0 Mx Q E OR NOT G hB0 rq hz w0 hM0 hOR hNOT (r4, s1) ⟨hs2t, hls1⟩ h)
/-- the sums' reader, by how deep it may go -/
def WON (o c d Mx : Nat) : Nat → (Hp → (Nat → Hp → Prop) → (Nat → Hp → Prop) → Prop) × (Hp → (Nat → Hp → Prop) → (Nat → Hp → Prop) → Prop)
  | 0 => (fun _ _ _ => False, fun _ _ _ => False)
  | n + 1 => (fun σ Q E => wp_X2_or o c d σ Mx Q E (WON o c d Mx n).1 (WON o c d Mx n).2, fun σ Q E => wp_X2_not o c d σ Mx Q E (WON o c d Mx n).1 (WON o c d Mx n).2)
theorem won_met (o c d Mx : Nat) : ∀ n, (∀ σ Q E, EB o c d σ → gS σ ≤ Mx → (WON o c d Mx n).1 σ Q E → MetY yX2_or cX2_or 3 (some (.object "LongYears$Part")) (rmG (20 + 9 * n) (400 + 300 * n) Mx σ) σ [.ref o] (oR (fun r σ' => gP Mx σ (Q r) σ')) (pxF Mx σ E) (Mx - gS σ) (16 * (Mx - gS σ))) ∧ (∀ σ Q E, EB o c d σ → gS σ ≤ Mx → (WON o c d Mx n).2 σ Q E → MetY yX2_not cX2_not 1 (some (.object "LongYears$Part")) (rmG (20 + 9 * n) (400 + 300 * n) Mx σ) σ [.ref o] (oR (fun r σ' => gP Mx σ (Q r) σ')) (pxF Mx σ E) (Mx - gS σ) (16 * (Mx - gS σ)))
  | 0 => ⟨fun _ _ _ _ _ h => h.elim, fun _ _ _ _ _ h => h.elim⟩
  | n + 1 => ⟨fun σ Q E hB hM h => met_X2_or n o c d σ Mx Q E _ _ hB hM (won_met o c d Mx n).1 (won_met o c d Mx n).2 h, fun σ Q E hB hM h => met_X2_not n o c d σ Mx Q E _ _ hB hM (won_met o c d Mx n).1 (won_met o c d Mx n).2 h⟩
/-- ninety levels are enough -/
def wp_X2_orT (o c d : Nat) (σ0 : Hp) (Mx : Nat) (Q : Nat → Hp → Prop) (E : Nat → Hp → Prop) : Prop := (WON o c d Mx 90).1 σ0 Q E
abbrev rm_X2_orT (Mx : Nat) (σ0 : Hp) : Room := rmG (830) (27400) Mx σ0
theorem met_X2_orT (o c d : Nat) (σ0 : Hp) (Mx : Nat) (Q : Nat → Hp → Prop) (E : Nat → Hp → Prop) (hB0 : EB o c d σ0) (hM0 : gS σ0 ≤ Mx) (h : wp_X2_orT o c d σ0 Mx Q E) : MetY yX2_or cX2_or 3 (some (.object "LongYears$Part")) (rm_X2_orT Mx σ0) σ0 [.ref o] (oR (fun r σ' => gP Mx σ0 (Q r) σ')) (pxF Mx σ0 E) (Mx - gS σ0) (16 * (Mx - gS σ0)) := (won_met o c d Mx 90).1 σ0 Q E hB0 hM0 h
