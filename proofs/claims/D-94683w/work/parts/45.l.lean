set_option maxRecDepth 100000
theorem isDd.sh {σ σ' : Hp} {a : Nat} (h : isDd σ a) (hs : SH σ σ') : isDd σ' a := h.elim fun ci q => ⟨ci, q.1, hs.t q.2⟩
theorem isNm.sh {σ σ' : Hp} {a : Nat} (h : isNm σ a) (hs : SH σ σ') : isNm σ' a := h.elim fun ci q => ⟨ci, q.1, hs.t q.2⟩
abbrev rm_X11_due : Room := { frames := 4, cells := 0, slots := 0, locals := 97 }
def wp_X11_due (o : Nat) (σ : Hp) (a1 c1 : Nat) (a2 : Nat) (Q : Int64 → Prop) : Prop := wp_X8_year a2 σ (gL σ o 1) (fun r1 => wp_X8_day a2 σ (gL σ o 1) (fun r2 => (ok_X8_has a2 σ (r1 + ((gI σ o 2).toInt64))) ∧ (((f_X8_has a2 σ (r1 + ((gI σ o 2).toInt64))) = 0 → Q (-1)) ∧ (¬ (f_X8_has a2 σ (r1 + ((gI σ o 2).toInt64))) = 0 → ((f_X8_length a2 σ (r1 + ((gI σ o 2).toInt64))) < r2 → (ok_X8_has a2 σ ((r1 + ((gI σ o 2).toInt64)) + 1)) ∧ (((f_X8_has a2 σ ((r1 + ((gI σ o 2).toInt64)) + 1)) = 0 → Q (-1)) ∧ (¬ (f_X8_has a2 σ ((r1 + ((gI σ o 2).toInt64)) + 1)) = 0 → Q (f_X10_counted (f_X8_start a2 σ ((r1 + ((gI σ o 2).toInt64)) + 1)))))) ∧ (¬ (f_X8_length a2 σ (r1 + ((gI σ o 2).toInt64))) < r2 → Q (f_X10_counted (((f_X8_start a2 σ (r1 + ((gI σ o 2).toInt64))) + r2) - 1)))))))
theorem met_X11_due (o : Nat) (σ : Hp) (a1 c1 : Nat) (a2 : Nat) (Q : Int64 → Prop) (hB : OB 10 o σ) (ha1 : LB a1 c1 σ) (ha2 : OB 6 a2 σ) (h : wp_X11_due o σ a1 c1 a2 Q) : MetX yX11_due cX11_due 7 (some .long) rm_X11_due σ [.ref o, .ref a1, .ref a2] (oL (fun r σ' => σ' = σ ∧ Q r)) 0 0 := by
  refine metX_of (own := RX11) (lvs := [(0, .ref o), (1, .ref a1), (2, .ref a2)]) (by decide) rfl (Nat.le_of_ble_eq_true rfl) rfl (fun G rq => ?_)
  unfold wp_X11_due at h
  refine x_aload_n dX11_due_0 (n := 1) rfl rfl 2 rfl ?_
  refine x_aload_n dX11_due_1 (n := 2) rfl rfl 0 rfl ?_
  refine x_getl fl_X11_9_10 rfl hB rfl dX11_due_2 (n := 5) rfl ?_
  refine x_cVlp (As := [.long (gL σ o 1)]) (rest := []) cv_X11_15 ck6 (met_X8_year a2 σ (gL σ o 1) _ ha2 h) ha2 (by decide) rfl rfl rfl dX11_due_5 (n := 8) rfl (fun r1 h => ?_)
  refine x_aload_n dX11_due_8 (n := 9) rfl rfl 0 rfl ?_
  refine x_geti fl_X11_21_10 rfl hB rfl dX11_due_9 (n := 12) rfl ?_
  refine x_i2l dX11_due_12 (n := 13) rfl ?_
  refine x_ladd dX11_due_13 (n := 14) rfl ?_
  refine x_lstore_n (lvs' := [(3, .long (r1 + ((gI σ o 2).toInt64))), (0, .ref o), (1, .ref a1), (2, .ref a2)]) dX11_due_14 (n := 15) rfl rfl (by decide) rfl ?_
  refine x_aload_n dX11_due_15 (n := 16) rfl rfl 3 rfl ?_
  refine x_aload_n dX11_due_16 (n := 17) rfl rfl 1 rfl ?_
  refine x_getl fl_X11_9_10 rfl hB rfl dX11_due_17 (n := 20) rfl ?_
  refine x_cVlp (As := [.long (gL σ o 1)]) (rest := []) cv_X11_25 ck6 (met_X8_day a2 σ (gL σ o 1) _ ha2 h) ha2 (by decide) rfl rfl rfl dX11_due_20 (n := 23) rfl (fun r2 h => ?_)
  refine x_lstore (lvs' := [(5, .long r2), (3, .long (r1 + ((gI σ o 2).toInt64))), (0, .ref o), (1, .ref a1), (2, .ref a2)]) dX11_due_23 (n := 25) rfl (by decide) rfl ?_
  refine x_aload_n dX11_due_25 (n := 26) rfl rfl 4 rfl ?_
  refine x_lload_n dX11_due_26 (n := 27) rfl rfl 1 rfl ?_
  obtain ⟨b3, h⟩ := h
  refine x_cVip (As := [.long (r1 + ((gI σ o 2).toInt64))]) (rest := []) cv_X11_28 ck6 (met_X8_has a2 σ (r1 + ((gI σ o 2).toInt64)) ha2 b3) ha2 (by decide) rfl rfl rfl dX11_due_27 (n := 30) rfl (fun r4 q => ?_)
  subst q
  refine x_if_ne (tgt := 37) dX11_due_30 rfl (n := 33) rfl (fun c5 => ?_) (fun c5 => ?_)
  · have h := h.2 c5
    refine x_lload dX11_due_37 (n := 39) rfl 0 rfl ?_
    refine x_aload_n dX11_due_39 (n := 40) rfl rfl 4 rfl ?_
    refine x_lload_n dX11_due_40 (n := 41) rfl rfl 1 rfl ?_
    refine x_cVlp (As := [.long (r1 + ((gI σ o 2).toInt64))]) (rest := [.long r2]) cv_X11_34 ck6 (met_X8_length a2 σ (r1 + ((gI σ o 2).toInt64)) ha2) ha2 (by decide) rfl rfl rfl dX11_due_41 (n := 44) rfl (fun r7 q => ?_)
    subst q
    refine x_lcmp_gt (tgt := 62) dX11_due_44 (pc1 := 45) rfl dX11_due_45 rfl (n := 48) rfl (fun c8 => ?_) (fun c8 => ?_)
    · have h := h.1 c8
      refine x_aload_n dX11_due_62 (n := 63) rfl rfl 4 rfl ?_
      refine x_lload_n dX11_due_63 (n := 64) rfl rfl 1 rfl ?_
      refine x_lconst dX11_due_64 (n := 65) rfl lc_1 ?_
      refine x_ladd dX11_due_65 (n := 66) rfl ?_
      obtain ⟨b9, h⟩ := h
      refine x_cVip (As := [.long ((r1 + ((gI σ o 2).toInt64)) + 1)]) (rest := []) cv_X11_28 ck6 (met_X8_has a2 σ ((r1 + ((gI σ o 2).toInt64)) + 1) ha2 b9) ha2 (by decide) rfl rfl rfl dX11_due_66 (n := 69) rfl (fun r10 q => ?_)
      subst q
      refine x_if_eq (tgt := 85) dX11_due_69 rfl (n := 72) rfl (fun c11 => ?_) (fun c11 => ?_)
      · have h := h.1 c11
        refine x_ldc2 dX11_due_85 (n := 88) rfl q1278 ?_
        exact x_lret rq ⟨rfl, h⟩ dX11_due_88
      · have h := h.2 c11
        refine x_aload_n dX11_due_72 (n := 73) rfl rfl 4 rfl ?_
        refine x_lload_n dX11_due_73 (n := 74) rfl rfl 1 rfl ?_
        refine x_lconst dX11_due_74 (n := 75) rfl lc_1 ?_
        refine x_ladd dX11_due_75 (n := 76) rfl ?_
        refine x_cVlp (As := [.long ((r1 + ((gI σ o 2).toInt64)) + 1)]) (rest := []) cv_X11_37 ck6 (met_X8_start a2 σ ((r1 + ((gI σ o 2).toInt64)) + 1) ha2) ha2 (by decide) rfl rfl rfl dX11_due_76 (n := 79) rfl (fun r13 q => ?_)
        subst q
        refine x_cSUlp (As := [.long (f_X8_start a2 σ ((r1 + ((gI σ o 2).toInt64)) + 1))]) (rest := []) csu_X11_40 (met_X10_counted σ (f_X8_start a2 σ ((r1 + ((gI σ o 2).toInt64)) + 1)) ) (by decide) rfl rfl rfl dX11_due_79 (n := 82) rfl (fun r15 q => ?_)
        subst q
        refine x_goto (tgt := 88) dX11_due_82 rfl ?_
        exact x_lret rq ⟨rfl, h⟩ dX11_due_88
    · have h := h.2 c8
      refine x_aload_n dX11_due_48 (n := 49) rfl rfl 4 rfl ?_
      refine x_lload_n dX11_due_49 (n := 50) rfl rfl 1 rfl ?_
      refine x_cVlp (As := [.long (r1 + ((gI σ o 2).toInt64))]) (rest := []) cv_X11_37 ck6 (met_X8_start a2 σ (r1 + ((gI σ o 2).toInt64)) ha2) ha2 (by decide) rfl rfl rfl dX11_due_50 (n := 53) rfl (fun r17 q => ?_)
      subst q
      refine x_lload dX11_due_53 (n := 55) rfl 0 rfl ?_
      refine x_ladd dX11_due_55 (n := 56) rfl ?_
      refine x_lconst dX11_due_56 (n := 57) rfl lc_1 ?_
      refine x_lsub dX11_due_57 (n := 58) rfl ?_
      refine x_cSUlp (As := [.long (((f_X8_start a2 σ (r1 + ((gI σ o 2).toInt64))) + r2) - 1)]) (rest := []) csu_X11_40 (met_X10_counted σ (((f_X8_start a2 σ (r1 + ((gI σ o 2).toInt64))) + r2) - 1) ) (by decide) rfl rfl rfl dX11_due_58 (n := 61) rfl (fun r19 q => ?_)
      subst q
      exact x_lret rq ⟨rfl, h⟩ dX11_due_61
  · have h := h.1 c5
    refine x_ldc2 dX11_due_33 (n := 36) rfl q1278 ?_
    exact x_lret rq ⟨rfl, h⟩ dX11_due_36
abbrev rm_X1_deed : Room := { frames := 78, cells := 0, slots := 0, locals := 1973 }
def wp_X1_deed (o c : Nat) (σ0 : Hp) (x1 : Int32) (x2 : Int32) (x3 : Int32) (Q : Int64 → Hp → Prop) : Prop := ((f_X1_in x1.toInt64 0 (((f_J2_size (c + 7) 4 σ0) - 1).toInt64)) = 0 → Q (-1) σ0) ∧ (¬ (f_X1_in x1.toInt64 0 (((f_J2_size (c + 7) 4 σ0) - 1).toInt64)) = 0 → (ok_X1_isLand o c σ0 x2) ∧ (((f_X1_isLand o c σ0 x2) = 0 → Q (-1) σ0) ∧ (¬ (f_X1_isLand o c σ0 x2) = 0 → ((f_X1_in x3.toInt64 0 2) = 0 → Q (-1) σ0) ∧ (¬ (f_X1_in x3.toInt64 0 2) = 0 → (ok_J2_get (c + 7) 4 σ0 x1) ∧ ((isDd σ0 (f_J2_get (c + 7) 4 σ0 x1)) ∧ ((ok_X1_land o c σ0 x2) ∧ ((OB 6 (f_X1_land o c σ0 x2) σ0) ∧ (wp_X8_year (f_X1_land o c σ0 x2) σ0 (gL σ0 (f_J2_get (c + 7) 4 σ0 x1) 1) (fun r18 => (r18 = (-1) → Q (-1) σ0) ∧ (¬ r18 = (-1) → (x3 = 0 → Q (gL σ0 (f_J2_get (c + 7) 4 σ0 x1) 1) σ0) ∧ (¬ x3 = 0 → (ok_X1_land o c σ0 x2) ∧ ((gT σ0 (f_J2_get (c + 7) 4 σ0 x1) = some (.inl 9) → ∀ v24 : Int64, v24 = f_X10_due (f_J2_get (c + 7) 4 σ0 x1) σ0 o c (f_X1_land o c σ0 x2) → (x3 = 1 → Q v24 σ0) ∧ (¬ x3 = 1 → (0 ≤ v24 → (ok_X1_land o c σ0 x2) ∧ (wp_X8_ended (f_X1_land o c σ0 x2) σ0 v24 (fun r30 => (ok_X1_land o c σ0 x2) ∧ (wp_X8_ended (f_X1_land o c σ0 x2) σ0 (gL σ0 (f_J2_get (c + 7) 4 σ0 x1) 1) (fun r33 => Q (((gI σ0 (f_J2_get (c + 7) 4 σ0 x1) 3).toInt64) * (r30 - r33)) σ0))))) ∧ (¬ 0 ≤ v24 → Q v24 σ0))) ∧ (gT σ0 (f_J2_get (c + 7) 4 σ0 x1) = some (.inl 10) → wp_X11_due (f_J2_get (c + 7) 4 σ0 x1) σ0 o c (f_X1_land o c σ0 x2) (fun r34 => (x3 = 1 → Q r34 σ0) ∧ (¬ x3 = 1 → (0 ≤ r34 → (ok_X1_land o c σ0 x2) ∧ (wp_X8_ended (f_X1_land o c σ0 x2) σ0 r34 (fun r39 => (ok_X1_land o c σ0 x2) ∧ (wp_X8_ended (f_X1_land o c σ0 x2) σ0 (gL σ0 (f_J2_get (c + 7) 4 σ0 x1) 1) (fun r42 => Q (((gI σ0 (f_J2_get (c + 7) 4 σ0 x1) 3).toInt64) * (r39 - r42)) σ0))))) ∧ (¬ 0 ≤ r34 → Q r34 σ0)))) ∧ (gT σ0 (f_J2_get (c + 7) 4 σ0 x1) = some (.inl 11) → wp_X12_due (f_J2_get (c + 7) 4 σ0 x1) σ0 o c (f_X1_land o c σ0 x2) (fun r43 s44 => (x3 = 1 → Q r43 s44) ∧ (¬ x3 = 1 → (0 ≤ r43 → (ok_X1_land o c s44 x2) ∧ ((OB 6 (f_X1_land o c s44 x2) s44) ∧ (wp_X8_ended (f_X1_land o c s44 x2) s44 r43 (fun r51 => (ok_X1_land o c s44 x2) ∧ (wp_X8_ended (f_X1_land o c s44 x2) s44 (gL s44 (f_J2_get (c + 7) 4 σ0 x1) 1) (fun r54 => Q (((gI s44 (f_J2_get (c + 7) 4 σ0 x1) 3).toInt64) * (r51 - r54)) s44)))))) ∧ (¬ 0 ≤ r43 → Q r43 s44))))))))))))))))
theorem met_X1_deed (o c : Nat) (σ0 : Hp) (x1 : Int32) (x2 : Int32) (x3 : Int32) (Q : Int64 → Hp → Prop) (hB0 : LB o c σ0) (h : wp_X1_deed o c σ0 x1 x2 x3 Q) : MetX yX1_deed cX1_deed 7 (some .long) rm_X1_deed σ0 [.ref o, .int x1, .int x2, .int x3] (oL (fun r σ' => SH σ0 σ' ∧ Q r σ')) 0 0 := by
  refine metX_of (own := RX1) (lvs := [(0, .ref o), (1, .int x1), (2, .int x2), (3, .int x3)]) (by decide) rfl (Nat.le_of_ble_eq_true rfl) rfl (fun G rq => ?_)
  unfold wp_X1_deed at h
  refine x_iload_n dX1_deed_0 (n := 1) rfl rfl 1 rfl ?_
  refine x_i2l dX1_deed_1 (n := 2) rfl ?_
  refine x_lconst dX1_deed_2 (n := 3) rfl lc_0 ?_
  refine x_aload_n dX1_deed_3 (n := 4) rfl rfl 0 rfl ?_
  refine x_getr fl_X1_39_1 rfl hB0.1 hB0.r5 dX1_deed_4 (n := 7) rfl ?_
  refine x_getr fl_X1_166_3 rfl hB0.rb.1 hB0.rb.r3 dX1_deed_7 (n := 10) rfl ?_
  refine x_cVip (As := []) (rest := [.long 0, .long x1.toInt64]) cv_X1_118 ck4 (met_J2_size (c + 7) 4 σ0 hB0.rb.b3) hB0.rb.b3.1 (by decide) rfl rfl rfl dX1_deed_10 (n := 13) rfl (fun r2 q => ?_)
  subst q
  refine x_iconst dX1_deed_13 (n := 14) rfl ic_1 ?_
  refine x_isub dX1_deed_14 (n := 15) rfl ?_
  refine x_i2l dX1_deed_15 (n := 16) rfl ?_
  refine x_cSip (As := [.long x1.toInt64, .long 0, .long (((f_J2_size (c + 7) 4 σ0) - 1).toInt64)]) (rest := []) cs_X1_96 (met_X1_in σ0 x1.toInt64 0 (((f_J2_size (c + 7) 4 σ0) - 1).toInt64) ) (by decide) rfl rfl rfl dX1_deed_16 (n := 19) rfl (fun r4 q => ?_)
  subst q
  refine x_if_eq (tgt := 42) dX1_deed_19 rfl (n := 22) rfl (fun c5 => ?_) (fun c5 => ?_)
  · have h := h.1 c5
    refine x_ldc2 dX1_deed_42 (n := 45) rfl q1059 ?_
    exact x_lret rq ⟨(SH.rf (σ := σ0)), h⟩ dX1_deed_45
  · have h := h.2 c5
    refine x_aload_n dX1_deed_22 (n := 23) rfl rfl 0 rfl ?_
    refine x_iload_n dX1_deed_23 (n := 24) rfl rfl 2 rfl ?_
    obtain ⟨b6, h⟩ := h
    refine x_cVip (As := [.int x2]) (rest := []) cv_X1_171 ck1 (met_X1_isLand o c σ0 x2 hB0 b6) hB0.1 (by decide) rfl rfl rfl dX1_deed_24 (n := 27) rfl (fun r7 q => ?_)
    subst q
    refine x_if_eq (tgt := 42) dX1_deed_27 rfl (n := 30) rfl (fun c8 => ?_) (fun c8 => ?_)
    · have h := h.1 c8
      refine x_ldc2 dX1_deed_42 (n := 45) rfl q1059 ?_
      exact x_lret rq ⟨(SH.rf (σ := σ0)), h⟩ dX1_deed_45
    · have h := h.2 c8
      refine x_iload_n dX1_deed_30 (n := 31) rfl rfl 3 rfl ?_
      refine x_i2l dX1_deed_31 (n := 32) rfl ?_
      refine x_lconst dX1_deed_32 (n := 33) rfl lc_0 ?_
      refine x_ldc2 dX1_deed_33 (n := 36) rfl q1262 ?_
      refine x_cSip (As := [.long x3.toInt64, .long 0, .long 2]) (rest := []) cs_X1_96 (met_X1_in σ0 x3.toInt64 0 2 ) (by decide) rfl rfl rfl dX1_deed_36 (n := 39) rfl (fun r10 q => ?_)
      subst q
      refine x_if_ne (tgt := 46) dX1_deed_39 rfl (n := 42) rfl (fun c11 => ?_) (fun c11 => ?_)
      · have h := h.2 c11
        refine x_aload_n dX1_deed_46 (n := 47) rfl rfl 0 rfl ?_
        refine x_getr fl_X1_39_1 rfl hB0.1 hB0.r5 dX1_deed_47 (n := 50) rfl ?_
        refine x_getr fl_X1_166_3 rfl hB0.rb.1 hB0.rb.r3 dX1_deed_50 (n := 53) rfl ?_
        refine x_iload_n dX1_deed_53 (n := 54) rfl rfl 1 rfl ?_
        obtain ⟨b12, h⟩ := h
        refine x_cVrp (As := [.int x1]) (rest := []) cv_X1_127 ck4 (met_J2_get (c + 7) 4 σ0 x1 hB0.rb.b3 b12) hB0.rb.b3.1 (by decide) rfl rfl rfl dX1_deed_54 (n := 57) rfl (fun r13 q => ?_)
        subst q
        obtain ⟨b14, h⟩ := h
        refine x_castM dds cxd_X1_222 b14 dX1_deed_57 (n := 60) rfl ?_
        refine x_astore (lvs' := [(4, .ref (f_J2_get (c + 7) 4 σ0 x1)), (0, .ref o), (1, .int x1), (2, .int x2), (3, .int x3)]) dX1_deed_60 (n := 62) rfl (by decide) rfl ?_
        refine x_aload_n dX1_deed_62 (n := 63) rfl rfl 1 rfl ?_
        refine x_iload_n dX1_deed_63 (n := 64) rfl rfl 3 rfl ?_
        obtain ⟨b15, h⟩ := h
        refine x_cVrp (As := [.int x2]) (rest := []) cv_X1_177 ck1 (met_X1_land o c σ0 x2 hB0 b15) hB0.1 (by decide) rfl rfl rfl dX1_deed_64 (n := 67) rfl (fun r16 q => ?_)
        subst q
        refine x_aload dX1_deed_67 (n := 69) rfl 0 rfl ?_
        refine x_getMl dds fld_X1_328 b14 rfl dX1_deed_69 (n := 72) rfl ?_
        obtain ⟨b17, h⟩ := h
        refine x_cVlp (As := [.long (gL σ0 (f_J2_get (c + 7) 4 σ0 x1) 1)]) (rest := []) cv_X1_212 ck6 (met_X8_year (f_X1_land o c σ0 x2) σ0 (gL σ0 (f_J2_get (c + 7) 4 σ0 x1) 1) _ b17 h) b17 (by decide) rfl rfl rfl dX1_deed_72 (n := 75) rfl (fun r18 h => ?_)
        refine x_ldc2 dX1_deed_75 (n := 78) rfl q1059 ?_
        refine x_lcmp_ne (tgt := 86) dX1_deed_78 (pc1 := 79) rfl dX1_deed_79 rfl (n := 82) rfl (fun c19 => ?_) (fun c19 => ?_)
        · have h := h.2 c19
          refine x_iload_n dX1_deed_86 (n := 87) rfl rfl 4 rfl ?_
          refine x_if_ne (tgt := 96) dX1_deed_87 rfl (n := 90) rfl (fun c20 => ?_) (fun c20 => ?_)
          · have h := h.2 c20
            refine x_aload dX1_deed_96 (n := 98) rfl 0 rfl ?_
            refine x_aload_n dX1_deed_98 (n := 99) rfl rfl 1 rfl ?_
            refine x_aload_n dX1_deed_99 (n := 100) rfl rfl 1 rfl ?_
            refine x_iload_n dX1_deed_100 (n := 101) rfl rfl 3 rfl ?_
            obtain ⟨b21, h⟩ := h
            refine x_cVrp (As := [.int x2]) (rest := [.ref o, .ref (f_J2_get (c + 7) 4 σ0 x1)]) cv_X1_177 ck1 (met_X1_land o c σ0 x2 hB0 b21) hB0.1 (by decide) rfl rfl rfl dX1_deed_101 (n := 104) rfl (fun r22 q => ?_)
            subst q
            have hb := b14
            obtain ⟨ci, hm, t23⟩ := hb
            have hm : ci = 9 ∨ ci = 10 ∨ ci = 11 := by simpa [dds] using hm
            rcases hm with rfl | rfl | rfl
            · have h := h.1 t23
              refine x_callO (mc := 0) (ms := 0) (As := [.ref o, .ref (f_X1_land o c σ0 x2)]) (rest := []) co_X1_331 sd_X10 (met_X10_due (f_J2_get (c + 7) 4 σ0 x1) σ0 o c (f_X1_land o c σ0 x2) t23 hB0 b17) t23 (by decide) rfl rfl rfl dX1_deed_104 (n := 107) rfl (fun v σ' hp => ?_)
              obtain ⟨r, rfl, e, rfl⟩ := hp
              have e := e.symm
              subst e
              refine x_topl (fun v24 e25 => ?_)
              have h := h v24 e25
              refine x_lstore (lvs' := [(5, .long v24), (4, .ref (f_J2_get (c + 7) 4 σ0 x1)), (0, .ref o), (1, .int x1), (2, .int x2), (3, .int x3)]) dX1_deed_107 (n := 109) rfl (by decide) rfl ?_
              refine x_iload_n dX1_deed_109 (n := 110) rfl rfl 5 rfl ?_
              refine x_iconst dX1_deed_110 (n := 111) rfl ic_1 ?_
              refine x_icmp_eq (tgt := 121) dX1_deed_111 rfl (n := 114) rfl (fun c26 => ?_) (fun c26 => ?_)
              · have h := h.1 c26
                refine x_lload dX1_deed_121 (n := 123) rfl 0 rfl ?_
                refine x_goto (tgt := 157) dX1_deed_123 rfl ?_
                exact x_lret rq ⟨(SH.rf (σ := σ0)), h⟩ dX1_deed_157
              · have h := h.2 c26
                refine x_lload dX1_deed_114 (n := 116) rfl 0 rfl ?_
                refine x_lconst dX1_deed_116 (n := 117) rfl lc_0 ?_
                refine x_lcmp_ge (tgt := 126) dX1_deed_117 (pc1 := 118) rfl dX1_deed_118 rfl (n := 121) rfl (fun c27 => ?_) (fun c27 => ?_)
                · have h := h.1 c27
                  refine x_aload dX1_deed_126 (n := 128) rfl 1 rfl ?_
                  refine x_getM dds fld_X1_335 b14 rfl dX1_deed_128 (n := 131) rfl ?_
                  refine x_i2l dX1_deed_131 (n := 132) rfl ?_
                  refine x_aload_n dX1_deed_132 (n := 133) rfl rfl 2 rfl ?_
                  refine x_iload_n dX1_deed_133 (n := 134) rfl rfl 4 rfl ?_
                  obtain ⟨b28, h⟩ := h
                  refine x_cVrp (As := [.int x2]) (rest := [.long ((gI σ0 (f_J2_get (c + 7) 4 σ0 x1) 3).toInt64)]) cv_X1_177 ck1 (met_X1_land o c σ0 x2 hB0 b28) hB0.1 (by decide) rfl rfl rfl dX1_deed_134 (n := 137) rfl (fun r29 q => ?_)
                  subst q
                  refine x_lload dX1_deed_137 (n := 139) rfl 0 rfl ?_
                  refine x_cVlp (As := [.long v24]) (rest := [.long ((gI σ0 (f_J2_get (c + 7) 4 σ0 x1) 3).toInt64)]) cv_X1_338 ck6 (met_X8_ended (f_X1_land o c σ0 x2) σ0 v24 _ b17 h) b17 (by decide) rfl rfl rfl dX1_deed_139 (n := 142) rfl (fun r30 h => ?_)
                  refine x_aload_n dX1_deed_142 (n := 143) rfl rfl 2 rfl ?_
                  refine x_iload_n dX1_deed_143 (n := 144) rfl rfl 4 rfl ?_
                  obtain ⟨b31, h⟩ := h
                  refine x_cVrp (As := [.int x2]) (rest := [.long r30, .long ((gI σ0 (f_J2_get (c + 7) 4 σ0 x1) 3).toInt64)]) cv_X1_177 ck1 (met_X1_land o c σ0 x2 hB0 b31) hB0.1 (by decide) rfl rfl rfl dX1_deed_144 (n := 147) rfl (fun r32 q => ?_)
                  subst q
                  refine x_aload dX1_deed_147 (n := 149) rfl 1 rfl ?_
                  refine x_getMl dds fld_X1_328 b14 rfl dX1_deed_149 (n := 152) rfl ?_
                  refine x_cVlp (As := [.long (gL σ0 (f_J2_get (c + 7) 4 σ0 x1) 1)]) (rest := [.long r30, .long ((gI σ0 (f_J2_get (c + 7) 4 σ0 x1) 3).toInt64)]) cv_X1_338 ck6 (met_X8_ended (f_X1_land o c σ0 x2) σ0 (gL σ0 (f_J2_get (c + 7) 4 σ0 x1) 1) _ b17 h) b17 (by decide) rfl rfl rfl dX1_deed_152 (n := 155) rfl (fun r33 h => ?_)
                  refine x_lsub dX1_deed_155 (n := 156) rfl ?_
                  refine x_lmul dX1_deed_156 (n := 157) rfl ?_
                  exact x_lret rq ⟨(SH.rf (σ := σ0)), h⟩ dX1_deed_157
                · have h := h.2 c27
                  refine x_lload dX1_deed_121 (n := 123) rfl 0 rfl ?_
                  refine x_goto (tgt := 157) dX1_deed_123 rfl ?_
                  exact x_lret rq ⟨(SH.rf (σ := σ0)), h⟩ dX1_deed_157
            · have h := h.2.1 t23
              refine x_callO (mc := 0) (ms := 0) (As := [.ref o, .ref (f_X1_land o c σ0 x2)]) (rest := []) co_X1_331 sd_X11 (met_X11_due (f_J2_get (c + 7) 4 σ0 x1) σ0 o c (f_X1_land o c σ0 x2) _ t23 hB0 b17 h) t23 (by decide) rfl rfl rfl dX1_deed_104 (n := 107) rfl (fun v σ' hp => ?_)
              obtain ⟨r34, rfl, e, h⟩ := hp
              have e := e.symm
              subst e
              refine x_lstore (lvs' := [(5, .long r34), (4, .ref (f_J2_get (c + 7) 4 σ0 x1)), (0, .ref o), (1, .int x1), (2, .int x2), (3, .int x3)]) dX1_deed_107 (n := 109) rfl (by decide) rfl ?_
              refine x_iload_n dX1_deed_109 (n := 110) rfl rfl 5 rfl ?_
              refine x_iconst dX1_deed_110 (n := 111) rfl ic_1 ?_
              refine x_icmp_eq (tgt := 121) dX1_deed_111 rfl (n := 114) rfl (fun c35 => ?_) (fun c35 => ?_)
              · have h := h.1 c35
                refine x_lload dX1_deed_121 (n := 123) rfl 0 rfl ?_
                refine x_goto (tgt := 157) dX1_deed_123 rfl ?_
                exact x_lret rq ⟨(SH.rf (σ := σ0)), h⟩ dX1_deed_157
              · have h := h.2 c35
                refine x_lload dX1_deed_114 (n := 116) rfl 0 rfl ?_
                refine x_lconst dX1_deed_116 (n := 117) rfl lc_0 ?_
                refine x_lcmp_ge (tgt := 126) dX1_deed_117 (pc1 := 118) rfl dX1_deed_118 rfl (n := 121) rfl (fun c36 => ?_) (fun c36 => ?_)
                · have h := h.1 c36
                  refine x_aload dX1_deed_126 (n := 128) rfl 1 rfl ?_
                  refine x_getM dds fld_X1_335 b14 rfl dX1_deed_128 (n := 131) rfl ?_
                  refine x_i2l dX1_deed_131 (n := 132) rfl ?_
                  refine x_aload_n dX1_deed_132 (n := 133) rfl rfl 2 rfl ?_
                  refine x_iload_n dX1_deed_133 (n := 134) rfl rfl 4 rfl ?_
                  obtain ⟨b37, h⟩ := h
                  refine x_cVrp (As := [.int x2]) (rest := [.long ((gI σ0 (f_J2_get (c + 7) 4 σ0 x1) 3).toInt64)]) cv_X1_177 ck1 (met_X1_land o c σ0 x2 hB0 b37) hB0.1 (by decide) rfl rfl rfl dX1_deed_134 (n := 137) rfl (fun r38 q => ?_)
                  subst q
                  refine x_lload dX1_deed_137 (n := 139) rfl 0 rfl ?_
                  refine x_cVlp (As := [.long r34]) (rest := [.long ((gI σ0 (f_J2_get (c + 7) 4 σ0 x1) 3).toInt64)]) cv_X1_338 ck6 (met_X8_ended (f_X1_land o c σ0 x2) σ0 r34 _ b17 h) b17 (by decide) rfl rfl rfl dX1_deed_139 (n := 142) rfl (fun r39 h => ?_)
                  refine x_aload_n dX1_deed_142 (n := 143) rfl rfl 2 rfl ?_
                  refine x_iload_n dX1_deed_143 (n := 144) rfl rfl 4 rfl ?_
                  obtain ⟨b40, h⟩ := h
                  refine x_cVrp (As := [.int x2]) (rest := [.long r39, .long ((gI σ0 (f_J2_get (c + 7) 4 σ0 x1) 3).toInt64)]) cv_X1_177 ck1 (met_X1_land o c σ0 x2 hB0 b40) hB0.1 (by decide) rfl rfl rfl dX1_deed_144 (n := 147) rfl (fun r41 q => ?_)
                  subst q
                  refine x_aload dX1_deed_147 (n := 149) rfl 1 rfl ?_
                  refine x_getMl dds fld_X1_328 b14 rfl dX1_deed_149 (n := 152) rfl ?_
                  refine x_cVlp (As := [.long (gL σ0 (f_J2_get (c + 7) 4 σ0 x1) 1)]) (rest := [.long r39, .long ((gI σ0 (f_J2_get (c + 7) 4 σ0 x1) 3).toInt64)]) cv_X1_338 ck6 (met_X8_ended (f_X1_land o c σ0 x2) σ0 (gL σ0 (f_J2_get (c + 7) 4 σ0 x1) 1) _ b17 h) b17 (by decide) rfl rfl rfl dX1_deed_152 (n := 155) rfl (fun r42 h => ?_)
                  refine x_lsub dX1_deed_155 (n := 156) rfl ?_
                  refine x_lmul dX1_deed_156 (n := 157) rfl ?_
                  exact x_lret rq ⟨(SH.rf (σ := σ0)), h⟩ dX1_deed_157
                · have h := h.2 c36
                  refine x_lload dX1_deed_121 (n := 123) rfl 0 rfl ?_
                  refine x_goto (tgt := 157) dX1_deed_123 rfl ?_
                  exact x_lret rq ⟨(SH.rf (σ := σ0)), h⟩ dX1_deed_157
            · have h := h.2.2 t23
              refine x_callO (mc := 0) (ms := 0) (As := [.ref o, .ref (f_X1_land o c σ0 x2)]) (rest := []) co_X1_331 sd_X12 (met_X12_due (f_J2_get (c + 7) 4 σ0 x1) σ0 o c (f_X1_land o c σ0 x2) _ t23 hB0 b17 h) t23 (by decide) rfl rfl rfl dX1_deed_104 (n := 107) rfl (fun v s44 hp => ?_)
              obtain ⟨r43, rfl, hs45, h⟩ := hp
              have hs45t := (SH.rf (σ := σ0)).tr hs45; have hBs44 := hB0.sh hs45t
              refine x_lstore (lvs' := [(5, .long r43), (4, .ref (f_J2_get (c + 7) 4 σ0 x1)), (0, .ref o), (1, .int x1), (2, .int x2), (3, .int x3)]) dX1_deed_107 (n := 109) rfl (by decide) rfl ?_
              refine x_iload_n dX1_deed_109 (n := 110) rfl rfl 5 rfl ?_
              refine x_iconst dX1_deed_110 (n := 111) rfl ic_1 ?_
              refine x_icmp_eq (tgt := 121) dX1_deed_111 rfl (n := 114) rfl (fun c46 => ?_) (fun c46 => ?_)
              · have h := h.1 c46
                refine x_lload dX1_deed_121 (n := 123) rfl 0 rfl ?_
                refine x_goto (tgt := 157) dX1_deed_123 rfl ?_
                exact x_lret rq ⟨hs45t, h⟩ dX1_deed_157
              · have h := h.2 c46
                refine x_lload dX1_deed_114 (n := 116) rfl 0 rfl ?_
                refine x_lconst dX1_deed_116 (n := 117) rfl lc_0 ?_
                refine x_lcmp_ge (tgt := 126) dX1_deed_117 (pc1 := 118) rfl dX1_deed_118 rfl (n := 121) rfl (fun c47 => ?_) (fun c47 => ?_)
                · have h := h.1 c47
                  refine x_aload dX1_deed_126 (n := 128) rfl 1 rfl ?_
                  refine x_getM dds fld_X1_335 (b14.sh ((SH.rf (σ := σ0)).sy.tr hs45t)) rfl dX1_deed_128 (n := 131) rfl ?_
                  refine x_i2l dX1_deed_131 (n := 132) rfl ?_
                  refine x_aload_n dX1_deed_132 (n := 133) rfl rfl 2 rfl ?_
                  refine x_iload_n dX1_deed_133 (n := 134) rfl rfl 4 rfl ?_
                  obtain ⟨b48, h⟩ := h
                  refine x_cVrp (As := [.int x2]) (rest := [.long ((gI s44 (f_J2_get (c + 7) 4 σ0 x1) 3).toInt64)]) cv_X1_177 ck1 (met_X1_land o c s44 x2 hBs44 b48) hBs44.1 (by decide) rfl rfl rfl dX1_deed_134 (n := 137) rfl (fun r49 q => ?_)
                  subst q
                  refine x_lload dX1_deed_137 (n := 139) rfl 0 rfl ?_
                  obtain ⟨b50, h⟩ := h
                  refine x_cVlp (As := [.long r43]) (rest := [.long ((gI s44 (f_J2_get (c + 7) 4 σ0 x1) 3).toInt64)]) cv_X1_338 ck6 (met_X8_ended (f_X1_land o c s44 x2) s44 r43 _ b50 h) b50 (by decide) rfl rfl rfl dX1_deed_139 (n := 142) rfl (fun r51 h => ?_)
                  refine x_aload_n dX1_deed_142 (n := 143) rfl rfl 2 rfl ?_
                  refine x_iload_n dX1_deed_143 (n := 144) rfl rfl 4 rfl ?_
                  obtain ⟨b52, h⟩ := h
                  refine x_cVrp (As := [.int x2]) (rest := [.long r51, .long ((gI s44 (f_J2_get (c + 7) 4 σ0 x1) 3).toInt64)]) cv_X1_177 ck1 (met_X1_land o c s44 x2 hBs44 b52) hBs44.1 (by decide) rfl rfl rfl dX1_deed_144 (n := 147) rfl (fun r53 q => ?_)
                  subst q
                  refine x_aload dX1_deed_147 (n := 149) rfl 1 rfl ?_
                  refine x_getMl dds fld_X1_328 (b14.sh ((SH.rf (σ := σ0)).sy.tr hs45t)) rfl dX1_deed_149 (n := 152) rfl ?_
                  refine x_cVlp (As := [.long (gL s44 (f_J2_get (c + 7) 4 σ0 x1) 1)]) (rest := [.long r51, .long ((gI s44 (f_J2_get (c + 7) 4 σ0 x1) 3).toInt64)]) cv_X1_338 ck6 (met_X8_ended (f_X1_land o c s44 x2) s44 (gL s44 (f_J2_get (c + 7) 4 σ0 x1) 1) _ b50 h) b50 (by decide) rfl rfl rfl dX1_deed_152 (n := 155) rfl (fun r54 h => ?_)
                  refine x_lsub dX1_deed_155 (n := 156) rfl ?_
                  refine x_lmul dX1_deed_156 (n := 157) rfl ?_
                  exact x_lret rq ⟨hs45t, h⟩ dX1_deed_157
                · have h := h.2 c47
                  refine x_lload dX1_deed_121 (n := 123) rfl 0 rfl ?_
                  refine x_goto (tgt := 157) dX1_deed_123 rfl ?_
                  exact x_lret rq ⟨hs45t, h⟩ dX1_deed_157
          · have h := h.1 c20
            refine x_aload dX1_deed_90 (n := 92) rfl 0 rfl ?_
            refine x_getMl dds fld_X1_328 b14 rfl dX1_deed_92 (n := 95) rfl ?_
            exact x_lret rq ⟨(SH.rf (σ := σ0)), h⟩ dX1_deed_95
        · have h := h.1 c19
          refine x_ldc2 dX1_deed_82 (n := 85) rfl q1059 ?_
          exact x_lret rq ⟨(SH.rf (σ := σ0)), h⟩ dX1_deed_85
      · have h := h.1 c11
        refine x_ldc2 dX1_deed_42 (n := 45) rfl q1059 ?_
        exact x_lret rq ⟨(SH.rf (σ := σ0)), h⟩ dX1_deed_45
