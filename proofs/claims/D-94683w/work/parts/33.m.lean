set_option maxRecDepth 100000
abbrev rm_X6_parts : Room := { frames := 3, cells := 0, slots := 0, locals := 69 }
def lb_X6_parts_43 (o : Nat) (x1 : Int32) (x2 : Int32) (x3 : Int32) (Q : Int32 → Hp → Prop)  (K43 : Int32 × Int32 × Int32 × Hp → Prop) (z : Int32 × Int32 × Int32 × Hp) : Prop := match z with
  | (x4, x5, x6, σ) => (100 ≤ x6 → (x3 = 0 → Q x4 σ) ∧ (¬ x3 = 0 → Q x5 σ)) ∧ (¬ 100 ≤ x6 → (ok_X6_lengthOf o σ x1 x2.toInt64) ∧ ((¬ x6.toInt64 = 0) ∧ ((((f_X6_lengthOf o σ x1 x2.toInt64) - (f_X6_lengthOf o σ x1 x2.toInt64) / x6.toInt64 * x6.toInt64) = 0 → K43 (x4 + 1, x6, x6 + 1, σ)) ∧ (¬ ((f_X6_lengthOf o σ x1 x2.toInt64) - (f_X6_lengthOf o σ x1 x2.toInt64) / x6.toInt64 * x6.toInt64) = 0 → K43 (x4, x5, x6 + 1, σ)))))
def wp_X6_parts (o : Nat) (σ0 : Hp) (x1 : Int32) (x2 : Int32) (x3 : Int32) (Q : Int32 → Hp → Prop) : Prop := ((f_X6_isLand o (pI σ0 o 2 0) x1) = 0 → Q (-1) (pI σ0 o 2 0)) ∧ (¬ (f_X6_isLand o (pI σ0 o 2 0) x1) = 0 → (ok_X6_isAsked o (pI σ0 o 2 0) x1 x2.toInt64) ∧ (((f_X6_isAsked o (pI σ0 o 2 0) x1 x2.toInt64) = 0 → Q (-1) (pI σ0 o 2 0)) ∧ (¬ (f_X6_isAsked o (pI σ0 o 2 0) x1 x2.toInt64) = 0 → ((f_X6_isIn x3 0 1) = 0 → Q (-1) (pI σ0 o 2 0)) ∧ (¬ (f_X6_isIn x3 0 1) = 0 → lp (lb_X6_parts_43 o x1 x2 x3 Q) (0, 0, 1, pI σ0 o 2 0)))))
theorem xl_X6_parts_43 (o : Nat) (σ0 : Hp) (Q : Int32 → Hp → Prop) (G : XE) (hB0 : MB o σ0) (rq : RQ G 0 0 (oI (fun r σ' => SH σ0 σ' ∧ Q r σ'))) (x1 : Int32) (x2 : Int32) (x3 : Int32)    : ∀ z : Int32 × Int32 × Int32 × Hp, SH σ0 z.2.2.2 → lp (lb_X6_parts_43 o x1 x2 x3 Q ) z → X G rm_X6_parts cX6_parts RX6 7 (some .int) z.2.2.2 0 0 43 [(0, .ref o), (1, .int x1), (2, .int x2), (3, .int x3), (4, .int z.1), (5, .int z.2.1), (6, .int z.2.2.1)] [] := by
  intro z
  refine fun hs h => lp_X (P := fun z => SH σ0 z.2.2.2 → X G rm_X6_parts cX6_parts RX6 7 (some .int) z.2.2.2 0 0 43 [(0, .ref o), (1, .int x1), (2, .int x2), (3, .int x3), (4, .int z.1), (5, .int z.2.1), (6, .int z.2.2.1)] []) ?_ h hs
  intro K43 hK43 z h hs
  obtain ⟨x4, x5, x6, σ⟩ := z
  have hs : SH σ0 σ := hs
  have hB := hB0.sh hs
  simp only [lb_X6_parts_43] at h
  show X G rm_X6_parts cX6_parts RX6 7 (some .int) σ 0 0 43 [(0, .ref o), (1, .int x1), (2, .int x2), (3, .int x3), (4, .int x4), (5, .int x5), (6, .int x6)] []
  have hK43 : ∀ z : (Int32 × Int32 × Int32 × Hp), SH σ0 z.2.2.2 → K43 z → X G rm_X6_parts cX6_parts RX6 7 (some .int) z.2.2.2 0 0 43 [(0, .ref o), (1, .int x1), (2, .int x2), (3, .int x3), (4, .int z.1), (5, .int z.2.1), (6, .int z.2.2.1)] [] := fun z hs h => hK43 z h hs
  refine x_iload dX6_parts_43 (n := 45) rfl 6 rfl ?_
  refine x_bipush dX6_parts_45 (n := 47) rfl bp_100 ?_
  refine x_icmp_ge (tgt := 82) dX6_parts_47 rfl (n := 50) rfl (fun c10 => ?_) (fun c10 => ?_)
  · have h := h.1 c10
    refine x_iload_n dX6_parts_82 (n := 83) rfl rfl 3 rfl ?_
    refine x_if_ne (tgt := 91) dX6_parts_83 rfl (n := 86) rfl (fun c11 => ?_) (fun c11 => ?_)
    · have h := h.2 c11
      refine x_iload dX6_parts_91 (n := 93) rfl 5 rfl ?_
      exact x_iret rq ⟨hs, h⟩ dX6_parts_93
    · have h := h.1 c11
      refine x_iload dX6_parts_86 (n := 88) rfl 4 rfl ?_
      refine x_goto (tgt := 93) dX6_parts_88 rfl ?_
      exact x_iret rq ⟨hs, h⟩ dX6_parts_93
  · have h := h.2 c10
    refine x_aload_n dX6_parts_50 (n := 51) rfl rfl 0 rfl ?_
    refine x_iload_n dX6_parts_51 (n := 52) rfl rfl 1 rfl ?_
    refine x_iload_n dX6_parts_52 (n := 53) rfl rfl 2 rfl ?_
    refine x_i2l dX6_parts_53 (n := 54) rfl ?_
    obtain ⟨b12, h⟩ := h
    refine x_cVlp (As := [.int x1, .long x2.toInt64]) (rest := []) cv_X6_375 ck0 (met_X6_lengthOf o σ x1 x2.toInt64 hB b12) hB.1 (by decide) rfl rfl rfl dX6_parts_54 (n := 57) rfl (fun r13 q => ?_)
    subst q
    refine x_iload dX6_parts_57 (n := 59) rfl 6 rfl ?_
    refine x_i2l dX6_parts_59 (n := 60) rfl ?_
    obtain ⟨b14, h⟩ := h
    refine x_lrem dX6_parts_60 (n := 61) rfl b14 ?_
    refine x_lconst dX6_parts_61 (n := 62) rfl lc_0 ?_
    refine x_lcmp_eq (tgt := 69) dX6_parts_62 (pc1 := 63) rfl dX6_parts_63 rfl (n := 66) rfl (fun c15 => ?_) (fun c15 => ?_)
    · have h := h.1 c15
      refine x_iinc (v := x4 + 1) (lvs' := [(4, .int (x4 + 1)), (0, .ref o), (1, .int x1), (2, .int x2), (3, .int x3), (5, .int x5), (6, .int x6)]) dX6_parts_69 (n := 72) rfl 4 rfl rfl (by decide) rfl ?_
      refine x_iload dX6_parts_72 (n := 74) rfl 6 rfl ?_
      refine x_istore (lvs' := [(5, .int x6), (4, .int (x4 + 1)), (0, .ref o), (1, .int x1), (2, .int x2), (3, .int x3), (6, .int x6)]) dX6_parts_74 (n := 76) rfl (by decide) rfl ?_
      refine x_iinc (v := x6 + 1) (lvs' := [(6, .int (x6 + 1)), (5, .int x6), (4, .int (x4 + 1)), (0, .ref o), (1, .int x1), (2, .int x2), (3, .int x3)]) dX6_parts_76 (n := 79) rfl 6 rfl rfl (by decide) rfl ?_
      refine x_goto (tgt := 43) dX6_parts_79 rfl ?_
      exact x_sub [3, 4, 5, 6, 2, 1, 0] rfl (hK43 (x4 + 1, x6, x6 + 1, σ) hs h)
    · have h := h.2 c15
      refine x_goto (tgt := 76) dX6_parts_66 rfl ?_
      refine x_iinc (v := x6 + 1) (lvs' := [(6, .int (x6 + 1)), (0, .ref o), (1, .int x1), (2, .int x2), (3, .int x3), (4, .int x4), (5, .int x5)]) dX6_parts_76 (n := 79) rfl 6 rfl rfl (by decide) rfl ?_
      refine x_goto (tgt := 43) dX6_parts_79 rfl ?_
      exact x_sub [1, 2, 3, 4, 5, 6, 0] rfl (hK43 (x4, x5, x6 + 1, σ) hs h)
theorem met_X6_parts (o : Nat) (σ0 : Hp) (x1 : Int32) (x2 : Int32) (x3 : Int32) (Q : Int32 → Hp → Prop) (hB0 : MB o σ0) (h : wp_X6_parts o σ0 x1 x2 x3 Q) : MetX yX6_parts cX6_parts 7 (some .int) rm_X6_parts σ0 [.ref o, .int x1, .int x2, .int x3] (oI (fun r σ' => SH σ0 σ' ∧ Q r σ')) 0 0 := by
  refine metX_of (own := RX6) (lvs := [(0, .ref o), (1, .int x1), (2, .int x2), (3, .int x3)]) (by decide) rfl (Nat.le_of_ble_eq_true rfl) rfl (fun G rq => ?_)
  unfold wp_X6_parts at h
  refine x_aload_n dX6_parts_0 (n := 1) rfl rfl 0 rfl ?_
  refine x_iconst dX6_parts_1 (n := 2) rfl ic_0 ?_
  refine x_puti fp_X6_119_0 rfl hB0.1 dX6_parts_2 (n := 5) rfl ?_
  refine x_aload_n dX6_parts_5 (n := 6) rfl rfl 0 rfl ?_
  refine x_iload_n dX6_parts_6 (n := 7) rfl rfl 1 rfl ?_
  refine x_cVip (As := [.int x1]) (rest := []) cv_X6_404 ck0 (met_X6_isLand o (pI σ0 o 2 0) x1 hB0.i) hB0.i.1 (by decide) rfl rfl rfl dX6_parts_7 (n := 10) rfl (fun r2 q => ?_)
  subst q
  refine x_if_eq (tgt := 32) dX6_parts_10 rfl (n := 13) rfl (fun c3 => ?_) (fun c3 => ?_)
  · have h := h.1 c3
    refine x_iconst dX6_parts_32 (n := 33) rfl ic_m1 ?_
    exact x_iret rq ⟨(SH.rf (σ := σ0)).i, h⟩ dX6_parts_33
  · have h := h.2 c3
    refine x_aload_n dX6_parts_13 (n := 14) rfl rfl 0 rfl ?_
    refine x_iload_n dX6_parts_14 (n := 15) rfl rfl 1 rfl ?_
    refine x_iload_n dX6_parts_15 (n := 16) rfl rfl 2 rfl ?_
    refine x_i2l dX6_parts_16 (n := 17) rfl ?_
    obtain ⟨b4, h⟩ := h
    refine x_cVip (As := [.int x1, .long x2.toInt64]) (rest := []) cv_X6_410 ck0 (met_X6_isAsked o (pI σ0 o 2 0) x1 x2.toInt64 hB0.i b4) hB0.i.1 (by decide) rfl rfl rfl dX6_parts_17 (n := 20) rfl (fun r5 q => ?_)
    subst q
    refine x_if_eq (tgt := 32) dX6_parts_20 rfl (n := 23) rfl (fun c6 => ?_) (fun c6 => ?_)
    · have h := h.1 c6
      refine x_iconst dX6_parts_32 (n := 33) rfl ic_m1 ?_
      exact x_iret rq ⟨(SH.rf (σ := σ0)).i, h⟩ dX6_parts_33
    · have h := h.2 c6
      refine x_iload_n dX6_parts_23 (n := 24) rfl rfl 3 rfl ?_
      refine x_iconst dX6_parts_24 (n := 25) rfl ic_0 ?_
      refine x_iconst dX6_parts_25 (n := 26) rfl ic_1 ?_
      refine x_cSip (As := [.int x3, .int 0, .int 1]) (rest := []) cs_X6_166 (met_X6_isIn (pI σ0 o 2 0) x3 0 1 ) (by decide) rfl rfl rfl dX6_parts_26 (n := 29) rfl (fun r8 q => ?_)
      subst q
      refine x_if_ne (tgt := 34) dX6_parts_29 rfl (n := 32) rfl (fun c9 => ?_) (fun c9 => ?_)
      · have h := h.2 c9
        refine x_iconst dX6_parts_34 (n := 35) rfl ic_0 ?_
        refine x_istore (lvs' := [(4, .int 0), (0, .ref o), (1, .int x1), (2, .int x2), (3, .int x3)]) dX6_parts_35 (n := 37) rfl (by decide) rfl ?_
        refine x_iconst dX6_parts_37 (n := 38) rfl ic_0 ?_
        refine x_istore (lvs' := [(5, .int 0), (4, .int 0), (0, .ref o), (1, .int x1), (2, .int x2), (3, .int x3)]) dX6_parts_38 (n := 40) rfl (by decide) rfl ?_
        refine x_iconst dX6_parts_40 (n := 41) rfl ic_1 ?_
        refine x_istore (lvs' := [(6, .int 1), (5, .int 0), (4, .int 0), (0, .ref o), (1, .int x1), (2, .int x2), (3, .int x3)]) dX6_parts_41 (n := 43) rfl (by decide) rfl ?_
        exact x_sub [3, 4, 5, 6, 2, 1, 0] rfl (xl_X6_parts_43 o σ0 Q G hB0 rq x1 x2 x3 (0, 0, 1, pI σ0 o 2 0) (SH.rf (σ := σ0)).i h)
      · have h := h.1 c9
        refine x_iconst dX6_parts_32 (n := 33) rfl ic_m1 ?_
        exact x_iret rq ⟨(SH.rf (σ := σ0)).i, h⟩ dX6_parts_33
abbrev rm_X6_months : Room := { frames := 3, cells := 0, slots := 0, locals := 69 }
def lb_X6_months_39 (o : Nat) (x1 : Int32) (x2 : Int32) (x3 : Int32) (Q : Int32 → Hp → Prop)  (K39 : Int64 × Hp → Prop) (z : Int64 × Hp) : Prop := match z with
  | (y4, σ) => ((x2.toInt64 + 1000) ≤ y4 → Q (-2) σ) ∧ (¬ (x2.toInt64 + 1000) ≤ y4 → (ok_X6_isAsked o σ x1 y4) ∧ (((f_X6_isAsked o σ x1 y4) = 0 → Q (-2) σ) ∧ (¬ (f_X6_isAsked o σ x1 y4) = 0 → (ok_X6_lengthOf o σ x1 y4) ∧ ((¬ x3.toInt64 = 0) ∧ ((((f_X6_lengthOf o σ x1 y4) - (f_X6_lengthOf o σ x1 y4) / x3.toInt64 * x3.toInt64) = 0 → Q y4.toInt32 σ) ∧ (¬ ((f_X6_lengthOf o σ x1 y4) - (f_X6_lengthOf o σ x1 y4) / x3.toInt64 * x3.toInt64) = 0 → K39 (y4 + 1, σ)))))))
def wp_X6_months (o : Nat) (σ0 : Hp) (x1 : Int32) (x2 : Int32) (x3 : Int32) (Q : Int32 → Hp → Prop) : Prop := ((f_X6_isLand o (pI σ0 o 2 0) x1) = 0 → Q (-1) (pI σ0 o 2 0)) ∧ (¬ (f_X6_isLand o (pI σ0 o 2 0) x1) = 0 → (ok_X6_isAsked o (pI σ0 o 2 0) x1 x2.toInt64) ∧ (((f_X6_isAsked o (pI σ0 o 2 0) x1 x2.toInt64) = 0 → Q (-1) (pI σ0 o 2 0)) ∧ (¬ (f_X6_isAsked o (pI σ0 o 2 0) x1 x2.toInt64) = 0 → ((f_X6_isIn x3 1 99) = 0 → Q (-1) (pI σ0 o 2 0)) ∧ (¬ (f_X6_isIn x3 1 99) = 0 → lp (lb_X6_months_39 o x1 x2 x3 Q) (x2.toInt64, pI σ0 o 2 0)))))
theorem xl_X6_months_39 (o : Nat) (σ0 : Hp) (Q : Int32 → Hp → Prop) (G : XE) (hB0 : MB o σ0) (rq : RQ G 0 0 (oI (fun r σ' => SH σ0 σ' ∧ Q r σ'))) (x1 : Int32) (x2 : Int32) (x3 : Int32)    : ∀ z : Int64 × Hp, SH σ0 z.2 → lp (lb_X6_months_39 o x1 x2 x3 Q ) z → X G rm_X6_months cX6_months RX6 6 (some .int) z.2 0 0 39 [(0, .ref o), (1, .int x1), (2, .int x2), (3, .int x3), (4, .long z.1)] [] := by
  intro z
  refine fun hs h => lp_X (P := fun z => SH σ0 z.2 → X G rm_X6_months cX6_months RX6 6 (some .int) z.2 0 0 39 [(0, .ref o), (1, .int x1), (2, .int x2), (3, .int x3), (4, .long z.1)] []) ?_ h hs
  intro K39 hK39 z h hs
  obtain ⟨y4, σ⟩ := z
  have hs : SH σ0 σ := hs
  have hB := hB0.sh hs
  simp only [lb_X6_months_39] at h
  show X G rm_X6_months cX6_months RX6 6 (some .int) σ 0 0 39 [(0, .ref o), (1, .int x1), (2, .int x2), (3, .int x3), (4, .long y4)] []
  have hK39 : ∀ z : (Int64 × Hp), SH σ0 z.2 → K39 z → X G rm_X6_months cX6_months RX6 6 (some .int) z.2 0 0 39 [(0, .ref o), (1, .int x1), (2, .int x2), (3, .int x3), (4, .long z.1)] [] := fun z hs h => hK39 z h hs
  refine x_lload dX6_months_39 (n := 41) rfl 4 rfl ?_
  refine x_iload_n dX6_months_41 (n := 42) rfl rfl 2 rfl ?_
  refine x_i2l dX6_months_42 (n := 43) rfl ?_
  refine x_ldc2 dX6_months_43 (n := 46) rfl q2085 ?_
  refine x_ladd dX6_months_46 (n := 47) rfl ?_
  refine x_lcmp_ge (tgt := 89) dX6_months_47 (pc1 := 48) rfl dX6_months_48 rfl (n := 51) rfl (fun c10 => ?_) (fun c10 => ?_)
  · have h := h.1 c10
    refine x_bipush dX6_months_89 (n := 91) rfl bp_m2 ?_
    exact x_iret rq ⟨hs, h⟩ dX6_months_91
  · have h := h.2 c10
    refine x_aload_n dX6_months_51 (n := 52) rfl rfl 0 rfl ?_
    refine x_iload_n dX6_months_52 (n := 53) rfl rfl 1 rfl ?_
    refine x_lload dX6_months_53 (n := 55) rfl 4 rfl ?_
    obtain ⟨b11, h⟩ := h
    refine x_cVip (As := [.int x1, .long y4]) (rest := []) cv_X6_410 ck0 (met_X6_isAsked o σ x1 y4 hB b11) hB.1 (by decide) rfl rfl rfl dX6_months_55 (n := 58) rfl (fun r12 q => ?_)
    subst q
    refine x_if_eq (tgt := 89) dX6_months_58 rfl (n := 61) rfl (fun c13 => ?_) (fun c13 => ?_)
    · have h := h.1 c13
      refine x_bipush dX6_months_89 (n := 91) rfl bp_m2 ?_
      exact x_iret rq ⟨hs, h⟩ dX6_months_91
    · have h := h.2 c13
      refine x_aload_n dX6_months_61 (n := 62) rfl rfl 0 rfl ?_
      refine x_iload_n dX6_months_62 (n := 63) rfl rfl 1 rfl ?_
      refine x_lload dX6_months_63 (n := 65) rfl 4 rfl ?_
      obtain ⟨b14, h⟩ := h
      refine x_cVlp (As := [.int x1, .long y4]) (rest := []) cv_X6_375 ck0 (met_X6_lengthOf o σ x1 y4 hB b14) hB.1 (by decide) rfl rfl rfl dX6_months_65 (n := 68) rfl (fun r15 q => ?_)
      subst q
      refine x_iload_n dX6_months_68 (n := 69) rfl rfl 3 rfl ?_
      refine x_i2l dX6_months_69 (n := 70) rfl ?_
      obtain ⟨b16, h⟩ := h
      refine x_lrem dX6_months_70 (n := 71) rfl b16 ?_
      refine x_lconst dX6_months_71 (n := 72) rfl lc_0 ?_
      refine x_lcmp_ne (tgt := 80) dX6_months_72 (pc1 := 73) rfl dX6_months_73 rfl (n := 76) rfl (fun c17 => ?_) (fun c17 => ?_)
      · have h := h.2 c17
        refine x_lload dX6_months_80 (n := 82) rfl 4 rfl ?_
        refine x_lconst dX6_months_82 (n := 83) rfl lc_1 ?_
        refine x_ladd dX6_months_83 (n := 84) rfl ?_
        refine x_lstore (lvs' := [(4, .long (y4 + 1)), (0, .ref o), (1, .int x1), (2, .int x2), (3, .int x3)]) dX6_months_84 (n := 86) rfl (by decide) rfl ?_
        refine x_goto (tgt := 39) dX6_months_86 rfl ?_
        exact x_sub [1, 2, 3, 4, 0] rfl (hK39 (y4 + 1, σ) hs h)
      · have h := h.1 c17
        refine x_lload dX6_months_76 (n := 78) rfl 4 rfl ?_
        refine x_l2i dX6_months_78 (n := 79) rfl ?_
        exact x_iret rq ⟨hs, h⟩ dX6_months_79
theorem met_X6_months (o : Nat) (σ0 : Hp) (x1 : Int32) (x2 : Int32) (x3 : Int32) (Q : Int32 → Hp → Prop) (hB0 : MB o σ0) (h : wp_X6_months o σ0 x1 x2 x3 Q) : MetX yX6_months cX6_months 6 (some .int) rm_X6_months σ0 [.ref o, .int x1, .int x2, .int x3] (oI (fun r σ' => SH σ0 σ' ∧ Q r σ')) 0 0 := by
  refine metX_of (own := RX6) (lvs := [(0, .ref o), (1, .int x1), (2, .int x2), (3, .int x3)]) (by decide) rfl (Nat.le_of_ble_eq_true rfl) rfl (fun G rq => ?_)
  unfold wp_X6_months at h
  refine x_aload_n dX6_months_0 (n := 1) rfl rfl 0 rfl ?_
  refine x_iconst dX6_months_1 (n := 2) rfl ic_0 ?_
  refine x_puti fp_X6_119_0 rfl hB0.1 dX6_months_2 (n := 5) rfl ?_
  refine x_aload_n dX6_months_5 (n := 6) rfl rfl 0 rfl ?_
  refine x_iload_n dX6_months_6 (n := 7) rfl rfl 1 rfl ?_
  refine x_cVip (As := [.int x1]) (rest := []) cv_X6_404 ck0 (met_X6_isLand o (pI σ0 o 2 0) x1 hB0.i) hB0.i.1 (by decide) rfl rfl rfl dX6_months_7 (n := 10) rfl (fun r2 q => ?_)
  subst q
  refine x_if_eq (tgt := 33) dX6_months_10 rfl (n := 13) rfl (fun c3 => ?_) (fun c3 => ?_)
  · have h := h.1 c3
    refine x_iconst dX6_months_33 (n := 34) rfl ic_m1 ?_
    exact x_iret rq ⟨(SH.rf (σ := σ0)).i, h⟩ dX6_months_34
  · have h := h.2 c3
    refine x_aload_n dX6_months_13 (n := 14) rfl rfl 0 rfl ?_
    refine x_iload_n dX6_months_14 (n := 15) rfl rfl 1 rfl ?_
    refine x_iload_n dX6_months_15 (n := 16) rfl rfl 2 rfl ?_
    refine x_i2l dX6_months_16 (n := 17) rfl ?_
    obtain ⟨b4, h⟩ := h
    refine x_cVip (As := [.int x1, .long x2.toInt64]) (rest := []) cv_X6_410 ck0 (met_X6_isAsked o (pI σ0 o 2 0) x1 x2.toInt64 hB0.i b4) hB0.i.1 (by decide) rfl rfl rfl dX6_months_17 (n := 20) rfl (fun r5 q => ?_)
    subst q
    refine x_if_eq (tgt := 33) dX6_months_20 rfl (n := 23) rfl (fun c6 => ?_) (fun c6 => ?_)
    · have h := h.1 c6
      refine x_iconst dX6_months_33 (n := 34) rfl ic_m1 ?_
      exact x_iret rq ⟨(SH.rf (σ := σ0)).i, h⟩ dX6_months_34
    · have h := h.2 c6
      refine x_iload_n dX6_months_23 (n := 24) rfl rfl 3 rfl ?_
      refine x_iconst dX6_months_24 (n := 25) rfl ic_1 ?_
      refine x_bipush dX6_months_25 (n := 27) rfl bp_99 ?_
      refine x_cSip (As := [.int x3, .int 1, .int 99]) (rest := []) cs_X6_166 (met_X6_isIn (pI σ0 o 2 0) x3 1 99 ) (by decide) rfl rfl rfl dX6_months_27 (n := 30) rfl (fun r8 q => ?_)
      subst q
      refine x_if_ne (tgt := 35) dX6_months_30 rfl (n := 33) rfl (fun c9 => ?_) (fun c9 => ?_)
      · have h := h.2 c9
        refine x_iload_n dX6_months_35 (n := 36) rfl rfl 2 rfl ?_
        refine x_i2l dX6_months_36 (n := 37) rfl ?_
        refine x_lstore (lvs' := [(4, .long x2.toInt64), (0, .ref o), (1, .int x1), (2, .int x2), (3, .int x3)]) dX6_months_37 (n := 39) rfl (by decide) rfl ?_
        exact x_sub [1, 2, 3, 4, 0] rfl (xl_X6_months_39 o σ0 Q G hB0 rq x1 x2 x3 (x2.toInt64, pI σ0 o 2 0) (SH.rf (σ := σ0)).i h)
      · have h := h.1 c9
        refine x_iconst dX6_months_33 (n := 34) rfl ic_m1 ?_
        exact x_iret rq ⟨(SH.rf (σ := σ0)).i, h⟩ dX6_months_34
abbrev rm_X6_note : Room := { frames := 0, cells := 0, slots := 0, locals := 0 }
def lb_X6_note_18 (o : Nat)  (Q : Int32 → Hp → Prop)  (K18 : Int32 × Hp → Prop) (z : Int32 × Hp) : Prop := match z with
  | (x1, σ) => (11 ≤ x1 → (vp_in (gI σ o 59) 128) ∧ (Q (((gI σ o 16) + 1) - 1) (pI (pI (pI σ o 16 ((gI σ o 16) + 1)) (o + 24) (gI σ o 59).toNatClampNeg (-1)) o 59 ((gI σ o 59) + 1)))) ∧ (¬ 11 ≤ x1 → (vp_in ((11 * (gI σ o 16)) + x1) 264) ∧ (K18 (x1 + 1, pI σ (o + 16) ((11 * (gI σ o 16)) + x1).toNatClampNeg 0)))
def wp_X6_note (o : Nat) (σ0 : Hp) (Q : Int32 → Hp → Prop) : Prop := ((gI σ0 o 16) = 12 → Q (-1) (pI σ0 o 2 0)) ∧ (¬ (gI σ0 o 16) = 12 → lp (lb_X6_note_18 o Q) (0, pI σ0 o 2 0))
theorem xl_X6_note_18 (o : Nat) (σ0 : Hp) (Q : Int32 → Hp → Prop) (G : XE) (hB0 : MB o σ0) (rq : RQ G 0 0 (oI (fun r σ' => SH σ0 σ' ∧ Q r σ')))     : ∀ z : Int32 × Hp, SH σ0 z.2 → lp (lb_X6_note_18 o  Q ) z → X G rm_X6_note cX6_note RX6 2 (some .int) z.2 0 0 18 [(0, .ref o), (1, .int z.1)] [] := by
  intro z
  refine fun hs h => lp_X (P := fun z => SH σ0 z.2 → X G rm_X6_note cX6_note RX6 2 (some .int) z.2 0 0 18 [(0, .ref o), (1, .int z.1)] []) ?_ h hs
  intro K18 hK18 z h hs
  obtain ⟨x1, σ⟩ := z
  have hs : SH σ0 σ := hs
  have hB := hB0.sh hs
  simp only [lb_X6_note_18] at h
  show X G rm_X6_note cX6_note RX6 2 (some .int) σ 0 0 18 [(0, .ref o), (1, .int x1)] []
  have hK18 : ∀ z : (Int32 × Hp), SH σ0 z.2 → K18 z → X G rm_X6_note cX6_note RX6 2 (some .int) z.2 0 0 18 [(0, .ref o), (1, .int z.1)] [] := fun z hs h => hK18 z h hs
  refine x_iload_n dX6_note_18 (n := 19) rfl rfl 1 rfl ?_
  refine x_bipush dX6_note_19 (n := 21) rfl bp_11 ?_
  refine x_icmp_ge (tgt := 45) dX6_note_21 rfl (n := 24) rfl (fun c2 => ?_) (fun c2 => ?_)
  · have h := h.1 c2
    refine x_aload_n dX6_note_45 (n := 46) rfl rfl 0 rfl ?_
    refine x_dup dX6_note_46 (n := 47) rfl rfl ?_
    refine x_geti fl_X6_229_0 rfl hB.1 rfl dX6_note_47 (n := 50) rfl ?_
    refine x_iconst dX6_note_50 (n := 51) rfl ic_1 ?_
    refine x_iadd dX6_note_51 (n := 52) rfl ?_
    refine x_puti fp_X6_229_0 rfl hB.1 dX6_note_52 (n := 55) rfl ?_
    refine x_aload_n dX6_note_55 (n := 56) rfl rfl 0 rfl ?_
    refine x_getr fl_X6_84_0 rfl hB.i.1 hB.i.r60 dX6_note_56 (n := 59) rfl ?_
    refine x_aload_n dX6_note_59 (n := 60) rfl rfl 0 rfl ?_
    refine x_geti fl_X6_249_0 rfl hB.i.1 (gIn (by decide)) dX6_note_60 (n := 63) rfl ?_
    refine x_iconst dX6_note_63 (n := 64) rfl ic_m1 ?_
    obtain ⟨b3, h⟩ := h
    refine x_iast hB.i.a60 b3 rfl dX6_note_64 (n := 65) rfl ?_
    refine x_aload_n dX6_note_65 (n := 66) rfl rfl 0 rfl ?_
    refine x_dup dX6_note_66 (n := 67) rfl rfl ?_
    refine x_geti fl_X6_249_0 rfl hB.i.i.1 ((gIo (by omega)).trans (gIn (by decide))) dX6_note_67 (n := 70) rfl ?_
    refine x_iconst dX6_note_70 (n := 71) rfl ic_1 ?_
    refine x_iadd dX6_note_71 (n := 72) rfl ?_
    refine x_puti fp_X6_249_0 rfl hB.i.i.1 dX6_note_72 (n := 75) rfl ?_
    refine x_aload_n dX6_note_75 (n := 76) rfl rfl 0 rfl ?_
    refine x_geti fl_X6_229_0 rfl hB.i.i.i.1 ((gIn (by decide)).trans ((gIo (by omega)).trans (gIs))) dX6_note_76 (n := 79) rfl ?_
    refine x_iconst dX6_note_79 (n := 80) rfl ic_1 ?_
    refine x_isub dX6_note_80 (n := 81) rfl ?_
    exact x_iret rq ⟨hs.i.i.i, h⟩ dX6_note_81
  · have h := h.2 c2
    refine x_aload_n dX6_note_24 (n := 25) rfl rfl 0 rfl ?_
    refine x_getr fl_X6_60_0 rfl hB.1 hB.r40 dX6_note_25 (n := 28) rfl ?_
    refine x_bipush dX6_note_28 (n := 30) rfl bp_11 ?_
    refine x_aload_n dX6_note_30 (n := 31) rfl rfl 0 rfl ?_
    refine x_geti fl_X6_229_0 rfl hB.1 rfl dX6_note_31 (n := 34) rfl ?_
    refine x_imul dX6_note_34 (n := 35) rfl ?_
    refine x_iload_n dX6_note_35 (n := 36) rfl rfl 1 rfl ?_
    refine x_iadd dX6_note_36 (n := 37) rfl ?_
    refine x_iconst dX6_note_37 (n := 38) rfl ic_0 ?_
    obtain ⟨b4, h⟩ := h
    refine x_iast hB.a40 b4 rfl dX6_note_38 (n := 39) rfl ?_
    refine x_iinc (v := x1 + 1) (lvs' := [(1, .int (x1 + 1)), (0, .ref o)]) dX6_note_39 (n := 42) rfl 1 rfl rfl (by decide) rfl ?_
    refine x_goto (tgt := 18) dX6_note_42 rfl ?_
    exact x_sub [1, 0] rfl (hK18 (x1 + 1, pI σ (o + 16) ((11 * (gI σ o 16)) + x1).toNatClampNeg 0) hs.i h)
theorem met_X6_note (o : Nat) (σ0 : Hp) (Q : Int32 → Hp → Prop) (hB0 : MB o σ0) (h : wp_X6_note o σ0 Q) : MetX yX6_note cX6_note 2 (some .int) rm_X6_note σ0 [.ref o] (oI (fun r σ' => SH σ0 σ' ∧ Q r σ')) 0 0 := by
  refine metX_of (own := RX6) (lvs := [(0, .ref o)]) (by decide) rfl (Nat.le_of_ble_eq_true rfl) rfl (fun G rq => ?_)
  unfold wp_X6_note at h
  refine x_aload_n dX6_note_0 (n := 1) rfl rfl 0 rfl ?_
  refine x_iconst dX6_note_1 (n := 2) rfl ic_0 ?_
  refine x_puti fp_X6_119_0 rfl hB0.1 dX6_note_2 (n := 5) rfl ?_
  refine x_aload_n dX6_note_5 (n := 6) rfl rfl 0 rfl ?_
  refine x_geti fl_X6_229_0 rfl hB0.i.1 (gIn (by decide)) dX6_note_6 (n := 9) rfl ?_
  refine x_bipush dX6_note_9 (n := 11) rfl bp_12 ?_
  refine x_icmp_ne (tgt := 16) dX6_note_11 rfl (n := 14) rfl (fun c1 => ?_) (fun c1 => ?_)
  · have h := h.2 c1
    refine x_iconst dX6_note_16 (n := 17) rfl ic_0 ?_
    refine x_istore_n (lvs' := [(1, .int 0), (0, .ref o)]) dX6_note_17 (n := 18) rfl rfl (by decide) rfl ?_
    exact x_sub [1, 0] rfl (xl_X6_note_18 o σ0 Q G hB0 rq (0, pI σ0 o 2 0) (SH.rf (σ := σ0)).i h)
  · have h := h.1 c1
    refine x_iconst dX6_note_14 (n := 15) rfl ic_m1 ?_
    exact x_iret rq ⟨(SH.rf (σ := σ0)).i, h⟩ dX6_note_15
abbrev rm_X6_canSay : Room := { frames := 1, cells := 0, slots := 0, locals := 22 }
def f_X6_canSay (o : Nat) (σ : Hp) (x1 : Int32) (x2 : Int32) (x3 : Int32) (x4 : Int32) : Int32 := if x2 = 0 then if (f_X6_isIn x3 1 9999) = 0 then 0 else if (f_X6_isIn x4 x3 9999) = 0 then 0 else 1 else if x2 = 1 then f_X6_isIn x3 1 99999 else if x2 = 2 then f_X6_isIn x3 0 99999 else if x2 = 3 then f_X6_isIn x3 0 7 else if x2 = 4 then f_X6_isIn x3 0 3 else if x2 = 5 then f_X6_isPerson o σ x3 else if x2 = 6 then f_X6_isFeast o σ x3 else if x2 = 7 then if (f_X6_isIn x3 0 (x1 - 1)) = 0 then 0 else if (f_X6_isIn x4 (-9999) 9999) = 0 then 0 else 1 else 0
def ok_X6_canSay (o : Nat) (σ : Hp) (x1 : Int32) (x2 : Int32) (x3 : Int32) (x4 : Int32) : Prop := (x2 = 0 → True) ∧ (¬ x2 = 0 → ((x2 = 1 → ((f_X6_isIn x3 1 99999) = 0 ∨ (f_X6_isIn x3 1 99999) = 1)) ∧ (¬ x2 = 1 → ((x2 = 2 → ((f_X6_isIn x3 0 99999) = 0 ∨ (f_X6_isIn x3 0 99999) = 1)) ∧ (¬ x2 = 2 → ((x2 = 3 → ((f_X6_isIn x3 0 7) = 0 ∨ (f_X6_isIn x3 0 7) = 1)) ∧ (¬ x2 = 3 → ((x2 = 4 → ((f_X6_isIn x3 0 3) = 0 ∨ (f_X6_isIn x3 0 3) = 1)) ∧ (¬ x2 = 4 → ((x2 = 5 → ((f_X6_isPerson o σ x3) = 0 ∨ (f_X6_isPerson o σ x3) = 1)) ∧ (¬ x2 = 5 → ((x2 = 6 → ((f_X6_isFeast o σ x3) = 0 ∨ (f_X6_isFeast o σ x3) = 1)) ∧ (¬ x2 = 6 → True)))))))))))))
theorem met_X6_canSay (o : Nat) (σ : Hp) (x1 : Int32) (x2 : Int32) (x3 : Int32) (x4 : Int32) (hB : MB o σ) (hk : ok_X6_canSay o σ x1 x2 x3 x4) : MetX yX6_canSay cX6_canSay 5 (some .boolean) rm_X6_canSay σ [.ref o, .int x1, .int x2, .int x3, .int x4] (oI (fun r σ' => σ' = σ ∧ r = (f_X6_canSay o σ x1 x2 x3 x4))) 0 0 := by
  refine metX_of (own := RX6) (lvs := [(0, .ref o), (1, .int x1), (2, .int x2), (3, .int x3), (4, .int x4)]) (by decide) rfl (Nat.le_of_ble_eq_true rfl) rfl (fun G rq => ?_)
  have hv : (f_X6_canSay o σ x1 x2 x3 x4) = _ := f_X6_canSay.eq_1 _ _ _ _ _ _
  unfold ok_X6_canSay at hk
  refine x_iload_n dX6_canSay_0 (n := 1) rfl rfl 2 rfl ?_
  refine x_by (x2 = 0) (fun c1 => ?_) (fun c1 => ?_)
  · have hk := hk.1 c1
    have hv := hv.trans (if_pos c1)
    have z1 := tsw_in c1 ti_0
    refine x_tswIn (tgt := 48) dX6_canSay_1 (by rw [z1]; decide) (by rw [z1]; decide) (by rw [z1]; rfl) rfl ?_
    refine x_iload_n dX6_canSay_48 (n := 49) rfl rfl 3 rfl ?_
    refine x_iconst dX6_canSay_49 (n := 50) rfl ic_1 ?_
    refine x_sipush dX6_canSay_50 (n := 53) rfl sp_9999 ?_
    refine x_cSip (As := [.int x3, .int 1, .int 9999]) (rest := []) cs_X6_166 (met_X6_isIn σ x3 1 9999 ) (by decide) rfl rfl rfl dX6_canSay_53 (n := 56) rfl (fun r3 q => ?_)
    subst q
    refine x_if_eq (tgt := 75) dX6_canSay_56 rfl (n := 59) rfl (fun c4 => ?_) (fun c4 => ?_)
    · have hv := hv.trans (if_pos c4)
      refine x_iconst dX6_canSay_75 (n := 76) rfl ic_0 ?_
      exact x_zret rq ⟨rfl, hv.symm⟩ isB0 dX6_canSay_76
    · have hv := hv.trans (if_neg c4)
      refine x_iload dX6_canSay_59 (n := 61) rfl 4 rfl ?_
      refine x_iload_n dX6_canSay_61 (n := 62) rfl rfl 3 rfl ?_
      refine x_sipush dX6_canSay_62 (n := 65) rfl sp_9999 ?_
      refine x_cSip (As := [.int x4, .int x3, .int 9999]) (rest := []) cs_X6_166 (met_X6_isIn σ x4 x3 9999 ) (by decide) rfl rfl rfl dX6_canSay_65 (n := 68) rfl (fun r6 q => ?_)
      subst q
      refine x_if_eq (tgt := 75) dX6_canSay_68 rfl (n := 71) rfl (fun c7 => ?_) (fun c7 => ?_)
      · have hv := hv.trans (if_pos c7)
        refine x_iconst dX6_canSay_75 (n := 76) rfl ic_0 ?_
        exact x_zret rq ⟨rfl, hv.symm⟩ isB0 dX6_canSay_76
      · have hv := hv.trans (if_neg c7)
        refine x_iconst dX6_canSay_71 (n := 72) rfl ic_1 ?_
        refine x_goto (tgt := 76) dX6_canSay_72 rfl ?_
        exact x_zret rq ⟨rfl, hv.symm⟩ isB1 dX6_canSay_76
  · have hk := hk.2 c1
    have hv := hv.trans (if_neg c1)
    refine x_by (x2 = 1) (fun c8 => ?_) (fun c8 => ?_)
    · have hk := hk.1 c8
      have hv := hv.trans (if_pos c8)
      have z8 := tsw_in c8 ti_1
      refine x_tswIn (tgt := 77) dX6_canSay_1 (by rw [z8]; decide) (by rw [z8]; decide) (by rw [z8]; rfl) rfl ?_
      refine x_iload_n dX6_canSay_77 (n := 78) rfl rfl 3 rfl ?_
      refine x_iconst dX6_canSay_78 (n := 79) rfl ic_1 ?_
      refine x_ldc dX6_canSay_79 (n := 81) rfl q1786 ?_
      refine x_cSip (As := [.int x3, .int 1, .int 99999]) (rest := []) cs_X6_166 (met_X6_isIn σ x3 1 99999 ) (by decide) rfl rfl rfl dX6_canSay_81 (n := 84) rfl (fun r10 q => ?_)
      subst q
      have b11 := hk
      exact x_zret rq ⟨rfl, hv.symm⟩ b11 dX6_canSay_84
    · have hk := hk.2 c8
      have hv := hv.trans (if_neg c8)
      refine x_by (x2 = 2) (fun c12 => ?_) (fun c12 => ?_)
      · have hk := hk.1 c12
        have hv := hv.trans (if_pos c12)
        have z12 := tsw_in c12 ti_2
        refine x_tswIn (tgt := 85) dX6_canSay_1 (by rw [z12]; decide) (by rw [z12]; decide) (by rw [z12]; rfl) rfl ?_
        refine x_iload_n dX6_canSay_85 (n := 86) rfl rfl 3 rfl ?_
        refine x_iconst dX6_canSay_86 (n := 87) rfl ic_0 ?_
        refine x_ldc dX6_canSay_87 (n := 89) rfl q1786 ?_
        refine x_cSip (As := [.int x3, .int 0, .int 99999]) (rest := []) cs_X6_166 (met_X6_isIn σ x3 0 99999 ) (by decide) rfl rfl rfl dX6_canSay_89 (n := 92) rfl (fun r14 q => ?_)
        subst q
        have b15 := hk
        exact x_zret rq ⟨rfl, hv.symm⟩ b15 dX6_canSay_92
      · have hk := hk.2 c12
        have hv := hv.trans (if_neg c12)
        refine x_by (x2 = 3) (fun c16 => ?_) (fun c16 => ?_)
        · have hk := hk.1 c16
          have hv := hv.trans (if_pos c16)
          have z16 := tsw_in c16 ti_3
          refine x_tswIn (tgt := 93) dX6_canSay_1 (by rw [z16]; decide) (by rw [z16]; decide) (by rw [z16]; rfl) rfl ?_
          refine x_iload_n dX6_canSay_93 (n := 94) rfl rfl 3 rfl ?_
          refine x_iconst dX6_canSay_94 (n := 95) rfl ic_0 ?_
          refine x_bipush dX6_canSay_95 (n := 97) rfl bp_7 ?_
          refine x_cSip (As := [.int x3, .int 0, .int 7]) (rest := []) cs_X6_166 (met_X6_isIn σ x3 0 7 ) (by decide) rfl rfl rfl dX6_canSay_97 (n := 100) rfl (fun r18 q => ?_)
          subst q
          have b19 := hk
          exact x_zret rq ⟨rfl, hv.symm⟩ b19 dX6_canSay_100
        · have hk := hk.2 c16
          have hv := hv.trans (if_neg c16)
          refine x_by (x2 = 4) (fun c20 => ?_) (fun c20 => ?_)
          · have hk := hk.1 c20
            have hv := hv.trans (if_pos c20)
            have z20 := tsw_in c20 ti_4
            refine x_tswIn (tgt := 101) dX6_canSay_1 (by rw [z20]; decide) (by rw [z20]; decide) (by rw [z20]; rfl) rfl ?_
            refine x_iload_n dX6_canSay_101 (n := 102) rfl rfl 3 rfl ?_
            refine x_iconst dX6_canSay_102 (n := 103) rfl ic_0 ?_
            refine x_iconst dX6_canSay_103 (n := 104) rfl ic_3 ?_
            refine x_cSip (As := [.int x3, .int 0, .int 3]) (rest := []) cs_X6_166 (met_X6_isIn σ x3 0 3 ) (by decide) rfl rfl rfl dX6_canSay_104 (n := 107) rfl (fun r22 q => ?_)
            subst q
            have b23 := hk
            exact x_zret rq ⟨rfl, hv.symm⟩ b23 dX6_canSay_107
          · have hk := hk.2 c20
            have hv := hv.trans (if_neg c20)
            refine x_by (x2 = 5) (fun c24 => ?_) (fun c24 => ?_)
            · have hk := hk.1 c24
              have hv := hv.trans (if_pos c24)
              have z24 := tsw_in c24 ti_5
              refine x_tswIn (tgt := 108) dX6_canSay_1 (by rw [z24]; decide) (by rw [z24]; decide) (by rw [z24]; rfl) rfl ?_
              refine x_aload_n dX6_canSay_108 (n := 109) rfl rfl 0 rfl ?_
              refine x_iload_n dX6_canSay_109 (n := 110) rfl rfl 3 rfl ?_
              refine x_cVip (As := [.int x3]) (rest := []) cv_X6_463 ck0 (met_X6_isPerson o σ x3 hB) hB.1 (by decide) rfl rfl rfl dX6_canSay_110 (n := 113) rfl (fun r26 q => ?_)
              subst q
              have b27 := hk
              exact x_zret rq ⟨rfl, hv.symm⟩ b27 dX6_canSay_113
            · have hk := hk.2 c24
              have hv := hv.trans (if_neg c24)
              refine x_by (x2 = 6) (fun c28 => ?_) (fun c28 => ?_)
              · have hk := hk.1 c28
                have hv := hv.trans (if_pos c28)
                have z28 := tsw_in c28 ti_6
                refine x_tswIn (tgt := 114) dX6_canSay_1 (by rw [z28]; decide) (by rw [z28]; decide) (by rw [z28]; rfl) rfl ?_
                refine x_aload_n dX6_canSay_114 (n := 115) rfl rfl 0 rfl ?_
                refine x_iload_n dX6_canSay_115 (n := 116) rfl rfl 3 rfl ?_
                refine x_cVip (As := [.int x3]) (rest := []) cv_X6_448 ck0 (met_X6_isFeast o σ x3 hB) hB.1 (by decide) rfl rfl rfl dX6_canSay_116 (n := 119) rfl (fun r30 q => ?_)
                subst q
                have b31 := hk
                exact x_zret rq ⟨rfl, hv.symm⟩ b31 dX6_canSay_119
              · have hk := hk.2 c28
                have hv := hv.trans (if_neg c28)
                refine x_by (x2 = 7) (fun c32 => ?_) (fun c32 => ?_)
                · have hv := hv.trans (if_pos c32)
                  have z32 := tsw_in c32 ti_7
                  refine x_tswIn (tgt := 120) dX6_canSay_1 (by rw [z32]; decide) (by rw [z32]; decide) (by rw [z32]; rfl) rfl ?_
                  refine x_iload_n dX6_canSay_120 (n := 121) rfl rfl 3 rfl ?_
                  refine x_iconst dX6_canSay_121 (n := 122) rfl ic_0 ?_
                  refine x_iload_n dX6_canSay_122 (n := 123) rfl rfl 1 rfl ?_
                  refine x_iconst dX6_canSay_123 (n := 124) rfl ic_1 ?_
                  refine x_isub dX6_canSay_124 (n := 125) rfl ?_
                  refine x_cSip (As := [.int x3, .int 0, .int (x1 - 1)]) (rest := []) cs_X6_166 (met_X6_isIn σ x3 0 (x1 - 1) ) (by decide) rfl rfl rfl dX6_canSay_125 (n := 128) rfl (fun r34 q => ?_)
                  subst q
                  refine x_if_eq (tgt := 149) dX6_canSay_128 rfl (n := 131) rfl (fun c35 => ?_) (fun c35 => ?_)
                  · have hv := hv.trans (if_pos c35)
                    refine x_iconst dX6_canSay_149 (n := 150) rfl ic_0 ?_
                    exact x_zret rq ⟨rfl, hv.symm⟩ isB0 dX6_canSay_150
                  · have hv := hv.trans (if_neg c35)
                    refine x_iload dX6_canSay_131 (n := 133) rfl 4 rfl ?_
                    refine x_sipush dX6_canSay_133 (n := 136) rfl sp_m9999 ?_
                    refine x_sipush dX6_canSay_136 (n := 139) rfl sp_9999 ?_
                    refine x_cSip (As := [.int x4, .int (-9999), .int 9999]) (rest := []) cs_X6_166 (met_X6_isIn σ x4 (-9999) 9999 ) (by decide) rfl rfl rfl dX6_canSay_139 (n := 142) rfl (fun r37 q => ?_)
                    subst q
                    refine x_if_eq (tgt := 149) dX6_canSay_142 rfl (n := 145) rfl (fun c38 => ?_) (fun c38 => ?_)
                    · have hv := hv.trans (if_pos c38)
                      refine x_iconst dX6_canSay_149 (n := 150) rfl ic_0 ?_
                      exact x_zret rq ⟨rfl, hv.symm⟩ isB0 dX6_canSay_150
                    · have hv := hv.trans (if_neg c38)
                      refine x_iconst dX6_canSay_145 (n := 146) rfl ic_1 ?_
                      refine x_goto (tgt := 150) dX6_canSay_146 rfl ?_
                      exact x_zret rq ⟨rfl, hv.symm⟩ isB1 dX6_canSay_150
                · have hv := hv.trans (if_neg c32)
                  have z1 := ne_int c1 ti_0
                  have z8 := ne_int c8 ti_1
                  have z12 := ne_int c12 ti_2
                  have z16 := ne_int c16 ti_3
                  have z20 := ne_int c20 ti_4
                  have z24 := ne_int c24 ti_5
                  have z28 := ne_int c28 ti_6
                  have z32 := ne_int c32 ti_7
                  refine x_tswOut (tgt := 151) dX6_canSay_1 (by omega) rfl ?_
                  refine x_iconst dX6_canSay_151 (n := 152) rfl ic_0 ?_
                  exact x_zret rq ⟨rfl, hv.symm⟩ isB0 dX6_canSay_152
abbrev rm_X6_says : Room := { frames := 2, cells := 0, slots := 0, locals := 46 }
def fj_X6_says_125 (o : Nat) (σ : Hp) (x1 : Int32) : Int32 × Hp := (1, pI (pI σ (o + 24) (gI σ o 59).toNatClampNeg x1) o 59 ((gI σ o 59) + 1))
def oj_X6_says_125 (o : Nat) (σ : Hp) (x1 : Int32) : Prop := vp_in (gI σ o 59) 128
def fj_X6_says_105 (o : Nat) (σ : Hp) (x1 : Int32) (x3 : Int32) (x4 : Int32) : Int32 × Hp := if x1 = 7 then fj_X6_says_125 o (pI σ (o + 16) ((11 * x4) + 10).toNatClampNeg x3) x1 else fj_X6_says_125 o σ x1
def oj_X6_says_105 (o : Nat) (σ : Hp) (x1 : Int32) (x3 : Int32) (x4 : Int32) : Prop := (x1 = 7 → ((vp_in ((11 * x4) + 10) 264) ∧ (oj_X6_says_125 o (pI σ (o + 16) ((11 * x4) + 10).toNatClampNeg x3) x1))) ∧ (¬ x1 = 7 → (oj_X6_says_125 o σ x1))
def fj_X6_says_85 (o : Nat) (σ : Hp) (x1 : Int32) (x2 : Int32) (x3 : Int32) (x4 : Int32) (w0 : Int32) (w1 : Int32) : Int32 × Hp := if x1 = 0 then fj_X6_says_105 o (pI (pI σ (o + 16) (w1 + w0).toNatClampNeg x2) (o + 16) ((11 * x4) + 2).toNatClampNeg x3) x1 x3 x4 else fj_X6_says_105 o (pI σ (o + 16) (w1 + w0).toNatClampNeg x2) x1 x3 x4
def oj_X6_says_85 (o : Nat) (σ : Hp) (x1 : Int32) (x2 : Int32) (x3 : Int32) (x4 : Int32) (w0 : Int32) (w1 : Int32) : Prop := (vp_in (w1 + w0) 264) ∧ ((x1 = 0 → ((vp_in ((11 * x4) + 2) 264) ∧ (oj_X6_says_105 o (pI (pI σ (o + 16) (w1 + w0).toNatClampNeg x2) (o + 16) ((11 * x4) + 2).toNatClampNeg x3) x1 x3 x4))) ∧ (¬ x1 = 0 → (oj_X6_says_105 o (pI σ (o + 16) (w1 + w0).toNatClampNeg x2) x1 x3 x4)))
def f_X6_says (o : Nat) (σ0 : Hp) (x1 : Int32) (x2 : Int32) (x3 : Int32) : Int32 × Hp := if ((gI σ0 o 16) - 1) < 0 then (0, pI σ0 o 2 0) else if (f_X6_canSay o (pI σ0 o 2 0) ((gI σ0 o 16) - 1) x1 x2 x3) = 0 then (0, pI σ0 o 2 0) else if (f_X6_isOf (gI (pI σ0 o 2 0) (o + 16) (11 * ((gI σ0 o 16) - 1)).toNatClampNeg) x1) = 0 then if x1 = 0 then fj_X6_says_85 o (pI (pI σ0 o 2 0) (o + 16) (11 * ((gI σ0 o 16) - 1)).toNatClampNeg ((gI (pI σ0 o 2 0) (o + 16) (11 * ((gI σ0 o 16) - 1)).toNatClampNeg) ||| (1 <<< (x1 &&& 31)))) x1 x2 x3 ((gI σ0 o 16) - 1) 1 (11 * ((gI σ0 o 16) - 1)) else fj_X6_says_85 o (pI (pI σ0 o 2 0) (o + 16) (11 * ((gI σ0 o 16) - 1)).toNatClampNeg ((gI (pI σ0 o 2 0) (o + 16) (11 * ((gI σ0 o 16) - 1)).toNatClampNeg) ||| (1 <<< (x1 &&& 31)))) x1 x2 x3 ((gI σ0 o 16) - 1) (2 + x1) (11 * ((gI σ0 o 16) - 1)) else (0, pI σ0 o 2 0)
def ok_X6_says (o : Nat) (σ0 : Hp) (x1 : Int32) (x2 : Int32) (x3 : Int32) : Prop := (((gI σ0 o 16) - 1) < 0 → True) ∧ (¬ ((gI σ0 o 16) - 1) < 0 → ((ok_X6_canSay o (pI σ0 o 2 0) ((gI σ0 o 16) - 1) x1 x2 x3) ∧ (((f_X6_canSay o (pI σ0 o 2 0) ((gI σ0 o 16) - 1) x1 x2 x3) = 0 → True) ∧ (¬ (f_X6_canSay o (pI σ0 o 2 0) ((gI σ0 o 16) - 1) x1 x2 x3) = 0 → ((vp_in (11 * ((gI σ0 o 16) - 1)) 264) ∧ (((f_X6_isOf (gI (pI σ0 o 2 0) (o + 16) (11 * ((gI σ0 o 16) - 1)).toNatClampNeg) x1) = 0 → ((vp_in (11 * ((gI σ0 o 16) - 1)) 264) ∧ ((vp_in (11 * ((gI σ0 o 16) - 1)) 264) ∧ ((x1 = 0 → (oj_X6_says_85 o (pI (pI σ0 o 2 0) (o + 16) (11 * ((gI σ0 o 16) - 1)).toNatClampNeg ((gI (pI σ0 o 2 0) (o + 16) (11 * ((gI σ0 o 16) - 1)).toNatClampNeg) ||| (1 <<< (x1 &&& 31)))) x1 x2 x3 ((gI σ0 o 16) - 1) 1 (11 * ((gI σ0 o 16) - 1)))) ∧ (¬ x1 = 0 → (oj_X6_says_85 o (pI (pI σ0 o 2 0) (o + 16) (11 * ((gI σ0 o 16) - 1)).toNatClampNeg ((gI (pI σ0 o 2 0) (o + 16) (11 * ((gI σ0 o 16) - 1)).toNatClampNeg) ||| (1 <<< (x1 &&& 31)))) x1 x2 x3 ((gI σ0 o 16) - 1) (2 + x1) (11 * ((gI σ0 o 16) - 1)))))))) ∧ (¬ (f_X6_isOf (gI (pI σ0 o 2 0) (o + 16) (11 * ((gI σ0 o 16) - 1)).toNatClampNeg) x1) = 0 → True)))))))
theorem xj_X6_says_125 (o : Nat) (σ0 : Hp) (G : XE) (hB0 : MB o σ0) (σ : Hp) (x1 : Int32)  (hs : SH σ0 σ) (V : Int32 × Hp) (hv : V = fj_X6_says_125 o σ x1) (rq : RQ G 0 0 (oI (fun r σ' => SH σ0 σ' ∧ (r, σ') = V))) (hk : oj_X6_says_125 o σ x1) : X G rm_X6_says cX6_says RX6 5 (some .boolean) σ 0 0 125 [(0, .ref o), (1, .int x1)] [] := by
  have hB := hB0.sh hs
  unfold fj_X6_says_125 at hv
  unfold oj_X6_says_125 at hk
  refine x_aload_n dX6_says_125 (n := 126) rfl rfl 0 rfl ?_
  refine x_getr fl_X6_84_0 rfl hB.1 hB.r60 dX6_says_126 (n := 129) rfl ?_
  refine x_aload_n dX6_says_129 (n := 130) rfl rfl 0 rfl ?_
  refine x_geti fl_X6_249_0 rfl hB.1 rfl dX6_says_130 (n := 133) rfl ?_
  refine x_iload_n dX6_says_133 (n := 134) rfl rfl 1 rfl ?_
  have b15 := hk
  refine x_iast hB.a60 b15 rfl dX6_says_134 (n := 135) rfl ?_
  refine x_aload_n dX6_says_135 (n := 136) rfl rfl 0 rfl ?_
  refine x_dup dX6_says_136 (n := 137) rfl rfl ?_
  refine x_geti fl_X6_249_0 rfl hB.i.1 (gIo (by omega)) dX6_says_137 (n := 140) rfl ?_
  refine x_iconst dX6_says_140 (n := 141) rfl ic_1 ?_
  refine x_iadd dX6_says_141 (n := 142) rfl ?_
  refine x_puti fp_X6_249_0 rfl hB.i.1 dX6_says_142 (n := 145) rfl ?_
  refine x_iconst dX6_says_145 (n := 146) rfl ic_1 ?_
  exact x_zret rq ⟨hs.i.i, hv.symm⟩ isB1 dX6_says_146
theorem xj_X6_says_105 (o : Nat) (σ0 : Hp) (G : XE) (hB0 : MB o σ0) (σ : Hp) (x1 : Int32) (x3 : Int32) (x4 : Int32)  (hs : SH σ0 σ) (V : Int32 × Hp) (hv : V = fj_X6_says_105 o σ x1 x3 x4) (rq : RQ G 0 0 (oI (fun r σ' => SH σ0 σ' ∧ (r, σ') = V))) (hk : oj_X6_says_105 o σ x1 x3 x4) : X G rm_X6_says cX6_says RX6 5 (some .boolean) σ 0 0 105 [(0, .ref o), (1, .int x1), (3, .int x3), (4, .int x4)] [] := by
  have hB := hB0.sh hs
  unfold fj_X6_says_105 at hv
  unfold oj_X6_says_105 at hk
  refine x_iload_n dX6_says_105 (n := 106) rfl rfl 1 rfl ?_
  refine x_bipush dX6_says_106 (n := 108) rfl bp_7 ?_
  refine x_icmp_ne (tgt := 125) dX6_says_108 rfl (n := 111) rfl (fun c14 => ?_) (fun c14 => ?_)
  · have hk := hk.2 c14
    have hv := hv.trans (if_neg c14)
    exact x_sub [0, 1] rfl (xj_X6_says_125 o σ0 G hB0 σ x1 hs _ hv rq hk)
  · have hk := hk.1 c14
    have hv := hv.trans (if_pos c14)
    refine x_aload_n dX6_says_111 (n := 112) rfl rfl 0 rfl ?_
    refine x_getr fl_X6_60_0 rfl hB.1 hB.r40 dX6_says_112 (n := 115) rfl ?_
    refine x_bipush dX6_says_115 (n := 117) rfl bp_11 ?_
    refine x_iload dX6_says_117 (n := 119) rfl 3 rfl ?_
    refine x_imul dX6_says_119 (n := 120) rfl ?_
    refine x_bipush dX6_says_120 (n := 122) rfl bp_10 ?_
    refine x_iadd dX6_says_122 (n := 123) rfl ?_
    refine x_iload_n dX6_says_123 (n := 124) rfl rfl 2 rfl ?_
    obtain ⟨b16, hk⟩ := hk
    refine x_iast hB.a40 b16 rfl dX6_says_124 (n := 125) rfl ?_
    exact x_sub [0, 1] rfl (xj_X6_says_125 o σ0 G hB0 (pI σ (o + 16) ((11 * x4) + 10).toNatClampNeg x3) x1 hs.i _ hv rq hk)
theorem xj_X6_says_85 (o : Nat) (σ0 : Hp) (G : XE) (hB0 : MB o σ0) (σ : Hp) (x1 : Int32) (x2 : Int32) (x3 : Int32) (x4 : Int32) (w0 : Int32) (w1 : Int32)  (hs : SH σ0 σ) (V : Int32 × Hp) (hv : V = fj_X6_says_85 o σ x1 x2 x3 x4 w0 w1) (rq : RQ G 0 0 (oI (fun r σ' => SH σ0 σ' ∧ (r, σ') = V))) (hk : oj_X6_says_85 o σ x1 x2 x3 x4 w0 w1) : X G rm_X6_says cX6_says RX6 5 (some .boolean) σ 0 0 85 [(0, .ref o), (1, .int x1), (2, .int x2), (3, .int x3), (4, .int x4)] [.int w0, .int w1, .ref (o + 16)] := by
  have hB := hB0.sh hs
  unfold fj_X6_says_85 at hv
  unfold oj_X6_says_85 at hk
  refine x_iadd dX6_says_85 (n := 86) rfl ?_
  refine x_iload_n dX6_says_86 (n := 87) rfl rfl 2 rfl ?_
  obtain ⟨b12, hk⟩ := hk
  refine x_iast hB.a40 b12 rfl dX6_says_87 (n := 88) rfl ?_
  refine x_iload_n dX6_says_88 (n := 89) rfl rfl 1 rfl ?_
  refine x_if_ne (tgt := 105) dX6_says_89 rfl (n := 92) rfl (fun c13 => ?_) (fun c13 => ?_)
  · have hk := hk.2 c13
    have hv := hv.trans (if_neg c13)
    exact x_sub [0, 1, 3, 4] rfl (xj_X6_says_105 o σ0 G hB0 (pI σ (o + 16) (w1 + w0).toNatClampNeg x2) x1 x3 x4 hs.i _ hv rq hk)
  · have hk := hk.1 c13
    have hv := hv.trans (if_pos c13)
    refine x_aload_n dX6_says_92 (n := 93) rfl rfl 0 rfl ?_
    refine x_getr fl_X6_60_0 rfl hB.i.1 hB.i.r40 dX6_says_93 (n := 96) rfl ?_
    refine x_bipush dX6_says_96 (n := 98) rfl bp_11 ?_
    refine x_iload dX6_says_98 (n := 100) rfl 4 rfl ?_
    refine x_imul dX6_says_100 (n := 101) rfl ?_
    refine x_iconst dX6_says_101 (n := 102) rfl ic_2 ?_
    refine x_iadd dX6_says_102 (n := 103) rfl ?_
    refine x_iload_n dX6_says_103 (n := 104) rfl rfl 3 rfl ?_
    obtain ⟨b17, hk⟩ := hk
    refine x_iast hB.i.a40 b17 rfl dX6_says_104 (n := 105) rfl ?_
    exact x_sub [0, 1, 3, 4] rfl (xj_X6_says_105 o σ0 G hB0 (pI (pI σ (o + 16) (w1 + w0).toNatClampNeg x2) (o + 16) ((11 * x4) + 2).toNatClampNeg x3) x1 x3 x4 hs.i.i _ hv rq hk)
theorem met_X6_says (o : Nat) (σ0 : Hp) (x1 : Int32) (x2 : Int32) (x3 : Int32) (hB0 : MB o σ0) (hk : ok_X6_says o σ0 x1 x2 x3) : MetX yX6_says cX6_says 5 (some .boolean) rm_X6_says σ0 [.ref o, .int x1, .int x2, .int x3] (oI (fun r σ' => SH σ0 σ' ∧ (r, σ') = (f_X6_says o σ0 x1 x2 x3))) 0 0 := by
  refine metX_of (own := RX6) (lvs := [(0, .ref o), (1, .int x1), (2, .int x2), (3, .int x3)]) (by decide) rfl (Nat.le_of_ble_eq_true rfl) rfl (fun G rq => ?_)
  have hv : (f_X6_says o σ0 x1 x2 x3) = _ := f_X6_says.eq_1 _ _ _ _ _
  unfold ok_X6_says at hk
  refine x_aload_n dX6_says_0 (n := 1) rfl rfl 0 rfl ?_
  refine x_iconst dX6_says_1 (n := 2) rfl ic_0 ?_
  refine x_puti fp_X6_119_0 rfl hB0.1 dX6_says_2 (n := 5) rfl ?_
  refine x_aload_n dX6_says_5 (n := 6) rfl rfl 0 rfl ?_
  refine x_geti fl_X6_229_0 rfl hB0.i.1 (gIn (by decide)) dX6_says_6 (n := 9) rfl ?_
  refine x_iconst dX6_says_9 (n := 10) rfl ic_1 ?_
  refine x_isub dX6_says_10 (n := 11) rfl ?_
  refine x_istore (lvs' := [(4, .int ((gI σ0 o 16) - 1)), (0, .ref o), (1, .int x1), (2, .int x2), (3, .int x3)]) dX6_says_11 (n := 13) rfl (by decide) rfl ?_
  refine x_iload dX6_says_13 (n := 15) rfl 0 rfl ?_
  refine x_if_lt (tgt := 47) dX6_says_15 rfl (n := 18) rfl (fun c1 => ?_) (fun c1 => ?_)
  · have hk := hk.1 c1
    have hv := hv.trans (if_pos c1)
    refine x_iconst dX6_says_47 (n := 48) rfl ic_0 ?_
    exact x_zret rq ⟨(SH.rf (σ := σ0)).i, hv.symm⟩ isB0 dX6_says_48
  · have hk := hk.2 c1
    have hv := hv.trans (if_neg c1)
    refine x_aload_n dX6_says_18 (n := 19) rfl rfl 1 rfl ?_
    refine x_iload dX6_says_19 (n := 21) rfl 0 rfl ?_
    refine x_iload_n dX6_says_21 (n := 22) rfl rfl 2 rfl ?_
    refine x_iload_n dX6_says_22 (n := 23) rfl rfl 3 rfl ?_
    refine x_iload_n dX6_says_23 (n := 24) rfl rfl 4 rfl ?_
    obtain ⟨b2, hk⟩ := hk
    refine x_cVip (As := [.int ((gI σ0 o 16) - 1), .int x1, .int x2, .int x3]) (rest := []) cv_X6_490 ck0 (met_X6_canSay o (pI σ0 o 2 0) ((gI σ0 o 16) - 1) x1 x2 x3 hB0.i b2) hB0.i.1 (by decide) rfl rfl rfl dX6_says_24 (n := 27) rfl (fun r3 q => ?_)
    subst q
    refine x_if_eq (tgt := 47) dX6_says_27 rfl (n := 30) rfl (fun c4 => ?_) (fun c4 => ?_)
    · have hk := hk.1 c4
      have hv := hv.trans (if_pos c4)
      refine x_iconst dX6_says_47 (n := 48) rfl ic_0 ?_
      exact x_zret rq ⟨(SH.rf (σ := σ0)).i, hv.symm⟩ isB0 dX6_says_48
    · have hk := hk.2 c4
      have hv := hv.trans (if_neg c4)
      refine x_aload_n dX6_says_30 (n := 31) rfl rfl 1 rfl ?_
      refine x_getr fl_X6_60_0 rfl hB0.i.1 hB0.i.r40 dX6_says_31 (n := 34) rfl ?_
      refine x_bipush dX6_says_34 (n := 36) rfl bp_11 ?_
      refine x_iload dX6_says_36 (n := 38) rfl 0 rfl ?_
      refine x_imul dX6_says_38 (n := 39) rfl ?_
      obtain ⟨b5, hk⟩ := hk
      refine x_iald hB0.i.a40 b5 rfl dX6_says_39 (n := 40) rfl ?_
      refine x_iload_n dX6_says_40 (n := 41) rfl rfl 2 rfl ?_
      refine x_cSip (As := [.int (gI (pI σ0 o 2 0) (o + 16) (11 * ((gI σ0 o 16) - 1)).toNatClampNeg), .int x1]) (rest := []) cs_X6_297 (met_X6_isOf (pI σ0 o 2 0) (gI (pI σ0 o 2 0) (o + 16) (11 * ((gI σ0 o 16) - 1)).toNatClampNeg) x1 ) (by decide) rfl rfl rfl dX6_says_41 (n := 44) rfl (fun r7 q => ?_)
      subst q
      refine x_if_eq (tgt := 49) dX6_says_44 rfl (n := 47) rfl (fun c8 => ?_) (fun c8 => ?_)
      · have hk := hk.1 c8
        have hv := hv.trans (if_pos c8)
        refine x_aload_n dX6_says_49 (n := 50) rfl rfl 1 rfl ?_
        refine x_getr fl_X6_60_0 rfl hB0.i.1 hB0.i.r40 dX6_says_50 (n := 53) rfl ?_
        refine x_bipush dX6_says_53 (n := 55) rfl bp_11 ?_
        refine x_iload dX6_says_55 (n := 57) rfl 0 rfl ?_
        refine x_imul dX6_says_57 (n := 58) rfl ?_
        refine x_dup2 dX6_says_58 (n := 59) rfl rfl rfl ?_
        obtain ⟨b9, hk⟩ := hk
        refine x_iald hB0.i.a40 b9 rfl dX6_says_59 (n := 60) rfl ?_
        refine x_iconst dX6_says_60 (n := 61) rfl ic_1 ?_
        refine x_iload_n dX6_says_61 (n := 62) rfl rfl 2 rfl ?_
        refine x_ishl dX6_says_62 (n := 63) rfl ?_
        refine x_ior dX6_says_63 (n := 64) rfl ?_
        obtain ⟨b10, hk⟩ := hk
        refine x_iast hB0.i.a40 b10 rfl dX6_says_64 (n := 65) rfl ?_
        refine x_aload_n dX6_says_65 (n := 66) rfl rfl 1 rfl ?_
        refine x_getr fl_X6_60_0 rfl hB0.i.i.1 hB0.i.i.r40 dX6_says_66 (n := 69) rfl ?_
        refine x_bipush dX6_says_69 (n := 71) rfl bp_11 ?_
        refine x_iload dX6_says_71 (n := 73) rfl 0 rfl ?_
        refine x_imul dX6_says_73 (n := 74) rfl ?_
        refine x_iload_n dX6_says_74 (n := 75) rfl rfl 2 rfl ?_
        refine x_if_ne (tgt := 82) dX6_says_75 rfl (n := 78) rfl (fun c11 => ?_) (fun c11 => ?_)
        · have hk := hk.2 c11
          have hv := hv.trans (if_neg c11)
          refine x_iconst dX6_says_82 (n := 83) rfl ic_2 ?_
          refine x_iload_n dX6_says_83 (n := 84) rfl rfl 2 rfl ?_
          refine x_iadd dX6_says_84 (n := 85) rfl ?_
          exact x_sub [1, 2, 3, 4, 0] rfl (xj_X6_says_85 o σ0 G hB0 (pI (pI σ0 o 2 0) (o + 16) (11 * ((gI σ0 o 16) - 1)).toNatClampNeg ((gI (pI σ0 o 2 0) (o + 16) (11 * ((gI σ0 o 16) - 1)).toNatClampNeg) ||| (1 <<< (x1 &&& 31)))) x1 x2 x3 ((gI σ0 o 16) - 1) (2 + x1) (11 * ((gI σ0 o 16) - 1)) (SH.rf (σ := σ0)).i.i _ hv rq hk)
        · have hk := hk.1 c11
          have hv := hv.trans (if_pos c11)
          refine x_iconst dX6_says_78 (n := 79) rfl ic_1 ?_
          refine x_goto (tgt := 85) dX6_says_79 rfl ?_
          exact x_sub [1, 2, 3, 4, 0] rfl (xj_X6_says_85 o σ0 G hB0 (pI (pI σ0 o 2 0) (o + 16) (11 * ((gI σ0 o 16) - 1)).toNatClampNeg ((gI (pI σ0 o 2 0) (o + 16) (11 * ((gI σ0 o 16) - 1)).toNatClampNeg) ||| (1 <<< (x1 &&& 31)))) x1 x2 x3 ((gI σ0 o 16) - 1) 1 (11 * ((gI σ0 o 16) - 1)) (SH.rf (σ := σ0)).i.i _ hv rq hk)
      · have hk := hk.2 c8
        have hv := hv.trans (if_neg c8)
        refine x_iconst dX6_says_47 (n := 48) rfl ic_0 ?_
        exact x_zret rq ⟨(SH.rf (σ := σ0)).i, hv.symm⟩ isB0 dX6_says_48
abbrev rm_X6_undo : Room := { frames := 0, cells := 0, slots := 0, locals := 0 }
def f_X6_undo (o : Nat) (σ0 : Hp) : Int32 × Hp := if (gI σ0 o 59) = 0 then ((-1), pI σ0 o 2 0) else if 0 ≤ (gI (pI (pI σ0 o 2 0) o 59 ((gI σ0 o 59) - 1)) (o + 24) ((gI σ0 o 59) - 1).toNatClampNeg) then (((gI σ0 o 59) - 1), pI (pI (pI σ0 o 2 0) o 59 ((gI σ0 o 59) - 1)) (o + 16) ((11 * (gI σ0 o 16)) - 11).toNatClampNeg ((gI (pI (pI σ0 o 2 0) o 59 ((gI σ0 o 59) - 1)) (o + 16) ((11 * (gI σ0 o 16)) - 11).toNatClampNeg) &&& ((1 <<< ((gI (pI (pI σ0 o 2 0) o 59 ((gI σ0 o 59) - 1)) (o + 24) ((gI σ0 o 59) - 1).toNatClampNeg) &&& 31)) ^^^ (-1)))) else (((gI σ0 o 59) - 1), pI (pI (pI σ0 o 2 0) o 59 ((gI σ0 o 59) - 1)) o 16 ((gI σ0 o 16) - 1))
def ok_X6_undo (o : Nat) (σ0 : Hp) : Prop := ((gI σ0 o 59) = 0 → True) ∧ (¬ (gI σ0 o 59) = 0 → ((vp_in ((gI σ0 o 59) - 1) 128) ∧ ((0 ≤ (gI (pI (pI σ0 o 2 0) o 59 ((gI σ0 o 59) - 1)) (o + 24) ((gI σ0 o 59) - 1).toNatClampNeg) → ((vp_in ((11 * (gI σ0 o 16)) - 11) 264) ∧ ((vp_in ((gI σ0 o 59) - 1) 128) ∧ (vp_in ((11 * (gI σ0 o 16)) - 11) 264)))) ∧ (¬ 0 ≤ (gI (pI (pI σ0 o 2 0) o 59 ((gI σ0 o 59) - 1)) (o + 24) ((gI σ0 o 59) - 1).toNatClampNeg) → True))))
theorem met_X6_undo (o : Nat) (σ0 : Hp) (hB0 : MB o σ0) (hk : ok_X6_undo o σ0) : MetX yX6_undo cX6_undo 1 (some .int) rm_X6_undo σ0 [.ref o] (oI (fun r σ' => SH σ0 σ' ∧ (r, σ') = (f_X6_undo o σ0))) 0 0 := by
  refine metX_of (own := RX6) (lvs := [(0, .ref o)]) (by decide) rfl (Nat.le_of_ble_eq_true rfl) rfl (fun G rq => ?_)
  have hv : (f_X6_undo o σ0) = _ := f_X6_undo.eq_1 _ _
  unfold ok_X6_undo at hk
  refine x_aload_n dX6_undo_0 (n := 1) rfl rfl 0 rfl ?_
  refine x_iconst dX6_undo_1 (n := 2) rfl ic_0 ?_
  refine x_puti fp_X6_119_0 rfl hB0.1 dX6_undo_2 (n := 5) rfl ?_
  refine x_aload_n dX6_undo_5 (n := 6) rfl rfl 0 rfl ?_
  refine x_geti fl_X6_249_0 rfl hB0.i.1 (gIn (by decide)) dX6_undo_6 (n := 9) rfl ?_
  refine x_if_ne (tgt := 14) dX6_undo_9 rfl (n := 12) rfl (fun c1 => ?_) (fun c1 => ?_)
  · have hk := hk.2 c1
    have hv := hv.trans (if_neg c1)
    refine x_aload_n dX6_undo_14 (n := 15) rfl rfl 0 rfl ?_
    refine x_dup dX6_undo_15 (n := 16) rfl rfl ?_
    refine x_geti fl_X6_249_0 rfl hB0.i.1 (gIn (by decide)) dX6_undo_16 (n := 19) rfl ?_
    refine x_iconst dX6_undo_19 (n := 20) rfl ic_1 ?_
    refine x_isub dX6_undo_20 (n := 21) rfl ?_
    refine x_puti fp_X6_249_0 rfl hB0.i.1 dX6_undo_21 (n := 24) rfl ?_
    refine x_aload_n dX6_undo_24 (n := 25) rfl rfl 0 rfl ?_
    refine x_getr fl_X6_84_0 rfl hB0.i.i.1 hB0.i.i.r60 dX6_undo_25 (n := 28) rfl ?_
    refine x_aload_n dX6_undo_28 (n := 29) rfl rfl 0 rfl ?_
    refine x_geti fl_X6_249_0 rfl hB0.i.i.1 (gIs) dX6_undo_29 (n := 32) rfl ?_
    obtain ⟨b2, hk⟩ := hk
    refine x_iald hB0.i.i.a60 b2 rfl dX6_undo_32 (n := 33) rfl ?_
    refine x_if_ge (tgt := 49) dX6_undo_33 rfl (n := 36) rfl (fun c3 => ?_) (fun c3 => ?_)
    · have hk := hk.1 c3
      have hv := hv.trans (if_pos c3)
      refine x_aload_n dX6_undo_49 (n := 50) rfl rfl 0 rfl ?_
      refine x_getr fl_X6_60_0 rfl hB0.i.i.1 hB0.i.i.r40 dX6_undo_50 (n := 53) rfl ?_
      refine x_bipush dX6_undo_53 (n := 55) rfl bp_11 ?_
      refine x_aload_n dX6_undo_55 (n := 56) rfl rfl 0 rfl ?_
      refine x_geti fl_X6_229_0 rfl hB0.i.i.1 ((gIn (by decide)).trans (gIn (by decide))) dX6_undo_56 (n := 59) rfl ?_
      refine x_imul dX6_undo_59 (n := 60) rfl ?_
      refine x_bipush dX6_undo_60 (n := 62) rfl bp_11 ?_
      refine x_isub dX6_undo_62 (n := 63) rfl ?_
      refine x_dup2 dX6_undo_63 (n := 64) rfl rfl rfl ?_
      obtain ⟨b4, hk⟩ := hk
      refine x_iald hB0.i.i.a40 b4 rfl dX6_undo_64 (n := 65) rfl ?_
      refine x_iconst dX6_undo_65 (n := 66) rfl ic_1 ?_
      refine x_aload_n dX6_undo_66 (n := 67) rfl rfl 0 rfl ?_
      refine x_getr fl_X6_84_0 rfl hB0.i.i.1 hB0.i.i.r60 dX6_undo_67 (n := 70) rfl ?_
      refine x_aload_n dX6_undo_70 (n := 71) rfl rfl 0 rfl ?_
      refine x_geti fl_X6_249_0 rfl hB0.i.i.1 (gIs) dX6_undo_71 (n := 74) rfl ?_
      obtain ⟨b5, hk⟩ := hk
      refine x_iald hB0.i.i.a60 b5 rfl dX6_undo_74 (n := 75) rfl ?_
      refine x_ishl dX6_undo_75 (n := 76) rfl ?_
      refine x_iconst dX6_undo_76 (n := 77) rfl ic_m1 ?_
      refine x_ixor dX6_undo_77 (n := 78) rfl ?_
      refine x_iand dX6_undo_78 (n := 79) rfl ?_
      have b6 := hk
      refine x_iast hB0.i.i.a40 b6 rfl dX6_undo_79 (n := 80) rfl ?_
      refine x_aload_n dX6_undo_80 (n := 81) rfl rfl 0 rfl ?_
      refine x_geti fl_X6_249_0 rfl hB0.i.i.i.1 ((gIo (by omega)).trans (gIs)) dX6_undo_81 (n := 84) rfl ?_
      exact x_iret rq ⟨(SH.rf (σ := σ0)).i.i.i, hv.symm⟩ dX6_undo_84
    · have hk := hk.2 c3
      have hv := hv.trans (if_neg c3)
      refine x_aload_n dX6_undo_36 (n := 37) rfl rfl 0 rfl ?_
      refine x_dup dX6_undo_37 (n := 38) rfl rfl ?_
      refine x_geti fl_X6_229_0 rfl hB0.i.i.1 ((gIn (by decide)).trans (gIn (by decide))) dX6_undo_38 (n := 41) rfl ?_
      refine x_iconst dX6_undo_41 (n := 42) rfl ic_1 ?_
      refine x_isub dX6_undo_42 (n := 43) rfl ?_
      refine x_puti fp_X6_229_0 rfl hB0.i.i.1 dX6_undo_43 (n := 46) rfl ?_
      refine x_goto (tgt := 80) dX6_undo_46 rfl ?_
      refine x_aload_n dX6_undo_80 (n := 81) rfl rfl 0 rfl ?_
      refine x_geti fl_X6_249_0 rfl hB0.i.i.i.1 ((gIn (by decide)).trans (gIs)) dX6_undo_81 (n := 84) rfl ?_
      exact x_iret rq ⟨(SH.rf (σ := σ0)).i.i.i, hv.symm⟩ dX6_undo_84
  · have hk := hk.1 c1
    have hv := hv.trans (if_pos c1)
    refine x_iconst dX6_undo_12 (n := 13) rfl ic_m1 ?_
    exact x_iret rq ⟨(SH.rf (σ := σ0)).i, hv.symm⟩ dX6_undo_13
abbrev rm_X6_isNote : Room := { frames := 0, cells := 0, slots := 0, locals := 0 }
def f_X6_isNote (o : Nat) (σ : Hp) (x1 : Int32) : Int32 := if x1 < 0 then 0 else if (gI σ o 16) ≤ x1 then 0 else 1
theorem met_X6_isNote (o : Nat) (σ : Hp) (x1 : Int32) (hB : MB o σ) : MetX yX6_isNote cX6_isNote 2 (some .boolean) rm_X6_isNote σ [.ref o, .int x1] (oI (fun r σ' => σ' = σ ∧ r = (f_X6_isNote o σ x1))) 0 0 := by
  refine metX_of (own := RX6) (lvs := [(0, .ref o), (1, .int x1)]) (by decide) rfl (Nat.le_of_ble_eq_true rfl) rfl (fun G rq => ?_)
  have hv : (f_X6_isNote o σ x1) = _ := f_X6_isNote.eq_1 _ _ _
  refine x_iload_n dX6_isNote_0 (n := 1) rfl rfl 1 rfl ?_
  refine x_if_lt (tgt := 16) dX6_isNote_1 rfl (n := 4) rfl (fun c1 => ?_) (fun c1 => ?_)
  · have hv := hv.trans (if_pos c1)
    refine x_iconst dX6_isNote_16 (n := 17) rfl ic_0 ?_
    exact x_zret rq ⟨rfl, hv.symm⟩ isB0 dX6_isNote_17
  · have hv := hv.trans (if_neg c1)
    refine x_iload_n dX6_isNote_4 (n := 5) rfl rfl 1 rfl ?_
    refine x_aload_n dX6_isNote_5 (n := 6) rfl rfl 0 rfl ?_
    refine x_geti fl_X6_229_0 rfl hB.1 rfl dX6_isNote_6 (n := 9) rfl ?_
    refine x_icmp_ge (tgt := 16) dX6_isNote_9 rfl (n := 12) rfl (fun c2 => ?_) (fun c2 => ?_)
    · have hv := hv.trans (if_pos c2)
      refine x_iconst dX6_isNote_16 (n := 17) rfl ic_0 ?_
      exact x_zret rq ⟨rfl, hv.symm⟩ isB0 dX6_isNote_17
    · have hv := hv.trans (if_neg c2)
      refine x_iconst dX6_isNote_12 (n := 13) rfl ic_1 ?_
      refine x_goto (tgt := 17) dX6_isNote_13 rfl ?_
      exact x_zret rq ⟨rfl, hv.symm⟩ isB1 dX6_isNote_17
abbrev rm_X6_canBe : Room := { frames := 3, cells := 0, slots := 0, locals := 81 }
def wj_X6_canBe_270 (o : Nat) (σ : Hp) (x2 : Int32) (x3 : Int32) (x4 : Int32) (Q : Int32 → Hp → Prop)  : Prop := ((f_X6_isOf x4 6) = 0 → Q 1 σ) ∧ (¬ (f_X6_isOf x4 6) = 0 → (vp_in (x3 + 8) 264) ∧ (wp_X6_sumOf o σ (gI σ (o + 16) (x3 + 8).toNatClampNeg) x2.toInt64 (fun r61 s59 => (r61 = 0 → Q 0 s59) ∧ (¬ r61 = 0 → Q 1 s59))))
def wj_X6_canBe_242 (o : Nat) (σ : Hp) (x2 : Int32) (x3 : Int32) (x4 : Int32) (Q : Int32 → Hp → Prop)  : Prop := ((f_X6_isOf x4 1) = 0 → wj_X6_canBe_270 o σ x2 x3 x4 Q) ∧ (¬ (f_X6_isOf x4 1) = 0 → (vp_in (x3 + 3) 264) ∧ (((gL σ o 54) = ((gI σ (o + 16) (x3 + 3).toNatClampNeg).toInt64) → wj_X6_canBe_270 o σ x2 x3 x4 Q) ∧ (¬ (gL σ o 54) = ((gI σ (o + 16) (x3 + 3).toNatClampNeg).toInt64) → Q 0 σ)))
def wj_X6_canBe_171 (o : Nat) (σ : Hp) (x2 : Int32) (x3 : Int32) (x4 : Int32) (Q : Int32 → Hp → Prop)  : Prop := ((x4 &&& 3) = 0 → wj_X6_canBe_270 o σ x2 x3 x4 Q) ∧ (¬ (x4 &&& 3) = 0 → ((gI σ o 12) = 0 → Q 0 σ) ∧ (¬ (gI σ o 12) = 0 → wp_X6_date1 o σ 0 x2.toInt64 (fun r41 s39 => (r41 = 0 → Q 0 s39) ∧ (¬ r41 = 0 → ((f_X6_isOf x4 0) = 0 → wj_X6_canBe_242 o s39 x2 x3 x4 Q) ∧ (¬ (f_X6_isOf x4 0) = 0 → (vp_in (x3 + 1) 264) ∧ (((gL s39 o 53) < ((gI s39 (o + 16) (x3 + 1).toNatClampNeg).toInt64) → Q 0 s39) ∧ (¬ (gL s39 o 53) < ((gI s39 (o + 16) (x3 + 1).toNatClampNeg).toInt64) → (vp_in (x3 + 2) 264) ∧ (((gL s39 o 53) ≤ ((gI s39 (o + 16) (x3 + 2).toNatClampNeg).toInt64) → wj_X6_canBe_242 o s39 x2 x3 x4 Q) ∧ (¬ (gL s39 o 53) ≤ ((gI s39 (o + 16) (x3 + 2).toNatClampNeg).toInt64) → Q 0 s39)))))))))
def wj_X6_canBe_101 (o : Nat) (σ : Hp) (x2 : Int32) (x3 : Int32) (x4 : Int32) (Q : Int32 → Hp → Prop)  : Prop := ((f_X6_isOf x4 5) = 0 → wj_X6_canBe_171 o σ x2 x3 x4 Q) ∧ (¬ (f_X6_isOf x4 5) = 0 → (vp_in (x3 + 7) 264) ∧ ((vp_in (gI σ (o + 16) (x3 + 7).toNatClampNeg) 12) ∧ ((x2.toInt64 < (gL σ (o + 10) (gI σ (o + 16) (x3 + 7).toNatClampNeg).toNatClampNeg) → Q 0 σ) ∧ (¬ x2.toInt64 < (gL σ (o + 10) (gI σ (o + 16) (x3 + 7).toNatClampNeg).toNatClampNeg) → (vp_in (x3 + 7) 264) ∧ ((vp_in (gI σ (o + 16) (x3 + 7).toNatClampNeg) 12) ∧ (((gL σ (o + 11) (gI σ (o + 16) (x3 + 7).toNatClampNeg).toNatClampNeg) < 0 → wj_X6_canBe_171 o σ x2 x3 x4 Q) ∧ (¬ (gL σ (o + 11) (gI σ (o + 16) (x3 + 7).toNatClampNeg).toNatClampNeg) < 0 → (vp_in (x3 + 7) 264) ∧ ((vp_in (gI σ (o + 16) (x3 + 7).toNatClampNeg) 12) ∧ ((x2.toInt64 ≤ (gL σ (o + 11) (gI σ (o + 16) (x3 + 7).toNatClampNeg).toNatClampNeg) → wj_X6_canBe_171 o σ x2 x3 x4 Q) ∧ (¬ x2.toInt64 ≤ (gL σ (o + 11) (gI σ (o + 16) (x3 + 7).toNatClampNeg).toNatClampNeg) → Q 0 σ))))))))))
def wj_X6_canBe_71 (o : Nat) (σ : Hp) (x2 : Int32) (x3 : Int32) (x4 : Int32) (Q : Int32 → Hp → Prop)  : Prop := ((f_X6_isOf x4 4) = 0 → wj_X6_canBe_101 o σ x2 x3 x4 Q) ∧ (¬ (f_X6_isOf x4 4) = 0 → (ok_X6_roundOf o σ x2.toInt64 2) ∧ ((vp_in (x3 + 6) 264) ∧ (((f_X6_roundOf o σ x2.toInt64 2) = (gI σ (o + 16) (x3 + 6).toNatClampNeg) → wj_X6_canBe_101 o σ x2 x3 x4 Q) ∧ (¬ (f_X6_roundOf o σ x2.toInt64 2) = (gI σ (o + 16) (x3 + 6).toNatClampNeg) → Q 0 σ))))
def wj_X6_canBe_42 (o : Nat) (σ : Hp) (x2 : Int32) (x3 : Int32) (x4 : Int32) (Q : Int32 → Hp → Prop)  : Prop := ((f_X6_isOf x4 3) = 0 → wj_X6_canBe_71 o σ x2 x3 x4 Q) ∧ (¬ (f_X6_isOf x4 3) = 0 → (ok_X6_roundOf o σ x2.toInt64 1) ∧ ((vp_in (x3 + 5) 264) ∧ (((f_X6_roundOf o σ x2.toInt64 1) = (gI σ (o + 16) (x3 + 5).toNatClampNeg) → wj_X6_canBe_71 o σ x2 x3 x4 Q) ∧ (¬ (f_X6_roundOf o σ x2.toInt64 1) = (gI σ (o + 16) (x3 + 5).toNatClampNeg) → Q 0 σ))))
def wp_X6_canBe (o : Nat) (σ0 : Hp) (x1 : Int32) (x2 : Int32) (Q : Int32 → Hp → Prop) : Prop := (vp_in (11 * x1) 264) ∧ (∀ v2 : Int32, v2 = gI σ0 (o + 16) (11 * x1).toNatClampNeg → ((f_X6_isOf v2 2) = 0 → wj_X6_canBe_42 o σ0 x2 (11 * x1) v2 Q) ∧ (¬ (f_X6_isOf v2 2) = 0 → (ok_X6_roundOf o σ0 x2.toInt64 0) ∧ ((vp_in ((11 * x1) + 4) 264) ∧ (((f_X6_roundOf o σ0 x2.toInt64 0) = (gI σ0 (o + 16) ((11 * x1) + 4).toNatClampNeg) → wj_X6_canBe_42 o σ0 x2 (11 * x1) v2 Q) ∧ (¬ (f_X6_roundOf o σ0 x2.toInt64 0) = (gI σ0 (o + 16) ((11 * x1) + 4).toNatClampNeg) → Q 0 σ0)))))
theorem xj_X6_canBe_270 (o : Nat) (σ0 : Hp) (Q : Int32 → Hp → Prop) (G : XE) (hB0 : MB o σ0) (rq : RQ G 0 0 (oI (fun r σ' => SH σ0 σ' ∧ Q r σ'))) (σ : Hp) (x2 : Int32) (x3 : Int32) (x4 : Int32)    (hs : SH σ0 σ) (h : wj_X6_canBe_270 o σ x2 x3 x4 Q ) : X G rm_X6_canBe cX6_canBe RX6 5 (some .boolean) σ 0 0 270 [(0, .ref o), (2, .int x2), (3, .int x3), (4, .int x4)] [] := by
  have hs : SH σ0 σ := hs
  have hB := hB0.sh hs
  unfold wj_X6_canBe_270 at h
  refine x_iload dX6_canBe_270 (n := 272) rfl 3 rfl ?_
  refine x_bipush dX6_canBe_272 (n := 274) rfl bp_6 ?_
  refine x_cSip (As := [.int x4, .int 6]) (rest := []) cs_X6_297 (met_X6_isOf σ x4 6 ) (by decide) rfl rfl rfl dX6_canBe_274 (n := 277) rfl (fun r56 q => ?_)
  subst q
  refine x_if_eq (tgt := 300) dX6_canBe_277 rfl (n := 280) rfl (fun c57 => ?_) (fun c57 => ?_)
  · have h := h.1 c57
    refine x_iconst dX6_canBe_300 (n := 301) rfl ic_1 ?_
    refine x_goto (tgt := 305) dX6_canBe_301 rfl ?_
    exact x_zret rq ⟨hs, h⟩ isB1 dX6_canBe_305
  · have h := h.2 c57
    refine x_aload_n dX6_canBe_280 (n := 281) rfl rfl 0 rfl ?_
    refine x_aload_n dX6_canBe_281 (n := 282) rfl rfl 0 rfl ?_
    refine x_getr fl_X6_60_0 rfl hB.1 hB.r40 dX6_canBe_282 (n := 285) rfl ?_
    refine x_iload_n dX6_canBe_285 (n := 286) rfl rfl 2 rfl ?_
    refine x_bipush dX6_canBe_286 (n := 288) rfl bp_8 ?_
    refine x_iadd dX6_canBe_288 (n := 289) rfl ?_
    obtain ⟨b58, h⟩ := h
    refine x_iald hB.a40 b58 rfl dX6_canBe_289 (n := 290) rfl ?_
    refine x_iload_n dX6_canBe_290 (n := 291) rfl rfl 1 rfl ?_
    refine x_i2l dX6_canBe_291 (n := 292) rfl ?_
    refine x_cVlm (As := [.int (gI σ (o + 16) (x3 + 8).toNatClampNeg), .long x2.toInt64]) (rest := []) cv_X6_451 ck0 (met_X6_sumOf o σ (gI σ (o + 16) (x3 + 8).toNatClampNeg) x2.toInt64 _ hB h) hB.1 (by decide) rfl rfl rfl dX6_canBe_292 (n := 295) rfl (fun r61 s59 hs60 h => ?_)
    have hs60t := hs.tr hs60; have hBs59 := hB0.sh hs60t
    refine x_lconst dX6_canBe_295 (n := 296) rfl lc_0 ?_
    refine x_lcmp_eq (tgt := 304) dX6_canBe_296 (pc1 := 297) rfl dX6_canBe_297 rfl (n := 300) rfl (fun c62 => ?_) (fun c62 => ?_)
    · have h := h.1 c62
      refine x_iconst dX6_canBe_304 (n := 305) rfl ic_0 ?_
      exact x_zret rq ⟨hs60t, h⟩ isB0 dX6_canBe_305
    · have h := h.2 c62
      refine x_iconst dX6_canBe_300 (n := 301) rfl ic_1 ?_
      refine x_goto (tgt := 305) dX6_canBe_301 rfl ?_
      exact x_zret rq ⟨hs60t, h⟩ isB1 dX6_canBe_305
theorem xj_X6_canBe_242 (o : Nat) (σ0 : Hp) (Q : Int32 → Hp → Prop) (G : XE) (hB0 : MB o σ0) (rq : RQ G 0 0 (oI (fun r σ' => SH σ0 σ' ∧ Q r σ'))) (σ : Hp) (x2 : Int32) (x3 : Int32) (x4 : Int32)    (hs : SH σ0 σ) (h : wj_X6_canBe_242 o σ x2 x3 x4 Q ) : X G rm_X6_canBe cX6_canBe RX6 5 (some .boolean) σ 0 0 242 [(0, .ref o), (2, .int x2), (3, .int x3), (4, .int x4)] [] := by
  have hs : SH σ0 σ := hs
  have hB := hB0.sh hs
  unfold wj_X6_canBe_242 at h
  refine x_iload dX6_canBe_242 (n := 244) rfl 3 rfl ?_
  refine x_iconst dX6_canBe_244 (n := 245) rfl ic_1 ?_
  refine x_cSip (As := [.int x4, .int 1]) (rest := []) cs_X6_297 (met_X6_isOf σ x4 1 ) (by decide) rfl rfl rfl dX6_canBe_245 (n := 248) rfl (fun r51 q => ?_)
  subst q
  refine x_if_eq (tgt := 270) dX6_canBe_248 rfl (n := 251) rfl (fun c52 => ?_) (fun c52 => ?_)
  · have h := h.1 c52
    exact x_sub [0, 1, 2, 3] rfl (xj_X6_canBe_270 o σ0 Q G hB0 rq σ x2 x3 x4 hs h)
  · have h := h.2 c52
    refine x_aload_n dX6_canBe_251 (n := 252) rfl rfl 0 rfl ?_
    refine x_getl fl_X6_399_0 rfl hB.1 rfl dX6_canBe_252 (n := 255) rfl ?_
    refine x_aload_n dX6_canBe_255 (n := 256) rfl rfl 0 rfl ?_
    refine x_getr fl_X6_60_0 rfl hB.1 hB.r40 dX6_canBe_256 (n := 259) rfl ?_
    refine x_iload_n dX6_canBe_259 (n := 260) rfl rfl 2 rfl ?_
    refine x_iconst dX6_canBe_260 (n := 261) rfl ic_3 ?_
    refine x_iadd dX6_canBe_261 (n := 262) rfl ?_
    obtain ⟨b53, h⟩ := h
    refine x_iald hB.a40 b53 rfl dX6_canBe_262 (n := 263) rfl ?_
    refine x_i2l dX6_canBe_263 (n := 264) rfl ?_
    refine x_lcmp_eq (tgt := 270) dX6_canBe_264 (pc1 := 265) rfl dX6_canBe_265 rfl (n := 268) rfl (fun c54 => ?_) (fun c54 => ?_)
    · have h := h.1 c54
      exact x_sub [0, 1, 2, 3] rfl (xj_X6_canBe_270 o σ0 Q G hB0 rq σ x2 x3 x4 hs h)
    · have h := h.2 c54
      refine x_iconst dX6_canBe_268 (n := 269) rfl ic_0 ?_
      exact x_zret rq ⟨hs, h⟩ isB0 dX6_canBe_269
theorem xj_X6_canBe_171 (o : Nat) (σ0 : Hp) (Q : Int32 → Hp → Prop) (G : XE) (hB0 : MB o σ0) (rq : RQ G 0 0 (oI (fun r σ' => SH σ0 σ' ∧ Q r σ'))) (σ : Hp) (x2 : Int32) (x3 : Int32) (x4 : Int32)    (hs : SH σ0 σ) (h : wj_X6_canBe_171 o σ x2 x3 x4 Q ) : X G rm_X6_canBe cX6_canBe RX6 5 (some .boolean) σ 0 0 171 [(0, .ref o), (2, .int x2), (3, .int x3), (4, .int x4)] [] := by
  have hs : SH σ0 σ := hs
  have hB := hB0.sh hs
  unfold wj_X6_canBe_171 at h
  refine x_iload dX6_canBe_171 (n := 173) rfl 3 rfl ?_
  refine x_iconst dX6_canBe_173 (n := 174) rfl ic_3 ?_
  refine x_iand dX6_canBe_174 (n := 175) rfl ?_
  refine x_if_eq (tgt := 270) dX6_canBe_175 rfl (n := 178) rfl (fun c37 => ?_) (fun c37 => ?_)
  · have h := h.1 c37
    exact x_sub [0, 1, 2, 3] rfl (xj_X6_canBe_270 o σ0 Q G hB0 rq σ x2 x3 x4 hs h)
  · have h := h.2 c37
    refine x_aload_n dX6_canBe_178 (n := 179) rfl rfl 0 rfl ?_
    refine x_geti fl_X6_217_0 rfl hB.1 rfl dX6_canBe_179 (n := 182) rfl ?_
    refine x_if_eq (tgt := 195) dX6_canBe_182 rfl (n := 185) rfl (fun c38 => ?_) (fun c38 => ?_)
    · have h := h.1 c38
      refine x_iconst dX6_canBe_195 (n := 196) rfl ic_0 ?_
      exact x_zret rq ⟨hs, h⟩ isB0 dX6_canBe_196
    · have h := h.2 c38
      refine x_aload_n dX6_canBe_185 (n := 186) rfl rfl 0 rfl ?_
      refine x_iconst dX6_canBe_186 (n := 187) rfl ic_0 ?_
      refine x_iload_n dX6_canBe_187 (n := 188) rfl rfl 1 rfl ?_
      refine x_i2l dX6_canBe_188 (n := 189) rfl ?_
      refine x_cVim (As := [.int 0, .long x2.toInt64]) (rest := []) cv_X6_416 ck0 (met_X6_date1 o σ 0 x2.toInt64 _ hB h) hB.1 (by decide) rfl rfl rfl dX6_canBe_189 (n := 192) rfl (fun r41 s39 hs40 h => ?_)
      have hs40t := hs.tr hs40; have hBs39 := hB0.sh hs40t
      refine x_if_ne (tgt := 197) dX6_canBe_192 rfl (n := 195) rfl (fun c42 => ?_) (fun c42 => ?_)
      · have h := h.2 c42
        refine x_iload dX6_canBe_197 (n := 199) rfl 3 rfl ?_
        refine x_iconst dX6_canBe_199 (n := 200) rfl ic_0 ?_
        refine x_cSip (As := [.int x4, .int 0]) (rest := []) cs_X6_297 (met_X6_isOf s39 x4 0 ) (by decide) rfl rfl rfl dX6_canBe_200 (n := 203) rfl (fun r44 q => ?_)
        subst q
        refine x_if_eq (tgt := 242) dX6_canBe_203 rfl (n := 206) rfl (fun c45 => ?_) (fun c45 => ?_)
        · have h := h.1 c45
          exact x_sub [0, 1, 2, 3] rfl (xj_X6_canBe_242 o σ0 Q G hB0 rq s39 x2 x3 x4 hs40t h)
        · have h := h.2 c45
          refine x_aload_n dX6_canBe_206 (n := 207) rfl rfl 0 rfl ?_
          refine x_getl fl_X6_396_0 rfl hBs39.1 rfl dX6_canBe_207 (n := 210) rfl ?_
          refine x_aload_n dX6_canBe_210 (n := 211) rfl rfl 0 rfl ?_
          refine x_getr fl_X6_60_0 rfl hBs39.1 hBs39.r40 dX6_canBe_211 (n := 214) rfl ?_
          refine x_iload_n dX6_canBe_214 (n := 215) rfl rfl 2 rfl ?_
          refine x_iconst dX6_canBe_215 (n := 216) rfl ic_1 ?_
          refine x_iadd dX6_canBe_216 (n := 217) rfl ?_
          obtain ⟨b46, h⟩ := h
          refine x_iald hBs39.a40 b46 rfl dX6_canBe_217 (n := 218) rfl ?_
          refine x_i2l dX6_canBe_218 (n := 219) rfl ?_
          refine x_lcmp_lt (tgt := 240) dX6_canBe_219 (pc1 := 220) rfl dX6_canBe_220 rfl (n := 223) rfl (fun c47 => ?_) (fun c47 => ?_)
          · have h := h.1 c47
            refine x_iconst dX6_canBe_240 (n := 241) rfl ic_0 ?_
            exact x_zret rq ⟨hs40t, h⟩ isB0 dX6_canBe_241
          · have h := h.2 c47
            refine x_aload_n dX6_canBe_223 (n := 224) rfl rfl 0 rfl ?_
            refine x_getl fl_X6_396_0 rfl hBs39.1 rfl dX6_canBe_224 (n := 227) rfl ?_
            refine x_aload_n dX6_canBe_227 (n := 228) rfl rfl 0 rfl ?_
            refine x_getr fl_X6_60_0 rfl hBs39.1 hBs39.r40 dX6_canBe_228 (n := 231) rfl ?_
            refine x_iload_n dX6_canBe_231 (n := 232) rfl rfl 2 rfl ?_
            refine x_iconst dX6_canBe_232 (n := 233) rfl ic_2 ?_
            refine x_iadd dX6_canBe_233 (n := 234) rfl ?_
            obtain ⟨b48, h⟩ := h
            refine x_iald hBs39.a40 b48 rfl dX6_canBe_234 (n := 235) rfl ?_
            refine x_i2l dX6_canBe_235 (n := 236) rfl ?_
            refine x_lcmp_le (tgt := 242) dX6_canBe_236 (pc1 := 237) rfl dX6_canBe_237 rfl (n := 240) rfl (fun c49 => ?_) (fun c49 => ?_)
            · have h := h.1 c49
              exact x_sub [0, 1, 2, 3] rfl (xj_X6_canBe_242 o σ0 Q G hB0 rq s39 x2 x3 x4 hs40t h)
            · have h := h.2 c49
              refine x_iconst dX6_canBe_240 (n := 241) rfl ic_0 ?_
              exact x_zret rq ⟨hs40t, h⟩ isB0 dX6_canBe_241
      · have h := h.1 c42
        refine x_iconst dX6_canBe_195 (n := 196) rfl ic_0 ?_
        exact x_zret rq ⟨hs40t, h⟩ isB0 dX6_canBe_196
theorem xj_X6_canBe_101 (o : Nat) (σ0 : Hp) (Q : Int32 → Hp → Prop) (G : XE) (hB0 : MB o σ0) (rq : RQ G 0 0 (oI (fun r σ' => SH σ0 σ' ∧ Q r σ'))) (σ : Hp) (x2 : Int32) (x3 : Int32) (x4 : Int32)    (hs : SH σ0 σ) (h : wj_X6_canBe_101 o σ x2 x3 x4 Q ) : X G rm_X6_canBe cX6_canBe RX6 5 (some .boolean) σ 0 0 101 [(0, .ref o), (2, .int x2), (3, .int x3), (4, .int x4)] [] := by
  have hs : SH σ0 σ := hs
  have hB := hB0.sh hs
  unfold wj_X6_canBe_101 at h
  refine x_iload dX6_canBe_101 (n := 103) rfl 3 rfl ?_
  refine x_iconst dX6_canBe_103 (n := 104) rfl ic_5 ?_
  refine x_cSip (As := [.int x4, .int 5]) (rest := []) cs_X6_297 (met_X6_isOf σ x4 5 ) (by decide) rfl rfl rfl dX6_canBe_104 (n := 107) rfl (fun r26 q => ?_)
  subst q
  refine x_if_eq (tgt := 171) dX6_canBe_107 rfl (n := 110) rfl (fun c27 => ?_) (fun c27 => ?_)
  · have h := h.1 c27
    exact x_sub [0, 1, 2, 3] rfl (xj_X6_canBe_171 o σ0 Q G hB0 rq σ x2 x3 x4 hs h)
  · have h := h.2 c27
    refine x_iload_n dX6_canBe_110 (n := 111) rfl rfl 1 rfl ?_
    refine x_i2l dX6_canBe_111 (n := 112) rfl ?_
    refine x_aload_n dX6_canBe_112 (n := 113) rfl rfl 0 rfl ?_
    refine x_getr fl_X6_41_0 rfl hB.1 hB.r34 dX6_canBe_113 (n := 116) rfl ?_
    refine x_aload_n dX6_canBe_116 (n := 117) rfl rfl 0 rfl ?_
    refine x_getr fl_X6_60_0 rfl hB.1 hB.r40 dX6_canBe_117 (n := 120) rfl ?_
    refine x_iload_n dX6_canBe_120 (n := 121) rfl rfl 2 rfl ?_
    refine x_bipush dX6_canBe_121 (n := 123) rfl bp_7 ?_
    refine x_iadd dX6_canBe_123 (n := 124) rfl ?_
    obtain ⟨b28, h⟩ := h
    refine x_iald hB.a40 b28 rfl dX6_canBe_124 (n := 125) rfl ?_
    obtain ⟨b29, h⟩ := h
    refine x_lald hB.a34 b29 rfl dX6_canBe_125 (n := 126) rfl ?_
    refine x_lcmp_lt (tgt := 169) dX6_canBe_126 (pc1 := 127) rfl dX6_canBe_127 rfl (n := 130) rfl (fun c30 => ?_) (fun c30 => ?_)
    · have h := h.1 c30
      refine x_iconst dX6_canBe_169 (n := 170) rfl ic_0 ?_
      exact x_zret rq ⟨hs, h⟩ isB0 dX6_canBe_170
    · have h := h.2 c30
      refine x_aload_n dX6_canBe_130 (n := 131) rfl rfl 0 rfl ?_
      refine x_getr fl_X6_45_0 rfl hB.1 hB.r35 dX6_canBe_131 (n := 134) rfl ?_
      refine x_aload_n dX6_canBe_134 (n := 135) rfl rfl 0 rfl ?_
      refine x_getr fl_X6_60_0 rfl hB.1 hB.r40 dX6_canBe_135 (n := 138) rfl ?_
      refine x_iload_n dX6_canBe_138 (n := 139) rfl rfl 2 rfl ?_
      refine x_bipush dX6_canBe_139 (n := 141) rfl bp_7 ?_
      refine x_iadd dX6_canBe_141 (n := 142) rfl ?_
      obtain ⟨b31, h⟩ := h
      refine x_iald hB.a40 b31 rfl dX6_canBe_142 (n := 143) rfl ?_
      obtain ⟨b32, h⟩ := h
      refine x_lald hB.a35 b32 rfl dX6_canBe_143 (n := 144) rfl ?_
      refine x_lconst dX6_canBe_144 (n := 145) rfl lc_0 ?_
      refine x_lcmp_lt (tgt := 171) dX6_canBe_145 (pc1 := 146) rfl dX6_canBe_146 rfl (n := 149) rfl (fun c33 => ?_) (fun c33 => ?_)
      · have h := h.1 c33
        exact x_sub [0, 1, 2, 3] rfl (xj_X6_canBe_171 o σ0 Q G hB0 rq σ x2 x3 x4 hs h)
      · have h := h.2 c33
        refine x_iload_n dX6_canBe_149 (n := 150) rfl rfl 1 rfl ?_
        refine x_i2l dX6_canBe_150 (n := 151) rfl ?_
        refine x_aload_n dX6_canBe_151 (n := 152) rfl rfl 0 rfl ?_
        refine x_getr fl_X6_45_0 rfl hB.1 hB.r35 dX6_canBe_152 (n := 155) rfl ?_
        refine x_aload_n dX6_canBe_155 (n := 156) rfl rfl 0 rfl ?_
        refine x_getr fl_X6_60_0 rfl hB.1 hB.r40 dX6_canBe_156 (n := 159) rfl ?_
        refine x_iload_n dX6_canBe_159 (n := 160) rfl rfl 2 rfl ?_
        refine x_bipush dX6_canBe_160 (n := 162) rfl bp_7 ?_
        refine x_iadd dX6_canBe_162 (n := 163) rfl ?_
        obtain ⟨b34, h⟩ := h
        refine x_iald hB.a40 b34 rfl dX6_canBe_163 (n := 164) rfl ?_
        obtain ⟨b35, h⟩ := h
        refine x_lald hB.a35 b35 rfl dX6_canBe_164 (n := 165) rfl ?_
        refine x_lcmp_le (tgt := 171) dX6_canBe_165 (pc1 := 166) rfl dX6_canBe_166 rfl (n := 169) rfl (fun c36 => ?_) (fun c36 => ?_)
        · have h := h.1 c36
          exact x_sub [0, 1, 2, 3] rfl (xj_X6_canBe_171 o σ0 Q G hB0 rq σ x2 x3 x4 hs h)
        · have h := h.2 c36
          refine x_iconst dX6_canBe_169 (n := 170) rfl ic_0 ?_
          exact x_zret rq ⟨hs, h⟩ isB0 dX6_canBe_170
theorem xj_X6_canBe_71 (o : Nat) (σ0 : Hp) (Q : Int32 → Hp → Prop) (G : XE) (hB0 : MB o σ0) (rq : RQ G 0 0 (oI (fun r σ' => SH σ0 σ' ∧ Q r σ'))) (σ : Hp) (x2 : Int32) (x3 : Int32) (x4 : Int32)    (hs : SH σ0 σ) (h : wj_X6_canBe_71 o σ x2 x3 x4 Q ) : X G rm_X6_canBe cX6_canBe RX6 5 (some .boolean) σ 0 0 71 [(0, .ref o), (2, .int x2), (3, .int x3), (4, .int x4)] [] := by
  have hs : SH σ0 σ := hs
  have hB := hB0.sh hs
  unfold wj_X6_canBe_71 at h
  refine x_iload dX6_canBe_71 (n := 73) rfl 3 rfl ?_
  refine x_iconst dX6_canBe_73 (n := 74) rfl ic_4 ?_
  refine x_cSip (As := [.int x4, .int 4]) (rest := []) cs_X6_297 (met_X6_isOf σ x4 4 ) (by decide) rfl rfl rfl dX6_canBe_74 (n := 77) rfl (fun r19 q => ?_)
  subst q
  refine x_if_eq (tgt := 101) dX6_canBe_77 rfl (n := 80) rfl (fun c20 => ?_) (fun c20 => ?_)
  · have h := h.1 c20
    exact x_sub [0, 1, 2, 3] rfl (xj_X6_canBe_101 o σ0 Q G hB0 rq σ x2 x3 x4 hs h)
  · have h := h.2 c20
    refine x_aload_n dX6_canBe_80 (n := 81) rfl rfl 0 rfl ?_
    refine x_iload_n dX6_canBe_81 (n := 82) rfl rfl 1 rfl ?_
    refine x_i2l dX6_canBe_82 (n := 83) rfl ?_
    refine x_iconst dX6_canBe_83 (n := 84) rfl ic_2 ?_
    obtain ⟨b21, h⟩ := h
    refine x_cVip (As := [.long x2.toInt64, .int 2]) (rest := []) cv_X6_424 ck0 (met_X6_roundOf o σ x2.toInt64 2 hB b21) hB.1 (by decide) rfl rfl rfl dX6_canBe_84 (n := 87) rfl (fun r22 q => ?_)
    subst q
    refine x_aload_n dX6_canBe_87 (n := 88) rfl rfl 0 rfl ?_
    refine x_getr fl_X6_60_0 rfl hB.1 hB.r40 dX6_canBe_88 (n := 91) rfl ?_
    refine x_iload_n dX6_canBe_91 (n := 92) rfl rfl 2 rfl ?_
    refine x_bipush dX6_canBe_92 (n := 94) rfl bp_6 ?_
    refine x_iadd dX6_canBe_94 (n := 95) rfl ?_
    obtain ⟨b23, h⟩ := h
    refine x_iald hB.a40 b23 rfl dX6_canBe_95 (n := 96) rfl ?_
    refine x_icmp_eq (tgt := 101) dX6_canBe_96 rfl (n := 99) rfl (fun c24 => ?_) (fun c24 => ?_)
    · have h := h.1 c24
      exact x_sub [0, 1, 2, 3] rfl (xj_X6_canBe_101 o σ0 Q G hB0 rq σ x2 x3 x4 hs h)
    · have h := h.2 c24
      refine x_iconst dX6_canBe_99 (n := 100) rfl ic_0 ?_
      exact x_zret rq ⟨hs, h⟩ isB0 dX6_canBe_100
theorem xj_X6_canBe_42 (o : Nat) (σ0 : Hp) (Q : Int32 → Hp → Prop) (G : XE) (hB0 : MB o σ0) (rq : RQ G 0 0 (oI (fun r σ' => SH σ0 σ' ∧ Q r σ'))) (σ : Hp) (x2 : Int32) (x3 : Int32) (x4 : Int32)    (hs : SH σ0 σ) (h : wj_X6_canBe_42 o σ x2 x3 x4 Q ) : X G rm_X6_canBe cX6_canBe RX6 5 (some .boolean) σ 0 0 42 [(0, .ref o), (2, .int x2), (3, .int x3), (4, .int x4)] [] := by
  have hs : SH σ0 σ := hs
  have hB := hB0.sh hs
  unfold wj_X6_canBe_42 at h
  refine x_iload dX6_canBe_42 (n := 44) rfl 3 rfl ?_
  refine x_iconst dX6_canBe_44 (n := 45) rfl ic_3 ?_
  refine x_cSip (As := [.int x4, .int 3]) (rest := []) cs_X6_297 (met_X6_isOf σ x4 3 ) (by decide) rfl rfl rfl dX6_canBe_45 (n := 48) rfl (fun r12 q => ?_)
  subst q
  refine x_if_eq (tgt := 71) dX6_canBe_48 rfl (n := 51) rfl (fun c13 => ?_) (fun c13 => ?_)
  · have h := h.1 c13
    exact x_sub [0, 1, 2, 3] rfl (xj_X6_canBe_71 o σ0 Q G hB0 rq σ x2 x3 x4 hs h)
  · have h := h.2 c13
    refine x_aload_n dX6_canBe_51 (n := 52) rfl rfl 0 rfl ?_
    refine x_iload_n dX6_canBe_52 (n := 53) rfl rfl 1 rfl ?_
    refine x_i2l dX6_canBe_53 (n := 54) rfl ?_
    refine x_iconst dX6_canBe_54 (n := 55) rfl ic_1 ?_
    obtain ⟨b14, h⟩ := h
    refine x_cVip (As := [.long x2.toInt64, .int 1]) (rest := []) cv_X6_424 ck0 (met_X6_roundOf o σ x2.toInt64 1 hB b14) hB.1 (by decide) rfl rfl rfl dX6_canBe_55 (n := 58) rfl (fun r15 q => ?_)
    subst q
    refine x_aload_n dX6_canBe_58 (n := 59) rfl rfl 0 rfl ?_
    refine x_getr fl_X6_60_0 rfl hB.1 hB.r40 dX6_canBe_59 (n := 62) rfl ?_
    refine x_iload_n dX6_canBe_62 (n := 63) rfl rfl 2 rfl ?_
    refine x_iconst dX6_canBe_63 (n := 64) rfl ic_5 ?_
    refine x_iadd dX6_canBe_64 (n := 65) rfl ?_
    obtain ⟨b16, h⟩ := h
    refine x_iald hB.a40 b16 rfl dX6_canBe_65 (n := 66) rfl ?_
    refine x_icmp_eq (tgt := 71) dX6_canBe_66 rfl (n := 69) rfl (fun c17 => ?_) (fun c17 => ?_)
    · have h := h.1 c17
      exact x_sub [0, 1, 2, 3] rfl (xj_X6_canBe_71 o σ0 Q G hB0 rq σ x2 x3 x4 hs h)
    · have h := h.2 c17
      refine x_iconst dX6_canBe_69 (n := 70) rfl ic_0 ?_
      exact x_zret rq ⟨hs, h⟩ isB0 dX6_canBe_70
theorem met_X6_canBe (o : Nat) (σ0 : Hp) (x1 : Int32) (x2 : Int32) (Q : Int32 → Hp → Prop) (hB0 : MB o σ0) (h : wp_X6_canBe o σ0 x1 x2 Q) : MetX yX6_canBe cX6_canBe 5 (some .boolean) rm_X6_canBe σ0 [.ref o, .int x1, .int x2] (oI (fun r σ' => SH σ0 σ' ∧ Q r σ')) 0 0 := by
  refine metX_of (own := RX6) (lvs := [(0, .ref o), (1, .int x1), (2, .int x2)]) (by decide) rfl (Nat.le_of_ble_eq_true rfl) rfl (fun G rq => ?_)
  unfold wp_X6_canBe at h
  refine x_bipush dX6_canBe_0 (n := 2) rfl bp_11 ?_
  refine x_iload_n dX6_canBe_2 (n := 3) rfl rfl 1 rfl ?_
  refine x_imul dX6_canBe_3 (n := 4) rfl ?_
  refine x_istore_n (lvs' := [(3, .int (11 * x1)), (0, .ref o), (1, .int x1), (2, .int x2)]) dX6_canBe_4 (n := 5) rfl rfl (by decide) rfl ?_
  refine x_aload_n dX6_canBe_5 (n := 6) rfl rfl 1 rfl ?_
  refine x_getr fl_X6_60_0 rfl hB0.1 hB0.r40 dX6_canBe_6 (n := 9) rfl ?_
  refine x_iload_n dX6_canBe_9 (n := 10) rfl rfl 0 rfl ?_
  obtain ⟨b1, h⟩ := h
  refine x_iald hB0.a40 b1 rfl dX6_canBe_10 (n := 11) rfl ?_
  refine x_topi (fun v2 e3 => ?_)
  have h := h v2 e3
  refine x_istore (lvs' := [(4, .int v2), (3, .int (11 * x1)), (0, .ref o), (1, .int x1), (2, .int x2)]) dX6_canBe_11 (n := 13) rfl (by decide) rfl ?_
  refine x_iload dX6_canBe_13 (n := 15) rfl 0 rfl ?_
  refine x_iconst dX6_canBe_15 (n := 16) rfl ic_2 ?_
  refine x_cSip (As := [.int v2, .int 2]) (rest := []) cs_X6_297 (met_X6_isOf σ0 v2 2 ) (by decide) rfl rfl rfl dX6_canBe_16 (n := 19) rfl (fun r5 q => ?_)
  subst q
  refine x_if_eq (tgt := 42) dX6_canBe_19 rfl (n := 22) rfl (fun c6 => ?_) (fun c6 => ?_)
  · have h := h.1 c6
    exact x_sub [2, 4, 1, 0] rfl (xj_X6_canBe_42 o σ0 Q G hB0 rq σ0 x2 (11 * x1) v2 (SH.rf (σ := σ0)) h)
  · have h := h.2 c6
    refine x_aload_n dX6_canBe_22 (n := 23) rfl rfl 2 rfl ?_
    refine x_iload_n dX6_canBe_23 (n := 24) rfl rfl 4 rfl ?_
    refine x_i2l dX6_canBe_24 (n := 25) rfl ?_
    refine x_iconst dX6_canBe_25 (n := 26) rfl ic_0 ?_
    obtain ⟨b7, h⟩ := h
    refine x_cVip (As := [.long x2.toInt64, .int 0]) (rest := []) cv_X6_424 ck0 (met_X6_roundOf o σ0 x2.toInt64 0 hB0 b7) hB0.1 (by decide) rfl rfl rfl dX6_canBe_26 (n := 29) rfl (fun r8 q => ?_)
    subst q
    refine x_aload_n dX6_canBe_29 (n := 30) rfl rfl 2 rfl ?_
    refine x_getr fl_X6_60_0 rfl hB0.1 hB0.r40 dX6_canBe_30 (n := 33) rfl ?_
    refine x_iload_n dX6_canBe_33 (n := 34) rfl rfl 1 rfl ?_
    refine x_iconst dX6_canBe_34 (n := 35) rfl ic_4 ?_
    refine x_iadd dX6_canBe_35 (n := 36) rfl ?_
    obtain ⟨b9, h⟩ := h
    refine x_iald hB0.a40 b9 rfl dX6_canBe_36 (n := 37) rfl ?_
    refine x_icmp_eq (tgt := 42) dX6_canBe_37 rfl (n := 40) rfl (fun c10 => ?_) (fun c10 => ?_)
    · have h := h.1 c10
      exact x_sub [2, 4, 1, 0] rfl (xj_X6_canBe_42 o σ0 Q G hB0 rq σ0 x2 (11 * x1) v2 (SH.rf (σ := σ0)) h)
    · have h := h.2 c10
      refine x_iconst dX6_canBe_40 (n := 41) rfl ic_0 ?_
      exact x_zret rq ⟨(SH.rf (σ := σ0)), h⟩ isB0 dX6_canBe_41
abbrev rm_X6_layCan : Room := { frames := 4, cells := 0, slots := 0, locals := 105 }
def lb_X6_layCan_2 (o : Nat) (x1 : Int32) (Q : Hp → Prop)  (K2 : Int32 × Hp → Prop) (z : Int32 × Hp) : Prop := match z with
  | (x2, σ) => (20000 ≤ x2 → Q σ) ∧ (¬ 20000 ≤ x2 → wp_X6_canBe o σ x1 x2 (fun r4 s2 => (vp_in ((20000 * x1) + x2) 240000) ∧ (K2 (x2 + 1, pI s2 (o + 25) ((20000 * x1) + x2).toNatClampNeg (vp_nar .boolean r4)))))
def wp_X6_layCan (o : Nat) (σ0 : Hp) (x1 : Int32) (Q : Hp → Prop) : Prop := lp (lb_X6_layCan_2 o x1 Q) (0, σ0)
theorem xl_X6_layCan_2 (o : Nat) (σ0 : Hp) (Q : Hp → Prop) (G : XE) (hB0 : MB o σ0) (rq : RQ G 0 0 (oV (fun σ' => SH σ0 σ' ∧ Q σ'))) (x1 : Int32)    : ∀ z : Int32 × Hp, SH σ0 z.2 → lp (lb_X6_layCan_2 o x1 Q ) z → X G rm_X6_layCan cX6_layCan RX6 3 none z.2 0 0 2 [(0, .ref o), (1, .int x1), (2, .int z.1)] [] := by
  intro z
  refine fun hs h => lp_X (P := fun z => SH σ0 z.2 → X G rm_X6_layCan cX6_layCan RX6 3 none z.2 0 0 2 [(0, .ref o), (1, .int x1), (2, .int z.1)] []) ?_ h hs
  intro K2 hK2 z h hs
  obtain ⟨x2, σ⟩ := z
  have hs : SH σ0 σ := hs
  have hB := hB0.sh hs
  simp only [lb_X6_layCan_2] at h
  show X G rm_X6_layCan cX6_layCan RX6 3 none σ 0 0 2 [(0, .ref o), (1, .int x1), (2, .int x2)] []
  have hK2 : ∀ z : (Int32 × Hp), SH σ0 z.2 → K2 z → X G rm_X6_layCan cX6_layCan RX6 3 none z.2 0 0 2 [(0, .ref o), (1, .int x1), (2, .int z.1)] [] := fun z hs h => hK2 z h hs
  refine x_iload_n dX6_layCan_2 (n := 3) rfl rfl 2 rfl ?_
  refine x_sipush dX6_layCan_3 (n := 6) rfl sp_20000 ?_
  refine x_icmp_ge (tgt := 33) dX6_layCan_6 rfl (n := 9) rfl (fun c1 => ?_) (fun c1 => ?_)
  · have h := h.1 c1
    exact x_vret rq ⟨hs, h⟩ dX6_layCan_33
  · have h := h.2 c1
    refine x_aload_n dX6_layCan_9 (n := 10) rfl rfl 0 rfl ?_
    refine x_getr fl_X6_88_0 rfl hB.1 hB.r61 dX6_layCan_10 (n := 13) rfl ?_
    refine x_sipush dX6_layCan_13 (n := 16) rfl sp_20000 ?_
    refine x_iload_n dX6_layCan_16 (n := 17) rfl rfl 1 rfl ?_
    refine x_imul dX6_layCan_17 (n := 18) rfl ?_
    refine x_iload_n dX6_layCan_18 (n := 19) rfl rfl 2 rfl ?_
    refine x_iadd dX6_layCan_19 (n := 20) rfl ?_
    refine x_aload_n dX6_layCan_20 (n := 21) rfl rfl 0 rfl ?_
    refine x_iload_n dX6_layCan_21 (n := 22) rfl rfl 1 rfl ?_
    refine x_iload_n dX6_layCan_22 (n := 23) rfl rfl 2 rfl ?_
    refine x_cVim (As := [.int x1, .int x2]) (rest := [.int ((20000 * x1) + x2), .ref (o + 25)]) cv_X6_494 ck0 (met_X6_canBe o σ x1 x2 _ hB h) hB.1 (by decide) rfl rfl rfl dX6_layCan_23 (n := 26) rfl (fun r4 s2 hs3 h => ?_)
    have hs3t := hs.tr hs3; have hBs2 := hB0.sh hs3t
    obtain ⟨b5, h⟩ := h
    refine x_zast hBs2.a61 b5 rfl dX6_layCan_26 (n := 27) rfl ?_
    refine x_iinc (v := x2 + 1) (lvs' := [(2, .int (x2 + 1)), (0, .ref o), (1, .int x1)]) dX6_layCan_27 (n := 30) rfl 2 rfl rfl (by decide) rfl ?_
    refine x_goto (tgt := 2) dX6_layCan_30 rfl ?_
    exact x_sub [1, 2, 0] rfl (hK2 (x2 + 1, pI s2 (o + 25) ((20000 * x1) + x2).toNatClampNeg (vp_nar .boolean r4)) hs3t.i h)
theorem met_X6_layCan (o : Nat) (σ0 : Hp) (x1 : Int32) (Q : Hp → Prop) (hB0 : MB o σ0) (h : wp_X6_layCan o σ0 x1 Q) : MetX yX6_layCan cX6_layCan 3 none rm_X6_layCan σ0 [.ref o, .int x1] (oV (fun σ' => SH σ0 σ' ∧ Q σ')) 0 0 := by
  refine metX_of (own := RX6) (lvs := [(0, .ref o), (1, .int x1)]) (by decide) rfl (Nat.le_of_ble_eq_true rfl) rfl (fun G rq => ?_)
  unfold wp_X6_layCan at h
  refine x_iconst dX6_layCan_0 (n := 1) rfl ic_0 ?_
  refine x_istore_n (lvs' := [(2, .int 0), (0, .ref o), (1, .int x1)]) dX6_layCan_1 (n := 2) rfl rfl (by decide) rfl ?_
  exact x_sub [1, 2, 0] rfl (xl_X6_layCan_2 o σ0 Q G hB0 rq x1 (0, σ0) (SH.rf (σ := σ0)) h)
abbrev rm_X6_told3 : Room := { frames := 0, cells := 0, slots := 0, locals := 0 }
def f_X6_told3 (o : Nat) (σ : Hp) (x1 : Int32) : Int32 := if x1 = 0 then gI σ o 62 else if x1 = 1 then gI σ o 63 else gI σ o 64
theorem met_X6_told3 (o : Nat) (σ : Hp) (x1 : Int32) (hB : MB o σ) : MetX yX6_told3 cX6_told3 2 (some .int) rm_X6_told3 σ [.ref o, .int x1] (oI (fun r σ' => σ' = σ ∧ r = (f_X6_told3 o σ x1))) 0 0 := by
  refine metX_of (own := RX6) (lvs := [(0, .ref o), (1, .int x1)]) (by decide) rfl (Nat.le_of_ble_eq_true rfl) rfl (fun G rq => ?_)
  have hv : (f_X6_told3 o σ x1) = _ := f_X6_told3.eq_1 _ _ _
  refine x_iload_n dX6_told3_0 (n := 1) rfl rfl 1 rfl ?_
  refine x_if_ne (tgt := 11) dX6_told3_1 rfl (n := 4) rfl (fun c1 => ?_) (fun c1 => ?_)
  · have hv := hv.trans (if_neg c1)
    refine x_iload_n dX6_told3_11 (n := 12) rfl rfl 1 rfl ?_
    refine x_iconst dX6_told3_12 (n := 13) rfl ic_1 ?_
    refine x_icmp_ne (tgt := 23) dX6_told3_13 rfl (n := 16) rfl (fun c2 => ?_) (fun c2 => ?_)
    · have hv := hv.trans (if_neg c2)
      refine x_aload_n dX6_told3_23 (n := 24) rfl rfl 0 rfl ?_
      refine x_geti fl_X6_503_0 rfl hB.1 rfl dX6_told3_24 (n := 27) rfl ?_
      exact x_iret rq ⟨rfl, hv.symm⟩ dX6_told3_27
    · have hv := hv.trans (if_pos c2)
      refine x_aload_n dX6_told3_16 (n := 17) rfl rfl 0 rfl ?_
      refine x_geti fl_X6_500_0 rfl hB.1 rfl dX6_told3_17 (n := 20) rfl ?_
      refine x_goto (tgt := 27) dX6_told3_20 rfl ?_
      exact x_iret rq ⟨rfl, hv.symm⟩ dX6_told3_27
  · have hv := hv.trans (if_pos c1)
    refine x_aload_n dX6_told3_4 (n := 5) rfl rfl 0 rfl ?_
    refine x_geti fl_X6_497_0 rfl hB.1 rfl dX6_told3_5 (n := 8) rfl ?_
    refine x_goto (tgt := 27) dX6_told3_8 rfl ?_
    exact x_iret rq ⟨rfl, hv.symm⟩ dX6_told3_27
abbrev rm_X6_alone : Room := { frames := 5, cells := 0, slots := 0, locals := 127 }
def lb_X6_alone_46 (o : Nat) (x1 : Int32) (x2 : Int32) (Q : Int32 → Hp → Prop)  (K46 : Int32 × Hp → Prop) (z : Int32 × Hp) : Prop := match z with
  | (x3, σ) => (20000 ≤ x3 → Q (f_X6_told3 o σ x2) σ) ∧ (¬ 20000 ≤ x3 → (vp_in ((20000 * x1) + x3) 240000) ∧ (((gI σ (o + 25) ((20000 * x1) + x3).toNatClampNeg) = 0 → K46 (x3 + 1, σ)) ∧ (¬ (gI σ (o + 25) ((20000 * x1) + x3).toNatClampNeg) = 0 → (0 ≤ (gI σ o 63) → K46 (x3 + 1, pI (pI σ o 62 ((gI σ o 62) + 1)) o 64 x3)) ∧ (¬ 0 ≤ (gI σ o 63) → K46 (x3 + 1, pI (pI (pI σ o 62 ((gI σ o 62) + 1)) o 63 x3) o 64 x3)))))
def wp_X6_alone (o : Nat) (σ0 : Hp) (x1 : Int32) (x2 : Int32) (Q : Int32 → Hp → Prop) : Prop := ((f_X6_isNote o (pI σ0 o 2 0) x1) = 0 → Q (-1) (pI σ0 o 2 0)) ∧ (¬ (f_X6_isNote o (pI σ0 o 2 0) x1) = 0 → ((f_X6_isIn x2 0 2) = 0 → Q (-1) (pI σ0 o 2 0)) ∧ (¬ (f_X6_isIn x2 0 2) = 0 → wp_X6_layCan o (pI σ0 o 2 0) x1 (fun  s7 => lp (lb_X6_alone_46 o x1 x2 Q) (0, pI (pI (pI s7 o 62 0) o 63 (-1)) o 64 (-1)))))
theorem xl_X6_alone_46 (o : Nat) (σ0 : Hp) (Q : Int32 → Hp → Prop) (G : XE) (hB0 : MB o σ0) (rq : RQ G 0 0 (oI (fun r σ' => SH σ0 σ' ∧ Q r σ'))) (x1 : Int32) (x2 : Int32)    : ∀ z : Int32 × Hp, SH σ0 z.2 → lp (lb_X6_alone_46 o x1 x2 Q ) z → X G rm_X6_alone cX6_alone RX6 4 (some .int) z.2 0 0 46 [(0, .ref o), (1, .int x1), (2, .int x2), (3, .int z.1)] [] := by
  intro z
  refine fun hs h => lp_X (P := fun z => SH σ0 z.2 → X G rm_X6_alone cX6_alone RX6 4 (some .int) z.2 0 0 46 [(0, .ref o), (1, .int x1), (2, .int x2), (3, .int z.1)] []) ?_ h hs
  intro K46 hK46 z h hs
  obtain ⟨x3, σ⟩ := z
  have hs : SH σ0 σ := hs
  have hB := hB0.sh hs
  simp only [lb_X6_alone_46] at h
  show X G rm_X6_alone cX6_alone RX6 4 (some .int) σ 0 0 46 [(0, .ref o), (1, .int x1), (2, .int x2), (3, .int x3)] []
  have hK46 : ∀ z : (Int32 × Hp), SH σ0 z.2 → K46 z → X G rm_X6_alone cX6_alone RX6 4 (some .int) z.2 0 0 46 [(0, .ref o), (1, .int x1), (2, .int x2), (3, .int z.1)] [] := fun z hs h => hK46 z h hs
  refine x_iload_n dX6_alone_46 (n := 47) rfl rfl 3 rfl ?_
  refine x_sipush dX6_alone_47 (n := 50) rfl sp_20000 ?_
  refine x_icmp_ge (tgt := 104) dX6_alone_50 rfl (n := 53) rfl (fun c9 => ?_) (fun c9 => ?_)
  · have h := h.1 c9
    refine x_aload_n dX6_alone_104 (n := 105) rfl rfl 0 rfl ?_
    refine x_iload_n dX6_alone_105 (n := 106) rfl rfl 2 rfl ?_
    refine x_cVip (As := [.int x2]) (rest := []) cv_X6_512 ck0 (met_X6_told3 o σ x2 hB) hB.1 (by decide) rfl rfl rfl dX6_alone_106 (n := 109) rfl (fun r11 q => ?_)
    subst q
    exact x_iret rq ⟨hs, h⟩ dX6_alone_109
  · have h := h.2 c9
    refine x_aload_n dX6_alone_53 (n := 54) rfl rfl 0 rfl ?_
    refine x_getr fl_X6_88_0 rfl hB.1 hB.r61 dX6_alone_54 (n := 57) rfl ?_
    refine x_sipush dX6_alone_57 (n := 60) rfl sp_20000 ?_
    refine x_iload_n dX6_alone_60 (n := 61) rfl rfl 1 rfl ?_
    refine x_imul dX6_alone_61 (n := 62) rfl ?_
    refine x_iload_n dX6_alone_62 (n := 63) rfl rfl 3 rfl ?_
    refine x_iadd dX6_alone_63 (n := 64) rfl ?_
    obtain ⟨b12, h⟩ := h
    refine x_zald hB.a61 b12 rfl dX6_alone_64 (n := 65) rfl ?_
    refine x_if_ne (tgt := 71) dX6_alone_65 rfl (n := 68) rfl (fun c13 => ?_) (fun c13 => ?_)
    · have h := h.2 c13
      refine x_aload_n dX6_alone_71 (n := 72) rfl rfl 0 rfl ?_
      refine x_dup dX6_alone_72 (n := 73) rfl rfl ?_
      refine x_geti fl_X6_497_0 rfl hB.1 rfl dX6_alone_73 (n := 76) rfl ?_
      refine x_iconst dX6_alone_76 (n := 77) rfl ic_1 ?_
      refine x_iadd dX6_alone_77 (n := 78) rfl ?_
      refine x_puti fp_X6_497_0 rfl hB.1 dX6_alone_78 (n := 81) rfl ?_
      refine x_aload_n dX6_alone_81 (n := 82) rfl rfl 0 rfl ?_
      refine x_geti fl_X6_500_0 rfl hB.i.1 (gIn (by decide)) dX6_alone_82 (n := 85) rfl ?_
      refine x_if_ge (tgt := 93) dX6_alone_85 rfl (n := 88) rfl (fun c14 => ?_) (fun c14 => ?_)
      · have h := h.1 c14
        refine x_aload_n dX6_alone_93 (n := 94) rfl rfl 0 rfl ?_
        refine x_iload_n dX6_alone_94 (n := 95) rfl rfl 3 rfl ?_
        refine x_puti fp_X6_503_0 rfl hB.i.1 dX6_alone_95 (n := 98) rfl ?_
        refine x_iinc (v := x3 + 1) (lvs' := [(3, .int (x3 + 1)), (0, .ref o), (1, .int x1), (2, .int x2)]) dX6_alone_98 (n := 101) rfl 3 rfl rfl (by decide) rfl ?_
        refine x_goto (tgt := 46) dX6_alone_101 rfl ?_
        exact x_sub [1, 2, 3, 0] rfl (hK46 (x3 + 1, pI (pI σ o 62 ((gI σ o 62) + 1)) o 64 x3) hs.i.i h)
      · have h := h.2 c14
        refine x_aload_n dX6_alone_88 (n := 89) rfl rfl 0 rfl ?_
        refine x_iload_n dX6_alone_89 (n := 90) rfl rfl 3 rfl ?_
        refine x_puti fp_X6_500_0 rfl hB.i.1 dX6_alone_90 (n := 93) rfl ?_
        refine x_aload_n dX6_alone_93 (n := 94) rfl rfl 0 rfl ?_
        refine x_iload_n dX6_alone_94 (n := 95) rfl rfl 3 rfl ?_
        refine x_puti fp_X6_503_0 rfl hB.i.i.1 dX6_alone_95 (n := 98) rfl ?_
        refine x_iinc (v := x3 + 1) (lvs' := [(3, .int (x3 + 1)), (0, .ref o), (1, .int x1), (2, .int x2)]) dX6_alone_98 (n := 101) rfl 3 rfl rfl (by decide) rfl ?_
        refine x_goto (tgt := 46) dX6_alone_101 rfl ?_
        exact x_sub [1, 2, 3, 0] rfl (hK46 (x3 + 1, pI (pI (pI σ o 62 ((gI σ o 62) + 1)) o 63 x3) o 64 x3) hs.i.i.i h)
    · have h := h.1 c13
      refine x_goto (tgt := 98) dX6_alone_68 rfl ?_
      refine x_iinc (v := x3 + 1) (lvs' := [(3, .int (x3 + 1)), (0, .ref o), (1, .int x1), (2, .int x2)]) dX6_alone_98 (n := 101) rfl 3 rfl rfl (by decide) rfl ?_
      refine x_goto (tgt := 46) dX6_alone_101 rfl ?_
      exact x_sub [1, 2, 3, 0] rfl (hK46 (x3 + 1, σ) hs h)
theorem met_X6_alone (o : Nat) (σ0 : Hp) (x1 : Int32) (x2 : Int32) (Q : Int32 → Hp → Prop) (hB0 : MB o σ0) (h : wp_X6_alone o σ0 x1 x2 Q) : MetX yX6_alone cX6_alone 4 (some .int) rm_X6_alone σ0 [.ref o, .int x1, .int x2] (oI (fun r σ' => SH σ0 σ' ∧ Q r σ')) 0 0 := by
  refine metX_of (own := RX6) (lvs := [(0, .ref o), (1, .int x1), (2, .int x2)]) (by decide) rfl (Nat.le_of_ble_eq_true rfl) rfl (fun G rq => ?_)
  unfold wp_X6_alone at h
  refine x_aload_n dX6_alone_0 (n := 1) rfl rfl 0 rfl ?_
  refine x_iconst dX6_alone_1 (n := 2) rfl ic_0 ?_
  refine x_puti fp_X6_119_0 rfl hB0.1 dX6_alone_2 (n := 5) rfl ?_
  refine x_aload_n dX6_alone_5 (n := 6) rfl rfl 0 rfl ?_
  refine x_iload_n dX6_alone_6 (n := 7) rfl rfl 1 rfl ?_
  refine x_cVip (As := [.int x1]) (rest := []) cv_X6_506 ck0 (met_X6_isNote o (pI σ0 o 2 0) x1 hB0.i) hB0.i.1 (by decide) rfl rfl rfl dX6_alone_7 (n := 10) rfl (fun r2 q => ?_)
  subst q
  refine x_if_eq (tgt := 22) dX6_alone_10 rfl (n := 13) rfl (fun c3 => ?_) (fun c3 => ?_)
  · have h := h.1 c3
    refine x_iconst dX6_alone_22 (n := 23) rfl ic_m1 ?_
    exact x_iret rq ⟨(SH.rf (σ := σ0)).i, h⟩ dX6_alone_23
  · have h := h.2 c3
    refine x_iload_n dX6_alone_13 (n := 14) rfl rfl 2 rfl ?_
    refine x_iconst dX6_alone_14 (n := 15) rfl ic_0 ?_
    refine x_iconst dX6_alone_15 (n := 16) rfl ic_2 ?_
    refine x_cSip (As := [.int x2, .int 0, .int 2]) (rest := []) cs_X6_166 (met_X6_isIn (pI σ0 o 2 0) x2 0 2 ) (by decide) rfl rfl rfl dX6_alone_16 (n := 19) rfl (fun r5 q => ?_)
    subst q
    refine x_if_ne (tgt := 24) dX6_alone_19 rfl (n := 22) rfl (fun c6 => ?_) (fun c6 => ?_)
    · have h := h.2 c6
      refine x_aload_n dX6_alone_24 (n := 25) rfl rfl 0 rfl ?_
      refine x_iload_n dX6_alone_25 (n := 26) rfl rfl 1 rfl ?_
      refine x_cVvm (As := [.int x1]) (rest := []) cv_X6_509 ck0 (met_X6_layCan o (pI σ0 o 2 0) x1 _ hB0.i h) hB0.i.1 (by decide) rfl rfl rfl dX6_alone_26 (n := 29) rfl (fun  s7 hs8 h => ?_)
      have hs8t := (SH.rf (σ := σ0)).i.tr hs8; have hBs7 := hB0.sh hs8t
      refine x_aload_n dX6_alone_29 (n := 30) rfl rfl 0 rfl ?_
      refine x_iconst dX6_alone_30 (n := 31) rfl ic_0 ?_
      refine x_puti fp_X6_497_0 rfl hBs7.1 dX6_alone_31 (n := 34) rfl ?_
      refine x_aload_n dX6_alone_34 (n := 35) rfl rfl 0 rfl ?_
      refine x_iconst dX6_alone_35 (n := 36) rfl ic_m1 ?_
      refine x_puti fp_X6_500_0 rfl hBs7.i.1 dX6_alone_36 (n := 39) rfl ?_
      refine x_aload_n dX6_alone_39 (n := 40) rfl rfl 0 rfl ?_
      refine x_iconst dX6_alone_40 (n := 41) rfl ic_m1 ?_
      refine x_puti fp_X6_503_0 rfl hBs7.i.i.1 dX6_alone_41 (n := 44) rfl ?_
      refine x_iconst dX6_alone_44 (n := 45) rfl ic_0 ?_
      refine x_istore_n (lvs' := [(3, .int 0), (0, .ref o), (1, .int x1), (2, .int x2)]) dX6_alone_45 (n := 46) rfl rfl (by decide) rfl ?_
      exact x_sub [1, 2, 3, 0] rfl (xl_X6_alone_46 o σ0 Q G hB0 rq x1 x2 (0, pI (pI (pI s7 o 62 0) o 63 (-1)) o 64 (-1)) hs8t.i.i.i h)
    · have h := h.1 c6
      refine x_iconst dX6_alone_22 (n := 23) rfl ic_m1 ?_
      exact x_iret rq ⟨(SH.rf (σ := σ0)).i, h⟩ dX6_alone_23
abbrev rm_X6_allNotes : Room := { frames := 0, cells := 0, slots := 0, locals := 0 }
def f_X6_allNotes (o : Nat) (σ : Hp) : Int32 := (1 <<< ((gI σ o 16) &&& 31)) - 1
theorem met_X6_allNotes (o : Nat) (σ : Hp) (hB : MB o σ) : MetX yX6_allNotes cX6_allNotes 1 (some .int) rm_X6_allNotes σ [.ref o] (oI (fun r σ' => σ' = σ ∧ r = (f_X6_allNotes o σ))) 0 0 := by
  refine metX_of (own := RX6) (lvs := [(0, .ref o)]) (by decide) rfl (Nat.le_of_ble_eq_true rfl) rfl (fun G rq => ?_)
  have hv : (f_X6_allNotes o σ) = _ := f_X6_allNotes.eq_1 _ _
  refine x_iconst dX6_allNotes_0 (n := 1) rfl ic_1 ?_
  refine x_aload_n dX6_allNotes_1 (n := 2) rfl rfl 0 rfl ?_
  refine x_geti fl_X6_229_0 rfl hB.1 rfl dX6_allNotes_2 (n := 5) rfl ?_
  refine x_ishl dX6_allNotes_5 (n := 6) rfl ?_
  refine x_iconst dX6_allNotes_6 (n := 7) rfl ic_1 ?_
  refine x_isub dX6_allNotes_7 (n := 8) rfl ?_
  exact x_iret rq ⟨rfl, hv.symm⟩ dX6_allNotes_8
abbrev rm_X6_layAllCan : Room := { frames := 5, cells := 0, slots := 0, locals := 127 }
def lb_X6_layAllCan_2 (o : Nat)  (Q : Hp → Prop)  (K2 : Int32 × Hp → Prop) (z : Int32 × Hp) : Prop := match z with
  | (x1, σ) => ((gI σ o 16) ≤ x1 → Q σ) ∧ (¬ (gI σ o 16) ≤ x1 → wp_X6_layCan o σ x1 (fun  s2 => K2 (x1 + 1, s2)))
def wp_X6_layAllCan (o : Nat) (σ0 : Hp) (Q : Hp → Prop) : Prop := lp (lb_X6_layAllCan_2 o Q) (0, σ0)
theorem xl_X6_layAllCan_2 (o : Nat) (σ0 : Hp) (Q : Hp → Prop) (G : XE) (hB0 : MB o σ0) (rq : RQ G 0 0 (oV (fun σ' => SH σ0 σ' ∧ Q σ')))     : ∀ z : Int32 × Hp, SH σ0 z.2 → lp (lb_X6_layAllCan_2 o  Q ) z → X G rm_X6_layAllCan cX6_layAllCan RX6 2 none z.2 0 0 2 [(0, .ref o), (1, .int z.1)] [] := by
  intro z
  refine fun hs h => lp_X (P := fun z => SH σ0 z.2 → X G rm_X6_layAllCan cX6_layAllCan RX6 2 none z.2 0 0 2 [(0, .ref o), (1, .int z.1)] []) ?_ h hs
  intro K2 hK2 z h hs
  obtain ⟨x1, σ⟩ := z
  have hs : SH σ0 σ := hs
  have hB := hB0.sh hs
  simp only [lb_X6_layAllCan_2] at h
  show X G rm_X6_layAllCan cX6_layAllCan RX6 2 none σ 0 0 2 [(0, .ref o), (1, .int x1)] []
  have hK2 : ∀ z : (Int32 × Hp), SH σ0 z.2 → K2 z → X G rm_X6_layAllCan cX6_layAllCan RX6 2 none z.2 0 0 2 [(0, .ref o), (1, .int z.1)] [] := fun z hs h => hK2 z h hs
  refine x_iload_n dX6_layAllCan_2 (n := 3) rfl rfl 1 rfl ?_
  refine x_aload_n dX6_layAllCan_3 (n := 4) rfl rfl 0 rfl ?_
  refine x_geti fl_X6_229_0 rfl hB.1 rfl dX6_layAllCan_4 (n := 7) rfl ?_
  refine x_icmp_ge (tgt := 21) dX6_layAllCan_7 rfl (n := 10) rfl (fun c1 => ?_) (fun c1 => ?_)
  · have h := h.1 c1
    exact x_vret rq ⟨hs, h⟩ dX6_layAllCan_21
  · have h := h.2 c1
    refine x_aload_n dX6_layAllCan_10 (n := 11) rfl rfl 0 rfl ?_
    refine x_iload_n dX6_layAllCan_11 (n := 12) rfl rfl 1 rfl ?_
    refine x_cVvm (As := [.int x1]) (rest := []) cv_X6_509 ck0 (met_X6_layCan o σ x1 _ hB h) hB.1 (by decide) rfl rfl rfl dX6_layAllCan_12 (n := 15) rfl (fun  s2 hs3 h => ?_)
    have hs3t := hs.tr hs3; have hBs2 := hB0.sh hs3t
    refine x_iinc (v := x1 + 1) (lvs' := [(1, .int (x1 + 1)), (0, .ref o)]) dX6_layAllCan_15 (n := 18) rfl 1 rfl rfl (by decide) rfl ?_
    refine x_goto (tgt := 2) dX6_layAllCan_18 rfl ?_
    exact x_sub [1, 0] rfl (hK2 (x1 + 1, s2) hs3t h)
theorem met_X6_layAllCan (o : Nat) (σ0 : Hp) (Q : Hp → Prop) (hB0 : MB o σ0) (h : wp_X6_layAllCan o σ0 Q) : MetX yX6_layAllCan cX6_layAllCan 2 none rm_X6_layAllCan σ0 [.ref o] (oV (fun σ' => SH σ0 σ' ∧ Q σ')) 0 0 := by
  refine metX_of (own := RX6) (lvs := [(0, .ref o)]) (by decide) rfl (Nat.le_of_ble_eq_true rfl) rfl (fun G rq => ?_)
  unfold wp_X6_layAllCan at h
  refine x_iconst dX6_layAllCan_0 (n := 1) rfl ic_0 ?_
  refine x_istore_n (lvs' := [(1, .int 0), (0, .ref o)]) dX6_layAllCan_1 (n := 2) rfl rfl (by decide) rfl ?_
  exact x_sub [1, 0] rfl (xl_X6_layAllCan_2 o σ0 Q G hB0 rq (0, σ0) (SH.rf (σ := σ0)) h)
abbrev rm_X6_allCan : Room := { frames := 1, cells := 0, slots := 0, locals := 21 }
def lb_X6_allCan_3 (o : Nat) (σ : Hp) (x1 : Int32) (x2 : Int32) (x3 : Int32) (Q : Int32 → Prop)  (K3 : Int32 → Prop) (x4 : Int32) : Prop := ((gI σ o 16) ≤ x4 → Q 1) ∧ (¬ (gI σ o 16) ≤ x4 → ((f_X6_isOf x1 x4) = 0 → K3 (x4 + 1)) ∧ (¬ (f_X6_isOf x1 x4) = 0 → (vp_in x4 12) ∧ (((gI σ (o + 26) x4.toNatClampNeg) = x2 → (vp_in x4 12) ∧ (∀ v8 : Int32, v8 = x3 + (gI σ (o + 27) x4.toNatClampNeg) → (v8 < 0 → Q 0) ∧ (¬ v8 < 0 → (19999 < v8 → Q 0) ∧ (¬ 19999 < v8 → (vp_in ((20000 * x4) + v8) 240000) ∧ (((gI σ (o + 25) ((20000 * x4) + v8).toNatClampNeg) = 0 → Q 0) ∧ (¬ (gI σ (o + 25) ((20000 * x4) + v8).toNatClampNeg) = 0 → K3 (x4 + 1))))))) ∧ (¬ (gI σ (o + 26) x4.toNatClampNeg) = x2 → K3 (x4 + 1)))))
def wp_X6_allCan (o : Nat) (σ : Hp) (x1 : Int32) (x2 : Int32) (x3 : Int32) (Q : Int32 → Prop) : Prop := lp (lb_X6_allCan_3 o σ x1 x2 x3 Q) 0
theorem xl_X6_allCan_3 (o : Nat) (σ : Hp) (Q : Int32 → Prop) (G : XE) (hB : MB o σ) (rq : RQ G 0 0 (oI (fun r σ' => σ' = σ ∧ Q r))) (x1 : Int32) (x2 : Int32) (x3 : Int32)    : ∀ z : Int32, lp (lb_X6_allCan_3 o σ x1 x2 x3 Q ) z → X G rm_X6_allCan cX6_allCan RX6 6 (some .boolean) σ 0 0 3 [(0, .ref o), (1, .int x1), (2, .int x2), (3, .int x3), (4, .int z)] [] := by
  intro z
  refine fun h => lp_X (P := fun z => X G rm_X6_allCan cX6_allCan RX6 6 (some .boolean) σ 0 0 3 [(0, .ref o), (1, .int x1), (2, .int x2), (3, .int x3), (4, .int z)] []) ?_ h
  intro K3 hK3 x4 h
  simp only [lb_X6_allCan_3] at h
  show X G rm_X6_allCan cX6_allCan RX6 6 (some .boolean) σ 0 0 3 [(0, .ref o), (1, .int x1), (2, .int x2), (3, .int x3), (4, .int x4)] []
  have hK3 : ∀ z : (Int32), K3 z → X G rm_X6_allCan cX6_allCan RX6 6 (some .boolean) σ 0 0 3 [(0, .ref o), (1, .int x1), (2, .int x2), (3, .int x3), (4, .int z)] [] := fun z h => hK3 z h
  refine x_iload dX6_allCan_3 (n := 5) rfl 4 rfl ?_
  refine x_aload_n dX6_allCan_5 (n := 6) rfl rfl 0 rfl ?_
  refine x_geti fl_X6_229_0 rfl hB.1 rfl dX6_allCan_6 (n := 9) rfl ?_
  refine x_icmp_ge (tgt := 84) dX6_allCan_9 rfl (n := 12) rfl (fun c1 => ?_) (fun c1 => ?_)
  · have h := h.1 c1
    refine x_iconst dX6_allCan_84 (n := 85) rfl ic_1 ?_
    exact x_zret rq ⟨rfl, h⟩ isB1 dX6_allCan_85
  · have h := h.2 c1
    refine x_iload_n dX6_allCan_12 (n := 13) rfl rfl 1 rfl ?_
    refine x_iload dX6_allCan_13 (n := 15) rfl 4 rfl ?_
    refine x_cSip (As := [.int x1, .int x4]) (rest := []) cs_X6_297 (met_X6_isOf σ x1 x4 ) (by decide) rfl rfl rfl dX6_allCan_15 (n := 18) rfl (fun r3 q => ?_)
    subst q
    refine x_if_eq (tgt := 78) dX6_allCan_18 rfl (n := 21) rfl (fun c4 => ?_) (fun c4 => ?_)
    · have h := h.1 c4
      refine x_iinc (v := x4 + 1) (lvs' := [(4, .int (x4 + 1)), (0, .ref o), (1, .int x1), (2, .int x2), (3, .int x3)]) dX6_allCan_78 (n := 81) rfl 4 rfl rfl (by decide) rfl ?_
      refine x_goto (tgt := 3) dX6_allCan_81 rfl ?_
      exact x_sub [1, 2, 3, 4, 0] rfl (hK3 (x4 + 1) h)
    · have h := h.2 c4
      refine x_aload_n dX6_allCan_21 (n := 22) rfl rfl 0 rfl ?_
      refine x_getr fl_X6_92_0 rfl hB.1 hB.r65 dX6_allCan_22 (n := 25) rfl ?_
      refine x_iload dX6_allCan_25 (n := 27) rfl 4 rfl ?_
      obtain ⟨b5, h⟩ := h
      refine x_iald hB.a65 b5 rfl dX6_allCan_27 (n := 28) rfl ?_
      refine x_iload_n dX6_allCan_28 (n := 29) rfl rfl 2 rfl ?_
      refine x_icmp_eq (tgt := 35) dX6_allCan_29 rfl (n := 32) rfl (fun c6 => ?_) (fun c6 => ?_)
      · have h := h.1 c6
        refine x_iload_n dX6_allCan_35 (n := 36) rfl rfl 3 rfl ?_
        refine x_aload_n dX6_allCan_36 (n := 37) rfl rfl 0 rfl ?_
        refine x_getr fl_X6_95_0 rfl hB.1 hB.r66 dX6_allCan_37 (n := 40) rfl ?_
        refine x_iload dX6_allCan_40 (n := 42) rfl 4 rfl ?_
        obtain ⟨b7, h⟩ := h
        refine x_iald hB.a66 b7 rfl dX6_allCan_42 (n := 43) rfl ?_
        refine x_iadd dX6_allCan_43 (n := 44) rfl ?_
        refine x_topi (fun v8 e9 => ?_)
        have h := h v8 e9
        refine x_istore (lvs' := [(5, .int v8), (0, .ref o), (1, .int x1), (2, .int x2), (3, .int x3), (4, .int x4)]) dX6_allCan_44 (n := 46) rfl (by decide) rfl ?_
        refine x_iload dX6_allCan_46 (n := 48) rfl 0 rfl ?_
        refine x_if_lt (tgt := 76) dX6_allCan_48 rfl (n := 51) rfl (fun c10 => ?_) (fun c10 => ?_)
        · have h := h.1 c10
          refine x_iconst dX6_allCan_76 (n := 77) rfl ic_0 ?_
          exact x_zret rq ⟨rfl, h⟩ isB0 dX6_allCan_77
        · have h := h.2 c10
          refine x_iload dX6_allCan_51 (n := 53) rfl 0 rfl ?_
          refine x_sipush dX6_allCan_53 (n := 56) rfl sp_19999 ?_
          refine x_icmp_gt (tgt := 76) dX6_allCan_56 rfl (n := 59) rfl (fun c11 => ?_) (fun c11 => ?_)
          · have h := h.1 c11
            refine x_iconst dX6_allCan_76 (n := 77) rfl ic_0 ?_
            exact x_zret rq ⟨rfl, h⟩ isB0 dX6_allCan_77
          · have h := h.2 c11
            refine x_aload_n dX6_allCan_59 (n := 60) rfl rfl 1 rfl ?_
            refine x_getr fl_X6_88_0 rfl hB.1 hB.r61 dX6_allCan_60 (n := 63) rfl ?_
            refine x_sipush dX6_allCan_63 (n := 66) rfl sp_20000 ?_
            refine x_iload dX6_allCan_66 (n := 68) rfl 5 rfl ?_
            refine x_imul dX6_allCan_68 (n := 69) rfl ?_
            refine x_iload dX6_allCan_69 (n := 71) rfl 0 rfl ?_
            refine x_iadd dX6_allCan_71 (n := 72) rfl ?_
            obtain ⟨b12, h⟩ := h
            refine x_zald hB.a61 b12 rfl dX6_allCan_72 (n := 73) rfl ?_
            refine x_if_ne (tgt := 78) dX6_allCan_73 rfl (n := 76) rfl (fun c13 => ?_) (fun c13 => ?_)
            · have h := h.2 c13
              refine x_iinc (v := x4 + 1) (lvs' := [(4, .int (x4 + 1)), (5, .int v8), (0, .ref o), (1, .int x1), (2, .int x2), (3, .int x3)]) dX6_allCan_78 (n := 81) rfl 5 rfl rfl (by decide) rfl ?_
              refine x_goto (tgt := 3) dX6_allCan_81 rfl ?_
              exact x_sub [2, 3, 4, 5, 0] rfl (hK3 (x4 + 1) h)
            · have h := h.1 c13
              refine x_iconst dX6_allCan_76 (n := 77) rfl ic_0 ?_
              exact x_zret rq ⟨rfl, h⟩ isB0 dX6_allCan_77
      · have h := h.2 c6
        refine x_goto (tgt := 78) dX6_allCan_32 rfl ?_
        refine x_iinc (v := x4 + 1) (lvs' := [(4, .int (x4 + 1)), (0, .ref o), (1, .int x1), (2, .int x2), (3, .int x3)]) dX6_allCan_78 (n := 81) rfl 4 rfl rfl (by decide) rfl ?_
        refine x_goto (tgt := 3) dX6_allCan_81 rfl ?_
        exact x_sub [1, 2, 3, 4, 0] rfl (hK3 (x4 + 1) h)
theorem met_X6_allCan (o : Nat) (σ : Hp) (x1 : Int32) (x2 : Int32) (x3 : Int32) (Q : Int32 → Prop) (hB : MB o σ) (h : wp_X6_allCan o σ x1 x2 x3 Q) : MetX yX6_allCan cX6_allCan 6 (some .boolean) rm_X6_allCan σ [.ref o, .int x1, .int x2, .int x3] (oI (fun r σ' => σ' = σ ∧ Q r)) 0 0 := by
  refine metX_of (own := RX6) (lvs := [(0, .ref o), (1, .int x1), (2, .int x2), (3, .int x3)]) (by decide) rfl (Nat.le_of_ble_eq_true rfl) rfl (fun G rq => ?_)
  unfold wp_X6_allCan at h
  refine x_iconst dX6_allCan_0 (n := 1) rfl ic_0 ?_
  refine x_istore (lvs' := [(4, .int 0), (0, .ref o), (1, .int x1), (2, .int x2), (3, .int x3)]) dX6_allCan_1 (n := 3) rfl (by decide) rfl ?_
  exact x_sub [1, 2, 3, 4, 0] rfl (xl_X6_allCan_3 o σ Q G hB rq x1 x2 x3 0 h)
abbrev rm_X6_layRoot : Room := { frames := 2, cells := 0, slots := 0, locals := 46 }
def wj_X6_layRoot_37 (o : Nat) (σ : Hp) (x1 : Int32) (x2 : Int32) (x3 : Int32) (x4 : Int32) (Q : Hp → Prop) (K18 : (Int32 × Hp) → Prop) : Prop := wp_X6_allCan o σ x1 x2 x4 (fun r4 => (r4 = 0 → K18 (x4 + 1, σ)) ∧ (¬ r4 = 0 → (0 ≤ (gI σ o 63) → K18 (x4 + 1, pI (pI σ o 62 ((gI σ o 62) + 1)) o 64 x4)) ∧ (¬ 0 ≤ (gI σ o 63) → K18 (x4 + 1, pI (pI (pI σ o 62 ((gI σ o 62) + 1)) o 63 x4) o 64 x4))))
def lb_X6_layRoot_18 (o : Nat) (x1 : Int32) (x2 : Int32) (x3 : Int32) (Q : Hp → Prop)  (K18 : Int32 × Hp → Prop) (z : Int32 × Hp) : Prop := match z with
  | (x4, σ) => (20000 ≤ x4 → Q σ) ∧ (¬ 20000 ≤ x4 → (x3 = 0 → wj_X6_layRoot_37 o σ x1 x2 x3 x4 Q K18) ∧ (¬ x3 = 0 → (0 < (gI σ o 62) → Q σ) ∧ (¬ 0 < (gI σ o 62) → wj_X6_layRoot_37 o σ x1 x2 x3 x4 Q K18)))
def wp_X6_layRoot (o : Nat) (σ0 : Hp) (x1 : Int32) (x2 : Int32) (x3 : Int32) (Q : Hp → Prop) : Prop := lp (lb_X6_layRoot_18 o x1 x2 x3 Q) (0, pI (pI (pI σ0 o 62 0) o 63 (-1)) o 64 (-1))
theorem xj_X6_layRoot_37 (o : Nat) (σ0 : Hp) (Q : Hp → Prop) (G : XE) (hB0 : MB o σ0) (rq : RQ G 0 0 (oV (fun σ' => SH σ0 σ' ∧ Q σ'))) (σ : Hp) (x1 : Int32) (x2 : Int32) (x3 : Int32) (x4 : Int32)  (K18 : (Int32 × Hp) → Prop) (hK18 : ∀ z : (Int32 × Hp), SH σ0 z.2 → K18 z → X G rm_X6_layRoot cX6_layRoot RX6 5 none z.2 0 0 18 [(0, .ref o), (1, .int x1), (2, .int x2), (3, .int x3), (4, .int z.1)] []) (hs : SH σ0 σ) (h : wj_X6_layRoot_37 o σ x1 x2 x3 x4 Q K18) : X G rm_X6_layRoot cX6_layRoot RX6 5 none σ 0 0 37 [(0, .ref o), (1, .int x1), (2, .int x2), (3, .int x3), (4, .int x4)] [] := by
  have hs : SH σ0 σ := hs
  have hB := hB0.sh hs
  unfold wj_X6_layRoot_37 at h
  refine x_aload_n dX6_layRoot_37 (n := 38) rfl rfl 0 rfl ?_
  refine x_iload_n dX6_layRoot_38 (n := 39) rfl rfl 1 rfl ?_
  refine x_iload_n dX6_layRoot_39 (n := 40) rfl rfl 2 rfl ?_
  refine x_iload dX6_layRoot_40 (n := 42) rfl 4 rfl ?_
  refine x_cVip (As := [.int x1, .int x2, .int x4]) (rest := []) cv_X6_515 ck0 (met_X6_allCan o σ x1 x2 x4 _ hB h) hB.1 (by decide) rfl rfl rfl dX6_layRoot_42 (n := 45) rfl (fun r4 h => ?_)
  refine x_if_ne (tgt := 51) dX6_layRoot_45 rfl (n := 48) rfl (fun c5 => ?_) (fun c5 => ?_)
  · have h := h.2 c5
    refine x_aload_n dX6_layRoot_51 (n := 52) rfl rfl 0 rfl ?_
    refine x_dup dX6_layRoot_52 (n := 53) rfl rfl ?_
    refine x_geti fl_X6_497_0 rfl hB.1 rfl dX6_layRoot_53 (n := 56) rfl ?_
    refine x_iconst dX6_layRoot_56 (n := 57) rfl ic_1 ?_
    refine x_iadd dX6_layRoot_57 (n := 58) rfl ?_
    refine x_puti fp_X6_497_0 rfl hB.1 dX6_layRoot_58 (n := 61) rfl ?_
    refine x_aload_n dX6_layRoot_61 (n := 62) rfl rfl 0 rfl ?_
    refine x_geti fl_X6_500_0 rfl hB.i.1 (gIn (by decide)) dX6_layRoot_62 (n := 65) rfl ?_
    refine x_if_ge (tgt := 74) dX6_layRoot_65 rfl (n := 68) rfl (fun c6 => ?_) (fun c6 => ?_)
    · have h := h.1 c6
      refine x_aload_n dX6_layRoot_74 (n := 75) rfl rfl 0 rfl ?_
      refine x_iload dX6_layRoot_75 (n := 77) rfl 4 rfl ?_
      refine x_puti fp_X6_503_0 rfl hB.i.1 dX6_layRoot_77 (n := 80) rfl ?_
      refine x_iinc (v := x4 + 1) (lvs' := [(4, .int (x4 + 1)), (0, .ref o), (1, .int x1), (2, .int x2), (3, .int x3)]) dX6_layRoot_80 (n := 83) rfl 4 rfl rfl (by decide) rfl ?_
      refine x_goto (tgt := 18) dX6_layRoot_83 rfl ?_
      exact x_sub [1, 2, 3, 4, 0] rfl (hK18 (x4 + 1, pI (pI σ o 62 ((gI σ o 62) + 1)) o 64 x4) hs.i.i h)
    · have h := h.2 c6
      refine x_aload_n dX6_layRoot_68 (n := 69) rfl rfl 0 rfl ?_
      refine x_iload dX6_layRoot_69 (n := 71) rfl 4 rfl ?_
      refine x_puti fp_X6_500_0 rfl hB.i.1 dX6_layRoot_71 (n := 74) rfl ?_
      refine x_aload_n dX6_layRoot_74 (n := 75) rfl rfl 0 rfl ?_
      refine x_iload dX6_layRoot_75 (n := 77) rfl 4 rfl ?_
      refine x_puti fp_X6_503_0 rfl hB.i.i.1 dX6_layRoot_77 (n := 80) rfl ?_
      refine x_iinc (v := x4 + 1) (lvs' := [(4, .int (x4 + 1)), (0, .ref o), (1, .int x1), (2, .int x2), (3, .int x3)]) dX6_layRoot_80 (n := 83) rfl 4 rfl rfl (by decide) rfl ?_
      refine x_goto (tgt := 18) dX6_layRoot_83 rfl ?_
      exact x_sub [1, 2, 3, 4, 0] rfl (hK18 (x4 + 1, pI (pI (pI σ o 62 ((gI σ o 62) + 1)) o 63 x4) o 64 x4) hs.i.i.i h)
  · have h := h.1 c5
    refine x_goto (tgt := 80) dX6_layRoot_48 rfl ?_
    refine x_iinc (v := x4 + 1) (lvs' := [(4, .int (x4 + 1)), (0, .ref o), (1, .int x1), (2, .int x2), (3, .int x3)]) dX6_layRoot_80 (n := 83) rfl 4 rfl rfl (by decide) rfl ?_
    refine x_goto (tgt := 18) dX6_layRoot_83 rfl ?_
    exact x_sub [1, 2, 3, 4, 0] rfl (hK18 (x4 + 1, σ) hs h)
theorem xl_X6_layRoot_18 (o : Nat) (σ0 : Hp) (Q : Hp → Prop) (G : XE) (hB0 : MB o σ0) (rq : RQ G 0 0 (oV (fun σ' => SH σ0 σ' ∧ Q σ'))) (x1 : Int32) (x2 : Int32) (x3 : Int32)    : ∀ z : Int32 × Hp, SH σ0 z.2 → lp (lb_X6_layRoot_18 o x1 x2 x3 Q ) z → X G rm_X6_layRoot cX6_layRoot RX6 5 none z.2 0 0 18 [(0, .ref o), (1, .int x1), (2, .int x2), (3, .int x3), (4, .int z.1)] [] := by
  intro z
  refine fun hs h => lp_X (P := fun z => SH σ0 z.2 → X G rm_X6_layRoot cX6_layRoot RX6 5 none z.2 0 0 18 [(0, .ref o), (1, .int x1), (2, .int x2), (3, .int x3), (4, .int z.1)] []) ?_ h hs
  intro K18 hK18 z h hs
  obtain ⟨x4, σ⟩ := z
  have hs : SH σ0 σ := hs
  have hB := hB0.sh hs
  simp only [lb_X6_layRoot_18] at h
  show X G rm_X6_layRoot cX6_layRoot RX6 5 none σ 0 0 18 [(0, .ref o), (1, .int x1), (2, .int x2), (3, .int x3), (4, .int x4)] []
  have hK18 : ∀ z : (Int32 × Hp), SH σ0 z.2 → K18 z → X G rm_X6_layRoot cX6_layRoot RX6 5 none z.2 0 0 18 [(0, .ref o), (1, .int x1), (2, .int x2), (3, .int x3), (4, .int z.1)] [] := fun z hs h => hK18 z h hs
  refine x_iload dX6_layRoot_18 (n := 20) rfl 4 rfl ?_
  refine x_sipush dX6_layRoot_20 (n := 23) rfl sp_20000 ?_
  refine x_icmp_ge (tgt := 86) dX6_layRoot_23 rfl (n := 26) rfl (fun c1 => ?_) (fun c1 => ?_)
  · have h := h.1 c1
    exact x_vret rq ⟨hs, h⟩ dX6_layRoot_86
  · have h := h.2 c1
    refine x_iload_n dX6_layRoot_26 (n := 27) rfl rfl 3 rfl ?_
    refine x_if_eq (tgt := 37) dX6_layRoot_27 rfl (n := 30) rfl (fun c2 => ?_) (fun c2 => ?_)
    · have h := h.1 c2
      exact x_sub [0, 1, 2, 3, 4] rfl (xj_X6_layRoot_37 o σ0 Q G hB0 rq σ x1 x2 x3 x4 K18 hK18 hs h)
    · have h := h.2 c2
      refine x_aload_n dX6_layRoot_30 (n := 31) rfl rfl 0 rfl ?_
      refine x_geti fl_X6_497_0 rfl hB.1 rfl dX6_layRoot_31 (n := 34) rfl ?_
      refine x_if_gt (tgt := 86) dX6_layRoot_34 rfl (n := 37) rfl (fun c3 => ?_) (fun c3 => ?_)
      · have h := h.1 c3
        exact x_vret rq ⟨hs, h⟩ dX6_layRoot_86
      · have h := h.2 c3
        exact x_sub [0, 1, 2, 3, 4] rfl (xj_X6_layRoot_37 o σ0 Q G hB0 rq σ x1 x2 x3 x4 K18 hK18 hs h)
theorem met_X6_layRoot (o : Nat) (σ0 : Hp) (x1 : Int32) (x2 : Int32) (x3 : Int32) (Q : Hp → Prop) (hB0 : MB o σ0) (h : wp_X6_layRoot o σ0 x1 x2 x3 Q) : MetX yX6_layRoot cX6_layRoot 5 none rm_X6_layRoot σ0 [.ref o, .int x1, .int x2, .int x3] (oV (fun σ' => SH σ0 σ' ∧ Q σ')) 0 0 := by
  refine metX_of (own := RX6) (lvs := [(0, .ref o), (1, .int x1), (2, .int x2), (3, .int x3)]) (by decide) rfl (Nat.le_of_ble_eq_true rfl) rfl (fun G rq => ?_)
  unfold wp_X6_layRoot at h
  refine x_aload_n dX6_layRoot_0 (n := 1) rfl rfl 0 rfl ?_
  refine x_iconst dX6_layRoot_1 (n := 2) rfl ic_0 ?_
  refine x_puti fp_X6_497_0 rfl hB0.1 dX6_layRoot_2 (n := 5) rfl ?_
  refine x_aload_n dX6_layRoot_5 (n := 6) rfl rfl 0 rfl ?_
  refine x_iconst dX6_layRoot_6 (n := 7) rfl ic_m1 ?_
  refine x_puti fp_X6_500_0 rfl hB0.i.1 dX6_layRoot_7 (n := 10) rfl ?_
  refine x_aload_n dX6_layRoot_10 (n := 11) rfl rfl 0 rfl ?_
  refine x_iconst dX6_layRoot_11 (n := 12) rfl ic_m1 ?_
  refine x_puti fp_X6_503_0 rfl hB0.i.i.1 dX6_layRoot_12 (n := 15) rfl ?_
  refine x_iconst dX6_layRoot_15 (n := 16) rfl ic_0 ?_
  refine x_istore (lvs' := [(4, .int 0), (0, .ref o), (1, .int x1), (2, .int x2), (3, .int x3)]) dX6_layRoot_16 (n := 18) rfl (by decide) rfl ?_
  exact x_sub [1, 2, 3, 4, 0] rfl (xl_X6_layRoot_18 o σ0 Q G hB0 rq x1 x2 x3 (0, pI (pI (pI σ0 o 62 0) o 63 (-1)) o 64 (-1)) (SH.rf (σ := σ0)).i.i.i h)
abbrev rm_X6_layRoots : Room := { frames := 1, cells := 0, slots := 0, locals := 21 }
def wj_X6_layRoots_75 (o : Nat) (σ : Hp) (x1 : Int32) (x2 : Int32) (x3 : Int32) (x4 : Int32) (w0 : Int32) (w1 : Int32) (Q : Hp → Prop) (K2 : (Int32 × Hp) → Prop) : Prop := (vp_in w1 12) ∧ ((x4 = 0 → (vp_in x2 12) ∧ (K2 (x2 + 1, pI (pI σ (o + 26) w1.toNatClampNeg w0) (o + 27) x2.toNatClampNeg 0))) ∧ (¬ x4 = 0 → (vp_in x3 12) ∧ ((vp_in ((11 * x2) + 10) 264) ∧ ((vp_in x2 12) ∧ (K2 (x2 + 1, pI (pI σ (o + 26) w1.toNatClampNeg w0) (o + 27) x2.toNatClampNeg ((gI (pI σ (o + 26) w1.toNatClampNeg w0) (o + 27) x3.toNatClampNeg) + (gI (pI σ (o + 26) w1.toNatClampNeg w0) (o + 16) ((11 * x2) + 10).toNatClampNeg))))))))
def wj_X6_layRoots_53 (o : Nat) (σ : Hp) (x1 : Int32) (x2 : Int32) (x3 : Int32) (w0 : Int32) (Q : Hp → Prop) (K2 : (Int32 × Hp) → Prop) : Prop := (w0 = 0 → wj_X6_layRoots_75 o σ x1 x2 x3 w0 x2 x2 Q K2) ∧ (¬ w0 = 0 → (vp_in x3 12) ∧ (wj_X6_layRoots_75 o σ x1 x2 x3 w0 (gI σ (o + 26) x3.toNatClampNeg) x2 Q K2))
def wj_X6_layRoots_52 (o : Nat) (σ : Hp) (x1 : Int32) (x2 : Int32) (x3 : Int32) (Q : Hp → Prop) (K2 : (Int32 × Hp) → Prop) : Prop := wj_X6_layRoots_53 o σ x1 x2 x3 0 Q K2
def lb_X6_layRoots_2 (o : Nat) (x1 : Int32) (Q : Hp → Prop)  (K2 : Int32 × Hp → Prop) (z : Int32 × Hp) : Prop := match z with
  | (x2, σ) => ((gI σ o 16) ≤ x2 → Q σ) ∧ (¬ (gI σ o 16) ≤ x2 → (vp_in ((11 * x2) + 9) 264) ∧ (∀ v3 : Int32, v3 = gI σ (o + 16) ((11 * x2) + 9).toNatClampNeg → (vp_in (11 * x2) 264) ∧ (((f_X6_isOf (gI σ (o + 16) (11 * x2).toNatClampNeg) 7) = 0 → wj_X6_layRoots_52 o σ x1 x2 v3 Q K2) ∧ (¬ (f_X6_isOf (gI σ (o + 16) (11 * x2).toNatClampNeg) 7) = 0 → ((f_X6_isOf x1 v3) = 0 → wj_X6_layRoots_52 o σ x1 x2 v3 Q K2) ∧ (¬ (f_X6_isOf x1 v3) = 0 → wj_X6_layRoots_53 o σ x1 x2 v3 1 Q K2)))))
def wp_X6_layRoots (o : Nat) (σ0 : Hp) (x1 : Int32) (Q : Hp → Prop) : Prop := lp (lb_X6_layRoots_2 o x1 Q) (0, σ0)
theorem xj_X6_layRoots_75 (o : Nat) (σ0 : Hp) (Q : Hp → Prop) (G : XE) (hB0 : MB o σ0) (rq : RQ G 0 0 (oV (fun σ' => SH σ0 σ' ∧ Q σ'))) (σ : Hp) (x1 : Int32) (x2 : Int32) (x3 : Int32) (x4 : Int32) (w0 : Int32) (w1 : Int32)  (K2 : (Int32 × Hp) → Prop) (hK2 : ∀ z : (Int32 × Hp), SH σ0 z.2 → K2 z → X G rm_X6_layRoots cX6_layRoots RX6 5 none z.2 0 0 2 [(0, .ref o), (1, .int x1), (2, .int z.1)] []) (hs : SH σ0 σ) (h : wj_X6_layRoots_75 o σ x1 x2 x3 x4 w0 w1 Q K2) : X G rm_X6_layRoots cX6_layRoots RX6 5 none σ 0 0 75 [(0, .ref o), (1, .int x1), (2, .int x2), (3, .int x3), (4, .int x4)] [.int w0, .int w1, .ref (o + 26)] := by
  have hs : SH σ0 σ := hs
  have hB := hB0.sh hs
  unfold wj_X6_layRoots_75 at h
  obtain ⟨b14, h⟩ := h
  refine x_iast hB.a65 b14 rfl dX6_layRoots_75 (n := 76) rfl ?_
  refine x_aload_n dX6_layRoots_76 (n := 77) rfl rfl 0 rfl ?_
  refine x_getr fl_X6_95_0 rfl hB.i.1 hB.i.r66 dX6_layRoots_77 (n := 80) rfl ?_
  refine x_iload_n dX6_layRoots_80 (n := 81) rfl rfl 2 rfl ?_
  refine x_iload dX6_layRoots_81 (n := 83) rfl 4 rfl ?_
  refine x_if_eq (tgt := 108) dX6_layRoots_83 rfl (n := 86) rfl (fun c15 => ?_) (fun c15 => ?_)
  · have h := h.1 c15
    refine x_iconst dX6_layRoots_108 (n := 109) rfl ic_0 ?_
    obtain ⟨b16, h⟩ := h
    refine x_iast hB.i.a66 b16 rfl dX6_layRoots_109 (n := 110) rfl ?_
    refine x_iinc (v := x2 + 1) (lvs' := [(2, .int (x2 + 1)), (0, .ref o), (1, .int x1), (3, .int x3), (4, .int x4)]) dX6_layRoots_110 (n := 113) rfl 2 rfl rfl (by decide) rfl ?_
    refine x_goto (tgt := 2) dX6_layRoots_113 rfl ?_
    exact x_sub [1, 2, 0] rfl (hK2 (x2 + 1, pI (pI σ (o + 26) w1.toNatClampNeg w0) (o + 27) x2.toNatClampNeg 0) hs.i.i h)
  · have h := h.2 c15
    refine x_aload_n dX6_layRoots_86 (n := 87) rfl rfl 0 rfl ?_
    refine x_getr fl_X6_95_0 rfl hB.i.1 hB.i.r66 dX6_layRoots_87 (n := 90) rfl ?_
    refine x_iload_n dX6_layRoots_90 (n := 91) rfl rfl 3 rfl ?_
    obtain ⟨b17, h⟩ := h
    refine x_iald hB.i.a66 b17 rfl dX6_layRoots_91 (n := 92) rfl ?_
    refine x_aload_n dX6_layRoots_92 (n := 93) rfl rfl 0 rfl ?_
    refine x_getr fl_X6_60_0 rfl hB.i.1 hB.i.r40 dX6_layRoots_93 (n := 96) rfl ?_
    refine x_bipush dX6_layRoots_96 (n := 98) rfl bp_11 ?_
    refine x_iload_n dX6_layRoots_98 (n := 99) rfl rfl 2 rfl ?_
    refine x_imul dX6_layRoots_99 (n := 100) rfl ?_
    refine x_bipush dX6_layRoots_100 (n := 102) rfl bp_10 ?_
    refine x_iadd dX6_layRoots_102 (n := 103) rfl ?_
    obtain ⟨b18, h⟩ := h
    refine x_iald hB.i.a40 b18 rfl dX6_layRoots_103 (n := 104) rfl ?_
    refine x_iadd dX6_layRoots_104 (n := 105) rfl ?_
    refine x_goto (tgt := 109) dX6_layRoots_105 rfl ?_
    obtain ⟨b19, h⟩ := h
    refine x_iast hB.i.a66 b19 rfl dX6_layRoots_109 (n := 110) rfl ?_
    refine x_iinc (v := x2 + 1) (lvs' := [(2, .int (x2 + 1)), (0, .ref o), (1, .int x1), (3, .int x3), (4, .int x4)]) dX6_layRoots_110 (n := 113) rfl 2 rfl rfl (by decide) rfl ?_
    refine x_goto (tgt := 2) dX6_layRoots_113 rfl ?_
    exact x_sub [1, 2, 0] rfl (hK2 (x2 + 1, pI (pI σ (o + 26) w1.toNatClampNeg w0) (o + 27) x2.toNatClampNeg ((gI (pI σ (o + 26) w1.toNatClampNeg w0) (o + 27) x3.toNatClampNeg) + (gI (pI σ (o + 26) w1.toNatClampNeg w0) (o + 16) ((11 * x2) + 10).toNatClampNeg))) hs.i.i h)
theorem xj_X6_layRoots_53 (o : Nat) (σ0 : Hp) (Q : Hp → Prop) (G : XE) (hB0 : MB o σ0) (rq : RQ G 0 0 (oV (fun σ' => SH σ0 σ' ∧ Q σ'))) (σ : Hp) (x1 : Int32) (x2 : Int32) (x3 : Int32) (w0 : Int32)  (K2 : (Int32 × Hp) → Prop) (hK2 : ∀ z : (Int32 × Hp), SH σ0 z.2 → K2 z → X G rm_X6_layRoots cX6_layRoots RX6 5 none z.2 0 0 2 [(0, .ref o), (1, .int x1), (2, .int z.1)] []) (hs : SH σ0 σ) (h : wj_X6_layRoots_53 o σ x1 x2 x3 w0 Q K2) : X G rm_X6_layRoots cX6_layRoots RX6 5 none σ 0 0 53 [(0, .ref o), (1, .int x1), (2, .int x2), (3, .int x3)] [.int w0] := by
  have hs : SH σ0 σ := hs
  have hB := hB0.sh hs
  unfold wj_X6_layRoots_53 at h
  refine x_istore (lvs' := [(4, .int w0), (0, .ref o), (1, .int x1), (2, .int x2), (3, .int x3)]) dX6_layRoots_53 (n := 55) rfl (by decide) rfl ?_
  refine x_aload_n dX6_layRoots_55 (n := 56) rfl rfl 1 rfl ?_
  refine x_getr fl_X6_92_0 rfl hB.1 hB.r65 dX6_layRoots_56 (n := 59) rfl ?_
  refine x_iload_n dX6_layRoots_59 (n := 60) rfl rfl 3 rfl ?_
  refine x_iload dX6_layRoots_60 (n := 62) rfl 0 rfl ?_
  refine x_if_eq (tgt := 74) dX6_layRoots_62 rfl (n := 65) rfl (fun c12 => ?_) (fun c12 => ?_)
  · have h := h.1 c12
    refine x_iload_n dX6_layRoots_74 (n := 75) rfl rfl 3 rfl ?_
    exact x_sub [1, 2, 3, 4, 0] rfl (xj_X6_layRoots_75 o σ0 Q G hB0 rq σ x1 x2 x3 w0 x2 x2 K2 hK2 hs h)
  · have h := h.2 c12
    refine x_aload_n dX6_layRoots_65 (n := 66) rfl rfl 1 rfl ?_
    refine x_getr fl_X6_92_0 rfl hB.1 hB.r65 dX6_layRoots_66 (n := 69) rfl ?_
    refine x_iload_n dX6_layRoots_69 (n := 70) rfl rfl 4 rfl ?_
    obtain ⟨b13, h⟩ := h
    refine x_iald hB.a65 b13 rfl dX6_layRoots_70 (n := 71) rfl ?_
    refine x_goto (tgt := 75) dX6_layRoots_71 rfl ?_
    exact x_sub [1, 2, 3, 4, 0] rfl (xj_X6_layRoots_75 o σ0 Q G hB0 rq σ x1 x2 x3 w0 (gI σ (o + 26) x3.toNatClampNeg) x2 K2 hK2 hs h)
theorem xj_X6_layRoots_52 (o : Nat) (σ0 : Hp) (Q : Hp → Prop) (G : XE) (hB0 : MB o σ0) (rq : RQ G 0 0 (oV (fun σ' => SH σ0 σ' ∧ Q σ'))) (σ : Hp) (x1 : Int32) (x2 : Int32) (x3 : Int32)  (K2 : (Int32 × Hp) → Prop) (hK2 : ∀ z : (Int32 × Hp), SH σ0 z.2 → K2 z → X G rm_X6_layRoots cX6_layRoots RX6 5 none z.2 0 0 2 [(0, .ref o), (1, .int x1), (2, .int z.1)] []) (hs : SH σ0 σ) (h : wj_X6_layRoots_52 o σ x1 x2 x3 Q K2) : X G rm_X6_layRoots cX6_layRoots RX6 5 none σ 0 0 52 [(0, .ref o), (1, .int x1), (2, .int x2), (3, .int x3)] [] := by
  have hs : SH σ0 σ := hs
  have hB := hB0.sh hs
  unfold wj_X6_layRoots_52 at h
  refine x_iconst dX6_layRoots_52 (n := 53) rfl ic_0 ?_
  exact x_sub [0, 1, 2, 3] rfl (xj_X6_layRoots_53 o σ0 Q G hB0 rq σ x1 x2 x3 0 K2 hK2 hs h)
theorem xl_X6_layRoots_2 (o : Nat) (σ0 : Hp) (Q : Hp → Prop) (G : XE) (hB0 : MB o σ0) (rq : RQ G 0 0 (oV (fun σ' => SH σ0 σ' ∧ Q σ'))) (x1 : Int32)    : ∀ z : Int32 × Hp, SH σ0 z.2 → lp (lb_X6_layRoots_2 o x1 Q ) z → X G rm_X6_layRoots cX6_layRoots RX6 5 none z.2 0 0 2 [(0, .ref o), (1, .int x1), (2, .int z.1)] [] := by
  intro z
  refine fun hs h => lp_X (P := fun z => SH σ0 z.2 → X G rm_X6_layRoots cX6_layRoots RX6 5 none z.2 0 0 2 [(0, .ref o), (1, .int x1), (2, .int z.1)] []) ?_ h hs
  intro K2 hK2 z h hs
  obtain ⟨x2, σ⟩ := z
  have hs : SH σ0 σ := hs
  have hB := hB0.sh hs
  simp only [lb_X6_layRoots_2] at h
  show X G rm_X6_layRoots cX6_layRoots RX6 5 none σ 0 0 2 [(0, .ref o), (1, .int x1), (2, .int x2)] []
  have hK2 : ∀ z : (Int32 × Hp), SH σ0 z.2 → K2 z → X G rm_X6_layRoots cX6_layRoots RX6 5 none z.2 0 0 2 [(0, .ref o), (1, .int x1), (2, .int z.1)] [] := fun z hs h => hK2 z h hs
  refine x_iload_n dX6_layRoots_2 (n := 3) rfl rfl 2 rfl ?_
  refine x_aload_n dX6_layRoots_3 (n := 4) rfl rfl 0 rfl ?_
  refine x_geti fl_X6_229_0 rfl hB.1 rfl dX6_layRoots_4 (n := 7) rfl ?_
  refine x_icmp_ge (tgt := 116) dX6_layRoots_7 rfl (n := 10) rfl (fun c1 => ?_) (fun c1 => ?_)
  · have h := h.1 c1
    exact x_vret rq ⟨hs, h⟩ dX6_layRoots_116
  · have h := h.2 c1
    refine x_aload_n dX6_layRoots_10 (n := 11) rfl rfl 0 rfl ?_
    refine x_getr fl_X6_60_0 rfl hB.1 hB.r40 dX6_layRoots_11 (n := 14) rfl ?_
    refine x_bipush dX6_layRoots_14 (n := 16) rfl bp_11 ?_
    refine x_iload_n dX6_layRoots_16 (n := 17) rfl rfl 2 rfl ?_
    refine x_imul dX6_layRoots_17 (n := 18) rfl ?_
    refine x_bipush dX6_layRoots_18 (n := 20) rfl bp_9 ?_
    refine x_iadd dX6_layRoots_20 (n := 21) rfl ?_
    obtain ⟨b2, h⟩ := h
    refine x_iald hB.a40 b2 rfl dX6_layRoots_21 (n := 22) rfl ?_
    refine x_topi (fun v3 e4 => ?_)
    have h := h v3 e4
    refine x_istore_n (lvs' := [(3, .int v3), (0, .ref o), (1, .int x1), (2, .int x2)]) dX6_layRoots_22 (n := 23) rfl rfl (by decide) rfl ?_
    refine x_aload_n dX6_layRoots_23 (n := 24) rfl rfl 1 rfl ?_
    refine x_getr fl_X6_60_0 rfl hB.1 hB.r40 dX6_layRoots_24 (n := 27) rfl ?_
    refine x_bipush dX6_layRoots_27 (n := 29) rfl bp_11 ?_
    refine x_iload_n dX6_layRoots_29 (n := 30) rfl rfl 3 rfl ?_
    refine x_imul dX6_layRoots_30 (n := 31) rfl ?_
    obtain ⟨b5, h⟩ := h
    refine x_iald hB.a40 b5 rfl dX6_layRoots_31 (n := 32) rfl ?_
    refine x_bipush dX6_layRoots_32 (n := 34) rfl bp_7 ?_
    refine x_cSip (As := [.int (gI σ (o + 16) (11 * x2).toNatClampNeg), .int 7]) (rest := []) cs_X6_297 (met_X6_isOf σ (gI σ (o + 16) (11 * x2).toNatClampNeg) 7 ) (by decide) rfl rfl rfl dX6_layRoots_34 (n := 37) rfl (fun r7 q => ?_)
    subst q
    refine x_if_eq (tgt := 52) dX6_layRoots_37 rfl (n := 40) rfl (fun c8 => ?_) (fun c8 => ?_)
    · have h := h.1 c8
      exact x_sub [1, 2, 3, 0] rfl (xj_X6_layRoots_52 o σ0 Q G hB0 rq σ x1 x2 v3 K2 hK2 hs h)
    · have h := h.2 c8
      refine x_iload_n dX6_layRoots_40 (n := 41) rfl rfl 2 rfl ?_
      refine x_iload_n dX6_layRoots_41 (n := 42) rfl rfl 0 rfl ?_
      refine x_cSip (As := [.int x1, .int v3]) (rest := []) cs_X6_297 (met_X6_isOf σ x1 v3 ) (by decide) rfl rfl rfl dX6_layRoots_42 (n := 45) rfl (fun r10 q => ?_)
      subst q
      refine x_if_eq (tgt := 52) dX6_layRoots_45 rfl (n := 48) rfl (fun c11 => ?_) (fun c11 => ?_)
      · have h := h.1 c11
        exact x_sub [1, 2, 3, 0] rfl (xj_X6_layRoots_52 o σ0 Q G hB0 rq σ x1 x2 v3 K2 hK2 hs h)
      · have h := h.2 c11
        refine x_iconst dX6_layRoots_48 (n := 49) rfl ic_1 ?_
        refine x_goto (tgt := 53) dX6_layRoots_49 rfl ?_
        exact x_sub [1, 2, 3, 0] rfl (xj_X6_layRoots_53 o σ0 Q G hB0 rq σ x1 x2 v3 1 K2 hK2 hs h)
theorem met_X6_layRoots (o : Nat) (σ0 : Hp) (x1 : Int32) (Q : Hp → Prop) (hB0 : MB o σ0) (h : wp_X6_layRoots o σ0 x1 Q) : MetX yX6_layRoots cX6_layRoots 5 none rm_X6_layRoots σ0 [.ref o, .int x1] (oV (fun σ' => SH σ0 σ' ∧ Q σ')) 0 0 := by
  refine metX_of (own := RX6) (lvs := [(0, .ref o), (1, .int x1)]) (by decide) rfl (Nat.le_of_ble_eq_true rfl) rfl (fun G rq => ?_)
  unfold wp_X6_layRoots at h
  refine x_iconst dX6_layRoots_0 (n := 1) rfl ic_0 ?_
  refine x_istore_n (lvs' := [(2, .int 0), (0, .ref o), (1, .int x1)]) dX6_layRoots_1 (n := 2) rfl rfl (by decide) rfl ?_
  exact x_sub [1, 2, 0] rfl (xl_X6_layRoots_2 o σ0 Q G hB0 rq x1 (0, σ0) (SH.rf (σ := σ0)) h)
abbrev rm_X6_fits : Room := { frames := 6, cells := 0, slots := 0, locals := 148 }
def lb_X6_fits_38 (o : Nat) (x1 : Int32) (x2 : Int32) (Q : Int32 → Hp → Prop)  (K38 : Int32 × Hp → Prop) (z : Int32 × Hp) : Prop := match z with
  | (x3, σ) => ((gI σ o 16) ≤ x3 → (vp_in x1 12) ∧ (wp_X6_layRoot o σ (f_X6_allNotes o σ) (gI σ (o + 26) x1.toNatClampNeg) 0 (fun  s17 => (x2 = 0 → Q (gI s17 o 62) s17) ∧ (¬ x2 = 0 → (vp_in x1 12) ∧ (Q ((f_X6_told3 o s17 x2) + (gI s17 (o + 27) x1.toNatClampNeg)) s17))))) ∧ (¬ (gI σ o 16) ≤ x3 → (vp_in x3 12) ∧ (((gI σ (o + 26) x3.toNatClampNeg) = x3 → wp_X6_layRoot o σ (f_X6_allNotes o σ) x3 1 (fun  s27 => ((gI s27 o 62) = 0 → (x2 = 0 → Q 0 s27) ∧ (¬ x2 = 0 → Q (-1) s27)) ∧ (¬ (gI s27 o 62) = 0 → K38 (x3 + 1, s27)))) ∧ (¬ (gI σ (o + 26) x3.toNatClampNeg) = x3 → K38 (x3 + 1, σ))))
def wp_X6_fits (o : Nat) (σ0 : Hp) (x1 : Int32) (x2 : Int32) (Q : Int32 → Hp → Prop) : Prop := ((f_X6_isNote o (pI σ0 o 2 0) x1) = 0 → Q (-1) (pI σ0 o 2 0)) ∧ (¬ (f_X6_isNote o (pI σ0 o 2 0) x1) = 0 → ((f_X6_isIn x2 0 2) = 0 → Q (-1) (pI σ0 o 2 0)) ∧ (¬ (f_X6_isIn x2 0 2) = 0 → wp_X6_layAllCan o (pI σ0 o 2 0) (fun  s7 => wp_X6_layRoots o s7 (f_X6_allNotes o s7) (fun  s11 => lp (lb_X6_fits_38 o x1 x2 Q) (0, s11)))))
theorem xl_X6_fits_38 (o : Nat) (σ0 : Hp) (Q : Int32 → Hp → Prop) (G : XE) (hB0 : MB o σ0) (rq : RQ G 0 0 (oI (fun r σ' => SH σ0 σ' ∧ Q r σ'))) (x1 : Int32) (x2 : Int32)    : ∀ z : Int32 × Hp, SH σ0 z.2 → lp (lb_X6_fits_38 o x1 x2 Q ) z → X G rm_X6_fits cX6_fits RX6 4 (some .int) z.2 0 0 38 [(0, .ref o), (1, .int x1), (2, .int x2), (3, .int z.1)] [] := by
  intro z
  refine fun hs h => lp_X (P := fun z => SH σ0 z.2 → X G rm_X6_fits cX6_fits RX6 4 (some .int) z.2 0 0 38 [(0, .ref o), (1, .int x1), (2, .int x2), (3, .int z.1)] []) ?_ h hs
  intro K38 hK38 z h hs
  obtain ⟨x3, σ⟩ := z
  have hs : SH σ0 σ := hs
  have hB := hB0.sh hs
  simp only [lb_X6_fits_38] at h
  show X G rm_X6_fits cX6_fits RX6 4 (some .int) σ 0 0 38 [(0, .ref o), (1, .int x1), (2, .int x2), (3, .int x3)] []
  have hK38 : ∀ z : (Int32 × Hp), SH σ0 z.2 → K38 z → X G rm_X6_fits cX6_fits RX6 4 (some .int) z.2 0 0 38 [(0, .ref o), (1, .int x1), (2, .int x2), (3, .int z.1)] [] := fun z hs h => hK38 z h hs
  refine x_iload_n dX6_fits_38 (n := 39) rfl rfl 3 rfl ?_
  refine x_aload_n dX6_fits_39 (n := 40) rfl rfl 0 rfl ?_
  refine x_geti fl_X6_229_0 rfl hB.1 rfl dX6_fits_40 (n := 43) rfl ?_
  refine x_icmp_ge (tgt := 92) dX6_fits_43 rfl (n := 46) rfl (fun c13 => ?_) (fun c13 => ?_)
  · have h := h.1 c13
    refine x_aload_n dX6_fits_92 (n := 93) rfl rfl 0 rfl ?_
    refine x_aload_n dX6_fits_93 (n := 94) rfl rfl 0 rfl ?_
    refine x_cVip (As := []) (rest := [.ref o]) cv_X6_521 ck0 (met_X6_allNotes o σ hB) hB.1 (by decide) rfl rfl rfl dX6_fits_94 (n := 97) rfl (fun r15 q => ?_)
    subst q
    refine x_aload_n dX6_fits_97 (n := 98) rfl rfl 0 rfl ?_
    refine x_getr fl_X6_92_0 rfl hB.1 hB.r65 dX6_fits_98 (n := 101) rfl ?_
    refine x_iload_n dX6_fits_101 (n := 102) rfl rfl 1 rfl ?_
    obtain ⟨b16, h⟩ := h
    refine x_iald hB.a65 b16 rfl dX6_fits_102 (n := 103) rfl ?_
    refine x_iconst dX6_fits_103 (n := 104) rfl ic_0 ?_
    refine x_cVvm (As := [.int (f_X6_allNotes o σ), .int (gI σ (o + 26) x1.toNatClampNeg), .int 0]) (rest := []) cv_X6_527 ck0 (met_X6_layRoot o σ (f_X6_allNotes o σ) (gI σ (o + 26) x1.toNatClampNeg) 0 _ hB h) hB.1 (by decide) rfl rfl rfl dX6_fits_104 (n := 107) rfl (fun  s17 hs18 h => ?_)
    have hs18t := hs.tr hs18; have hBs17 := hB0.sh hs18t
    refine x_iload_n dX6_fits_107 (n := 108) rfl rfl 2 rfl ?_
    refine x_if_ne (tgt := 118) dX6_fits_108 rfl (n := 111) rfl (fun c19 => ?_) (fun c19 => ?_)
    · have h := h.2 c19
      refine x_aload_n dX6_fits_118 (n := 119) rfl rfl 0 rfl ?_
      refine x_iload_n dX6_fits_119 (n := 120) rfl rfl 2 rfl ?_
      refine x_cVip (As := [.int x2]) (rest := []) cv_X6_512 ck0 (met_X6_told3 o s17 x2 hBs17) hBs17.1 (by decide) rfl rfl rfl dX6_fits_120 (n := 123) rfl (fun r21 q => ?_)
      subst q
      refine x_aload_n dX6_fits_123 (n := 124) rfl rfl 0 rfl ?_
      refine x_getr fl_X6_95_0 rfl hBs17.1 hBs17.r66 dX6_fits_124 (n := 127) rfl ?_
      refine x_iload_n dX6_fits_127 (n := 128) rfl rfl 1 rfl ?_
      obtain ⟨b22, h⟩ := h
      refine x_iald hBs17.a66 b22 rfl dX6_fits_128 (n := 129) rfl ?_
      refine x_iadd dX6_fits_129 (n := 130) rfl ?_
      exact x_iret rq ⟨hs18t, h⟩ dX6_fits_130
    · have h := h.1 c19
      refine x_aload_n dX6_fits_111 (n := 112) rfl rfl 0 rfl ?_
      refine x_geti fl_X6_497_0 rfl hBs17.1 rfl dX6_fits_112 (n := 115) rfl ?_
      refine x_goto (tgt := 130) dX6_fits_115 rfl ?_
      exact x_iret rq ⟨hs18t, h⟩ dX6_fits_130
  · have h := h.2 c13
    refine x_aload_n dX6_fits_46 (n := 47) rfl rfl 0 rfl ?_
    refine x_getr fl_X6_92_0 rfl hB.1 hB.r65 dX6_fits_47 (n := 50) rfl ?_
    refine x_iload_n dX6_fits_50 (n := 51) rfl rfl 3 rfl ?_
    obtain ⟨b23, h⟩ := h
    refine x_iald hB.a65 b23 rfl dX6_fits_51 (n := 52) rfl ?_
    refine x_iload_n dX6_fits_52 (n := 53) rfl rfl 3 rfl ?_
    refine x_icmp_eq (tgt := 59) dX6_fits_53 rfl (n := 56) rfl (fun c24 => ?_) (fun c24 => ?_)
    · have h := h.1 c24
      refine x_aload_n dX6_fits_59 (n := 60) rfl rfl 0 rfl ?_
      refine x_aload_n dX6_fits_60 (n := 61) rfl rfl 0 rfl ?_
      refine x_cVip (As := []) (rest := [.ref o]) cv_X6_521 ck0 (met_X6_allNotes o σ hB) hB.1 (by decide) rfl rfl rfl dX6_fits_61 (n := 64) rfl (fun r26 q => ?_)
      subst q
      refine x_iload_n dX6_fits_64 (n := 65) rfl rfl 3 rfl ?_
      refine x_iconst dX6_fits_65 (n := 66) rfl ic_1 ?_
      refine x_cVvm (As := [.int (f_X6_allNotes o σ), .int x3, .int 1]) (rest := []) cv_X6_527 ck0 (met_X6_layRoot o σ (f_X6_allNotes o σ) x3 1 _ hB h) hB.1 (by decide) rfl rfl rfl dX6_fits_66 (n := 69) rfl (fun  s27 hs28 h => ?_)
      have hs28t := hs.tr hs28; have hBs27 := hB0.sh hs28t
      refine x_aload_n dX6_fits_69 (n := 70) rfl rfl 0 rfl ?_
      refine x_geti fl_X6_497_0 rfl hBs27.1 rfl dX6_fits_70 (n := 73) rfl ?_
      refine x_if_ne (tgt := 86) dX6_fits_73 rfl (n := 76) rfl (fun c29 => ?_) (fun c29 => ?_)
      · have h := h.2 c29
        refine x_iinc (v := x3 + 1) (lvs' := [(3, .int (x3 + 1)), (0, .ref o), (1, .int x1), (2, .int x2)]) dX6_fits_86 (n := 89) rfl 3 rfl rfl (by decide) rfl ?_
        refine x_goto (tgt := 38) dX6_fits_89 rfl ?_
        exact x_sub [1, 2, 3, 0] rfl (hK38 (x3 + 1, s27) hs28t h)
      · have h := h.1 c29
        refine x_iload_n dX6_fits_76 (n := 77) rfl rfl 2 rfl ?_
        refine x_if_ne (tgt := 84) dX6_fits_77 rfl (n := 80) rfl (fun c30 => ?_) (fun c30 => ?_)
        · have h := h.2 c30
          refine x_iconst dX6_fits_84 (n := 85) rfl ic_m1 ?_
          exact x_iret rq ⟨hs28t, h⟩ dX6_fits_85
        · have h := h.1 c30
          refine x_iconst dX6_fits_80 (n := 81) rfl ic_0 ?_
          refine x_goto (tgt := 85) dX6_fits_81 rfl ?_
          exact x_iret rq ⟨hs28t, h⟩ dX6_fits_85
    · have h := h.2 c24
      refine x_goto (tgt := 86) dX6_fits_56 rfl ?_
      refine x_iinc (v := x3 + 1) (lvs' := [(3, .int (x3 + 1)), (0, .ref o), (1, .int x1), (2, .int x2)]) dX6_fits_86 (n := 89) rfl 3 rfl rfl (by decide) rfl ?_
      refine x_goto (tgt := 38) dX6_fits_89 rfl ?_
      exact x_sub [1, 2, 3, 0] rfl (hK38 (x3 + 1, σ) hs h)
theorem met_X6_fits (o : Nat) (σ0 : Hp) (x1 : Int32) (x2 : Int32) (Q : Int32 → Hp → Prop) (hB0 : MB o σ0) (h : wp_X6_fits o σ0 x1 x2 Q) : MetX yX6_fits cX6_fits 4 (some .int) rm_X6_fits σ0 [.ref o, .int x1, .int x2] (oI (fun r σ' => SH σ0 σ' ∧ Q r σ')) 0 0 := by
  refine metX_of (own := RX6) (lvs := [(0, .ref o), (1, .int x1), (2, .int x2)]) (by decide) rfl (Nat.le_of_ble_eq_true rfl) rfl (fun G rq => ?_)
  unfold wp_X6_fits at h
  refine x_aload_n dX6_fits_0 (n := 1) rfl rfl 0 rfl ?_
  refine x_iconst dX6_fits_1 (n := 2) rfl ic_0 ?_
  refine x_puti fp_X6_119_0 rfl hB0.1 dX6_fits_2 (n := 5) rfl ?_
  refine x_aload_n dX6_fits_5 (n := 6) rfl rfl 0 rfl ?_
  refine x_iload_n dX6_fits_6 (n := 7) rfl rfl 1 rfl ?_
  refine x_cVip (As := [.int x1]) (rest := []) cv_X6_506 ck0 (met_X6_isNote o (pI σ0 o 2 0) x1 hB0.i) hB0.i.1 (by decide) rfl rfl rfl dX6_fits_7 (n := 10) rfl (fun r2 q => ?_)
  subst q
  refine x_if_eq (tgt := 22) dX6_fits_10 rfl (n := 13) rfl (fun c3 => ?_) (fun c3 => ?_)
  · have h := h.1 c3
    refine x_iconst dX6_fits_22 (n := 23) rfl ic_m1 ?_
    exact x_iret rq ⟨(SH.rf (σ := σ0)).i, h⟩ dX6_fits_23
  · have h := h.2 c3
    refine x_iload_n dX6_fits_13 (n := 14) rfl rfl 2 rfl ?_
    refine x_iconst dX6_fits_14 (n := 15) rfl ic_0 ?_
    refine x_iconst dX6_fits_15 (n := 16) rfl ic_2 ?_
    refine x_cSip (As := [.int x2, .int 0, .int 2]) (rest := []) cs_X6_166 (met_X6_isIn (pI σ0 o 2 0) x2 0 2 ) (by decide) rfl rfl rfl dX6_fits_16 (n := 19) rfl (fun r5 q => ?_)
    subst q
    refine x_if_ne (tgt := 24) dX6_fits_19 rfl (n := 22) rfl (fun c6 => ?_) (fun c6 => ?_)
    · have h := h.2 c6
      refine x_aload_n dX6_fits_24 (n := 25) rfl rfl 0 rfl ?_
      refine x_cVvm (As := []) (rest := []) cv_X6_518 ck0 (met_X6_layAllCan o (pI σ0 o 2 0) _ hB0.i h) hB0.i.1 (by decide) rfl rfl rfl dX6_fits_25 (n := 28) rfl (fun  s7 hs8 h => ?_)
      have hs8t := (SH.rf (σ := σ0)).i.tr hs8; have hBs7 := hB0.sh hs8t
      refine x_aload_n dX6_fits_28 (n := 29) rfl rfl 0 rfl ?_
      refine x_aload_n dX6_fits_29 (n := 30) rfl rfl 0 rfl ?_
      refine x_cVip (As := []) (rest := [.ref o]) cv_X6_521 ck0 (met_X6_allNotes o s7 hBs7) hBs7.1 (by decide) rfl rfl rfl dX6_fits_30 (n := 33) rfl (fun r10 q => ?_)
      subst q
      refine x_cVvm (As := [.int (f_X6_allNotes o s7)]) (rest := []) cv_X6_524 ck0 (met_X6_layRoots o s7 (f_X6_allNotes o s7) _ hBs7 h) hBs7.1 (by decide) rfl rfl rfl dX6_fits_33 (n := 36) rfl (fun  s11 hs12 h => ?_)
      have hs12t := hs8t.tr hs12; have hBs11 := hB0.sh hs12t
      refine x_iconst dX6_fits_36 (n := 37) rfl ic_0 ?_
      refine x_istore_n (lvs' := [(3, .int 0), (0, .ref o), (1, .int x1), (2, .int x2)]) dX6_fits_37 (n := 38) rfl rfl (by decide) rfl ?_
      exact x_sub [1, 2, 3, 0] rfl (xl_X6_fits_38 o σ0 Q G hB0 rq x1 x2 (0, s11) hs12t h)
    · have h := h.1 c6
      refine x_iconst dX6_fits_22 (n := 23) rfl ic_m1 ?_
      exact x_iret rq ⟨(SH.rf (σ := σ0)).i, h⟩ dX6_fits_23
abbrev rm_X6_isGap : Room := { frames := 3, cells := 0, slots := 0, locals := 70 }
def lb_X6_isGap_9 (o : Nat) (x1 : Int32) (Q : Int32 → Hp → Prop)  (K9 : Int32 × Int32 × Hp → Prop) (z : Int32 × Int32 × Hp) : Prop := match z with
  | (x2, x3, σ) => ((gI σ o 16) ≤ x3 → wp_X6_layRoot o σ x1 x2 1 (fun  s4 => ((gI s4 o 62) = 0 → Q 1 s4) ∧ (¬ (gI s4 o 62) = 0 → Q 0 s4))) ∧ (¬ (gI σ o 16) ≤ x3 → ((f_X6_isOf x1 x3) = 0 → K9 (x2, x3 + 1, σ)) ∧ (¬ (f_X6_isOf x1 x3) = 0 → (vp_in x3 12) ∧ (((gI σ (o + 26) x3.toNatClampNeg) = x3 → (x2 < 0 → K9 (x3, x3 + 1, σ)) ∧ (¬ x2 < 0 → Q 0 σ)) ∧ (¬ (gI σ (o + 26) x3.toNatClampNeg) = x3 → K9 (x2, x3 + 1, σ)))))
def wp_X6_isGap (o : Nat) (σ0 : Hp) (x1 : Int32) (Q : Int32 → Hp → Prop) : Prop := wp_X6_layRoots o σ0 x1 (fun  s1 => lp (lb_X6_isGap_9 o x1 Q) ((-1), 0, s1))
theorem xl_X6_isGap_9 (o : Nat) (σ0 : Hp) (Q : Int32 → Hp → Prop) (G : XE) (hB0 : MB o σ0) (rq : RQ G 0 0 (oI (fun r σ' => SH σ0 σ' ∧ Q r σ'))) (x1 : Int32)    : ∀ z : Int32 × Int32 × Hp, SH σ0 z.2.2 → lp (lb_X6_isGap_9 o x1 Q ) z → X G rm_X6_isGap cX6_isGap RX6 4 (some .boolean) z.2.2 0 0 9 [(0, .ref o), (1, .int x1), (2, .int z.1), (3, .int z.2.1)] [] := by
  intro z
  refine fun hs h => lp_X (P := fun z => SH σ0 z.2.2 → X G rm_X6_isGap cX6_isGap RX6 4 (some .boolean) z.2.2 0 0 9 [(0, .ref o), (1, .int x1), (2, .int z.1), (3, .int z.2.1)] []) ?_ h hs
  intro K9 hK9 z h hs
  obtain ⟨x2, x3, σ⟩ := z
  have hs : SH σ0 σ := hs
  have hB := hB0.sh hs
  simp only [lb_X6_isGap_9] at h
  show X G rm_X6_isGap cX6_isGap RX6 4 (some .boolean) σ 0 0 9 [(0, .ref o), (1, .int x1), (2, .int x2), (3, .int x3)] []
  have hK9 : ∀ z : (Int32 × Int32 × Hp), SH σ0 z.2.2 → K9 z → X G rm_X6_isGap cX6_isGap RX6 4 (some .boolean) z.2.2 0 0 9 [(0, .ref o), (1, .int x1), (2, .int z.1), (3, .int z.2.1)] [] := fun z hs h => hK9 z h hs
  refine x_iload_n dX6_isGap_9 (n := 10) rfl rfl 3 rfl ?_
  refine x_aload_n dX6_isGap_10 (n := 11) rfl rfl 0 rfl ?_
  refine x_geti fl_X6_229_0 rfl hB.1 rfl dX6_isGap_11 (n := 14) rfl ?_
  refine x_icmp_ge (tgt := 52) dX6_isGap_14 rfl (n := 17) rfl (fun c3 => ?_) (fun c3 => ?_)
  · have h := h.1 c3
    refine x_aload_n dX6_isGap_52 (n := 53) rfl rfl 0 rfl ?_
    refine x_iload_n dX6_isGap_53 (n := 54) rfl rfl 1 rfl ?_
    refine x_iload_n dX6_isGap_54 (n := 55) rfl rfl 2 rfl ?_
    refine x_iconst dX6_isGap_55 (n := 56) rfl ic_1 ?_
    refine x_cVvm (As := [.int x1, .int x2, .int 1]) (rest := []) cv_X6_527 ck0 (met_X6_layRoot o σ x1 x2 1 _ hB h) hB.1 (by decide) rfl rfl rfl dX6_isGap_56 (n := 59) rfl (fun  s4 hs5 h => ?_)
    have hs5t := hs.tr hs5; have hBs4 := hB0.sh hs5t
    refine x_aload_n dX6_isGap_59 (n := 60) rfl rfl 0 rfl ?_
    refine x_geti fl_X6_497_0 rfl hBs4.1 rfl dX6_isGap_60 (n := 63) rfl ?_
    refine x_if_ne (tgt := 70) dX6_isGap_63 rfl (n := 66) rfl (fun c6 => ?_) (fun c6 => ?_)
    · have h := h.2 c6
      refine x_iconst dX6_isGap_70 (n := 71) rfl ic_0 ?_
      exact x_zret rq ⟨hs5t, h⟩ isB0 dX6_isGap_71
    · have h := h.1 c6
      refine x_iconst dX6_isGap_66 (n := 67) rfl ic_1 ?_
      refine x_goto (tgt := 71) dX6_isGap_67 rfl ?_
      exact x_zret rq ⟨hs5t, h⟩ isB1 dX6_isGap_71
  · have h := h.2 c3
    refine x_iload_n dX6_isGap_17 (n := 18) rfl rfl 1 rfl ?_
    refine x_iload_n dX6_isGap_18 (n := 19) rfl rfl 3 rfl ?_
    refine x_cSip (As := [.int x1, .int x3]) (rest := []) cs_X6_297 (met_X6_isOf σ x1 x3 ) (by decide) rfl rfl rfl dX6_isGap_19 (n := 22) rfl (fun r8 q => ?_)
    subst q
    refine x_if_eq (tgt := 46) dX6_isGap_22 rfl (n := 25) rfl (fun c9 => ?_) (fun c9 => ?_)
    · have h := h.1 c9
      refine x_iinc (v := x3 + 1) (lvs' := [(3, .int (x3 + 1)), (0, .ref o), (1, .int x1), (2, .int x2)]) dX6_isGap_46 (n := 49) rfl 3 rfl rfl (by decide) rfl ?_
      refine x_goto (tgt := 9) dX6_isGap_49 rfl ?_
      exact x_sub [1, 2, 3, 0] rfl (hK9 (x2, x3 + 1, σ) hs h)
    · have h := h.2 c9
      refine x_aload_n dX6_isGap_25 (n := 26) rfl rfl 0 rfl ?_
      refine x_getr fl_X6_92_0 rfl hB.1 hB.r65 dX6_isGap_26 (n := 29) rfl ?_
      refine x_iload_n dX6_isGap_29 (n := 30) rfl rfl 3 rfl ?_
      obtain ⟨b10, h⟩ := h
      refine x_iald hB.a65 b10 rfl dX6_isGap_30 (n := 31) rfl ?_
      refine x_iload_n dX6_isGap_31 (n := 32) rfl rfl 3 rfl ?_
      refine x_icmp_eq (tgt := 38) dX6_isGap_32 rfl (n := 35) rfl (fun c11 => ?_) (fun c11 => ?_)
      · have h := h.1 c11
        refine x_iload_n dX6_isGap_38 (n := 39) rfl rfl 2 rfl ?_
        refine x_if_lt (tgt := 44) dX6_isGap_39 rfl (n := 42) rfl (fun c12 => ?_) (fun c12 => ?_)
        · have h := h.1 c12
          refine x_iload_n dX6_isGap_44 (n := 45) rfl rfl 3 rfl ?_
          refine x_istore_n (lvs' := [(2, .int x3), (0, .ref o), (1, .int x1), (3, .int x3)]) dX6_isGap_45 (n := 46) rfl rfl (by decide) rfl ?_
          refine x_iinc (v := x3 + 1) (lvs' := [(3, .int (x3 + 1)), (2, .int x3), (0, .ref o), (1, .int x1)]) dX6_isGap_46 (n := 49) rfl 3 rfl rfl (by decide) rfl ?_
          refine x_goto (tgt := 9) dX6_isGap_49 rfl ?_
          exact x_sub [2, 3, 1, 0] rfl (hK9 (x3, x3 + 1, σ) hs h)
        · have h := h.2 c12
          refine x_iconst dX6_isGap_42 (n := 43) rfl ic_0 ?_
          exact x_zret rq ⟨hs, h⟩ isB0 dX6_isGap_43
      · have h := h.2 c11
        refine x_goto (tgt := 46) dX6_isGap_35 rfl ?_
        refine x_iinc (v := x3 + 1) (lvs' := [(3, .int (x3 + 1)), (0, .ref o), (1, .int x1), (2, .int x2)]) dX6_isGap_46 (n := 49) rfl 3 rfl rfl (by decide) rfl ?_
        refine x_goto (tgt := 9) dX6_isGap_49 rfl ?_
        exact x_sub [1, 2, 3, 0] rfl (hK9 (x2, x3 + 1, σ) hs h)
theorem met_X6_isGap (o : Nat) (σ0 : Hp) (x1 : Int32) (Q : Int32 → Hp → Prop) (hB0 : MB o σ0) (h : wp_X6_isGap o σ0 x1 Q) : MetX yX6_isGap cX6_isGap 4 (some .boolean) rm_X6_isGap σ0 [.ref o, .int x1] (oI (fun r σ' => SH σ0 σ' ∧ Q r σ')) 0 0 := by
  refine metX_of (own := RX6) (lvs := [(0, .ref o), (1, .int x1)]) (by decide) rfl (Nat.le_of_ble_eq_true rfl) rfl (fun G rq => ?_)
  unfold wp_X6_isGap at h
  refine x_aload_n dX6_isGap_0 (n := 1) rfl rfl 0 rfl ?_
  refine x_iload_n dX6_isGap_1 (n := 2) rfl rfl 1 rfl ?_
  refine x_cVvm (As := [.int x1]) (rest := []) cv_X6_524 ck0 (met_X6_layRoots o σ0 x1 _ hB0 h) hB0.1 (by decide) rfl rfl rfl dX6_isGap_2 (n := 5) rfl (fun  s1 hs2 h => ?_)
  have hs2t := (SH.rf (σ := σ0)).tr hs2; have hBs1 := hB0.sh hs2t
  refine x_iconst dX6_isGap_5 (n := 6) rfl ic_m1 ?_
  refine x_istore_n (lvs' := [(2, .int (-1)), (0, .ref o), (1, .int x1)]) dX6_isGap_6 (n := 7) rfl rfl (by decide) rfl ?_
  refine x_iconst dX6_isGap_7 (n := 8) rfl ic_0 ?_
  refine x_istore_n (lvs' := [(3, .int 0), (2, .int (-1)), (0, .ref o), (1, .int x1)]) dX6_isGap_8 (n := 9) rfl rfl (by decide) rfl ?_
  exact x_sub [2, 3, 1, 0] rfl (xl_X6_isGap_9 o σ0 Q G hB0 rq x1 ((-1), 0, s1) hs2t h)
abbrev rm_X6_manyOf : Room := { frames := 0, cells := 0, slots := 0, locals := 0 }
def lb_X6_manyOf_4  (x0 : Int32) (Q : Int32 → Prop)  (K4 : Int32 × Int32 → Prop) (z : Int32 × Int32) : Prop := match z with
  | (x1, x2) => (12 ≤ x2 → Q x1) ∧ (¬ 12 ≤ x2 → ∀ v2 : Int32, v2 = x1 + ((x0 >>> (x2 &&& 31)) &&& 1) → K4 (v2, x2 + 1))
def wp_X6_manyOf (x0 : Int32) (Q : Int32 → Prop) : Prop := lp (lb_X6_manyOf_4 x0 Q) (0, 0)
theorem xl_X6_manyOf_4 (σ : Hp) (Q : Int32 → Prop) (G : XE) (rq : RQ G 0 0 (oI (fun r σ' => σ' = σ ∧ Q r))) (x0 : Int32)    : ∀ z : Int32 × Int32, lp (lb_X6_manyOf_4  x0 Q ) z → X G rm_X6_manyOf cX6_manyOf RX6 3 (some .int) σ 0 0 4 [(0, .int x0), (1, .int z.1), (2, .int z.2)] [] := by
  intro z
  refine fun h => lp_X (P := fun z => X G rm_X6_manyOf cX6_manyOf RX6 3 (some .int) σ 0 0 4 [(0, .int x0), (1, .int z.1), (2, .int z.2)] []) ?_ h
  intro K4 hK4 z h
  obtain ⟨x1, x2⟩ := z
  simp only [lb_X6_manyOf_4] at h
  show X G rm_X6_manyOf cX6_manyOf RX6 3 (some .int) σ 0 0 4 [(0, .int x0), (1, .int x1), (2, .int x2)] []
  have hK4 : ∀ z : (Int32 × Int32), K4 z → X G rm_X6_manyOf cX6_manyOf RX6 3 (some .int) σ 0 0 4 [(0, .int x0), (1, .int z.1), (2, .int z.2)] [] := fun z h => hK4 z h
  refine x_iload_n dX6_manyOf_4 (n := 5) rfl rfl 2 rfl ?_
  refine x_bipush dX6_manyOf_5 (n := 7) rfl bp_12 ?_
  refine x_icmp_ge (tgt := 24) dX6_manyOf_7 rfl (n := 10) rfl (fun c1 => ?_) (fun c1 => ?_)
  · have h := h.1 c1
    refine x_iload_n dX6_manyOf_24 (n := 25) rfl rfl 1 rfl ?_
    exact x_iret rq ⟨rfl, h⟩ dX6_manyOf_25
  · have h := h.2 c1
    refine x_iload_n dX6_manyOf_10 (n := 11) rfl rfl 1 rfl ?_
    refine x_iload_n dX6_manyOf_11 (n := 12) rfl rfl 0 rfl ?_
    refine x_iload_n dX6_manyOf_12 (n := 13) rfl rfl 2 rfl ?_
    refine x_ishr dX6_manyOf_13 (n := 14) rfl ?_
    refine x_iconst dX6_manyOf_14 (n := 15) rfl ic_1 ?_
    refine x_iand dX6_manyOf_15 (n := 16) rfl ?_
    refine x_iadd dX6_manyOf_16 (n := 17) rfl ?_
    refine x_topi (fun v2 e3 => ?_)
    have h := h v2 e3
    refine x_istore_n (lvs' := [(1, .int v2), (0, .int x0), (2, .int x2)]) dX6_manyOf_17 (n := 18) rfl rfl (by decide) rfl ?_
    refine x_iinc (v := x2 + 1) (lvs' := [(2, .int (x2 + 1)), (1, .int v2), (0, .int x0)]) dX6_manyOf_18 (n := 21) rfl 2 rfl rfl (by decide) rfl ?_
    refine x_goto (tgt := 4) dX6_manyOf_21 rfl ?_
    exact x_sub [2, 1, 0] rfl (hK4 (v2, x2 + 1) h)
theorem met_X6_manyOf (σ : Hp) (x0 : Int32) (Q : Int32 → Prop)  (h : wp_X6_manyOf x0 Q) : MetX yX6_manyOf cX6_manyOf 3 (some .int) rm_X6_manyOf σ [.int x0] (oI (fun r σ' => σ' = σ ∧ Q r)) 0 0 := by
  refine metX_of (own := RX6) (lvs := [(0, .int x0)]) (by decide) rfl (Nat.le_of_ble_eq_true rfl) rfl (fun G rq => ?_)
  unfold wp_X6_manyOf at h
  refine x_iconst dX6_manyOf_0 (n := 1) rfl ic_0 ?_
  refine x_istore_n (lvs' := [(1, .int 0), (0, .int x0)]) dX6_manyOf_1 (n := 2) rfl rfl (by decide) rfl ?_
  refine x_iconst dX6_manyOf_2 (n := 3) rfl ic_0 ?_
  refine x_istore_n (lvs' := [(2, .int 0), (1, .int 0), (0, .int x0)]) dX6_manyOf_3 (n := 4) rfl rfl (by decide) rfl ?_
  exact x_sub [2, 1, 0] rfl (xl_X6_manyOf_4 σ Q G rq x0 (0, 0) h)
abbrev rm_X6_gap : Room := { frames := 6, cells := 0, slots := 0, locals := 148 }
def lb_X6_gap_21 (o : Nat) (x1 : Int32) (Q : Int32 → Hp → Prop) (K11 : (Int32 × Hp) → Prop) (K21 : Int32 × Hp → Prop) (z : Int32 × Hp) : Prop := match z with
  | (x2, σ) => ((f_X6_allNotes o σ) < x2 → K11 (x1 + 1, σ)) ∧ (¬ (f_X6_allNotes o σ) < x2 → wp_X6_manyOf x2 (fun r7 => (r7 = x1 → wp_X6_isGap o σ x2 (fun r11 s9 => (r11 = 0 → K21 (x2 + 1, s9)) ∧ (¬ r11 = 0 → Q x2 s9))) ∧ (¬ r7 = x1 → K21 (x2 + 1, σ))))
def lb_X6_gap_11 (o : Nat)  (Q : Int32 → Hp → Prop)  (K11 : Int32 × Hp → Prop) (z : Int32 × Hp) : Prop := match z with
  | (x1, σ) => ((gI σ o 16) < x1 → Q 0 σ) ∧ (¬ (gI σ o 16) < x1 → lp (lb_X6_gap_21 o x1 Q K11) (1, σ))
def wp_X6_gap (o : Nat) (σ0 : Hp) (Q : Int32 → Hp → Prop) : Prop := wp_X6_layAllCan o (pI σ0 o 2 0) (fun  s1 => lp (lb_X6_gap_11 o Q) (1, s1))
theorem xl_X6_gap_21 (o : Nat) (σ0 : Hp) (Q : Int32 → Hp → Prop) (G : XE) (hB0 : MB o σ0) (rq : RQ G 0 0 (oI (fun r σ' => SH σ0 σ' ∧ Q r σ'))) (x1 : Int32)  (K11 : (Int32 × Hp) → Prop) (hK11 : ∀ z : (Int32 × Hp), SH σ0 z.2 → K11 z → X G rm_X6_gap cX6_gap RX6 3 (some .int) z.2 0 0 11 [(0, .ref o), (1, .int z.1)] []) : ∀ z : Int32 × Hp, SH σ0 z.2 → lp (lb_X6_gap_21 o x1 Q K11) z → X G rm_X6_gap cX6_gap RX6 3 (some .int) z.2 0 0 21 [(0, .ref o), (1, .int x1), (2, .int z.1)] [] := by
  intro z
  refine fun hs h => lp_X (P := fun z => SH σ0 z.2 → X G rm_X6_gap cX6_gap RX6 3 (some .int) z.2 0 0 21 [(0, .ref o), (1, .int x1), (2, .int z.1)] []) ?_ h hs
  intro K21 hK21 z h hs
  obtain ⟨x2, σ⟩ := z
  have hs : SH σ0 σ := hs
  have hB := hB0.sh hs
  simp only [lb_X6_gap_21] at h
  show X G rm_X6_gap cX6_gap RX6 3 (some .int) σ 0 0 21 [(0, .ref o), (1, .int x1), (2, .int x2)] []
  have hK21 : ∀ z : (Int32 × Hp), SH σ0 z.2 → K21 z → X G rm_X6_gap cX6_gap RX6 3 (some .int) z.2 0 0 21 [(0, .ref o), (1, .int x1), (2, .int z.1)] [] := fun z hs h => hK21 z h hs
  refine x_iload_n dX6_gap_21 (n := 22) rfl rfl 2 rfl ?_
  refine x_aload_n dX6_gap_22 (n := 23) rfl rfl 0 rfl ?_
  refine x_cVip (As := []) (rest := [.int x2]) cv_X6_521 ck0 (met_X6_allNotes o σ hB) hB.1 (by decide) rfl rfl rfl dX6_gap_23 (n := 26) rfl (fun r5 q => ?_)
  subst q
  refine x_icmp_gt (tgt := 53) dX6_gap_26 rfl (n := 29) rfl (fun c6 => ?_) (fun c6 => ?_)
  · have h := h.1 c6
    refine x_iinc (v := x1 + 1) (lvs' := [(1, .int (x1 + 1)), (0, .ref o), (2, .int x2)]) dX6_gap_53 (n := 56) rfl 1 rfl rfl (by decide) rfl ?_
    refine x_goto (tgt := 11) dX6_gap_56 rfl ?_
    exact x_sub [1, 0] rfl (hK11 (x1 + 1, σ) hs h)
  · have h := h.2 c6
    refine x_iload_n dX6_gap_29 (n := 30) rfl rfl 2 rfl ?_
    refine x_cSip (As := [.int x2]) (rest := []) cs_X6_531 (met_X6_manyOf σ x2 _  h) (by decide) rfl rfl rfl dX6_gap_30 (n := 33) rfl (fun r7 h => ?_)
    refine x_iload_n dX6_gap_33 (n := 34) rfl rfl 1 rfl ?_
    refine x_icmp_ne (tgt := 47) dX6_gap_34 rfl (n := 37) rfl (fun c8 => ?_) (fun c8 => ?_)
    · have h := h.2 c8
      refine x_iinc (v := x2 + 1) (lvs' := [(2, .int (x2 + 1)), (0, .ref o), (1, .int x1)]) dX6_gap_47 (n := 50) rfl 2 rfl rfl (by decide) rfl ?_
      refine x_goto (tgt := 21) dX6_gap_50 rfl ?_
      exact x_sub [1, 2, 0] rfl (hK21 (x2 + 1, σ) hs h)
    · have h := h.1 c8
      refine x_aload_n dX6_gap_37 (n := 38) rfl rfl 0 rfl ?_
      refine x_iload_n dX6_gap_38 (n := 39) rfl rfl 2 rfl ?_
      refine x_cVim (As := [.int x2]) (rest := []) cv_X6_534 ck0 (met_X6_isGap o σ x2 _ hB h) hB.1 (by decide) rfl rfl rfl dX6_gap_39 (n := 42) rfl (fun r11 s9 hs10 h => ?_)
      have hs10t := hs.tr hs10; have hBs9 := hB0.sh hs10t
      refine x_if_eq (tgt := 47) dX6_gap_42 rfl (n := 45) rfl (fun c12 => ?_) (fun c12 => ?_)
      · have h := h.1 c12
        refine x_iinc (v := x2 + 1) (lvs' := [(2, .int (x2 + 1)), (0, .ref o), (1, .int x1)]) dX6_gap_47 (n := 50) rfl 2 rfl rfl (by decide) rfl ?_
        refine x_goto (tgt := 21) dX6_gap_50 rfl ?_
        exact x_sub [1, 2, 0] rfl (hK21 (x2 + 1, s9) hs10t h)
      · have h := h.2 c12
        refine x_iload_n dX6_gap_45 (n := 46) rfl rfl 2 rfl ?_
        exact x_iret rq ⟨hs10t, h⟩ dX6_gap_46
theorem xl_X6_gap_11 (o : Nat) (σ0 : Hp) (Q : Int32 → Hp → Prop) (G : XE) (hB0 : MB o σ0) (rq : RQ G 0 0 (oI (fun r σ' => SH σ0 σ' ∧ Q r σ')))     : ∀ z : Int32 × Hp, SH σ0 z.2 → lp (lb_X6_gap_11 o  Q ) z → X G rm_X6_gap cX6_gap RX6 3 (some .int) z.2 0 0 11 [(0, .ref o), (1, .int z.1)] [] := by
  intro z
  refine fun hs h => lp_X (P := fun z => SH σ0 z.2 → X G rm_X6_gap cX6_gap RX6 3 (some .int) z.2 0 0 11 [(0, .ref o), (1, .int z.1)] []) ?_ h hs
  intro K11 hK11 z h hs
  obtain ⟨x1, σ⟩ := z
  have hs : SH σ0 σ := hs
  have hB := hB0.sh hs
  simp only [lb_X6_gap_11] at h
  show X G rm_X6_gap cX6_gap RX6 3 (some .int) σ 0 0 11 [(0, .ref o), (1, .int x1)] []
  have hK11 : ∀ z : (Int32 × Hp), SH σ0 z.2 → K11 z → X G rm_X6_gap cX6_gap RX6 3 (some .int) z.2 0 0 11 [(0, .ref o), (1, .int z.1)] [] := fun z hs h => hK11 z h hs
  refine x_iload_n dX6_gap_11 (n := 12) rfl rfl 1 rfl ?_
  refine x_aload_n dX6_gap_12 (n := 13) rfl rfl 0 rfl ?_
  refine x_geti fl_X6_229_0 rfl hB.1 rfl dX6_gap_13 (n := 16) rfl ?_
  refine x_icmp_gt (tgt := 59) dX6_gap_16 rfl (n := 19) rfl (fun c3 => ?_) (fun c3 => ?_)
  · have h := h.1 c3
    refine x_iconst dX6_gap_59 (n := 60) rfl ic_0 ?_
    exact x_iret rq ⟨hs, h⟩ dX6_gap_60
  · have h := h.2 c3
    refine x_iconst dX6_gap_19 (n := 20) rfl ic_1 ?_
    refine x_istore_n (lvs' := [(2, .int 1), (0, .ref o), (1, .int x1)]) dX6_gap_20 (n := 21) rfl rfl (by decide) rfl ?_
    exact x_sub [1, 2, 0] rfl (xl_X6_gap_21 o σ0 Q G hB0 rq x1 K11 hK11 (1, σ) hs h)
theorem met_X6_gap (o : Nat) (σ0 : Hp) (Q : Int32 → Hp → Prop) (hB0 : MB o σ0) (h : wp_X6_gap o σ0 Q) : MetX yX6_gap cX6_gap 3 (some .int) rm_X6_gap σ0 [.ref o] (oI (fun r σ' => SH σ0 σ' ∧ Q r σ')) 0 0 := by
  refine metX_of (own := RX6) (lvs := [(0, .ref o)]) (by decide) rfl (Nat.le_of_ble_eq_true rfl) rfl (fun G rq => ?_)
  unfold wp_X6_gap at h
  refine x_aload_n dX6_gap_0 (n := 1) rfl rfl 0 rfl ?_
  refine x_iconst dX6_gap_1 (n := 2) rfl ic_0 ?_
  refine x_puti fp_X6_119_0 rfl hB0.1 dX6_gap_2 (n := 5) rfl ?_
  refine x_aload_n dX6_gap_5 (n := 6) rfl rfl 0 rfl ?_
  refine x_cVvm (As := []) (rest := []) cv_X6_518 ck0 (met_X6_layAllCan o (pI σ0 o 2 0) _ hB0.i h) hB0.i.1 (by decide) rfl rfl rfl dX6_gap_6 (n := 9) rfl (fun  s1 hs2 h => ?_)
  have hs2t := (SH.rf (σ := σ0)).i.tr hs2; have hBs1 := hB0.sh hs2t
  refine x_iconst dX6_gap_9 (n := 10) rfl ic_1 ?_
  refine x_istore_n (lvs' := [(1, .int 1), (0, .ref o)]) dX6_gap_10 (n := 11) rfl rfl (by decide) rfl ?_
  exact x_sub [1, 0] rfl (xl_X6_gap_11 o σ0 Q G hB0 rq (1, s1) hs2t h)
abbrev rm_X6_told : Room := { frames := 1, cells := 0, slots := 0, locals := 22 }
def f_X6_told (o : Nat) (σ0 : Hp) (x1 : Int32) (x2 : Int32) : Int32 × Hp := if (gI σ0 o 67) = 20 then ((-1), pI σ0 o 2 0) else if (f_X6_isNote o (pI σ0 o 2 0) x1) = 0 then ((-1), pI σ0 o 2 0) else if (f_X6_isIn x2 0 19999) = 0 then ((-1), pI σ0 o 2 0) else (((gI σ0 o 67) + 1), pI (pI (pI (pI σ0 o 2 0) (o + 28) (gI σ0 o 67).toNatClampNeg x1) (o + 29) (gI σ0 o 67).toNatClampNeg x2) o 67 ((gI σ0 o 67) + 1))
def ok_X6_told (o : Nat) (σ0 : Hp) (x1 : Int32) (x2 : Int32) : Prop := ((gI σ0 o 67) = 20 → True) ∧ (¬ (gI σ0 o 67) = 20 → (((f_X6_isNote o (pI σ0 o 2 0) x1) = 0 → True) ∧ (¬ (f_X6_isNote o (pI σ0 o 2 0) x1) = 0 → (((f_X6_isIn x2 0 19999) = 0 → True) ∧ (¬ (f_X6_isIn x2 0 19999) = 0 → ((vp_in (gI σ0 o 67) 20) ∧ (vp_in (gI σ0 o 67) 20)))))))
theorem met_X6_told (o : Nat) (σ0 : Hp) (x1 : Int32) (x2 : Int32) (hB0 : MB o σ0) (hk : ok_X6_told o σ0 x1 x2) : MetX yX6_told cX6_told 3 (some .int) rm_X6_told σ0 [.ref o, .int x1, .int x2] (oI (fun r σ' => SH σ0 σ' ∧ (r, σ') = (f_X6_told o σ0 x1 x2))) 0 0 := by
  refine metX_of (own := RX6) (lvs := [(0, .ref o), (1, .int x1), (2, .int x2)]) (by decide) rfl (Nat.le_of_ble_eq_true rfl) rfl (fun G rq => ?_)
  have hv : (f_X6_told o σ0 x1 x2) = _ := f_X6_told.eq_1 _ _ _ _
  unfold ok_X6_told at hk
  refine x_aload_n dX6_told_0 (n := 1) rfl rfl 0 rfl ?_
  refine x_iconst dX6_told_1 (n := 2) rfl ic_0 ?_
  refine x_puti fp_X6_119_0 rfl hB0.1 dX6_told_2 (n := 5) rfl ?_
  refine x_aload_n dX6_told_5 (n := 6) rfl rfl 0 rfl ?_
  refine x_geti fl_X6_246_0 rfl hB0.i.1 (gIn (by decide)) dX6_told_6 (n := 9) rfl ?_
  refine x_bipush dX6_told_9 (n := 11) rfl bp_20 ?_
  refine x_icmp_eq (tgt := 33) dX6_told_11 rfl (n := 14) rfl (fun c1 => ?_) (fun c1 => ?_)
  · have hk := hk.1 c1
    have hv := hv.trans (if_pos c1)
    refine x_iconst dX6_told_33 (n := 34) rfl ic_m1 ?_
    exact x_iret rq ⟨(SH.rf (σ := σ0)).i, hv.symm⟩ dX6_told_34
  · have hk := hk.2 c1
    have hv := hv.trans (if_neg c1)
    refine x_aload_n dX6_told_14 (n := 15) rfl rfl 0 rfl ?_
    refine x_iload_n dX6_told_15 (n := 16) rfl rfl 1 rfl ?_
    refine x_cVip (As := [.int x1]) (rest := []) cv_X6_506 ck0 (met_X6_isNote o (pI σ0 o 2 0) x1 hB0.i) hB0.i.1 (by decide) rfl rfl rfl dX6_told_16 (n := 19) rfl (fun r3 q => ?_)
    subst q
    refine x_if_eq (tgt := 33) dX6_told_19 rfl (n := 22) rfl (fun c4 => ?_) (fun c4 => ?_)
    · have hk := hk.1 c4
      have hv := hv.trans (if_pos c4)
      refine x_iconst dX6_told_33 (n := 34) rfl ic_m1 ?_
      exact x_iret rq ⟨(SH.rf (σ := σ0)).i, hv.symm⟩ dX6_told_34
    · have hk := hk.2 c4
      have hv := hv.trans (if_neg c4)
      refine x_iload_n dX6_told_22 (n := 23) rfl rfl 2 rfl ?_
      refine x_iconst dX6_told_23 (n := 24) rfl ic_0 ?_
      refine x_sipush dX6_told_24 (n := 27) rfl sp_19999 ?_
      refine x_cSip (As := [.int x2, .int 0, .int 19999]) (rest := []) cs_X6_166 (met_X6_isIn (pI σ0 o 2 0) x2 0 19999 ) (by decide) rfl rfl rfl dX6_told_27 (n := 30) rfl (fun r6 q => ?_)
      subst q
      refine x_if_ne (tgt := 35) dX6_told_30 rfl (n := 33) rfl (fun c7 => ?_) (fun c7 => ?_)
      · have hk := hk.2 c7
        have hv := hv.trans (if_neg c7)
        refine x_aload_n dX6_told_35 (n := 36) rfl rfl 0 rfl ?_
        refine x_getr fl_X6_98_0 rfl hB0.i.1 hB0.i.r68 dX6_told_36 (n := 39) rfl ?_
        refine x_aload_n dX6_told_39 (n := 40) rfl rfl 0 rfl ?_
        refine x_geti fl_X6_246_0 rfl hB0.i.1 (gIn (by decide)) dX6_told_40 (n := 43) rfl ?_
        refine x_iload_n dX6_told_43 (n := 44) rfl rfl 1 rfl ?_
        obtain ⟨b8, hk⟩ := hk
        refine x_iast hB0.i.a68 b8 rfl dX6_told_44 (n := 45) rfl ?_
        refine x_aload_n dX6_told_45 (n := 46) rfl rfl 0 rfl ?_
        refine x_getr fl_X6_101_0 rfl hB0.i.i.1 hB0.i.i.r69 dX6_told_46 (n := 49) rfl ?_
        refine x_aload_n dX6_told_49 (n := 50) rfl rfl 0 rfl ?_
        refine x_geti fl_X6_246_0 rfl hB0.i.i.1 ((gIo (by omega)).trans (gIn (by decide))) dX6_told_50 (n := 53) rfl ?_
        refine x_iload_n dX6_told_53 (n := 54) rfl rfl 2 rfl ?_
        have b9 := hk
        refine x_iast hB0.i.i.a69 b9 rfl dX6_told_54 (n := 55) rfl ?_
        refine x_aload_n dX6_told_55 (n := 56) rfl rfl 0 rfl ?_
        refine x_dup dX6_told_56 (n := 57) rfl rfl ?_
        refine x_geti fl_X6_246_0 rfl hB0.i.i.i.1 ((gIo (by omega)).trans ((gIo (by omega)).trans (gIn (by decide)))) dX6_told_57 (n := 60) rfl ?_
        refine x_iconst dX6_told_60 (n := 61) rfl ic_1 ?_
        refine x_iadd dX6_told_61 (n := 62) rfl ?_
        refine x_puti fp_X6_246_0 rfl hB0.i.i.i.1 dX6_told_62 (n := 65) rfl ?_
        refine x_aload_n dX6_told_65 (n := 66) rfl rfl 0 rfl ?_
        refine x_geti fl_X6_246_0 rfl hB0.i.i.i.i.1 (gIs) dX6_told_66 (n := 69) rfl ?_
        exact x_iret rq ⟨(SH.rf (σ := σ0)).i.i.i.i, hv.symm⟩ dX6_told_69
      · have hk := hk.1 c7
        have hv := hv.trans (if_pos c7)
        refine x_iconst dX6_told_33 (n := 34) rfl ic_m1 ?_
        exact x_iret rq ⟨(SH.rf (σ := σ0)).i, hv.symm⟩ dX6_told_34
abbrev rm_X6_isSo : Room := { frames := 4, cells := 0, slots := 0, locals := 105 }
def lb_X6_isSo_55 (o : Nat) (x1 : Int32) (x2 : Int32) (Q : Int32 → Hp → Prop)  (K55 : Int32 × Int32 × Hp → Prop) (z : Int32 × Int32 × Hp) : Prop := match z with
  | (x3, x4, σ) => (x1 ≤ x4 → (x3 < 0 → Q 1 σ) ∧ (¬ x3 < 0 → (vp_in x1 20) ∧ ((vp_in ((11 * x2) + 10) 264) ∧ (((gI σ (o + 29) x1.toNatClampNeg) = (x3 + (gI σ (o + 16) ((11 * x2) + 10).toNatClampNeg)) → Q 1 σ) ∧ (¬ (gI σ (o + 29) x1.toNatClampNeg) = (x3 + (gI σ (o + 16) ((11 * x2) + 10).toNatClampNeg)) → Q 0 σ))))) ∧ (¬ x1 ≤ x4 → (vp_in x4 20) ∧ ((vp_in ((11 * x2) + 9) 264) ∧ (((gI σ (o + 28) x4.toNatClampNeg) = (gI σ (o + 16) ((11 * x2) + 9).toNatClampNeg) → (vp_in x4 20) ∧ (K55 (gI σ (o + 29) x4.toNatClampNeg, x4 + 1, σ))) ∧ (¬ (gI σ (o + 28) x4.toNatClampNeg) = (gI σ (o + 16) ((11 * x2) + 9).toNatClampNeg) → K55 (x3, x4 + 1, σ)))))
def wp_X6_isSo (o : Nat) (σ0 : Hp) (x1 : Int32) (Q : Int32 → Hp → Prop) : Prop := (vp_in x1 20) ∧ (∀ v2 : Int32, v2 = gI σ0 (o + 28) x1.toNatClampNeg → ((f_X6_isNote o σ0 v2) = 0 → Q 0 σ0) ∧ (¬ (f_X6_isNote o σ0 v2) = 0 → (vp_in x1 20) ∧ (wp_X6_canBe o σ0 v2 (gI σ0 (o + 29) x1.toNatClampNeg) (fun r10 s8 => (r10 = 0 → Q 0 s8) ∧ (¬ r10 = 0 → (vp_in (11 * v2) 264) ∧ (((f_X6_isOf (gI s8 (o + 16) (11 * v2).toNatClampNeg) 7) = 0 → Q 1 s8) ∧ (¬ (f_X6_isOf (gI s8 (o + 16) (11 * v2).toNatClampNeg) 7) = 0 → lp (lb_X6_isSo_55 o x1 v2 Q) ((-1), 0, s8))))))))
theorem xl_X6_isSo_55 (o : Nat) (σ0 : Hp) (Q : Int32 → Hp → Prop) (G : XE) (hB0 : MB o σ0) (rq : RQ G 0 0 (oI (fun r σ' => SH σ0 σ' ∧ Q r σ'))) (x1 : Int32) (x2 : Int32)    : ∀ z : Int32 × Int32 × Hp, SH σ0 z.2.2 → lp (lb_X6_isSo_55 o x1 x2 Q ) z → X G rm_X6_isSo cX6_isSo RX6 5 (some .boolean) z.2.2 0 0 55 [(0, .ref o), (1, .int x1), (2, .int x2), (3, .int z.1), (4, .int z.2.1)] [] := by
  intro z
  refine fun hs h => lp_X (P := fun z => SH σ0 z.2.2 → X G rm_X6_isSo cX6_isSo RX6 5 (some .boolean) z.2.2 0 0 55 [(0, .ref o), (1, .int x1), (2, .int x2), (3, .int z.1), (4, .int z.2.1)] []) ?_ h hs
  intro K55 hK55 z h hs
  obtain ⟨x3, x4, σ⟩ := z
  have hs : SH σ0 σ := hs
  have hB := hB0.sh hs
  simp only [lb_X6_isSo_55] at h
  show X G rm_X6_isSo cX6_isSo RX6 5 (some .boolean) σ 0 0 55 [(0, .ref o), (1, .int x1), (2, .int x2), (3, .int x3), (4, .int x4)] []
  have hK55 : ∀ z : (Int32 × Int32 × Hp), SH σ0 z.2.2 → K55 z → X G rm_X6_isSo cX6_isSo RX6 5 (some .boolean) z.2.2 0 0 55 [(0, .ref o), (1, .int x1), (2, .int x2), (3, .int z.1), (4, .int z.2.1)] [] := fun z hs h => hK55 z h hs
  refine x_iload dX6_isSo_55 (n := 57) rfl 4 rfl ?_
  refine x_iload_n dX6_isSo_57 (n := 58) rfl rfl 1 rfl ?_
  refine x_icmp_ge (tgt := 101) dX6_isSo_58 rfl (n := 61) rfl (fun c16 => ?_) (fun c16 => ?_)
  · have h := h.1 c16
    refine x_iload_n dX6_isSo_101 (n := 102) rfl rfl 3 rfl ?_
    refine x_if_lt (tgt := 128) dX6_isSo_102 rfl (n := 105) rfl (fun c17 => ?_) (fun c17 => ?_)
    · have h := h.1 c17
      refine x_iconst dX6_isSo_128 (n := 129) rfl ic_1 ?_
      refine x_goto (tgt := 133) dX6_isSo_129 rfl ?_
      exact x_zret rq ⟨hs, h⟩ isB1 dX6_isSo_133
    · have h := h.2 c17
      refine x_aload_n dX6_isSo_105 (n := 106) rfl rfl 0 rfl ?_
      refine x_getr fl_X6_101_0 rfl hB.1 hB.r69 dX6_isSo_106 (n := 109) rfl ?_
      refine x_iload_n dX6_isSo_109 (n := 110) rfl rfl 1 rfl ?_
      obtain ⟨b18, h⟩ := h
      refine x_iald hB.a69 b18 rfl dX6_isSo_110 (n := 111) rfl ?_
      refine x_iload_n dX6_isSo_111 (n := 112) rfl rfl 3 rfl ?_
      refine x_aload_n dX6_isSo_112 (n := 113) rfl rfl 0 rfl ?_
      refine x_getr fl_X6_60_0 rfl hB.1 hB.r40 dX6_isSo_113 (n := 116) rfl ?_
      refine x_bipush dX6_isSo_116 (n := 118) rfl bp_11 ?_
      refine x_iload_n dX6_isSo_118 (n := 119) rfl rfl 2 rfl ?_
      refine x_imul dX6_isSo_119 (n := 120) rfl ?_
      refine x_bipush dX6_isSo_120 (n := 122) rfl bp_10 ?_
      refine x_iadd dX6_isSo_122 (n := 123) rfl ?_
      obtain ⟨b19, h⟩ := h
      refine x_iald hB.a40 b19 rfl dX6_isSo_123 (n := 124) rfl ?_
      refine x_iadd dX6_isSo_124 (n := 125) rfl ?_
      refine x_icmp_ne (tgt := 132) dX6_isSo_125 rfl (n := 128) rfl (fun c20 => ?_) (fun c20 => ?_)
      · have h := h.2 c20
        refine x_iconst dX6_isSo_132 (n := 133) rfl ic_0 ?_
        exact x_zret rq ⟨hs, h⟩ isB0 dX6_isSo_133
      · have h := h.1 c20
        refine x_iconst dX6_isSo_128 (n := 129) rfl ic_1 ?_
        refine x_goto (tgt := 133) dX6_isSo_129 rfl ?_
        exact x_zret rq ⟨hs, h⟩ isB1 dX6_isSo_133
  · have h := h.2 c16
    refine x_aload_n dX6_isSo_61 (n := 62) rfl rfl 0 rfl ?_
    refine x_getr fl_X6_98_0 rfl hB.1 hB.r68 dX6_isSo_62 (n := 65) rfl ?_
    refine x_iload dX6_isSo_65 (n := 67) rfl 4 rfl ?_
    obtain ⟨b21, h⟩ := h
    refine x_iald hB.a68 b21 rfl dX6_isSo_67 (n := 68) rfl ?_
    refine x_aload_n dX6_isSo_68 (n := 69) rfl rfl 0 rfl ?_
    refine x_getr fl_X6_60_0 rfl hB.1 hB.r40 dX6_isSo_69 (n := 72) rfl ?_
    refine x_bipush dX6_isSo_72 (n := 74) rfl bp_11 ?_
    refine x_iload_n dX6_isSo_74 (n := 75) rfl rfl 2 rfl ?_
    refine x_imul dX6_isSo_75 (n := 76) rfl ?_
    refine x_bipush dX6_isSo_76 (n := 78) rfl bp_9 ?_
    refine x_iadd dX6_isSo_78 (n := 79) rfl ?_
    obtain ⟨b22, h⟩ := h
    refine x_iald hB.a40 b22 rfl dX6_isSo_79 (n := 80) rfl ?_
    refine x_icmp_ne (tgt := 93) dX6_isSo_80 rfl (n := 83) rfl (fun c23 => ?_) (fun c23 => ?_)
    · have h := h.2 c23
      refine x_iload_n dX6_isSo_93 (n := 94) rfl rfl 3 rfl ?_
      refine x_istore_n (lvs' := [(3, .int x3), (0, .ref o), (1, .int x1), (2, .int x2), (4, .int x4)]) dX6_isSo_94 (n := 95) rfl rfl (by decide) rfl ?_
      refine x_iinc (v := x4 + 1) (lvs' := [(4, .int (x4 + 1)), (3, .int x3), (0, .ref o), (1, .int x1), (2, .int x2)]) dX6_isSo_95 (n := 98) rfl 4 rfl rfl (by decide) rfl ?_
      refine x_goto (tgt := 55) dX6_isSo_98 rfl ?_
      exact x_sub [2, 3, 4, 1, 0] rfl (hK55 (x3, x4 + 1, σ) hs h)
    · have h := h.1 c23
      refine x_aload_n dX6_isSo_83 (n := 84) rfl rfl 0 rfl ?_
      refine x_getr fl_X6_101_0 rfl hB.1 hB.r69 dX6_isSo_84 (n := 87) rfl ?_
      refine x_iload dX6_isSo_87 (n := 89) rfl 4 rfl ?_
      obtain ⟨b24, h⟩ := h
      refine x_iald hB.a69 b24 rfl dX6_isSo_89 (n := 90) rfl ?_
      refine x_goto (tgt := 94) dX6_isSo_90 rfl ?_
      refine x_istore_n (lvs' := [(3, .int (gI σ (o + 29) x4.toNatClampNeg)), (0, .ref o), (1, .int x1), (2, .int x2), (4, .int x4)]) dX6_isSo_94 (n := 95) rfl rfl (by decide) rfl ?_
      refine x_iinc (v := x4 + 1) (lvs' := [(4, .int (x4 + 1)), (3, .int (gI σ (o + 29) x4.toNatClampNeg)), (0, .ref o), (1, .int x1), (2, .int x2)]) dX6_isSo_95 (n := 98) rfl 4 rfl rfl (by decide) rfl ?_
      refine x_goto (tgt := 55) dX6_isSo_98 rfl ?_
      exact x_sub [2, 3, 4, 1, 0] rfl (hK55 (gI σ (o + 29) x4.toNatClampNeg, x4 + 1, σ) hs h)
theorem met_X6_isSo (o : Nat) (σ0 : Hp) (x1 : Int32) (Q : Int32 → Hp → Prop) (hB0 : MB o σ0) (h : wp_X6_isSo o σ0 x1 Q) : MetX yX6_isSo cX6_isSo 5 (some .boolean) rm_X6_isSo σ0 [.ref o, .int x1] (oI (fun r σ' => SH σ0 σ' ∧ Q r σ')) 0 0 := by
  refine metX_of (own := RX6) (lvs := [(0, .ref o), (1, .int x1)]) (by decide) rfl (Nat.le_of_ble_eq_true rfl) rfl (fun G rq => ?_)
  unfold wp_X6_isSo at h
  refine x_aload_n dX6_isSo_0 (n := 1) rfl rfl 0 rfl ?_
  refine x_getr fl_X6_98_0 rfl hB0.1 hB0.r68 dX6_isSo_1 (n := 4) rfl ?_
  refine x_iload_n dX6_isSo_4 (n := 5) rfl rfl 1 rfl ?_
  obtain ⟨b1, h⟩ := h
  refine x_iald hB0.a68 b1 rfl dX6_isSo_5 (n := 6) rfl ?_
  refine x_topi (fun v2 e3 => ?_)
  have h := h v2 e3
  refine x_istore_n (lvs' := [(2, .int v2), (0, .ref o), (1, .int x1)]) dX6_isSo_6 (n := 7) rfl rfl (by decide) rfl ?_
  refine x_aload_n dX6_isSo_7 (n := 8) rfl rfl 1 rfl ?_
  refine x_iload_n dX6_isSo_8 (n := 9) rfl rfl 0 rfl ?_
  refine x_cVip (As := [.int v2]) (rest := []) cv_X6_506 ck0 (met_X6_isNote o σ0 v2 hB0) hB0.1 (by decide) rfl rfl rfl dX6_isSo_9 (n := 12) rfl (fun r5 q => ?_)
  subst q
  refine x_if_eq (tgt := 29) dX6_isSo_12 rfl (n := 15) rfl (fun c6 => ?_) (fun c6 => ?_)
  · have h := h.1 c6
    refine x_iconst dX6_isSo_29 (n := 30) rfl ic_0 ?_
    exact x_zret rq ⟨(SH.rf (σ := σ0)), h⟩ isB0 dX6_isSo_30
  · have h := h.2 c6
    refine x_aload_n dX6_isSo_15 (n := 16) rfl rfl 1 rfl ?_
    refine x_iload_n dX6_isSo_16 (n := 17) rfl rfl 0 rfl ?_
    refine x_aload_n dX6_isSo_17 (n := 18) rfl rfl 1 rfl ?_
    refine x_getr fl_X6_101_0 rfl hB0.1 hB0.r69 dX6_isSo_18 (n := 21) rfl ?_
    refine x_iload_n dX6_isSo_21 (n := 22) rfl rfl 2 rfl ?_
    obtain ⟨b7, h⟩ := h
    refine x_iald hB0.a69 b7 rfl dX6_isSo_22 (n := 23) rfl ?_
    refine x_cVim (As := [.int v2, .int (gI σ0 (o + 29) x1.toNatClampNeg)]) (rest := []) cv_X6_494 ck0 (met_X6_canBe o σ0 v2 (gI σ0 (o + 29) x1.toNatClampNeg) _ hB0 h) hB0.1 (by decide) rfl rfl rfl dX6_isSo_23 (n := 26) rfl (fun r10 s8 hs9 h => ?_)
    have hs9t := (SH.rf (σ := σ0)).tr hs9; have hBs8 := hB0.sh hs9t
    refine x_if_ne (tgt := 31) dX6_isSo_26 rfl (n := 29) rfl (fun c11 => ?_) (fun c11 => ?_)
    · have h := h.2 c11
      refine x_aload_n dX6_isSo_31 (n := 32) rfl rfl 1 rfl ?_
      refine x_getr fl_X6_60_0 rfl hBs8.1 hBs8.r40 dX6_isSo_32 (n := 35) rfl ?_
      refine x_bipush dX6_isSo_35 (n := 37) rfl bp_11 ?_
      refine x_iload_n dX6_isSo_37 (n := 38) rfl rfl 0 rfl ?_
      refine x_imul dX6_isSo_38 (n := 39) rfl ?_
      obtain ⟨b12, h⟩ := h
      refine x_iald hBs8.a40 b12 rfl dX6_isSo_39 (n := 40) rfl ?_
      refine x_bipush dX6_isSo_40 (n := 42) rfl bp_7 ?_
      refine x_cSip (As := [.int (gI s8 (o + 16) (11 * v2).toNatClampNeg), .int 7]) (rest := []) cs_X6_297 (met_X6_isOf s8 (gI s8 (o + 16) (11 * v2).toNatClampNeg) 7 ) (by decide) rfl rfl rfl dX6_isSo_42 (n := 45) rfl (fun r14 q => ?_)
      subst q
      refine x_if_ne (tgt := 50) dX6_isSo_45 rfl (n := 48) rfl (fun c15 => ?_) (fun c15 => ?_)
      · have h := h.2 c15
        refine x_iconst dX6_isSo_50 (n := 51) rfl ic_m1 ?_
        refine x_istore_n (lvs' := [(3, .int (-1)), (2, .int v2), (0, .ref o), (1, .int x1)]) dX6_isSo_51 (n := 52) rfl rfl (by decide) rfl ?_
        refine x_iconst dX6_isSo_52 (n := 53) rfl ic_0 ?_
        refine x_istore (lvs' := [(4, .int 0), (3, .int (-1)), (2, .int v2), (0, .ref o), (1, .int x1)]) dX6_isSo_53 (n := 55) rfl (by decide) rfl ?_
        exact x_sub [3, 4, 2, 1, 0] rfl (xl_X6_isSo_55 o σ0 Q G hB0 rq x1 v2 ((-1), 0, s8) hs9t h)
      · have h := h.1 c15
        refine x_iconst dX6_isSo_48 (n := 49) rfl ic_1 ?_
        exact x_zret rq ⟨hs9t, h⟩ isB1 dX6_isSo_49
    · have h := h.1 c11
      refine x_iconst dX6_isSo_29 (n := 30) rfl ic_0 ?_
      exact x_zret rq ⟨hs9t, h⟩ isB0 dX6_isSo_30
abbrev rm_X6_judged : Room := { frames := 5, cells := 0, slots := 0, locals := 129 }
def lb_X6_judged_7 (o : Nat)  (Q : Int32 → Hp → Prop)  (K7 : Int32 × Hp → Prop) (z : Int32 × Hp) : Prop := match z with
  | (x1, σ) => ((gI σ o 67) ≤ x1 → Q (gI σ o 67) σ) ∧ (¬ (gI σ o 67) ≤ x1 → wp_X6_isSo o σ x1 (fun r4 s2 => (r4 = 0 → Q x1 s2) ∧ (¬ r4 = 0 → K7 (x1 + 1, s2))))
def wp_X6_judged (o : Nat) (σ0 : Hp) (Q : Int32 → Hp → Prop) : Prop := lp (lb_X6_judged_7 o Q) (0, pI σ0 o 2 0)
theorem xl_X6_judged_7 (o : Nat) (σ0 : Hp) (Q : Int32 → Hp → Prop) (G : XE) (hB0 : MB o σ0) (rq : RQ G 0 0 (oI (fun r σ' => SH σ0 σ' ∧ Q r σ')))     : ∀ z : Int32 × Hp, SH σ0 z.2 → lp (lb_X6_judged_7 o  Q ) z → X G rm_X6_judged cX6_judged RX6 2 (some .int) z.2 0 0 7 [(0, .ref o), (1, .int z.1)] [] := by
  intro z
  refine fun hs h => lp_X (P := fun z => SH σ0 z.2 → X G rm_X6_judged cX6_judged RX6 2 (some .int) z.2 0 0 7 [(0, .ref o), (1, .int z.1)] []) ?_ h hs
  intro K7 hK7 z h hs
  obtain ⟨x1, σ⟩ := z
  have hs : SH σ0 σ := hs
  have hB := hB0.sh hs
  simp only [lb_X6_judged_7] at h
  show X G rm_X6_judged cX6_judged RX6 2 (some .int) σ 0 0 7 [(0, .ref o), (1, .int x1)] []
  have hK7 : ∀ z : (Int32 × Hp), SH σ0 z.2 → K7 z → X G rm_X6_judged cX6_judged RX6 2 (some .int) z.2 0 0 7 [(0, .ref o), (1, .int z.1)] [] := fun z hs h => hK7 z h hs
  refine x_iload_n dX6_judged_7 (n := 8) rfl rfl 1 rfl ?_
  refine x_aload_n dX6_judged_8 (n := 9) rfl rfl 0 rfl ?_
  refine x_geti fl_X6_246_0 rfl hB.1 rfl dX6_judged_9 (n := 12) rfl ?_
  refine x_icmp_ge (tgt := 31) dX6_judged_12 rfl (n := 15) rfl (fun c1 => ?_) (fun c1 => ?_)
  · have h := h.1 c1
    refine x_aload_n dX6_judged_31 (n := 32) rfl rfl 0 rfl ?_
    refine x_geti fl_X6_246_0 rfl hB.1 rfl dX6_judged_32 (n := 35) rfl ?_
    exact x_iret rq ⟨hs, h⟩ dX6_judged_35
  · have h := h.2 c1
    refine x_aload_n dX6_judged_15 (n := 16) rfl rfl 0 rfl ?_
    refine x_iload_n dX6_judged_16 (n := 17) rfl rfl 1 rfl ?_
    refine x_cVim (As := [.int x1]) (rest := []) cv_X6_537 ck0 (met_X6_isSo o σ x1 _ hB h) hB.1 (by decide) rfl rfl rfl dX6_judged_17 (n := 20) rfl (fun r4 s2 hs3 h => ?_)
    have hs3t := hs.tr hs3; have hBs2 := hB0.sh hs3t
    refine x_if_ne (tgt := 25) dX6_judged_20 rfl (n := 23) rfl (fun c5 => ?_) (fun c5 => ?_)
    · have h := h.2 c5
      refine x_iinc (v := x1 + 1) (lvs' := [(1, .int (x1 + 1)), (0, .ref o)]) dX6_judged_25 (n := 28) rfl 1 rfl rfl (by decide) rfl ?_
      refine x_goto (tgt := 7) dX6_judged_28 rfl ?_
      exact x_sub [1, 0] rfl (hK7 (x1 + 1, s2) hs3t h)
    · have h := h.1 c5
      refine x_iload_n dX6_judged_23 (n := 24) rfl rfl 1 rfl ?_
      exact x_iret rq ⟨hs3t, h⟩ dX6_judged_24
theorem met_X6_judged (o : Nat) (σ0 : Hp) (Q : Int32 → Hp → Prop) (hB0 : MB o σ0) (h : wp_X6_judged o σ0 Q) : MetX yX6_judged cX6_judged 2 (some .int) rm_X6_judged σ0 [.ref o] (oI (fun r σ' => SH σ0 σ' ∧ Q r σ')) 0 0 := by
  refine metX_of (own := RX6) (lvs := [(0, .ref o)]) (by decide) rfl (Nat.le_of_ble_eq_true rfl) rfl (fun G rq => ?_)
  unfold wp_X6_judged at h
  refine x_aload_n dX6_judged_0 (n := 1) rfl rfl 0 rfl ?_
  refine x_iconst dX6_judged_1 (n := 2) rfl ic_0 ?_
  refine x_puti fp_X6_119_0 rfl hB0.1 dX6_judged_2 (n := 5) rfl ?_
  refine x_iconst dX6_judged_5 (n := 6) rfl ic_0 ?_
  refine x_istore_n (lvs' := [(1, .int 0), (0, .ref o)]) dX6_judged_6 (n := 7) rfl rfl (by decide) rfl ?_
  exact x_sub [1, 0] rfl (xl_X6_judged_7 o σ0 Q G hB0 rq (0, pI σ0 o 2 0) (SH.rf (σ := σ0)).i h)
abbrev rm_X6_forget : Room := { frames := 0, cells := 0, slots := 0, locals := 0 }
def f_X6_forget (o : Nat) (σ0 : Hp) : Int32 × Hp := (gI σ0 o 67, pI (pI σ0 o 2 0) o 67 0)
theorem met_X6_forget (o : Nat) (σ0 : Hp) (hB0 : MB o σ0) : MetX yX6_forget cX6_forget 2 (some .int) rm_X6_forget σ0 [.ref o] (oI (fun r σ' => SH σ0 σ' ∧ (r, σ') = (f_X6_forget o σ0))) 0 0 := by
  refine metX_of (own := RX6) (lvs := [(0, .ref o)]) (by decide) rfl (Nat.le_of_ble_eq_true rfl) rfl (fun G rq => ?_)
  have hv : (f_X6_forget o σ0) = _ := f_X6_forget.eq_1 _ _
  refine x_aload_n dX6_forget_0 (n := 1) rfl rfl 0 rfl ?_
  refine x_iconst dX6_forget_1 (n := 2) rfl ic_0 ?_
  refine x_puti fp_X6_119_0 rfl hB0.1 dX6_forget_2 (n := 5) rfl ?_
  refine x_aload_n dX6_forget_5 (n := 6) rfl rfl 0 rfl ?_
  refine x_geti fl_X6_246_0 rfl hB0.i.1 (gIn (by decide)) dX6_forget_6 (n := 9) rfl ?_
  refine x_istore_n (lvs' := [(1, .int (gI σ0 o 67)), (0, .ref o)]) dX6_forget_9 (n := 10) rfl rfl (by decide) rfl ?_
  refine x_aload_n dX6_forget_10 (n := 11) rfl rfl 1 rfl ?_
  refine x_iconst dX6_forget_11 (n := 12) rfl ic_0 ?_
  refine x_puti fp_X6_246_0 rfl hB0.i.1 dX6_forget_12 (n := 15) rfl ?_
  refine x_iload_n dX6_forget_15 (n := 16) rfl rfl 0 rfl ?_
  exact x_iret rq ⟨(SH.rf (σ := σ0)).i.i, hv.symm⟩ dX6_forget_16
abbrev rm_X6_keep : Room := { frames := 0, cells := 0, slots := 0, locals := 0 }
def lb_X6_keep_55 (o : Nat)  (Q : Int32 → Hp → Prop)  (K55 : Int32 × Hp → Prop) (z : Int32 × Hp) : Prop := match z with
  | (x1, σ) => (20 ≤ x1 → Q (gI σ o 16) σ) ∧ (¬ 20 ≤ x1 → (vp_in x1 20) ∧ ((vp_in x1 20) ∧ ((vp_in x1 20) ∧ ((vp_in x1 20) ∧ (K55 (x1 + 1, pI (pI σ (o + 31) x1.toNatClampNeg (gI σ (o + 28) x1.toNatClampNeg)) (o + 32) x1.toNatClampNeg (gI (pI σ (o + 31) x1.toNatClampNeg (gI σ (o + 28) x1.toNatClampNeg)) (o + 29) x1.toNatClampNeg)))))))
def lb_X6_keep_28 (o : Nat)  (Q : Int32 → Hp → Prop)  (K28 : Int32 × Hp → Prop) (z : Int32 × Hp) : Prop := match z with
  | (x1, σ) => (132 ≤ x1 → lp (lb_X6_keep_55 o Q) (0, σ)) ∧ (¬ 132 ≤ x1 → (vp_in x1 264) ∧ ((vp_in x1 132) ∧ (K28 (x1 + 1, pI σ (o + 30) x1.toNatClampNeg (gI σ (o + 16) x1.toNatClampNeg)))))
def wp_X6_keep (o : Nat) (σ0 : Hp) (Q : Int32 → Hp → Prop) : Prop := lp (lb_X6_keep_28 o Q) (0, pI (pI (pI (pI σ0 o 2 0) o 70 1) o 71 (gI σ0 o 16)) o 72 (gI σ0 o 67))
theorem xl_X6_keep_55 (o : Nat) (σ0 : Hp) (Q : Int32 → Hp → Prop) (G : XE) (hB0 : MB o σ0) (rq : RQ G 0 0 (oI (fun r σ' => SH σ0 σ' ∧ Q r σ')))     : ∀ z : Int32 × Hp, SH σ0 z.2 → lp (lb_X6_keep_55 o  Q ) z → X G rm_X6_keep cX6_keep RX6 2 (some .int) z.2 0 0 55 [(0, .ref o), (1, .int z.1)] [] := by
  intro z
  refine fun hs h => lp_X (P := fun z => SH σ0 z.2 → X G rm_X6_keep cX6_keep RX6 2 (some .int) z.2 0 0 55 [(0, .ref o), (1, .int z.1)] []) ?_ h hs
  intro K55 hK55 z h hs
  obtain ⟨x1, σ⟩ := z
  have hs : SH σ0 σ := hs
  have hB := hB0.sh hs
  simp only [lb_X6_keep_55] at h
  show X G rm_X6_keep cX6_keep RX6 2 (some .int) σ 0 0 55 [(0, .ref o), (1, .int x1)] []
  have hK55 : ∀ z : (Int32 × Hp), SH σ0 z.2 → K55 z → X G rm_X6_keep cX6_keep RX6 2 (some .int) z.2 0 0 55 [(0, .ref o), (1, .int z.1)] [] := fun z hs h => hK55 z h hs
  refine x_iload_n dX6_keep_55 (n := 56) rfl rfl 1 rfl ?_
  refine x_bipush dX6_keep_56 (n := 58) rfl bp_20 ?_
  refine x_icmp_ge (tgt := 91) dX6_keep_58 rfl (n := 61) rfl (fun c4 => ?_) (fun c4 => ?_)
  · have h := h.1 c4
    refine x_aload_n dX6_keep_91 (n := 92) rfl rfl 0 rfl ?_
    refine x_geti fl_X6_229_0 rfl hB.1 rfl dX6_keep_92 (n := 95) rfl ?_
    exact x_iret rq ⟨hs, h⟩ dX6_keep_95
  · have h := h.2 c4
    refine x_aload_n dX6_keep_61 (n := 62) rfl rfl 0 rfl ?_
    refine x_getr fl_X6_107_0 rfl hB.1 hB.r74 dX6_keep_62 (n := 65) rfl ?_
    refine x_iload_n dX6_keep_65 (n := 66) rfl rfl 1 rfl ?_
    refine x_aload_n dX6_keep_66 (n := 67) rfl rfl 0 rfl ?_
    refine x_getr fl_X6_98_0 rfl hB.1 hB.r68 dX6_keep_67 (n := 70) rfl ?_
    refine x_iload_n dX6_keep_70 (n := 71) rfl rfl 1 rfl ?_
    obtain ⟨b5, h⟩ := h
    refine x_iald hB.a68 b5 rfl dX6_keep_71 (n := 72) rfl ?_
    obtain ⟨b6, h⟩ := h
    refine x_iast hB.a74 b6 rfl dX6_keep_72 (n := 73) rfl ?_
    refine x_aload_n dX6_keep_73 (n := 74) rfl rfl 0 rfl ?_
    refine x_getr fl_X6_110_0 rfl hB.i.1 hB.i.r75 dX6_keep_74 (n := 77) rfl ?_
    refine x_iload_n dX6_keep_77 (n := 78) rfl rfl 1 rfl ?_
    refine x_aload_n dX6_keep_78 (n := 79) rfl rfl 0 rfl ?_
    refine x_getr fl_X6_101_0 rfl hB.i.1 hB.i.r69 dX6_keep_79 (n := 82) rfl ?_
    refine x_iload_n dX6_keep_82 (n := 83) rfl rfl 1 rfl ?_
    obtain ⟨b7, h⟩ := h
    refine x_iald hB.i.a69 b7 rfl dX6_keep_83 (n := 84) rfl ?_
    obtain ⟨b8, h⟩ := h
    refine x_iast hB.i.a75 b8 rfl dX6_keep_84 (n := 85) rfl ?_
    refine x_iinc (v := x1 + 1) (lvs' := [(1, .int (x1 + 1)), (0, .ref o)]) dX6_keep_85 (n := 88) rfl 1 rfl rfl (by decide) rfl ?_
    refine x_goto (tgt := 55) dX6_keep_88 rfl ?_
    exact x_sub [1, 0] rfl (hK55 (x1 + 1, pI (pI σ (o + 31) x1.toNatClampNeg (gI σ (o + 28) x1.toNatClampNeg)) (o + 32) x1.toNatClampNeg (gI (pI σ (o + 31) x1.toNatClampNeg (gI σ (o + 28) x1.toNatClampNeg)) (o + 29) x1.toNatClampNeg)) hs.i.i h)
theorem xl_X6_keep_28 (o : Nat) (σ0 : Hp) (Q : Int32 → Hp → Prop) (G : XE) (hB0 : MB o σ0) (rq : RQ G 0 0 (oI (fun r σ' => SH σ0 σ' ∧ Q r σ')))     : ∀ z : Int32 × Hp, SH σ0 z.2 → lp (lb_X6_keep_28 o  Q ) z → X G rm_X6_keep cX6_keep RX6 2 (some .int) z.2 0 0 28 [(0, .ref o), (1, .int z.1)] [] := by
  intro z
  refine fun hs h => lp_X (P := fun z => SH σ0 z.2 → X G rm_X6_keep cX6_keep RX6 2 (some .int) z.2 0 0 28 [(0, .ref o), (1, .int z.1)] []) ?_ h hs
  intro K28 hK28 z h hs
  obtain ⟨x1, σ⟩ := z
  have hs : SH σ0 σ := hs
  have hB := hB0.sh hs
  simp only [lb_X6_keep_28] at h
  show X G rm_X6_keep cX6_keep RX6 2 (some .int) σ 0 0 28 [(0, .ref o), (1, .int x1)] []
  have hK28 : ∀ z : (Int32 × Hp), SH σ0 z.2 → K28 z → X G rm_X6_keep cX6_keep RX6 2 (some .int) z.2 0 0 28 [(0, .ref o), (1, .int z.1)] [] := fun z hs h => hK28 z h hs
  refine x_iload_n dX6_keep_28 (n := 29) rfl rfl 1 rfl ?_
  refine x_sipush dX6_keep_29 (n := 32) rfl sp_132 ?_
  refine x_icmp_ge (tgt := 53) dX6_keep_32 rfl (n := 35) rfl (fun c1 => ?_) (fun c1 => ?_)
  · have h := h.1 c1
    refine x_iconst dX6_keep_53 (n := 54) rfl ic_0 ?_
    refine x_istore_n (lvs' := [(1, .int 0), (0, .ref o)]) dX6_keep_54 (n := 55) rfl rfl (by decide) rfl ?_
    exact x_sub [1, 0] rfl (xl_X6_keep_55 o σ0 Q G hB0 rq (0, σ) hs h)
  · have h := h.2 c1
    refine x_aload_n dX6_keep_35 (n := 36) rfl rfl 0 rfl ?_
    refine x_getr fl_X6_104_0 rfl hB.1 hB.r73 dX6_keep_36 (n := 39) rfl ?_
    refine x_iload_n dX6_keep_39 (n := 40) rfl rfl 1 rfl ?_
    refine x_aload_n dX6_keep_40 (n := 41) rfl rfl 0 rfl ?_
    refine x_getr fl_X6_60_0 rfl hB.1 hB.r40 dX6_keep_41 (n := 44) rfl ?_
    refine x_iload_n dX6_keep_44 (n := 45) rfl rfl 1 rfl ?_
    obtain ⟨b2, h⟩ := h
    refine x_iald hB.a40 b2 rfl dX6_keep_45 (n := 46) rfl ?_
    obtain ⟨b3, h⟩ := h
    refine x_iast hB.a73 b3 rfl dX6_keep_46 (n := 47) rfl ?_
    refine x_iinc (v := x1 + 1) (lvs' := [(1, .int (x1 + 1)), (0, .ref o)]) dX6_keep_47 (n := 50) rfl 1 rfl rfl (by decide) rfl ?_
    refine x_goto (tgt := 28) dX6_keep_50 rfl ?_
    exact x_sub [1, 0] rfl (hK28 (x1 + 1, pI σ (o + 30) x1.toNatClampNeg (gI σ (o + 16) x1.toNatClampNeg)) hs.i h)
theorem met_X6_keep (o : Nat) (σ0 : Hp) (Q : Int32 → Hp → Prop) (hB0 : MB o σ0) (h : wp_X6_keep o σ0 Q) : MetX yX6_keep cX6_keep 2 (some .int) rm_X6_keep σ0 [.ref o] (oI (fun r σ' => SH σ0 σ' ∧ Q r σ')) 0 0 := by
  refine metX_of (own := RX6) (lvs := [(0, .ref o)]) (by decide) rfl (Nat.le_of_ble_eq_true rfl) rfl (fun G rq => ?_)
  unfold wp_X6_keep at h
  refine x_aload_n dX6_keep_0 (n := 1) rfl rfl 0 rfl ?_
  refine x_iconst dX6_keep_1 (n := 2) rfl ic_0 ?_
  refine x_puti fp_X6_119_0 rfl hB0.1 dX6_keep_2 (n := 5) rfl ?_
  refine x_aload_n dX6_keep_5 (n := 6) rfl rfl 0 rfl ?_
  refine x_iconst dX6_keep_6 (n := 7) rfl ic_1 ?_
  refine x_putz fp_X6_252_0 rfl hB0.i.1 isB1 dX6_keep_7 (n := 10) rfl ?_
  refine x_aload_n dX6_keep_10 (n := 11) rfl rfl 0 rfl ?_
  refine x_aload_n dX6_keep_11 (n := 12) rfl rfl 0 rfl ?_
  refine x_geti fl_X6_229_0 rfl hB0.i.i.1 ((gIn (by decide)).trans (gIn (by decide))) dX6_keep_12 (n := 15) rfl ?_
  refine x_puti fp_X6_540_0 rfl hB0.i.i.1 dX6_keep_15 (n := 18) rfl ?_
  refine x_aload_n dX6_keep_18 (n := 19) rfl rfl 0 rfl ?_
  refine x_aload_n dX6_keep_19 (n := 20) rfl rfl 0 rfl ?_
  refine x_geti fl_X6_246_0 rfl hB0.i.i.i.1 ((gIn (by decide)).trans ((gIn (by decide)).trans (gIn (by decide)))) dX6_keep_20 (n := 23) rfl ?_
  refine x_puti fp_X6_543_0 rfl hB0.i.i.i.1 dX6_keep_23 (n := 26) rfl ?_
  refine x_iconst dX6_keep_26 (n := 27) rfl ic_0 ?_
  refine x_istore_n (lvs' := [(1, .int 0), (0, .ref o)]) dX6_keep_27 (n := 28) rfl rfl (by decide) rfl ?_
  exact x_sub [1, 0] rfl (xl_X6_keep_28 o σ0 Q G hB0 rq (0, pI (pI (pI (pI σ0 o 2 0) o 70 1) o 71 (gI σ0 o 16)) o 72 (gI σ0 o 67)) (SH.rf (σ := σ0)).i.i.i.i h)
abbrev rm_X6_back : Room := { frames := 0, cells := 0, slots := 0, locals := 0 }
def lb_X6_back_59 (o : Nat)  (Q : Int32 → Hp → Prop)  (K59 : Int32 × Hp → Prop) (z : Int32 × Hp) : Prop := match z with
  | (x1, σ) => (20 ≤ x1 → Q (gI σ o 16) (pI σ o 59 0)) ∧ (¬ 20 ≤ x1 → (vp_in x1 20) ∧ ((vp_in x1 20) ∧ ((vp_in x1 20) ∧ ((vp_in x1 20) ∧ (K59 (x1 + 1, pI (pI σ (o + 28) x1.toNatClampNeg (gI σ (o + 31) x1.toNatClampNeg)) (o + 29) x1.toNatClampNeg (gI (pI σ (o + 28) x1.toNatClampNeg (gI σ (o + 31) x1.toNatClampNeg)) (o + 32) x1.toNatClampNeg)))))))
def lb_X6_back_32 (o : Nat)  (Q : Int32 → Hp → Prop)  (K32 : Int32 × Hp → Prop) (z : Int32 × Hp) : Prop := match z with
  | (x1, σ) => (132 ≤ x1 → lp (lb_X6_back_59 o Q) (0, σ)) ∧ (¬ 132 ≤ x1 → (vp_in x1 132) ∧ ((vp_in x1 264) ∧ (K32 (x1 + 1, pI σ (o + 16) x1.toNatClampNeg (gI σ (o + 30) x1.toNatClampNeg)))))
def wp_X6_back (o : Nat) (σ0 : Hp) (Q : Int32 → Hp → Prop) : Prop := ((gI σ0 o 70) = 0 → Q (-1) (pI σ0 o 2 0)) ∧ (¬ (gI σ0 o 70) = 0 → lp (lb_X6_back_32 o Q) (0, pI (pI (pI σ0 o 2 0) o 16 (gI σ0 o 71)) o 67 (gI σ0 o 72)))
theorem xl_X6_back_59 (o : Nat) (σ0 : Hp) (Q : Int32 → Hp → Prop) (G : XE) (hB0 : MB o σ0) (rq : RQ G 0 0 (oI (fun r σ' => SH σ0 σ' ∧ Q r σ')))     : ∀ z : Int32 × Hp, SH σ0 z.2 → lp (lb_X6_back_59 o  Q ) z → X G rm_X6_back cX6_back RX6 2 (some .int) z.2 0 0 59 [(0, .ref o), (1, .int z.1)] [] := by
  intro z
  refine fun hs h => lp_X (P := fun z => SH σ0 z.2 → X G rm_X6_back cX6_back RX6 2 (some .int) z.2 0 0 59 [(0, .ref o), (1, .int z.1)] []) ?_ h hs
  intro K59 hK59 z h hs
  obtain ⟨x1, σ⟩ := z
  have hs : SH σ0 σ := hs
  have hB := hB0.sh hs
  simp only [lb_X6_back_59] at h
  show X G rm_X6_back cX6_back RX6 2 (some .int) σ 0 0 59 [(0, .ref o), (1, .int x1)] []
  have hK59 : ∀ z : (Int32 × Hp), SH σ0 z.2 → K59 z → X G rm_X6_back cX6_back RX6 2 (some .int) z.2 0 0 59 [(0, .ref o), (1, .int z.1)] [] := fun z hs h => hK59 z h hs
  refine x_iload_n dX6_back_59 (n := 60) rfl rfl 1 rfl ?_
  refine x_bipush dX6_back_60 (n := 62) rfl bp_20 ?_
  refine x_icmp_ge (tgt := 95) dX6_back_62 rfl (n := 65) rfl (fun c5 => ?_) (fun c5 => ?_)
  · have h := h.1 c5
    refine x_aload_n dX6_back_95 (n := 96) rfl rfl 0 rfl ?_
    refine x_iconst dX6_back_96 (n := 97) rfl ic_0 ?_
    refine x_puti fp_X6_249_0 rfl hB.1 dX6_back_97 (n := 100) rfl ?_
    refine x_aload_n dX6_back_100 (n := 101) rfl rfl 0 rfl ?_
    refine x_geti fl_X6_229_0 rfl hB.i.1 (gIn (by decide)) dX6_back_101 (n := 104) rfl ?_
    exact x_iret rq ⟨hs.i, h⟩ dX6_back_104
  · have h := h.2 c5
    refine x_aload_n dX6_back_65 (n := 66) rfl rfl 0 rfl ?_
    refine x_getr fl_X6_98_0 rfl hB.1 hB.r68 dX6_back_66 (n := 69) rfl ?_
    refine x_iload_n dX6_back_69 (n := 70) rfl rfl 1 rfl ?_
    refine x_aload_n dX6_back_70 (n := 71) rfl rfl 0 rfl ?_
    refine x_getr fl_X6_107_0 rfl hB.1 hB.r74 dX6_back_71 (n := 74) rfl ?_
    refine x_iload_n dX6_back_74 (n := 75) rfl rfl 1 rfl ?_
    obtain ⟨b6, h⟩ := h
    refine x_iald hB.a74 b6 rfl dX6_back_75 (n := 76) rfl ?_
    obtain ⟨b7, h⟩ := h
    refine x_iast hB.a68 b7 rfl dX6_back_76 (n := 77) rfl ?_
    refine x_aload_n dX6_back_77 (n := 78) rfl rfl 0 rfl ?_
    refine x_getr fl_X6_101_0 rfl hB.i.1 hB.i.r69 dX6_back_78 (n := 81) rfl ?_
    refine x_iload_n dX6_back_81 (n := 82) rfl rfl 1 rfl ?_
    refine x_aload_n dX6_back_82 (n := 83) rfl rfl 0 rfl ?_
    refine x_getr fl_X6_110_0 rfl hB.i.1 hB.i.r75 dX6_back_83 (n := 86) rfl ?_
    refine x_iload_n dX6_back_86 (n := 87) rfl rfl 1 rfl ?_
    obtain ⟨b8, h⟩ := h
    refine x_iald hB.i.a75 b8 rfl dX6_back_87 (n := 88) rfl ?_
    obtain ⟨b9, h⟩ := h
    refine x_iast hB.i.a69 b9 rfl dX6_back_88 (n := 89) rfl ?_
    refine x_iinc (v := x1 + 1) (lvs' := [(1, .int (x1 + 1)), (0, .ref o)]) dX6_back_89 (n := 92) rfl 1 rfl rfl (by decide) rfl ?_
    refine x_goto (tgt := 59) dX6_back_92 rfl ?_
    exact x_sub [1, 0] rfl (hK59 (x1 + 1, pI (pI σ (o + 28) x1.toNatClampNeg (gI σ (o + 31) x1.toNatClampNeg)) (o + 29) x1.toNatClampNeg (gI (pI σ (o + 28) x1.toNatClampNeg (gI σ (o + 31) x1.toNatClampNeg)) (o + 32) x1.toNatClampNeg)) hs.i.i h)
theorem xl_X6_back_32 (o : Nat) (σ0 : Hp) (Q : Int32 → Hp → Prop) (G : XE) (hB0 : MB o σ0) (rq : RQ G 0 0 (oI (fun r σ' => SH σ0 σ' ∧ Q r σ')))     : ∀ z : Int32 × Hp, SH σ0 z.2 → lp (lb_X6_back_32 o  Q ) z → X G rm_X6_back cX6_back RX6 2 (some .int) z.2 0 0 32 [(0, .ref o), (1, .int z.1)] [] := by
  intro z
  refine fun hs h => lp_X (P := fun z => SH σ0 z.2 → X G rm_X6_back cX6_back RX6 2 (some .int) z.2 0 0 32 [(0, .ref o), (1, .int z.1)] []) ?_ h hs
  intro K32 hK32 z h hs
  obtain ⟨x1, σ⟩ := z
  have hs : SH σ0 σ := hs
  have hB := hB0.sh hs
  simp only [lb_X6_back_32] at h
  show X G rm_X6_back cX6_back RX6 2 (some .int) σ 0 0 32 [(0, .ref o), (1, .int x1)] []
  have hK32 : ∀ z : (Int32 × Hp), SH σ0 z.2 → K32 z → X G rm_X6_back cX6_back RX6 2 (some .int) z.2 0 0 32 [(0, .ref o), (1, .int z.1)] [] := fun z hs h => hK32 z h hs
  refine x_iload_n dX6_back_32 (n := 33) rfl rfl 1 rfl ?_
  refine x_sipush dX6_back_33 (n := 36) rfl sp_132 ?_
  refine x_icmp_ge (tgt := 57) dX6_back_36 rfl (n := 39) rfl (fun c2 => ?_) (fun c2 => ?_)
  · have h := h.1 c2
    refine x_iconst dX6_back_57 (n := 58) rfl ic_0 ?_
    refine x_istore_n (lvs' := [(1, .int 0), (0, .ref o)]) dX6_back_58 (n := 59) rfl rfl (by decide) rfl ?_
    exact x_sub [1, 0] rfl (xl_X6_back_59 o σ0 Q G hB0 rq (0, σ) hs h)
  · have h := h.2 c2
    refine x_aload_n dX6_back_39 (n := 40) rfl rfl 0 rfl ?_
    refine x_getr fl_X6_60_0 rfl hB.1 hB.r40 dX6_back_40 (n := 43) rfl ?_
    refine x_iload_n dX6_back_43 (n := 44) rfl rfl 1 rfl ?_
    refine x_aload_n dX6_back_44 (n := 45) rfl rfl 0 rfl ?_
    refine x_getr fl_X6_104_0 rfl hB.1 hB.r73 dX6_back_45 (n := 48) rfl ?_
    refine x_iload_n dX6_back_48 (n := 49) rfl rfl 1 rfl ?_
    obtain ⟨b3, h⟩ := h
    refine x_iald hB.a73 b3 rfl dX6_back_49 (n := 50) rfl ?_
    obtain ⟨b4, h⟩ := h
    refine x_iast hB.a40 b4 rfl dX6_back_50 (n := 51) rfl ?_
    refine x_iinc (v := x1 + 1) (lvs' := [(1, .int (x1 + 1)), (0, .ref o)]) dX6_back_51 (n := 54) rfl 1 rfl rfl (by decide) rfl ?_
    refine x_goto (tgt := 32) dX6_back_54 rfl ?_
    exact x_sub [1, 0] rfl (hK32 (x1 + 1, pI σ (o + 16) x1.toNatClampNeg (gI σ (o + 30) x1.toNatClampNeg)) hs.i h)
theorem met_X6_back (o : Nat) (σ0 : Hp) (Q : Int32 → Hp → Prop) (hB0 : MB o σ0) (h : wp_X6_back o σ0 Q) : MetX yX6_back cX6_back 2 (some .int) rm_X6_back σ0 [.ref o] (oI (fun r σ' => SH σ0 σ' ∧ Q r σ')) 0 0 := by
  refine metX_of (own := RX6) (lvs := [(0, .ref o)]) (by decide) rfl (Nat.le_of_ble_eq_true rfl) rfl (fun G rq => ?_)
  unfold wp_X6_back at h
  refine x_aload_n dX6_back_0 (n := 1) rfl rfl 0 rfl ?_
  refine x_iconst dX6_back_1 (n := 2) rfl ic_0 ?_
  refine x_puti fp_X6_119_0 rfl hB0.1 dX6_back_2 (n := 5) rfl ?_
  refine x_aload_n dX6_back_5 (n := 6) rfl rfl 0 rfl ?_
  refine x_geti fl_X6_252_0 rfl hB0.i.1 (gIn (by decide)) dX6_back_6 (n := 9) rfl ?_
  refine x_if_ne (tgt := 14) dX6_back_9 rfl (n := 12) rfl (fun c1 => ?_) (fun c1 => ?_)
  · have h := h.2 c1
    refine x_aload_n dX6_back_14 (n := 15) rfl rfl 0 rfl ?_
    refine x_aload_n dX6_back_15 (n := 16) rfl rfl 0 rfl ?_
    refine x_geti fl_X6_540_0 rfl hB0.i.1 (gIn (by decide)) dX6_back_16 (n := 19) rfl ?_
    refine x_puti fp_X6_229_0 rfl hB0.i.1 dX6_back_19 (n := 22) rfl ?_
    refine x_aload_n dX6_back_22 (n := 23) rfl rfl 0 rfl ?_
    refine x_aload_n dX6_back_23 (n := 24) rfl rfl 0 rfl ?_
    refine x_geti fl_X6_543_0 rfl hB0.i.i.1 ((gIn (by decide)).trans (gIn (by decide))) dX6_back_24 (n := 27) rfl ?_
    refine x_puti fp_X6_246_0 rfl hB0.i.i.1 dX6_back_27 (n := 30) rfl ?_
    refine x_iconst dX6_back_30 (n := 31) rfl ic_0 ?_
    refine x_istore_n (lvs' := [(1, .int 0), (0, .ref o)]) dX6_back_31 (n := 32) rfl rfl (by decide) rfl ?_
    exact x_sub [1, 0] rfl (xl_X6_back_32 o σ0 Q G hB0 rq (0, pI (pI (pI σ0 o 2 0) o 16 (gI σ0 o 71)) o 67 (gI σ0 o 72)) (SH.rf (σ := σ0)).i.i.i h)
  · have h := h.1 c1
    refine x_iconst dX6_back_12 (n := 13) rfl ic_m1 ?_
    exact x_iret rq ⟨(SH.rf (σ := σ0)).i, h⟩ dX6_back_13
abbrev rm_X6_size : Room := { frames := 0, cells := 0, slots := 0, locals := 0 }
def f_X6_size (o : Nat) (σ0 : Hp) (x1 : Int32) : Int32 × Hp := if x1 = 0 then (gI σ0 o 12, pI σ0 o 2 0) else if x1 = 1 then (gI σ0 o 13, pI σ0 o 2 0) else if x1 = 2 then (gI σ0 o 14, pI σ0 o 2 0) else if x1 = 3 then (gI σ0 o 15, pI σ0 o 2 0) else if x1 = 4 then (gI σ0 o 16, pI σ0 o 2 0) else if x1 = 5 then (gI σ0 o 17, pI σ0 o 2 0) else if x1 = 6 then (gI (pI σ0 o 2 0) (o + 3) 0, pI σ0 o 2 0) else if x1 = 7 then (gI σ0 o 67, pI σ0 o 2 0) else if x1 = 8 then (gI σ0 o 59, pI σ0 o 2 0) else ((-1), pI σ0 o 2 0)
theorem met_X6_size (o : Nat) (σ0 : Hp) (x1 : Int32) (hB0 : MB o σ0) : MetX yX6_size cX6_size 2 (some .int) rm_X6_size σ0 [.ref o, .int x1] (oI (fun r σ' => SH σ0 σ' ∧ (r, σ') = (f_X6_size o σ0 x1))) 0 0 := by
  refine metX_of (own := RX6) (lvs := [(0, .ref o), (1, .int x1)]) (by decide) rfl (Nat.le_of_ble_eq_true rfl) rfl (fun G rq => ?_)
  have hv : (f_X6_size o σ0 x1) = _ := f_X6_size.eq_1 _ _ _
  refine x_aload_n dX6_size_0 (n := 1) rfl rfl 0 rfl ?_
  refine x_iconst dX6_size_1 (n := 2) rfl ic_0 ?_
  refine x_puti fp_X6_119_0 rfl hB0.1 dX6_size_2 (n := 5) rfl ?_
  refine x_iload_n dX6_size_5 (n := 6) rfl rfl 1 rfl ?_
  refine x_by (x1 = 0) (fun c1 => ?_) (fun c1 => ?_)
  · have hv := hv.trans (if_pos c1)
    have z1 := tsw_in c1 ti_0
    refine x_tswIn (tgt := 56) dX6_size_6 (by rw [z1]; decide) (by rw [z1]; decide) (by rw [z1]; rfl) rfl ?_
    refine x_aload_n dX6_size_56 (n := 57) rfl rfl 0 rfl ?_
    refine x_geti fl_X6_217_0 rfl hB0.i.1 (gIn (by decide)) dX6_size_57 (n := 60) rfl ?_
    exact x_iret rq ⟨(SH.rf (σ := σ0)).i, hv.symm⟩ dX6_size_60
  · have hv := hv.trans (if_neg c1)
    refine x_by (x1 = 1) (fun c2 => ?_) (fun c2 => ?_)
    · have hv := hv.trans (if_pos c2)
      have z2 := tsw_in c2 ti_1
      refine x_tswIn (tgt := 61) dX6_size_6 (by rw [z2]; decide) (by rw [z2]; decide) (by rw [z2]; rfl) rfl ?_
      refine x_aload_n dX6_size_61 (n := 62) rfl rfl 0 rfl ?_
      refine x_geti fl_X6_220_0 rfl hB0.i.1 (gIn (by decide)) dX6_size_62 (n := 65) rfl ?_
      exact x_iret rq ⟨(SH.rf (σ := σ0)).i, hv.symm⟩ dX6_size_65
    · have hv := hv.trans (if_neg c2)
      refine x_by (x1 = 2) (fun c3 => ?_) (fun c3 => ?_)
      · have hv := hv.trans (if_pos c3)
        have z3 := tsw_in c3 ti_2
        refine x_tswIn (tgt := 66) dX6_size_6 (by rw [z3]; decide) (by rw [z3]; decide) (by rw [z3]; rfl) rfl ?_
        refine x_aload_n dX6_size_66 (n := 67) rfl rfl 0 rfl ?_
        refine x_geti fl_X6_223_0 rfl hB0.i.1 (gIn (by decide)) dX6_size_67 (n := 70) rfl ?_
        exact x_iret rq ⟨(SH.rf (σ := σ0)).i, hv.symm⟩ dX6_size_70
      · have hv := hv.trans (if_neg c3)
        refine x_by (x1 = 3) (fun c4 => ?_) (fun c4 => ?_)
        · have hv := hv.trans (if_pos c4)
          have z4 := tsw_in c4 ti_3
          refine x_tswIn (tgt := 71) dX6_size_6 (by rw [z4]; decide) (by rw [z4]; decide) (by rw [z4]; rfl) rfl ?_
          refine x_aload_n dX6_size_71 (n := 72) rfl rfl 0 rfl ?_
          refine x_geti fl_X6_226_0 rfl hB0.i.1 (gIn (by decide)) dX6_size_72 (n := 75) rfl ?_
          exact x_iret rq ⟨(SH.rf (σ := σ0)).i, hv.symm⟩ dX6_size_75
        · have hv := hv.trans (if_neg c4)
          refine x_by (x1 = 4) (fun c5 => ?_) (fun c5 => ?_)
          · have hv := hv.trans (if_pos c5)
            have z5 := tsw_in c5 ti_4
            refine x_tswIn (tgt := 76) dX6_size_6 (by rw [z5]; decide) (by rw [z5]; decide) (by rw [z5]; rfl) rfl ?_
            refine x_aload_n dX6_size_76 (n := 77) rfl rfl 0 rfl ?_
            refine x_geti fl_X6_229_0 rfl hB0.i.1 (gIn (by decide)) dX6_size_77 (n := 80) rfl ?_
            exact x_iret rq ⟨(SH.rf (σ := σ0)).i, hv.symm⟩ dX6_size_80
          · have hv := hv.trans (if_neg c5)
            refine x_by (x1 = 5) (fun c6 => ?_) (fun c6 => ?_)
            · have hv := hv.trans (if_pos c6)
              have z6 := tsw_in c6 ti_5
              refine x_tswIn (tgt := 81) dX6_size_6 (by rw [z6]; decide) (by rw [z6]; decide) (by rw [z6]; rfl) rfl ?_
              refine x_aload_n dX6_size_81 (n := 82) rfl rfl 0 rfl ?_
              refine x_geti fl_X6_232_0 rfl hB0.i.1 (gIn (by decide)) dX6_size_82 (n := 85) rfl ?_
              exact x_iret rq ⟨(SH.rf (σ := σ0)).i, hv.symm⟩ dX6_size_85
            · have hv := hv.trans (if_neg c6)
              refine x_by (x1 = 6) (fun c7 => ?_) (fun c7 => ?_)
              · have hv := hv.trans (if_pos c7)
                have z7 := tsw_in c7 ti_6
                refine x_tswIn (tgt := 86) dX6_size_6 (by rw [z7]; decide) (by rw [z7]; decide) (by rw [z7]; rfl) rfl ?_
                refine x_aload_n dX6_size_86 (n := 87) rfl rfl 0 rfl ?_
                refine x_getr fl_X6_20_0 rfl hB0.i.1 hB0.i.r24 dX6_size_87 (n := 90) rfl ?_
                refine x_iconst dX6_size_90 (n := 91) rfl ic_0 ?_
                refine x_iald hB0.i.a24 (vin_of (by decide) tn_0 rfl) tn_0 dX6_size_91 (n := 92) rfl ?_
                exact x_iret rq ⟨(SH.rf (σ := σ0)).i, hv.symm⟩ dX6_size_92
              · have hv := hv.trans (if_neg c7)
                refine x_by (x1 = 7) (fun c8 => ?_) (fun c8 => ?_)
                · have hv := hv.trans (if_pos c8)
                  have z8 := tsw_in c8 ti_7
                  refine x_tswIn (tgt := 93) dX6_size_6 (by rw [z8]; decide) (by rw [z8]; decide) (by rw [z8]; rfl) rfl ?_
                  refine x_aload_n dX6_size_93 (n := 94) rfl rfl 0 rfl ?_
                  refine x_geti fl_X6_246_0 rfl hB0.i.1 (gIn (by decide)) dX6_size_94 (n := 97) rfl ?_
                  exact x_iret rq ⟨(SH.rf (σ := σ0)).i, hv.symm⟩ dX6_size_97
                · have hv := hv.trans (if_neg c8)
                  refine x_by (x1 = 8) (fun c9 => ?_) (fun c9 => ?_)
                  · have hv := hv.trans (if_pos c9)
                    have z9 := tsw_in c9 ti_8
                    refine x_tswIn (tgt := 98) dX6_size_6 (by rw [z9]; decide) (by rw [z9]; decide) (by rw [z9]; rfl) rfl ?_
                    refine x_aload_n dX6_size_98 (n := 99) rfl rfl 0 rfl ?_
                    refine x_geti fl_X6_249_0 rfl hB0.i.1 (gIn (by decide)) dX6_size_99 (n := 102) rfl ?_
                    exact x_iret rq ⟨(SH.rf (σ := σ0)).i, hv.symm⟩ dX6_size_102
                  · have hv := hv.trans (if_neg c9)
                    have z1 := ne_int c1 ti_0
                    have z2 := ne_int c2 ti_1
                    have z3 := ne_int c3 ti_2
                    have z4 := ne_int c4 ti_3
                    have z5 := ne_int c5 ti_4
                    have z6 := ne_int c6 ti_5
                    have z7 := ne_int c7 ti_6
                    have z8 := ne_int c8 ti_7
                    have z9 := ne_int c9 ti_8
                    refine x_tswOut (tgt := 103) dX6_size_6 (by omega) rfl ?_
                    refine x_iconst dX6_size_103 (n := 104) rfl ic_m1 ?_
                    exact x_iret rq ⟨(SH.rf (σ := σ0)).i, hv.symm⟩ dX6_size_104
