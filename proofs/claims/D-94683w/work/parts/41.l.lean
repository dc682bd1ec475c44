set_option maxRecDepth 100000
abbrev rm_X1_parts : Room := { frames := 5, cells := 0, slots := 0, locals := 107 }
def lb_X1_parts_30 (o c : Nat) (σ : Hp) (x1 : Int32) (x2 : Int32) (x3 : Int32) (Q : Int32 → Prop)  (K30 : Int32 × Int32 × Int32 → Prop) (z : Int32 × Int32 × Int32) : Prop := match z with
  | (x4, x5, x6) => (99 < x6 → (x3 = 0 → Q x4) ∧ (¬ x3 = 0 → Q x5)) ∧ (¬ 99 < x6 → (ok_X1_land o c σ x1) ∧ ((OB 6 (f_X1_land o c σ x1) σ) ∧ ((¬ x6.toInt64 = 0) ∧ ((((f_X8_length (f_X1_land o c σ x1) σ x2.toInt64) - (f_X8_length (f_X1_land o c σ x1) σ x2.toInt64) / x6.toInt64 * x6.toInt64) = 0 → K30 (x4 + 1, x6, x6 + 1)) ∧ (¬ ((f_X8_length (f_X1_land o c σ x1) σ x2.toInt64) - (f_X8_length (f_X1_land o c σ x1) σ x2.toInt64) / x6.toInt64 * x6.toInt64) = 0 → K30 (x4, x5, x6 + 1))))))
def wp_X1_parts (o c : Nat) (σ : Hp) (x1 : Int32) (x2 : Int32) (x3 : Int32) (Q : Int32 → Prop) : Prop := (ok_X1_isYear o c σ x1 x2) ∧ (((f_X1_isYear o c σ x1 x2) = 0 → Q (-1)) ∧ (¬ (f_X1_isYear o c σ x1 x2) = 0 → ((f_X1_in x3.toInt64 0 1) = 0 → Q (-1)) ∧ (¬ (f_X1_in x3.toInt64 0 1) = 0 → lp (lb_X1_parts_30 o c σ x1 x2 x3 Q) (0, 0, 1))))
theorem xl_X1_parts_30 (o c : Nat) (σ : Hp) (Q : Int32 → Prop) (G : XE) (hB : LB o c σ) (rq : RQ G 0 0 (oI (fun r σ' => σ' = σ ∧ Q r))) (x1 : Int32) (x2 : Int32) (x3 : Int32)    : ∀ z : Int32 × Int32 × Int32, lp (lb_X1_parts_30 o c σ x1 x2 x3 Q ) z → X G rm_X1_parts cX1_parts RX1 7 (some .int) σ 0 0 30 [(0, .ref o), (1, .int x1), (2, .int x2), (3, .int x3), (4, .int z.1), (5, .int z.2.1), (6, .int z.2.2)] [] := by
  intro z
  refine fun h => lp_X (P := fun z => X G rm_X1_parts cX1_parts RX1 7 (some .int) σ 0 0 30 [(0, .ref o), (1, .int x1), (2, .int x2), (3, .int x3), (4, .int z.1), (5, .int z.2.1), (6, .int z.2.2)] []) ?_ h
  intro K30 hK30 z h
  obtain ⟨x4, x5, x6⟩ := z
  simp only [lb_X1_parts_30] at h
  show X G rm_X1_parts cX1_parts RX1 7 (some .int) σ 0 0 30 [(0, .ref o), (1, .int x1), (2, .int x2), (3, .int x3), (4, .int x4), (5, .int x5), (6, .int x6)] []
  have hK30 : ∀ z : (Int32 × Int32 × Int32), K30 z → X G rm_X1_parts cX1_parts RX1 7 (some .int) σ 0 0 30 [(0, .ref o), (1, .int x1), (2, .int x2), (3, .int x3), (4, .int z.1), (5, .int z.2.1), (6, .int z.2.2)] [] := fun z h => hK30 z h
  refine x_iload dX1_parts_30 (n := 32) rfl 6 rfl ?_
  refine x_bipush dX1_parts_32 (n := 34) rfl bp_99 ?_
  refine x_icmp_gt (tgt := 72) dX1_parts_34 rfl (n := 37) rfl (fun c7 => ?_) (fun c7 => ?_)
  · have h := h.1 c7
    refine x_iload_n dX1_parts_72 (n := 73) rfl rfl 3 rfl ?_
    refine x_if_ne (tgt := 81) dX1_parts_73 rfl (n := 76) rfl (fun c8 => ?_) (fun c8 => ?_)
    · have h := h.2 c8
      refine x_iload dX1_parts_81 (n := 83) rfl 5 rfl ?_
      exact x_iret rq ⟨rfl, h⟩ dX1_parts_83
    · have h := h.1 c8
      refine x_iload dX1_parts_76 (n := 78) rfl 4 rfl ?_
      refine x_goto (tgt := 83) dX1_parts_78 rfl ?_
      exact x_iret rq ⟨rfl, h⟩ dX1_parts_83
  · have h := h.2 c7
    refine x_aload_n dX1_parts_37 (n := 38) rfl rfl 0 rfl ?_
    refine x_iload_n dX1_parts_38 (n := 39) rfl rfl 1 rfl ?_
    obtain ⟨b9, h⟩ := h
    refine x_cVrp (As := [.int x1]) (rest := []) cv_X1_177 ck1 (met_X1_land o c σ x1 hB b9) hB.1 (by decide) rfl rfl rfl dX1_parts_39 (n := 42) rfl (fun r10 q => ?_)
    subst q
    refine x_iload_n dX1_parts_42 (n := 43) rfl rfl 2 rfl ?_
    refine x_i2l dX1_parts_43 (n := 44) rfl ?_
    obtain ⟨b11, h⟩ := h
    refine x_cVlp (As := [.long x2.toInt64]) (rest := []) cv_X1_204 ck6 (met_X8_length (f_X1_land o c σ x1) σ x2.toInt64 b11) b11 (by decide) rfl rfl rfl dX1_parts_44 (n := 47) rfl (fun r13 q => ?_)
    subst q
    refine x_iload dX1_parts_47 (n := 49) rfl 6 rfl ?_
    refine x_i2l dX1_parts_49 (n := 50) rfl ?_
    obtain ⟨b14, h⟩ := h
    refine x_lrem dX1_parts_50 (n := 51) rfl b14 ?_
    refine x_lconst dX1_parts_51 (n := 52) rfl lc_0 ?_
    refine x_lcmp_eq (tgt := 59) dX1_parts_52 (pc1 := 53) rfl dX1_parts_53 rfl (n := 56) rfl (fun c15 => ?_) (fun c15 => ?_)
    · have h := h.1 c15
      refine x_iinc (v := x4 + 1) (lvs' := [(4, .int (x4 + 1)), (0, .ref o), (1, .int x1), (2, .int x2), (3, .int x3), (5, .int x5), (6, .int x6)]) dX1_parts_59 (n := 62) rfl 4 rfl rfl (by decide) rfl ?_
      refine x_iload dX1_parts_62 (n := 64) rfl 6 rfl ?_
      refine x_istore (lvs' := [(5, .int x6), (4, .int (x4 + 1)), (0, .ref o), (1, .int x1), (2, .int x2), (3, .int x3), (6, .int x6)]) dX1_parts_64 (n := 66) rfl (by decide) rfl ?_
      refine x_iinc (v := x6 + 1) (lvs' := [(6, .int (x6 + 1)), (5, .int x6), (4, .int (x4 + 1)), (0, .ref o), (1, .int x1), (2, .int x2), (3, .int x3)]) dX1_parts_66 (n := 69) rfl 6 rfl rfl (by decide) rfl ?_
      refine x_goto (tgt := 30) dX1_parts_69 rfl ?_
      exact x_sub [3, 4, 5, 6, 2, 1, 0] rfl (hK30 (x4 + 1, x6, x6 + 1) h)
    · have h := h.2 c15
      refine x_goto (tgt := 66) dX1_parts_56 rfl ?_
      refine x_iinc (v := x6 + 1) (lvs' := [(6, .int (x6 + 1)), (0, .ref o), (1, .int x1), (2, .int x2), (3, .int x3), (4, .int x4), (5, .int x5)]) dX1_parts_66 (n := 69) rfl 6 rfl rfl (by decide) rfl ?_
      refine x_goto (tgt := 30) dX1_parts_69 rfl ?_
      exact x_sub [1, 2, 3, 4, 5, 6, 0] rfl (hK30 (x4, x5, x6 + 1) h)
theorem met_X1_parts (o c : Nat) (σ : Hp) (x1 : Int32) (x2 : Int32) (x3 : Int32) (Q : Int32 → Prop) (hB : LB o c σ) (h : wp_X1_parts o c σ x1 x2 x3 Q) : MetX yX1_parts cX1_parts 7 (some .int) rm_X1_parts σ [.ref o, .int x1, .int x2, .int x3] (oI (fun r σ' => σ' = σ ∧ Q r)) 0 0 := by
  refine metX_of (own := RX1) (lvs := [(0, .ref o), (1, .int x1), (2, .int x2), (3, .int x3)]) (by decide) rfl (Nat.le_of_ble_eq_true rfl) rfl (fun G rq => ?_)
  unfold wp_X1_parts at h
  refine x_aload_n dX1_parts_0 (n := 1) rfl rfl 0 rfl ?_
  refine x_iload_n dX1_parts_1 (n := 2) rfl rfl 1 rfl ?_
  refine x_iload_n dX1_parts_2 (n := 3) rfl rfl 2 rfl ?_
  obtain ⟨b1, h⟩ := h
  refine x_cVip (As := [.int x1, .int x2]) (rest := []) cv_X1_200 ck1 (met_X1_isYear o c σ x1 x2 hB b1) hB.1 (by decide) rfl rfl rfl dX1_parts_3 (n := 6) rfl (fun r2 q => ?_)
  subst q
  refine x_if_eq (tgt := 19) dX1_parts_6 rfl (n := 9) rfl (fun c3 => ?_) (fun c3 => ?_)
  · have h := h.1 c3
    refine x_iconst dX1_parts_19 (n := 20) rfl ic_m1 ?_
    exact x_iret rq ⟨rfl, h⟩ dX1_parts_20
  · have h := h.2 c3
    refine x_iload_n dX1_parts_9 (n := 10) rfl rfl 3 rfl ?_
    refine x_i2l dX1_parts_10 (n := 11) rfl ?_
    refine x_lconst dX1_parts_11 (n := 12) rfl lc_0 ?_
    refine x_lconst dX1_parts_12 (n := 13) rfl lc_1 ?_
    refine x_cSip (As := [.long x3.toInt64, .long 0, .long 1]) (rest := []) cs_X1_96 (met_X1_in σ x3.toInt64 0 1 ) (by decide) rfl rfl rfl dX1_parts_13 (n := 16) rfl (fun r5 q => ?_)
    subst q
    refine x_if_ne (tgt := 21) dX1_parts_16 rfl (n := 19) rfl (fun c6 => ?_) (fun c6 => ?_)
    · have h := h.2 c6
      refine x_iconst dX1_parts_21 (n := 22) rfl ic_0 ?_
      refine x_istore (lvs' := [(4, .int 0), (0, .ref o), (1, .int x1), (2, .int x2), (3, .int x3)]) dX1_parts_22 (n := 24) rfl (by decide) rfl ?_
      refine x_iconst dX1_parts_24 (n := 25) rfl ic_0 ?_
      refine x_istore (lvs' := [(5, .int 0), (4, .int 0), (0, .ref o), (1, .int x1), (2, .int x2), (3, .int x3)]) dX1_parts_25 (n := 27) rfl (by decide) rfl ?_
      refine x_iconst dX1_parts_27 (n := 28) rfl ic_1 ?_
      refine x_istore (lvs' := [(6, .int 1), (5, .int 0), (4, .int 0), (0, .ref o), (1, .int x1), (2, .int x2), (3, .int x3)]) dX1_parts_28 (n := 30) rfl (by decide) rfl ?_
      exact x_sub [3, 4, 5, 6, 2, 1, 0] rfl (xl_X1_parts_30 o c σ Q G hB rq x1 x2 x3 (0, 0, 1) h)
    · have h := h.1 c6
      refine x_iconst dX1_parts_19 (n := 20) rfl ic_m1 ?_
      exact x_iret rq ⟨rfl, h⟩ dX1_parts_20
abbrev rm_X1_months : Room := { frames := 5, cells := 0, slots := 0, locals := 107 }
def lb_X1_months_27 (o c : Nat) (σ : Hp) (x1 : Int32) (x2 : Int32) (x3 : Int32) (Q : Int32 → Prop)  (K27 : Int64 → Prop) (y4 : Int64) : Prop := ((x2.toInt64 + 1000) ≤ y4 → Q (-2)) ∧ (¬ (x2.toInt64 + 1000) ≤ y4 → (1000000000 < y4 → Q (-2)) ∧ (¬ 1000000000 < y4 → (ok_X1_land o c σ x1) ∧ ((OB 6 (f_X1_land o c σ x1) σ) ∧ ((ok_X8_has (f_X1_land o c σ x1) σ y4) ∧ (((f_X8_has (f_X1_land o c σ x1) σ y4) = 0 → Q (-2)) ∧ (¬ (f_X8_has (f_X1_land o c σ x1) σ y4) = 0 → (ok_X1_land o c σ x1) ∧ ((¬ x3.toInt64 = 0) ∧ ((((f_X8_length (f_X1_land o c σ x1) σ y4) - (f_X8_length (f_X1_land o c σ x1) σ y4) / x3.toInt64 * x3.toInt64) = 0 → Q y4.toInt32) ∧ (¬ ((f_X8_length (f_X1_land o c σ x1) σ y4) - (f_X8_length (f_X1_land o c σ x1) σ y4) / x3.toInt64 * x3.toInt64) = 0 → K27 (y4 + 1))))))))))
def wp_X1_months (o c : Nat) (σ : Hp) (x1 : Int32) (x2 : Int32) (x3 : Int32) (Q : Int32 → Prop) : Prop := (ok_X1_isYear o c σ x1 x2) ∧ (((f_X1_isYear o c σ x1 x2) = 0 → Q (-1)) ∧ (¬ (f_X1_isYear o c σ x1 x2) = 0 → ((f_X1_in x3.toInt64 1 99) = 0 → Q (-1)) ∧ (¬ (f_X1_in x3.toInt64 1 99) = 0 → lp (lb_X1_months_27 o c σ x1 x2 x3 Q) x2.toInt64)))
theorem xl_X1_months_27 (o c : Nat) (σ : Hp) (Q : Int32 → Prop) (G : XE) (hB : LB o c σ) (rq : RQ G 0 0 (oI (fun r σ' => σ' = σ ∧ Q r))) (x1 : Int32) (x2 : Int32) (x3 : Int32)    : ∀ z : Int64, lp (lb_X1_months_27 o c σ x1 x2 x3 Q ) z → X G rm_X1_months cX1_months RX1 6 (some .int) σ 0 0 27 [(0, .ref o), (1, .int x1), (2, .int x2), (3, .int x3), (4, .long z)] [] := by
  intro z
  refine fun h => lp_X (P := fun z => X G rm_X1_months cX1_months RX1 6 (some .int) σ 0 0 27 [(0, .ref o), (1, .int x1), (2, .int x2), (3, .int x3), (4, .long z)] []) ?_ h
  intro K27 hK27 y4 h
  simp only [lb_X1_months_27] at h
  show X G rm_X1_months cX1_months RX1 6 (some .int) σ 0 0 27 [(0, .ref o), (1, .int x1), (2, .int x2), (3, .int x3), (4, .long y4)] []
  have hK27 : ∀ z : (Int64), K27 z → X G rm_X1_months cX1_months RX1 6 (some .int) σ 0 0 27 [(0, .ref o), (1, .int x1), (2, .int x2), (3, .int x3), (4, .long z)] [] := fun z h => hK27 z h
  refine x_lload dX1_months_27 (n := 29) rfl 4 rfl ?_
  refine x_iload_n dX1_months_29 (n := 30) rfl rfl 2 rfl ?_
  refine x_i2l dX1_months_30 (n := 31) rfl ?_
  refine x_ldc2 dX1_months_31 (n := 34) rfl q1247 ?_
  refine x_ladd dX1_months_34 (n := 35) rfl ?_
  refine x_lcmp_ge (tgt := 92) dX1_months_35 (pc1 := 36) rfl dX1_months_36 rfl (n := 39) rfl (fun c7 => ?_) (fun c7 => ?_)
  · have h := h.1 c7
    refine x_bipush dX1_months_92 (n := 94) rfl bp_m2 ?_
    exact x_iret rq ⟨rfl, h⟩ dX1_months_94
  · have h := h.2 c7
    refine x_lload dX1_months_39 (n := 41) rfl 4 rfl ?_
    refine x_ldc2 dX1_months_41 (n := 44) rfl q1051 ?_
    refine x_lcmp_gt (tgt := 92) dX1_months_44 (pc1 := 45) rfl dX1_months_45 rfl (n := 48) rfl (fun c8 => ?_) (fun c8 => ?_)
    · have h := h.1 c8
      refine x_bipush dX1_months_92 (n := 94) rfl bp_m2 ?_
      exact x_iret rq ⟨rfl, h⟩ dX1_months_94
    · have h := h.2 c8
      refine x_aload_n dX1_months_48 (n := 49) rfl rfl 0 rfl ?_
      refine x_iload_n dX1_months_49 (n := 50) rfl rfl 1 rfl ?_
      obtain ⟨b9, h⟩ := h
      refine x_cVrp (As := [.int x1]) (rest := []) cv_X1_177 ck1 (met_X1_land o c σ x1 hB b9) hB.1 (by decide) rfl rfl rfl dX1_months_50 (n := 53) rfl (fun r10 q => ?_)
      subst q
      refine x_lload dX1_months_53 (n := 55) rfl 4 rfl ?_
      obtain ⟨b11, h⟩ := h
      obtain ⟨b12, h⟩ := h
      refine x_cVip (As := [.long y4]) (rest := []) cv_X1_181 ck6 (met_X8_has (f_X1_land o c σ x1) σ y4 b11 b12) b11 (by decide) rfl rfl rfl dX1_months_55 (n := 58) rfl (fun r13 q => ?_)
      subst q
      refine x_if_eq (tgt := 92) dX1_months_58 rfl (n := 61) rfl (fun c14 => ?_) (fun c14 => ?_)
      · have h := h.1 c14
        refine x_bipush dX1_months_92 (n := 94) rfl bp_m2 ?_
        exact x_iret rq ⟨rfl, h⟩ dX1_months_94
      · have h := h.2 c14
        refine x_aload_n dX1_months_61 (n := 62) rfl rfl 0 rfl ?_
        refine x_iload_n dX1_months_62 (n := 63) rfl rfl 1 rfl ?_
        obtain ⟨b15, h⟩ := h
        refine x_cVrp (As := [.int x1]) (rest := []) cv_X1_177 ck1 (met_X1_land o c σ x1 hB b15) hB.1 (by decide) rfl rfl rfl dX1_months_63 (n := 66) rfl (fun r16 q => ?_)
        subst q
        refine x_lload dX1_months_66 (n := 68) rfl 4 rfl ?_
        refine x_cVlp (As := [.long y4]) (rest := []) cv_X1_204 ck6 (met_X8_length (f_X1_land o c σ x1) σ y4 b11) b11 (by decide) rfl rfl rfl dX1_months_68 (n := 71) rfl (fun r18 q => ?_)
        subst q
        refine x_iload_n dX1_months_71 (n := 72) rfl rfl 3 rfl ?_
        refine x_i2l dX1_months_72 (n := 73) rfl ?_
        obtain ⟨b19, h⟩ := h
        refine x_lrem dX1_months_73 (n := 74) rfl b19 ?_
        refine x_lconst dX1_months_74 (n := 75) rfl lc_0 ?_
        refine x_lcmp_ne (tgt := 83) dX1_months_75 (pc1 := 76) rfl dX1_months_76 rfl (n := 79) rfl (fun c20 => ?_) (fun c20 => ?_)
        · have h := h.2 c20
          refine x_lload dX1_months_83 (n := 85) rfl 4 rfl ?_
          refine x_lconst dX1_months_85 (n := 86) rfl lc_1 ?_
          refine x_ladd dX1_months_86 (n := 87) rfl ?_
          refine x_lstore (lvs' := [(4, .long (y4 + 1)), (0, .ref o), (1, .int x1), (2, .int x2), (3, .int x3)]) dX1_months_87 (n := 89) rfl (by decide) rfl ?_
          refine x_goto (tgt := 27) dX1_months_89 rfl ?_
          exact x_sub [1, 2, 3, 4, 0] rfl (hK27 (y4 + 1) h)
        · have h := h.1 c20
          refine x_lload dX1_months_79 (n := 81) rfl 4 rfl ?_
          refine x_l2i dX1_months_81 (n := 82) rfl ?_
          exact x_iret rq ⟨rfl, h⟩ dX1_months_82
theorem met_X1_months (o c : Nat) (σ : Hp) (x1 : Int32) (x2 : Int32) (x3 : Int32) (Q : Int32 → Prop) (hB : LB o c σ) (h : wp_X1_months o c σ x1 x2 x3 Q) : MetX yX1_months cX1_months 6 (some .int) rm_X1_months σ [.ref o, .int x1, .int x2, .int x3] (oI (fun r σ' => σ' = σ ∧ Q r)) 0 0 := by
  refine metX_of (own := RX1) (lvs := [(0, .ref o), (1, .int x1), (2, .int x2), (3, .int x3)]) (by decide) rfl (Nat.le_of_ble_eq_true rfl) rfl (fun G rq => ?_)
  unfold wp_X1_months at h
  refine x_aload_n dX1_months_0 (n := 1) rfl rfl 0 rfl ?_
  refine x_iload_n dX1_months_1 (n := 2) rfl rfl 1 rfl ?_
  refine x_iload_n dX1_months_2 (n := 3) rfl rfl 2 rfl ?_
  obtain ⟨b1, h⟩ := h
  refine x_cVip (As := [.int x1, .int x2]) (rest := []) cv_X1_200 ck1 (met_X1_isYear o c σ x1 x2 hB b1) hB.1 (by decide) rfl rfl rfl dX1_months_3 (n := 6) rfl (fun r2 q => ?_)
  subst q
  refine x_if_eq (tgt := 21) dX1_months_6 rfl (n := 9) rfl (fun c3 => ?_) (fun c3 => ?_)
  · have h := h.1 c3
    refine x_iconst dX1_months_21 (n := 22) rfl ic_m1 ?_
    exact x_iret rq ⟨rfl, h⟩ dX1_months_22
  · have h := h.2 c3
    refine x_iload_n dX1_months_9 (n := 10) rfl rfl 3 rfl ?_
    refine x_i2l dX1_months_10 (n := 11) rfl ?_
    refine x_lconst dX1_months_11 (n := 12) rfl lc_1 ?_
    refine x_ldc2 dX1_months_12 (n := 15) rfl q1246 ?_
    refine x_cSip (As := [.long x3.toInt64, .long 1, .long 99]) (rest := []) cs_X1_96 (met_X1_in σ x3.toInt64 1 99 ) (by decide) rfl rfl rfl dX1_months_15 (n := 18) rfl (fun r5 q => ?_)
    subst q
    refine x_if_ne (tgt := 23) dX1_months_18 rfl (n := 21) rfl (fun c6 => ?_) (fun c6 => ?_)
    · have h := h.2 c6
      refine x_iload_n dX1_months_23 (n := 24) rfl rfl 2 rfl ?_
      refine x_i2l dX1_months_24 (n := 25) rfl ?_
      refine x_lstore (lvs' := [(4, .long x2.toInt64), (0, .ref o), (1, .int x1), (2, .int x2), (3, .int x3)]) dX1_months_25 (n := 27) rfl (by decide) rfl ?_
      exact x_sub [1, 2, 3, 4, 0] rfl (xl_X1_months_27 o c σ Q G hB rq x1 x2 x3 x2.toInt64 h)
    · have h := h.1 c6
      refine x_iconst dX1_months_21 (n := 22) rfl ic_m1 ?_
      exact x_iret rq ⟨rfl, h⟩ dX1_months_22
abbrev rm_X1_note : Room := { frames := 0, cells := 0, slots := 0, locals := 0 }
def f_X1_note (o c : Nat) (σ0 : Hp) : Int32 × Hp := if (gI σ0 o 9) = 12 then ((-1), σ0) else (((gI (pI σ0 (o + 38 + 6 * (gI σ0 o 9).toNatClampNeg) 1 0) o 9) + 1) - 1, pI (pI (pI (pI (pI σ0 (o + 38 + 6 * (gI σ0 o 9).toNatClampNeg) 1 0) (o + 35) (gI (pI σ0 (o + 38 + 6 * (gI σ0 o 9).toNatClampNeg) 1 0) o 9).toNatClampNeg (vp_nar .boolean 0)) o 9 ((gI (pI σ0 (o + 38 + 6 * (gI σ0 o 9).toNatClampNeg) 1 0) o 9) + 1)) o 14 ((gI (pI σ0 (o + 38 + 6 * (gI σ0 o 9).toNatClampNeg) 1 0) o 14) + 1)) (o + 17) (gI (pI σ0 (o + 38 + 6 * (gI σ0 o 9).toNatClampNeg) 1 0) o 14).toNatClampNeg (-1))
def ok_X1_note (o c : Nat) (σ0 : Hp) : Prop := ((gI σ0 o 9) = 12 → True) ∧ (¬ (gI σ0 o 9) = 12 → ((vp_in (gI σ0 o 9) 12) ∧ ((vp_in (gI (pI σ0 (o + 38 + 6 * (gI σ0 o 9).toNatClampNeg) 1 0) o 9) 12) ∧ (vp_in (gI (pI σ0 (o + 38 + 6 * (gI σ0 o 9).toNatClampNeg) 1 0) o 14) 108))))
theorem met_X1_note (o c : Nat) (σ0 : Hp) (hB0 : LB o c σ0) (hk : ok_X1_note o c σ0) : MetX yX1_note cX1_note 1 (some .int) rm_X1_note σ0 [.ref o] (oI (fun r σ' => SH σ0 σ' ∧ (r, σ') = (f_X1_note o c σ0))) 0 0 := by
  refine metX_of (own := RX1) (lvs := [(0, .ref o)]) (by decide) rfl (Nat.le_of_ble_eq_true rfl) rfl (fun G rq => ?_)
  have hv : (f_X1_note o c σ0) = _ := f_X1_note.eq_1 _ _ _
  unfold ok_X1_note at hk
  refine x_aload_n dX1_note_0 (n := 1) rfl rfl 0 rfl ?_
  refine x_geti fl_X1_124_1 rfl hB0.1 rfl dX1_note_1 (n := 4) rfl ?_
  refine x_bipush dX1_note_4 (n := 6) rfl bp_12 ?_
  refine x_icmp_ne (tgt := 11) dX1_note_6 rfl (n := 9) rfl (fun c1 => ?_) (fun c1 => ?_)
  · have hk := hk.2 c1
    have hv := hv.trans (if_neg c1)
    refine x_aload_n dX1_note_11 (n := 12) rfl rfl 0 rfl ?_
    refine x_getr fl_X1_49_1 rfl hB0.1 hB0.r7 dX1_note_12 (n := 15) rfl ?_
    refine x_aload_n dX1_note_15 (n := 16) rfl rfl 0 rfl ?_
    refine x_geti fl_X1_124_1 rfl hB0.1 rfl dX1_note_16 (n := 19) rfl ?_
    obtain ⟨b2, hk⟩ := hk
    refine x_aald at_note rfl hB0.a7 b2 rfl (hB0.n7 b2) dX1_note_19 (n := 20) rfl ?_
    refine x_iconst dX1_note_20 (n := 21) rfl ic_0 ?_
    refine x_puti fp_X1_391_5 rfl (hB0.b7 b2).1 dX1_note_21 (n := 24) rfl ?_
    refine x_aload_n dX1_note_24 (n := 25) rfl rfl 0 rfl ?_
    refine x_getr fl_X1_77_1 rfl hB0.i.1 hB0.i.r21 dX1_note_25 (n := 28) rfl ?_
    refine x_aload_n dX1_note_28 (n := 29) rfl rfl 0 rfl ?_
    refine x_geti fl_X1_124_1 rfl hB0.i.1 rfl dX1_note_29 (n := 32) rfl ?_
    refine x_iconst dX1_note_32 (n := 33) rfl ic_0 ?_
    obtain ⟨b3, hk⟩ := hk
    refine x_zast hB0.i.a21 b3 rfl dX1_note_33 (n := 34) rfl ?_
    refine x_aload_n dX1_note_34 (n := 35) rfl rfl 0 rfl ?_
    refine x_dup dX1_note_35 (n := 36) rfl rfl ?_
    refine x_geti fl_X1_124_1 rfl hB0.i.i.1 (gIo (by omega)) dX1_note_36 (n := 39) rfl ?_
    refine x_iconst dX1_note_39 (n := 40) rfl ic_1 ?_
    refine x_iadd dX1_note_40 (n := 41) rfl ?_
    refine x_puti fp_X1_124_1 rfl hB0.i.i.1 dX1_note_41 (n := 44) rfl ?_
    refine x_aload_n dX1_note_44 (n := 45) rfl rfl 0 rfl ?_
    refine x_getr fl_X1_56_1 rfl hB0.i.i.i.1 hB0.i.i.i.r13 dX1_note_45 (n := 48) rfl ?_
    refine x_aload_n dX1_note_48 (n := 49) rfl rfl 0 rfl ?_
    refine x_dup dX1_note_49 (n := 50) rfl rfl ?_
    refine x_geti fl_X1_138_1 rfl hB0.i.i.i.1 ((gIn (by decide)).trans (gIo (by omega))) dX1_note_50 (n := 53) rfl ?_
    refine x_dup_x1 dX1_note_53 (n := 54) rfl rfl rfl ?_
    refine x_iconst dX1_note_54 (n := 55) rfl ic_1 ?_
    refine x_iadd dX1_note_55 (n := 56) rfl ?_
    refine x_puti fp_X1_138_1 rfl hB0.i.i.i.1 dX1_note_56 (n := 59) rfl ?_
    refine x_iconst dX1_note_59 (n := 60) rfl ic_m1 ?_
    have b4 := hk
    refine x_iast hB0.i.i.i.i.a13 b4 rfl dX1_note_60 (n := 61) rfl ?_
    refine x_aload_n dX1_note_61 (n := 62) rfl rfl 0 rfl ?_
    refine x_geti fl_X1_124_1 rfl hB0.i.i.i.i.i.1 ((gIo (by omega)).trans ((gIn (by decide)).trans (gIs))) dX1_note_62 (n := 65) rfl ?_
    refine x_iconst dX1_note_65 (n := 66) rfl ic_1 ?_
    refine x_isub dX1_note_66 (n := 67) rfl ?_
    exact x_iret rq ⟨(SH.rf (σ := σ0)).i.i.i.i.i, hv.symm⟩ dX1_note_67
  · have hk := hk.1 c1
    have hv := hv.trans (if_pos c1)
    refine x_iconst dX1_note_9 (n := 10) rfl ic_m1 ?_
    exact x_iret rq ⟨(SH.rf (σ := σ0)), hv.symm⟩ dX1_note_10
abbrev rm_X1_isSaying : Room := { frames := 2, cells := 0, slots := 0, locals := 46 }
def f_X1_isSaying (o c : Nat) (σ : Hp) (x1 : Int32) (x2 : Int32) (x3 : Int32) : Int32 := if x1 = 0 then if (f_X1_in x2.toInt64 1 9999) = 0 then 0 else if (f_X1_in x3.toInt64 x2.toInt64 9999) = 0 then 0 else 1 else if x1 = 1 then f_X1_in x2.toInt64 1 99999 else if x1 = 2 then f_X1_in x2.toInt64 0 99999 else if x1 = 3 then f_X1_in x2.toInt64 0 7 else if x1 = 4 then f_X1_in x2.toInt64 0 3 else if x1 = 5 then f_X1_isPerson o c σ x2 else if x1 = 6 then f_X1_isFeast o c σ x2 else if x1 = 7 then if (f_X1_in x2.toInt64 0 (((gI σ o 9) - 2).toInt64)) = 0 then 0 else if (f_X1_in x3.toInt64 (-9999) 9999) = 0 then 0 else 1 else 0
def ok_X1_isSaying (o c : Nat) (σ : Hp) (x1 : Int32) (x2 : Int32) (x3 : Int32) : Prop := (x1 = 0 → True) ∧ (¬ x1 = 0 → ((x1 = 1 → ((f_X1_in x2.toInt64 1 99999) = 0 ∨ (f_X1_in x2.toInt64 1 99999) = 1)) ∧ (¬ x1 = 1 → ((x1 = 2 → ((f_X1_in x2.toInt64 0 99999) = 0 ∨ (f_X1_in x2.toInt64 0 99999) = 1)) ∧ (¬ x1 = 2 → ((x1 = 3 → ((f_X1_in x2.toInt64 0 7) = 0 ∨ (f_X1_in x2.toInt64 0 7) = 1)) ∧ (¬ x1 = 3 → ((x1 = 4 → ((f_X1_in x2.toInt64 0 3) = 0 ∨ (f_X1_in x2.toInt64 0 3) = 1)) ∧ (¬ x1 = 4 → ((x1 = 5 → ((ok_X1_isPerson o c σ x2) ∧ ((f_X1_isPerson o c σ x2) = 0 ∨ (f_X1_isPerson o c σ x2) = 1))) ∧ (¬ x1 = 5 → ((x1 = 6 → ((ok_X1_isFeast o c σ x2) ∧ ((f_X1_isFeast o c σ x2) = 0 ∨ (f_X1_isFeast o c σ x2) = 1))) ∧ (¬ x1 = 6 → True)))))))))))))
theorem met_X1_isSaying (o c : Nat) (σ : Hp) (x1 : Int32) (x2 : Int32) (x3 : Int32) (hB : LB o c σ) (hk : ok_X1_isSaying o c σ x1 x2 x3) : MetX yX1_isSaying cX1_isSaying 4 (some .boolean) rm_X1_isSaying σ [.ref o, .int x1, .int x2, .int x3] (oI (fun r σ' => σ' = σ ∧ r = (f_X1_isSaying o c σ x1 x2 x3))) 0 0 := by
  refine metX_of (own := RX1) (lvs := [(0, .ref o), (1, .int x1), (2, .int x2), (3, .int x3)]) (by decide) rfl (Nat.le_of_ble_eq_true rfl) rfl (fun G rq => ?_)
  have hv : (f_X1_isSaying o c σ x1 x2 x3) = _ := f_X1_isSaying.eq_1 _ _ _ _ _ _
  unfold ok_X1_isSaying at hk
  refine x_iload_n dX1_isSaying_0 (n := 1) rfl rfl 1 rfl ?_
  refine x_by (x1 = 0) (fun c1 => ?_) (fun c1 => ?_)
  · have hk := hk.1 c1
    have hv := hv.trans (if_pos c1)
    have z1 := tsw_in c1 ti_0
    refine x_tswIn (tgt := 48) dX1_isSaying_1 (by rw [z1]; decide) (by rw [z1]; decide) (by rw [z1]; rfl) rfl ?_
    refine x_iload_n dX1_isSaying_48 (n := 49) rfl rfl 2 rfl ?_
    refine x_i2l dX1_isSaying_49 (n := 50) rfl ?_
    refine x_lconst dX1_isSaying_50 (n := 51) rfl lc_1 ?_
    refine x_ldc2 dX1_isSaying_51 (n := 54) rfl q1320 ?_
    refine x_cSip (As := [.long x2.toInt64, .long 1, .long 9999]) (rest := []) cs_X1_96 (met_X1_in σ x2.toInt64 1 9999 ) (by decide) rfl rfl rfl dX1_isSaying_54 (n := 57) rfl (fun r3 q => ?_)
    subst q
    refine x_if_eq (tgt := 77) dX1_isSaying_57 rfl (n := 60) rfl (fun c4 => ?_) (fun c4 => ?_)
    · have hv := hv.trans (if_pos c4)
      refine x_iconst dX1_isSaying_77 (n := 78) rfl ic_0 ?_
      exact x_zret rq ⟨rfl, hv.symm⟩ isB0 dX1_isSaying_78
    · have hv := hv.trans (if_neg c4)
      refine x_iload_n dX1_isSaying_60 (n := 61) rfl rfl 3 rfl ?_
      refine x_i2l dX1_isSaying_61 (n := 62) rfl ?_
      refine x_iload_n dX1_isSaying_62 (n := 63) rfl rfl 2 rfl ?_
      refine x_i2l dX1_isSaying_63 (n := 64) rfl ?_
      refine x_ldc2 dX1_isSaying_64 (n := 67) rfl q1320 ?_
      refine x_cSip (As := [.long x3.toInt64, .long x2.toInt64, .long 9999]) (rest := []) cs_X1_96 (met_X1_in σ x3.toInt64 x2.toInt64 9999 ) (by decide) rfl rfl rfl dX1_isSaying_67 (n := 70) rfl (fun r6 q => ?_)
      subst q
      refine x_if_eq (tgt := 77) dX1_isSaying_70 rfl (n := 73) rfl (fun c7 => ?_) (fun c7 => ?_)
      · have hv := hv.trans (if_pos c7)
        refine x_iconst dX1_isSaying_77 (n := 78) rfl ic_0 ?_
        exact x_zret rq ⟨rfl, hv.symm⟩ isB0 dX1_isSaying_78
      · have hv := hv.trans (if_neg c7)
        refine x_iconst dX1_isSaying_73 (n := 74) rfl ic_1 ?_
        refine x_goto (tgt := 78) dX1_isSaying_74 rfl ?_
        exact x_zret rq ⟨rfl, hv.symm⟩ isB1 dX1_isSaying_78
  · have hk := hk.2 c1
    have hv := hv.trans (if_neg c1)
    refine x_by (x1 = 1) (fun c8 => ?_) (fun c8 => ?_)
    · have hk := hk.1 c8
      have hv := hv.trans (if_pos c8)
      have z8 := tsw_in c8 ti_1
      refine x_tswIn (tgt := 79) dX1_isSaying_1 (by rw [z8]; decide) (by rw [z8]; decide) (by rw [z8]; rfl) rfl ?_
      refine x_iload_n dX1_isSaying_79 (n := 80) rfl rfl 2 rfl ?_
      refine x_i2l dX1_isSaying_80 (n := 81) rfl ?_
      refine x_lconst dX1_isSaying_81 (n := 82) rfl lc_1 ?_
      refine x_ldc2 dX1_isSaying_82 (n := 85) rfl q1252 ?_
      refine x_cSip (As := [.long x2.toInt64, .long 1, .long 99999]) (rest := []) cs_X1_96 (met_X1_in σ x2.toInt64 1 99999 ) (by decide) rfl rfl rfl dX1_isSaying_85 (n := 88) rfl (fun r10 q => ?_)
      subst q
      have b11 := hk
      exact x_zret rq ⟨rfl, hv.symm⟩ b11 dX1_isSaying_88
    · have hk := hk.2 c8
      have hv := hv.trans (if_neg c8)
      refine x_by (x1 = 2) (fun c12 => ?_) (fun c12 => ?_)
      · have hk := hk.1 c12
        have hv := hv.trans (if_pos c12)
        have z12 := tsw_in c12 ti_2
        refine x_tswIn (tgt := 89) dX1_isSaying_1 (by rw [z12]; decide) (by rw [z12]; decide) (by rw [z12]; rfl) rfl ?_
        refine x_iload_n dX1_isSaying_89 (n := 90) rfl rfl 2 rfl ?_
        refine x_i2l dX1_isSaying_90 (n := 91) rfl ?_
        refine x_lconst dX1_isSaying_91 (n := 92) rfl lc_0 ?_
        refine x_ldc2 dX1_isSaying_92 (n := 95) rfl q1252 ?_
        refine x_cSip (As := [.long x2.toInt64, .long 0, .long 99999]) (rest := []) cs_X1_96 (met_X1_in σ x2.toInt64 0 99999 ) (by decide) rfl rfl rfl dX1_isSaying_95 (n := 98) rfl (fun r14 q => ?_)
        subst q
        have b15 := hk
        exact x_zret rq ⟨rfl, hv.symm⟩ b15 dX1_isSaying_98
      · have hk := hk.2 c12
        have hv := hv.trans (if_neg c12)
        refine x_by (x1 = 3) (fun c16 => ?_) (fun c16 => ?_)
        · have hk := hk.1 c16
          have hv := hv.trans (if_pos c16)
          have z16 := tsw_in c16 ti_3
          refine x_tswIn (tgt := 99) dX1_isSaying_1 (by rw [z16]; decide) (by rw [z16]; decide) (by rw [z16]; rfl) rfl ?_
          refine x_iload_n dX1_isSaying_99 (n := 100) rfl rfl 2 rfl ?_
          refine x_i2l dX1_isSaying_100 (n := 101) rfl ?_
          refine x_lconst dX1_isSaying_101 (n := 102) rfl lc_0 ?_
          refine x_ldc2 dX1_isSaying_102 (n := 105) rfl q1253 ?_
          refine x_cSip (As := [.long x2.toInt64, .long 0, .long 7]) (rest := []) cs_X1_96 (met_X1_in σ x2.toInt64 0 7 ) (by decide) rfl rfl rfl dX1_isSaying_105 (n := 108) rfl (fun r18 q => ?_)
          subst q
          have b19 := hk
          exact x_zret rq ⟨rfl, hv.symm⟩ b19 dX1_isSaying_108
        · have hk := hk.2 c16
          have hv := hv.trans (if_neg c16)
          refine x_by (x1 = 4) (fun c20 => ?_) (fun c20 => ?_)
          · have hk := hk.1 c20
            have hv := hv.trans (if_pos c20)
            have z20 := tsw_in c20 ti_4
            refine x_tswIn (tgt := 109) dX1_isSaying_1 (by rw [z20]; decide) (by rw [z20]; decide) (by rw [z20]; rfl) rfl ?_
            refine x_iload_n dX1_isSaying_109 (n := 110) rfl rfl 2 rfl ?_
            refine x_i2l dX1_isSaying_110 (n := 111) rfl ?_
            refine x_lconst dX1_isSaying_111 (n := 112) rfl lc_0 ?_
            refine x_ldc2 dX1_isSaying_112 (n := 115) rfl q1321 ?_
            refine x_cSip (As := [.long x2.toInt64, .long 0, .long 3]) (rest := []) cs_X1_96 (met_X1_in σ x2.toInt64 0 3 ) (by decide) rfl rfl rfl dX1_isSaying_115 (n := 118) rfl (fun r22 q => ?_)
            subst q
            have b23 := hk
            exact x_zret rq ⟨rfl, hv.symm⟩ b23 dX1_isSaying_118
          · have hk := hk.2 c20
            have hv := hv.trans (if_neg c20)
            refine x_by (x1 = 5) (fun c24 => ?_) (fun c24 => ?_)
            · have hk := hk.1 c24
              have hv := hv.trans (if_pos c24)
              have z24 := tsw_in c24 ti_5
              refine x_tswIn (tgt := 119) dX1_isSaying_1 (by rw [z24]; decide) (by rw [z24]; decide) (by rw [z24]; rfl) rfl ?_
              refine x_aload_n dX1_isSaying_119 (n := 120) rfl rfl 0 rfl ?_
              refine x_iload_n dX1_isSaying_120 (n := 121) rfl rfl 2 rfl ?_
              obtain ⟨b25, hk⟩ := hk
              refine x_cVip (As := [.int x2]) (rest := []) cv_X1_271 ck1 (met_X1_isPerson o c σ x2 hB b25) hB.1 (by decide) rfl rfl rfl dX1_isSaying_121 (n := 124) rfl (fun r26 q => ?_)
              subst q
              have b27 := hk
              exact x_zret rq ⟨rfl, hv.symm⟩ b27 dX1_isSaying_124
            · have hk := hk.2 c24
              have hv := hv.trans (if_neg c24)
              refine x_by (x1 = 6) (fun c28 => ?_) (fun c28 => ?_)
              · have hk := hk.1 c28
                have hv := hv.trans (if_pos c28)
                have z28 := tsw_in c28 ti_6
                refine x_tswIn (tgt := 125) dX1_isSaying_1 (by rw [z28]; decide) (by rw [z28]; decide) (by rw [z28]; rfl) rfl ?_
                refine x_aload_n dX1_isSaying_125 (n := 126) rfl rfl 0 rfl ?_
                refine x_iload_n dX1_isSaying_126 (n := 127) rfl rfl 2 rfl ?_
                obtain ⟨b29, hk⟩ := hk
                refine x_cVip (As := [.int x2]) (rest := []) cv_X1_265 ck1 (met_X1_isFeast o c σ x2 hB b29) hB.1 (by decide) rfl rfl rfl dX1_isSaying_127 (n := 130) rfl (fun r30 q => ?_)
                subst q
                have b31 := hk
                exact x_zret rq ⟨rfl, hv.symm⟩ b31 dX1_isSaying_130
              · have hk := hk.2 c28
                have hv := hv.trans (if_neg c28)
                refine x_by (x1 = 7) (fun c32 => ?_) (fun c32 => ?_)
                · have hv := hv.trans (if_pos c32)
                  have z32 := tsw_in c32 ti_7
                  refine x_tswIn (tgt := 131) dX1_isSaying_1 (by rw [z32]; decide) (by rw [z32]; decide) (by rw [z32]; rfl) rfl ?_
                  refine x_iload_n dX1_isSaying_131 (n := 132) rfl rfl 2 rfl ?_
                  refine x_i2l dX1_isSaying_132 (n := 133) rfl ?_
                  refine x_lconst dX1_isSaying_133 (n := 134) rfl lc_0 ?_
                  refine x_aload_n dX1_isSaying_134 (n := 135) rfl rfl 0 rfl ?_
                  refine x_geti fl_X1_124_1 rfl hB.1 rfl dX1_isSaying_135 (n := 138) rfl ?_
                  refine x_iconst dX1_isSaying_138 (n := 139) rfl ic_2 ?_
                  refine x_isub dX1_isSaying_139 (n := 140) rfl ?_
                  refine x_i2l dX1_isSaying_140 (n := 141) rfl ?_
                  refine x_cSip (As := [.long x2.toInt64, .long 0, .long (((gI σ o 9) - 2).toInt64)]) (rest := []) cs_X1_96 (met_X1_in σ x2.toInt64 0 (((gI σ o 9) - 2).toInt64) ) (by decide) rfl rfl rfl dX1_isSaying_141 (n := 144) rfl (fun r34 q => ?_)
                  subst q
                  refine x_if_eq (tgt := 165) dX1_isSaying_144 rfl (n := 147) rfl (fun c35 => ?_) (fun c35 => ?_)
                  · have hv := hv.trans (if_pos c35)
                    refine x_iconst dX1_isSaying_165 (n := 166) rfl ic_0 ?_
                    exact x_zret rq ⟨rfl, hv.symm⟩ isB0 dX1_isSaying_166
                  · have hv := hv.trans (if_neg c35)
                    refine x_iload_n dX1_isSaying_147 (n := 148) rfl rfl 3 rfl ?_
                    refine x_i2l dX1_isSaying_148 (n := 149) rfl ?_
                    refine x_ldc2 dX1_isSaying_149 (n := 152) rfl q1322 ?_
                    refine x_ldc2 dX1_isSaying_152 (n := 155) rfl q1320 ?_
                    refine x_cSip (As := [.long x3.toInt64, .long (-9999), .long 9999]) (rest := []) cs_X1_96 (met_X1_in σ x3.toInt64 (-9999) 9999 ) (by decide) rfl rfl rfl dX1_isSaying_155 (n := 158) rfl (fun r37 q => ?_)
                    subst q
                    refine x_if_eq (tgt := 165) dX1_isSaying_158 rfl (n := 161) rfl (fun c38 => ?_) (fun c38 => ?_)
                    · have hv := hv.trans (if_pos c38)
                      refine x_iconst dX1_isSaying_165 (n := 166) rfl ic_0 ?_
                      exact x_zret rq ⟨rfl, hv.symm⟩ isB0 dX1_isSaying_166
                    · have hv := hv.trans (if_neg c38)
                      refine x_iconst dX1_isSaying_161 (n := 162) rfl ic_1 ?_
                      refine x_goto (tgt := 166) dX1_isSaying_162 rfl ?_
                      exact x_zret rq ⟨rfl, hv.symm⟩ isB1 dX1_isSaying_166
                · have hv := hv.trans (if_neg c32)
                  have z1 := ne_int c1 ti_0
                  have z8 := ne_int c8 ti_1
                  have z12 := ne_int c12 ti_2
                  have z16 := ne_int c16 ti_3
                  have z20 := ne_int c20 ti_4
                  have z24 := ne_int c24 ti_5
                  have z28 := ne_int c28 ti_6
                  have z32 := ne_int c32 ti_7
                  refine x_tswOut (tgt := 167) dX1_isSaying_1 (by omega) rfl ?_
                  refine x_iconst dX1_isSaying_167 (n := 168) rfl ic_0 ?_
                  exact x_zret rq ⟨rfl, hv.symm⟩ isB0 dX1_isSaying_168
abbrev rm_X5_has : Room := { frames := 0, cells := 0, slots := 0, locals := 0 }
def f_X5_has (o : Nat) (σ : Hp) (x1 : Int32) : Int32 := if (((gI σ o 1) >>> (x1 &&& 31)) &&& 1) = 1 then 1 else 0
theorem met_X5_has (o : Nat) (σ : Hp) (x1 : Int32) (hB : NB o σ) : MetX yX5_has cX5_has 2 (some .boolean) rm_X5_has σ [.ref o, .int x1] (oI (fun r σ' => σ' = σ ∧ r = (f_X5_has o σ x1))) 0 0 := by
  refine metX_of (own := RX5) (lvs := [(0, .ref o), (1, .int x1)]) (by decide) rfl (Nat.le_of_ble_eq_true rfl) rfl (fun G rq => ?_)
  have hv : (f_X5_has o σ x1) = _ := f_X5_has.eq_1 _ _ _
  refine x_aload_n dX5_has_0 (n := 1) rfl rfl 0 rfl ?_
  refine x_geti fl_X5_18_5 rfl hB.1 rfl dX5_has_1 (n := 4) rfl ?_
  refine x_iload_n dX5_has_4 (n := 5) rfl rfl 1 rfl ?_
  refine x_ishr dX5_has_5 (n := 6) rfl ?_
  refine x_iconst dX5_has_6 (n := 7) rfl ic_1 ?_
  refine x_iand dX5_has_7 (n := 8) rfl ?_
  refine x_iconst dX5_has_8 (n := 9) rfl ic_1 ?_
  refine x_icmp_ne (tgt := 16) dX5_has_9 rfl (n := 12) rfl (fun c1 => ?_) (fun c1 => ?_)
  · have hv := hv.trans (if_neg c1)
    refine x_iconst dX5_has_16 (n := 17) rfl ic_0 ?_
    exact x_zret rq ⟨rfl, hv.symm⟩ isB0 dX5_has_17
  · have hv := hv.trans (if_pos c1)
    refine x_iconst dX5_has_12 (n := 13) rfl ic_1 ?_
    refine x_goto (tgt := 17) dX5_has_13 rfl ?_
    exact x_zret rq ⟨rfl, hv.symm⟩ isB1 dX5_has_17
abbrev rm_X5_say : Room := { frames := 0, cells := 0, slots := 0, locals := 0 }
def f_X5_say (o : Nat) (σ0 : Hp) (x1 : Int32) (x2 : Int32) (x3 : Int32) : Hp := pI (pI (pI σ0 o 1 ((gI σ0 o 1) ||| (1 <<< (x1 &&& 31)))) (o + 1) x1.toNatClampNeg x2) (o + 2) x1.toNatClampNeg x3
def ok_X5_say (o : Nat) (σ0 : Hp) (x1 : Int32) (x2 : Int32) (x3 : Int32) : Prop := (vp_in x1 8) ∧ (vp_in x1 8)
theorem met_X5_say (o : Nat) (σ0 : Hp) (x1 : Int32) (x2 : Int32) (x3 : Int32) (hB0 : NB o σ0) (hk : ok_X5_say o σ0 x1 x2 x3) : MetX yX5_say cX5_say 4 none rm_X5_say σ0 [.ref o, .int x1, .int x2, .int x3] (oV (fun σ' => SH σ0 σ' ∧ σ' = (f_X5_say o σ0 x1 x2 x3))) 0 0 := by
  refine metX_of (own := RX5) (lvs := [(0, .ref o), (1, .int x1), (2, .int x2), (3, .int x3)]) (by decide) rfl (Nat.le_of_ble_eq_true rfl) rfl (fun G rq => ?_)
  have hv : (f_X5_say o σ0 x1 x2 x3) = _ := f_X5_say.eq_1 _ _ _ _ _
  unfold ok_X5_say at hk
  refine x_aload_n dX5_say_0 (n := 1) rfl rfl 0 rfl ?_
  refine x_dup dX5_say_1 (n := 2) rfl rfl ?_
  refine x_geti fl_X5_18_5 rfl hB0.1 rfl dX5_say_2 (n := 5) rfl ?_
  refine x_iconst dX5_say_5 (n := 6) rfl ic_1 ?_
  refine x_iload_n dX5_say_6 (n := 7) rfl rfl 1 rfl ?_
  refine x_ishl dX5_say_7 (n := 8) rfl ?_
  refine x_ior dX5_say_8 (n := 9) rfl ?_
  refine x_puti fp_X5_18_5 rfl hB0.1 dX5_say_9 (n := 12) rfl ?_
  refine x_aload_n dX5_say_12 (n := 13) rfl rfl 0 rfl ?_
  refine x_getr fl_X5_9_5 rfl hB0.i.1 hB0.i.2.1 dX5_say_13 (n := 16) rfl ?_
  refine x_iload_n dX5_say_16 (n := 17) rfl rfl 1 rfl ?_
  refine x_iload_n dX5_say_17 (n := 18) rfl rfl 2 rfl ?_
  obtain ⟨b1, hk⟩ := hk
  refine x_iast hB0.i.2.2.1 b1 rfl dX5_say_18 (n := 19) rfl ?_
  refine x_aload_n dX5_say_19 (n := 20) rfl rfl 0 rfl ?_
  refine x_getr fl_X5_15_5 rfl hB0.i.i.1 hB0.i.i.2.2.2.1 dX5_say_20 (n := 23) rfl ?_
  refine x_iload_n dX5_say_23 (n := 24) rfl rfl 1 rfl ?_
  refine x_iload_n dX5_say_24 (n := 25) rfl rfl 3 rfl ?_
  have b2 := hk
  refine x_iast hB0.i.i.2.2.2.2 b2 rfl dX5_say_25 (n := 26) rfl ?_
  exact x_vret rq ⟨(SH.rf (σ := σ0)).i.i.i, hv.symm⟩ dX5_say_26
abbrev rm_X1_says : Room := { frames := 3, cells := 0, slots := 0, locals := 69 }
def wp_X1_says (o c : Nat) (σ0 : Hp) (x1 : Int32) (x2 : Int32) (x3 : Int32) (Q : Int32 → Hp → Prop) : Prop := ((gI σ0 o 9) = 0 → Q 0 σ0) ∧ (¬ (gI σ0 o 9) = 0 → (ok_X1_isSaying o c σ0 x1 x2 x3) ∧ (((f_X1_isSaying o c σ0 x1 x2 x3) = 0 → Q 0 σ0) ∧ (¬ (f_X1_isSaying o c σ0 x1 x2 x3) = 0 → (vp_in ((gI σ0 o 9) - 1) 12) ∧ (((f_X5_has (o + 38 + 6 * ((gI σ0 o 9) - 1).toNatClampNeg) σ0 x1) = 0 → (vp_in ((gI σ0 o 9) - 1) 12) ∧ ((ok_X5_say (o + 38 + 6 * ((gI σ0 o 9) - 1).toNatClampNeg) σ0 x1 x2 x3) ∧ (∀ s10 : Hp, s10 = f_X5_say (o + 38 + 6 * ((gI σ0 o 9) - 1).toNatClampNeg) σ0 x1 x2 x3 → (vp_in ((gI s10 o 9) - 1) 12) ∧ ((vp_in (gI s10 o 14) 108) ∧ (Q 1 (pI (pI (pI s10 (o + 35) ((gI s10 o 9) - 1).toNatClampNeg (vp_nar .boolean 0)) o 14 ((gI s10 o 14) + 1)) (o + 17) (gI s10 o 14).toNatClampNeg x1)))))) ∧ (¬ (f_X5_has (o + 38 + 6 * ((gI σ0 o 9) - 1).toNatClampNeg) σ0 x1) = 0 → Q 0 σ0)))))
theorem met_X1_says (o c : Nat) (σ0 : Hp) (x1 : Int32) (x2 : Int32) (x3 : Int32) (Q : Int32 → Hp → Prop) (hB0 : LB o c σ0) (h : wp_X1_says o c σ0 x1 x2 x3 Q) : MetX yX1_says cX1_says 4 (some .boolean) rm_X1_says σ0 [.ref o, .int x1, .int x2, .int x3] (oI (fun r σ' => SH σ0 σ' ∧ Q r σ')) 0 0 := by
  refine metX_of (own := RX1) (lvs := [(0, .ref o), (1, .int x1), (2, .int x2), (3, .int x3)]) (by decide) rfl (Nat.le_of_ble_eq_true rfl) rfl (fun G rq => ?_)
  unfold wp_X1_says at h
  refine x_aload_n dX1_says_0 (n := 1) rfl rfl 0 rfl ?_
  refine x_geti fl_X1_124_1 rfl hB0.1 rfl dX1_says_1 (n := 4) rfl ?_
  refine x_if_eq (tgt := 35) dX1_says_4 rfl (n := 7) rfl (fun c1 => ?_) (fun c1 => ?_)
  · have h := h.1 c1
    refine x_iconst dX1_says_35 (n := 36) rfl ic_0 ?_
    exact x_zret rq ⟨(SH.rf (σ := σ0)), h⟩ isB0 dX1_says_36
  · have h := h.2 c1
    refine x_aload_n dX1_says_7 (n := 8) rfl rfl 0 rfl ?_
    refine x_iload_n dX1_says_8 (n := 9) rfl rfl 1 rfl ?_
    refine x_iload_n dX1_says_9 (n := 10) rfl rfl 2 rfl ?_
    refine x_iload_n dX1_says_10 (n := 11) rfl rfl 3 rfl ?_
    obtain ⟨b2, h⟩ := h
    refine x_cVip (As := [.int x1, .int x2, .int x3]) (rest := []) cv_X1_400 ck1 (met_X1_isSaying o c σ0 x1 x2 x3 hB0 b2) hB0.1 (by decide) rfl rfl rfl dX1_says_11 (n := 14) rfl (fun r3 q => ?_)
    subst q
    refine x_if_eq (tgt := 35) dX1_says_14 rfl (n := 17) rfl (fun c4 => ?_) (fun c4 => ?_)
    · have h := h.1 c4
      refine x_iconst dX1_says_35 (n := 36) rfl ic_0 ?_
      exact x_zret rq ⟨(SH.rf (σ := σ0)), h⟩ isB0 dX1_says_36
    · have h := h.2 c4
      refine x_aload_n dX1_says_17 (n := 18) rfl rfl 0 rfl ?_
      refine x_getr fl_X1_49_1 rfl hB0.1 hB0.r7 dX1_says_18 (n := 21) rfl ?_
      refine x_aload_n dX1_says_21 (n := 22) rfl rfl 0 rfl ?_
      refine x_geti fl_X1_124_1 rfl hB0.1 rfl dX1_says_22 (n := 25) rfl ?_
      refine x_iconst dX1_says_25 (n := 26) rfl ic_1 ?_
      refine x_isub dX1_says_26 (n := 27) rfl ?_
      obtain ⟨b5, h⟩ := h
      refine x_aald at_note rfl hB0.a7 b5 rfl (hB0.n7 b5) dX1_says_27 (n := 28) rfl ?_
      refine x_iload_n dX1_says_28 (n := 29) rfl rfl 1 rfl ?_
      refine x_cVip (As := [.int x1]) (rest := []) cv_X1_347 ck5 (met_X5_has (o + 38 + 6 * ((gI σ0 o 9) - 1).toNatClampNeg) σ0 x1 (hB0.b7 b5)) (hB0.b7 b5).1 (by decide) rfl rfl rfl dX1_says_29 (n := 32) rfl (fun r7 q => ?_)
      subst q
      refine x_if_eq (tgt := 37) dX1_says_32 rfl (n := 35) rfl (fun c8 => ?_) (fun c8 => ?_)
      · have h := h.1 c8
        refine x_aload_n dX1_says_37 (n := 38) rfl rfl 0 rfl ?_
        refine x_getr fl_X1_49_1 rfl hB0.1 hB0.r7 dX1_says_38 (n := 41) rfl ?_
        refine x_aload_n dX1_says_41 (n := 42) rfl rfl 0 rfl ?_
        refine x_geti fl_X1_124_1 rfl hB0.1 rfl dX1_says_42 (n := 45) rfl ?_
        refine x_iconst dX1_says_45 (n := 46) rfl ic_1 ?_
        refine x_isub dX1_says_46 (n := 47) rfl ?_
        obtain ⟨b9, h⟩ := h
        refine x_aald at_note rfl hB0.a7 b9 rfl (hB0.n7 b9) dX1_says_47 (n := 48) rfl ?_
        refine x_iload_n dX1_says_48 (n := 49) rfl rfl 1 rfl ?_
        refine x_iload_n dX1_says_49 (n := 50) rfl rfl 2 rfl ?_
        refine x_iload_n dX1_says_50 (n := 51) rfl rfl 3 rfl ?_
        obtain ⟨b12, h⟩ := h
        refine x_cVvm (As := [.int x1, .int x2, .int x3]) (rest := []) cv_X1_403 ck5 (met_X5_say (o + 38 + 6 * ((gI σ0 o 9) - 1).toNatClampNeg) σ0 x1 x2 x3 (hB0.b7 b9) b12) (hB0.b7 b9).1 (by decide) rfl rfl rfl dX1_says_51 (n := 54) rfl (fun  s10 hs11 e13 => ?_)
        have hs11t := (SH.rf (σ := σ0)).tr hs11; have hBs10 := hB0.sh hs11t
        have h := h s10 e13
        refine x_aload_n dX1_says_54 (n := 55) rfl rfl 0 rfl ?_
        refine x_getr fl_X1_77_1 rfl hBs10.1 hBs10.r21 dX1_says_55 (n := 58) rfl ?_
        refine x_aload_n dX1_says_58 (n := 59) rfl rfl 0 rfl ?_
        refine x_geti fl_X1_124_1 rfl hBs10.1 rfl dX1_says_59 (n := 62) rfl ?_
        refine x_iconst dX1_says_62 (n := 63) rfl ic_1 ?_
        refine x_isub dX1_says_63 (n := 64) rfl ?_
        refine x_iconst dX1_says_64 (n := 65) rfl ic_0 ?_
        obtain ⟨b14, h⟩ := h
        refine x_zast hBs10.a21 b14 rfl dX1_says_65 (n := 66) rfl ?_
        refine x_aload_n dX1_says_66 (n := 67) rfl rfl 0 rfl ?_
        refine x_getr fl_X1_56_1 rfl hBs10.i.1 hBs10.i.r13 dX1_says_67 (n := 70) rfl ?_
        refine x_aload_n dX1_says_70 (n := 71) rfl rfl 0 rfl ?_
        refine x_dup dX1_says_71 (n := 72) rfl rfl ?_
        refine x_geti fl_X1_138_1 rfl hBs10.i.1 (gIo (by omega)) dX1_says_72 (n := 75) rfl ?_
        refine x_dup_x1 dX1_says_75 (n := 76) rfl rfl rfl ?_
        refine x_iconst dX1_says_76 (n := 77) rfl ic_1 ?_
        refine x_iadd dX1_says_77 (n := 78) rfl ?_
        refine x_puti fp_X1_138_1 rfl hBs10.i.1 dX1_says_78 (n := 81) rfl ?_
        refine x_iload_n dX1_says_81 (n := 82) rfl rfl 1 rfl ?_
        obtain ⟨b15, h⟩ := h
        refine x_iast hBs10.i.i.a13 b15 rfl dX1_says_82 (n := 83) rfl ?_
        refine x_iconst dX1_says_83 (n := 84) rfl ic_1 ?_
        exact x_zret rq ⟨hs11t.i.i.i, h⟩ isB1 dX1_says_84
      · have h := h.2 c8
        refine x_iconst dX1_says_35 (n := 36) rfl ic_0 ?_
        exact x_zret rq ⟨(SH.rf (σ := σ0)), h⟩ isB0 dX1_says_36
abbrev rm_X1_undo : Room := { frames := 1, cells := 0, slots := 0, locals := 21 }
def fj_X1_undo_77 (o c : Nat) (σ : Hp)  : Int32 × Hp := (gI σ o 14, pI σ (o + 35) (f_J7_max 0 ((gI σ o 9) - 1)).toNatClampNeg (vp_nar .boolean 0))
def oj_X1_undo_77 (o c : Nat) (σ : Hp)  : Prop := vp_in (f_J7_max 0 ((gI σ o 9) - 1)) 12
def f_X1_undo (o c : Nat) (σ0 : Hp) : Int32 × Hp := if (gI σ0 o 14) = 0 then ((-1), σ0) else if (gI (pI σ0 o 14 ((gI σ0 o 14) - 1)) (o + 17) ((gI σ0 o 14) - 1).toNatClampNeg) = (-1) then fj_X1_undo_77 o c (pI (pI σ0 o 14 ((gI σ0 o 14) - 1)) o 9 ((gI σ0 o 9) - 1)) else fj_X1_undo_77 o c (pI (pI σ0 o 14 ((gI σ0 o 14) - 1)) (o + 38 + 6 * ((gI σ0 o 9) - 1).toNatClampNeg) 1 ((gI (pI σ0 o 14 ((gI σ0 o 14) - 1)) (o + 38 + 6 * ((gI σ0 o 9) - 1).toNatClampNeg) 1) &&& ((1 <<< ((gI (pI σ0 o 14 ((gI σ0 o 14) - 1)) (o + 17) ((gI σ0 o 14) - 1).toNatClampNeg) &&& 31)) ^^^ (-1))))
def ok_X1_undo (o c : Nat) (σ0 : Hp) : Prop := ((gI σ0 o 14) = 0 → True) ∧ (¬ (gI σ0 o 14) = 0 → ((vp_in ((gI σ0 o 14) - 1) 108) ∧ (((gI (pI σ0 o 14 ((gI σ0 o 14) - 1)) (o + 17) ((gI σ0 o 14) - 1).toNatClampNeg) = (-1) → (oj_X1_undo_77 o c (pI (pI σ0 o 14 ((gI σ0 o 14) - 1)) o 9 ((gI σ0 o 9) - 1)))) ∧ (¬ (gI (pI σ0 o 14 ((gI σ0 o 14) - 1)) (o + 17) ((gI σ0 o 14) - 1).toNatClampNeg) = (-1) → ((vp_in ((gI σ0 o 9) - 1) 12) ∧ ((vp_in ((gI σ0 o 14) - 1) 108) ∧ (oj_X1_undo_77 o c (pI (pI σ0 o 14 ((gI σ0 o 14) - 1)) (o + 38 + 6 * ((gI σ0 o 9) - 1).toNatClampNeg) 1 ((gI (pI σ0 o 14 ((gI σ0 o 14) - 1)) (o + 38 + 6 * ((gI σ0 o 9) - 1).toNatClampNeg) 1) &&& ((1 <<< ((gI (pI σ0 o 14 ((gI σ0 o 14) - 1)) (o + 17) ((gI σ0 o 14) - 1).toNatClampNeg) &&& 31)) ^^^ (-1)))))))))))
theorem xj_X1_undo_77 (o c : Nat) (σ0 : Hp) (G : XE) (hB0 : LB o c σ0) (σ : Hp)   (hs : SH σ0 σ) (V : Int32 × Hp) (hv : V = fj_X1_undo_77 o c σ) (rq : RQ G 0 0 (oI (fun r σ' => SH σ0 σ' ∧ (r, σ') = V))) (hk : oj_X1_undo_77 o c σ) : X G rm_X1_undo cX1_undo RX1 1 (some .int) σ 0 0 77 [(0, .ref o)] [] := by
  have hB := hB0.sh hs
  unfold fj_X1_undo_77 at hv
  unfold oj_X1_undo_77 at hk
  refine x_aload_n dX1_undo_77 (n := 78) rfl rfl 0 rfl ?_
  refine x_getr fl_X1_77_1 rfl hB.1 hB.r21 dX1_undo_78 (n := 81) rfl ?_
  refine x_iconst dX1_undo_81 (n := 82) rfl ic_0 ?_
  refine x_aload_n dX1_undo_82 (n := 83) rfl rfl 0 rfl ?_
  refine x_geti fl_X1_124_1 rfl hB.1 rfl dX1_undo_83 (n := 86) rfl ?_
  refine x_iconst dX1_undo_86 (n := 87) rfl ic_1 ?_
  refine x_isub dX1_undo_87 (n := 88) rfl ?_
  refine x_cSip (As := [.int 0, .int ((gI σ o 9) - 1)]) (rest := [.ref (o + 35)]) cs_X1_407 (met_J7_max σ 0 ((gI σ o 9) - 1) ) (by decide) rfl rfl rfl dX1_undo_88 (n := 91) rfl (fun r7 q => ?_)
  subst q
  refine x_iconst dX1_undo_91 (n := 92) rfl ic_0 ?_
  have b8 := hk
  refine x_zast hB.a21 b8 rfl dX1_undo_92 (n := 93) rfl ?_
  refine x_aload_n dX1_undo_93 (n := 94) rfl rfl 0 rfl ?_
  refine x_geti fl_X1_138_1 rfl hB.i.1 (gIo (by omega)) dX1_undo_94 (n := 97) rfl ?_
  exact x_iret rq ⟨hs.i, hv.symm⟩ dX1_undo_97
theorem met_X1_undo (o c : Nat) (σ0 : Hp) (hB0 : LB o c σ0) (hk : ok_X1_undo o c σ0) : MetX yX1_undo cX1_undo 1 (some .int) rm_X1_undo σ0 [.ref o] (oI (fun r σ' => SH σ0 σ' ∧ (r, σ') = (f_X1_undo o c σ0))) 0 0 := by
  refine metX_of (own := RX1) (lvs := [(0, .ref o)]) (by decide) rfl (Nat.le_of_ble_eq_true rfl) rfl (fun G rq => ?_)
  have hv : (f_X1_undo o c σ0) = _ := f_X1_undo.eq_1 _ _ _
  unfold ok_X1_undo at hk
  refine x_aload_n dX1_undo_0 (n := 1) rfl rfl 0 rfl ?_
  refine x_geti fl_X1_138_1 rfl hB0.1 rfl dX1_undo_1 (n := 4) rfl ?_
  refine x_if_ne (tgt := 9) dX1_undo_4 rfl (n := 7) rfl (fun c1 => ?_) (fun c1 => ?_)
  · have hk := hk.2 c1
    have hv := hv.trans (if_neg c1)
    refine x_aload_n dX1_undo_9 (n := 10) rfl rfl 0 rfl ?_
    refine x_dup dX1_undo_10 (n := 11) rfl rfl ?_
    refine x_geti fl_X1_138_1 rfl hB0.1 rfl dX1_undo_11 (n := 14) rfl ?_
    refine x_iconst dX1_undo_14 (n := 15) rfl ic_1 ?_
    refine x_isub dX1_undo_15 (n := 16) rfl ?_
    refine x_puti fp_X1_138_1 rfl hB0.1 dX1_undo_16 (n := 19) rfl ?_
    refine x_aload_n dX1_undo_19 (n := 20) rfl rfl 0 rfl ?_
    refine x_getr fl_X1_56_1 rfl hB0.i.1 hB0.i.r13 dX1_undo_20 (n := 23) rfl ?_
    refine x_aload_n dX1_undo_23 (n := 24) rfl rfl 0 rfl ?_
    refine x_geti fl_X1_138_1 rfl hB0.i.1 (gIs) dX1_undo_24 (n := 27) rfl ?_
    obtain ⟨b2, hk⟩ := hk
    refine x_iald hB0.i.a13 b2 rfl dX1_undo_27 (n := 28) rfl ?_
    refine x_iconst dX1_undo_28 (n := 29) rfl ic_m1 ?_
    refine x_icmp_ne (tgt := 45) dX1_undo_29 rfl (n := 32) rfl (fun c3 => ?_) (fun c3 => ?_)
    · have hk := hk.2 c3
      have hv := hv.trans (if_neg c3)
      refine x_aload_n dX1_undo_45 (n := 46) rfl rfl 0 rfl ?_
      refine x_getr fl_X1_49_1 rfl hB0.i.1 hB0.i.r7 dX1_undo_46 (n := 49) rfl ?_
      refine x_aload_n dX1_undo_49 (n := 50) rfl rfl 0 rfl ?_
      refine x_geti fl_X1_124_1 rfl hB0.i.1 (gIn (by decide)) dX1_undo_50 (n := 53) rfl ?_
      refine x_iconst dX1_undo_53 (n := 54) rfl ic_1 ?_
      refine x_isub dX1_undo_54 (n := 55) rfl ?_
      obtain ⟨b4, hk⟩ := hk
      refine x_aald at_note rfl hB0.i.a7 b4 rfl (hB0.i.n7 b4) dX1_undo_55 (n := 56) rfl ?_
      refine x_dup dX1_undo_56 (n := 57) rfl rfl ?_
      refine x_geti fl_X1_391_5 rfl (hB0.i.b7 b4).1 rfl dX1_undo_57 (n := 60) rfl ?_
      refine x_iconst dX1_undo_60 (n := 61) rfl ic_1 ?_
      refine x_aload_n dX1_undo_61 (n := 62) rfl rfl 0 rfl ?_
      refine x_getr fl_X1_56_1 rfl hB0.i.1 hB0.i.r13 dX1_undo_62 (n := 65) rfl ?_
      refine x_aload_n dX1_undo_65 (n := 66) rfl rfl 0 rfl ?_
      refine x_geti fl_X1_138_1 rfl hB0.i.1 (gIs) dX1_undo_66 (n := 69) rfl ?_
      obtain ⟨b5, hk⟩ := hk
      refine x_iald hB0.i.a13 b5 rfl dX1_undo_69 (n := 70) rfl ?_
      refine x_ishl dX1_undo_70 (n := 71) rfl ?_
      refine x_iconst dX1_undo_71 (n := 72) rfl ic_m1 ?_
      refine x_ixor dX1_undo_72 (n := 73) rfl ?_
      refine x_iand dX1_undo_73 (n := 74) rfl ?_
      refine x_puti fp_X1_391_5 rfl (hB0.i.b7 b4).1 dX1_undo_74 (n := 77) rfl ?_
      exact x_sub [0] rfl (xj_X1_undo_77 o c σ0 G hB0 (pI (pI σ0 o 14 ((gI σ0 o 14) - 1)) (o + 38 + 6 * ((gI σ0 o 9) - 1).toNatClampNeg) 1 ((gI (pI σ0 o 14 ((gI σ0 o 14) - 1)) (o + 38 + 6 * ((gI σ0 o 9) - 1).toNatClampNeg) 1) &&& ((1 <<< ((gI (pI σ0 o 14 ((gI σ0 o 14) - 1)) (o + 17) ((gI σ0 o 14) - 1).toNatClampNeg) &&& 31)) ^^^ (-1)))) (SH.rf (σ := σ0)).i.i _ hv rq hk)
    · have hk := hk.1 c3
      have hv := hv.trans (if_pos c3)
      refine x_aload_n dX1_undo_32 (n := 33) rfl rfl 0 rfl ?_
      refine x_dup dX1_undo_33 (n := 34) rfl rfl ?_
      refine x_geti fl_X1_124_1 rfl hB0.i.1 (gIn (by decide)) dX1_undo_34 (n := 37) rfl ?_
      refine x_iconst dX1_undo_37 (n := 38) rfl ic_1 ?_
      refine x_isub dX1_undo_38 (n := 39) rfl ?_
      refine x_puti fp_X1_124_1 rfl hB0.i.1 dX1_undo_39 (n := 42) rfl ?_
      refine x_goto (tgt := 77) dX1_undo_42 rfl ?_
      exact x_sub [0] rfl (xj_X1_undo_77 o c σ0 G hB0 (pI (pI σ0 o 14 ((gI σ0 o 14) - 1)) o 9 ((gI σ0 o 9) - 1)) (SH.rf (σ := σ0)).i.i _ hv rq hk)
  · have hk := hk.1 c1
    have hv := hv.trans (if_pos c1)
    refine x_iconst dX1_undo_7 (n := 8) rfl ic_m1 ?_
    exact x_iret rq ⟨(SH.rf (σ := σ0)), hv.symm⟩ dX1_undo_8
abbrev rm_X9_isAlive : Room := { frames := 0, cells := 0, slots := 0, locals := 0 }
def f_X9_isAlive (o : Nat) (σ : Hp) (y1 : Int64) : Int32 := if y1 < (gL σ o 1) then 0 else if (gL σ o 2) = (-1) then 1 else if (gL σ o 2) < y1 then 0 else 1
theorem met_X9_isAlive (o : Nat) (σ : Hp) (y1 : Int64) (hB : OB 8 o σ) : MetX yX9_isAlive cX9_isAlive 3 (some .boolean) rm_X9_isAlive σ [.ref o, .long y1] (oI (fun r σ' => σ' = σ ∧ r = (f_X9_isAlive o σ y1))) 0 0 := by
  refine metX_of (own := RX9) (lvs := [(0, .ref o), (1, .long y1)]) (by decide) rfl (Nat.le_of_ble_eq_true rfl) rfl (fun G rq => ?_)
  have hv : (f_X9_isAlive o σ y1) = _ := f_X9_isAlive.eq_1 _ _ _
  refine x_lload_n dX9_isAlive_0 (n := 1) rfl rfl 1 rfl ?_
  refine x_aload_n dX9_isAlive_1 (n := 2) rfl rfl 0 rfl ?_
  refine x_getl fl_X9_17_8 rfl hB rfl dX9_isAlive_2 (n := 5) rfl ?_
  refine x_lcmp_lt (tgt := 33) dX9_isAlive_5 (pc1 := 6) rfl dX9_isAlive_6 rfl (n := 9) rfl (fun c1 => ?_) (fun c1 => ?_)
  · have hv := hv.trans (if_pos c1)
    refine x_iconst dX9_isAlive_33 (n := 34) rfl ic_0 ?_
    exact x_zret rq ⟨rfl, hv.symm⟩ isB0 dX9_isAlive_34
  · have hv := hv.trans (if_neg c1)
    refine x_aload_n dX9_isAlive_9 (n := 10) rfl rfl 0 rfl ?_
    refine x_getl fl_X9_11_8 rfl hB rfl dX9_isAlive_10 (n := 13) rfl ?_
    refine x_ldc2 dX9_isAlive_13 (n := 16) rfl q834 ?_
    refine x_lcmp_eq (tgt := 29) dX9_isAlive_16 (pc1 := 17) rfl dX9_isAlive_17 rfl (n := 20) rfl (fun c2 => ?_) (fun c2 => ?_)
    · have hv := hv.trans (if_pos c2)
      refine x_iconst dX9_isAlive_29 (n := 30) rfl ic_1 ?_
      refine x_goto (tgt := 34) dX9_isAlive_30 rfl ?_
      exact x_zret rq ⟨rfl, hv.symm⟩ isB1 dX9_isAlive_34
    · have hv := hv.trans (if_neg c2)
      refine x_lload_n dX9_isAlive_20 (n := 21) rfl rfl 1 rfl ?_
      refine x_aload_n dX9_isAlive_21 (n := 22) rfl rfl 0 rfl ?_
      refine x_getl fl_X9_11_8 rfl hB rfl dX9_isAlive_22 (n := 25) rfl ?_
      refine x_lcmp_gt (tgt := 33) dX9_isAlive_25 (pc1 := 26) rfl dX9_isAlive_26 rfl (n := 29) rfl (fun c3 => ?_) (fun c3 => ?_)
      · have hv := hv.trans (if_pos c3)
        refine x_iconst dX9_isAlive_33 (n := 34) rfl ic_0 ?_
        exact x_zret rq ⟨rfl, hv.symm⟩ isB0 dX9_isAlive_34
      · have hv := hv.trans (if_neg c3)
        refine x_iconst dX9_isAlive_29 (n := 30) rfl ic_1 ?_
        refine x_goto (tgt := 34) dX9_isAlive_30 rfl ?_
        exact x_zret rq ⟨rfl, hv.symm⟩ isB1 dX9_isAlive_34
abbrev rm_X1_isNote : Room := { frames := 1, cells := 0, slots := 0, locals := 25 }
def f_X1_isNote (o c : Nat) (σ : Hp) (x1 : Int32) : Int32 := f_X1_in x1.toInt64 0 (((gI σ o 9) - 1).toInt64)
def ok_X1_isNote (o c : Nat) (σ : Hp) (x1 : Int32) : Prop := (f_X1_in x1.toInt64 0 (((gI σ o 9) - 1).toInt64)) = 0 ∨ (f_X1_in x1.toInt64 0 (((gI σ o 9) - 1).toInt64)) = 1
theorem met_X1_isNote (o c : Nat) (σ : Hp) (x1 : Int32) (hB : LB o c σ) (hk : ok_X1_isNote o c σ x1) : MetX yX1_isNote cX1_isNote 2 (some .boolean) rm_X1_isNote σ [.ref o, .int x1] (oI (fun r σ' => σ' = σ ∧ r = (f_X1_isNote o c σ x1))) 0 0 := by
  refine metX_of (own := RX1) (lvs := [(0, .ref o), (1, .int x1)]) (by decide) rfl (Nat.le_of_ble_eq_true rfl) rfl (fun G rq => ?_)
  have hv : (f_X1_isNote o c σ x1) = _ := f_X1_isNote.eq_1 _ _ _ _
  unfold ok_X1_isNote at hk
  refine x_iload_n dX1_isNote_0 (n := 1) rfl rfl 1 rfl ?_
  refine x_i2l dX1_isNote_1 (n := 2) rfl ?_
  refine x_lconst dX1_isNote_2 (n := 3) rfl lc_0 ?_
  refine x_aload_n dX1_isNote_3 (n := 4) rfl rfl 0 rfl ?_
  refine x_geti fl_X1_124_1 rfl hB.1 rfl dX1_isNote_4 (n := 7) rfl ?_
  refine x_iconst dX1_isNote_7 (n := 8) rfl ic_1 ?_
  refine x_isub dX1_isNote_8 (n := 9) rfl ?_
  refine x_i2l dX1_isNote_9 (n := 10) rfl ?_
  refine x_cSip (As := [.long x1.toInt64, .long 0, .long (((gI σ o 9) - 1).toInt64)]) (rest := []) cs_X1_96 (met_X1_in σ x1.toInt64 0 (((gI σ o 9) - 1).toInt64) ) (by decide) rfl rfl rfl dX1_isNote_10 (n := 13) rfl (fun r2 q => ?_)
  subst q
  have b3 := hk
  exact x_zret rq ⟨rfl, hv.symm⟩ b3 dX1_isNote_13
abbrev rm_X1_link : Room := { frames := 1, cells := 0, slots := 0, locals := 21 }
def lb_X1_link_2 (o c : Nat) (x1 : Int32) (Q : Hp → Prop)  (K2 : Int32 × Hp → Prop) (z : Int32 × Hp) : Prop := match z with
  | (x2, σ) => ((gI σ o 9) ≤ x2 → Q σ) ∧ (¬ (gI σ o 9) ≤ x2 → (vp_in x2 12) ∧ ((vp_in x2 12) ∧ ((((x1 >>> (x2 &&& 31)) &&& 1) = 0 → K2 (x2 + 1, pI (pI σ (o + 36) x2.toNatClampNeg x2) (o + 37) x2.toNatClampNeg 0)) ∧ (¬ ((x1 >>> (x2 &&& 31)) &&& 1) = 0 → (vp_in x2 12) ∧ (((f_X5_has (o + 38 + 6 * x2.toNatClampNeg) (pI (pI σ (o + 36) x2.toNatClampNeg x2) (o + 37) x2.toNatClampNeg 0) 7) = 0 → K2 (x2 + 1, pI (pI σ (o + 36) x2.toNatClampNeg x2) (o + 37) x2.toNatClampNeg 0)) ∧ (¬ (f_X5_has (o + 38 + 6 * x2.toNatClampNeg) (pI (pI σ (o + 36) x2.toNatClampNeg x2) (o + 37) x2.toNatClampNeg 0) 7) = 0 → (vp_in x2 12) ∧ ((((x1 >>> ((gI (pI (pI σ (o + 36) x2.toNatClampNeg x2) (o + 37) x2.toNatClampNeg 0) (o + 38 + 6 * x2.toNatClampNeg + 1) 7) &&& 31)) &&& 1) = 0 → K2 (x2 + 1, pI (pI σ (o + 36) x2.toNatClampNeg x2) (o + 37) x2.toNatClampNeg 0)) ∧ (¬ ((x1 >>> ((gI (pI (pI σ (o + 36) x2.toNatClampNeg x2) (o + 37) x2.toNatClampNeg 0) (o + 38 + 6 * x2.toNatClampNeg + 1) 7) &&& 31)) &&& 1) = 0 → (vp_in x2 12) ∧ ((vp_in (gI (pI (pI σ (o + 36) x2.toNatClampNeg x2) (o + 37) x2.toNatClampNeg 0) (o + 38 + 6 * x2.toNatClampNeg + 1) 7) 12) ∧ ((vp_in x2 12) ∧ ((vp_in x2 12) ∧ ((vp_in (gI (pI (pI (pI σ (o + 36) x2.toNatClampNeg x2) (o + 37) x2.toNatClampNeg 0) (o + 36) x2.toNatClampNeg (gI (pI (pI σ (o + 36) x2.toNatClampNeg x2) (o + 37) x2.toNatClampNeg 0) (o + 36) (gI (pI (pI σ (o + 36) x2.toNatClampNeg x2) (o + 37) x2.toNatClampNeg 0) (o + 38 + 6 * x2.toNatClampNeg + 1) 7).toNatClampNeg)) (o + 38 + 6 * x2.toNatClampNeg + 1) 7) 12) ∧ ((vp_in x2 12) ∧ ((vp_in x2 12) ∧ (K2 (x2 + 1, pI (pI (pI (pI σ (o + 36) x2.toNatClampNeg x2) (o + 37) x2.toNatClampNeg 0) (o + 36) x2.toNatClampNeg (gI (pI (pI σ (o + 36) x2.toNatClampNeg x2) (o + 37) x2.toNatClampNeg 0) (o + 36) (gI (pI (pI σ (o + 36) x2.toNatClampNeg x2) (o + 37) x2.toNatClampNeg 0) (o + 38 + 6 * x2.toNatClampNeg + 1) 7).toNatClampNeg)) (o + 37) x2.toNatClampNeg ((gI (pI (pI (pI σ (o + 36) x2.toNatClampNeg x2) (o + 37) x2.toNatClampNeg 0) (o + 36) x2.toNatClampNeg (gI (pI (pI σ (o + 36) x2.toNatClampNeg x2) (o + 37) x2.toNatClampNeg 0) (o + 36) (gI (pI (pI σ (o + 36) x2.toNatClampNeg x2) (o + 37) x2.toNatClampNeg 0) (o + 38 + 6 * x2.toNatClampNeg + 1) 7).toNatClampNeg)) (o + 37) (gI (pI (pI (pI σ (o + 36) x2.toNatClampNeg x2) (o + 37) x2.toNatClampNeg 0) (o + 36) x2.toNatClampNeg (gI (pI (pI σ (o + 36) x2.toNatClampNeg x2) (o + 37) x2.toNatClampNeg 0) (o + 36) (gI (pI (pI σ (o + 36) x2.toNatClampNeg x2) (o + 37) x2.toNatClampNeg 0) (o + 38 + 6 * x2.toNatClampNeg + 1) 7).toNatClampNeg)) (o + 38 + 6 * x2.toNatClampNeg + 1) 7).toNatClampNeg) + (gI (pI (pI (pI σ (o + 36) x2.toNatClampNeg x2) (o + 37) x2.toNatClampNeg 0) (o + 36) x2.toNatClampNeg (gI (pI (pI σ (o + 36) x2.toNatClampNeg x2) (o + 37) x2.toNatClampNeg 0) (o + 36) (gI (pI (pI σ (o + 36) x2.toNatClampNeg x2) (o + 37) x2.toNatClampNeg 0) (o + 38 + 6 * x2.toNatClampNeg + 1) 7).toNatClampNeg)) (o + 38 + 6 * x2.toNatClampNeg + 2) 7))))))))))))))))))
def wp_X1_link (o c : Nat) (σ0 : Hp) (x1 : Int32) (Q : Hp → Prop) : Prop := lp (lb_X1_link_2 o c x1 Q) (0, σ0)
theorem xl_X1_link_2 (o c : Nat) (σ0 : Hp) (Q : Hp → Prop) (G : XE) (hB0 : LB o c σ0) (rq : RQ G 0 0 (oV (fun σ' => SH σ0 σ' ∧ Q σ'))) (x1 : Int32)    : ∀ z : Int32 × Hp, SH σ0 z.2 → lp (lb_X1_link_2 o c x1 Q ) z → X G rm_X1_link cX1_link RX1 3 none z.2 0 0 2 [(0, .ref o), (1, .int x1), (2, .int z.1)] [] := by
  intro z
  refine fun hs h => lp_X (P := fun z => SH σ0 z.2 → X G rm_X1_link cX1_link RX1 3 none z.2 0 0 2 [(0, .ref o), (1, .int x1), (2, .int z.1)] []) ?_ h hs
  intro K2 hK2 z h hs
  obtain ⟨x2, σ⟩ := z
  have hs : SH σ0 σ := hs
  have hB := hB0.sh hs
  simp only [lb_X1_link_2] at h
  show X G rm_X1_link cX1_link RX1 3 none σ 0 0 2 [(0, .ref o), (1, .int x1), (2, .int x2)] []
  have hK2 : ∀ z : (Int32 × Hp), SH σ0 z.2 → K2 z → X G rm_X1_link cX1_link RX1 3 none z.2 0 0 2 [(0, .ref o), (1, .int x1), (2, .int z.1)] [] := fun z hs h => hK2 z h hs
  refine x_iload_n dX1_link_2 (n := 3) rfl rfl 2 rfl ?_
  refine x_aload_n dX1_link_3 (n := 4) rfl rfl 0 rfl ?_
  refine x_geti fl_X1_124_1 rfl hB.1 rfl dX1_link_4 (n := 7) rfl ?_
  refine x_icmp_ge (tgt := 133) dX1_link_7 rfl (n := 10) rfl (fun c1 => ?_) (fun c1 => ?_)
  · have h := h.1 c1
    exact x_vret rq ⟨hs, h⟩ dX1_link_133
  · have h := h.2 c1
    refine x_aload_n dX1_link_10 (n := 11) rfl rfl 0 rfl ?_
    refine x_getr fl_X1_81_1 rfl hB.1 hB.r22 dX1_link_11 (n := 14) rfl ?_
    refine x_iload_n dX1_link_14 (n := 15) rfl rfl 2 rfl ?_
    refine x_iload_n dX1_link_15 (n := 16) rfl rfl 2 rfl ?_
    obtain ⟨b2, h⟩ := h
    refine x_iast hB.a22 b2 rfl dX1_link_16 (n := 17) rfl ?_
    refine x_aload_n dX1_link_17 (n := 18) rfl rfl 0 rfl ?_
    refine x_getr fl_X1_84_1 rfl hB.i.1 hB.i.r23 dX1_link_18 (n := 21) rfl ?_
    refine x_iload_n dX1_link_21 (n := 22) rfl rfl 2 rfl ?_
    refine x_iconst dX1_link_22 (n := 23) rfl ic_0 ?_
    obtain ⟨b3, h⟩ := h
    refine x_iast hB.i.a23 b3 rfl dX1_link_23 (n := 24) rfl ?_
    refine x_iload_n dX1_link_24 (n := 25) rfl rfl 1 rfl ?_
    refine x_iload_n dX1_link_25 (n := 26) rfl rfl 2 rfl ?_
    refine x_ishr dX1_link_26 (n := 27) rfl ?_
    refine x_iconst dX1_link_27 (n := 28) rfl ic_1 ?_
    refine x_iand dX1_link_28 (n := 29) rfl ?_
    refine x_if_eq (tgt := 127) dX1_link_29 rfl (n := 32) rfl (fun c4 => ?_) (fun c4 => ?_)
    · have h := h.1 c4
      refine x_iinc (v := x2 + 1) (lvs' := [(2, .int (x2 + 1)), (0, .ref o), (1, .int x1)]) dX1_link_127 (n := 130) rfl 2 rfl rfl (by decide) rfl ?_
      refine x_goto (tgt := 2) dX1_link_130 rfl ?_
      exact x_sub [1, 2, 0] rfl (hK2 (x2 + 1, pI (pI σ (o + 36) x2.toNatClampNeg x2) (o + 37) x2.toNatClampNeg 0) hs.i.i h)
    · have h := h.2 c4
      refine x_aload_n dX1_link_32 (n := 33) rfl rfl 0 rfl ?_
      refine x_getr fl_X1_49_1 rfl hB.i.i.1 hB.i.i.r7 dX1_link_33 (n := 36) rfl ?_
      refine x_iload_n dX1_link_36 (n := 37) rfl rfl 2 rfl ?_
      obtain ⟨b5, h⟩ := h
      refine x_aald at_note rfl hB.i.i.a7 b5 rfl (hB.i.i.n7 b5) dX1_link_37 (n := 38) rfl ?_
      refine x_bipush dX1_link_38 (n := 40) rfl bp_7 ?_
      refine x_cVip (As := [.int 7]) (rest := []) cv_X1_347 ck5 (met_X5_has (o + 38 + 6 * x2.toNatClampNeg) (pI (pI σ (o + 36) x2.toNatClampNeg x2) (o + 37) x2.toNatClampNeg 0) 7 (hB.i.i.b7 b5)) (hB.i.i.b7 b5).1 (by decide) rfl rfl rfl dX1_link_40 (n := 43) rfl (fun r7 q => ?_)
      subst q
      refine x_if_eq (tgt := 127) dX1_link_43 rfl (n := 46) rfl (fun c8 => ?_) (fun c8 => ?_)
      · have h := h.1 c8
        refine x_iinc (v := x2 + 1) (lvs' := [(2, .int (x2 + 1)), (0, .ref o), (1, .int x1)]) dX1_link_127 (n := 130) rfl 2 rfl rfl (by decide) rfl ?_
        refine x_goto (tgt := 2) dX1_link_130 rfl ?_
        exact x_sub [1, 2, 0] rfl (hK2 (x2 + 1, pI (pI σ (o + 36) x2.toNatClampNeg x2) (o + 37) x2.toNatClampNeg 0) hs.i.i h)
      · have h := h.2 c8
        refine x_iload_n dX1_link_46 (n := 47) rfl rfl 1 rfl ?_
        refine x_aload_n dX1_link_47 (n := 48) rfl rfl 0 rfl ?_
        refine x_getr fl_X1_49_1 rfl hB.i.i.1 hB.i.i.r7 dX1_link_48 (n := 51) rfl ?_
        refine x_iload_n dX1_link_51 (n := 52) rfl rfl 2 rfl ?_
        obtain ⟨b9, h⟩ := h
        refine x_aald at_note rfl hB.i.i.a7 b9 rfl (hB.i.i.n7 b9) dX1_link_52 (n := 53) rfl ?_
        refine x_getr fl_X1_349_5 rfl (hB.i.i.b7 b9).1 (hB.i.i.b7 b9).2.1 dX1_link_53 (n := 56) rfl ?_
        refine x_bipush dX1_link_56 (n := 58) rfl bp_7 ?_
        refine x_iald (hB.i.i.b7 b9).2.2.1 (vin_of (by decide) tn_7 rfl) tn_7 dX1_link_58 (n := 59) rfl ?_
        refine x_ishr dX1_link_59 (n := 60) rfl ?_
        refine x_iconst dX1_link_60 (n := 61) rfl ic_1 ?_
        refine x_iand dX1_link_61 (n := 62) rfl ?_
        refine x_if_ne (tgt := 68) dX1_link_62 rfl (n := 65) rfl (fun c10 => ?_) (fun c10 => ?_)
        · have h := h.2 c10
          refine x_aload_n dX1_link_68 (n := 69) rfl rfl 0 rfl ?_
          refine x_getr fl_X1_81_1 rfl hB.i.i.1 hB.i.i.r22 dX1_link_69 (n := 72) rfl ?_
          refine x_iload_n dX1_link_72 (n := 73) rfl rfl 2 rfl ?_
          refine x_aload_n dX1_link_73 (n := 74) rfl rfl 0 rfl ?_
          refine x_getr fl_X1_81_1 rfl hB.i.i.1 hB.i.i.r22 dX1_link_74 (n := 77) rfl ?_
          refine x_aload_n dX1_link_77 (n := 78) rfl rfl 0 rfl ?_
          refine x_getr fl_X1_49_1 rfl hB.i.i.1 hB.i.i.r7 dX1_link_78 (n := 81) rfl ?_
          refine x_iload_n dX1_link_81 (n := 82) rfl rfl 2 rfl ?_
          obtain ⟨b11, h⟩ := h
          refine x_aald at_note rfl hB.i.i.a7 b11 rfl (hB.i.i.n7 b11) dX1_link_82 (n := 83) rfl ?_
          refine x_getr fl_X1_349_5 rfl (hB.i.i.b7 b11).1 (hB.i.i.b7 b11).2.1 dX1_link_83 (n := 86) rfl ?_
          refine x_bipush dX1_link_86 (n := 88) rfl bp_7 ?_
          refine x_iald (hB.i.i.b7 b11).2.2.1 (vin_of (by decide) tn_7 rfl) tn_7 dX1_link_88 (n := 89) rfl ?_
          obtain ⟨b12, h⟩ := h
          refine x_iald hB.i.i.a22 b12 rfl dX1_link_89 (n := 90) rfl ?_
          obtain ⟨b13, h⟩ := h
          refine x_iast hB.i.i.a22 b13 rfl dX1_link_90 (n := 91) rfl ?_
          refine x_aload_n dX1_link_91 (n := 92) rfl rfl 0 rfl ?_
          refine x_getr fl_X1_84_1 rfl hB.i.i.i.1 hB.i.i.i.r23 dX1_link_92 (n := 95) rfl ?_
          refine x_iload_n dX1_link_95 (n := 96) rfl rfl 2 rfl ?_
          refine x_aload_n dX1_link_96 (n := 97) rfl rfl 0 rfl ?_
          refine x_getr fl_X1_84_1 rfl hB.i.i.i.1 hB.i.i.i.r23 dX1_link_97 (n := 100) rfl ?_
          refine x_aload_n dX1_link_100 (n := 101) rfl rfl 0 rfl ?_
          refine x_getr fl_X1_49_1 rfl hB.i.i.i.1 hB.i.i.i.r7 dX1_link_101 (n := 104) rfl ?_
          refine x_iload_n dX1_link_104 (n := 105) rfl rfl 2 rfl ?_
          obtain ⟨b14, h⟩ := h
          refine x_aald at_note rfl hB.i.i.i.a7 b14 rfl (hB.i.i.i.n7 b14) dX1_link_105 (n := 106) rfl ?_
          refine x_getr fl_X1_349_5 rfl (hB.i.i.i.b7 b14).1 (hB.i.i.i.b7 b14).2.1 dX1_link_106 (n := 109) rfl ?_
          refine x_bipush dX1_link_109 (n := 111) rfl bp_7 ?_
          refine x_iald (hB.i.i.i.b7 b14).2.2.1 (vin_of (by decide) tn_7 rfl) tn_7 dX1_link_111 (n := 112) rfl ?_
          obtain ⟨b15, h⟩ := h
          refine x_iald hB.i.i.i.a23 b15 rfl dX1_link_112 (n := 113) rfl ?_
          refine x_aload_n dX1_link_113 (n := 114) rfl rfl 0 rfl ?_
          refine x_getr fl_X1_49_1 rfl hB.i.i.i.1 hB.i.i.i.r7 dX1_link_114 (n := 117) rfl ?_
          refine x_iload_n dX1_link_117 (n := 118) rfl rfl 2 rfl ?_
          obtain ⟨b16, h⟩ := h
          refine x_aald at_note rfl hB.i.i.i.a7 b16 rfl (hB.i.i.i.n7 b16) dX1_link_118 (n := 119) rfl ?_
          refine x_getr fl_X1_352_5 rfl (hB.i.i.i.b7 b16).1 (hB.i.i.i.b7 b16).2.2.2.1 dX1_link_119 (n := 122) rfl ?_
          refine x_bipush dX1_link_122 (n := 124) rfl bp_7 ?_
          refine x_iald (hB.i.i.i.b7 b16).2.2.2.2 (vin_of (by decide) tn_7 rfl) tn_7 dX1_link_124 (n := 125) rfl ?_
          refine x_iadd dX1_link_125 (n := 126) rfl ?_
          obtain ⟨b17, h⟩ := h
          refine x_iast hB.i.i.i.a23 b17 rfl dX1_link_126 (n := 127) rfl ?_
          refine x_iinc (v := x2 + 1) (lvs' := [(2, .int (x2 + 1)), (0, .ref o), (1, .int x1)]) dX1_link_127 (n := 130) rfl 2 rfl rfl (by decide) rfl ?_
          refine x_goto (tgt := 2) dX1_link_130 rfl ?_
          exact x_sub [1, 2, 0] rfl (hK2 (x2 + 1, pI (pI (pI (pI σ (o + 36) x2.toNatClampNeg x2) (o + 37) x2.toNatClampNeg 0) (o + 36) x2.toNatClampNeg (gI (pI (pI σ (o + 36) x2.toNatClampNeg x2) (o + 37) x2.toNatClampNeg 0) (o + 36) (gI (pI (pI σ (o + 36) x2.toNatClampNeg x2) (o + 37) x2.toNatClampNeg 0) (o + 38 + 6 * x2.toNatClampNeg + 1) 7).toNatClampNeg)) (o + 37) x2.toNatClampNeg ((gI (pI (pI (pI σ (o + 36) x2.toNatClampNeg x2) (o + 37) x2.toNatClampNeg 0) (o + 36) x2.toNatClampNeg (gI (pI (pI σ (o + 36) x2.toNatClampNeg x2) (o + 37) x2.toNatClampNeg 0) (o + 36) (gI (pI (pI σ (o + 36) x2.toNatClampNeg x2) (o + 37) x2.toNatClampNeg 0) (o + 38 + 6 * x2.toNatClampNeg + 1) 7).toNatClampNeg)) (o + 37) (gI (pI (pI (pI σ (o + 36) x2.toNatClampNeg x2) (o + 37) x2.toNatClampNeg 0) (o + 36) x2.toNatClampNeg (gI (pI (pI σ (o + 36) x2.toNatClampNeg x2) (o + 37) x2.toNatClampNeg 0) (o + 36) (gI (pI (pI σ (o + 36) x2.toNatClampNeg x2) (o + 37) x2.toNatClampNeg 0) (o + 38 + 6 * x2.toNatClampNeg + 1) 7).toNatClampNeg)) (o + 38 + 6 * x2.toNatClampNeg + 1) 7).toNatClampNeg) + (gI (pI (pI (pI σ (o + 36) x2.toNatClampNeg x2) (o + 37) x2.toNatClampNeg 0) (o + 36) x2.toNatClampNeg (gI (pI (pI σ (o + 36) x2.toNatClampNeg x2) (o + 37) x2.toNatClampNeg 0) (o + 36) (gI (pI (pI σ (o + 36) x2.toNatClampNeg x2) (o + 37) x2.toNatClampNeg 0) (o + 38 + 6 * x2.toNatClampNeg + 1) 7).toNatClampNeg)) (o + 38 + 6 * x2.toNatClampNeg + 2) 7))) hs.i.i.i.i h)
        · have h := h.1 c10
          refine x_goto (tgt := 127) dX1_link_65 rfl ?_
          refine x_iinc (v := x2 + 1) (lvs' := [(2, .int (x2 + 1)), (0, .ref o), (1, .int x1)]) dX1_link_127 (n := 130) rfl 2 rfl rfl (by decide) rfl ?_
          refine x_goto (tgt := 2) dX1_link_130 rfl ?_
          exact x_sub [1, 2, 0] rfl (hK2 (x2 + 1, pI (pI σ (o + 36) x2.toNatClampNeg x2) (o + 37) x2.toNatClampNeg 0) hs.i.i h)
theorem met_X1_link (o c : Nat) (σ0 : Hp) (x1 : Int32) (Q : Hp → Prop) (hB0 : LB o c σ0) (h : wp_X1_link o c σ0 x1 Q) : MetX yX1_link cX1_link 3 none rm_X1_link σ0 [.ref o, .int x1] (oV (fun σ' => SH σ0 σ' ∧ Q σ')) 0 0 := by
  refine metX_of (own := RX1) (lvs := [(0, .ref o), (1, .int x1)]) (by decide) rfl (Nat.le_of_ble_eq_true rfl) rfl (fun G rq => ?_)
  unfold wp_X1_link at h
  refine x_iconst dX1_link_0 (n := 1) rfl ic_0 ?_
  refine x_istore_n (lvs' := [(2, .int 0), (0, .ref o), (1, .int x1)]) dX1_link_1 (n := 2) rfl rfl (by decide) rfl ?_
  exact x_sub [1, 2, 0] rfl (xl_X1_link_2 o c σ0 Q G hB0 rq x1 (0, σ0) (SH.rf (σ := σ0)) h)
abbrev rm_X1_all : Room := { frames := 0, cells := 0, slots := 0, locals := 0 }
def f_X1_all (o c : Nat) (σ : Hp) : Int32 := (1 <<< ((gI σ o 9) &&& 31)) - 1
theorem met_X1_all (o c : Nat) (σ : Hp) (hB : LB o c σ) : MetX yX1_all cX1_all 1 (some .int) rm_X1_all σ [.ref o] (oI (fun r σ' => σ' = σ ∧ r = (f_X1_all o c σ))) 0 0 := by
  refine metX_of (own := RX1) (lvs := [(0, .ref o)]) (by decide) rfl (Nat.le_of_ble_eq_true rfl) rfl (fun G rq => ?_)
  have hv : (f_X1_all o c σ) = _ := f_X1_all.eq_1 _ _ _
  refine x_iconst dX1_all_0 (n := 1) rfl ic_1 ?_
  refine x_aload_n dX1_all_1 (n := 2) rfl rfl 0 rfl ?_
  refine x_geti fl_X1_124_1 rfl hB.1 rfl dX1_all_2 (n := 5) rfl ?_
  refine x_ishl dX1_all_5 (n := 6) rfl ?_
  refine x_iconst dX1_all_6 (n := 7) rfl ic_1 ?_
  refine x_isub dX1_all_7 (n := 8) rfl ?_
  exact x_iret rq ⟨rfl, hv.symm⟩ dX1_all_8
abbrev rm_X1_isOne : Room := { frames := 2, cells := 0, slots := 0, locals := 43 }
def lb_X1_isOne_9 (o c : Nat) (x1 : Int32) (Q : Int32 → Hp → Prop)  (K9 : Int32 × Int32 × Hp → Prop) (z : Int32 × Int32 × Hp) : Prop := match z with
  | (x2, x3, σ) => ((gI σ o 9) ≤ x3 → (x2 = 1 → Q 1 σ) ∧ (¬ x2 = 1 → Q 0 σ)) ∧ (¬ (gI σ o 9) ≤ x3 → (((x1 >>> (x3 &&& 31)) &&& 1) = 1 → (vp_in x3 12) ∧ (((gI σ (o + 36) x3.toNatClampNeg) = x3 → K9 (x2 + 1, x3 + 1, σ)) ∧ (¬ (gI σ (o + 36) x3.toNatClampNeg) = x3 → K9 (x2 + 0, x3 + 1, σ)))) ∧ (¬ ((x1 >>> (x3 &&& 31)) &&& 1) = 1 → K9 (x2 + 0, x3 + 1, σ)))
def wp_X1_isOne (o c : Nat) (σ0 : Hp) (x1 : Int32) (Q : Int32 → Hp → Prop) : Prop := wp_X1_link o c σ0 x1 (fun  s1 => lp (lb_X1_isOne_9 o c x1 Q) (0, 0, s1))
theorem xl_X1_isOne_9 (o c : Nat) (σ0 : Hp) (Q : Int32 → Hp → Prop) (G : XE) (hB0 : LB o c σ0) (rq : RQ G 0 0 (oI (fun r σ' => SH σ0 σ' ∧ Q r σ'))) (x1 : Int32)    : ∀ z : Int32 × Int32 × Hp, SH σ0 z.2.2 → lp (lb_X1_isOne_9 o c x1 Q ) z → X G rm_X1_isOne cX1_isOne RX1 4 (some .boolean) z.2.2 0 0 9 [(0, .ref o), (1, .int x1), (2, .int z.1), (3, .int z.2.1)] [] := by
  intro z
  refine fun hs h => lp_X (P := fun z => SH σ0 z.2.2 → X G rm_X1_isOne cX1_isOne RX1 4 (some .boolean) z.2.2 0 0 9 [(0, .ref o), (1, .int x1), (2, .int z.1), (3, .int z.2.1)] []) ?_ h hs
  intro K9 hK9 z h hs
  obtain ⟨x2, x3, σ⟩ := z
  have hs : SH σ0 σ := hs
  have hB := hB0.sh hs
  simp only [lb_X1_isOne_9] at h
  show X G rm_X1_isOne cX1_isOne RX1 4 (some .boolean) σ 0 0 9 [(0, .ref o), (1, .int x1), (2, .int x2), (3, .int x3)] []
  have hK9 : ∀ z : (Int32 × Int32 × Hp), SH σ0 z.2.2 → K9 z → X G rm_X1_isOne cX1_isOne RX1 4 (some .boolean) z.2.2 0 0 9 [(0, .ref o), (1, .int x1), (2, .int z.1), (3, .int z.2.1)] [] := fun z hs h => hK9 z h hs
  refine x_iload_n dX1_isOne_9 (n := 10) rfl rfl 3 rfl ?_
  refine x_aload_n dX1_isOne_10 (n := 11) rfl rfl 0 rfl ?_
  refine x_geti fl_X1_124_1 rfl hB.1 rfl dX1_isOne_11 (n := 14) rfl ?_
  refine x_icmp_ge (tgt := 50) dX1_isOne_14 rfl (n := 17) rfl (fun c3 => ?_) (fun c3 => ?_)
  · have h := h.1 c3
    refine x_iload_n dX1_isOne_50 (n := 51) rfl rfl 2 rfl ?_
    refine x_iconst dX1_isOne_51 (n := 52) rfl ic_1 ?_
    refine x_icmp_ne (tgt := 59) dX1_isOne_52 rfl (n := 55) rfl (fun c4 => ?_) (fun c4 => ?_)
    · have h := h.2 c4
      refine x_iconst dX1_isOne_59 (n := 60) rfl ic_0 ?_
      exact x_zret rq ⟨hs, h⟩ isB0 dX1_isOne_60
    · have h := h.1 c4
      refine x_iconst dX1_isOne_55 (n := 56) rfl ic_1 ?_
      refine x_goto (tgt := 60) dX1_isOne_56 rfl ?_
      exact x_zret rq ⟨hs, h⟩ isB1 dX1_isOne_60
  · have h := h.2 c3
    refine x_iload_n dX1_isOne_17 (n := 18) rfl rfl 2 rfl ?_
    refine x_iload_n dX1_isOne_18 (n := 19) rfl rfl 1 rfl ?_
    refine x_iload_n dX1_isOne_19 (n := 20) rfl rfl 3 rfl ?_
    refine x_ishr dX1_isOne_20 (n := 21) rfl ?_
    refine x_iconst dX1_isOne_21 (n := 22) rfl ic_1 ?_
    refine x_iand dX1_isOne_22 (n := 23) rfl ?_
    refine x_iconst dX1_isOne_23 (n := 24) rfl ic_1 ?_
    refine x_icmp_ne (tgt := 41) dX1_isOne_24 rfl (n := 27) rfl (fun c5 => ?_) (fun c5 => ?_)
    · have h := h.2 c5
      refine x_iconst dX1_isOne_41 (n := 42) rfl ic_0 ?_
      refine x_iadd dX1_isOne_42 (n := 43) rfl ?_
      refine x_istore_n (lvs' := [(2, .int (x2 + 0)), (0, .ref o), (1, .int x1), (3, .int x3)]) dX1_isOne_43 (n := 44) rfl rfl (by decide) rfl ?_
      refine x_iinc (v := x3 + 1) (lvs' := [(3, .int (x3 + 1)), (2, .int (x2 + 0)), (0, .ref o), (1, .int x1)]) dX1_isOne_44 (n := 47) rfl 3 rfl rfl (by decide) rfl ?_
      refine x_goto (tgt := 9) dX1_isOne_47 rfl ?_
      exact x_sub [2, 3, 1, 0] rfl (hK9 (x2 + 0, x3 + 1, σ) hs h)
    · have h := h.1 c5
      refine x_aload_n dX1_isOne_27 (n := 28) rfl rfl 0 rfl ?_
      refine x_getr fl_X1_81_1 rfl hB.1 hB.r22 dX1_isOne_28 (n := 31) rfl ?_
      refine x_iload_n dX1_isOne_31 (n := 32) rfl rfl 3 rfl ?_
      obtain ⟨b6, h⟩ := h
      refine x_iald hB.a22 b6 rfl dX1_isOne_32 (n := 33) rfl ?_
      refine x_iload_n dX1_isOne_33 (n := 34) rfl rfl 3 rfl ?_
      refine x_icmp_ne (tgt := 41) dX1_isOne_34 rfl (n := 37) rfl (fun c7 => ?_) (fun c7 => ?_)
      · have h := h.2 c7
        refine x_iconst dX1_isOne_41 (n := 42) rfl ic_0 ?_
        refine x_iadd dX1_isOne_42 (n := 43) rfl ?_
        refine x_istore_n (lvs' := [(2, .int (x2 + 0)), (0, .ref o), (1, .int x1), (3, .int x3)]) dX1_isOne_43 (n := 44) rfl rfl (by decide) rfl ?_
        refine x_iinc (v := x3 + 1) (lvs' := [(3, .int (x3 + 1)), (2, .int (x2 + 0)), (0, .ref o), (1, .int x1)]) dX1_isOne_44 (n := 47) rfl 3 rfl rfl (by decide) rfl ?_
        refine x_goto (tgt := 9) dX1_isOne_47 rfl ?_
        exact x_sub [2, 3, 1, 0] rfl (hK9 (x2 + 0, x3 + 1, σ) hs h)
      · have h := h.1 c7
        refine x_iconst dX1_isOne_37 (n := 38) rfl ic_1 ?_
        refine x_goto (tgt := 42) dX1_isOne_38 rfl ?_
        refine x_iadd dX1_isOne_42 (n := 43) rfl ?_
        refine x_istore_n (lvs' := [(2, .int (x2 + 1)), (0, .ref o), (1, .int x1), (3, .int x3)]) dX1_isOne_43 (n := 44) rfl rfl (by decide) rfl ?_
        refine x_iinc (v := x3 + 1) (lvs' := [(3, .int (x3 + 1)), (2, .int (x2 + 1)), (0, .ref o), (1, .int x1)]) dX1_isOne_44 (n := 47) rfl 3 rfl rfl (by decide) rfl ?_
        refine x_goto (tgt := 9) dX1_isOne_47 rfl ?_
        exact x_sub [2, 3, 1, 0] rfl (hK9 (x2 + 1, x3 + 1, σ) hs h)
theorem met_X1_isOne (o c : Nat) (σ0 : Hp) (x1 : Int32) (Q : Int32 → Hp → Prop) (hB0 : LB o c σ0) (h : wp_X1_isOne o c σ0 x1 Q) : MetX yX1_isOne cX1_isOne 4 (some .boolean) rm_X1_isOne σ0 [.ref o, .int x1] (oI (fun r σ' => SH σ0 σ' ∧ Q r σ')) 0 0 := by
  refine metX_of (own := RX1) (lvs := [(0, .ref o), (1, .int x1)]) (by decide) rfl (Nat.le_of_ble_eq_true rfl) rfl (fun G rq => ?_)
  unfold wp_X1_isOne at h
  refine x_iconst dX1_isOne_0 (n := 1) rfl ic_0 ?_
  refine x_istore_n (lvs' := [(2, .int 0), (0, .ref o), (1, .int x1)]) dX1_isOne_1 (n := 2) rfl rfl (by decide) rfl ?_
  refine x_aload_n dX1_isOne_2 (n := 3) rfl rfl 1 rfl ?_
  refine x_iload_n dX1_isOne_3 (n := 4) rfl rfl 2 rfl ?_
  refine x_cVvm (As := [.int x1]) (rest := []) cv_X1_385 ck1 (met_X1_link o c σ0 x1 _ hB0 h) hB0.1 (by decide) rfl rfl rfl dX1_isOne_4 (n := 7) rfl (fun  s1 hs2 h => ?_)
  have hs2t := (SH.rf (σ := σ0)).tr hs2; have hBs1 := hB0.sh hs2t
  refine x_iconst dX1_isOne_7 (n := 8) rfl ic_0 ?_
  refine x_istore_n (lvs' := [(3, .int 0), (2, .int 0), (0, .ref o), (1, .int x1)]) dX1_isOne_8 (n := 9) rfl rfl (by decide) rfl ?_
  exact x_sub [2, 3, 1, 0] rfl (xl_X1_isOne_9 o c σ0 Q G hB0 rq x1 (0, 0, s1) hs2t h)
abbrev rm_X1_told : Room := { frames := 2, cells := 0, slots := 0, locals := 46 }
def f_X1_told (o c : Nat) (σ0 : Hp) (x1 : Int32) (x2 : Int32) : Int32 × Hp := if (f_X1_isNote o c σ0 x1) = 0 then ((-1), σ0) else if (f_X1_in x2.toInt64 0 19999) = 0 then ((-1), σ0) else if (gI σ0 o 11) = 20 then ((-1), σ0) else (((gI σ0 o 11) + 1), pI (pI (pI σ0 (o + 18) (gI σ0 o 11).toNatClampNeg x1) (o + 19) (gI σ0 o 11).toNatClampNeg x2) o 11 ((gI σ0 o 11) + 1))
def ok_X1_told (o c : Nat) (σ0 : Hp) (x1 : Int32) (x2 : Int32) : Prop := (ok_X1_isNote o c σ0 x1) ∧ (((f_X1_isNote o c σ0 x1) = 0 → True) ∧ (¬ (f_X1_isNote o c σ0 x1) = 0 → (((f_X1_in x2.toInt64 0 19999) = 0 → True) ∧ (¬ (f_X1_in x2.toInt64 0 19999) = 0 → (((gI σ0 o 11) = 20 → True) ∧ (¬ (gI σ0 o 11) = 20 → ((vp_in (gI σ0 o 11) 20) ∧ (vp_in (gI σ0 o 11) 20))))))))
theorem met_X1_told (o c : Nat) (σ0 : Hp) (x1 : Int32) (x2 : Int32) (hB0 : LB o c σ0) (hk : ok_X1_told o c σ0 x1 x2) : MetX yX1_told cX1_told 3 (some .int) rm_X1_told σ0 [.ref o, .int x1, .int x2] (oI (fun r σ' => SH σ0 σ' ∧ (r, σ') = (f_X1_told o c σ0 x1 x2))) 0 0 := by
  refine metX_of (own := RX1) (lvs := [(0, .ref o), (1, .int x1), (2, .int x2)]) (by decide) rfl (Nat.le_of_ble_eq_true rfl) rfl (fun G rq => ?_)
  have hv : (f_X1_told o c σ0 x1 x2) = _ := f_X1_told.eq_1 _ _ _ _ _
  unfold ok_X1_told at hk
  refine x_aload_n dX1_told_0 (n := 1) rfl rfl 0 rfl ?_
  refine x_iload_n dX1_told_1 (n := 2) rfl rfl 1 rfl ?_
  obtain ⟨b1, hk⟩ := hk
  refine x_cVip (As := [.int x1]) (rest := []) cv_X1_410 ck1 (met_X1_isNote o c σ0 x1 hB0 b1) hB0.1 (by decide) rfl rfl rfl dX1_told_2 (n := 5) rfl (fun r2 q => ?_)
  subst q
  refine x_if_eq (tgt := 29) dX1_told_5 rfl (n := 8) rfl (fun c3 => ?_) (fun c3 => ?_)
  · have hk := hk.1 c3
    have hv := hv.trans (if_pos c3)
    refine x_iconst dX1_told_29 (n := 30) rfl ic_m1 ?_
    exact x_iret rq ⟨(SH.rf (σ := σ0)), hv.symm⟩ dX1_told_30
  · have hk := hk.2 c3
    have hv := hv.trans (if_neg c3)
    refine x_iload_n dX1_told_8 (n := 9) rfl rfl 2 rfl ?_
    refine x_i2l dX1_told_9 (n := 10) rfl ?_
    refine x_lconst dX1_told_10 (n := 11) rfl lc_0 ?_
    refine x_ldc2 dX1_told_11 (n := 14) rfl q1354 ?_
    refine x_cSip (As := [.long x2.toInt64, .long 0, .long 19999]) (rest := []) cs_X1_96 (met_X1_in σ0 x2.toInt64 0 19999 ) (by decide) rfl rfl rfl dX1_told_14 (n := 17) rfl (fun r5 q => ?_)
    subst q
    refine x_if_eq (tgt := 29) dX1_told_17 rfl (n := 20) rfl (fun c6 => ?_) (fun c6 => ?_)
    · have hk := hk.1 c6
      have hv := hv.trans (if_pos c6)
      refine x_iconst dX1_told_29 (n := 30) rfl ic_m1 ?_
      exact x_iret rq ⟨(SH.rf (σ := σ0)), hv.symm⟩ dX1_told_30
    · have hk := hk.2 c6
      have hv := hv.trans (if_neg c6)
      refine x_aload_n dX1_told_20 (n := 21) rfl rfl 0 rfl ?_
      refine x_geti fl_X1_135_1 rfl hB0.1 rfl dX1_told_21 (n := 24) rfl ?_
      refine x_bipush dX1_told_24 (n := 26) rfl bp_20 ?_
      refine x_icmp_ne (tgt := 31) dX1_told_26 rfl (n := 29) rfl (fun c7 => ?_) (fun c7 => ?_)
      · have hk := hk.2 c7
        have hv := hv.trans (if_neg c7)
        refine x_aload_n dX1_told_31 (n := 32) rfl rfl 0 rfl ?_
        refine x_getr fl_X1_60_1 rfl hB0.1 hB0.r16 dX1_told_32 (n := 35) rfl ?_
        refine x_aload_n dX1_told_35 (n := 36) rfl rfl 0 rfl ?_
        refine x_geti fl_X1_135_1 rfl hB0.1 rfl dX1_told_36 (n := 39) rfl ?_
        refine x_iload_n dX1_told_39 (n := 40) rfl rfl 1 rfl ?_
        obtain ⟨b8, hk⟩ := hk
        refine x_iast hB0.a16 b8 rfl dX1_told_40 (n := 41) rfl ?_
        refine x_aload_n dX1_told_41 (n := 42) rfl rfl 0 rfl ?_
        refine x_getr fl_X1_63_1 rfl hB0.i.1 hB0.i.r17 dX1_told_42 (n := 45) rfl ?_
        refine x_aload_n dX1_told_45 (n := 46) rfl rfl 0 rfl ?_
        refine x_geti fl_X1_135_1 rfl hB0.i.1 (gIo (by omega)) dX1_told_46 (n := 49) rfl ?_
        refine x_iload_n dX1_told_49 (n := 50) rfl rfl 2 rfl ?_
        have b9 := hk
        refine x_iast hB0.i.a17 b9 rfl dX1_told_50 (n := 51) rfl ?_
        refine x_aload_n dX1_told_51 (n := 52) rfl rfl 0 rfl ?_
        refine x_dup dX1_told_52 (n := 53) rfl rfl ?_
        refine x_geti fl_X1_135_1 rfl hB0.i.i.1 ((gIo (by omega)).trans (gIo (by omega))) dX1_told_53 (n := 56) rfl ?_
        refine x_iconst dX1_told_56 (n := 57) rfl ic_1 ?_
        refine x_iadd dX1_told_57 (n := 58) rfl ?_
        refine x_puti fp_X1_135_1 rfl hB0.i.i.1 dX1_told_58 (n := 61) rfl ?_
        refine x_aload_n dX1_told_61 (n := 62) rfl rfl 0 rfl ?_
        refine x_geti fl_X1_135_1 rfl hB0.i.i.i.1 (gIs) dX1_told_62 (n := 65) rfl ?_
        exact x_iret rq ⟨(SH.rf (σ := σ0)).i.i.i, hv.symm⟩ dX1_told_65
      · have hk := hk.1 c7
        have hv := hv.trans (if_pos c7)
        refine x_iconst dX1_told_29 (n := 30) rfl ic_m1 ?_
        exact x_iret rq ⟨(SH.rf (σ := σ0)), hv.symm⟩ dX1_told_30
abbrev rm_X1_forget : Room := { frames := 0, cells := 0, slots := 0, locals := 0 }
def f_X1_forget (o c : Nat) (σ0 : Hp) : Int32 × Hp := (gI σ0 o 11, pI σ0 o 11 0)
theorem met_X1_forget (o c : Nat) (σ0 : Hp) (hB0 : LB o c σ0) : MetX yX1_forget cX1_forget 2 (some .int) rm_X1_forget σ0 [.ref o] (oI (fun r σ' => SH σ0 σ' ∧ (r, σ') = (f_X1_forget o c σ0))) 0 0 := by
  refine metX_of (own := RX1) (lvs := [(0, .ref o)]) (by decide) rfl (Nat.le_of_ble_eq_true rfl) rfl (fun G rq => ?_)
  have hv : (f_X1_forget o c σ0) = _ := f_X1_forget.eq_1 _ _ _
  refine x_aload_n dX1_forget_0 (n := 1) rfl rfl 0 rfl ?_
  refine x_geti fl_X1_135_1 rfl hB0.1 rfl dX1_forget_1 (n := 4) rfl ?_
  refine x_istore_n (lvs' := [(1, .int (gI σ0 o 11)), (0, .ref o)]) dX1_forget_4 (n := 5) rfl rfl (by decide) rfl ?_
  refine x_aload_n dX1_forget_5 (n := 6) rfl rfl 1 rfl ?_
  refine x_iconst dX1_forget_6 (n := 7) rfl ic_0 ?_
  refine x_puti fp_X1_135_1 rfl hB0.1 dX1_forget_7 (n := 10) rfl ?_
  refine x_iload_n dX1_forget_10 (n := 11) rfl rfl 0 rfl ?_
  exact x_iret rq ⟨(SH.rf (σ := σ0)).i, hv.symm⟩ dX1_forget_11
abbrev rm_X5_become : Room := { frames := 0, cells := 0, slots := 0, locals := 0 }
def lb_X5_become_10 (o : Nat) (a1 : Nat)  (Q : Hp → Prop)  (K10 : Int32 × Hp → Prop) (z : Int32 × Hp) : Prop := match z with
  | (x2, σ) => (8 ≤ x2 → Q σ) ∧ (¬ 8 ≤ x2 → (vp_in x2 8) ∧ ((vp_in x2 8) ∧ ((vp_in x2 8) ∧ ((vp_in x2 8) ∧ (K10 (x2 + 1, pI (pI σ (o + 1) x2.toNatClampNeg (gI σ (a1 + 1) x2.toNatClampNeg)) (o + 2) x2.toNatClampNeg (gI (pI σ (o + 1) x2.toNatClampNeg (gI σ (a1 + 1) x2.toNatClampNeg)) (a1 + 2) x2.toNatClampNeg)))))))
def wp_X5_become (o : Nat) (σ0 : Hp) (a1 : Nat) (Q : Hp → Prop) : Prop := lp (lb_X5_become_10 o a1 Q) (0, pI σ0 o 1 (gI σ0 a1 1))
theorem xl_X5_become_10 (o : Nat) (σ0 : Hp) (a1 : Nat) (Q : Hp → Prop) (G : XE) (hB0 : NB o σ0) (ha1 : NB a1 σ0) (rq : RQ G 0 0 (oV (fun σ' => SH σ0 σ' ∧ Q σ')))     : ∀ z : Int32 × Hp, SH σ0 z.2 → lp (lb_X5_become_10 o a1  Q ) z → X G rm_X5_become cX5_become RX5 3 none z.2 0 0 10 [(0, .ref o), (1, .ref a1), (2, .int z.1)] [] := by
  intro z
  refine fun hs h => lp_X (P := fun z => SH σ0 z.2 → X G rm_X5_become cX5_become RX5 3 none z.2 0 0 10 [(0, .ref o), (1, .ref a1), (2, .int z.1)] []) ?_ h hs
  intro K10 hK10 z h hs
  obtain ⟨x2, σ⟩ := z
  have hs : SH σ0 σ := hs
  have hB := hB0.sh hs
  simp only [lb_X5_become_10] at h
  show X G rm_X5_become cX5_become RX5 3 none σ 0 0 10 [(0, .ref o), (1, .ref a1), (2, .int x2)] []
  have hK10 : ∀ z : (Int32 × Hp), SH σ0 z.2 → K10 z → X G rm_X5_become cX5_become RX5 3 none z.2 0 0 10 [(0, .ref o), (1, .ref a1), (2, .int z.1)] [] := fun z hs h => hK10 z h hs
  refine x_iload_n dX5_become_10 (n := 11) rfl rfl 2 rfl ?_
  refine x_bipush dX5_become_11 (n := 13) rfl bp_8 ?_
  refine x_icmp_ge (tgt := 46) dX5_become_13 rfl (n := 16) rfl (fun c1 => ?_) (fun c1 => ?_)
  · have h := h.1 c1
    exact x_vret rq ⟨hs, h⟩ dX5_become_46
  · have h := h.2 c1
    refine x_aload_n dX5_become_16 (n := 17) rfl rfl 0 rfl ?_
    refine x_getr fl_X5_9_5 rfl hB.1 hB.2.1 dX5_become_17 (n := 20) rfl ?_
    refine x_iload_n dX5_become_20 (n := 21) rfl rfl 2 rfl ?_
    refine x_aload_n dX5_become_21 (n := 22) rfl rfl 1 rfl ?_
    refine x_getr fl_X5_9_5 rfl (ha1.sh hs).1 (ha1.sh hs).2.1 dX5_become_22 (n := 25) rfl ?_
    refine x_iload_n dX5_become_25 (n := 26) rfl rfl 2 rfl ?_
    obtain ⟨b2, h⟩ := h
    refine x_iald (ha1.sh hs).2.2.1 b2 rfl dX5_become_26 (n := 27) rfl ?_
    obtain ⟨b3, h⟩ := h
    refine x_iast hB.2.2.1 b3 rfl dX5_become_27 (n := 28) rfl ?_
    refine x_aload_n dX5_become_28 (n := 29) rfl rfl 0 rfl ?_
    refine x_getr fl_X5_15_5 rfl hB.i.1 hB.i.2.2.2.1 dX5_become_29 (n := 32) rfl ?_
    refine x_iload_n dX5_become_32 (n := 33) rfl rfl 2 rfl ?_
    refine x_aload_n dX5_become_33 (n := 34) rfl rfl 1 rfl ?_
    refine x_getr fl_X5_15_5 rfl (ha1.sh hs.i).1 (ha1.sh hs.i).2.2.2.1 dX5_become_34 (n := 37) rfl ?_
    refine x_iload_n dX5_become_37 (n := 38) rfl rfl 2 rfl ?_
    obtain ⟨b4, h⟩ := h
    refine x_iald (ha1.sh hs.i).2.2.2.2 b4 rfl dX5_become_38 (n := 39) rfl ?_
    obtain ⟨b5, h⟩ := h
    refine x_iast hB.i.2.2.2.2 b5 rfl dX5_become_39 (n := 40) rfl ?_
    refine x_iinc (v := x2 + 1) (lvs' := [(2, .int (x2 + 1)), (0, .ref o), (1, .ref a1)]) dX5_become_40 (n := 43) rfl 2 rfl rfl (by decide) rfl ?_
    refine x_goto (tgt := 10) dX5_become_43 rfl ?_
    exact x_sub [1, 2, 0] rfl (hK10 (x2 + 1, pI (pI σ (o + 1) x2.toNatClampNeg (gI σ (a1 + 1) x2.toNatClampNeg)) (o + 2) x2.toNatClampNeg (gI (pI σ (o + 1) x2.toNatClampNeg (gI σ (a1 + 1) x2.toNatClampNeg)) (a1 + 2) x2.toNatClampNeg)) hs.i.i h)
theorem met_X5_become (o : Nat) (σ0 : Hp) (a1 : Nat) (Q : Hp → Prop) (hB0 : NB o σ0) (ha1 : NB a1 σ0) (h : wp_X5_become o σ0 a1 Q) : MetX yX5_become cX5_become 3 none rm_X5_become σ0 [.ref o, .ref a1] (oV (fun σ' => SH σ0 σ' ∧ Q σ')) 0 0 := by
  refine metX_of (own := RX5) (lvs := [(0, .ref o), (1, .ref a1)]) (by decide) rfl (Nat.le_of_ble_eq_true rfl) rfl (fun G rq => ?_)
  unfold wp_X5_become at h
  refine x_aload_n dX5_become_0 (n := 1) rfl rfl 0 rfl ?_
  refine x_aload_n dX5_become_1 (n := 2) rfl rfl 1 rfl ?_
  refine x_geti fl_X5_18_5 rfl (ha1.sh (SH.rf (σ := σ0))).1 rfl dX5_become_2 (n := 5) rfl ?_
  refine x_puti fp_X5_18_5 rfl hB0.1 dX5_become_5 (n := 8) rfl ?_
  refine x_iconst dX5_become_8 (n := 9) rfl ic_0 ?_
  refine x_istore_n (lvs' := [(2, .int 0), (0, .ref o), (1, .ref a1)]) dX5_become_9 (n := 10) rfl rfl (by decide) rfl ?_
  exact x_sub [1, 2, 0] rfl (xl_X5_become_10 o σ0 a1 Q G hB0 ha1 rq (0, pI σ0 o 1 (gI σ0 a1 1)) (SH.rf (σ := σ0)).i h)
abbrev rm_X1_keep : Room := { frames := 1, cells := 0, slots := 0, locals := 22 }
def lb_X1_keep_33 (o c : Nat)  (Q : Int32 → Hp → Prop)  (K33 : Int32 × Hp → Prop) (z : Int32 × Hp) : Prop := match z with
  | (x1, σ) => ((gI σ o 11) ≤ x1 → Q (gI σ o 9) (pI (pI (pI σ o 10 (gI σ o 9)) o 12 (gI σ o 11)) o 15 1)) ∧ (¬ (gI σ o 11) ≤ x1 → (vp_in x1 20) ∧ ((vp_in x1 20) ∧ ((vp_in x1 20) ∧ ((vp_in x1 20) ∧ (K33 (x1 + 1, pI (pI σ (o + 20) x1.toNatClampNeg (gI σ (o + 18) x1.toNatClampNeg)) (o + 21) x1.toNatClampNeg (gI (pI σ (o + 20) x1.toNatClampNeg (gI σ (o + 18) x1.toNatClampNeg)) (o + 19) x1.toNatClampNeg)))))))
def lb_X1_keep_2 (o c : Nat)  (Q : Int32 → Hp → Prop)  (K2 : Int32 × Hp → Prop) (z : Int32 × Hp) : Prop := match z with
  | (x1, σ) => ((gI σ o 9) ≤ x1 → lp (lb_X1_keep_33 o c Q) (0, σ)) ∧ (¬ (gI σ o 9) ≤ x1 → (vp_in x1 12) ∧ ((vp_in x1 12) ∧ (wp_X5_become (o + 41 + 6 * x1.toNatClampNeg) σ (o + 38 + 6 * x1.toNatClampNeg) (fun  s4 => K2 (x1 + 1, s4)))))
def wp_X1_keep (o c : Nat) (σ0 : Hp) (Q : Int32 → Hp → Prop) : Prop := lp (lb_X1_keep_2 o c Q) (0, σ0)
theorem xl_X1_keep_33 (o c : Nat) (σ0 : Hp) (Q : Int32 → Hp → Prop) (G : XE) (hB0 : LB o c σ0) (rq : RQ G 0 0 (oI (fun r σ' => SH σ0 σ' ∧ Q r σ')))     : ∀ z : Int32 × Hp, SH σ0 z.2 → lp (lb_X1_keep_33 o c  Q ) z → X G rm_X1_keep cX1_keep RX1 2 (some .int) z.2 0 0 33 [(0, .ref o), (1, .int z.1)] [] := by
  intro z
  refine fun hs h => lp_X (P := fun z => SH σ0 z.2 → X G rm_X1_keep cX1_keep RX1 2 (some .int) z.2 0 0 33 [(0, .ref o), (1, .int z.1)] []) ?_ h hs
  intro K33 hK33 z h hs
  obtain ⟨x1, σ⟩ := z
  have hs : SH σ0 σ := hs
  have hB := hB0.sh hs
  simp only [lb_X1_keep_33] at h
  show X G rm_X1_keep cX1_keep RX1 2 (some .int) σ 0 0 33 [(0, .ref o), (1, .int x1)] []
  have hK33 : ∀ z : (Int32 × Hp), SH σ0 z.2 → K33 z → X G rm_X1_keep cX1_keep RX1 2 (some .int) z.2 0 0 33 [(0, .ref o), (1, .int z.1)] [] := fun z hs h => hK33 z h hs
  refine x_iload_n dX1_keep_33 (n := 34) rfl rfl 1 rfl ?_
  refine x_aload_n dX1_keep_34 (n := 35) rfl rfl 0 rfl ?_
  refine x_geti fl_X1_135_1 rfl hB.1 rfl dX1_keep_35 (n := 38) rfl ?_
  refine x_icmp_ge (tgt := 71) dX1_keep_38 rfl (n := 41) rfl (fun c6 => ?_) (fun c6 => ?_)
  · have h := h.1 c6
    refine x_aload_n dX1_keep_71 (n := 72) rfl rfl 0 rfl ?_
    refine x_aload_n dX1_keep_72 (n := 73) rfl rfl 0 rfl ?_
    refine x_geti fl_X1_124_1 rfl hB.1 rfl dX1_keep_73 (n := 76) rfl ?_
    refine x_puti fp_X1_434_1 rfl hB.1 dX1_keep_76 (n := 79) rfl ?_
    refine x_aload_n dX1_keep_79 (n := 80) rfl rfl 0 rfl ?_
    refine x_aload_n dX1_keep_80 (n := 81) rfl rfl 0 rfl ?_
    refine x_geti fl_X1_135_1 rfl hB.i.1 (gIn (by decide)) dX1_keep_81 (n := 84) rfl ?_
    refine x_puti fp_X1_437_1 rfl hB.i.1 dX1_keep_84 (n := 87) rfl ?_
    refine x_aload_n dX1_keep_87 (n := 88) rfl rfl 0 rfl ?_
    refine x_iconst dX1_keep_88 (n := 89) rfl ic_1 ?_
    refine x_putz fp_X1_141_1 rfl hB.i.i.1 isB1 dX1_keep_89 (n := 92) rfl ?_
    refine x_aload_n dX1_keep_92 (n := 93) rfl rfl 0 rfl ?_
    refine x_geti fl_X1_124_1 rfl hB.i.i.i.1 ((gIn (by decide)).trans ((gIn (by decide)).trans (gIn (by decide)))) dX1_keep_93 (n := 96) rfl ?_
    exact x_iret rq ⟨hs.i.i.i, h⟩ dX1_keep_96
  · have h := h.2 c6
    refine x_aload_n dX1_keep_41 (n := 42) rfl rfl 0 rfl ?_
    refine x_getr fl_X1_66_1 rfl hB.1 hB.r18 dX1_keep_42 (n := 45) rfl ?_
    refine x_iload_n dX1_keep_45 (n := 46) rfl rfl 1 rfl ?_
    refine x_aload_n dX1_keep_46 (n := 47) rfl rfl 0 rfl ?_
    refine x_getr fl_X1_60_1 rfl hB.1 hB.r16 dX1_keep_47 (n := 50) rfl ?_
    refine x_iload_n dX1_keep_50 (n := 51) rfl rfl 1 rfl ?_
    obtain ⟨b7, h⟩ := h
    refine x_iald hB.a16 b7 rfl dX1_keep_51 (n := 52) rfl ?_
    obtain ⟨b8, h⟩ := h
    refine x_iast hB.a18 b8 rfl dX1_keep_52 (n := 53) rfl ?_
    refine x_aload_n dX1_keep_53 (n := 54) rfl rfl 0 rfl ?_
    refine x_getr fl_X1_69_1 rfl hB.i.1 hB.i.r19 dX1_keep_54 (n := 57) rfl ?_
    refine x_iload_n dX1_keep_57 (n := 58) rfl rfl 1 rfl ?_
    refine x_aload_n dX1_keep_58 (n := 59) rfl rfl 0 rfl ?_
    refine x_getr fl_X1_63_1 rfl hB.i.1 hB.i.r17 dX1_keep_59 (n := 62) rfl ?_
    refine x_iload_n dX1_keep_62 (n := 63) rfl rfl 1 rfl ?_
    obtain ⟨b9, h⟩ := h
    refine x_iald hB.i.a17 b9 rfl dX1_keep_63 (n := 64) rfl ?_
    obtain ⟨b10, h⟩ := h
    refine x_iast hB.i.a19 b10 rfl dX1_keep_64 (n := 65) rfl ?_
    refine x_iinc (v := x1 + 1) (lvs' := [(1, .int (x1 + 1)), (0, .ref o)]) dX1_keep_65 (n := 68) rfl 1 rfl rfl (by decide) rfl ?_
    refine x_goto (tgt := 33) dX1_keep_68 rfl ?_
    exact x_sub [1, 0] rfl (hK33 (x1 + 1, pI (pI σ (o + 20) x1.toNatClampNeg (gI σ (o + 18) x1.toNatClampNeg)) (o + 21) x1.toNatClampNeg (gI (pI σ (o + 20) x1.toNatClampNeg (gI σ (o + 18) x1.toNatClampNeg)) (o + 19) x1.toNatClampNeg)) hs.i.i h)
theorem xl_X1_keep_2 (o c : Nat) (σ0 : Hp) (Q : Int32 → Hp → Prop) (G : XE) (hB0 : LB o c σ0) (rq : RQ G 0 0 (oI (fun r σ' => SH σ0 σ' ∧ Q r σ')))     : ∀ z : Int32 × Hp, SH σ0 z.2 → lp (lb_X1_keep_2 o c  Q ) z → X G rm_X1_keep cX1_keep RX1 2 (some .int) z.2 0 0 2 [(0, .ref o), (1, .int z.1)] [] := by
  intro z
  refine fun hs h => lp_X (P := fun z => SH σ0 z.2 → X G rm_X1_keep cX1_keep RX1 2 (some .int) z.2 0 0 2 [(0, .ref o), (1, .int z.1)] []) ?_ h hs
  intro K2 hK2 z h hs
  obtain ⟨x1, σ⟩ := z
  have hs : SH σ0 σ := hs
  have hB := hB0.sh hs
  simp only [lb_X1_keep_2] at h
  show X G rm_X1_keep cX1_keep RX1 2 (some .int) σ 0 0 2 [(0, .ref o), (1, .int x1)] []
  have hK2 : ∀ z : (Int32 × Hp), SH σ0 z.2 → K2 z → X G rm_X1_keep cX1_keep RX1 2 (some .int) z.2 0 0 2 [(0, .ref o), (1, .int z.1)] [] := fun z hs h => hK2 z h hs
  refine x_iload_n dX1_keep_2 (n := 3) rfl rfl 1 rfl ?_
  refine x_aload_n dX1_keep_3 (n := 4) rfl rfl 0 rfl ?_
  refine x_geti fl_X1_124_1 rfl hB.1 rfl dX1_keep_4 (n := 7) rfl ?_
  refine x_icmp_ge (tgt := 31) dX1_keep_7 rfl (n := 10) rfl (fun c1 => ?_) (fun c1 => ?_)
  · have h := h.1 c1
    refine x_iconst dX1_keep_31 (n := 32) rfl ic_0 ?_
    refine x_istore_n (lvs' := [(1, .int 0), (0, .ref o)]) dX1_keep_32 (n := 33) rfl rfl (by decide) rfl ?_
    exact x_sub [1, 0] rfl (xl_X1_keep_33 o c σ0 Q G hB0 rq (0, σ) hs h)
  · have h := h.2 c1
    refine x_aload_n dX1_keep_10 (n := 11) rfl rfl 0 rfl ?_
    refine x_getr fl_X1_53_1 rfl hB.1 hB.r8 dX1_keep_11 (n := 14) rfl ?_
    refine x_iload_n dX1_keep_14 (n := 15) rfl rfl 1 rfl ?_
    obtain ⟨b2, h⟩ := h
    refine x_aald at_note rfl hB.a8 b2 rfl (hB.n8 b2) dX1_keep_15 (n := 16) rfl ?_
    refine x_aload_n dX1_keep_16 (n := 17) rfl rfl 0 rfl ?_
    refine x_getr fl_X1_49_1 rfl hB.1 hB.r7 dX1_keep_17 (n := 20) rfl ?_
    refine x_iload_n dX1_keep_20 (n := 21) rfl rfl 1 rfl ?_
    obtain ⟨b3, h⟩ := h
    refine x_aald at_note rfl hB.a7 b3 rfl (hB.n7 b3) dX1_keep_21 (n := 22) rfl ?_
    refine x_cVvm (As := [.ref (o + 38 + 6 * x1.toNatClampNeg)]) (rest := []) cv_X1_131 ck5 (met_X5_become (o + 41 + 6 * x1.toNatClampNeg) σ (o + 38 + 6 * x1.toNatClampNeg) _ (hB.b8 b2) (hB.b7 b3) h) (hB.b8 b2).1 (by decide) rfl rfl rfl dX1_keep_22 (n := 25) rfl (fun  s4 hs5 h => ?_)
    have hs5t := hs.tr hs5; have hBs4 := hB0.sh hs5t
    refine x_iinc (v := x1 + 1) (lvs' := [(1, .int (x1 + 1)), (0, .ref o)]) dX1_keep_25 (n := 28) rfl 1 rfl rfl (by decide) rfl ?_
    refine x_goto (tgt := 2) dX1_keep_28 rfl ?_
    exact x_sub [1, 0] rfl (hK2 (x1 + 1, s4) hs5t h)
theorem met_X1_keep (o c : Nat) (σ0 : Hp) (Q : Int32 → Hp → Prop) (hB0 : LB o c σ0) (h : wp_X1_keep o c σ0 Q) : MetX yX1_keep cX1_keep 2 (some .int) rm_X1_keep σ0 [.ref o] (oI (fun r σ' => SH σ0 σ' ∧ Q r σ')) 0 0 := by
  refine metX_of (own := RX1) (lvs := [(0, .ref o)]) (by decide) rfl (Nat.le_of_ble_eq_true rfl) rfl (fun G rq => ?_)
  unfold wp_X1_keep at h
  refine x_iconst dX1_keep_0 (n := 1) rfl ic_0 ?_
  refine x_istore_n (lvs' := [(1, .int 0), (0, .ref o)]) dX1_keep_1 (n := 2) rfl rfl (by decide) rfl ?_
  exact x_sub [1, 0] rfl (xl_X1_keep_2 o c σ0 Q G hB0 rq (0, σ0) (SH.rf (σ := σ0)) h)
abbrev rm_X1_back : Room := { frames := 1, cells := 0, slots := 0, locals := 22 }
def lb_X1_back_63 (o c : Nat)  (Q : Int32 → Hp → Prop)  (K63 : Int32 × Hp → Prop) (z : Int32 × Hp) : Prop := match z with
  | (x1, σ) => ((gI σ o 11) ≤ x1 → wp_X1_forgetRows o c σ (fun  s8 => Q (gI s8 o 9) s8)) ∧ (¬ (gI σ o 11) ≤ x1 → (vp_in x1 20) ∧ ((vp_in x1 20) ∧ ((vp_in x1 20) ∧ ((vp_in x1 20) ∧ (K63 (x1 + 1, pI (pI σ (o + 18) x1.toNatClampNeg (gI σ (o + 20) x1.toNatClampNeg)) (o + 19) x1.toNatClampNeg (gI (pI σ (o + 18) x1.toNatClampNeg (gI σ (o + 20) x1.toNatClampNeg)) (o + 21) x1.toNatClampNeg)))))))
def lb_X1_back_32 (o c : Nat)  (Q : Int32 → Hp → Prop)  (K32 : Int32 × Hp → Prop) (z : Int32 × Hp) : Prop := match z with
  | (x1, σ) => ((gI σ o 9) ≤ x1 → lp (lb_X1_back_63 o c Q) (0, σ)) ∧ (¬ (gI σ o 9) ≤ x1 → (vp_in x1 12) ∧ ((vp_in x1 12) ∧ (wp_X5_become (o + 38 + 6 * x1.toNatClampNeg) σ (o + 41 + 6 * x1.toNatClampNeg) (fun  s5 => K32 (x1 + 1, s5)))))
def wp_X1_back (o c : Nat) (σ0 : Hp) (Q : Int32 → Hp → Prop) : Prop := ((gI σ0 o 15) = 0 → Q (-1) σ0) ∧ (¬ (gI σ0 o 15) = 0 → lp (lb_X1_back_32 o c Q) (0, pI (pI (pI σ0 o 9 (gI σ0 o 10)) o 11 (gI σ0 o 12)) o 14 0))
theorem xl_X1_back_63 (o c : Nat) (σ0 : Hp) (Q : Int32 → Hp → Prop) (G : XE) (hB0 : LB o c σ0) (rq : RQ G 0 0 (oI (fun r σ' => SH σ0 σ' ∧ Q r σ')))     : ∀ z : Int32 × Hp, SH σ0 z.2 → lp (lb_X1_back_63 o c  Q ) z → X G rm_X1_back cX1_back RX1 2 (some .int) z.2 0 0 63 [(0, .ref o), (1, .int z.1)] [] := by
  intro z
  refine fun hs h => lp_X (P := fun z => SH σ0 z.2 → X G rm_X1_back cX1_back RX1 2 (some .int) z.2 0 0 63 [(0, .ref o), (1, .int z.1)] []) ?_ h hs
  intro K63 hK63 z h hs
  obtain ⟨x1, σ⟩ := z
  have hs : SH σ0 σ := hs
  have hB := hB0.sh hs
  simp only [lb_X1_back_63] at h
  show X G rm_X1_back cX1_back RX1 2 (some .int) σ 0 0 63 [(0, .ref o), (1, .int x1)] []
  have hK63 : ∀ z : (Int32 × Hp), SH σ0 z.2 → K63 z → X G rm_X1_back cX1_back RX1 2 (some .int) z.2 0 0 63 [(0, .ref o), (1, .int z.1)] [] := fun z hs h => hK63 z h hs
  refine x_iload_n dX1_back_63 (n := 64) rfl rfl 1 rfl ?_
  refine x_aload_n dX1_back_64 (n := 65) rfl rfl 0 rfl ?_
  refine x_geti fl_X1_135_1 rfl hB.1 rfl dX1_back_65 (n := 68) rfl ?_
  refine x_icmp_ge (tgt := 101) dX1_back_68 rfl (n := 71) rfl (fun c7 => ?_) (fun c7 => ?_)
  · have h := h.1 c7
    refine x_aload_n dX1_back_101 (n := 102) rfl rfl 0 rfl ?_
    refine x_cVvm (As := []) (rest := []) cv_X1_145 ck1 (met_X1_forgetRows o c σ _ hB h) hB.1 (by decide) rfl rfl rfl dX1_back_102 (n := 105) rfl (fun  s8 hs9 h => ?_)
    have hs9t := hs.tr hs9; have hBs8 := hB0.sh hs9t
    refine x_aload_n dX1_back_105 (n := 106) rfl rfl 0 rfl ?_
    refine x_geti fl_X1_124_1 rfl hBs8.1 rfl dX1_back_106 (n := 109) rfl ?_
    exact x_iret rq ⟨hs9t, h⟩ dX1_back_109
  · have h := h.2 c7
    refine x_aload_n dX1_back_71 (n := 72) rfl rfl 0 rfl ?_
    refine x_getr fl_X1_60_1 rfl hB.1 hB.r16 dX1_back_72 (n := 75) rfl ?_
    refine x_iload_n dX1_back_75 (n := 76) rfl rfl 1 rfl ?_
    refine x_aload_n dX1_back_76 (n := 77) rfl rfl 0 rfl ?_
    refine x_getr fl_X1_66_1 rfl hB.1 hB.r18 dX1_back_77 (n := 80) rfl ?_
    refine x_iload_n dX1_back_80 (n := 81) rfl rfl 1 rfl ?_
    obtain ⟨b10, h⟩ := h
    refine x_iald hB.a18 b10 rfl dX1_back_81 (n := 82) rfl ?_
    obtain ⟨b11, h⟩ := h
    refine x_iast hB.a16 b11 rfl dX1_back_82 (n := 83) rfl ?_
    refine x_aload_n dX1_back_83 (n := 84) rfl rfl 0 rfl ?_
    refine x_getr fl_X1_63_1 rfl hB.i.1 hB.i.r17 dX1_back_84 (n := 87) rfl ?_
    refine x_iload_n dX1_back_87 (n := 88) rfl rfl 1 rfl ?_
    refine x_aload_n dX1_back_88 (n := 89) rfl rfl 0 rfl ?_
    refine x_getr fl_X1_69_1 rfl hB.i.1 hB.i.r19 dX1_back_89 (n := 92) rfl ?_
    refine x_iload_n dX1_back_92 (n := 93) rfl rfl 1 rfl ?_
    obtain ⟨b12, h⟩ := h
    refine x_iald hB.i.a19 b12 rfl dX1_back_93 (n := 94) rfl ?_
    obtain ⟨b13, h⟩ := h
    refine x_iast hB.i.a17 b13 rfl dX1_back_94 (n := 95) rfl ?_
    refine x_iinc (v := x1 + 1) (lvs' := [(1, .int (x1 + 1)), (0, .ref o)]) dX1_back_95 (n := 98) rfl 1 rfl rfl (by decide) rfl ?_
    refine x_goto (tgt := 63) dX1_back_98 rfl ?_
    exact x_sub [1, 0] rfl (hK63 (x1 + 1, pI (pI σ (o + 18) x1.toNatClampNeg (gI σ (o + 20) x1.toNatClampNeg)) (o + 19) x1.toNatClampNeg (gI (pI σ (o + 18) x1.toNatClampNeg (gI σ (o + 20) x1.toNatClampNeg)) (o + 21) x1.toNatClampNeg)) hs.i.i h)
theorem xl_X1_back_32 (o c : Nat) (σ0 : Hp) (Q : Int32 → Hp → Prop) (G : XE) (hB0 : LB o c σ0) (rq : RQ G 0 0 (oI (fun r σ' => SH σ0 σ' ∧ Q r σ')))     : ∀ z : Int32 × Hp, SH σ0 z.2 → lp (lb_X1_back_32 o c  Q ) z → X G rm_X1_back cX1_back RX1 2 (some .int) z.2 0 0 32 [(0, .ref o), (1, .int z.1)] [] := by
  intro z
  refine fun hs h => lp_X (P := fun z => SH σ0 z.2 → X G rm_X1_back cX1_back RX1 2 (some .int) z.2 0 0 32 [(0, .ref o), (1, .int z.1)] []) ?_ h hs
  intro K32 hK32 z h hs
  obtain ⟨x1, σ⟩ := z
  have hs : SH σ0 σ := hs
  have hB := hB0.sh hs
  simp only [lb_X1_back_32] at h
  show X G rm_X1_back cX1_back RX1 2 (some .int) σ 0 0 32 [(0, .ref o), (1, .int x1)] []
  have hK32 : ∀ z : (Int32 × Hp), SH σ0 z.2 → K32 z → X G rm_X1_back cX1_back RX1 2 (some .int) z.2 0 0 32 [(0, .ref o), (1, .int z.1)] [] := fun z hs h => hK32 z h hs
  refine x_iload_n dX1_back_32 (n := 33) rfl rfl 1 rfl ?_
  refine x_aload_n dX1_back_33 (n := 34) rfl rfl 0 rfl ?_
  refine x_geti fl_X1_124_1 rfl hB.1 rfl dX1_back_34 (n := 37) rfl ?_
  refine x_icmp_ge (tgt := 61) dX1_back_37 rfl (n := 40) rfl (fun c2 => ?_) (fun c2 => ?_)
  · have h := h.1 c2
    refine x_iconst dX1_back_61 (n := 62) rfl ic_0 ?_
    refine x_istore_n (lvs' := [(1, .int 0), (0, .ref o)]) dX1_back_62 (n := 63) rfl rfl (by decide) rfl ?_
    exact x_sub [1, 0] rfl (xl_X1_back_63 o c σ0 Q G hB0 rq (0, σ) hs h)
  · have h := h.2 c2
    refine x_aload_n dX1_back_40 (n := 41) rfl rfl 0 rfl ?_
    refine x_getr fl_X1_49_1 rfl hB.1 hB.r7 dX1_back_41 (n := 44) rfl ?_
    refine x_iload_n dX1_back_44 (n := 45) rfl rfl 1 rfl ?_
    obtain ⟨b3, h⟩ := h
    refine x_aald at_note rfl hB.a7 b3 rfl (hB.n7 b3) dX1_back_45 (n := 46) rfl ?_
    refine x_aload_n dX1_back_46 (n := 47) rfl rfl 0 rfl ?_
    refine x_getr fl_X1_53_1 rfl hB.1 hB.r8 dX1_back_47 (n := 50) rfl ?_
    refine x_iload_n dX1_back_50 (n := 51) rfl rfl 1 rfl ?_
    obtain ⟨b4, h⟩ := h
    refine x_aald at_note rfl hB.a8 b4 rfl (hB.n8 b4) dX1_back_51 (n := 52) rfl ?_
    refine x_cVvm (As := [.ref (o + 41 + 6 * x1.toNatClampNeg)]) (rest := []) cv_X1_131 ck5 (met_X5_become (o + 38 + 6 * x1.toNatClampNeg) σ (o + 41 + 6 * x1.toNatClampNeg) _ (hB.b7 b3) (hB.b8 b4) h) (hB.b7 b3).1 (by decide) rfl rfl rfl dX1_back_52 (n := 55) rfl (fun  s5 hs6 h => ?_)
    have hs6t := hs.tr hs6; have hBs5 := hB0.sh hs6t
    refine x_iinc (v := x1 + 1) (lvs' := [(1, .int (x1 + 1)), (0, .ref o)]) dX1_back_55 (n := 58) rfl 1 rfl rfl (by decide) rfl ?_
    refine x_goto (tgt := 32) dX1_back_58 rfl ?_
    exact x_sub [1, 0] rfl (hK32 (x1 + 1, s5) hs6t h)
theorem met_X1_back (o c : Nat) (σ0 : Hp) (Q : Int32 → Hp → Prop) (hB0 : LB o c σ0) (h : wp_X1_back o c σ0 Q) : MetX yX1_back cX1_back 2 (some .int) rm_X1_back σ0 [.ref o] (oI (fun r σ' => SH σ0 σ' ∧ Q r σ')) 0 0 := by
  refine metX_of (own := RX1) (lvs := [(0, .ref o)]) (by decide) rfl (Nat.le_of_ble_eq_true rfl) rfl (fun G rq => ?_)
  unfold wp_X1_back at h
  refine x_aload_n dX1_back_0 (n := 1) rfl rfl 0 rfl ?_
  refine x_geti fl_X1_141_1 rfl hB0.1 rfl dX1_back_1 (n := 4) rfl ?_
  refine x_if_ne (tgt := 9) dX1_back_4 rfl (n := 7) rfl (fun c1 => ?_) (fun c1 => ?_)
  · have h := h.2 c1
    refine x_aload_n dX1_back_9 (n := 10) rfl rfl 0 rfl ?_
    refine x_aload_n dX1_back_10 (n := 11) rfl rfl 0 rfl ?_
    refine x_geti fl_X1_434_1 rfl hB0.1 rfl dX1_back_11 (n := 14) rfl ?_
    refine x_puti fp_X1_124_1 rfl hB0.1 dX1_back_14 (n := 17) rfl ?_
    refine x_aload_n dX1_back_17 (n := 18) rfl rfl 0 rfl ?_
    refine x_aload_n dX1_back_18 (n := 19) rfl rfl 0 rfl ?_
    refine x_geti fl_X1_437_1 rfl hB0.i.1 (gIn (by decide)) dX1_back_19 (n := 22) rfl ?_
    refine x_puti fp_X1_135_1 rfl hB0.i.1 dX1_back_22 (n := 25) rfl ?_
    refine x_aload_n dX1_back_25 (n := 26) rfl rfl 0 rfl ?_
    refine x_iconst dX1_back_26 (n := 27) rfl ic_0 ?_
    refine x_puti fp_X1_138_1 rfl hB0.i.i.1 dX1_back_27 (n := 30) rfl ?_
    refine x_iconst dX1_back_30 (n := 31) rfl ic_0 ?_
    refine x_istore_n (lvs' := [(1, .int 0), (0, .ref o)]) dX1_back_31 (n := 32) rfl rfl (by decide) rfl ?_
    exact x_sub [1, 0] rfl (xl_X1_back_32 o c σ0 Q G hB0 rq (0, pI (pI (pI σ0 o 9 (gI σ0 o 10)) o 11 (gI σ0 o 12)) o 14 0) (SH.rf (σ := σ0)).i.i.i h)
  · have h := h.1 c1
    refine x_iconst dX1_back_7 (n := 8) rfl ic_m1 ?_
    exact x_iret rq ⟨(SH.rf (σ := σ0)), h⟩ dX1_back_8
abbrev rm_X1_size : Room := { frames := 1, cells := 0, slots := 0, locals := 20 }
def f_X1_size (o c : Nat) (σ : Hp) (x1 : Int32) : Int32 := if x1 = 0 then f_J2_size (c + 1) 4 σ else if x1 = 1 then f_J2_size (c + 3) 4 σ else if x1 = 2 then f_J2_size (c + 5) 6 σ else if x1 = 3 then f_J2_size (c + 7) 4 σ else if x1 = 4 then gI σ o 9 else if x1 = 5 then gI σ c 10 else if x1 = 6 then gI σ c 5 else if x1 = 7 then gI σ o 11 else if x1 = 8 then gI σ o 14 else (-1)
theorem met_X1_size (o c : Nat) (σ : Hp) (x1 : Int32) (hB : LB o c σ) : MetX yX1_size cX1_size 2 (some .int) rm_X1_size σ [.ref o, .int x1] (oI (fun r σ' => σ' = σ ∧ r = (f_X1_size o c σ x1))) 0 0 := by
  refine metX_of (own := RX1) (lvs := [(0, .ref o), (1, .int x1)]) (by decide) rfl (Nat.le_of_ble_eq_true rfl) rfl (fun G rq => ?_)
  have hv : (f_X1_size o c σ x1) = _ := f_X1_size.eq_1 _ _ _ _
  refine x_iload_n dX1_size_0 (n := 1) rfl rfl 1 rfl ?_
  refine x_by (x1 = 0) (fun c1 => ?_) (fun c1 => ?_)
  · have hv := hv.trans (if_pos c1)
    have z1 := tsw_in c1 ti_0
    refine x_tswIn (tgt := 52) dX1_size_1 (by rw [z1]; decide) (by rw [z1]; decide) (by rw [z1]; rfl) rfl ?_
    refine x_aload_n dX1_size_52 (n := 53) rfl rfl 0 rfl ?_
    refine x_getr fl_X1_39_1 rfl hB.1 hB.r5 dX1_size_53 (n := 56) rfl ?_
    refine x_getr fl_X1_151_3 rfl hB.rb.1 hB.rb.r0 dX1_size_56 (n := 59) rfl ?_
    refine x_cVip (As := []) (rest := []) cv_X1_118 ck4 (met_J2_size (c + 1) 4 σ hB.rb.b0) hB.rb.b0.1 (by decide) rfl rfl rfl dX1_size_59 (n := 62) rfl (fun r3 q => ?_)
    subst q
    exact x_iret rq ⟨rfl, hv.symm⟩ dX1_size_62
  · have hv := hv.trans (if_neg c1)
    refine x_by (x1 = 1) (fun c4 => ?_) (fun c4 => ?_)
    · have hv := hv.trans (if_pos c4)
      have z4 := tsw_in c4 ti_1
      refine x_tswIn (tgt := 63) dX1_size_1 (by rw [z4]; decide) (by rw [z4]; decide) (by rw [z4]; rfl) rfl ?_
      refine x_aload_n dX1_size_63 (n := 64) rfl rfl 0 rfl ?_
      refine x_getr fl_X1_39_1 rfl hB.1 hB.r5 dX1_size_64 (n := 67) rfl ?_
      refine x_getr fl_X1_160_3 rfl hB.rb.1 hB.rb.r1 dX1_size_67 (n := 70) rfl ?_
      refine x_cVip (As := []) (rest := []) cv_X1_118 ck4 (met_J2_size (c + 3) 4 σ hB.rb.b1) hB.rb.b1.1 (by decide) rfl rfl rfl dX1_size_70 (n := 73) rfl (fun r6 q => ?_)
      subst q
      exact x_iret rq ⟨rfl, hv.symm⟩ dX1_size_73
    · have hv := hv.trans (if_neg c4)
      refine x_by (x1 = 2) (fun c7 => ?_) (fun c7 => ?_)
      · have hv := hv.trans (if_pos c7)
        have z7 := tsw_in c7 ti_2
        refine x_tswIn (tgt := 74) dX1_size_1 (by rw [z7]; decide) (by rw [z7]; decide) (by rw [z7]; rfl) rfl ?_
        refine x_aload_n dX1_size_74 (n := 75) rfl rfl 0 rfl ?_
        refine x_getr fl_X1_39_1 rfl hB.1 hB.r5 dX1_size_75 (n := 78) rfl ?_
        refine x_getr fl_X1_163_3 rfl hB.rb.1 hB.rb.r2 dX1_size_78 (n := 81) rfl ?_
        refine x_cVip (As := []) (rest := []) cv_X1_118 ck4 (met_J2_size (c + 5) 6 σ hB.rb.b2) hB.rb.b2.1 (by decide) rfl rfl rfl dX1_size_81 (n := 84) rfl (fun r9 q => ?_)
        subst q
        exact x_iret rq ⟨rfl, hv.symm⟩ dX1_size_84
      · have hv := hv.trans (if_neg c7)
        refine x_by (x1 = 3) (fun c10 => ?_) (fun c10 => ?_)
        · have hv := hv.trans (if_pos c10)
          have z10 := tsw_in c10 ti_3
          refine x_tswIn (tgt := 85) dX1_size_1 (by rw [z10]; decide) (by rw [z10]; decide) (by rw [z10]; rfl) rfl ?_
          refine x_aload_n dX1_size_85 (n := 86) rfl rfl 0 rfl ?_
          refine x_getr fl_X1_39_1 rfl hB.1 hB.r5 dX1_size_86 (n := 89) rfl ?_
          refine x_getr fl_X1_166_3 rfl hB.rb.1 hB.rb.r3 dX1_size_89 (n := 92) rfl ?_
          refine x_cVip (As := []) (rest := []) cv_X1_118 ck4 (met_J2_size (c + 7) 4 σ hB.rb.b3) hB.rb.b3.1 (by decide) rfl rfl rfl dX1_size_92 (n := 95) rfl (fun r12 q => ?_)
          subst q
          exact x_iret rq ⟨rfl, hv.symm⟩ dX1_size_95
        · have hv := hv.trans (if_neg c10)
          refine x_by (x1 = 4) (fun c13 => ?_) (fun c13 => ?_)
          · have hv := hv.trans (if_pos c13)
            have z13 := tsw_in c13 ti_4
            refine x_tswIn (tgt := 96) dX1_size_1 (by rw [z13]; decide) (by rw [z13]; decide) (by rw [z13]; rfl) rfl ?_
            refine x_aload_n dX1_size_96 (n := 97) rfl rfl 0 rfl ?_
            refine x_geti fl_X1_124_1 rfl hB.1 rfl dX1_size_97 (n := 100) rfl ?_
            exact x_iret rq ⟨rfl, hv.symm⟩ dX1_size_100
          · have hv := hv.trans (if_neg c13)
            refine x_by (x1 = 5) (fun c14 => ?_) (fun c14 => ?_)
            · have hv := hv.trans (if_pos c14)
              have z14 := tsw_in c14 ti_5
              refine x_tswIn (tgt := 101) dX1_size_1 (by rw [z14]; decide) (by rw [z14]; decide) (by rw [z14]; rfl) rfl ?_
              refine x_aload_n dX1_size_101 (n := 102) rfl rfl 0 rfl ?_
              refine x_getr fl_X1_39_1 rfl hB.1 hB.r5 dX1_size_102 (n := 105) rfl ?_
              refine x_geti fl_X1_440_3 rfl hB.rb.1 rfl dX1_size_105 (n := 108) rfl ?_
              exact x_iret rq ⟨rfl, hv.symm⟩ dX1_size_108
            · have hv := hv.trans (if_neg c14)
              refine x_by (x1 = 6) (fun c15 => ?_) (fun c15 => ?_)
              · have hv := hv.trans (if_pos c15)
                have z15 := tsw_in c15 ti_6
                refine x_tswIn (tgt := 109) dX1_size_1 (by rw [z15]; decide) (by rw [z15]; decide) (by rw [z15]; rfl) rfl ?_
                refine x_aload_n dX1_size_109 (n := 110) rfl rfl 0 rfl ?_
                refine x_getr fl_X1_39_1 rfl hB.1 hB.r5 dX1_size_110 (n := 113) rfl ?_
                refine x_geti fl_X1_322_3 rfl hB.rb.1 rfl dX1_size_113 (n := 116) rfl ?_
                exact x_iret rq ⟨rfl, hv.symm⟩ dX1_size_116
              · have hv := hv.trans (if_neg c15)
                refine x_by (x1 = 7) (fun c16 => ?_) (fun c16 => ?_)
                · have hv := hv.trans (if_pos c16)
                  have z16 := tsw_in c16 ti_7
                  refine x_tswIn (tgt := 117) dX1_size_1 (by rw [z16]; decide) (by rw [z16]; decide) (by rw [z16]; rfl) rfl ?_
                  refine x_aload_n dX1_size_117 (n := 118) rfl rfl 0 rfl ?_
                  refine x_geti fl_X1_135_1 rfl hB.1 rfl dX1_size_118 (n := 121) rfl ?_
                  exact x_iret rq ⟨rfl, hv.symm⟩ dX1_size_121
                · have hv := hv.trans (if_neg c16)
                  refine x_by (x1 = 8) (fun c17 => ?_) (fun c17 => ?_)
                  · have hv := hv.trans (if_pos c17)
                    have z17 := tsw_in c17 ti_8
                    refine x_tswIn (tgt := 122) dX1_size_1 (by rw [z17]; decide) (by rw [z17]; decide) (by rw [z17]; rfl) rfl ?_
                    refine x_aload_n dX1_size_122 (n := 123) rfl rfl 0 rfl ?_
                    refine x_geti fl_X1_138_1 rfl hB.1 rfl dX1_size_123 (n := 126) rfl ?_
                    exact x_iret rq ⟨rfl, hv.symm⟩ dX1_size_126
                  · have hv := hv.trans (if_neg c17)
                    have z1 := ne_int c1 ti_0
                    have z4 := ne_int c4 ti_1
                    have z7 := ne_int c7 ti_2
                    have z10 := ne_int c10 ti_3
                    have z13 := ne_int c13 ti_4
                    have z14 := ne_int c14 ti_5
                    have z15 := ne_int c15 ti_6
                    have z16 := ne_int c16 ti_7
                    have z17 := ne_int c17 ti_8
                    refine x_tswOut (tgt := 127) dX1_size_1 (by omega) rfl ?_
                    refine x_iconst dX1_size_127 (n := 128) rfl ic_m1 ?_
                    exact x_iret rq ⟨rfl, hv.symm⟩ dX1_size_128
abbrev rm_X10_due : Room := { frames := 1, cells := 0, slots := 0, locals := 21 }
def f_X10_due (o : Nat) (σ : Hp) (a1 c1 : Nat) (a2 : Nat) : Int64 := f_X10_counted ((gL σ o 1) + ((gI σ o 2).toInt64))
theorem met_X10_due (o : Nat) (σ : Hp) (a1 c1 : Nat) (a2 : Nat) (hB : OB 9 o σ) (ha1 : LB a1 c1 σ) (ha2 : OB 6 a2 σ) : MetX yX10_due cX10_due 3 (some .long) rm_X10_due σ [.ref o, .ref a1, .ref a2] (oL (fun r σ' => σ' = σ ∧ r = (f_X10_due o σ a1 c1 a2))) 0 0 := by
  refine metX_of (own := RX10) (lvs := [(0, .ref o), (1, .ref a1), (2, .ref a2)]) (by decide) rfl (Nat.le_of_ble_eq_true rfl) rfl (fun G rq => ?_)
  have hv : (f_X10_due o σ a1 c1 a2) = _ := f_X10_due.eq_1 _ _ _ _ _
  refine x_aload_n dX10_due_0 (n := 1) rfl rfl 0 rfl ?_
  refine x_getl fl_X10_9_9 rfl hB rfl dX10_due_1 (n := 4) rfl ?_
  refine x_aload_n dX10_due_4 (n := 5) rfl rfl 0 rfl ?_
  refine x_geti fl_X10_15_9 rfl hB rfl dX10_due_5 (n := 8) rfl ?_
  refine x_i2l dX10_due_8 (n := 9) rfl ?_
  refine x_ladd dX10_due_9 (n := 10) rfl ?_
  refine x_cSlp (As := [.long ((gL σ o 1) + ((gI σ o 2).toInt64))]) (rest := []) cs_X10_19 (met_X10_counted σ ((gL σ o 1) + ((gI σ o 2).toInt64)) ) (by decide) rfl rfl rfl dX10_due_10 (n := 13) rfl (fun r2 q => ?_)
  subst q
  exact x_lret rq ⟨rfl, hv.symm⟩ dX10_due_13
