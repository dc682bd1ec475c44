set_option maxRecDepth 100000
abbrev rm_X6_plain : Room := { frames := 0, cells := 0, slots := 0, locals := 0 }
def f_X6_plain (o : Nat) (σ0 : Hp) : Hp := pI (pI (pI (pI (pI (pI (pI (pI (pI (pI (pI (pI (pI (pI (pI (pI (pI σ0 o 18 0) o 19 0) o 20 0) o 21 0) o 22 0) o 23 0) o 50 0) o 25 0) o 26 0) o 27 0) (o + 3) 7 7) (o + 3) 8 0) (o + 3) 9 59) (o + 3) 10 2) (o + 3) 11 0) (o + 3) 12 1461) (o + 3) 13 4
theorem met_X6_plain (o : Nat) (σ0 : Hp) (hB0 : MB o σ0) : MetX yX6_plain cX6_plain 1 none rm_X6_plain σ0 [.ref o] (oV (fun σ' => SH σ0 σ' ∧ σ' = (f_X6_plain o σ0))) 0 0 := by
  refine metX_of (own := RX6) (lvs := [(0, .ref o)]) (by decide) rfl (Nat.le_of_ble_eq_true rfl) rfl (fun G rq => ?_)
  have hv : (f_X6_plain o σ0) = _ := f_X6_plain.eq_1 _ _
  refine x_aload_n dX6_plain_0 (n := 1) rfl rfl 0 rfl ?_
  refine x_iconst dX6_plain_1 (n := 2) rfl ic_0 ?_
  refine x_puti fp_X6_186_0 rfl hB0.1 dX6_plain_2 (n := 5) rfl ?_
  refine x_aload_n dX6_plain_5 (n := 6) rfl rfl 0 rfl ?_
  refine x_iconst dX6_plain_6 (n := 7) rfl ic_0 ?_
  refine x_puti fp_X6_189_0 rfl hB0.i.1 dX6_plain_7 (n := 10) rfl ?_
  refine x_aload_n dX6_plain_10 (n := 11) rfl rfl 0 rfl ?_
  refine x_iconst dX6_plain_11 (n := 12) rfl ic_0 ?_
  refine x_puti fp_X6_192_0 rfl hB0.i.i.1 dX6_plain_12 (n := 15) rfl ?_
  refine x_aload_n dX6_plain_15 (n := 16) rfl rfl 0 rfl ?_
  refine x_iconst dX6_plain_16 (n := 17) rfl ic_0 ?_
  refine x_puti fp_X6_195_0 rfl hB0.i.i.i.1 dX6_plain_17 (n := 20) rfl ?_
  refine x_aload_n dX6_plain_20 (n := 21) rfl rfl 0 rfl ?_
  refine x_iconst dX6_plain_21 (n := 22) rfl ic_0 ?_
  refine x_puti fp_X6_198_0 rfl hB0.i.i.i.i.1 dX6_plain_22 (n := 25) rfl ?_
  refine x_aload_n dX6_plain_25 (n := 26) rfl rfl 0 rfl ?_
  refine x_iconst dX6_plain_26 (n := 27) rfl ic_0 ?_
  refine x_puti fp_X6_201_0 rfl hB0.i.i.i.i.i.1 dX6_plain_27 (n := 30) rfl ?_
  refine x_aload_n dX6_plain_30 (n := 31) rfl rfl 0 rfl ?_
  refine x_iconst dX6_plain_31 (n := 32) rfl ic_0 ?_
  refine x_puti fp_X6_204_0 rfl hB0.i.i.i.i.i.i.1 dX6_plain_32 (n := 35) rfl ?_
  refine x_aload_n dX6_plain_35 (n := 36) rfl rfl 0 rfl ?_
  refine x_iconst dX6_plain_36 (n := 37) rfl ic_0 ?_
  refine x_putz fp_X6_207_0 rfl hB0.i.i.i.i.i.i.i.1 isB0 dX6_plain_37 (n := 40) rfl ?_
  refine x_aload_n dX6_plain_40 (n := 41) rfl rfl 0 rfl ?_
  refine x_iconst dX6_plain_41 (n := 42) rfl ic_0 ?_
  refine x_putz fp_X6_211_0 rfl hB0.i.i.i.i.i.i.i.i.1 isB0 dX6_plain_42 (n := 45) rfl ?_
  refine x_aload_n dX6_plain_45 (n := 46) rfl rfl 0 rfl ?_
  refine x_iconst dX6_plain_46 (n := 47) rfl ic_0 ?_
  refine x_putz fp_X6_214_0 rfl hB0.i.i.i.i.i.i.i.i.i.1 isB0 dX6_plain_47 (n := 50) rfl ?_
  refine x_aload_n dX6_plain_50 (n := 51) rfl rfl 0 rfl ?_
  refine x_getr fl_X6_20_0 rfl hB0.i.i.i.i.i.i.i.i.i.i.1 hB0.i.i.i.i.i.i.i.i.i.i.r24 dX6_plain_51 (n := 54) rfl ?_
  refine x_bipush dX6_plain_54 (n := 56) rfl bp_7 ?_
  refine x_bipush dX6_plain_56 (n := 58) rfl bp_7 ?_
  refine x_iast hB0.i.i.i.i.i.i.i.i.i.i.a24 (vin_of (by decide) tn_7 rfl) tn_7 dX6_plain_58 (n := 59) rfl ?_
  refine x_aload_n dX6_plain_59 (n := 60) rfl rfl 0 rfl ?_
  refine x_getr fl_X6_20_0 rfl hB0.i.i.i.i.i.i.i.i.i.i.i.1 hB0.i.i.i.i.i.i.i.i.i.i.i.r24 dX6_plain_60 (n := 63) rfl ?_
  refine x_bipush dX6_plain_63 (n := 65) rfl bp_8 ?_
  refine x_iconst dX6_plain_65 (n := 66) rfl ic_0 ?_
  refine x_iast hB0.i.i.i.i.i.i.i.i.i.i.i.a24 (vin_of (by decide) tn_8 rfl) tn_8 dX6_plain_66 (n := 67) rfl ?_
  refine x_aload_n dX6_plain_67 (n := 68) rfl rfl 0 rfl ?_
  refine x_getr fl_X6_20_0 rfl hB0.i.i.i.i.i.i.i.i.i.i.i.i.1 hB0.i.i.i.i.i.i.i.i.i.i.i.i.r24 dX6_plain_68 (n := 71) rfl ?_
  refine x_bipush dX6_plain_71 (n := 73) rfl bp_9 ?_
  refine x_bipush dX6_plain_73 (n := 75) rfl bp_59 ?_
  refine x_iast hB0.i.i.i.i.i.i.i.i.i.i.i.i.a24 (vin_of (by decide) tn_9 rfl) tn_9 dX6_plain_75 (n := 76) rfl ?_
  refine x_aload_n dX6_plain_76 (n := 77) rfl rfl 0 rfl ?_
  refine x_getr fl_X6_20_0 rfl hB0.i.i.i.i.i.i.i.i.i.i.i.i.i.1 hB0.i.i.i.i.i.i.i.i.i.i.i.i.i.r24 dX6_plain_77 (n := 80) rfl ?_
  refine x_bipush dX6_plain_80 (n := 82) rfl bp_10 ?_
  refine x_iconst dX6_plain_82 (n := 83) rfl ic_2 ?_
  refine x_iast hB0.i.i.i.i.i.i.i.i.i.i.i.i.i.a24 (vin_of (by decide) tn_10 rfl) tn_10 dX6_plain_83 (n := 84) rfl ?_
  refine x_aload_n dX6_plain_84 (n := 85) rfl rfl 0 rfl ?_
  refine x_getr fl_X6_20_0 rfl hB0.i.i.i.i.i.i.i.i.i.i.i.i.i.i.1 hB0.i.i.i.i.i.i.i.i.i.i.i.i.i.i.r24 dX6_plain_85 (n := 88) rfl ?_
  refine x_bipush dX6_plain_88 (n := 90) rfl bp_11 ?_
  refine x_iconst dX6_plain_90 (n := 91) rfl ic_0 ?_
  refine x_iast hB0.i.i.i.i.i.i.i.i.i.i.i.i.i.i.a24 (vin_of (by decide) tn_11 rfl) tn_11 dX6_plain_91 (n := 92) rfl ?_
  refine x_aload_n dX6_plain_92 (n := 93) rfl rfl 0 rfl ?_
  refine x_getr fl_X6_20_0 rfl hB0.i.i.i.i.i.i.i.i.i.i.i.i.i.i.i.1 hB0.i.i.i.i.i.i.i.i.i.i.i.i.i.i.i.r24 dX6_plain_93 (n := 96) rfl ?_
  refine x_bipush dX6_plain_96 (n := 98) rfl bp_12 ?_
  refine x_sipush dX6_plain_98 (n := 101) rfl sp_1461 ?_
  refine x_iast hB0.i.i.i.i.i.i.i.i.i.i.i.i.i.i.i.a24 (vin_of (by decide) tn_12 rfl) tn_12 dX6_plain_101 (n := 102) rfl ?_
  refine x_aload_n dX6_plain_102 (n := 103) rfl rfl 0 rfl ?_
  refine x_getr fl_X6_20_0 rfl hB0.i.i.i.i.i.i.i.i.i.i.i.i.i.i.i.i.1 hB0.i.i.i.i.i.i.i.i.i.i.i.i.i.i.i.i.r24 dX6_plain_103 (n := 106) rfl ?_
  refine x_bipush dX6_plain_106 (n := 108) rfl bp_13 ?_
  refine x_iconst dX6_plain_108 (n := 109) rfl ic_4 ?_
  refine x_iast hB0.i.i.i.i.i.i.i.i.i.i.i.i.i.i.i.i.a24 (vin_of (by decide) tn_13 rfl) tn_13 dX6_plain_109 (n := 110) rfl ?_
  exact x_vret rq ⟨(SH.rf (σ := σ0)).i.i.i.i.i.i.i.i.i.i.i.i.i.i.i.i.i, hv.symm⟩ dX6_plain_110
abbrev rm_X6_copies : Room := { frames := 0, cells := 0, slots := 0, locals := 0 }
def lb_X6_copies_2 (a0 n0 : Nat) (x1 : Int32) (Q : Hp → Prop)  (K2 : Int32 × Hp → Prop) (z : Int32 × Hp) : Prop := match z with
  | (x2, σ) => (x1 ≤ x2 → Q σ) ∧ (¬ x1 ≤ x2 → (vp_in (x1 + x2) n0) ∧ ((vp_in x2 n0) ∧ (K2 (x2 + 1, pI σ a0 x2.toNatClampNeg (gI σ a0 (x1 + x2).toNatClampNeg)))))
def wp_X6_copies (σ0 : Hp) (a0 n0 : Nat) (x1 : Int32) (Q : Hp → Prop) : Prop := lp (lb_X6_copies_2 a0 n0 x1 Q) (0, σ0)
theorem xl_X6_copies_2 (σ0 : Hp) (a0 n0 : Nat) (Q : Hp → Prop) (G : XE) (ha0 : gT σ0 a0 = some (.inr (.int, n0))) (rq : RQ G 0 0 (oV (fun σ' => SH σ0 σ' ∧ Q σ'))) (x1 : Int32)    : ∀ z : Int32 × Hp, SH σ0 z.2 → lp (lb_X6_copies_2 a0 n0 x1 Q ) z → X G rm_X6_copies cX6_copies RX6 3 none z.2 0 0 2 [(0, .ref a0), (1, .int x1), (2, .int z.1)] [] := by
  intro z
  refine fun hs h => lp_X (P := fun z => SH σ0 z.2 → X G rm_X6_copies cX6_copies RX6 3 none z.2 0 0 2 [(0, .ref a0), (1, .int x1), (2, .int z.1)] []) ?_ h hs
  intro K2 hK2 z h hs
  obtain ⟨x2, σ⟩ := z
  have hs : SH σ0 σ := hs
  simp only [lb_X6_copies_2] at h
  show X G rm_X6_copies cX6_copies RX6 3 none σ 0 0 2 [(0, .ref a0), (1, .int x1), (2, .int x2)] []
  have hK2 : ∀ z : (Int32 × Hp), SH σ0 z.2 → K2 z → X G rm_X6_copies cX6_copies RX6 3 none z.2 0 0 2 [(0, .ref a0), (1, .int x1), (2, .int z.1)] [] := fun z hs h => hK2 z h hs
  refine x_iload_n dX6_copies_2 (n := 3) rfl rfl 2 rfl ?_
  refine x_iload_n dX6_copies_3 (n := 4) rfl rfl 1 rfl ?_
  refine x_icmp_ge (tgt := 21) dX6_copies_4 rfl (n := 7) rfl (fun c1 => ?_) (fun c1 => ?_)
  · have h := h.1 c1
    exact x_vret rq ⟨hs, h⟩ dX6_copies_21
  · have h := h.2 c1
    refine x_aload_n dX6_copies_7 (n := 8) rfl rfl 0 rfl ?_
    refine x_iload_n dX6_copies_8 (n := 9) rfl rfl 2 rfl ?_
    refine x_aload_n dX6_copies_9 (n := 10) rfl rfl 0 rfl ?_
    refine x_iload_n dX6_copies_10 (n := 11) rfl rfl 1 rfl ?_
    refine x_iload_n dX6_copies_11 (n := 12) rfl rfl 2 rfl ?_
    refine x_iadd dX6_copies_12 (n := 13) rfl ?_
    obtain ⟨b2, h⟩ := h
    refine x_iald (hs.t ha0) b2 rfl dX6_copies_13 (n := 14) rfl ?_
    obtain ⟨b3, h⟩ := h
    refine x_iast (hs.t ha0) b3 rfl dX6_copies_14 (n := 15) rfl ?_
    refine x_iinc (v := x2 + 1) (lvs' := [(2, .int (x2 + 1)), (0, .ref a0), (1, .int x1)]) dX6_copies_15 (n := 18) rfl 2 rfl rfl (by decide) rfl ?_
    refine x_goto (tgt := 2) dX6_copies_18 rfl ?_
    exact x_sub [1, 2, 0] rfl (hK2 (x2 + 1, pI σ a0 x2.toNatClampNeg (gI σ a0 (x1 + x2).toNatClampNeg)) hs.i h)
theorem met_X6_copies (σ0 : Hp) (a0 n0 : Nat) (x1 : Int32) (Q : Hp → Prop) (ha0 : gT σ0 a0 = some (.inr (.int, n0))) (h : wp_X6_copies σ0 a0 n0 x1 Q) : MetX yX6_copies cX6_copies 3 none rm_X6_copies σ0 [.ref a0, .int x1] (oV (fun σ' => SH σ0 σ' ∧ Q σ')) 0 0 := by
  refine metX_of (own := RX6) (lvs := [(0, .ref a0), (1, .int x1)]) (by decide) rfl (Nat.le_of_ble_eq_true rfl) rfl (fun G rq => ?_)
  unfold wp_X6_copies at h
  refine x_iconst dX6_copies_0 (n := 1) rfl ic_0 ?_
  refine x_istore_n (lvs' := [(2, .int 0), (0, .ref a0), (1, .int x1)]) dX6_copies_1 (n := 2) rfl rfl (by decide) rfl ?_
  exact x_sub [1, 2, 0] rfl (xl_X6_copies_2 σ0 a0 n0 Q G ha0 rq x1 (0, σ0) (SH.rf (σ := σ0)) h)
abbrev rm_X6_copiesLong : Room := { frames := 0, cells := 0, slots := 0, locals := 0 }
def lb_X6_copiesLong_2 (a0 n0 : Nat) (x1 : Int32) (Q : Hp → Prop)  (K2 : Int32 × Hp → Prop) (z : Int32 × Hp) : Prop := match z with
  | (x2, σ) => (x1 ≤ x2 → Q σ) ∧ (¬ x1 ≤ x2 → (vp_in (x1 + x2) n0) ∧ ((vp_in x2 n0) ∧ (K2 (x2 + 1, pL σ a0 x2.toNatClampNeg (gL σ a0 (x1 + x2).toNatClampNeg)))))
def wp_X6_copiesLong (σ0 : Hp) (a0 n0 : Nat) (x1 : Int32) (Q : Hp → Prop) : Prop := lp (lb_X6_copiesLong_2 a0 n0 x1 Q) (0, σ0)
theorem xl_X6_copiesLong_2 (σ0 : Hp) (a0 n0 : Nat) (Q : Hp → Prop) (G : XE) (ha0 : gT σ0 a0 = some (.inr (.long, n0))) (rq : RQ G 0 0 (oV (fun σ' => SH σ0 σ' ∧ Q σ'))) (x1 : Int32)    : ∀ z : Int32 × Hp, SH σ0 z.2 → lp (lb_X6_copiesLong_2 a0 n0 x1 Q ) z → X G rm_X6_copiesLong cX6_copiesLong RX6 3 none z.2 0 0 2 [(0, .ref a0), (1, .int x1), (2, .int z.1)] [] := by
  intro z
  refine fun hs h => lp_X (P := fun z => SH σ0 z.2 → X G rm_X6_copiesLong cX6_copiesLong RX6 3 none z.2 0 0 2 [(0, .ref a0), (1, .int x1), (2, .int z.1)] []) ?_ h hs
  intro K2 hK2 z h hs
  obtain ⟨x2, σ⟩ := z
  have hs : SH σ0 σ := hs
  simp only [lb_X6_copiesLong_2] at h
  show X G rm_X6_copiesLong cX6_copiesLong RX6 3 none σ 0 0 2 [(0, .ref a0), (1, .int x1), (2, .int x2)] []
  have hK2 : ∀ z : (Int32 × Hp), SH σ0 z.2 → K2 z → X G rm_X6_copiesLong cX6_copiesLong RX6 3 none z.2 0 0 2 [(0, .ref a0), (1, .int x1), (2, .int z.1)] [] := fun z hs h => hK2 z h hs
  refine x_iload_n dX6_copiesLong_2 (n := 3) rfl rfl 2 rfl ?_
  refine x_iload_n dX6_copiesLong_3 (n := 4) rfl rfl 1 rfl ?_
  refine x_icmp_ge (tgt := 21) dX6_copiesLong_4 rfl (n := 7) rfl (fun c1 => ?_) (fun c1 => ?_)
  · have h := h.1 c1
    exact x_vret rq ⟨hs, h⟩ dX6_copiesLong_21
  · have h := h.2 c1
    refine x_aload_n dX6_copiesLong_7 (n := 8) rfl rfl 0 rfl ?_
    refine x_iload_n dX6_copiesLong_8 (n := 9) rfl rfl 2 rfl ?_
    refine x_aload_n dX6_copiesLong_9 (n := 10) rfl rfl 0 rfl ?_
    refine x_iload_n dX6_copiesLong_10 (n := 11) rfl rfl 1 rfl ?_
    refine x_iload_n dX6_copiesLong_11 (n := 12) rfl rfl 2 rfl ?_
    refine x_iadd dX6_copiesLong_12 (n := 13) rfl ?_
    obtain ⟨b2, h⟩ := h
    refine x_lald (hs.t ha0) b2 rfl dX6_copiesLong_13 (n := 14) rfl ?_
    obtain ⟨b3, h⟩ := h
    refine x_last (hs.t ha0) b3 rfl dX6_copiesLong_14 (n := 15) rfl ?_
    refine x_iinc (v := x2 + 1) (lvs' := [(2, .int (x2 + 1)), (0, .ref a0), (1, .int x1)]) dX6_copiesLong_15 (n := 18) rfl 2 rfl rfl (by decide) rfl ?_
    refine x_goto (tgt := 2) dX6_copiesLong_18 rfl ?_
    exact x_sub [1, 2, 0] rfl (hK2 (x2 + 1, pL σ a0 x2.toNatClampNeg (gL σ a0 (x1 + x2).toNatClampNeg)) hs.l h)
theorem met_X6_copiesLong (σ0 : Hp) (a0 n0 : Nat) (x1 : Int32) (Q : Hp → Prop) (ha0 : gT σ0 a0 = some (.inr (.long, n0))) (h : wp_X6_copiesLong σ0 a0 n0 x1 Q) : MetX yX6_copiesLong cX6_copiesLong 3 none rm_X6_copiesLong σ0 [.ref a0, .int x1] (oV (fun σ' => SH σ0 σ' ∧ Q σ')) 0 0 := by
  refine metX_of (own := RX6) (lvs := [(0, .ref a0), (1, .int x1)]) (by decide) rfl (Nat.le_of_ble_eq_true rfl) rfl (fun G rq => ?_)
  unfold wp_X6_copiesLong at h
  refine x_iconst dX6_copiesLong_0 (n := 1) rfl ic_0 ?_
  refine x_istore_n (lvs' := [(2, .int 0), (0, .ref a0), (1, .int x1)]) dX6_copiesLong_1 (n := 2) rfl rfl (by decide) rfl ?_
  exact x_sub [1, 2, 0] rfl (xl_X6_copiesLong_2 σ0 a0 n0 Q G ha0 rq x1 (0, σ0) (SH.rf (σ := σ0)) h)
abbrev rm_X6_keepText : Room := { frames := 1, cells := 0, slots := 0, locals := 22 }
def wp_X6_keepText (o : Nat) (σ0 : Hp) (Q : Hp → Prop) : Prop := wp_X6_copies (pI (pI (pI (pI (pI (pI σ0 o 12 (gI σ0 o 18)) o 13 (gI σ0 o 19)) o 14 (gI σ0 o 20)) o 15 (gI σ0 o 21)) o 16 (gI σ0 o 22)) o 17 (gI σ0 o 23)) (o + 3) 14 7 (fun  s1 => wp_X6_copies s1 (o + 4) 8 4 (fun  s3 => wp_X6_copies s3 (o + 5) 24 12 (fun  s5 => wp_X6_copies s5 (o + 6) 8 4 (fun  s7 => wp_X6_copies s7 (o + 7) 8 4 (fun  s9 => wp_X6_copies s9 (o + 8) 8 4 (fun  s11 => wp_X6_copies s11 (o + 9) 12 6 (fun  s13 => wp_X6_copiesLong s13 (o + 10) 12 6 (fun  s15 => wp_X6_copiesLong s15 (o + 11) 12 6 (fun  s17 => wp_X6_copies s17 (o + 12) 8 4 (fun  s19 => wp_X6_copiesLong s19 (o + 13) 8 4 (fun  s21 => wp_X6_copies s21 (o + 14) 24 12 (fun  s23 => wp_X6_copies s23 (o + 15) 12 6 (fun  s25 => wp_X6_copies s25 (o + 16) 264 132 (fun  s27 => wp_X6_copies s27 (o + 17) 128 64 (fun  s29 => wp_X6_copies s29 (o + 18) 128 64 (fun  s31 => wp_X6_copies s31 (o + 19) 128 64 (fun  s33 => Q (pI (pI (pI (pI s33 o 58 (gI s33 o 16)) o 67 0) o 59 0) o 70 0))))))))))))))))))
theorem met_X6_keepText (o : Nat) (σ0 : Hp) (Q : Hp → Prop) (hB0 : MB o σ0) (h : wp_X6_keepText o σ0 Q) : MetX yX6_keepText cX6_keepText 1 none rm_X6_keepText σ0 [.ref o] (oV (fun σ' => SH σ0 σ' ∧ Q σ')) 0 0 := by
  refine metX_of (own := RX6) (lvs := [(0, .ref o)]) (by decide) rfl (Nat.le_of_ble_eq_true rfl) rfl (fun G rq => ?_)
  unfold wp_X6_keepText at h
  refine x_aload_n dX6_keepText_0 (n := 1) rfl rfl 0 rfl ?_
  refine x_aload_n dX6_keepText_1 (n := 2) rfl rfl 0 rfl ?_
  refine x_geti fl_X6_186_0 rfl hB0.1 rfl dX6_keepText_2 (n := 5) rfl ?_
  refine x_puti fp_X6_217_0 rfl hB0.1 dX6_keepText_5 (n := 8) rfl ?_
  refine x_aload_n dX6_keepText_8 (n := 9) rfl rfl 0 rfl ?_
  refine x_aload_n dX6_keepText_9 (n := 10) rfl rfl 0 rfl ?_
  refine x_geti fl_X6_189_0 rfl hB0.i.1 (gIn (by decide)) dX6_keepText_10 (n := 13) rfl ?_
  refine x_puti fp_X6_220_0 rfl hB0.i.1 dX6_keepText_13 (n := 16) rfl ?_
  refine x_aload_n dX6_keepText_16 (n := 17) rfl rfl 0 rfl ?_
  refine x_aload_n dX6_keepText_17 (n := 18) rfl rfl 0 rfl ?_
  refine x_geti fl_X6_192_0 rfl hB0.i.i.1 ((gIn (by decide)).trans (gIn (by decide))) dX6_keepText_18 (n := 21) rfl ?_
  refine x_puti fp_X6_223_0 rfl hB0.i.i.1 dX6_keepText_21 (n := 24) rfl ?_
  refine x_aload_n dX6_keepText_24 (n := 25) rfl rfl 0 rfl ?_
  refine x_aload_n dX6_keepText_25 (n := 26) rfl rfl 0 rfl ?_
  refine x_geti fl_X6_195_0 rfl hB0.i.i.i.1 ((gIn (by decide)).trans ((gIn (by decide)).trans (gIn (by decide)))) dX6_keepText_26 (n := 29) rfl ?_
  refine x_puti fp_X6_226_0 rfl hB0.i.i.i.1 dX6_keepText_29 (n := 32) rfl ?_
  refine x_aload_n dX6_keepText_32 (n := 33) rfl rfl 0 rfl ?_
  refine x_aload_n dX6_keepText_33 (n := 34) rfl rfl 0 rfl ?_
  refine x_geti fl_X6_198_0 rfl hB0.i.i.i.i.1 ((gIn (by decide)).trans ((gIn (by decide)).trans ((gIn (by decide)).trans (gIn (by decide))))) dX6_keepText_34 (n := 37) rfl ?_
  refine x_puti fp_X6_229_0 rfl hB0.i.i.i.i.1 dX6_keepText_37 (n := 40) rfl ?_
  refine x_aload_n dX6_keepText_40 (n := 41) rfl rfl 0 rfl ?_
  refine x_aload_n dX6_keepText_41 (n := 42) rfl rfl 0 rfl ?_
  refine x_geti fl_X6_201_0 rfl hB0.i.i.i.i.i.1 ((gIn (by decide)).trans ((gIn (by decide)).trans ((gIn (by decide)).trans ((gIn (by decide)).trans (gIn (by decide)))))) dX6_keepText_42 (n := 45) rfl ?_
  refine x_puti fp_X6_232_0 rfl hB0.i.i.i.i.i.1 dX6_keepText_45 (n := 48) rfl ?_
  refine x_aload_n dX6_keepText_48 (n := 49) rfl rfl 0 rfl ?_
  refine x_getr fl_X6_20_0 rfl hB0.i.i.i.i.i.i.1 hB0.i.i.i.i.i.i.r24 dX6_keepText_49 (n := 52) rfl ?_
  refine x_bipush dX6_keepText_52 (n := 54) rfl bp_7 ?_
  refine x_cSvm (As := [.ref (o + 3), .int 7]) (rest := []) cs_X6_235 (met_X6_copies (pI (pI (pI (pI (pI (pI σ0 o 12 (gI σ0 o 18)) o 13 (gI σ0 o 19)) o 14 (gI σ0 o 20)) o 15 (gI σ0 o 21)) o 16 (gI σ0 o 22)) o 17 (gI σ0 o 23)) (o + 3) 14 7 _ hB0.i.i.i.i.i.i.a24 h) (by decide) rfl rfl rfl dX6_keepText_54 (n := 57) rfl (fun  s1 hs2 h => ?_)
  have hs2t := (SH.rf (σ := σ0)).i.i.i.i.i.i.tr hs2; have hBs1 := hB0.sh hs2t
  refine x_aload_n dX6_keepText_57 (n := 58) rfl rfl 0 rfl ?_
  refine x_getr fl_X6_23_0 rfl hBs1.1 hBs1.r28 dX6_keepText_58 (n := 61) rfl ?_
  refine x_iconst dX6_keepText_61 (n := 62) rfl ic_4 ?_
  refine x_cSvm (As := [.ref (o + 4), .int 4]) (rest := []) cs_X6_235 (met_X6_copies s1 (o + 4) 8 4 _ hBs1.a28 h) (by decide) rfl rfl rfl dX6_keepText_62 (n := 65) rfl (fun  s3 hs4 h => ?_)
  have hs4t := hs2t.tr hs4; have hBs3 := hB0.sh hs4t
  refine x_aload_n dX6_keepText_65 (n := 66) rfl rfl 0 rfl ?_
  refine x_getr fl_X6_26_0 rfl hBs3.1 hBs3.r29 dX6_keepText_66 (n := 69) rfl ?_
  refine x_bipush dX6_keepText_69 (n := 71) rfl bp_12 ?_
  refine x_cSvm (As := [.ref (o + 5), .int 12]) (rest := []) cs_X6_235 (met_X6_copies s3 (o + 5) 24 12 _ hBs3.a29 h) (by decide) rfl rfl rfl dX6_keepText_71 (n := 74) rfl (fun  s5 hs6 h => ?_)
  have hs6t := hs4t.tr hs6; have hBs5 := hB0.sh hs6t
  refine x_aload_n dX6_keepText_74 (n := 75) rfl rfl 0 rfl ?_
  refine x_getr fl_X6_29_0 rfl hBs5.1 hBs5.r30 dX6_keepText_75 (n := 78) rfl ?_
  refine x_iconst dX6_keepText_78 (n := 79) rfl ic_4 ?_
  refine x_cSvm (As := [.ref (o + 6), .int 4]) (rest := []) cs_X6_235 (met_X6_copies s5 (o + 6) 8 4 _ hBs5.a30 h) (by decide) rfl rfl rfl dX6_keepText_79 (n := 82) rfl (fun  s7 hs8 h => ?_)
  have hs8t := hs6t.tr hs8; have hBs7 := hB0.sh hs8t
  refine x_aload_n dX6_keepText_82 (n := 83) rfl rfl 0 rfl ?_
  refine x_getr fl_X6_32_0 rfl hBs7.1 hBs7.r31 dX6_keepText_83 (n := 86) rfl ?_
  refine x_iconst dX6_keepText_86 (n := 87) rfl ic_4 ?_
  refine x_cSvm (As := [.ref (o + 7), .int 4]) (rest := []) cs_X6_235 (met_X6_copies s7 (o + 7) 8 4 _ hBs7.a31 h) (by decide) rfl rfl rfl dX6_keepText_87 (n := 90) rfl (fun  s9 hs10 h => ?_)
  have hs10t := hs8t.tr hs10; have hBs9 := hB0.sh hs10t
  refine x_aload_n dX6_keepText_90 (n := 91) rfl rfl 0 rfl ?_
  refine x_getr fl_X6_35_0 rfl hBs9.1 hBs9.r32 dX6_keepText_91 (n := 94) rfl ?_
  refine x_iconst dX6_keepText_94 (n := 95) rfl ic_4 ?_
  refine x_cSvm (As := [.ref (o + 8), .int 4]) (rest := []) cs_X6_235 (met_X6_copies s9 (o + 8) 8 4 _ hBs9.a32 h) (by decide) rfl rfl rfl dX6_keepText_95 (n := 98) rfl (fun  s11 hs12 h => ?_)
  have hs12t := hs10t.tr hs12; have hBs11 := hB0.sh hs12t
  refine x_aload_n dX6_keepText_98 (n := 99) rfl rfl 0 rfl ?_
  refine x_getr fl_X6_38_0 rfl hBs11.1 hBs11.r33 dX6_keepText_99 (n := 102) rfl ?_
  refine x_bipush dX6_keepText_102 (n := 104) rfl bp_6 ?_
  refine x_cSvm (As := [.ref (o + 9), .int 6]) (rest := []) cs_X6_235 (met_X6_copies s11 (o + 9) 12 6 _ hBs11.a33 h) (by decide) rfl rfl rfl dX6_keepText_104 (n := 107) rfl (fun  s13 hs14 h => ?_)
  have hs14t := hs12t.tr hs14; have hBs13 := hB0.sh hs14t
  refine x_aload_n dX6_keepText_107 (n := 108) rfl rfl 0 rfl ?_
  refine x_getr fl_X6_41_0 rfl hBs13.1 hBs13.r34 dX6_keepText_108 (n := 111) rfl ?_
  refine x_bipush dX6_keepText_111 (n := 113) rfl bp_6 ?_
  refine x_cSvm (As := [.ref (o + 10), .int 6]) (rest := []) cs_X6_239 (met_X6_copiesLong s13 (o + 10) 12 6 _ hBs13.a34 h) (by decide) rfl rfl rfl dX6_keepText_113 (n := 116) rfl (fun  s15 hs16 h => ?_)
  have hs16t := hs14t.tr hs16; have hBs15 := hB0.sh hs16t
  refine x_aload_n dX6_keepText_116 (n := 117) rfl rfl 0 rfl ?_
  refine x_getr fl_X6_45_0 rfl hBs15.1 hBs15.r35 dX6_keepText_117 (n := 120) rfl ?_
  refine x_bipush dX6_keepText_120 (n := 122) rfl bp_6 ?_
  refine x_cSvm (As := [.ref (o + 11), .int 6]) (rest := []) cs_X6_239 (met_X6_copiesLong s15 (o + 11) 12 6 _ hBs15.a35 h) (by decide) rfl rfl rfl dX6_keepText_122 (n := 125) rfl (fun  s17 hs18 h => ?_)
  have hs18t := hs16t.tr hs18; have hBs17 := hB0.sh hs18t
  refine x_aload_n dX6_keepText_125 (n := 126) rfl rfl 0 rfl ?_
  refine x_getr fl_X6_48_0 rfl hBs17.1 hBs17.r36 dX6_keepText_126 (n := 129) rfl ?_
  refine x_iconst dX6_keepText_129 (n := 130) rfl ic_4 ?_
  refine x_cSvm (As := [.ref (o + 12), .int 4]) (rest := []) cs_X6_235 (met_X6_copies s17 (o + 12) 8 4 _ hBs17.a36 h) (by decide) rfl rfl rfl dX6_keepText_130 (n := 133) rfl (fun  s19 hs20 h => ?_)
  have hs20t := hs18t.tr hs20; have hBs19 := hB0.sh hs20t
  refine x_aload_n dX6_keepText_133 (n := 134) rfl rfl 0 rfl ?_
  refine x_getr fl_X6_51_0 rfl hBs19.1 hBs19.r37 dX6_keepText_134 (n := 137) rfl ?_
  refine x_iconst dX6_keepText_137 (n := 138) rfl ic_4 ?_
  refine x_cSvm (As := [.ref (o + 13), .int 4]) (rest := []) cs_X6_239 (met_X6_copiesLong s19 (o + 13) 8 4 _ hBs19.a37 h) (by decide) rfl rfl rfl dX6_keepText_138 (n := 141) rfl (fun  s21 hs22 h => ?_)
  have hs22t := hs20t.tr hs22; have hBs21 := hB0.sh hs22t
  refine x_aload_n dX6_keepText_141 (n := 142) rfl rfl 0 rfl ?_
  refine x_getr fl_X6_54_0 rfl hBs21.1 hBs21.r38 dX6_keepText_142 (n := 145) rfl ?_
  refine x_bipush dX6_keepText_145 (n := 147) rfl bp_12 ?_
  refine x_cSvm (As := [.ref (o + 14), .int 12]) (rest := []) cs_X6_235 (met_X6_copies s21 (o + 14) 24 12 _ hBs21.a38 h) (by decide) rfl rfl rfl dX6_keepText_147 (n := 150) rfl (fun  s23 hs24 h => ?_)
  have hs24t := hs22t.tr hs24; have hBs23 := hB0.sh hs24t
  refine x_aload_n dX6_keepText_150 (n := 151) rfl rfl 0 rfl ?_
  refine x_getr fl_X6_57_0 rfl hBs23.1 hBs23.r39 dX6_keepText_151 (n := 154) rfl ?_
  refine x_bipush dX6_keepText_154 (n := 156) rfl bp_6 ?_
  refine x_cSvm (As := [.ref (o + 15), .int 6]) (rest := []) cs_X6_235 (met_X6_copies s23 (o + 15) 12 6 _ hBs23.a39 h) (by decide) rfl rfl rfl dX6_keepText_156 (n := 159) rfl (fun  s25 hs26 h => ?_)
  have hs26t := hs24t.tr hs26; have hBs25 := hB0.sh hs26t
  refine x_aload_n dX6_keepText_159 (n := 160) rfl rfl 0 rfl ?_
  refine x_getr fl_X6_60_0 rfl hBs25.1 hBs25.r40 dX6_keepText_160 (n := 163) rfl ?_
  refine x_sipush dX6_keepText_163 (n := 166) rfl sp_132 ?_
  refine x_cSvm (As := [.ref (o + 16), .int 132]) (rest := []) cs_X6_235 (met_X6_copies s25 (o + 16) 264 132 _ hBs25.a40 h) (by decide) rfl rfl rfl dX6_keepText_166 (n := 169) rfl (fun  s27 hs28 h => ?_)
  have hs28t := hs26t.tr hs28; have hBs27 := hB0.sh hs28t
  refine x_aload_n dX6_keepText_169 (n := 170) rfl rfl 0 rfl ?_
  refine x_getr fl_X6_63_0 rfl hBs27.1 hBs27.r41 dX6_keepText_170 (n := 173) rfl ?_
  refine x_bipush dX6_keepText_173 (n := 175) rfl bp_64 ?_
  refine x_cSvm (As := [.ref (o + 17), .int 64]) (rest := []) cs_X6_235 (met_X6_copies s27 (o + 17) 128 64 _ hBs27.a41 h) (by decide) rfl rfl rfl dX6_keepText_175 (n := 178) rfl (fun  s29 hs30 h => ?_)
  have hs30t := hs28t.tr hs30; have hBs29 := hB0.sh hs30t
  refine x_aload_n dX6_keepText_178 (n := 179) rfl rfl 0 rfl ?_
  refine x_getr fl_X6_66_0 rfl hBs29.1 hBs29.r42 dX6_keepText_179 (n := 182) rfl ?_
  refine x_bipush dX6_keepText_182 (n := 184) rfl bp_64 ?_
  refine x_cSvm (As := [.ref (o + 18), .int 64]) (rest := []) cs_X6_235 (met_X6_copies s29 (o + 18) 128 64 _ hBs29.a42 h) (by decide) rfl rfl rfl dX6_keepText_184 (n := 187) rfl (fun  s31 hs32 h => ?_)
  have hs32t := hs30t.tr hs32; have hBs31 := hB0.sh hs32t
  refine x_aload_n dX6_keepText_187 (n := 188) rfl rfl 0 rfl ?_
  refine x_getr fl_X6_69_0 rfl hBs31.1 hBs31.r43 dX6_keepText_188 (n := 191) rfl ?_
  refine x_bipush dX6_keepText_191 (n := 193) rfl bp_64 ?_
  refine x_cSvm (As := [.ref (o + 19), .int 64]) (rest := []) cs_X6_235 (met_X6_copies s31 (o + 19) 128 64 _ hBs31.a43 h) (by decide) rfl rfl rfl dX6_keepText_193 (n := 196) rfl (fun  s33 hs34 h => ?_)
  have hs34t := hs32t.tr hs34; have hBs33 := hB0.sh hs34t
  refine x_aload_n dX6_keepText_196 (n := 197) rfl rfl 0 rfl ?_
  refine x_aload_n dX6_keepText_197 (n := 198) rfl rfl 0 rfl ?_
  refine x_geti fl_X6_229_0 rfl hBs33.1 rfl dX6_keepText_198 (n := 201) rfl ?_
  refine x_puti fp_X6_243_0 rfl hBs33.1 dX6_keepText_201 (n := 204) rfl ?_
  refine x_aload_n dX6_keepText_204 (n := 205) rfl rfl 0 rfl ?_
  refine x_iconst dX6_keepText_205 (n := 206) rfl ic_0 ?_
  refine x_puti fp_X6_246_0 rfl hBs33.i.1 dX6_keepText_206 (n := 209) rfl ?_
  refine x_aload_n dX6_keepText_209 (n := 210) rfl rfl 0 rfl ?_
  refine x_iconst dX6_keepText_210 (n := 211) rfl ic_0 ?_
  refine x_puti fp_X6_249_0 rfl hBs33.i.i.1 dX6_keepText_211 (n := 214) rfl ?_
  refine x_aload_n dX6_keepText_214 (n := 215) rfl rfl 0 rfl ?_
  refine x_iconst dX6_keepText_215 (n := 216) rfl ic_0 ?_
  refine x_putz fp_X6_252_0 rfl hBs33.i.i.i.1 isB0 dX6_keepText_216 (n := 219) rfl ?_
  exact x_vret rq ⟨hs34t.i.i.i.i, h⟩ dX6_keepText_219
abbrev rm_X6_thrown : Room := { frames := 0, cells := 0, slots := 0, locals := 0 }
def f_X6_thrown (o : Nat) (σ : Hp) : Int32 := gI σ o 2
theorem met_X6_thrown (o : Nat) (σ : Hp) (hB : MB o σ) : MetX yX6_thrown cX6_thrown 1 (some .int) rm_X6_thrown σ [.ref o] (oI (fun r σ' => σ' = σ ∧ r = (f_X6_thrown o σ))) 0 0 := by
  refine metX_of (own := RX6) (lvs := [(0, .ref o)]) (by decide) rfl (Nat.le_of_ble_eq_true rfl) rfl (fun G rq => ?_)
  have hv : (f_X6_thrown o σ) = _ := f_X6_thrown.eq_1 _ _
  refine x_aload_n dX6_thrown_0 (n := 1) rfl rfl 0 rfl ?_
  refine x_geti fl_X6_119_0 rfl hB.1 rfl dX6_thrown_1 (n := 4) rfl ?_
  exact x_iret rq ⟨rfl, hv.symm⟩ dX6_thrown_4
abbrev rm_X6_feed : Room := { frames := 0, cells := 0, slots := 0, locals := 0 }
def wj_X6_feed_76 (o : Nat) (σ : Hp) (x1 : Int32) (x2 : Int32) (x3 : Int32) (x4 : Int32) (x5 : Int32) (x6 : Int32) (w0 : Int32) (Q : Int32 → Hp → Prop) (K23 : (Int32 × Hp) → Prop) : Prop := (vp_in ((gI σ o 1) + x6) 900) ∧ (K23 (x6 + 1, pI σ (o + 1) ((gI σ o 1) + x6).toNatClampNeg ((w0 >>> ((24 - (8 * (x6 - x6 / 4 * 4))) &&& 31)) &&& 255)))
def lb_X6_feed_23 (o : Nat) (x1 : Int32) (x2 : Int32) (x3 : Int32) (x4 : Int32) (x5 : Int32) (Q : Int32 → Hp → Prop)  (K23 : Int32 × Hp → Prop) (z : Int32 × Hp) : Prop := match z with
  | (x6, σ) => (20 ≤ x6 → Q ((gI σ o 1) + 20) (pI σ o 1 ((gI σ o 1) + 20))) ∧ (¬ 20 ≤ x6 → (4 ≤ x6 → (8 ≤ x6 → (12 ≤ x6 → (16 ≤ x6 → wj_X6_feed_76 o σ x1 x2 x3 x4 x5 x6 x5 Q K23) ∧ (¬ 16 ≤ x6 → wj_X6_feed_76 o σ x1 x2 x3 x4 x5 x6 x4 Q K23)) ∧ (¬ 12 ≤ x6 → wj_X6_feed_76 o σ x1 x2 x3 x4 x5 x6 x3 Q K23)) ∧ (¬ 8 ≤ x6 → wj_X6_feed_76 o σ x1 x2 x3 x4 x5 x6 x2 Q K23)) ∧ (¬ 4 ≤ x6 → wj_X6_feed_76 o σ x1 x2 x3 x4 x5 x6 x1 Q K23))
def wp_X6_feed (o : Nat) (σ0 : Hp) (x1 : Int32) (x2 : Int32) (x3 : Int32) (x4 : Int32) (x5 : Int32) (Q : Int32 → Hp → Prop) : Prop := (((gI σ0 o 1) + 20) ≤ 900 → lp (lb_X6_feed_23 o x1 x2 x3 x4 x5 Q) (0, pI σ0 o 2 0)) ∧ (¬ ((gI σ0 o 1) + 20) ≤ 900 → Q (-1) (pI σ0 o 2 0))
theorem xj_X6_feed_76 (o : Nat) (σ0 : Hp) (Q : Int32 → Hp → Prop) (G : XE) (hB0 : MB o σ0) (rq : RQ G 0 0 (oI (fun r σ' => SH σ0 σ' ∧ Q r σ'))) (σ : Hp) (x1 : Int32) (x2 : Int32) (x3 : Int32) (x4 : Int32) (x5 : Int32) (x6 : Int32) (w0 : Int32)  (K23 : (Int32 × Hp) → Prop) (hK23 : ∀ z : (Int32 × Hp), SH σ0 z.2 → K23 z → X G rm_X6_feed cX6_feed RX6 8 (some .int) z.2 0 0 23 [(0, .ref o), (1, .int x1), (2, .int x2), (3, .int x3), (4, .int x4), (5, .int x5), (6, .int z.1)] []) (hs : SH σ0 σ) (h : wj_X6_feed_76 o σ x1 x2 x3 x4 x5 x6 w0 Q K23) : X G rm_X6_feed cX6_feed RX6 8 (some .int) σ 0 0 76 [(0, .ref o), (1, .int x1), (2, .int x2), (3, .int x3), (4, .int x4), (5, .int x5), (6, .int x6)] [.int w0] := by
  have hs : SH σ0 σ := hs
  have hB := hB0.sh hs
  unfold wj_X6_feed_76 at h
  refine x_istore (lvs' := [(7, .int w0), (0, .ref o), (1, .int x1), (2, .int x2), (3, .int x3), (4, .int x4), (5, .int x5), (6, .int x6)]) dX6_feed_76 (n := 78) rfl (by decide) rfl ?_
  refine x_aload_n dX6_feed_78 (n := 79) rfl rfl 1 rfl ?_
  refine x_getr fl_X6_7_0 rfl hB.1 hB.r0 dX6_feed_79 (n := 82) rfl ?_
  refine x_aload_n dX6_feed_82 (n := 83) rfl rfl 1 rfl ?_
  refine x_geti fl_X6_122_0 rfl hB.1 rfl dX6_feed_83 (n := 86) rfl ?_
  refine x_iload dX6_feed_86 (n := 88) rfl 7 rfl ?_
  refine x_iadd dX6_feed_88 (n := 89) rfl ?_
  refine x_iload dX6_feed_89 (n := 91) rfl 0 rfl ?_
  refine x_bipush dX6_feed_91 (n := 93) rfl bp_24 ?_
  refine x_bipush dX6_feed_93 (n := 95) rfl bp_8 ?_
  refine x_iload dX6_feed_95 (n := 97) rfl 7 rfl ?_
  refine x_iconst dX6_feed_97 (n := 98) rfl ic_4 ?_
  refine x_irem dX6_feed_98 (n := 99) rfl (by decide) ?_
  refine x_imul dX6_feed_99 (n := 100) rfl ?_
  refine x_isub dX6_feed_100 (n := 101) rfl ?_
  refine x_ishr dX6_feed_101 (n := 102) rfl ?_
  refine x_sipush dX6_feed_102 (n := 105) rfl sp_255 ?_
  refine x_iand dX6_feed_105 (n := 106) rfl ?_
  obtain ⟨b7, h⟩ := h
  refine x_iast hB.a0 b7 rfl dX6_feed_106 (n := 107) rfl ?_
  refine x_iinc (v := x6 + 1) (lvs' := [(6, .int (x6 + 1)), (7, .int w0), (0, .ref o), (1, .int x1), (2, .int x2), (3, .int x3), (4, .int x4), (5, .int x5)]) dX6_feed_107 (n := 110) rfl 7 rfl rfl (by decide) rfl ?_
  refine x_goto (tgt := 23) dX6_feed_110 rfl ?_
  exact x_sub [2, 3, 4, 5, 6, 7, 0] rfl (hK23 (x6 + 1, pI σ (o + 1) ((gI σ o 1) + x6).toNatClampNeg ((w0 >>> ((24 - (8 * (x6 - x6 / 4 * 4))) &&& 31)) &&& 255)) hs.i h)
theorem xl_X6_feed_23 (o : Nat) (σ0 : Hp) (Q : Int32 → Hp → Prop) (G : XE) (hB0 : MB o σ0) (rq : RQ G 0 0 (oI (fun r σ' => SH σ0 σ' ∧ Q r σ'))) (x1 : Int32) (x2 : Int32) (x3 : Int32) (x4 : Int32) (x5 : Int32)    : ∀ z : Int32 × Hp, SH σ0 z.2 → lp (lb_X6_feed_23 o x1 x2 x3 x4 x5 Q ) z → X G rm_X6_feed cX6_feed RX6 8 (some .int) z.2 0 0 23 [(0, .ref o), (1, .int x1), (2, .int x2), (3, .int x3), (4, .int x4), (5, .int x5), (6, .int z.1)] [] := by
  intro z
  refine fun hs h => lp_X (P := fun z => SH σ0 z.2 → X G rm_X6_feed cX6_feed RX6 8 (some .int) z.2 0 0 23 [(0, .ref o), (1, .int x1), (2, .int x2), (3, .int x3), (4, .int x4), (5, .int x5), (6, .int z.1)] []) ?_ h hs
  intro K23 hK23 z h hs
  obtain ⟨x6, σ⟩ := z
  have hs : SH σ0 σ := hs
  have hB := hB0.sh hs
  simp only [lb_X6_feed_23] at h
  show X G rm_X6_feed cX6_feed RX6 8 (some .int) σ 0 0 23 [(0, .ref o), (1, .int x1), (2, .int x2), (3, .int x3), (4, .int x4), (5, .int x5), (6, .int x6)] []
  have hK23 : ∀ z : (Int32 × Hp), SH σ0 z.2 → K23 z → X G rm_X6_feed cX6_feed RX6 8 (some .int) z.2 0 0 23 [(0, .ref o), (1, .int x1), (2, .int x2), (3, .int x3), (4, .int x4), (5, .int x5), (6, .int z.1)] [] := fun z hs h => hK23 z h hs
  refine x_iload dX6_feed_23 (n := 25) rfl 6 rfl ?_
  refine x_bipush dX6_feed_25 (n := 27) rfl bp_20 ?_
  refine x_icmp_ge (tgt := 113) dX6_feed_27 rfl (n := 30) rfl (fun c2 => ?_) (fun c2 => ?_)
  · have h := h.1 c2
    refine x_aload_n dX6_feed_113 (n := 114) rfl rfl 0 rfl ?_
    refine x_dup dX6_feed_114 (n := 115) rfl rfl ?_
    refine x_geti fl_X6_122_0 rfl hB.1 rfl dX6_feed_115 (n := 118) rfl ?_
    refine x_bipush dX6_feed_118 (n := 120) rfl bp_20 ?_
    refine x_iadd dX6_feed_120 (n := 121) rfl ?_
    refine x_puti fp_X6_122_0 rfl hB.1 dX6_feed_121 (n := 124) rfl ?_
    refine x_aload_n dX6_feed_124 (n := 125) rfl rfl 0 rfl ?_
    refine x_geti fl_X6_122_0 rfl hB.i.1 (gIs) dX6_feed_125 (n := 128) rfl ?_
    exact x_iret rq ⟨hs.i, h⟩ dX6_feed_128
  · have h := h.2 c2
    refine x_iload dX6_feed_30 (n := 32) rfl 6 rfl ?_
    refine x_iconst dX6_feed_32 (n := 33) rfl ic_4 ?_
    refine x_icmp_ge (tgt := 40) dX6_feed_33 rfl (n := 36) rfl (fun c3 => ?_) (fun c3 => ?_)
    · have h := h.1 c3
      refine x_iload dX6_feed_40 (n := 42) rfl 6 rfl ?_
      refine x_bipush dX6_feed_42 (n := 44) rfl bp_8 ?_
      refine x_icmp_ge (tgt := 51) dX6_feed_44 rfl (n := 47) rfl (fun c4 => ?_) (fun c4 => ?_)
      · have h := h.1 c4
        refine x_iload dX6_feed_51 (n := 53) rfl 6 rfl ?_
        refine x_bipush dX6_feed_53 (n := 55) rfl bp_12 ?_
        refine x_icmp_ge (tgt := 62) dX6_feed_55 rfl (n := 58) rfl (fun c5 => ?_) (fun c5 => ?_)
        · have h := h.1 c5
          refine x_iload dX6_feed_62 (n := 64) rfl 6 rfl ?_
          refine x_bipush dX6_feed_64 (n := 66) rfl bp_16 ?_
          refine x_icmp_ge (tgt := 74) dX6_feed_66 rfl (n := 69) rfl (fun c6 => ?_) (fun c6 => ?_)
          · have h := h.1 c6
            refine x_iload dX6_feed_74 (n := 76) rfl 5 rfl ?_
            exact x_sub [0, 1, 2, 3, 4, 5, 6] rfl (xj_X6_feed_76 o σ0 Q G hB0 rq σ x1 x2 x3 x4 x5 x6 x5 K23 hK23 hs h)
          · have h := h.2 c6
            refine x_iload dX6_feed_69 (n := 71) rfl 4 rfl ?_
            refine x_goto (tgt := 76) dX6_feed_71 rfl ?_
            exact x_sub [0, 1, 2, 3, 4, 5, 6] rfl (xj_X6_feed_76 o σ0 Q G hB0 rq σ x1 x2 x3 x4 x5 x6 x4 K23 hK23 hs h)
        · have h := h.2 c5
          refine x_iload_n dX6_feed_58 (n := 59) rfl rfl 3 rfl ?_
          refine x_goto (tgt := 76) dX6_feed_59 rfl ?_
          exact x_sub [0, 1, 2, 3, 4, 5, 6] rfl (xj_X6_feed_76 o σ0 Q G hB0 rq σ x1 x2 x3 x4 x5 x6 x3 K23 hK23 hs h)
      · have h := h.2 c4
        refine x_iload_n dX6_feed_47 (n := 48) rfl rfl 2 rfl ?_
        refine x_goto (tgt := 76) dX6_feed_48 rfl ?_
        exact x_sub [0, 1, 2, 3, 4, 5, 6] rfl (xj_X6_feed_76 o σ0 Q G hB0 rq σ x1 x2 x3 x4 x5 x6 x2 K23 hK23 hs h)
    · have h := h.2 c3
      refine x_iload_n dX6_feed_36 (n := 37) rfl rfl 1 rfl ?_
      refine x_goto (tgt := 76) dX6_feed_37 rfl ?_
      exact x_sub [0, 1, 2, 3, 4, 5, 6] rfl (xj_X6_feed_76 o σ0 Q G hB0 rq σ x1 x2 x3 x4 x5 x6 x1 K23 hK23 hs h)
theorem met_X6_feed (o : Nat) (σ0 : Hp) (x1 : Int32) (x2 : Int32) (x3 : Int32) (x4 : Int32) (x5 : Int32) (Q : Int32 → Hp → Prop) (hB0 : MB o σ0) (h : wp_X6_feed o σ0 x1 x2 x3 x4 x5 Q) : MetX yX6_feed cX6_feed 8 (some .int) rm_X6_feed σ0 [.ref o, .int x1, .int x2, .int x3, .int x4, .int x5] (oI (fun r σ' => SH σ0 σ' ∧ Q r σ')) 0 0 := by
  refine metX_of (own := RX6) (lvs := [(0, .ref o), (1, .int x1), (2, .int x2), (3, .int x3), (4, .int x4), (5, .int x5)]) (by decide) rfl (Nat.le_of_ble_eq_true rfl) rfl (fun G rq => ?_)
  unfold wp_X6_feed at h
  refine x_aload_n dX6_feed_0 (n := 1) rfl rfl 0 rfl ?_
  refine x_iconst dX6_feed_1 (n := 2) rfl ic_0 ?_
  refine x_puti fp_X6_119_0 rfl hB0.1 dX6_feed_2 (n := 5) rfl ?_
  refine x_aload_n dX6_feed_5 (n := 6) rfl rfl 0 rfl ?_
  refine x_geti fl_X6_122_0 rfl hB0.i.1 (gIn (by decide)) dX6_feed_6 (n := 9) rfl ?_
  refine x_bipush dX6_feed_9 (n := 11) rfl bp_20 ?_
  refine x_iadd dX6_feed_11 (n := 12) rfl ?_
  refine x_sipush dX6_feed_12 (n := 15) rfl sp_900 ?_
  refine x_icmp_le (tgt := 20) dX6_feed_15 rfl (n := 18) rfl (fun c1 => ?_) (fun c1 => ?_)
  · have h := h.1 c1
    refine x_iconst dX6_feed_20 (n := 21) rfl ic_0 ?_
    refine x_istore (lvs' := [(6, .int 0), (0, .ref o), (1, .int x1), (2, .int x2), (3, .int x3), (4, .int x4), (5, .int x5)]) dX6_feed_21 (n := 23) rfl (by decide) rfl ?_
    exact x_sub [1, 2, 3, 4, 5, 6, 0] rfl (xl_X6_feed_23 o σ0 Q G hB0 rq x1 x2 x3 x4 x5 (0, pI σ0 o 2 0) (SH.rf (σ := σ0)).i h)
  · have h := h.2 c1
    refine x_iconst dX6_feed_18 (n := 19) rfl ic_m1 ?_
    exact x_iret rq ⟨(SH.rf (σ := σ0)).i, h⟩ dX6_feed_19
abbrev rm_X6_beginOf : Room := { frames := 0, cells := 0, slots := 0, locals := 0 }
def fj_X6_beginOf_32 (o : Nat) (σ : Hp)  (x1 : Int32) (y2 : Int64) (y4 : Int64) : Int64 := (((gI σ (o + 5) ((3 * x1) + 2).toNatClampNeg).toInt64) + ((y2 - 1) * ((gI σ (o + 5) (3 * x1).toNatClampNeg).toInt64))) + (y4 * (((y2 - 1) * (y2 - 2)) / 2))
def oj_X6_beginOf_32 (o : Nat) (σ : Hp)  (x1 : Int32) (y2 : Int64) (y4 : Int64) : Prop := (vp_in ((3 * x1) + 2) 24) ∧ (vp_in (3 * x1) 24)
def f_X6_beginOf (o : Nat) (σ : Hp) (x1 : Int32) (y2 : Int64) : Int64 := if ((gI σ (o + 5) ((3 * x1) + 1).toNatClampNeg).toInt64) ≤ 0 then fj_X6_beginOf_32 o σ x1 y2 ((gI σ (o + 5) ((3 * x1) + 1).toNatClampNeg).toInt64) else if y2 ≤ 3000000 then fj_X6_beginOf_32 o σ x1 y2 ((gI σ (o + 5) ((3 * x1) + 1).toNatClampNeg).toInt64) else 1000000000001
def ok_X6_beginOf (o : Nat) (σ : Hp) (x1 : Int32) (y2 : Int64) : Prop := (vp_in ((3 * x1) + 1) 24) ∧ ((((gI σ (o + 5) ((3 * x1) + 1).toNatClampNeg).toInt64) ≤ 0 → (oj_X6_beginOf_32 o σ x1 y2 ((gI σ (o + 5) ((3 * x1) + 1).toNatClampNeg).toInt64))) ∧ (¬ ((gI σ (o + 5) ((3 * x1) + 1).toNatClampNeg).toInt64) ≤ 0 → ((y2 ≤ 3000000 → (oj_X6_beginOf_32 o σ x1 y2 ((gI σ (o + 5) ((3 * x1) + 1).toNatClampNeg).toInt64))) ∧ (¬ y2 ≤ 3000000 → True))))
theorem xj_X6_beginOf_32 (o : Nat) (σ : Hp) (G : XE) (hB : MB o σ)  (x1 : Int32) (y2 : Int64) (y4 : Int64)   (V : Int64) (hv : V = fj_X6_beginOf_32 o σ x1 y2 y4) (rq : RQ G 0 0 (oL (fun r σ' => σ' = σ ∧ r = V))) (hk : oj_X6_beginOf_32 o σ x1 y2 y4) : X G rm_X6_beginOf cX6_beginOf RX6 6 (some .long) σ 0 0 32 [(0, .ref o), (1, .int x1), (2, .long y2), (4, .long y4)] [] := by
  unfold fj_X6_beginOf_32 at hv
  unfold oj_X6_beginOf_32 at hk
  refine x_aload_n dX6_beginOf_32 (n := 33) rfl rfl 0 rfl ?_
  refine x_getr fl_X6_26_0 rfl hB.1 hB.r29 dX6_beginOf_33 (n := 36) rfl ?_
  refine x_iconst dX6_beginOf_36 (n := 37) rfl ic_3 ?_
  refine x_iload_n dX6_beginOf_37 (n := 38) rfl rfl 1 rfl ?_
  refine x_imul dX6_beginOf_38 (n := 39) rfl ?_
  refine x_iconst dX6_beginOf_39 (n := 40) rfl ic_2 ?_
  refine x_iadd dX6_beginOf_40 (n := 41) rfl ?_
  obtain ⟨b3, hk⟩ := hk
  refine x_iald hB.a29 b3 rfl dX6_beginOf_41 (n := 42) rfl ?_
  refine x_i2l dX6_beginOf_42 (n := 43) rfl ?_
  refine x_lload_n dX6_beginOf_43 (n := 44) rfl rfl 2 rfl ?_
  refine x_lconst dX6_beginOf_44 (n := 45) rfl lc_1 ?_
  refine x_lsub dX6_beginOf_45 (n := 46) rfl ?_
  refine x_aload_n dX6_beginOf_46 (n := 47) rfl rfl 0 rfl ?_
  refine x_getr fl_X6_26_0 rfl hB.1 hB.r29 dX6_beginOf_47 (n := 50) rfl ?_
  refine x_iconst dX6_beginOf_50 (n := 51) rfl ic_3 ?_
  refine x_iload_n dX6_beginOf_51 (n := 52) rfl rfl 1 rfl ?_
  refine x_imul dX6_beginOf_52 (n := 53) rfl ?_
  have b4 := hk
  refine x_iald hB.a29 b4 rfl dX6_beginOf_53 (n := 54) rfl ?_
  refine x_i2l dX6_beginOf_54 (n := 55) rfl ?_
  refine x_lmul dX6_beginOf_55 (n := 56) rfl ?_
  refine x_ladd dX6_beginOf_56 (n := 57) rfl ?_
  refine x_lload dX6_beginOf_57 (n := 59) rfl 3 rfl ?_
  refine x_lload_n dX6_beginOf_59 (n := 60) rfl rfl 2 rfl ?_
  refine x_lconst dX6_beginOf_60 (n := 61) rfl lc_1 ?_
  refine x_lsub dX6_beginOf_61 (n := 62) rfl ?_
  refine x_lload_n dX6_beginOf_62 (n := 63) rfl rfl 2 rfl ?_
  refine x_ldc2 dX6_beginOf_63 (n := 66) rfl q1899 ?_
  refine x_lsub dX6_beginOf_66 (n := 67) rfl ?_
  refine x_lmul dX6_beginOf_67 (n := 68) rfl ?_
  refine x_ldc2 dX6_beginOf_68 (n := 71) rfl q1899 ?_
  refine x_ldiv dX6_beginOf_71 (n := 72) rfl (by decide) ?_
  refine x_lmul dX6_beginOf_72 (n := 73) rfl ?_
  refine x_ladd dX6_beginOf_73 (n := 74) rfl ?_
  exact x_lret rq ⟨rfl, hv.symm⟩ dX6_beginOf_74
theorem met_X6_beginOf (o : Nat) (σ : Hp) (x1 : Int32) (y2 : Int64) (hB : MB o σ) (hk : ok_X6_beginOf o σ x1 y2) : MetX yX6_beginOf cX6_beginOf 6 (some .long) rm_X6_beginOf σ [.ref o, .int x1, .long y2] (oL (fun r σ' => σ' = σ ∧ r = (f_X6_beginOf o σ x1 y2))) 0 0 := by
  refine metX_of (own := RX6) (lvs := [(0, .ref o), (1, .int x1), (2, .long y2)]) (by decide) rfl (Nat.le_of_ble_eq_true rfl) rfl (fun G rq => ?_)
  have hv : (f_X6_beginOf o σ x1 y2) = _ := f_X6_beginOf.eq_1 _ _ _ _
  unfold ok_X6_beginOf at hk
  refine x_aload_n dX6_beginOf_0 (n := 1) rfl rfl 0 rfl ?_
  refine x_getr fl_X6_26_0 rfl hB.1 hB.r29 dX6_beginOf_1 (n := 4) rfl ?_
  refine x_iconst dX6_beginOf_4 (n := 5) rfl ic_3 ?_
  refine x_iload_n dX6_beginOf_5 (n := 6) rfl rfl 1 rfl ?_
  refine x_imul dX6_beginOf_6 (n := 7) rfl ?_
  refine x_iconst dX6_beginOf_7 (n := 8) rfl ic_1 ?_
  refine x_iadd dX6_beginOf_8 (n := 9) rfl ?_
  obtain ⟨b1, hk⟩ := hk
  refine x_iald hB.a29 b1 rfl dX6_beginOf_9 (n := 10) rfl ?_
  refine x_i2l dX6_beginOf_10 (n := 11) rfl ?_
  refine x_lstore (lvs' := [(4, .long ((gI σ (o + 5) ((3 * x1) + 1).toNatClampNeg).toInt64)), (0, .ref o), (1, .int x1), (2, .long y2)]) dX6_beginOf_11 (n := 13) rfl (by decide) rfl ?_
  refine x_lload dX6_beginOf_13 (n := 15) rfl 0 rfl ?_
  refine x_lconst dX6_beginOf_15 (n := 16) rfl lc_0 ?_
  refine x_lcmp_le (tgt := 32) dX6_beginOf_16 (pc1 := 17) rfl dX6_beginOf_17 rfl (n := 20) rfl (fun c2 => ?_) (fun c2 => ?_)
  · have hk := hk.1 c2
    have hv := hv.trans (if_pos c2)
    exact x_sub [1, 2, 3, 0] rfl (xj_X6_beginOf_32 o σ G hB x1 y2 ((gI σ (o + 5) ((3 * x1) + 1).toNatClampNeg).toInt64) _ hv rq hk)
  · have hk := hk.2 c2
    have hv := hv.trans (if_neg c2)
    refine x_lload_n dX6_beginOf_20 (n := 21) rfl rfl 3 rfl ?_
    refine x_ldc2 dX6_beginOf_21 (n := 24) rfl q1897 ?_
    refine x_lcmp_le (tgt := 32) dX6_beginOf_24 (pc1 := 25) rfl dX6_beginOf_25 rfl (n := 28) rfl (fun c5 => ?_) (fun c5 => ?_)
    · have hk := hk.1 c5
      have hv := hv.trans (if_pos c5)
      exact x_sub [1, 2, 3, 0] rfl (xj_X6_beginOf_32 o σ G hB x1 y2 ((gI σ (o + 5) ((3 * x1) + 1).toNatClampNeg).toInt64) _ hv rq hk)
    · have hk := hk.2 c5
      have hv := hv.trans (if_neg c5)
      refine x_ldc2 dX6_beginOf_28 (n := 31) rfl q1898 ?_
      exact x_lret rq ⟨rfl, hv.symm⟩ dX6_beginOf_31
abbrev rm_X6_lengthOf : Room := { frames := 0, cells := 0, slots := 0, locals := 0 }
def f_X6_lengthOf (o : Nat) (σ : Hp) (x1 : Int32) (y2 : Int64) : Int64 := ((gI σ (o + 5) (3 * x1).toNatClampNeg).toInt64) + ((y2 - 1) * ((gI σ (o + 5) ((3 * x1) + 1).toNatClampNeg).toInt64))
def ok_X6_lengthOf (o : Nat) (σ : Hp) (x1 : Int32) (y2 : Int64) : Prop := (vp_in (3 * x1) 24) ∧ (vp_in ((3 * x1) + 1) 24)
theorem met_X6_lengthOf (o : Nat) (σ : Hp) (x1 : Int32) (y2 : Int64) (hB : MB o σ) (hk : ok_X6_lengthOf o σ x1 y2) : MetX yX6_lengthOf cX6_lengthOf 4 (some .long) rm_X6_lengthOf σ [.ref o, .int x1, .long y2] (oL (fun r σ' => σ' = σ ∧ r = (f_X6_lengthOf o σ x1 y2))) 0 0 := by
  refine metX_of (own := RX6) (lvs := [(0, .ref o), (1, .int x1), (2, .long y2)]) (by decide) rfl (Nat.le_of_ble_eq_true rfl) rfl (fun G rq => ?_)
  have hv : (f_X6_lengthOf o σ x1 y2) = _ := f_X6_lengthOf.eq_1 _ _ _ _
  unfold ok_X6_lengthOf at hk
  refine x_aload_n dX6_lengthOf_0 (n := 1) rfl rfl 0 rfl ?_
  refine x_getr fl_X6_26_0 rfl hB.1 hB.r29 dX6_lengthOf_1 (n := 4) rfl ?_
  refine x_iconst dX6_lengthOf_4 (n := 5) rfl ic_3 ?_
  refine x_iload_n dX6_lengthOf_5 (n := 6) rfl rfl 1 rfl ?_
  refine x_imul dX6_lengthOf_6 (n := 7) rfl ?_
  obtain ⟨b1, hk⟩ := hk
  refine x_iald hB.a29 b1 rfl dX6_lengthOf_7 (n := 8) rfl ?_
  refine x_i2l dX6_lengthOf_8 (n := 9) rfl ?_
  refine x_lload_n dX6_lengthOf_9 (n := 10) rfl rfl 2 rfl ?_
  refine x_lconst dX6_lengthOf_10 (n := 11) rfl lc_1 ?_
  refine x_lsub dX6_lengthOf_11 (n := 12) rfl ?_
  refine x_aload_n dX6_lengthOf_12 (n := 13) rfl rfl 0 rfl ?_
  refine x_getr fl_X6_26_0 rfl hB.1 hB.r29 dX6_lengthOf_13 (n := 16) rfl ?_
  refine x_iconst dX6_lengthOf_16 (n := 17) rfl ic_3 ?_
  refine x_iload_n dX6_lengthOf_17 (n := 18) rfl rfl 1 rfl ?_
  refine x_imul dX6_lengthOf_18 (n := 19) rfl ?_
  refine x_iconst dX6_lengthOf_19 (n := 20) rfl ic_1 ?_
  refine x_iadd dX6_lengthOf_20 (n := 21) rfl ?_
  have b2 := hk
  refine x_iald hB.a29 b2 rfl dX6_lengthOf_21 (n := 22) rfl ?_
  refine x_i2l dX6_lengthOf_22 (n := 23) rfl ?_
  refine x_lmul dX6_lengthOf_23 (n := 24) rfl ?_
  refine x_ladd dX6_lengthOf_24 (n := 25) rfl ?_
  exact x_lret rq ⟨rfl, hv.symm⟩ dX6_lengthOf_25
abbrev rm_X6_isYear : Room := { frames := 1, cells := 0, slots := 0, locals := 23 }
def f_X6_isYear (o : Nat) (σ : Hp) (x1 : Int32) (y2 : Int64) : Int32 := if y2 < 1 then 0 else if (f_X6_lengthOf o σ x1 y2) < 1 then 0 else 1
def ok_X6_isYear (o : Nat) (σ : Hp) (x1 : Int32) (y2 : Int64) : Prop := (y2 < 1 → True) ∧ (¬ y2 < 1 → (ok_X6_lengthOf o σ x1 y2))
theorem met_X6_isYear (o : Nat) (σ : Hp) (x1 : Int32) (y2 : Int64) (hB : MB o σ) (hk : ok_X6_isYear o σ x1 y2) : MetX yX6_isYear cX6_isYear 4 (some .boolean) rm_X6_isYear σ [.ref o, .int x1, .long y2] (oI (fun r σ' => σ' = σ ∧ r = (f_X6_isYear o σ x1 y2))) 0 0 := by
  refine metX_of (own := RX6) (lvs := [(0, .ref o), (1, .int x1), (2, .long y2)]) (by decide) rfl (Nat.le_of_ble_eq_true rfl) rfl (fun G rq => ?_)
  have hv : (f_X6_isYear o σ x1 y2) = _ := f_X6_isYear.eq_1 _ _ _ _
  unfold ok_X6_isYear at hk
  refine x_lload_n dX6_isYear_0 (n := 1) rfl rfl 2 rfl ?_
  refine x_lconst dX6_isYear_1 (n := 2) rfl lc_1 ?_
  refine x_lcmp_lt (tgt := 21) dX6_isYear_2 (pc1 := 3) rfl dX6_isYear_3 rfl (n := 6) rfl (fun c1 => ?_) (fun c1 => ?_)
  · have hk := hk.1 c1
    have hv := hv.trans (if_pos c1)
    refine x_iconst dX6_isYear_21 (n := 22) rfl ic_0 ?_
    exact x_zret rq ⟨rfl, hv.symm⟩ isB0 dX6_isYear_22
  · have hk := hk.2 c1
    have hv := hv.trans (if_neg c1)
    refine x_aload_n dX6_isYear_6 (n := 7) rfl rfl 0 rfl ?_
    refine x_iload_n dX6_isYear_7 (n := 8) rfl rfl 1 rfl ?_
    refine x_lload_n dX6_isYear_8 (n := 9) rfl rfl 2 rfl ?_
    have b2 := hk
    refine x_cVlp (As := [.int x1, .long y2]) (rest := []) cv_X6_375 ck0 (met_X6_lengthOf o σ x1 y2 hB b2) hB.1 (by decide) rfl rfl rfl dX6_isYear_9 (n := 12) rfl (fun r3 q => ?_)
    subst q
    refine x_lconst dX6_isYear_12 (n := 13) rfl lc_1 ?_
    refine x_lcmp_lt (tgt := 21) dX6_isYear_13 (pc1 := 14) rfl dX6_isYear_14 rfl (n := 17) rfl (fun c4 => ?_) (fun c4 => ?_)
    · have hv := hv.trans (if_pos c4)
      refine x_iconst dX6_isYear_21 (n := 22) rfl ic_0 ?_
      exact x_zret rq ⟨rfl, hv.symm⟩ isB0 dX6_isYear_22
    · have hv := hv.trans (if_neg c4)
      refine x_iconst dX6_isYear_17 (n := 18) rfl ic_1 ?_
      refine x_goto (tgt := 22) dX6_isYear_18 rfl ?_
      exact x_zret rq ⟨rfl, hv.symm⟩ isB1 dX6_isYear_22
abbrev rm_X6_countOf : Room := { frames := 2, cells := 0, slots := 0, locals := 46 }
def f_X6_countOf (o : Nat) (σ : Hp) (x1 : Int32) (y2 : Int64) (y4 : Int64) : Int64 := if (f_X6_isYear o σ x1 y2) = 0 then (-1) else if y4 < 1 then (-1) else if y4 ≤ (f_X6_lengthOf o σ x1 y2) then if (((f_X6_beginOf o σ x1 y2) + y4) - 1) ≤ 1000000000000 then ((f_X6_beginOf o σ x1 y2) + y4) - 1 else (-1) else (-1)
def ok_X6_countOf (o : Nat) (σ : Hp) (x1 : Int32) (y2 : Int64) (y4 : Int64) : Prop := (ok_X6_isYear o σ x1 y2) ∧ (((f_X6_isYear o σ x1 y2) = 0 → True) ∧ (¬ (f_X6_isYear o σ x1 y2) = 0 → ((y4 < 1 → True) ∧ (¬ y4 < 1 → ((ok_X6_lengthOf o σ x1 y2) ∧ ((y4 ≤ (f_X6_lengthOf o σ x1 y2) → (ok_X6_beginOf o σ x1 y2)) ∧ (¬ y4 ≤ (f_X6_lengthOf o σ x1 y2) → True)))))))
theorem met_X6_countOf (o : Nat) (σ : Hp) (x1 : Int32) (y2 : Int64) (y4 : Int64) (hB : MB o σ) (hk : ok_X6_countOf o σ x1 y2 y4) : MetX yX6_countOf cX6_countOf 8 (some .long) rm_X6_countOf σ [.ref o, .int x1, .long y2, .long y4] (oL (fun r σ' => σ' = σ ∧ r = (f_X6_countOf o σ x1 y2 y4))) 0 0 := by
  refine metX_of (own := RX6) (lvs := [(0, .ref o), (1, .int x1), (2, .long y2), (4, .long y4)]) (by decide) rfl (Nat.le_of_ble_eq_true rfl) rfl (fun G rq => ?_)
  have hv : (f_X6_countOf o σ x1 y2 y4) = _ := f_X6_countOf.eq_1 _ _ _ _ _
  unfold ok_X6_countOf at hk
  refine x_aload_n dX6_countOf_0 (n := 1) rfl rfl 0 rfl ?_
  refine x_iload_n dX6_countOf_1 (n := 2) rfl rfl 1 rfl ?_
  refine x_lload_n dX6_countOf_2 (n := 3) rfl rfl 2 rfl ?_
  obtain ⟨b1, hk⟩ := hk
  refine x_cVip (As := [.int x1, .long y2]) (rest := []) cv_X6_385 ck0 (met_X6_isYear o σ x1 y2 hB b1) hB.1 (by decide) rfl rfl rfl dX6_countOf_3 (n := 6) rfl (fun r2 q => ?_)
  subst q
  refine x_if_eq (tgt := 28) dX6_countOf_6 rfl (n := 9) rfl (fun c3 => ?_) (fun c3 => ?_)
  · have hk := hk.1 c3
    have hv := hv.trans (if_pos c3)
    refine x_ldc2 dX6_countOf_28 (n := 31) rfl q1880 ?_
    exact x_lret rq ⟨rfl, hv.symm⟩ dX6_countOf_31
  · have hk := hk.2 c3
    have hv := hv.trans (if_neg c3)
    refine x_lload dX6_countOf_9 (n := 11) rfl 3 rfl ?_
    refine x_lconst dX6_countOf_11 (n := 12) rfl lc_1 ?_
    refine x_lcmp_lt (tgt := 28) dX6_countOf_12 (pc1 := 13) rfl dX6_countOf_13 rfl (n := 16) rfl (fun c4 => ?_) (fun c4 => ?_)
    · have hk := hk.1 c4
      have hv := hv.trans (if_pos c4)
      refine x_ldc2 dX6_countOf_28 (n := 31) rfl q1880 ?_
      exact x_lret rq ⟨rfl, hv.symm⟩ dX6_countOf_31
    · have hk := hk.2 c4
      have hv := hv.trans (if_neg c4)
      refine x_lload dX6_countOf_16 (n := 18) rfl 3 rfl ?_
      refine x_aload_n dX6_countOf_18 (n := 19) rfl rfl 0 rfl ?_
      refine x_iload_n dX6_countOf_19 (n := 20) rfl rfl 1 rfl ?_
      refine x_lload_n dX6_countOf_20 (n := 21) rfl rfl 2 rfl ?_
      obtain ⟨b5, hk⟩ := hk
      refine x_cVlp (As := [.int x1, .long y2]) (rest := [.long y4]) cv_X6_375 ck0 (met_X6_lengthOf o σ x1 y2 hB b5) hB.1 (by decide) rfl rfl rfl dX6_countOf_21 (n := 24) rfl (fun r6 q => ?_)
      subst q
      refine x_lcmp_le (tgt := 32) dX6_countOf_24 (pc1 := 25) rfl dX6_countOf_25 rfl (n := 28) rfl (fun c7 => ?_) (fun c7 => ?_)
      · have hk := hk.1 c7
        have hv := hv.trans (if_pos c7)
        refine x_aload_n dX6_countOf_32 (n := 33) rfl rfl 0 rfl ?_
        refine x_iload_n dX6_countOf_33 (n := 34) rfl rfl 1 rfl ?_
        refine x_lload_n dX6_countOf_34 (n := 35) rfl rfl 2 rfl ?_
        have b8 := hk
        refine x_cVlp (As := [.int x1, .long y2]) (rest := []) cv_X6_389 ck0 (met_X6_beginOf o σ x1 y2 hB b8) hB.1 (by decide) rfl rfl rfl dX6_countOf_35 (n := 38) rfl (fun r9 q => ?_)
        subst q
        refine x_lload dX6_countOf_38 (n := 40) rfl 3 rfl ?_
        refine x_ladd dX6_countOf_40 (n := 41) rfl ?_
        refine x_lconst dX6_countOf_41 (n := 42) rfl lc_1 ?_
        refine x_lsub dX6_countOf_42 (n := 43) rfl ?_
        refine x_lstore (lvs' := [(6, .long (((f_X6_beginOf o σ x1 y2) + y4) - 1)), (0, .ref o), (1, .int x1), (2, .long y2), (4, .long y4)]) dX6_countOf_43 (n := 45) rfl (by decide) rfl ?_
        refine x_lload dX6_countOf_45 (n := 47) rfl 0 rfl ?_
        refine x_ldc2 dX6_countOf_47 (n := 50) rfl q1900 ?_
        refine x_lcmp_le (tgt := 60) dX6_countOf_50 (pc1 := 51) rfl dX6_countOf_51 rfl (n := 54) rfl (fun c10 => ?_) (fun c10 => ?_)
        · have hv := hv.trans (if_pos c10)
          refine x_lload dX6_countOf_60 (n := 62) rfl 0 rfl ?_
          exact x_lret rq ⟨rfl, hv.symm⟩ dX6_countOf_62
        · have hv := hv.trans (if_neg c10)
          refine x_ldc2 dX6_countOf_54 (n := 57) rfl q1880 ?_
          refine x_goto (tgt := 62) dX6_countOf_57 rfl ?_
          exact x_lret rq ⟨rfl, hv.symm⟩ dX6_countOf_62
      · have hk := hk.2 c7
        have hv := hv.trans (if_neg c7)
        refine x_ldc2 dX6_countOf_28 (n := 31) rfl q1880 ?_
        exact x_lret rq ⟨rfl, hv.symm⟩ dX6_countOf_31
abbrev rm_X6_isIn : Room := { frames := 0, cells := 0, slots := 0, locals := 0 }
def f_X6_isIn (x0 : Int32) (x1 : Int32) (x2 : Int32) : Int32 := if x0 < x1 then 0 else if x2 < x0 then 0 else 1
theorem met_X6_isIn (σ : Hp) (x0 : Int32) (x1 : Int32) (x2 : Int32)  : MetX yX6_isIn cX6_isIn 3 (some .boolean) rm_X6_isIn σ [.int x0, .int x1, .int x2] (oI (fun r σ' => σ' = σ ∧ r = (f_X6_isIn x0 x1 x2))) 0 0 := by
  refine metX_of (own := RX6) (lvs := [(0, .int x0), (1, .int x1), (2, .int x2)]) (by decide) rfl (Nat.le_of_ble_eq_true rfl) rfl (fun G rq => ?_)
  have hv : (f_X6_isIn x0 x1 x2) = _ := f_X6_isIn.eq_1 _ _ _
  refine x_iload_n dX6_isIn_0 (n := 1) rfl rfl 0 rfl ?_
  refine x_iload_n dX6_isIn_1 (n := 2) rfl rfl 1 rfl ?_
  refine x_icmp_lt (tgt := 14) dX6_isIn_2 rfl (n := 5) rfl (fun c1 => ?_) (fun c1 => ?_)
  · have hv := hv.trans (if_pos c1)
    refine x_iconst dX6_isIn_14 (n := 15) rfl ic_0 ?_
    exact x_zret rq ⟨rfl, hv.symm⟩ isB0 dX6_isIn_15
  · have hv := hv.trans (if_neg c1)
    refine x_iload_n dX6_isIn_5 (n := 6) rfl rfl 0 rfl ?_
    refine x_iload_n dX6_isIn_6 (n := 7) rfl rfl 2 rfl ?_
    refine x_icmp_gt (tgt := 14) dX6_isIn_7 rfl (n := 10) rfl (fun c2 => ?_) (fun c2 => ?_)
    · have hv := hv.trans (if_pos c2)
      refine x_iconst dX6_isIn_14 (n := 15) rfl ic_0 ?_
      exact x_zret rq ⟨rfl, hv.symm⟩ isB0 dX6_isIn_15
    · have hv := hv.trans (if_neg c2)
      refine x_iconst dX6_isIn_10 (n := 11) rfl ic_1 ?_
      refine x_goto (tgt := 15) dX6_isIn_11 rfl ?_
      exact x_zret rq ⟨rfl, hv.symm⟩ isB1 dX6_isIn_15
abbrev rm_X6_isDigit : Room := { frames := 0, cells := 0, slots := 0, locals := 0 }
def f_X6_isDigit (o : Nat) (σ : Hp) (x1 : Int32) : Int32 := if (gI σ o 6) ≤ x1 then 0 else if (gI σ (o + 1) x1.toNatClampNeg) < 48 then 0 else if 57 < (gI σ (o + 1) x1.toNatClampNeg) then 0 else 1
def ok_X6_isDigit (o : Nat) (σ : Hp) (x1 : Int32) : Prop := ((gI σ o 6) ≤ x1 → True) ∧ (¬ (gI σ o 6) ≤ x1 → ((vp_in x1 900) ∧ (((gI σ (o + 1) x1.toNatClampNeg) < 48 → True) ∧ (¬ (gI σ (o + 1) x1.toNatClampNeg) < 48 → (vp_in x1 900)))))
theorem met_X6_isDigit (o : Nat) (σ : Hp) (x1 : Int32) (hB : MB o σ) (hk : ok_X6_isDigit o σ x1) : MetX yX6_isDigit cX6_isDigit 2 (some .boolean) rm_X6_isDigit σ [.ref o, .int x1] (oI (fun r σ' => σ' = σ ∧ r = (f_X6_isDigit o σ x1))) 0 0 := by
  refine metX_of (own := RX6) (lvs := [(0, .ref o), (1, .int x1)]) (by decide) rfl (Nat.le_of_ble_eq_true rfl) rfl (fun G rq => ?_)
  have hv : (f_X6_isDigit o σ x1) = _ := f_X6_isDigit.eq_1 _ _ _
  unfold ok_X6_isDigit at hk
  refine x_iload_n dX6_isDigit_0 (n := 1) rfl rfl 1 rfl ?_
  refine x_aload_n dX6_isDigit_1 (n := 2) rfl rfl 0 rfl ?_
  refine x_geti fl_X6_133_0 rfl hB.1 rfl dX6_isDigit_2 (n := 5) rfl ?_
  refine x_icmp_ge (tgt := 34) dX6_isDigit_5 rfl (n := 8) rfl (fun c1 => ?_) (fun c1 => ?_)
  · have hk := hk.1 c1
    have hv := hv.trans (if_pos c1)
    refine x_iconst dX6_isDigit_34 (n := 35) rfl ic_0 ?_
    exact x_zret rq ⟨rfl, hv.symm⟩ isB0 dX6_isDigit_35
  · have hk := hk.2 c1
    have hv := hv.trans (if_neg c1)
    refine x_aload_n dX6_isDigit_8 (n := 9) rfl rfl 0 rfl ?_
    refine x_getr fl_X6_7_0 rfl hB.1 hB.r0 dX6_isDigit_9 (n := 12) rfl ?_
    refine x_iload_n dX6_isDigit_12 (n := 13) rfl rfl 1 rfl ?_
    obtain ⟨b2, hk⟩ := hk
    refine x_iald hB.a0 b2 rfl dX6_isDigit_13 (n := 14) rfl ?_
    refine x_bipush dX6_isDigit_14 (n := 16) rfl bp_48 ?_
    refine x_icmp_lt (tgt := 34) dX6_isDigit_16 rfl (n := 19) rfl (fun c3 => ?_) (fun c3 => ?_)
    · have hk := hk.1 c3
      have hv := hv.trans (if_pos c3)
      refine x_iconst dX6_isDigit_34 (n := 35) rfl ic_0 ?_
      exact x_zret rq ⟨rfl, hv.symm⟩ isB0 dX6_isDigit_35
    · have hk := hk.2 c3
      have hv := hv.trans (if_neg c3)
      refine x_aload_n dX6_isDigit_19 (n := 20) rfl rfl 0 rfl ?_
      refine x_getr fl_X6_7_0 rfl hB.1 hB.r0 dX6_isDigit_20 (n := 23) rfl ?_
      refine x_iload_n dX6_isDigit_23 (n := 24) rfl rfl 1 rfl ?_
      have b4 := hk
      refine x_iald hB.a0 b4 rfl dX6_isDigit_24 (n := 25) rfl ?_
      refine x_bipush dX6_isDigit_25 (n := 27) rfl bp_57 ?_
      refine x_icmp_gt (tgt := 34) dX6_isDigit_27 rfl (n := 30) rfl (fun c5 => ?_) (fun c5 => ?_)
      · have hv := hv.trans (if_pos c5)
        refine x_iconst dX6_isDigit_34 (n := 35) rfl ic_0 ?_
        exact x_zret rq ⟨rfl, hv.symm⟩ isB0 dX6_isDigit_35
      · have hv := hv.trans (if_neg c5)
        refine x_iconst dX6_isDigit_30 (n := 31) rfl ic_1 ?_
        refine x_goto (tgt := 35) dX6_isDigit_31 rfl ?_
        exact x_zret rq ⟨rfl, hv.symm⟩ isB1 dX6_isDigit_35
abbrev rm_X6_isSmall : Room := { frames := 0, cells := 0, slots := 0, locals := 0 }
def f_X6_isSmall (o : Nat) (σ : Hp) (x1 : Int32) : Int32 := if (gI σ o 6) ≤ x1 then 0 else if (gI σ (o + 1) x1.toNatClampNeg) < 97 then 0 else if 122 < (gI σ (o + 1) x1.toNatClampNeg) then 0 else 1
def ok_X6_isSmall (o : Nat) (σ : Hp) (x1 : Int32) : Prop := ((gI σ o 6) ≤ x1 → True) ∧ (¬ (gI σ o 6) ≤ x1 → ((vp_in x1 900) ∧ (((gI σ (o + 1) x1.toNatClampNeg) < 97 → True) ∧ (¬ (gI σ (o + 1) x1.toNatClampNeg) < 97 → (vp_in x1 900)))))
theorem met_X6_isSmall (o : Nat) (σ : Hp) (x1 : Int32) (hB : MB o σ) (hk : ok_X6_isSmall o σ x1) : MetX yX6_isSmall cX6_isSmall 2 (some .boolean) rm_X6_isSmall σ [.ref o, .int x1] (oI (fun r σ' => σ' = σ ∧ r = (f_X6_isSmall o σ x1))) 0 0 := by
  refine metX_of (own := RX6) (lvs := [(0, .ref o), (1, .int x1)]) (by decide) rfl (Nat.le_of_ble_eq_true rfl) rfl (fun G rq => ?_)
  have hv : (f_X6_isSmall o σ x1) = _ := f_X6_isSmall.eq_1 _ _ _
  unfold ok_X6_isSmall at hk
  refine x_iload_n dX6_isSmall_0 (n := 1) rfl rfl 1 rfl ?_
  refine x_aload_n dX6_isSmall_1 (n := 2) rfl rfl 0 rfl ?_
  refine x_geti fl_X6_133_0 rfl hB.1 rfl dX6_isSmall_2 (n := 5) rfl ?_
  refine x_icmp_ge (tgt := 34) dX6_isSmall_5 rfl (n := 8) rfl (fun c1 => ?_) (fun c1 => ?_)
  · have hk := hk.1 c1
    have hv := hv.trans (if_pos c1)
    refine x_iconst dX6_isSmall_34 (n := 35) rfl ic_0 ?_
    exact x_zret rq ⟨rfl, hv.symm⟩ isB0 dX6_isSmall_35
  · have hk := hk.2 c1
    have hv := hv.trans (if_neg c1)
    refine x_aload_n dX6_isSmall_8 (n := 9) rfl rfl 0 rfl ?_
    refine x_getr fl_X6_7_0 rfl hB.1 hB.r0 dX6_isSmall_9 (n := 12) rfl ?_
    refine x_iload_n dX6_isSmall_12 (n := 13) rfl rfl 1 rfl ?_
    obtain ⟨b2, hk⟩ := hk
    refine x_iald hB.a0 b2 rfl dX6_isSmall_13 (n := 14) rfl ?_
    refine x_bipush dX6_isSmall_14 (n := 16) rfl bp_97 ?_
    refine x_icmp_lt (tgt := 34) dX6_isSmall_16 rfl (n := 19) rfl (fun c3 => ?_) (fun c3 => ?_)
    · have hk := hk.1 c3
      have hv := hv.trans (if_pos c3)
      refine x_iconst dX6_isSmall_34 (n := 35) rfl ic_0 ?_
      exact x_zret rq ⟨rfl, hv.symm⟩ isB0 dX6_isSmall_35
    · have hk := hk.2 c3
      have hv := hv.trans (if_neg c3)
      refine x_aload_n dX6_isSmall_19 (n := 20) rfl rfl 0 rfl ?_
      refine x_getr fl_X6_7_0 rfl hB.1 hB.r0 dX6_isSmall_20 (n := 23) rfl ?_
      refine x_iload_n dX6_isSmall_23 (n := 24) rfl rfl 1 rfl ?_
      have b4 := hk
      refine x_iald hB.a0 b4 rfl dX6_isSmall_24 (n := 25) rfl ?_
      refine x_bipush dX6_isSmall_25 (n := 27) rfl bp_122 ?_
      refine x_icmp_gt (tgt := 34) dX6_isSmall_27 rfl (n := 30) rfl (fun c5 => ?_) (fun c5 => ?_)
      · have hv := hv.trans (if_pos c5)
        refine x_iconst dX6_isSmall_34 (n := 35) rfl ic_0 ?_
        exact x_zret rq ⟨rfl, hv.symm⟩ isB0 dX6_isSmall_35
      · have hv := hv.trans (if_neg c5)
        refine x_iconst dX6_isSmall_30 (n := 31) rfl ic_1 ?_
        refine x_goto (tgt := 35) dX6_isSmall_31 rfl ?_
        exact x_zret rq ⟨rfl, hv.symm⟩ isB1 dX6_isSmall_35
abbrev rm_X6_packed : Room := { frames := 0, cells := 0, slots := 0, locals := 0 }
def lb_X6_packed_5 (o : Nat) (σ : Hp) (x1 : Int32) (x2 : Int32) (Q : Int32 → Prop)  (K5 : Int32 × Int32 → Prop) (z : Int32 × Int32) : Prop := match z with
  | (x3, x4) => ((x1 + 6) ≤ x4 → Q x3) ∧ (¬ (x1 + 6) ≤ x4 → (x2 ≤ x4 → K5 ((x3 <<< (5 &&& 31)) ||| 0, x4 + 1)) ∧ (¬ x2 ≤ x4 → (vp_in x4 900) ∧ (∀ v4 : Int32, v4 = (x3 <<< (5 &&& 31)) ||| ((gI σ (o + 1) x4.toNatClampNeg) - 96) → K5 (v4, x4 + 1))))
def wp_X6_packed (o : Nat) (σ : Hp) (x1 : Int32) (x2 : Int32) (Q : Int32 → Prop) : Prop := lp (lb_X6_packed_5 o σ x1 x2 Q) (0, x1)
theorem xl_X6_packed_5 (o : Nat) (σ : Hp) (Q : Int32 → Prop) (G : XE) (hB : MB o σ) (rq : RQ G 0 0 (oI (fun r σ' => σ' = σ ∧ Q r))) (x1 : Int32) (x2 : Int32)    : ∀ z : Int32 × Int32, lp (lb_X6_packed_5 o σ x1 x2 Q ) z → X G rm_X6_packed cX6_packed RX6 5 (some .int) σ 0 0 5 [(0, .ref o), (1, .int x1), (2, .int x2), (3, .int z.1), (4, .int z.2)] [] := by
  intro z
  refine fun h => lp_X (P := fun z => X G rm_X6_packed cX6_packed RX6 5 (some .int) σ 0 0 5 [(0, .ref o), (1, .int x1), (2, .int x2), (3, .int z.1), (4, .int z.2)] []) ?_ h
  intro K5 hK5 z h
  obtain ⟨x3, x4⟩ := z
  simp only [lb_X6_packed_5] at h
  show X G rm_X6_packed cX6_packed RX6 5 (some .int) σ 0 0 5 [(0, .ref o), (1, .int x1), (2, .int x2), (3, .int x3), (4, .int x4)] []
  have hK5 : ∀ z : (Int32 × Int32), K5 z → X G rm_X6_packed cX6_packed RX6 5 (some .int) σ 0 0 5 [(0, .ref o), (1, .int x1), (2, .int x2), (3, .int z.1), (4, .int z.2)] [] := fun z h => hK5 z h
  refine x_iload dX6_packed_5 (n := 7) rfl 4 rfl ?_
  refine x_iload_n dX6_packed_7 (n := 8) rfl rfl 1 rfl ?_
  refine x_bipush dX6_packed_8 (n := 10) rfl bp_6 ?_
  refine x_iadd dX6_packed_10 (n := 11) rfl ?_
  refine x_icmp_ge (tgt := 45) dX6_packed_11 rfl (n := 14) rfl (fun c1 => ?_) (fun c1 => ?_)
  · have h := h.1 c1
    refine x_iload_n dX6_packed_45 (n := 46) rfl rfl 3 rfl ?_
    exact x_iret rq ⟨rfl, h⟩ dX6_packed_46
  · have h := h.2 c1
    refine x_iload_n dX6_packed_14 (n := 15) rfl rfl 3 rfl ?_
    refine x_iconst dX6_packed_15 (n := 16) rfl ic_5 ?_
    refine x_ishl dX6_packed_16 (n := 17) rfl ?_
    refine x_iload dX6_packed_17 (n := 19) rfl 4 rfl ?_
    refine x_iload_n dX6_packed_19 (n := 20) rfl rfl 2 rfl ?_
    refine x_icmp_ge (tgt := 36) dX6_packed_20 rfl (n := 23) rfl (fun c2 => ?_) (fun c2 => ?_)
    · have h := h.1 c2
      refine x_iconst dX6_packed_36 (n := 37) rfl ic_0 ?_
      refine x_ior dX6_packed_37 (n := 38) rfl ?_
      refine x_istore_n (lvs' := [(3, .int ((x3 <<< (5 &&& 31)) ||| 0)), (0, .ref o), (1, .int x1), (2, .int x2), (4, .int x4)]) dX6_packed_38 (n := 39) rfl rfl (by decide) rfl ?_
      refine x_iinc (v := x4 + 1) (lvs' := [(4, .int (x4 + 1)), (3, .int ((x3 <<< (5 &&& 31)) ||| 0)), (0, .ref o), (1, .int x1), (2, .int x2)]) dX6_packed_39 (n := 42) rfl 4 rfl rfl (by decide) rfl ?_
      refine x_goto (tgt := 5) dX6_packed_42 rfl ?_
      exact x_sub [2, 3, 4, 1, 0] rfl (hK5 ((x3 <<< (5 &&& 31)) ||| 0, x4 + 1) h)
    · have h := h.2 c2
      refine x_aload_n dX6_packed_23 (n := 24) rfl rfl 0 rfl ?_
      refine x_getr fl_X6_7_0 rfl hB.1 hB.r0 dX6_packed_24 (n := 27) rfl ?_
      refine x_iload dX6_packed_27 (n := 29) rfl 4 rfl ?_
      obtain ⟨b3, h⟩ := h
      refine x_iald hB.a0 b3 rfl dX6_packed_29 (n := 30) rfl ?_
      refine x_bipush dX6_packed_30 (n := 32) rfl bp_96 ?_
      refine x_isub dX6_packed_32 (n := 33) rfl ?_
      refine x_goto (tgt := 37) dX6_packed_33 rfl ?_
      refine x_ior dX6_packed_37 (n := 38) rfl ?_
      refine x_topi (fun v4 e5 => ?_)
      have h := h v4 e5
      refine x_istore_n (lvs' := [(3, .int v4), (0, .ref o), (1, .int x1), (2, .int x2), (4, .int x4)]) dX6_packed_38 (n := 39) rfl rfl (by decide) rfl ?_
      refine x_iinc (v := x4 + 1) (lvs' := [(4, .int (x4 + 1)), (3, .int v4), (0, .ref o), (1, .int x1), (2, .int x2)]) dX6_packed_39 (n := 42) rfl 4 rfl rfl (by decide) rfl ?_
      refine x_goto (tgt := 5) dX6_packed_42 rfl ?_
      exact x_sub [2, 3, 4, 1, 0] rfl (hK5 (v4, x4 + 1) h)
theorem met_X6_packed (o : Nat) (σ : Hp) (x1 : Int32) (x2 : Int32) (Q : Int32 → Prop) (hB : MB o σ) (h : wp_X6_packed o σ x1 x2 Q) : MetX yX6_packed cX6_packed 5 (some .int) rm_X6_packed σ [.ref o, .int x1, .int x2] (oI (fun r σ' => σ' = σ ∧ Q r)) 0 0 := by
  refine metX_of (own := RX6) (lvs := [(0, .ref o), (1, .int x1), (2, .int x2)]) (by decide) rfl (Nat.le_of_ble_eq_true rfl) rfl (fun G rq => ?_)
  unfold wp_X6_packed at h
  refine x_iconst dX6_packed_0 (n := 1) rfl ic_0 ?_
  refine x_istore_n (lvs' := [(3, .int 0), (0, .ref o), (1, .int x1), (2, .int x2)]) dX6_packed_1 (n := 2) rfl rfl (by decide) rfl ?_
  refine x_iload_n dX6_packed_2 (n := 3) rfl rfl 2 rfl ?_
  refine x_istore (lvs' := [(4, .int x1), (3, .int 0), (0, .ref o), (1, .int x1), (2, .int x2)]) dX6_packed_3 (n := 5) rfl (by decide) rfl ?_
  exact x_sub [2, 3, 4, 1, 0] rfl (xl_X6_packed_5 o σ Q G hB rq x1 x2 (0, x1) h)
abbrev rm_X6_signToken : Room := { frames := 0, cells := 0, slots := 0, locals := 0 }
def fj_X6_signToken_135 (o : Nat) (σ : Hp) (x2 : Int32) (x3 : Int32) : Hp := if (gI σ o 9) = 61 then pI (pI σ o 8 5) o 9 2 else if (gI σ o 9) = 60 then if x2 = 0 then if x3 = 0 then pI (pI σ o 8 5) o 9 0 else pI (pI σ o 8 5) o 9 3 else pI (pI σ o 8 5) o 9 1 else if x2 = 0 then pI (pI σ o 8 5) o 9 5 else pI (pI σ o 8 5) o 9 4
def fj_X6_signToken_125 (o : Nat) (σ : Hp) (x2 : Int32) (x3 : Int32) : Hp := fj_X6_signToken_135 o (pI σ o 7 ((gI σ o 7) + 1)) x2 x3
def fj_X6_signToken_116 (o : Nat) (σ : Hp) (x2 : Int32) (w0 : Int32) : Hp := if x2 = 0 then if w0 = 0 then fj_X6_signToken_135 o σ x2 w0 else fj_X6_signToken_125 o σ x2 w0 else fj_X6_signToken_125 o σ x2 w0
def fj_X6_signToken_115 (o : Nat) (σ : Hp) (x2 : Int32) : Hp := fj_X6_signToken_116 o σ x2 0
def fj_X6_signToken_95 (o : Nat) (σ : Hp) (x1 : Int32) (w0 : Int32) : Hp := if (gI σ o 9) = 60 then if x1 = 62 then fj_X6_signToken_116 o σ w0 1 else fj_X6_signToken_115 o σ w0 else fj_X6_signToken_115 o σ w0
def fj_X6_signToken_94 (o : Nat) (σ : Hp) (x1 : Int32) : Hp := fj_X6_signToken_95 o σ x1 0
def fj_X6_signToken_74 (o : Nat) (σ : Hp) (w0 : Int32) : Hp := if (gI σ o 9) = 61 then fj_X6_signToken_94 o σ w0 else if w0 = 61 then fj_X6_signToken_95 o σ w0 1 else fj_X6_signToken_94 o σ w0
def fj_X6_signToken_50 (o : Nat) (σ : Hp)  : Hp := if (gI σ o 6) ≤ (gI σ o 7) then fj_X6_signToken_74 o σ 0 else fj_X6_signToken_74 o σ (gI σ (o + 1) (gI σ o 7).toNatClampNeg)
def oj_X6_signToken_50 (o : Nat) (σ : Hp)  : Prop := ((gI σ o 6) ≤ (gI σ o 7) → True) ∧ (¬ (gI σ o 6) ≤ (gI σ o 7) → (vp_in (gI σ o 7) 900))
def fj_X6_signToken_275 (o : Nat) (σ : Hp) (w0 : Int32) : Hp := if w0 = 0 then pI σ o 8 6 else pI σ o 8 4
def fj_X6_signToken_270 (o : Nat) (σ : Hp)  : Hp := fj_X6_signToken_275 o σ 1
def f_X6_signToken (o : Nat) (σ0 : Hp) : Hp := if (gI σ0 (o + 1) (gI σ0 o 7).toNatClampNeg) = 60 then fj_X6_signToken_50 o (pI (pI σ0 o 9 (gI σ0 (o + 1) (gI σ0 o 7).toNatClampNeg)) o 7 ((gI σ0 o 7) + 1)) else if (gI σ0 (o + 1) (gI σ0 o 7).toNatClampNeg) = 62 then fj_X6_signToken_50 o (pI (pI σ0 o 9 (gI σ0 (o + 1) (gI σ0 o 7).toNatClampNeg)) o 7 ((gI σ0 o 7) + 1)) else if (gI σ0 (o + 1) (gI σ0 o 7).toNatClampNeg) = 61 then fj_X6_signToken_50 o (pI (pI σ0 o 9 (gI σ0 (o + 1) (gI σ0 o 7).toNatClampNeg)) o 7 ((gI σ0 o 7) + 1)) else if (gI σ0 (o + 1) (gI σ0 o 7).toNatClampNeg) = 59 then fj_X6_signToken_270 o (pI (pI σ0 o 9 (gI σ0 (o + 1) (gI σ0 o 7).toNatClampNeg)) o 7 ((gI σ0 o 7) + 1)) else if (gI σ0 (o + 1) (gI σ0 o 7).toNatClampNeg) = 40 then fj_X6_signToken_270 o (pI (pI σ0 o 9 (gI σ0 (o + 1) (gI σ0 o 7).toNatClampNeg)) o 7 ((gI σ0 o 7) + 1)) else if (gI σ0 (o + 1) (gI σ0 o 7).toNatClampNeg) = 41 then fj_X6_signToken_270 o (pI (pI σ0 o 9 (gI σ0 (o + 1) (gI σ0 o 7).toNatClampNeg)) o 7 ((gI σ0 o 7) + 1)) else if (gI σ0 (o + 1) (gI σ0 o 7).toNatClampNeg) = 43 then fj_X6_signToken_270 o (pI (pI σ0 o 9 (gI σ0 (o + 1) (gI σ0 o 7).toNatClampNeg)) o 7 ((gI σ0 o 7) + 1)) else if (gI σ0 (o + 1) (gI σ0 o 7).toNatClampNeg) = 45 then fj_X6_signToken_270 o (pI (pI σ0 o 9 (gI σ0 (o + 1) (gI σ0 o 7).toNatClampNeg)) o 7 ((gI σ0 o 7) + 1)) else if (gI σ0 (o + 1) (gI σ0 o 7).toNatClampNeg) = 42 then fj_X6_signToken_270 o (pI (pI σ0 o 9 (gI σ0 (o + 1) (gI σ0 o 7).toNatClampNeg)) o 7 ((gI σ0 o 7) + 1)) else if (gI σ0 (o + 1) (gI σ0 o 7).toNatClampNeg) = 47 then fj_X6_signToken_270 o (pI (pI σ0 o 9 (gI σ0 (o + 1) (gI σ0 o 7).toNatClampNeg)) o 7 ((gI σ0 o 7) + 1)) else if (gI σ0 (o + 1) (gI σ0 o 7).toNatClampNeg) = 37 then fj_X6_signToken_270 o (pI (pI σ0 o 9 (gI σ0 (o + 1) (gI σ0 o 7).toNatClampNeg)) o 7 ((gI σ0 o 7) + 1)) else fj_X6_signToken_275 o (pI (pI σ0 o 9 (gI σ0 (o + 1) (gI σ0 o 7).toNatClampNeg)) o 7 ((gI σ0 o 7) + 1)) 0
def ok_X6_signToken (o : Nat) (σ0 : Hp) : Prop := (vp_in (gI σ0 o 7) 900) ∧ (((gI σ0 (o + 1) (gI σ0 o 7).toNatClampNeg) = 60 → (oj_X6_signToken_50 o (pI (pI σ0 o 9 (gI σ0 (o + 1) (gI σ0 o 7).toNatClampNeg)) o 7 ((gI σ0 o 7) + 1)))) ∧ (¬ (gI σ0 (o + 1) (gI σ0 o 7).toNatClampNeg) = 60 → (((gI σ0 (o + 1) (gI σ0 o 7).toNatClampNeg) = 62 → (oj_X6_signToken_50 o (pI (pI σ0 o 9 (gI σ0 (o + 1) (gI σ0 o 7).toNatClampNeg)) o 7 ((gI σ0 o 7) + 1)))) ∧ (¬ (gI σ0 (o + 1) (gI σ0 o 7).toNatClampNeg) = 62 → (((gI σ0 (o + 1) (gI σ0 o 7).toNatClampNeg) = 61 → (oj_X6_signToken_50 o (pI (pI σ0 o 9 (gI σ0 (o + 1) (gI σ0 o 7).toNatClampNeg)) o 7 ((gI σ0 o 7) + 1)))) ∧ (¬ (gI σ0 (o + 1) (gI σ0 o 7).toNatClampNeg) = 61 → True))))))
theorem xj_X6_signToken_135 (o : Nat) (σ0 : Hp) (G : XE) (hB0 : MB o σ0) (σ : Hp) (x2 : Int32) (x3 : Int32)  (hs : SH σ0 σ) (V : Hp) (hv : V = fj_X6_signToken_135 o σ x2 x3) (rq : RQ G 0 0 (oV (fun σ' => SH σ0 σ' ∧ σ' = V)))  : X G rm_X6_signToken cX6_signToken RX6 4 none σ 0 0 135 [(0, .ref o), (2, .int x2), (3, .int x3)] [] := by
  have hB := hB0.sh hs
  unfold fj_X6_signToken_135 at hv
  refine x_aload_n dX6_signToken_135 (n := 136) rfl rfl 0 rfl ?_
  refine x_iconst dX6_signToken_136 (n := 137) rfl ic_5 ?_
  refine x_puti fp_X6_139_0 rfl hB.1 dX6_signToken_137 (n := 140) rfl ?_
  refine x_aload_n dX6_signToken_140 (n := 141) rfl rfl 0 rfl ?_
  refine x_aload_n dX6_signToken_141 (n := 142) rfl rfl 0 rfl ?_
  refine x_geti fl_X6_150_0 rfl hB.i.1 (gIn (by decide)) dX6_signToken_142 (n := 145) rfl ?_
  refine x_bipush dX6_signToken_145 (n := 147) rfl bp_61 ?_
  refine x_icmp_ne (tgt := 154) dX6_signToken_147 rfl (n := 150) rfl (fun c7 => ?_) (fun c7 => ?_)
  · have hv := hv.trans (if_neg c7)
    refine x_aload_n dX6_signToken_154 (n := 155) rfl rfl 0 rfl ?_
    refine x_geti fl_X6_150_0 rfl hB.i.1 (gIn (by decide)) dX6_signToken_155 (n := 158) rfl ?_
    refine x_bipush dX6_signToken_158 (n := 160) rfl bp_60 ?_
    refine x_icmp_ne (tgt := 183) dX6_signToken_160 rfl (n := 163) rfl (fun c8 => ?_) (fun c8 => ?_)
    · have hv := hv.trans (if_neg c8)
      refine x_iload_n dX6_signToken_183 (n := 184) rfl rfl 1 rfl ?_
      refine x_if_eq (tgt := 191) dX6_signToken_184 rfl (n := 187) rfl (fun c9 => ?_) (fun c9 => ?_)
      · have hv := hv.trans (if_pos c9)
        refine x_iconst dX6_signToken_191 (n := 192) rfl ic_5 ?_
        refine x_puti fp_X6_150_0 rfl hB.i.1 dX6_signToken_192 (n := 195) rfl ?_
        refine x_goto (tgt := 290) dX6_signToken_195 rfl ?_
        exact x_vret rq ⟨hs.i.i, hv.symm⟩ dX6_signToken_290
      · have hv := hv.trans (if_neg c9)
        refine x_iconst dX6_signToken_187 (n := 188) rfl ic_4 ?_
        refine x_goto (tgt := 192) dX6_signToken_188 rfl ?_
        refine x_puti fp_X6_150_0 rfl hB.i.1 dX6_signToken_192 (n := 195) rfl ?_
        refine x_goto (tgt := 290) dX6_signToken_195 rfl ?_
        exact x_vret rq ⟨hs.i.i, hv.symm⟩ dX6_signToken_290
    · have hv := hv.trans (if_pos c8)
      refine x_iload_n dX6_signToken_163 (n := 164) rfl rfl 1 rfl ?_
      refine x_if_eq (tgt := 171) dX6_signToken_164 rfl (n := 167) rfl (fun c10 => ?_) (fun c10 => ?_)
      · have hv := hv.trans (if_pos c10)
        refine x_iload_n dX6_signToken_171 (n := 172) rfl rfl 2 rfl ?_
        refine x_if_eq (tgt := 179) dX6_signToken_172 rfl (n := 175) rfl (fun c11 => ?_) (fun c11 => ?_)
        · have hv := hv.trans (if_pos c11)
          refine x_iconst dX6_signToken_179 (n := 180) rfl ic_0 ?_
          refine x_goto (tgt := 192) dX6_signToken_180 rfl ?_
          refine x_puti fp_X6_150_0 rfl hB.i.1 dX6_signToken_192 (n := 195) rfl ?_
          refine x_goto (tgt := 290) dX6_signToken_195 rfl ?_
          exact x_vret rq ⟨hs.i.i, hv.symm⟩ dX6_signToken_290
        · have hv := hv.trans (if_neg c11)
          refine x_iconst dX6_signToken_175 (n := 176) rfl ic_3 ?_
          refine x_goto (tgt := 192) dX6_signToken_176 rfl ?_
          refine x_puti fp_X6_150_0 rfl hB.i.1 dX6_signToken_192 (n := 195) rfl ?_
          refine x_goto (tgt := 290) dX6_signToken_195 rfl ?_
          exact x_vret rq ⟨hs.i.i, hv.symm⟩ dX6_signToken_290
      · have hv := hv.trans (if_neg c10)
        refine x_iconst dX6_signToken_167 (n := 168) rfl ic_1 ?_
        refine x_goto (tgt := 192) dX6_signToken_168 rfl ?_
        refine x_puti fp_X6_150_0 rfl hB.i.1 dX6_signToken_192 (n := 195) rfl ?_
        refine x_goto (tgt := 290) dX6_signToken_195 rfl ?_
        exact x_vret rq ⟨hs.i.i, hv.symm⟩ dX6_signToken_290
  · have hv := hv.trans (if_pos c7)
    refine x_iconst dX6_signToken_150 (n := 151) rfl ic_2 ?_
    refine x_goto (tgt := 192) dX6_signToken_151 rfl ?_
    refine x_puti fp_X6_150_0 rfl hB.i.1 dX6_signToken_192 (n := 195) rfl ?_
    refine x_goto (tgt := 290) dX6_signToken_195 rfl ?_
    exact x_vret rq ⟨hs.i.i, hv.symm⟩ dX6_signToken_290
theorem xj_X6_signToken_125 (o : Nat) (σ0 : Hp) (G : XE) (hB0 : MB o σ0) (σ : Hp) (x2 : Int32) (x3 : Int32)  (hs : SH σ0 σ) (V : Hp) (hv : V = fj_X6_signToken_125 o σ x2 x3) (rq : RQ G 0 0 (oV (fun σ' => SH σ0 σ' ∧ σ' = V)))  : X G rm_X6_signToken cX6_signToken RX6 4 none σ 0 0 125 [(0, .ref o), (2, .int x2), (3, .int x3)] [] := by
  have hB := hB0.sh hs
  unfold fj_X6_signToken_125 at hv
  refine x_aload_n dX6_signToken_125 (n := 126) rfl rfl 0 rfl ?_
  refine x_dup dX6_signToken_126 (n := 127) rfl rfl ?_
  refine x_geti fl_X6_136_0 rfl hB.1 rfl dX6_signToken_127 (n := 130) rfl ?_
  refine x_iconst dX6_signToken_130 (n := 131) rfl ic_1 ?_
  refine x_iadd dX6_signToken_131 (n := 132) rfl ?_
  refine x_puti fp_X6_136_0 rfl hB.1 dX6_signToken_132 (n := 135) rfl ?_
  exact x_sub [0, 1, 2] rfl (xj_X6_signToken_135 o σ0 G hB0 (pI σ o 7 ((gI σ o 7) + 1)) x2 x3 hs.i _ hv rq)
theorem xj_X6_signToken_116 (o : Nat) (σ0 : Hp) (G : XE) (hB0 : MB o σ0) (σ : Hp) (x2 : Int32) (w0 : Int32)  (hs : SH σ0 σ) (V : Hp) (hv : V = fj_X6_signToken_116 o σ x2 w0) (rq : RQ G 0 0 (oV (fun σ' => SH σ0 σ' ∧ σ' = V)))  : X G rm_X6_signToken cX6_signToken RX6 4 none σ 0 0 116 [(0, .ref o), (2, .int x2)] [.int w0] := by
  have hB := hB0.sh hs
  unfold fj_X6_signToken_116 at hv
  refine x_istore_n (lvs' := [(3, .int w0), (0, .ref o), (2, .int x2)]) dX6_signToken_116 (n := 117) rfl rfl (by decide) rfl ?_
  refine x_iload_n dX6_signToken_117 (n := 118) rfl rfl 2 rfl ?_
  refine x_if_ne (tgt := 125) dX6_signToken_118 rfl (n := 121) rfl (fun c6 => ?_) (fun c6 => ?_)
  · have hv := hv.trans (if_neg c6)
    exact x_sub [1, 2, 0] rfl (xj_X6_signToken_125 o σ0 G hB0 σ x2 w0 hs _ hv rq)
  · have hv := hv.trans (if_pos c6)
    refine x_iload_n dX6_signToken_121 (n := 122) rfl rfl 0 rfl ?_
    refine x_if_eq (tgt := 135) dX6_signToken_122 rfl (n := 125) rfl (fun c12 => ?_) (fun c12 => ?_)
    · have hv := hv.trans (if_pos c12)
      exact x_sub [1, 2, 0] rfl (xj_X6_signToken_135 o σ0 G hB0 σ x2 w0 hs _ hv rq)
    · have hv := hv.trans (if_neg c12)
      exact x_sub [1, 2, 0] rfl (xj_X6_signToken_125 o σ0 G hB0 σ x2 w0 hs _ hv rq)
theorem xj_X6_signToken_115 (o : Nat) (σ0 : Hp) (G : XE) (hB0 : MB o σ0) (σ : Hp) (x2 : Int32)  (hs : SH σ0 σ) (V : Hp) (hv : V = fj_X6_signToken_115 o σ x2) (rq : RQ G 0 0 (oV (fun σ' => SH σ0 σ' ∧ σ' = V)))  : X G rm_X6_signToken cX6_signToken RX6 4 none σ 0 0 115 [(0, .ref o), (2, .int x2)] [] := by
  have hB := hB0.sh hs
  unfold fj_X6_signToken_115 at hv
  refine x_iconst dX6_signToken_115 (n := 116) rfl ic_0 ?_
  exact x_sub [0, 1] rfl (xj_X6_signToken_116 o σ0 G hB0 σ x2 0 hs _ hv rq)
theorem xj_X6_signToken_95 (o : Nat) (σ0 : Hp) (G : XE) (hB0 : MB o σ0) (σ : Hp) (x1 : Int32) (w0 : Int32)  (hs : SH σ0 σ) (V : Hp) (hv : V = fj_X6_signToken_95 o σ x1 w0) (rq : RQ G 0 0 (oV (fun σ' => SH σ0 σ' ∧ σ' = V)))  : X G rm_X6_signToken cX6_signToken RX6 4 none σ 0 0 95 [(0, .ref o), (1, .int x1)] [.int w0] := by
  have hB := hB0.sh hs
  unfold fj_X6_signToken_95 at hv
  refine x_istore_n (lvs' := [(2, .int w0), (0, .ref o), (1, .int x1)]) dX6_signToken_95 (n := 96) rfl rfl (by decide) rfl ?_
  refine x_aload_n dX6_signToken_96 (n := 97) rfl rfl 1 rfl ?_
  refine x_geti fl_X6_150_0 rfl hB.1 rfl dX6_signToken_97 (n := 100) rfl ?_
  refine x_bipush dX6_signToken_100 (n := 102) rfl bp_60 ?_
  refine x_icmp_ne (tgt := 115) dX6_signToken_102 rfl (n := 105) rfl (fun c5 => ?_) (fun c5 => ?_)
  · have hv := hv.trans (if_neg c5)
    exact x_sub [1, 0] rfl (xj_X6_signToken_115 o σ0 G hB0 σ w0 hs _ hv rq)
  · have hv := hv.trans (if_pos c5)
    refine x_iload_n dX6_signToken_105 (n := 106) rfl rfl 2 rfl ?_
    refine x_bipush dX6_signToken_106 (n := 108) rfl bp_62 ?_
    refine x_icmp_ne (tgt := 115) dX6_signToken_108 rfl (n := 111) rfl (fun c13 => ?_) (fun c13 => ?_)
    · have hv := hv.trans (if_neg c13)
      exact x_sub [1, 0] rfl (xj_X6_signToken_115 o σ0 G hB0 σ w0 hs _ hv rq)
    · have hv := hv.trans (if_pos c13)
      refine x_iconst dX6_signToken_111 (n := 112) rfl ic_1 ?_
      refine x_goto (tgt := 116) dX6_signToken_112 rfl ?_
      exact x_sub [1, 0] rfl (xj_X6_signToken_116 o σ0 G hB0 σ w0 1 hs _ hv rq)
theorem xj_X6_signToken_94 (o : Nat) (σ0 : Hp) (G : XE) (hB0 : MB o σ0) (σ : Hp) (x1 : Int32)  (hs : SH σ0 σ) (V : Hp) (hv : V = fj_X6_signToken_94 o σ x1) (rq : RQ G 0 0 (oV (fun σ' => SH σ0 σ' ∧ σ' = V)))  : X G rm_X6_signToken cX6_signToken RX6 4 none σ 0 0 94 [(0, .ref o), (1, .int x1)] [] := by
  have hB := hB0.sh hs
  unfold fj_X6_signToken_94 at hv
  refine x_iconst dX6_signToken_94 (n := 95) rfl ic_0 ?_
  exact x_sub [0, 1] rfl (xj_X6_signToken_95 o σ0 G hB0 σ x1 0 hs _ hv rq)
theorem xj_X6_signToken_74 (o : Nat) (σ0 : Hp) (G : XE) (hB0 : MB o σ0) (σ : Hp) (w0 : Int32)  (hs : SH σ0 σ) (V : Hp) (hv : V = fj_X6_signToken_74 o σ w0) (rq : RQ G 0 0 (oV (fun σ' => SH σ0 σ' ∧ σ' = V)))  : X G rm_X6_signToken cX6_signToken RX6 4 none σ 0 0 74 [(0, .ref o)] [.int w0] := by
  have hB := hB0.sh hs
  unfold fj_X6_signToken_74 at hv
  refine x_istore_n (lvs' := [(1, .int w0), (0, .ref o)]) dX6_signToken_74 (n := 75) rfl rfl (by decide) rfl ?_
  refine x_aload_n dX6_signToken_75 (n := 76) rfl rfl 1 rfl ?_
  refine x_geti fl_X6_150_0 rfl hB.1 rfl dX6_signToken_76 (n := 79) rfl ?_
  refine x_bipush dX6_signToken_79 (n := 81) rfl bp_61 ?_
  refine x_icmp_eq (tgt := 94) dX6_signToken_81 rfl (n := 84) rfl (fun c4 => ?_) (fun c4 => ?_)
  · have hv := hv.trans (if_pos c4)
    exact x_sub [1, 0] rfl (xj_X6_signToken_94 o σ0 G hB0 σ w0 hs _ hv rq)
  · have hv := hv.trans (if_neg c4)
    refine x_iload_n dX6_signToken_84 (n := 85) rfl rfl 0 rfl ?_
    refine x_bipush dX6_signToken_85 (n := 87) rfl bp_61 ?_
    refine x_icmp_ne (tgt := 94) dX6_signToken_87 rfl (n := 90) rfl (fun c14 => ?_) (fun c14 => ?_)
    · have hv := hv.trans (if_neg c14)
      exact x_sub [1, 0] rfl (xj_X6_signToken_94 o σ0 G hB0 σ w0 hs _ hv rq)
    · have hv := hv.trans (if_pos c14)
      refine x_iconst dX6_signToken_90 (n := 91) rfl ic_1 ?_
      refine x_goto (tgt := 95) dX6_signToken_91 rfl ?_
      exact x_sub [1, 0] rfl (xj_X6_signToken_95 o σ0 G hB0 σ w0 1 hs _ hv rq)
theorem xj_X6_signToken_50 (o : Nat) (σ0 : Hp) (G : XE) (hB0 : MB o σ0) (σ : Hp)   (hs : SH σ0 σ) (V : Hp) (hv : V = fj_X6_signToken_50 o σ) (rq : RQ G 0 0 (oV (fun σ' => SH σ0 σ' ∧ σ' = V))) (hk : oj_X6_signToken_50 o σ) : X G rm_X6_signToken cX6_signToken RX6 4 none σ 0 0 50 [(0, .ref o)] [] := by
  have hB := hB0.sh hs
  unfold fj_X6_signToken_50 at hv
  unfold oj_X6_signToken_50 at hk
  refine x_aload_n dX6_signToken_50 (n := 51) rfl rfl 0 rfl ?_
  refine x_geti fl_X6_136_0 rfl hB.1 rfl dX6_signToken_51 (n := 54) rfl ?_
  refine x_aload_n dX6_signToken_54 (n := 55) rfl rfl 0 rfl ?_
  refine x_geti fl_X6_133_0 rfl hB.1 rfl dX6_signToken_55 (n := 58) rfl ?_
  refine x_icmp_ge (tgt := 73) dX6_signToken_58 rfl (n := 61) rfl (fun c3 => ?_) (fun c3 => ?_)
  · have hk := hk.1 c3
    have hv := hv.trans (if_pos c3)
    refine x_iconst dX6_signToken_73 (n := 74) rfl ic_0 ?_
    exact x_sub [0] rfl (xj_X6_signToken_74 o σ0 G hB0 σ 0 hs _ hv rq)
  · have hk := hk.2 c3
    have hv := hv.trans (if_neg c3)
    refine x_aload_n dX6_signToken_61 (n := 62) rfl rfl 0 rfl ?_
    refine x_getr fl_X6_7_0 rfl hB.1 hB.r0 dX6_signToken_62 (n := 65) rfl ?_
    refine x_aload_n dX6_signToken_65 (n := 66) rfl rfl 0 rfl ?_
    refine x_geti fl_X6_136_0 rfl hB.1 rfl dX6_signToken_66 (n := 69) rfl ?_
    have b15 := hk
    refine x_iald hB.a0 b15 rfl dX6_signToken_69 (n := 70) rfl ?_
    refine x_goto (tgt := 74) dX6_signToken_70 rfl ?_
    exact x_sub [0] rfl (xj_X6_signToken_74 o σ0 G hB0 σ (gI σ (o + 1) (gI σ o 7).toNatClampNeg) hs _ hv rq)
theorem xj_X6_signToken_275 (o : Nat) (σ0 : Hp) (G : XE) (hB0 : MB o σ0) (σ : Hp) (w0 : Int32)  (hs : SH σ0 σ) (V : Hp) (hv : V = fj_X6_signToken_275 o σ w0) (rq : RQ G 0 0 (oV (fun σ' => SH σ0 σ' ∧ σ' = V)))  : X G rm_X6_signToken cX6_signToken RX6 4 none σ 0 0 275 [(0, .ref o)] [.int w0] := by
  have hB := hB0.sh hs
  unfold fj_X6_signToken_275 at hv
  refine x_istore_n (lvs' := [(1, .int w0), (0, .ref o)]) dX6_signToken_275 (n := 276) rfl rfl (by decide) rfl ?_
  refine x_aload_n dX6_signToken_276 (n := 277) rfl rfl 1 rfl ?_
  refine x_iload_n dX6_signToken_277 (n := 278) rfl rfl 0 rfl ?_
  refine x_if_eq (tgt := 285) dX6_signToken_278 rfl (n := 281) rfl (fun c19 => ?_) (fun c19 => ?_)
  · have hv := hv.trans (if_pos c19)
    refine x_bipush dX6_signToken_285 (n := 287) rfl bp_6 ?_
    refine x_puti fp_X6_139_0 rfl hB.1 dX6_signToken_287 (n := 290) rfl ?_
    exact x_vret rq ⟨hs.i, hv.symm⟩ dX6_signToken_290
  · have hv := hv.trans (if_neg c19)
    refine x_iconst dX6_signToken_281 (n := 282) rfl ic_4 ?_
    refine x_goto (tgt := 287) dX6_signToken_282 rfl ?_
    refine x_puti fp_X6_139_0 rfl hB.1 dX6_signToken_287 (n := 290) rfl ?_
    exact x_vret rq ⟨hs.i, hv.symm⟩ dX6_signToken_290
theorem xj_X6_signToken_270 (o : Nat) (σ0 : Hp) (G : XE) (hB0 : MB o σ0) (σ : Hp)   (hs : SH σ0 σ) (V : Hp) (hv : V = fj_X6_signToken_270 o σ) (rq : RQ G 0 0 (oV (fun σ' => SH σ0 σ' ∧ σ' = V)))  : X G rm_X6_signToken cX6_signToken RX6 4 none σ 0 0 270 [(0, .ref o)] [] := by
  have hB := hB0.sh hs
  unfold fj_X6_signToken_270 at hv
  refine x_iconst dX6_signToken_270 (n := 271) rfl ic_1 ?_
  refine x_goto (tgt := 275) dX6_signToken_271 rfl ?_
  exact x_sub [0] rfl (xj_X6_signToken_275 o σ0 G hB0 σ 1 hs _ hv rq)
theorem met_X6_signToken (o : Nat) (σ0 : Hp) (hB0 : MB o σ0) (hk : ok_X6_signToken o σ0) : MetX yX6_signToken cX6_signToken 4 none rm_X6_signToken σ0 [.ref o] (oV (fun σ' => SH σ0 σ' ∧ σ' = (f_X6_signToken o σ0))) 0 0 := by
  refine metX_of (own := RX6) (lvs := [(0, .ref o)]) (by decide) rfl (Nat.le_of_ble_eq_true rfl) rfl (fun G rq => ?_)
  have hv : (f_X6_signToken o σ0) = _ := f_X6_signToken.eq_1 _ _
  unfold ok_X6_signToken at hk
  refine x_aload_n dX6_signToken_0 (n := 1) rfl rfl 0 rfl ?_
  refine x_aload_n dX6_signToken_1 (n := 2) rfl rfl 0 rfl ?_
  refine x_getr fl_X6_7_0 rfl hB0.1 hB0.r0 dX6_signToken_2 (n := 5) rfl ?_
  refine x_aload_n dX6_signToken_5 (n := 6) rfl rfl 0 rfl ?_
  refine x_geti fl_X6_136_0 rfl hB0.1 rfl dX6_signToken_6 (n := 9) rfl ?_
  obtain ⟨b1, hk⟩ := hk
  refine x_iald hB0.a0 b1 rfl dX6_signToken_9 (n := 10) rfl ?_
  refine x_puti fp_X6_150_0 rfl hB0.1 dX6_signToken_10 (n := 13) rfl ?_
  refine x_aload_n dX6_signToken_13 (n := 14) rfl rfl 0 rfl ?_
  refine x_dup dX6_signToken_14 (n := 15) rfl rfl ?_
  refine x_geti fl_X6_136_0 rfl hB0.i.1 (gIn (by decide)) dX6_signToken_15 (n := 18) rfl ?_
  refine x_iconst dX6_signToken_18 (n := 19) rfl ic_1 ?_
  refine x_iadd dX6_signToken_19 (n := 20) rfl ?_
  refine x_puti fp_X6_136_0 rfl hB0.i.1 dX6_signToken_20 (n := 23) rfl ?_
  refine x_aload_n dX6_signToken_23 (n := 24) rfl rfl 0 rfl ?_
  refine x_geti fl_X6_150_0 rfl hB0.i.i.1 ((gIn (by decide)).trans (gIs)) dX6_signToken_24 (n := 27) rfl ?_
  refine x_bipush dX6_signToken_27 (n := 29) rfl bp_60 ?_
  refine x_icmp_eq (tgt := 50) dX6_signToken_29 rfl (n := 32) rfl (fun c2 => ?_) (fun c2 => ?_)
  · have hk := hk.1 c2
    have hv := hv.trans (if_pos c2)
    exact x_sub [0] rfl (xj_X6_signToken_50 o σ0 G hB0 (pI (pI σ0 o 9 (gI σ0 (o + 1) (gI σ0 o 7).toNatClampNeg)) o 7 ((gI σ0 o 7) + 1)) (SH.rf (σ := σ0)).i.i _ hv rq hk)
  · have hk := hk.2 c2
    have hv := hv.trans (if_neg c2)
    refine x_aload_n dX6_signToken_32 (n := 33) rfl rfl 0 rfl ?_
    refine x_geti fl_X6_150_0 rfl hB0.i.i.1 ((gIn (by decide)).trans (gIs)) dX6_signToken_33 (n := 36) rfl ?_
    refine x_bipush dX6_signToken_36 (n := 38) rfl bp_62 ?_
    refine x_icmp_eq (tgt := 50) dX6_signToken_38 rfl (n := 41) rfl (fun c16 => ?_) (fun c16 => ?_)
    · have hk := hk.1 c16
      have hv := hv.trans (if_pos c16)
      exact x_sub [0] rfl (xj_X6_signToken_50 o σ0 G hB0 (pI (pI σ0 o 9 (gI σ0 (o + 1) (gI σ0 o 7).toNatClampNeg)) o 7 ((gI σ0 o 7) + 1)) (SH.rf (σ := σ0)).i.i _ hv rq hk)
    · have hk := hk.2 c16
      have hv := hv.trans (if_neg c16)
      refine x_aload_n dX6_signToken_41 (n := 42) rfl rfl 0 rfl ?_
      refine x_geti fl_X6_150_0 rfl hB0.i.i.1 ((gIn (by decide)).trans (gIs)) dX6_signToken_42 (n := 45) rfl ?_
      refine x_bipush dX6_signToken_45 (n := 47) rfl bp_61 ?_
      refine x_icmp_ne (tgt := 198) dX6_signToken_47 rfl (n := 50) rfl (fun c17 => ?_) (fun c17 => ?_)
      · have hk := hk.2 c17
        have hv := hv.trans (if_neg c17)
        refine x_aload_n dX6_signToken_198 (n := 199) rfl rfl 0 rfl ?_
        refine x_geti fl_X6_150_0 rfl hB0.i.i.1 ((gIn (by decide)).trans (gIs)) dX6_signToken_199 (n := 202) rfl ?_
        refine x_bipush dX6_signToken_202 (n := 204) rfl bp_59 ?_
        refine x_icmp_eq (tgt := 270) dX6_signToken_204 rfl (n := 207) rfl (fun c18 => ?_) (fun c18 => ?_)
        · have hv := hv.trans (if_pos c18)
          exact x_sub [0] rfl (xj_X6_signToken_270 o σ0 G hB0 (pI (pI σ0 o 9 (gI σ0 (o + 1) (gI σ0 o 7).toNatClampNeg)) o 7 ((gI σ0 o 7) + 1)) (SH.rf (σ := σ0)).i.i _ hv rq)
        · have hv := hv.trans (if_neg c18)
          refine x_aload_n dX6_signToken_207 (n := 208) rfl rfl 0 rfl ?_
          refine x_geti fl_X6_150_0 rfl hB0.i.i.1 ((gIn (by decide)).trans (gIs)) dX6_signToken_208 (n := 211) rfl ?_
          refine x_bipush dX6_signToken_211 (n := 213) rfl bp_40 ?_
          refine x_icmp_eq (tgt := 270) dX6_signToken_213 rfl (n := 216) rfl (fun c20 => ?_) (fun c20 => ?_)
          · have hv := hv.trans (if_pos c20)
            exact x_sub [0] rfl (xj_X6_signToken_270 o σ0 G hB0 (pI (pI σ0 o 9 (gI σ0 (o + 1) (gI σ0 o 7).toNatClampNeg)) o 7 ((gI σ0 o 7) + 1)) (SH.rf (σ := σ0)).i.i _ hv rq)
          · have hv := hv.trans (if_neg c20)
            refine x_aload_n dX6_signToken_216 (n := 217) rfl rfl 0 rfl ?_
            refine x_geti fl_X6_150_0 rfl hB0.i.i.1 ((gIn (by decide)).trans (gIs)) dX6_signToken_217 (n := 220) rfl ?_
            refine x_bipush dX6_signToken_220 (n := 222) rfl bp_41 ?_
            refine x_icmp_eq (tgt := 270) dX6_signToken_222 rfl (n := 225) rfl (fun c21 => ?_) (fun c21 => ?_)
            · have hv := hv.trans (if_pos c21)
              exact x_sub [0] rfl (xj_X6_signToken_270 o σ0 G hB0 (pI (pI σ0 o 9 (gI σ0 (o + 1) (gI σ0 o 7).toNatClampNeg)) o 7 ((gI σ0 o 7) + 1)) (SH.rf (σ := σ0)).i.i _ hv rq)
            · have hv := hv.trans (if_neg c21)
              refine x_aload_n dX6_signToken_225 (n := 226) rfl rfl 0 rfl ?_
              refine x_geti fl_X6_150_0 rfl hB0.i.i.1 ((gIn (by decide)).trans (gIs)) dX6_signToken_226 (n := 229) rfl ?_
              refine x_bipush dX6_signToken_229 (n := 231) rfl bp_43 ?_
              refine x_icmp_eq (tgt := 270) dX6_signToken_231 rfl (n := 234) rfl (fun c22 => ?_) (fun c22 => ?_)
              · have hv := hv.trans (if_pos c22)
                exact x_sub [0] rfl (xj_X6_signToken_270 o σ0 G hB0 (pI (pI σ0 o 9 (gI σ0 (o + 1) (gI σ0 o 7).toNatClampNeg)) o 7 ((gI σ0 o 7) + 1)) (SH.rf (σ := σ0)).i.i _ hv rq)
              · have hv := hv.trans (if_neg c22)
                refine x_aload_n dX6_signToken_234 (n := 235) rfl rfl 0 rfl ?_
                refine x_geti fl_X6_150_0 rfl hB0.i.i.1 ((gIn (by decide)).trans (gIs)) dX6_signToken_235 (n := 238) rfl ?_
                refine x_bipush dX6_signToken_238 (n := 240) rfl bp_45 ?_
                refine x_icmp_eq (tgt := 270) dX6_signToken_240 rfl (n := 243) rfl (fun c23 => ?_) (fun c23 => ?_)
                · have hv := hv.trans (if_pos c23)
                  exact x_sub [0] rfl (xj_X6_signToken_270 o σ0 G hB0 (pI (pI σ0 o 9 (gI σ0 (o + 1) (gI σ0 o 7).toNatClampNeg)) o 7 ((gI σ0 o 7) + 1)) (SH.rf (σ := σ0)).i.i _ hv rq)
                · have hv := hv.trans (if_neg c23)
                  refine x_aload_n dX6_signToken_243 (n := 244) rfl rfl 0 rfl ?_
                  refine x_geti fl_X6_150_0 rfl hB0.i.i.1 ((gIn (by decide)).trans (gIs)) dX6_signToken_244 (n := 247) rfl ?_
                  refine x_bipush dX6_signToken_247 (n := 249) rfl bp_42 ?_
                  refine x_icmp_eq (tgt := 270) dX6_signToken_249 rfl (n := 252) rfl (fun c24 => ?_) (fun c24 => ?_)
                  · have hv := hv.trans (if_pos c24)
                    exact x_sub [0] rfl (xj_X6_signToken_270 o σ0 G hB0 (pI (pI σ0 o 9 (gI σ0 (o + 1) (gI σ0 o 7).toNatClampNeg)) o 7 ((gI σ0 o 7) + 1)) (SH.rf (σ := σ0)).i.i _ hv rq)
                  · have hv := hv.trans (if_neg c24)
                    refine x_aload_n dX6_signToken_252 (n := 253) rfl rfl 0 rfl ?_
                    refine x_geti fl_X6_150_0 rfl hB0.i.i.1 ((gIn (by decide)).trans (gIs)) dX6_signToken_253 (n := 256) rfl ?_
                    refine x_bipush dX6_signToken_256 (n := 258) rfl bp_47 ?_
                    refine x_icmp_eq (tgt := 270) dX6_signToken_258 rfl (n := 261) rfl (fun c25 => ?_) (fun c25 => ?_)
                    · have hv := hv.trans (if_pos c25)
                      exact x_sub [0] rfl (xj_X6_signToken_270 o σ0 G hB0 (pI (pI σ0 o 9 (gI σ0 (o + 1) (gI σ0 o 7).toNatClampNeg)) o 7 ((gI σ0 o 7) + 1)) (SH.rf (σ := σ0)).i.i _ hv rq)
                    · have hv := hv.trans (if_neg c25)
                      refine x_aload_n dX6_signToken_261 (n := 262) rfl rfl 0 rfl ?_
                      refine x_geti fl_X6_150_0 rfl hB0.i.i.1 ((gIn (by decide)).trans (gIs)) dX6_signToken_262 (n := 265) rfl ?_
                      refine x_bipush dX6_signToken_265 (n := 267) rfl bp_37 ?_
                      refine x_icmp_ne (tgt := 274) dX6_signToken_267 rfl (n := 270) rfl (fun c26 => ?_) (fun c26 => ?_)
                      · have hv := hv.trans (if_neg c26)
                        refine x_iconst dX6_signToken_274 (n := 275) rfl ic_0 ?_
                        exact x_sub [0] rfl (xj_X6_signToken_275 o σ0 G hB0 (pI (pI σ0 o 9 (gI σ0 (o + 1) (gI σ0 o 7).toNatClampNeg)) o 7 ((gI σ0 o 7) + 1)) 0 (SH.rf (σ := σ0)).i.i _ hv rq)
                      · have hv := hv.trans (if_pos c26)
                        exact x_sub [0] rfl (xj_X6_signToken_270 o σ0 G hB0 (pI (pI σ0 o 9 (gI σ0 (o + 1) (gI σ0 o 7).toNatClampNeg)) o 7 ((gI σ0 o 7) + 1)) (SH.rf (σ := σ0)).i.i _ hv rq)
      · have hk := hk.1 c17
        have hv := hv.trans (if_pos c17)
        exact x_sub [0] rfl (xj_X6_signToken_50 o σ0 G hB0 (pI (pI σ0 o 9 (gI σ0 (o + 1) (gI σ0 o 7).toNatClampNeg)) o 7 ((gI σ0 o 7) + 1)) (SH.rf (σ := σ0)).i.i _ hv rq hk)
abbrev rm_X6_wordAt : Room := { frames := 0, cells := 0, slots := 0, locals := 0 }
def wj_X6_wordAt_104 (o : Nat) (σ : Hp)  (x1 : Int32) (x2 : Int32) (x3 : Int32) (x4 : Int32) (x5 : Int32) (x6 : Int32) (Q : Int32 → Prop) (K5 : (Int32 × Int32) → Prop) : Prop := (x6 = 0 → K5 (x3 + 1, x4 + (x5 + 1))) ∧ (¬ x6 = 0 → Q x3)
def lb_X6_wordAt_57 (o : Nat) (σ : Hp) (x1 : Int32) (x2 : Int32) (x3 : Int32) (x4 : Int32) (x5 : Int32) (Q : Int32 → Prop) (K5 : (Int32 × Int32) → Prop) (K57 : Int32 × Int32 → Prop) (z : Int32 × Int32) : Prop := match z with
  | (x6, x7) => (x5 ≤ x7 → wj_X6_wordAt_104 o σ x1 x2 x3 x4 x5 x6 Q K5) ∧ (¬ x5 ≤ x7 → (x6 = 0 → wj_X6_wordAt_104 o σ x1 x2 x3 x4 x5 x6 Q K5) ∧ (¬ x6 = 0 → (vp_in (x4 + x7) 118) ∧ ((vp_in (x1 + x7) 900) ∧ (((gI σ (o + 2) (x4 + x7).toNatClampNeg) = (gI σ (o + 1) (x1 + x7).toNatClampNeg) → K57 (1, x7 + 1)) ∧ (¬ (gI σ (o + 2) (x4 + x7).toNatClampNeg) = (gI σ (o + 1) (x1 + x7).toNatClampNeg) → K57 (0, x7 + 1))))))
def lb_X6_wordAt_18 (o : Nat) (σ : Hp) (x1 : Int32) (x2 : Int32) (x3 : Int32) (x4 : Int32) (Q : Int32 → Prop) (K5 : (Int32 × Int32) → Prop) (K18 : Int32 → Prop) (x5 : Int32) : Prop := (vp_in (x4 + x5) 118) ∧ (((gI σ (o + 2) (x4 + x5).toNatClampNeg) = 32 → (x5 = (x2 - x1) → lp (lb_X6_wordAt_57 o σ x1 x2 x3 x4 x5 Q K5) (1, 0)) ∧ (¬ x5 = (x2 - x1) → lp (lb_X6_wordAt_57 o σ x1 x2 x3 x4 x5 Q K5) (0, 0))) ∧ (¬ (gI σ (o + 2) (x4 + x5).toNatClampNeg) = 32 → K18 (x5 + 1)))
def lb_X6_wordAt_5 (o : Nat) (σ : Hp) (x1 : Int32) (x2 : Int32) (Q : Int32 → Prop)  (K5 : Int32 × Int32 → Prop) (z : Int32 × Int32) : Prop := match z with
  | (x3, x4) => (118 ≤ x4 → Q (-1)) ∧ (¬ 118 ≤ x4 → lp (lb_X6_wordAt_18 o σ x1 x2 x3 x4 Q K5) 0)
def wp_X6_wordAt (o : Nat) (σ : Hp) (x1 : Int32) (x2 : Int32) (Q : Int32 → Prop) : Prop := lp (lb_X6_wordAt_5 o σ x1 x2 Q) (0, 0)
theorem xj_X6_wordAt_104 (o : Nat) (σ : Hp) (Q : Int32 → Prop) (G : XE) (hB : MB o σ) (rq : RQ G 0 0 (oI (fun r σ' => σ' = σ ∧ Q r)))  (x1 : Int32) (x2 : Int32) (x3 : Int32) (x4 : Int32) (x5 : Int32) (x6 : Int32)  (K5 : (Int32 × Int32) → Prop) (hK5 : ∀ z : (Int32 × Int32), K5 z → X G rm_X6_wordAt cX6_wordAt RX6 8 (some .int) σ 0 0 5 [(0, .ref o), (1, .int x1), (2, .int x2), (3, .int z.1), (4, .int z.2)] [])  (h : wj_X6_wordAt_104 o σ x1 x2 x3 x4 x5 x6 Q K5) : X G rm_X6_wordAt cX6_wordAt RX6 8 (some .int) σ 0 0 104 [(0, .ref o), (1, .int x1), (2, .int x2), (3, .int x3), (4, .int x4), (5, .int x5), (6, .int x6)] [] := by
  unfold wj_X6_wordAt_104 at h
  refine x_iload dX6_wordAt_104 (n := 106) rfl 6 rfl ?_
  refine x_if_eq (tgt := 111) dX6_wordAt_106 rfl (n := 109) rfl (fun c10 => ?_) (fun c10 => ?_)
  · have h := h.1 c10
    refine x_iload dX6_wordAt_111 (n := 113) rfl 4 rfl ?_
    refine x_iload dX6_wordAt_113 (n := 115) rfl 5 rfl ?_
    refine x_iconst dX6_wordAt_115 (n := 116) rfl ic_1 ?_
    refine x_iadd dX6_wordAt_116 (n := 117) rfl ?_
    refine x_iadd dX6_wordAt_117 (n := 118) rfl ?_
    refine x_istore (lvs' := [(4, .int (x4 + (x5 + 1))), (0, .ref o), (1, .int x1), (2, .int x2), (3, .int x3), (5, .int x5), (6, .int x6)]) dX6_wordAt_118 (n := 120) rfl (by decide) rfl ?_
    refine x_iinc (v := x3 + 1) (lvs' := [(3, .int (x3 + 1)), (4, .int (x4 + (x5 + 1))), (0, .ref o), (1, .int x1), (2, .int x2), (5, .int x5), (6, .int x6)]) dX6_wordAt_120 (n := 123) rfl 4 rfl rfl (by decide) rfl ?_
    refine x_goto (tgt := 5) dX6_wordAt_123 rfl ?_
    exact x_sub [2, 3, 4, 0, 1] rfl (hK5 (x3 + 1, x4 + (x5 + 1)) h)
  · have h := h.2 c10
    refine x_iload_n dX6_wordAt_109 (n := 110) rfl rfl 3 rfl ?_
    exact x_iret rq ⟨rfl, h⟩ dX6_wordAt_110
theorem xl_X6_wordAt_57 (o : Nat) (σ : Hp) (Q : Int32 → Prop) (G : XE) (hB : MB o σ) (rq : RQ G 0 0 (oI (fun r σ' => σ' = σ ∧ Q r))) (x1 : Int32) (x2 : Int32) (x3 : Int32) (x4 : Int32) (x5 : Int32)  (K5 : (Int32 × Int32) → Prop) (hK5 : ∀ z : (Int32 × Int32), K5 z → X G rm_X6_wordAt cX6_wordAt RX6 8 (some .int) σ 0 0 5 [(0, .ref o), (1, .int x1), (2, .int x2), (3, .int z.1), (4, .int z.2)] []) : ∀ z : Int32 × Int32, lp (lb_X6_wordAt_57 o σ x1 x2 x3 x4 x5 Q K5) z → X G rm_X6_wordAt cX6_wordAt RX6 8 (some .int) σ 0 0 57 [(0, .ref o), (1, .int x1), (2, .int x2), (3, .int x3), (4, .int x4), (5, .int x5), (6, .int z.1), (7, .int z.2)] [] := by
  intro z
  refine fun h => lp_X (P := fun z => X G rm_X6_wordAt cX6_wordAt RX6 8 (some .int) σ 0 0 57 [(0, .ref o), (1, .int x1), (2, .int x2), (3, .int x3), (4, .int x4), (5, .int x5), (6, .int z.1), (7, .int z.2)] []) ?_ h
  intro K57 hK57 z h
  obtain ⟨x6, x7⟩ := z
  simp only [lb_X6_wordAt_57] at h
  show X G rm_X6_wordAt cX6_wordAt RX6 8 (some .int) σ 0 0 57 [(0, .ref o), (1, .int x1), (2, .int x2), (3, .int x3), (4, .int x4), (5, .int x5), (6, .int x6), (7, .int x7)] []
  have hK57 : ∀ z : (Int32 × Int32), K57 z → X G rm_X6_wordAt cX6_wordAt RX6 8 (some .int) σ 0 0 57 [(0, .ref o), (1, .int x1), (2, .int x2), (3, .int x3), (4, .int x4), (5, .int x5), (6, .int z.1), (7, .int z.2)] [] := fun z h => hK57 z h
  refine x_iload dX6_wordAt_57 (n := 59) rfl 7 rfl ?_
  refine x_iload dX6_wordAt_59 (n := 61) rfl 5 rfl ?_
  refine x_icmp_ge (tgt := 104) dX6_wordAt_61 rfl (n := 64) rfl (fun c5 => ?_) (fun c5 => ?_)
  · have h := h.1 c5
    exact x_sub [0, 1, 2, 3, 4, 5, 6] rfl (xj_X6_wordAt_104 o σ Q G hB rq x1 x2 x3 x4 x5 x6 K5 hK5 h)
  · have h := h.2 c5
    refine x_iload dX6_wordAt_64 (n := 66) rfl 6 rfl ?_
    refine x_if_eq (tgt := 104) dX6_wordAt_66 rfl (n := 69) rfl (fun c6 => ?_) (fun c6 => ?_)
    · have h := h.1 c6
      exact x_sub [0, 1, 2, 3, 4, 5, 6] rfl (xj_X6_wordAt_104 o σ Q G hB rq x1 x2 x3 x4 x5 x6 K5 hK5 h)
    · have h := h.2 c6
      refine x_aload_n dX6_wordAt_69 (n := 70) rfl rfl 0 rfl ?_
      refine x_getr fl_X6_13_0 rfl hB.1 hB.r3 dX6_wordAt_70 (n := 73) rfl ?_
      refine x_iload dX6_wordAt_73 (n := 75) rfl 4 rfl ?_
      refine x_iload dX6_wordAt_75 (n := 77) rfl 7 rfl ?_
      refine x_iadd dX6_wordAt_77 (n := 78) rfl ?_
      obtain ⟨b7, h⟩ := h
      refine x_iald hB.a3 b7 rfl dX6_wordAt_78 (n := 79) rfl ?_
      refine x_aload_n dX6_wordAt_79 (n := 80) rfl rfl 0 rfl ?_
      refine x_getr fl_X6_7_0 rfl hB.1 hB.r0 dX6_wordAt_80 (n := 83) rfl ?_
      refine x_iload_n dX6_wordAt_83 (n := 84) rfl rfl 1 rfl ?_
      refine x_iload dX6_wordAt_84 (n := 86) rfl 7 rfl ?_
      refine x_iadd dX6_wordAt_86 (n := 87) rfl ?_
      obtain ⟨b8, h⟩ := h
      refine x_iald hB.a0 b8 rfl dX6_wordAt_87 (n := 88) rfl ?_
      refine x_icmp_ne (tgt := 95) dX6_wordAt_88 rfl (n := 91) rfl (fun c9 => ?_) (fun c9 => ?_)
      · have h := h.2 c9
        refine x_iconst dX6_wordAt_95 (n := 96) rfl ic_0 ?_
        refine x_istore (lvs' := [(6, .int 0), (0, .ref o), (1, .int x1), (2, .int x2), (3, .int x3), (4, .int x4), (5, .int x5), (7, .int x7)]) dX6_wordAt_96 (n := 98) rfl (by decide) rfl ?_
        refine x_iinc (v := x7 + 1) (lvs' := [(7, .int (x7 + 1)), (6, .int 0), (0, .ref o), (1, .int x1), (2, .int x2), (3, .int x3), (4, .int x4), (5, .int x5)]) dX6_wordAt_98 (n := 101) rfl 7 rfl rfl (by decide) rfl ?_
        refine x_goto (tgt := 57) dX6_wordAt_101 rfl ?_
        exact x_sub [2, 3, 4, 5, 6, 7, 1, 0] rfl (hK57 (0, x7 + 1) h)
      · have h := h.1 c9
        refine x_iconst dX6_wordAt_91 (n := 92) rfl ic_1 ?_
        refine x_goto (tgt := 96) dX6_wordAt_92 rfl ?_
        refine x_istore (lvs' := [(6, .int 1), (0, .ref o), (1, .int x1), (2, .int x2), (3, .int x3), (4, .int x4), (5, .int x5), (7, .int x7)]) dX6_wordAt_96 (n := 98) rfl (by decide) rfl ?_
        refine x_iinc (v := x7 + 1) (lvs' := [(7, .int (x7 + 1)), (6, .int 1), (0, .ref o), (1, .int x1), (2, .int x2), (3, .int x3), (4, .int x4), (5, .int x5)]) dX6_wordAt_98 (n := 101) rfl 7 rfl rfl (by decide) rfl ?_
        refine x_goto (tgt := 57) dX6_wordAt_101 rfl ?_
        exact x_sub [2, 3, 4, 5, 6, 7, 1, 0] rfl (hK57 (1, x7 + 1) h)
theorem xl_X6_wordAt_18 (o : Nat) (σ : Hp) (Q : Int32 → Prop) (G : XE) (hB : MB o σ) (rq : RQ G 0 0 (oI (fun r σ' => σ' = σ ∧ Q r))) (x1 : Int32) (x2 : Int32) (x3 : Int32) (x4 : Int32)  (K5 : (Int32 × Int32) → Prop) (hK5 : ∀ z : (Int32 × Int32), K5 z → X G rm_X6_wordAt cX6_wordAt RX6 8 (some .int) σ 0 0 5 [(0, .ref o), (1, .int x1), (2, .int x2), (3, .int z.1), (4, .int z.2)] []) : ∀ z : Int32, lp (lb_X6_wordAt_18 o σ x1 x2 x3 x4 Q K5) z → X G rm_X6_wordAt cX6_wordAt RX6 8 (some .int) σ 0 0 18 [(0, .ref o), (1, .int x1), (2, .int x2), (3, .int x3), (4, .int x4), (5, .int z)] [] := by
  intro z
  refine fun h => lp_X (P := fun z => X G rm_X6_wordAt cX6_wordAt RX6 8 (some .int) σ 0 0 18 [(0, .ref o), (1, .int x1), (2, .int x2), (3, .int x3), (4, .int x4), (5, .int z)] []) ?_ h
  intro K18 hK18 x5 h
  simp only [lb_X6_wordAt_18] at h
  show X G rm_X6_wordAt cX6_wordAt RX6 8 (some .int) σ 0 0 18 [(0, .ref o), (1, .int x1), (2, .int x2), (3, .int x3), (4, .int x4), (5, .int x5)] []
  have hK18 : ∀ z : (Int32), K18 z → X G rm_X6_wordAt cX6_wordAt RX6 8 (some .int) σ 0 0 18 [(0, .ref o), (1, .int x1), (2, .int x2), (3, .int x3), (4, .int x4), (5, .int z)] [] := fun z h => hK18 z h
  refine x_aload_n dX6_wordAt_18 (n := 19) rfl rfl 0 rfl ?_
  refine x_getr fl_X6_13_0 rfl hB.1 hB.r3 dX6_wordAt_19 (n := 22) rfl ?_
  refine x_iload dX6_wordAt_22 (n := 24) rfl 4 rfl ?_
  refine x_iload dX6_wordAt_24 (n := 26) rfl 5 rfl ?_
  refine x_iadd dX6_wordAt_26 (n := 27) rfl ?_
  obtain ⟨b2, h⟩ := h
  refine x_iald hB.a3 b2 rfl dX6_wordAt_27 (n := 28) rfl ?_
  refine x_bipush dX6_wordAt_28 (n := 30) rfl bp_32 ?_
  refine x_icmp_eq (tgt := 39) dX6_wordAt_30 rfl (n := 33) rfl (fun c3 => ?_) (fun c3 => ?_)
  · have h := h.1 c3
    refine x_iload dX6_wordAt_39 (n := 41) rfl 5 rfl ?_
    refine x_iload_n dX6_wordAt_41 (n := 42) rfl rfl 2 rfl ?_
    refine x_iload_n dX6_wordAt_42 (n := 43) rfl rfl 1 rfl ?_
    refine x_isub dX6_wordAt_43 (n := 44) rfl ?_
    refine x_icmp_ne (tgt := 51) dX6_wordAt_44 rfl (n := 47) rfl (fun c4 => ?_) (fun c4 => ?_)
    · have h := h.2 c4
      refine x_iconst dX6_wordAt_51 (n := 52) rfl ic_0 ?_
      refine x_istore (lvs' := [(6, .int 0), (0, .ref o), (1, .int x1), (2, .int x2), (3, .int x3), (4, .int x4), (5, .int x5)]) dX6_wordAt_52 (n := 54) rfl (by decide) rfl ?_
      refine x_iconst dX6_wordAt_54 (n := 55) rfl ic_0 ?_
      refine x_istore (lvs' := [(7, .int 0), (6, .int 0), (0, .ref o), (1, .int x1), (2, .int x2), (3, .int x3), (4, .int x4), (5, .int x5)]) dX6_wordAt_55 (n := 57) rfl (by decide) rfl ?_
      exact x_sub [2, 3, 4, 5, 6, 7, 1, 0] rfl (xl_X6_wordAt_57 o σ Q G hB rq x1 x2 x3 x4 x5 K5 hK5 (0, 0) h)
    · have h := h.1 c4
      refine x_iconst dX6_wordAt_47 (n := 48) rfl ic_1 ?_
      refine x_goto (tgt := 52) dX6_wordAt_48 rfl ?_
      refine x_istore (lvs' := [(6, .int 1), (0, .ref o), (1, .int x1), (2, .int x2), (3, .int x3), (4, .int x4), (5, .int x5)]) dX6_wordAt_52 (n := 54) rfl (by decide) rfl ?_
      refine x_iconst dX6_wordAt_54 (n := 55) rfl ic_0 ?_
      refine x_istore (lvs' := [(7, .int 0), (6, .int 1), (0, .ref o), (1, .int x1), (2, .int x2), (3, .int x3), (4, .int x4), (5, .int x5)]) dX6_wordAt_55 (n := 57) rfl (by decide) rfl ?_
      exact x_sub [2, 3, 4, 5, 6, 7, 1, 0] rfl (xl_X6_wordAt_57 o σ Q G hB rq x1 x2 x3 x4 x5 K5 hK5 (1, 0) h)
  · have h := h.2 c3
    refine x_iinc (v := x5 + 1) (lvs' := [(5, .int (x5 + 1)), (0, .ref o), (1, .int x1), (2, .int x2), (3, .int x3), (4, .int x4)]) dX6_wordAt_33 (n := 36) rfl 5 rfl rfl (by decide) rfl ?_
    refine x_goto (tgt := 18) dX6_wordAt_36 rfl ?_
    exact x_sub [1, 2, 3, 4, 5, 0] rfl (hK18 (x5 + 1) h)
theorem xl_X6_wordAt_5 (o : Nat) (σ : Hp) (Q : Int32 → Prop) (G : XE) (hB : MB o σ) (rq : RQ G 0 0 (oI (fun r σ' => σ' = σ ∧ Q r))) (x1 : Int32) (x2 : Int32)    : ∀ z : Int32 × Int32, lp (lb_X6_wordAt_5 o σ x1 x2 Q ) z → X G rm_X6_wordAt cX6_wordAt RX6 8 (some .int) σ 0 0 5 [(0, .ref o), (1, .int x1), (2, .int x2), (3, .int z.1), (4, .int z.2)] [] := by
  intro z
  refine fun h => lp_X (P := fun z => X G rm_X6_wordAt cX6_wordAt RX6 8 (some .int) σ 0 0 5 [(0, .ref o), (1, .int x1), (2, .int x2), (3, .int z.1), (4, .int z.2)] []) ?_ h
  intro K5 hK5 z h
  obtain ⟨x3, x4⟩ := z
  simp only [lb_X6_wordAt_5] at h
  show X G rm_X6_wordAt cX6_wordAt RX6 8 (some .int) σ 0 0 5 [(0, .ref o), (1, .int x1), (2, .int x2), (3, .int x3), (4, .int x4)] []
  have hK5 : ∀ z : (Int32 × Int32), K5 z → X G rm_X6_wordAt cX6_wordAt RX6 8 (some .int) σ 0 0 5 [(0, .ref o), (1, .int x1), (2, .int x2), (3, .int z.1), (4, .int z.2)] [] := fun z h => hK5 z h
  refine x_iload dX6_wordAt_5 (n := 7) rfl 4 rfl ?_
  refine x_aload_n dX6_wordAt_7 (n := 8) rfl rfl 0 rfl ?_
  refine x_getr fl_X6_13_0 rfl hB.1 hB.r3 dX6_wordAt_8 (n := 11) rfl ?_
  refine x_alen at_int hB.a3 dX6_wordAt_11 (n := 12) rfl ?_
  refine x_icmp_ge (tgt := 126) dX6_wordAt_12 rfl (n := 15) rfl (fun c1 => ?_) (fun c1 => ?_)
  · have h := h.1 c1
    refine x_iconst dX6_wordAt_126 (n := 127) rfl ic_m1 ?_
    exact x_iret rq ⟨rfl, h⟩ dX6_wordAt_127
  · have h := h.2 c1
    refine x_iconst dX6_wordAt_15 (n := 16) rfl ic_0 ?_
    refine x_istore (lvs' := [(5, .int 0), (0, .ref o), (1, .int x1), (2, .int x2), (3, .int x3), (4, .int x4)]) dX6_wordAt_16 (n := 18) rfl (by decide) rfl ?_
    exact x_sub [1, 2, 3, 4, 5, 0] rfl (xl_X6_wordAt_18 o σ Q G hB rq x1 x2 x3 x4 K5 hK5 0 h)
theorem met_X6_wordAt (o : Nat) (σ : Hp) (x1 : Int32) (x2 : Int32) (Q : Int32 → Prop) (hB : MB o σ) (h : wp_X6_wordAt o σ x1 x2 Q) : MetX yX6_wordAt cX6_wordAt 8 (some .int) rm_X6_wordAt σ [.ref o, .int x1, .int x2] (oI (fun r σ' => σ' = σ ∧ Q r)) 0 0 := by
  refine metX_of (own := RX6) (lvs := [(0, .ref o), (1, .int x1), (2, .int x2)]) (by decide) rfl (Nat.le_of_ble_eq_true rfl) rfl (fun G rq => ?_)
  unfold wp_X6_wordAt at h
  refine x_iconst dX6_wordAt_0 (n := 1) rfl ic_0 ?_
  refine x_istore_n (lvs' := [(3, .int 0), (0, .ref o), (1, .int x1), (2, .int x2)]) dX6_wordAt_1 (n := 2) rfl rfl (by decide) rfl ?_
  refine x_iconst dX6_wordAt_2 (n := 3) rfl ic_0 ?_
  refine x_istore (lvs' := [(4, .int 0), (3, .int 0), (0, .ref o), (1, .int x1), (2, .int x2)]) dX6_wordAt_3 (n := 5) rfl (by decide) rfl ?_
  exact x_sub [2, 3, 4, 1, 0] rfl (xl_X6_wordAt_5 o σ Q G hB rq x1 x2 (0, 0) h)
abbrev rm_X6_token : Room := { frames := 1, cells := 0, slots := 0, locals := 27 }
def wj_X6_token_162 (o : Nat) (σ : Hp) (w0 : Int32) (Q : Hp → Prop)  : Prop := (w0 = 2 → wp_X6_packed o (pI σ o 8 w0) (gI σ o 10) (gI σ o 7) (fun r24 => Q (pI (pI σ o 8 w0) o 9 r24))) ∧ (¬ w0 = 2 → Q (pI σ o 8 w0))
def lb_X6_token_90 (o : Nat)  (Q : Hp → Prop)  (K90 : Hp → Prop) (σ : Hp) : Prop := (ok_X6_isSmall o σ (gI σ o 7)) ∧ (((f_X6_isSmall o σ (gI σ o 7)) = 0 → wp_X6_wordAt o σ (gI σ o 10) (gI σ o 7) (fun r20 => (r20 < 0 → (((gI σ o 7) - (gI σ o 10)) ≤ 6 → wj_X6_token_162 o (pI σ o 9 r20) 2 Q) ∧ (¬ ((gI σ o 7) - (gI σ o 10)) ≤ 6 → wj_X6_token_162 o (pI σ o 9 r20) 6 Q)) ∧ (¬ r20 < 0 → wj_X6_token_162 o (pI σ o 9 r20) 1 Q))) ∧ (¬ (f_X6_isSmall o σ (gI σ o 7)) = 0 → K90 (pI σ o 7 ((gI σ o 7) + 1))))
def lb_X6_token_213 (o : Nat)  (Q : Hp → Prop)  (K213 : Hp → Prop) (σ : Hp) : Prop := (ok_X6_isDigit o σ (gI σ o 7)) ∧ (((f_X6_isDigit o σ (gI σ o 7)) = 0 → Q σ) ∧ (¬ (f_X6_isDigit o σ (gI σ o 7)) = 0 → ((gI σ o 9) ≤ 99999 → (vp_in (gI σ o 7) 900) ∧ (K213 (pI (pI σ o 9 (((10 * (gI σ o 9)) + (gI σ (o + 1) (gI σ o 7).toNatClampNeg)) - 48)) o 7 ((gI σ o 7) + 1)))) ∧ (¬ (gI σ o 9) ≤ 99999 → K213 (pI (pI σ o 9 (gI σ o 9)) o 7 ((gI σ o 7) + 1)))))
def wj_X6_token_52 (o : Nat) (σ : Hp)  (Q : Hp → Prop)  : Prop := ((gI σ o 7) = (gI σ o 6) → Q (pI (pI σ o 10 (gI σ o 7)) o 8 0)) ∧ (¬ (gI σ o 7) = (gI σ o 6) → (ok_X6_isSmall o (pI σ o 10 (gI σ o 7)) (gI σ o 7)) ∧ (((f_X6_isSmall o (pI σ o 10 (gI σ o 7)) (gI σ o 7)) = 0 → (ok_X6_isDigit o (pI σ o 10 (gI σ o 7)) (gI σ o 7)) ∧ (((f_X6_isDigit o (pI σ o 10 (gI σ o 7)) (gI σ o 7)) = 0 → (ok_X6_signToken o (pI σ o 10 (gI σ o 7))) ∧ (∀ s13 : Hp, s13 = f_X6_signToken o (pI σ o 10 (gI σ o 7)) → Q s13)) ∧ (¬ (f_X6_isDigit o (pI σ o 10 (gI σ o 7)) (gI σ o 7)) = 0 → lp (lb_X6_token_213 o Q) (pI (pI (pI σ o 10 (gI σ o 7)) o 8 3) o 9 0)))) ∧ (¬ (f_X6_isSmall o (pI σ o 10 (gI σ o 7)) (gI σ o 7)) = 0 → lp (lb_X6_token_90 o Q) (pI σ o 10 (gI σ o 7)))))
def lb_X6_token_0 (o : Nat)  (Q : Hp → Prop)  (K0 : Hp → Prop) (σ : Hp) : Prop := ((gI σ o 6) ≤ (gI σ o 7) → wj_X6_token_52 o σ Q) ∧ (¬ (gI σ o 6) ≤ (gI σ o 7) → (vp_in (gI σ o 7) 900) ∧ (((gI σ (o + 1) (gI σ o 7).toNatClampNeg) = 10 → K0 (pI σ o 7 ((gI σ o 7) + 1))) ∧ (¬ (gI σ (o + 1) (gI σ o 7).toNatClampNeg) = 10 → (vp_in (gI σ o 7) 900) ∧ (((gI σ (o + 1) (gI σ o 7).toNatClampNeg) = 32 → K0 (pI σ o 7 ((gI σ o 7) + 1))) ∧ (¬ (gI σ (o + 1) (gI σ o 7).toNatClampNeg) = 32 → wj_X6_token_52 o σ Q)))))
def wp_X6_token (o : Nat) (σ0 : Hp) (Q : Hp → Prop) : Prop := lp (lb_X6_token_0 o Q) σ0
theorem xj_X6_token_162 (o : Nat) (σ0 : Hp) (Q : Hp → Prop) (G : XE) (hB0 : MB o σ0) (rq : RQ G 0 0 (oV (fun σ' => SH σ0 σ' ∧ Q σ'))) (σ : Hp) (w0 : Int32)    (hs : SH σ0 σ) (h : wj_X6_token_162 o σ w0 Q ) : X G rm_X6_token cX6_token RX6 1 none σ 0 0 162 [(0, .ref o)] [.int w0, .ref o] := by
  have hs : SH σ0 σ := hs
  have hB := hB0.sh hs
  unfold wj_X6_token_162 at h
  refine x_puti fp_X6_139_0 rfl hB.1 dX6_token_162 (n := 165) rfl ?_
  refine x_aload_n dX6_token_165 (n := 166) rfl rfl 0 rfl ?_
  refine x_geti fl_X6_139_0 rfl hB.i.1 (gIs) dX6_token_166 (n := 169) rfl ?_
  refine x_iconst dX6_token_169 (n := 170) rfl ic_2 ?_
  refine x_icmp_ne (tgt := 281) dX6_token_170 rfl (n := 173) rfl (fun c23 => ?_) (fun c23 => ?_)
  · have h := h.2 c23
    exact x_vret rq ⟨hs.i, h⟩ dX6_token_281
  · have h := h.1 c23
    refine x_aload_n dX6_token_173 (n := 174) rfl rfl 0 rfl ?_
    refine x_aload_n dX6_token_174 (n := 175) rfl rfl 0 rfl ?_
    refine x_aload_n dX6_token_175 (n := 176) rfl rfl 0 rfl ?_
    refine x_geti fl_X6_130_0 rfl hB.i.1 (gIn (by decide)) dX6_token_176 (n := 179) rfl ?_
    refine x_aload_n dX6_token_179 (n := 180) rfl rfl 0 rfl ?_
    refine x_geti fl_X6_136_0 rfl hB.i.1 (gIn (by decide)) dX6_token_180 (n := 183) rfl ?_
    refine x_cVip (As := [.int (gI σ o 10), .int (gI σ o 7)]) (rest := [.ref o]) cv_X6_153 ck0 (met_X6_packed o (pI σ o 8 w0) (gI σ o 10) (gI σ o 7) _ hB.i h) hB.i.1 (by decide) rfl rfl rfl dX6_token_183 (n := 186) rfl (fun r24 h => ?_)
    refine x_puti fp_X6_150_0 rfl hB.i.1 dX6_token_186 (n := 189) rfl ?_
    refine x_goto (tgt := 281) dX6_token_189 rfl ?_
    exact x_vret rq ⟨hs.i.i, h⟩ dX6_token_281
theorem xl_X6_token_90 (o : Nat) (σ0 : Hp) (Q : Hp → Prop) (G : XE) (hB0 : MB o σ0) (rq : RQ G 0 0 (oV (fun σ' => SH σ0 σ' ∧ Q σ')))     : ∀ z : Hp, SH σ0 z → lp (lb_X6_token_90 o  Q ) z → X G rm_X6_token cX6_token RX6 1 none z 0 0 90 [(0, .ref o)] [] := by
  intro z
  refine fun hs h => lp_X (P := fun z => SH σ0 z → X G rm_X6_token cX6_token RX6 1 none z 0 0 90 [(0, .ref o)] []) ?_ h hs
  intro K90 hK90 σ h hs
  have hs : SH σ0 σ := hs
  have hB := hB0.sh hs
  simp only [lb_X6_token_90] at h
  show X G rm_X6_token cX6_token RX6 1 none σ 0 0 90 [(0, .ref o)] []
  have hK90 : ∀ z : (Hp), SH σ0 z → K90 z → X G rm_X6_token cX6_token RX6 1 none z 0 0 90 [(0, .ref o)] [] := fun z hs h => hK90 z h hs
  refine x_aload_n dX6_token_90 (n := 91) rfl rfl 0 rfl ?_
  refine x_aload_n dX6_token_91 (n := 92) rfl rfl 0 rfl ?_
  refine x_geti fl_X6_136_0 rfl hB.1 rfl dX6_token_92 (n := 95) rfl ?_
  obtain ⟨b17, h⟩ := h
  refine x_cVip (As := [.int (gI σ o 7)]) (rest := []) cv_X6_142 ck0 (met_X6_isSmall o σ (gI σ o 7) hB b17) hB.1 (by decide) rfl rfl rfl dX6_token_95 (n := 98) rfl (fun r18 q => ?_)
  subst q
  refine x_if_eq (tgt := 114) dX6_token_98 rfl (n := 101) rfl (fun c19 => ?_) (fun c19 => ?_)
  · have h := h.1 c19
    refine x_aload_n dX6_token_114 (n := 115) rfl rfl 0 rfl ?_
    refine x_aload_n dX6_token_115 (n := 116) rfl rfl 0 rfl ?_
    refine x_aload_n dX6_token_116 (n := 117) rfl rfl 0 rfl ?_
    refine x_geti fl_X6_130_0 rfl hB.1 rfl dX6_token_117 (n := 120) rfl ?_
    refine x_aload_n dX6_token_120 (n := 121) rfl rfl 0 rfl ?_
    refine x_geti fl_X6_136_0 rfl hB.1 rfl dX6_token_121 (n := 124) rfl ?_
    refine x_cVip (As := [.int (gI σ o 10), .int (gI σ o 7)]) (rest := [.ref o]) cv_X6_146 ck0 (met_X6_wordAt o σ (gI σ o 10) (gI σ o 7) _ hB h) hB.1 (by decide) rfl rfl rfl dX6_token_124 (n := 127) rfl (fun r20 h => ?_)
    refine x_puti fp_X6_150_0 rfl hB.1 dX6_token_127 (n := 130) rfl ?_
    refine x_aload_n dX6_token_130 (n := 131) rfl rfl 0 rfl ?_
    refine x_aload_n dX6_token_131 (n := 132) rfl rfl 0 rfl ?_
    refine x_geti fl_X6_150_0 rfl hB.i.1 (gIs) dX6_token_132 (n := 135) rfl ?_
    refine x_if_lt (tgt := 142) dX6_token_135 rfl (n := 138) rfl (fun c21 => ?_) (fun c21 => ?_)
    · have h := h.1 c21
      refine x_aload_n dX6_token_142 (n := 143) rfl rfl 0 rfl ?_
      refine x_geti fl_X6_136_0 rfl hB.i.1 (gIn (by decide)) dX6_token_143 (n := 146) rfl ?_
      refine x_aload_n dX6_token_146 (n := 147) rfl rfl 0 rfl ?_
      refine x_geti fl_X6_130_0 rfl hB.i.1 (gIn (by decide)) dX6_token_147 (n := 150) rfl ?_
      refine x_isub dX6_token_150 (n := 151) rfl ?_
      refine x_bipush dX6_token_151 (n := 153) rfl bp_6 ?_
      refine x_icmp_le (tgt := 161) dX6_token_153 rfl (n := 156) rfl (fun c22 => ?_) (fun c22 => ?_)
      · have h := h.1 c22
        refine x_iconst dX6_token_161 (n := 162) rfl ic_2 ?_
        exact x_sub [0] rfl (xj_X6_token_162 o σ0 Q G hB0 rq (pI σ o 9 r20) 2 hs.i h)
      · have h := h.2 c22
        refine x_bipush dX6_token_156 (n := 158) rfl bp_6 ?_
        refine x_goto (tgt := 162) dX6_token_158 rfl ?_
        exact x_sub [0] rfl (xj_X6_token_162 o σ0 Q G hB0 rq (pI σ o 9 r20) 6 hs.i h)
    · have h := h.2 c21
      refine x_iconst dX6_token_138 (n := 139) rfl ic_1 ?_
      refine x_goto (tgt := 162) dX6_token_139 rfl ?_
      exact x_sub [0] rfl (xj_X6_token_162 o σ0 Q G hB0 rq (pI σ o 9 r20) 1 hs.i h)
  · have h := h.2 c19
    refine x_aload_n dX6_token_101 (n := 102) rfl rfl 0 rfl ?_
    refine x_dup dX6_token_102 (n := 103) rfl rfl ?_
    refine x_geti fl_X6_136_0 rfl hB.1 rfl dX6_token_103 (n := 106) rfl ?_
    refine x_iconst dX6_token_106 (n := 107) rfl ic_1 ?_
    refine x_iadd dX6_token_107 (n := 108) rfl ?_
    refine x_puti fp_X6_136_0 rfl hB.1 dX6_token_108 (n := 111) rfl ?_
    refine x_goto (tgt := 90) dX6_token_111 rfl ?_
    exact x_sub [0] rfl (hK90 (pI σ o 7 ((gI σ o 7) + 1)) hs.i h)
theorem xl_X6_token_213 (o : Nat) (σ0 : Hp) (Q : Hp → Prop) (G : XE) (hB0 : MB o σ0) (rq : RQ G 0 0 (oV (fun σ' => SH σ0 σ' ∧ Q σ')))     : ∀ z : Hp, SH σ0 z → lp (lb_X6_token_213 o  Q ) z → X G rm_X6_token cX6_token RX6 1 none z 0 0 213 [(0, .ref o)] [] := by
  intro z
  refine fun hs h => lp_X (P := fun z => SH σ0 z → X G rm_X6_token cX6_token RX6 1 none z 0 0 213 [(0, .ref o)] []) ?_ h hs
  intro K213 hK213 σ h hs
  have hs : SH σ0 σ := hs
  have hB := hB0.sh hs
  simp only [lb_X6_token_213] at h
  show X G rm_X6_token cX6_token RX6 1 none σ 0 0 213 [(0, .ref o)] []
  have hK213 : ∀ z : (Hp), SH σ0 z → K213 z → X G rm_X6_token cX6_token RX6 1 none z 0 0 213 [(0, .ref o)] [] := fun z hs h => hK213 z h hs
  refine x_aload_n dX6_token_213 (n := 214) rfl rfl 0 rfl ?_
  refine x_aload_n dX6_token_214 (n := 215) rfl rfl 0 rfl ?_
  refine x_geti fl_X6_136_0 rfl hB.1 rfl dX6_token_215 (n := 218) rfl ?_
  obtain ⟨b25, h⟩ := h
  refine x_cVip (As := [.int (gI σ o 7)]) (rest := []) cv_X6_156 ck0 (met_X6_isDigit o σ (gI σ o 7) hB b25) hB.1 (by decide) rfl rfl rfl dX6_token_218 (n := 221) rfl (fun r26 q => ?_)
  subst q
  refine x_if_eq (tgt := 281) dX6_token_221 rfl (n := 224) rfl (fun c27 => ?_) (fun c27 => ?_)
  · have h := h.1 c27
    exact x_vret rq ⟨hs, h⟩ dX6_token_281
  · have h := h.2 c27
    refine x_aload_n dX6_token_224 (n := 225) rfl rfl 0 rfl ?_
    refine x_aload_n dX6_token_225 (n := 226) rfl rfl 0 rfl ?_
    refine x_geti fl_X6_150_0 rfl hB.1 rfl dX6_token_226 (n := 229) rfl ?_
    refine x_ldc dX6_token_229 (n := 231) rfl q1786 ?_
    refine x_icmp_le (tgt := 241) dX6_token_231 rfl (n := 234) rfl (fun c28 => ?_) (fun c28 => ?_)
    · have h := h.1 c28
      refine x_bipush dX6_token_241 (n := 243) rfl bp_10 ?_
      refine x_aload_n dX6_token_243 (n := 244) rfl rfl 0 rfl ?_
      refine x_geti fl_X6_150_0 rfl hB.1 rfl dX6_token_244 (n := 247) rfl ?_
      refine x_imul dX6_token_247 (n := 248) rfl ?_
      refine x_aload_n dX6_token_248 (n := 249) rfl rfl 0 rfl ?_
      refine x_getr fl_X6_7_0 rfl hB.1 hB.r0 dX6_token_249 (n := 252) rfl ?_
      refine x_aload_n dX6_token_252 (n := 253) rfl rfl 0 rfl ?_
      refine x_geti fl_X6_136_0 rfl hB.1 rfl dX6_token_253 (n := 256) rfl ?_
      obtain ⟨b29, h⟩ := h
      refine x_iald hB.a0 b29 rfl dX6_token_256 (n := 257) rfl ?_
      refine x_iadd dX6_token_257 (n := 258) rfl ?_
      refine x_bipush dX6_token_258 (n := 260) rfl bp_48 ?_
      refine x_isub dX6_token_260 (n := 261) rfl ?_
      refine x_puti fp_X6_150_0 rfl hB.1 dX6_token_261 (n := 264) rfl ?_
      refine x_aload_n dX6_token_264 (n := 265) rfl rfl 0 rfl ?_
      refine x_dup dX6_token_265 (n := 266) rfl rfl ?_
      refine x_geti fl_X6_136_0 rfl hB.i.1 (gIn (by decide)) dX6_token_266 (n := 269) rfl ?_
      refine x_iconst dX6_token_269 (n := 270) rfl ic_1 ?_
      refine x_iadd dX6_token_270 (n := 271) rfl ?_
      refine x_puti fp_X6_136_0 rfl hB.i.1 dX6_token_271 (n := 274) rfl ?_
      refine x_goto (tgt := 213) dX6_token_274 rfl ?_
      exact x_sub [0] rfl (hK213 (pI (pI σ o 9 (((10 * (gI σ o 9)) + (gI σ (o + 1) (gI σ o 7).toNatClampNeg)) - 48)) o 7 ((gI σ o 7) + 1)) hs.i.i h)
    · have h := h.2 c28
      refine x_aload_n dX6_token_234 (n := 235) rfl rfl 0 rfl ?_
      refine x_geti fl_X6_150_0 rfl hB.1 rfl dX6_token_235 (n := 238) rfl ?_
      refine x_goto (tgt := 261) dX6_token_238 rfl ?_
      refine x_puti fp_X6_150_0 rfl hB.1 dX6_token_261 (n := 264) rfl ?_
      refine x_aload_n dX6_token_264 (n := 265) rfl rfl 0 rfl ?_
      refine x_dup dX6_token_265 (n := 266) rfl rfl ?_
      refine x_geti fl_X6_136_0 rfl hB.i.1 (gIn (by decide)) dX6_token_266 (n := 269) rfl ?_
      refine x_iconst dX6_token_269 (n := 270) rfl ic_1 ?_
      refine x_iadd dX6_token_270 (n := 271) rfl ?_
      refine x_puti fp_X6_136_0 rfl hB.i.1 dX6_token_271 (n := 274) rfl ?_
      refine x_goto (tgt := 213) dX6_token_274 rfl ?_
      exact x_sub [0] rfl (hK213 (pI (pI σ o 9 (gI σ o 9)) o 7 ((gI σ o 7) + 1)) hs.i.i h)
theorem xj_X6_token_52 (o : Nat) (σ0 : Hp) (Q : Hp → Prop) (G : XE) (hB0 : MB o σ0) (rq : RQ G 0 0 (oV (fun σ' => SH σ0 σ' ∧ Q σ'))) (σ : Hp)     (hs : SH σ0 σ) (h : wj_X6_token_52 o σ Q ) : X G rm_X6_token cX6_token RX6 1 none σ 0 0 52 [(0, .ref o)] [] := by
  have hs : SH σ0 σ := hs
  have hB := hB0.sh hs
  unfold wj_X6_token_52 at h
  refine x_aload_n dX6_token_52 (n := 53) rfl rfl 0 rfl ?_
  refine x_aload_n dX6_token_53 (n := 54) rfl rfl 0 rfl ?_
  refine x_geti fl_X6_136_0 rfl hB.1 rfl dX6_token_54 (n := 57) rfl ?_
  refine x_puti fp_X6_130_0 rfl hB.1 dX6_token_57 (n := 60) rfl ?_
  refine x_aload_n dX6_token_60 (n := 61) rfl rfl 0 rfl ?_
  refine x_geti fl_X6_136_0 rfl hB.i.1 (gIn (by decide)) dX6_token_61 (n := 64) rfl ?_
  refine x_aload_n dX6_token_64 (n := 65) rfl rfl 0 rfl ?_
  refine x_geti fl_X6_133_0 rfl hB.i.1 (gIn (by decide)) dX6_token_65 (n := 68) rfl ?_
  refine x_icmp_ne (tgt := 79) dX6_token_68 rfl (n := 71) rfl (fun c6 => ?_) (fun c6 => ?_)
  · have h := h.2 c6
    refine x_aload_n dX6_token_79 (n := 80) rfl rfl 0 rfl ?_
    refine x_aload_n dX6_token_80 (n := 81) rfl rfl 0 rfl ?_
    refine x_geti fl_X6_136_0 rfl hB.i.1 (gIn (by decide)) dX6_token_81 (n := 84) rfl ?_
    obtain ⟨b7, h⟩ := h
    refine x_cVip (As := [.int (gI σ o 7)]) (rest := []) cv_X6_142 ck0 (met_X6_isSmall o (pI σ o 10 (gI σ o 7)) (gI σ o 7) hB.i b7) hB.i.1 (by decide) rfl rfl rfl dX6_token_84 (n := 87) rfl (fun r8 q => ?_)
    subst q
    refine x_if_eq (tgt := 192) dX6_token_87 rfl (n := 90) rfl (fun c9 => ?_) (fun c9 => ?_)
    · have h := h.1 c9
      refine x_aload_n dX6_token_192 (n := 193) rfl rfl 0 rfl ?_
      refine x_aload_n dX6_token_193 (n := 194) rfl rfl 0 rfl ?_
      refine x_geti fl_X6_136_0 rfl hB.i.1 (gIn (by decide)) dX6_token_194 (n := 197) rfl ?_
      obtain ⟨b10, h⟩ := h
      refine x_cVip (As := [.int (gI σ o 7)]) (rest := []) cv_X6_156 ck0 (met_X6_isDigit o (pI σ o 10 (gI σ o 7)) (gI σ o 7) hB.i b10) hB.i.1 (by decide) rfl rfl rfl dX6_token_197 (n := 200) rfl (fun r11 q => ?_)
      subst q
      refine x_if_eq (tgt := 277) dX6_token_200 rfl (n := 203) rfl (fun c12 => ?_) (fun c12 => ?_)
      · have h := h.1 c12
        refine x_aload_n dX6_token_277 (n := 278) rfl rfl 0 rfl ?_
        obtain ⟨b15, h⟩ := h
        refine x_cVvm (As := []) (rest := []) cv_X6_160 ck0 (met_X6_signToken o (pI σ o 10 (gI σ o 7)) hB.i b15) hB.i.1 (by decide) rfl rfl rfl dX6_token_278 (n := 281) rfl (fun  s13 hs14 e16 => ?_)
        have hs14t := hs.i.tr hs14; have hBs13 := hB0.sh hs14t
        have h := h s13 e16
        exact x_vret rq ⟨hs14t, h⟩ dX6_token_281
      · have h := h.2 c12
        refine x_aload_n dX6_token_203 (n := 204) rfl rfl 0 rfl ?_
        refine x_iconst dX6_token_204 (n := 205) rfl ic_3 ?_
        refine x_puti fp_X6_139_0 rfl hB.i.1 dX6_token_205 (n := 208) rfl ?_
        refine x_aload_n dX6_token_208 (n := 209) rfl rfl 0 rfl ?_
        refine x_iconst dX6_token_209 (n := 210) rfl ic_0 ?_
        refine x_puti fp_X6_150_0 rfl hB.i.i.1 dX6_token_210 (n := 213) rfl ?_
        exact x_sub [0] rfl (xl_X6_token_213 o σ0 Q G hB0 rq (pI (pI (pI σ o 10 (gI σ o 7)) o 8 3) o 9 0) hs.i.i.i h)
    · have h := h.2 c9
      exact x_sub [0] rfl (xl_X6_token_90 o σ0 Q G hB0 rq (pI σ o 10 (gI σ o 7)) hs.i h)
  · have h := h.1 c6
    refine x_aload_n dX6_token_71 (n := 72) rfl rfl 0 rfl ?_
    refine x_iconst dX6_token_72 (n := 73) rfl ic_0 ?_
    refine x_puti fp_X6_139_0 rfl hB.i.1 dX6_token_73 (n := 76) rfl ?_
    refine x_goto (tgt := 281) dX6_token_76 rfl ?_
    exact x_vret rq ⟨hs.i.i, h⟩ dX6_token_281
theorem xl_X6_token_0 (o : Nat) (σ0 : Hp) (Q : Hp → Prop) (G : XE) (hB0 : MB o σ0) (rq : RQ G 0 0 (oV (fun σ' => SH σ0 σ' ∧ Q σ')))     : ∀ z : Hp, SH σ0 z → lp (lb_X6_token_0 o  Q ) z → X G rm_X6_token cX6_token RX6 1 none z 0 0 0 [(0, .ref o)] [] := by
  intro z
  refine fun hs h => lp_X (P := fun z => SH σ0 z → X G rm_X6_token cX6_token RX6 1 none z 0 0 0 [(0, .ref o)] []) ?_ h hs
  intro K0 hK0 σ h hs
  have hs : SH σ0 σ := hs
  have hB := hB0.sh hs
  simp only [lb_X6_token_0] at h
  show X G rm_X6_token cX6_token RX6 1 none σ 0 0 0 [(0, .ref o)] []
  have hK0 : ∀ z : (Hp), SH σ0 z → K0 z → X G rm_X6_token cX6_token RX6 1 none z 0 0 0 [(0, .ref o)] [] := fun z hs h => hK0 z h hs
  refine x_aload_n dX6_token_0 (n := 1) rfl rfl 0 rfl ?_
  refine x_geti fl_X6_136_0 rfl hB.1 rfl dX6_token_1 (n := 4) rfl ?_
  refine x_aload_n dX6_token_4 (n := 5) rfl rfl 0 rfl ?_
  refine x_geti fl_X6_133_0 rfl hB.1 rfl dX6_token_5 (n := 8) rfl ?_
  refine x_icmp_ge (tgt := 52) dX6_token_8 rfl (n := 11) rfl (fun c1 => ?_) (fun c1 => ?_)
  · have h := h.1 c1
    exact x_sub [0] rfl (xj_X6_token_52 o σ0 Q G hB0 rq σ hs h)
  · have h := h.2 c1
    refine x_aload_n dX6_token_11 (n := 12) rfl rfl 0 rfl ?_
    refine x_getr fl_X6_7_0 rfl hB.1 hB.r0 dX6_token_12 (n := 15) rfl ?_
    refine x_aload_n dX6_token_15 (n := 16) rfl rfl 0 rfl ?_
    refine x_geti fl_X6_136_0 rfl hB.1 rfl dX6_token_16 (n := 19) rfl ?_
    obtain ⟨b2, h⟩ := h
    refine x_iald hB.a0 b2 rfl dX6_token_19 (n := 20) rfl ?_
    refine x_bipush dX6_token_20 (n := 22) rfl bp_10 ?_
    refine x_icmp_eq (tgt := 39) dX6_token_22 rfl (n := 25) rfl (fun c3 => ?_) (fun c3 => ?_)
    · have h := h.1 c3
      refine x_aload_n dX6_token_39 (n := 40) rfl rfl 0 rfl ?_
      refine x_dup dX6_token_40 (n := 41) rfl rfl ?_
      refine x_geti fl_X6_136_0 rfl hB.1 rfl dX6_token_41 (n := 44) rfl ?_
      refine x_iconst dX6_token_44 (n := 45) rfl ic_1 ?_
      refine x_iadd dX6_token_45 (n := 46) rfl ?_
      refine x_puti fp_X6_136_0 rfl hB.1 dX6_token_46 (n := 49) rfl ?_
      refine x_goto (tgt := 0) dX6_token_49 rfl ?_
      exact x_sub [0] rfl (hK0 (pI σ o 7 ((gI σ o 7) + 1)) hs.i h)
    · have h := h.2 c3
      refine x_aload_n dX6_token_25 (n := 26) rfl rfl 0 rfl ?_
      refine x_getr fl_X6_7_0 rfl hB.1 hB.r0 dX6_token_26 (n := 29) rfl ?_
      refine x_aload_n dX6_token_29 (n := 30) rfl rfl 0 rfl ?_
      refine x_geti fl_X6_136_0 rfl hB.1 rfl dX6_token_30 (n := 33) rfl ?_
      obtain ⟨b4, h⟩ := h
      refine x_iald hB.a0 b4 rfl dX6_token_33 (n := 34) rfl ?_
      refine x_bipush dX6_token_34 (n := 36) rfl bp_32 ?_
      refine x_icmp_ne (tgt := 52) dX6_token_36 rfl (n := 39) rfl (fun c5 => ?_) (fun c5 => ?_)
      · have h := h.2 c5
        exact x_sub [0] rfl (xj_X6_token_52 o σ0 Q G hB0 rq σ hs h)
      · have h := h.1 c5
        refine x_aload_n dX6_token_39 (n := 40) rfl rfl 0 rfl ?_
        refine x_dup dX6_token_40 (n := 41) rfl rfl ?_
        refine x_geti fl_X6_136_0 rfl hB.1 rfl dX6_token_41 (n := 44) rfl ?_
        refine x_iconst dX6_token_44 (n := 45) rfl ic_1 ?_
        refine x_iadd dX6_token_45 (n := 46) rfl ?_
        refine x_puti fp_X6_136_0 rfl hB.1 dX6_token_46 (n := 49) rfl ?_
        refine x_goto (tgt := 0) dX6_token_49 rfl ?_
        exact x_sub [0] rfl (hK0 (pI σ o 7 ((gI σ o 7) + 1)) hs.i h)
theorem met_X6_token (o : Nat) (σ0 : Hp) (Q : Hp → Prop) (hB0 : MB o σ0) (h : wp_X6_token o σ0 Q) : MetX yX6_token cX6_token 1 none rm_X6_token σ0 [.ref o] (oV (fun σ' => SH σ0 σ' ∧ Q σ')) 0 0 := by
  refine metX_of (own := RX6) (lvs := [(0, .ref o)]) (by decide) rfl (Nat.le_of_ble_eq_true rfl) rfl (fun G rq => ?_)
  unfold wp_X6_token at h
  exact x_sub [0] rfl (xl_X6_token_0 o σ0 Q G hB0 rq σ0 (SH.rf (σ := σ0)) h)
abbrev rm_X6_wrong : Room := { frames := 0, cells := 0, slots := 0, locals := 0 }
def f_X6_wrong (o : Nat) (σ0 : Hp) (x1 : Int32) : Int32 × Hp := (0, pI (pI σ0 o 4 x1) o 5 (gI σ0 o 10))
theorem met_X6_wrong (o : Nat) (σ0 : Hp) (x1 : Int32) (hB0 : MB o σ0) : MetX yX6_wrong cX6_wrong 2 (some .boolean) rm_X6_wrong σ0 [.ref o, .int x1] (oI (fun r σ' => SH σ0 σ' ∧ (r, σ') = (f_X6_wrong o σ0 x1))) 0 0 := by
  refine metX_of (own := RX6) (lvs := [(0, .ref o), (1, .int x1)]) (by decide) rfl (Nat.le_of_ble_eq_true rfl) rfl (fun G rq => ?_)
  have hv : (f_X6_wrong o σ0 x1) = _ := f_X6_wrong.eq_1 _ _ _
  refine x_aload_n dX6_wrong_0 (n := 1) rfl rfl 0 rfl ?_
  refine x_iload_n dX6_wrong_1 (n := 2) rfl rfl 1 rfl ?_
  refine x_puti fp_X6_127_0 rfl hB0.1 dX6_wrong_2 (n := 5) rfl ?_
  refine x_aload_n dX6_wrong_5 (n := 6) rfl rfl 0 rfl ?_
  refine x_aload_n dX6_wrong_6 (n := 7) rfl rfl 0 rfl ?_
  refine x_geti fl_X6_130_0 rfl hB0.i.1 (gIn (by decide)) dX6_wrong_7 (n := 10) rfl ?_
  refine x_puti fp_X6_16_0 rfl hB0.i.1 dX6_wrong_10 (n := 13) rfl ?_
  refine x_iconst dX6_wrong_13 (n := 14) rfl ic_0 ?_
  exact x_zret rq ⟨(SH.rf (σ := σ0)).i.i, hv.symm⟩ isB0 dX6_wrong_14
abbrev rm_X6_number : Room := { frames := 2, cells := 0, slots := 0, locals := 47 }
def wp_X6_number (o : Nat) (σ0 : Hp) (x1 : Int32) (x2 : Int32) (Q : Int32 → Hp → Prop) : Prop := ((gI σ0 o 8) = 3 → ((f_X6_isIn (gI σ0 o 9) x1 x2) = 0 → ∀ (r11 : Int32) (s7 : Hp), (r11, s7) = f_X6_wrong o σ0 2 → (r11 = 0 ∨ r11 = 1) ∧ (Q r11 s7)) ∧ (¬ (f_X6_isIn (gI σ0 o 9) x1 x2) = 0 → wp_X6_token o (pI σ0 o 11 (gI σ0 o 9)) (fun  s5 => Q 1 s5))) ∧ (¬ (gI σ0 o 8) = 3 → ∀ (r17 : Int32) (s13 : Hp), (r17, s13) = f_X6_wrong o σ0 1 → (r17 = 0 ∨ r17 = 1) ∧ (Q r17 s13))
theorem met_X6_number (o : Nat) (σ0 : Hp) (x1 : Int32) (x2 : Int32) (Q : Int32 → Hp → Prop) (hB0 : MB o σ0) (h : wp_X6_number o σ0 x1 x2 Q) : MetX yX6_number cX6_number 3 (some .boolean) rm_X6_number σ0 [.ref o, .int x1, .int x2] (oI (fun r σ' => SH σ0 σ' ∧ Q r σ')) 0 0 := by
  refine metX_of (own := RX6) (lvs := [(0, .ref o), (1, .int x1), (2, .int x2)]) (by decide) rfl (Nat.le_of_ble_eq_true rfl) rfl (fun G rq => ?_)
  unfold wp_X6_number at h
  refine x_aload_n dX6_number_0 (n := 1) rfl rfl 0 rfl ?_
  refine x_geti fl_X6_139_0 rfl hB0.1 rfl dX6_number_1 (n := 4) rfl ?_
  refine x_iconst dX6_number_4 (n := 5) rfl ic_3 ?_
  refine x_icmp_eq (tgt := 14) dX6_number_5 rfl (n := 8) rfl (fun c1 => ?_) (fun c1 => ?_)
  · have h := h.1 c1
    refine x_aload_n dX6_number_14 (n := 15) rfl rfl 0 rfl ?_
    refine x_geti fl_X6_150_0 rfl hB0.1 rfl dX6_number_15 (n := 18) rfl ?_
    refine x_iload_n dX6_number_18 (n := 19) rfl rfl 1 rfl ?_
    refine x_iload_n dX6_number_19 (n := 20) rfl rfl 2 rfl ?_
    refine x_cSip (As := [.int (gI σ0 o 9), .int x1, .int x2]) (rest := []) cs_X6_166 (met_X6_isIn σ0 (gI σ0 o 9) x1 x2 ) (by decide) rfl rfl rfl dX6_number_20 (n := 23) rfl (fun r3 q => ?_)
    subst q
    refine x_if_ne (tgt := 32) dX6_number_23 rfl (n := 26) rfl (fun c4 => ?_) (fun c4 => ?_)
    · have h := h.2 c4
      refine x_aload_n dX6_number_32 (n := 33) rfl rfl 0 rfl ?_
      refine x_aload_n dX6_number_33 (n := 34) rfl rfl 0 rfl ?_
      refine x_geti fl_X6_150_0 rfl hB0.1 rfl dX6_number_34 (n := 37) rfl ?_
      refine x_puti fp_X6_170_0 rfl hB0.1 dX6_number_37 (n := 40) rfl ?_
      refine x_aload_n dX6_number_40 (n := 41) rfl rfl 0 rfl ?_
      refine x_cVvm (As := []) (rest := []) cv_X6_173 ck0 (met_X6_token o (pI σ0 o 11 (gI σ0 o 9)) _ hB0.i h) hB0.i.1 (by decide) rfl rfl rfl dX6_number_41 (n := 44) rfl (fun  s5 hs6 h => ?_)
      have hs6t := (SH.rf (σ := σ0)).i.tr hs6; have hBs5 := hB0.sh hs6t
      refine x_iconst dX6_number_44 (n := 45) rfl ic_1 ?_
      exact x_zret rq ⟨hs6t, h⟩ isB1 dX6_number_45
    · have h := h.1 c4
      refine x_aload_n dX6_number_26 (n := 27) rfl rfl 0 rfl ?_
      refine x_iconst dX6_number_27 (n := 28) rfl ic_2 ?_
      refine x_cVim (As := [.int 2]) (rest := []) cv_X6_163 ck0 (met_X6_wrong o σ0 2 hB0) hB0.1 (by decide) rfl rfl rfl dX6_number_28 (n := 31) rfl (fun r11 s7 hs8 e10 => ?_)
      have hs8t := (SH.rf (σ := σ0)).tr hs8; have hBs7 := hB0.sh hs8t
      have h := h r11 s7 e10
      obtain ⟨b12, h⟩ := h
      exact x_zret rq ⟨hs8t, h⟩ b12 dX6_number_31
  · have h := h.2 c1
    refine x_aload_n dX6_number_8 (n := 9) rfl rfl 0 rfl ?_
    refine x_iconst dX6_number_9 (n := 10) rfl ic_1 ?_
    refine x_cVim (As := [.int 1]) (rest := []) cv_X6_163 ck0 (met_X6_wrong o σ0 1 hB0) hB0.1 (by decide) rfl rfl rfl dX6_number_10 (n := 13) rfl (fun r17 s13 hs14 e16 => ?_)
    have hs14t := (SH.rf (σ := σ0)).tr hs14; have hBs13 := hB0.sh hs14t
    have h := h r17 s13 e16
    obtain ⟨b18, h⟩ := h
    exact x_zret rq ⟨hs14t, h⟩ b18 dX6_number_13
abbrev rm_X6_dateRead : Room := { frames := 3, cells := 0, slots := 0, locals := 73 }
def wj_X6_dateRead_61 (o : Nat) (σ : Hp) (y1 : Int64) (x4 : Int32) (w0 : Int64) (Q : Int32 → Hp → Prop)  : Prop := (w0 < 0 → ∀ (r17 : Int32) (s13 : Hp), (r17, s13) = f_X6_wrong o (pI (pL σ o 44 w0) o 10 x4) 5 → (r17 = 0 ∨ r17 = 1) ∧ (Q r17 s13)) ∧ (¬ w0 < 0 → (y1 ≤ w0 → Q 1 (pL σ o 44 w0)) ∧ (¬ y1 ≤ w0 → ∀ (r24 : Int32) (s20 : Hp), (r24, s20) = f_X6_wrong o (pI (pL σ o 44 w0) o 10 x4) 5 → (r24 = 0 ∨ r24 = 1) ∧ (Q r24 s20)))
def wp_X6_dateRead (o : Nat) (σ0 : Hp) (y1 : Int64) (Q : Int32 → Hp → Prop) : Prop := wp_X6_number o σ0 0 99999 (fun r3 s1 => (r3 = 0 → Q 0 s1) ∧ (¬ r3 = 0 → wp_X6_number o s1 0 99999 (fun r7 s5 => (r7 = 0 → Q 0 s5) ∧ (¬ r7 = 0 → ((gI s5 o 18) = 0 → wj_X6_dateRead_61 o s5 y1 (gI s1 o 10) (-1) Q) ∧ (¬ (gI s5 o 18) = 0 → (ok_X6_countOf o s5 4 ((gI s1 o 11).toInt64) ((gI s5 o 11).toInt64)) ∧ (wj_X6_dateRead_61 o s5 y1 (gI s1 o 10) (f_X6_countOf o s5 4 ((gI s1 o 11).toInt64) ((gI s5 o 11).toInt64)) Q))))))
theorem xj_X6_dateRead_61 (o : Nat) (σ0 : Hp) (Q : Int32 → Hp → Prop) (G : XE) (hB0 : MB o σ0) (rq : RQ G 0 0 (oI (fun r σ' => SH σ0 σ' ∧ Q r σ'))) (σ : Hp) (y1 : Int64) (x4 : Int32) (w0 : Int64)    (hs : SH σ0 σ) (h : wj_X6_dateRead_61 o σ y1 x4 w0 Q ) : X G rm_X6_dateRead cX6_dateRead RX6 5 (some .boolean) σ 0 0 61 [(0, .ref o), (1, .long y1), (4, .int x4)] [.long w0, .ref o] := by
  have hs : SH σ0 σ := hs
  have hB := hB0.sh hs
  unfold wj_X6_dateRead_61 at h
  refine x_putl fp_X6_279_0 rfl hB.1 dX6_dateRead_61 (n := 64) rfl ?_
  refine x_aload_n dX6_dateRead_64 (n := 65) rfl rfl 0 rfl ?_
  refine x_getl fl_X6_279_0 rfl hB.l.1 (gLs) dX6_dateRead_65 (n := 68) rfl ?_
  refine x_lconst dX6_dateRead_68 (n := 69) rfl lc_0 ?_
  refine x_lcmp_lt (tgt := 82) dX6_dateRead_69 (pc1 := 70) rfl dX6_dateRead_70 rfl (n := 73) rfl (fun c12 => ?_) (fun c12 => ?_)
  · have h := h.1 c12
    refine x_aload_n dX6_dateRead_82 (n := 83) rfl rfl 0 rfl ?_
    refine x_iload dX6_dateRead_83 (n := 85) rfl 2 rfl ?_
    refine x_puti fp_X6_130_0 rfl hB.l.1 dX6_dateRead_85 (n := 88) rfl ?_
    refine x_aload_n dX6_dateRead_88 (n := 89) rfl rfl 0 rfl ?_
    refine x_iconst dX6_dateRead_89 (n := 90) rfl ic_5 ?_
    refine x_cVim (As := [.int 5]) (rest := []) cv_X6_163 ck0 (met_X6_wrong o (pI (pL σ o 44 w0) o 10 x4) 5 hB.l.i) hB.l.i.1 (by decide) rfl rfl rfl dX6_dateRead_90 (n := 93) rfl (fun r17 s13 hs14 e16 => ?_)
    have hs14t := hs.l.i.tr hs14; have hBs13 := hB0.sh hs14t
    have h := h r17 s13 e16
    obtain ⟨b18, h⟩ := h
    exact x_zret rq ⟨hs14t, h⟩ b18 dX6_dateRead_93
  · have h := h.2 c12
    refine x_aload_n dX6_dateRead_73 (n := 74) rfl rfl 0 rfl ?_
    refine x_getl fl_X6_279_0 rfl hB.l.1 (gLs) dX6_dateRead_74 (n := 77) rfl ?_
    refine x_lload_n dX6_dateRead_77 (n := 78) rfl rfl 1 rfl ?_
    refine x_lcmp_ge (tgt := 94) dX6_dateRead_78 (pc1 := 79) rfl dX6_dateRead_79 rfl (n := 82) rfl (fun c19 => ?_) (fun c19 => ?_)
    · have h := h.1 c19
      refine x_iconst dX6_dateRead_94 (n := 95) rfl ic_1 ?_
      exact x_zret rq ⟨hs.l, h⟩ isB1 dX6_dateRead_95
    · have h := h.2 c19
      refine x_aload_n dX6_dateRead_82 (n := 83) rfl rfl 0 rfl ?_
      refine x_iload dX6_dateRead_83 (n := 85) rfl 2 rfl ?_
      refine x_puti fp_X6_130_0 rfl hB.l.1 dX6_dateRead_85 (n := 88) rfl ?_
      refine x_aload_n dX6_dateRead_88 (n := 89) rfl rfl 0 rfl ?_
      refine x_iconst dX6_dateRead_89 (n := 90) rfl ic_5 ?_
      refine x_cVim (As := [.int 5]) (rest := []) cv_X6_163 ck0 (met_X6_wrong o (pI (pL σ o 44 w0) o 10 x4) 5 hB.l.i) hB.l.i.1 (by decide) rfl rfl rfl dX6_dateRead_90 (n := 93) rfl (fun r24 s20 hs21 e23 => ?_)
      have hs21t := hs.l.i.tr hs21; have hBs20 := hB0.sh hs21t
      have h := h r24 s20 e23
      obtain ⟨b25, h⟩ := h
      exact x_zret rq ⟨hs21t, h⟩ b25 dX6_dateRead_93
theorem met_X6_dateRead (o : Nat) (σ0 : Hp) (y1 : Int64) (Q : Int32 → Hp → Prop) (hB0 : MB o σ0) (h : wp_X6_dateRead o σ0 y1 Q) : MetX yX6_dateRead cX6_dateRead 5 (some .boolean) rm_X6_dateRead σ0 [.ref o, .long y1] (oI (fun r σ' => SH σ0 σ' ∧ Q r σ')) 0 0 := by
  refine metX_of (own := RX6) (lvs := [(0, .ref o), (1, .long y1)]) (by decide) rfl (Nat.le_of_ble_eq_true rfl) rfl (fun G rq => ?_)
  unfold wp_X6_dateRead at h
  refine x_aload_n dX6_dateRead_0 (n := 1) rfl rfl 0 rfl ?_
  refine x_iconst dX6_dateRead_1 (n := 2) rfl ic_0 ?_
  refine x_ldc dX6_dateRead_2 (n := 4) rfl q1786 ?_
  refine x_cVim (As := [.int 0, .int 99999]) (rest := []) cv_X6_179 ck0 (met_X6_number o σ0 0 99999 _ hB0 h) hB0.1 (by decide) rfl rfl rfl dX6_dateRead_4 (n := 7) rfl (fun r3 s1 hs2 h => ?_)
  have hs2t := (SH.rf (σ := σ0)).tr hs2; have hBs1 := hB0.sh hs2t
  refine x_if_ne (tgt := 12) dX6_dateRead_7 rfl (n := 10) rfl (fun c4 => ?_) (fun c4 => ?_)
  · have h := h.2 c4
    refine x_aload_n dX6_dateRead_12 (n := 13) rfl rfl 0 rfl ?_
    refine x_geti fl_X6_170_0 rfl hBs1.1 rfl dX6_dateRead_13 (n := 16) rfl ?_
    refine x_istore_n (lvs' := [(3, .int (gI s1 o 11)), (0, .ref o), (1, .long y1)]) dX6_dateRead_16 (n := 17) rfl rfl (by decide) rfl ?_
    refine x_aload_n dX6_dateRead_17 (n := 18) rfl rfl 1 rfl ?_
    refine x_geti fl_X6_130_0 rfl hBs1.1 rfl dX6_dateRead_18 (n := 21) rfl ?_
    refine x_istore (lvs' := [(4, .int (gI s1 o 10)), (3, .int (gI s1 o 11)), (0, .ref o), (1, .long y1)]) dX6_dateRead_21 (n := 23) rfl (by decide) rfl ?_
    refine x_aload_n dX6_dateRead_23 (n := 24) rfl rfl 2 rfl ?_
    refine x_iconst dX6_dateRead_24 (n := 25) rfl ic_0 ?_
    refine x_ldc dX6_dateRead_25 (n := 27) rfl q1786 ?_
    refine x_cVim (As := [.int 0, .int 99999]) (rest := []) cv_X6_179 ck0 (met_X6_number o s1 0 99999 _ hBs1 h) hBs1.1 (by decide) rfl rfl rfl dX6_dateRead_27 (n := 30) rfl (fun r7 s5 hs6 h => ?_)
    have hs6t := hs2t.tr hs6; have hBs5 := hB0.sh hs6t
    refine x_if_ne (tgt := 35) dX6_dateRead_30 rfl (n := 33) rfl (fun c8 => ?_) (fun c8 => ?_)
    · have h := h.2 c8
      refine x_aload_n dX6_dateRead_35 (n := 36) rfl rfl 2 rfl ?_
      refine x_aload_n dX6_dateRead_36 (n := 37) rfl rfl 2 rfl ?_
      refine x_geti fl_X6_186_0 rfl hBs5.1 rfl dX6_dateRead_37 (n := 40) rfl ?_
      refine x_if_ne (tgt := 49) dX6_dateRead_40 rfl (n := 43) rfl (fun c9 => ?_) (fun c9 => ?_)
      · have h := h.2 c9
        refine x_aload_n dX6_dateRead_49 (n := 50) rfl rfl 2 rfl ?_
        refine x_iconst dX6_dateRead_50 (n := 51) rfl ic_4 ?_
        refine x_iload_n dX6_dateRead_51 (n := 52) rfl rfl 1 rfl ?_
        refine x_i2l dX6_dateRead_52 (n := 53) rfl ?_
        refine x_aload_n dX6_dateRead_53 (n := 54) rfl rfl 2 rfl ?_
        refine x_geti fl_X6_170_0 rfl hBs5.1 rfl dX6_dateRead_54 (n := 57) rfl ?_
        refine x_i2l dX6_dateRead_57 (n := 58) rfl ?_
        obtain ⟨b10, h⟩ := h
        refine x_cVlp (As := [.int 4, .long ((gI s1 o 11).toInt64), .long ((gI s5 o 11).toInt64)]) (rest := [.ref o]) cv_X6_275 ck0 (met_X6_countOf o s5 4 ((gI s1 o 11).toInt64) ((gI s5 o 11).toInt64) hBs5 b10) hBs5.1 (by decide) rfl rfl rfl dX6_dateRead_58 (n := 61) rfl (fun r11 q => ?_)
        subst q
        exact x_sub [2, 3, 0] rfl (xj_X6_dateRead_61 o σ0 Q G hB0 rq s5 y1 (gI s1 o 10) (f_X6_countOf o s5 4 ((gI s1 o 11).toInt64) ((gI s5 o 11).toInt64)) hs6t h)
      · have h := h.1 c9
        refine x_ldc2 dX6_dateRead_43 (n := 46) rfl q1880 ?_
        refine x_goto (tgt := 61) dX6_dateRead_46 rfl ?_
        exact x_sub [2, 3, 0] rfl (xj_X6_dateRead_61 o σ0 Q G hB0 rq s5 y1 (gI s1 o 10) (-1) hs6t h)
    · have h := h.1 c8
      refine x_iconst dX6_dateRead_33 (n := 34) rfl ic_0 ?_
      exact x_zret rq ⟨hs6t, h⟩ isB0 dX6_dateRead_34
  · have h := h.1 c4
    refine x_iconst dX6_dateRead_10 (n := 11) rfl ic_0 ?_
    exact x_zret rq ⟨hs2t, h⟩ isB0 dX6_dateRead_11
abbrev rm_X6_isKey : Room := { frames := 0, cells := 0, slots := 0, locals := 0 }
def f_X6_isKey (o : Nat) (σ : Hp) (x1 : Int32) : Int32 := if (gI σ o 8) = 1 then if (gI σ o 9) = x1 then 1 else 0 else 0
theorem met_X6_isKey (o : Nat) (σ : Hp) (x1 : Int32) (hB : MB o σ) : MetX yX6_isKey cX6_isKey 2 (some .boolean) rm_X6_isKey σ [.ref o, .int x1] (oI (fun r σ' => σ' = σ ∧ r = (f_X6_isKey o σ x1))) 0 0 := by
  refine metX_of (own := RX6) (lvs := [(0, .ref o), (1, .int x1)]) (by decide) rfl (Nat.le_of_ble_eq_true rfl) rfl (fun G rq => ?_)
  have hv : (f_X6_isKey o σ x1) = _ := f_X6_isKey.eq_1 _ _ _
  refine x_aload_n dX6_isKey_0 (n := 1) rfl rfl 0 rfl ?_
  refine x_geti fl_X6_139_0 rfl hB.1 rfl dX6_isKey_1 (n := 4) rfl ?_
  refine x_iconst dX6_isKey_4 (n := 5) rfl ic_1 ?_
  refine x_icmp_ne (tgt := 20) dX6_isKey_5 rfl (n := 8) rfl (fun c1 => ?_) (fun c1 => ?_)
  · have hv := hv.trans (if_neg c1)
    refine x_iconst dX6_isKey_20 (n := 21) rfl ic_0 ?_
    exact x_zret rq ⟨rfl, hv.symm⟩ isB0 dX6_isKey_21
  · have hv := hv.trans (if_pos c1)
    refine x_aload_n dX6_isKey_8 (n := 9) rfl rfl 0 rfl ?_
    refine x_geti fl_X6_150_0 rfl hB.1 rfl dX6_isKey_9 (n := 12) rfl ?_
    refine x_iload_n dX6_isKey_12 (n := 13) rfl rfl 1 rfl ?_
    refine x_icmp_ne (tgt := 20) dX6_isKey_13 rfl (n := 16) rfl (fun c2 => ?_) (fun c2 => ?_)
    · have hv := hv.trans (if_neg c2)
      refine x_iconst dX6_isKey_20 (n := 21) rfl ic_0 ?_
      exact x_zret rq ⟨rfl, hv.symm⟩ isB0 dX6_isKey_21
    · have hv := hv.trans (if_pos c2)
      refine x_iconst dX6_isKey_16 (n := 17) rfl ic_1 ?_
      refine x_goto (tgt := 21) dX6_isKey_17 rfl ?_
      exact x_zret rq ⟨rfl, hv.symm⟩ isB1 dX6_isKey_21
abbrev rm_X6_keyRead : Room := { frames := 2, cells := 0, slots := 0, locals := 47 }
def wp_X6_keyRead (o : Nat) (σ0 : Hp) (x1 : Int32) (Q : Int32 → Hp → Prop) : Prop := ((f_X6_isKey o σ0 x1) = 0 → ∀ (r10 : Int32) (s6 : Hp), (r10, s6) = f_X6_wrong o σ0 1 → (r10 = 0 ∨ r10 = 1) ∧ (Q r10 s6)) ∧ (¬ (f_X6_isKey o σ0 x1) = 0 → wp_X6_token o σ0 (fun  s4 => Q 1 s4))
theorem met_X6_keyRead (o : Nat) (σ0 : Hp) (x1 : Int32) (Q : Int32 → Hp → Prop) (hB0 : MB o σ0) (h : wp_X6_keyRead o σ0 x1 Q) : MetX yX6_keyRead cX6_keyRead 2 (some .boolean) rm_X6_keyRead σ0 [.ref o, .int x1] (oI (fun r σ' => SH σ0 σ' ∧ Q r σ')) 0 0 := by
  refine metX_of (own := RX6) (lvs := [(0, .ref o), (1, .int x1)]) (by decide) rfl (Nat.le_of_ble_eq_true rfl) rfl (fun G rq => ?_)
  unfold wp_X6_keyRead at h
  refine x_aload_n dX6_keyRead_0 (n := 1) rfl rfl 0 rfl ?_
  refine x_iload_n dX6_keyRead_1 (n := 2) rfl rfl 1 rfl ?_
  refine x_cVip (As := [.int x1]) (rest := []) cv_X6_183 ck0 (met_X6_isKey o σ0 x1 hB0) hB0.1 (by decide) rfl rfl rfl dX6_keyRead_2 (n := 5) rfl (fun r2 q => ?_)
  subst q
  refine x_if_ne (tgt := 14) dX6_keyRead_5 rfl (n := 8) rfl (fun c3 => ?_) (fun c3 => ?_)
  · have h := h.2 c3
    refine x_aload_n dX6_keyRead_14 (n := 15) rfl rfl 0 rfl ?_
    refine x_cVvm (As := []) (rest := []) cv_X6_173 ck0 (met_X6_token o σ0 _ hB0 h) hB0.1 (by decide) rfl rfl rfl dX6_keyRead_15 (n := 18) rfl (fun  s4 hs5 h => ?_)
    have hs5t := (SH.rf (σ := σ0)).tr hs5; have hBs4 := hB0.sh hs5t
    refine x_iconst dX6_keyRead_18 (n := 19) rfl ic_1 ?_
    exact x_zret rq ⟨hs5t, h⟩ isB1 dX6_keyRead_19
  · have h := h.1 c3
    refine x_aload_n dX6_keyRead_8 (n := 9) rfl rfl 0 rfl ?_
    refine x_iconst dX6_keyRead_9 (n := 10) rfl ic_1 ?_
    refine x_cVim (As := [.int 1]) (rest := []) cv_X6_163 ck0 (met_X6_wrong o σ0 1 hB0) hB0.1 (by decide) rfl rfl rfl dX6_keyRead_10 (n := 13) rfl (fun r10 s6 hs7 e9 => ?_)
    have hs7t := (SH.rf (σ := σ0)).tr hs7; have hBs6 := hB0.sh hs7t
    have h := h r10 s6 e9
    obtain ⟨b11, h⟩ := h
    exact x_zret rq ⟨hs7t, h⟩ b11 dX6_keyRead_13
abbrev rm_X6_find : Room := { frames := 0, cells := 0, slots := 0, locals := 0 }
def lb_X6_find_3 (σ : Hp) (a0 n0 : Nat) (x1 : Int32) (x2 : Int32) (x3 : Int32) (Q : Int32 → Prop)  (K3 : Int32 → Prop) (x4 : Int32) : Prop := (x2 ≤ x4 → Q (-1)) ∧ (¬ x2 ≤ x4 → (vp_in (x1 + x4) n0) ∧ (((gI σ a0 (x1 + x4).toNatClampNeg) = x3 → Q x4) ∧ (¬ (gI σ a0 (x1 + x4).toNatClampNeg) = x3 → K3 (x4 + 1))))
def wp_X6_find (σ : Hp) (a0 n0 : Nat) (x1 : Int32) (x2 : Int32) (x3 : Int32) (Q : Int32 → Prop) : Prop := lp (lb_X6_find_3 σ a0 n0 x1 x2 x3 Q) 0
theorem xl_X6_find_3 (σ : Hp) (a0 n0 : Nat) (Q : Int32 → Prop) (G : XE) (ha0 : gT σ a0 = some (.inr (.int, n0))) (rq : RQ G 0 0 (oI (fun r σ' => σ' = σ ∧ Q r))) (x1 : Int32) (x2 : Int32) (x3 : Int32)    : ∀ z : Int32, lp (lb_X6_find_3 σ a0 n0 x1 x2 x3 Q ) z → X G rm_X6_find cX6_find RX6 5 (some .int) σ 0 0 3 [(0, .ref a0), (1, .int x1), (2, .int x2), (3, .int x3), (4, .int z)] [] := by
  intro z
  refine fun h => lp_X (P := fun z => X G rm_X6_find cX6_find RX6 5 (some .int) σ 0 0 3 [(0, .ref a0), (1, .int x1), (2, .int x2), (3, .int x3), (4, .int z)] []) ?_ h
  intro K3 hK3 x4 h
  simp only [lb_X6_find_3] at h
  show X G rm_X6_find cX6_find RX6 5 (some .int) σ 0 0 3 [(0, .ref a0), (1, .int x1), (2, .int x2), (3, .int x3), (4, .int x4)] []
  have hK3 : ∀ z : (Int32), K3 z → X G rm_X6_find cX6_find RX6 5 (some .int) σ 0 0 3 [(0, .ref a0), (1, .int x1), (2, .int x2), (3, .int x3), (4, .int z)] [] := fun z h => hK3 z h
  refine x_iload dX6_find_3 (n := 5) rfl 4 rfl ?_
  refine x_iload_n dX6_find_5 (n := 6) rfl rfl 2 rfl ?_
  refine x_icmp_ge (tgt := 28) dX6_find_6 rfl (n := 9) rfl (fun c1 => ?_) (fun c1 => ?_)
  · have h := h.1 c1
    refine x_iconst dX6_find_28 (n := 29) rfl ic_m1 ?_
    exact x_iret rq ⟨rfl, h⟩ dX6_find_29
  · have h := h.2 c1
    refine x_aload_n dX6_find_9 (n := 10) rfl rfl 0 rfl ?_
    refine x_iload_n dX6_find_10 (n := 11) rfl rfl 1 rfl ?_
    refine x_iload dX6_find_11 (n := 13) rfl 4 rfl ?_
    refine x_iadd dX6_find_13 (n := 14) rfl ?_
    obtain ⟨b2, h⟩ := h
    refine x_iald ha0 b2 rfl dX6_find_14 (n := 15) rfl ?_
    refine x_iload_n dX6_find_15 (n := 16) rfl rfl 3 rfl ?_
    refine x_icmp_ne (tgt := 22) dX6_find_16 rfl (n := 19) rfl (fun c3 => ?_) (fun c3 => ?_)
    · have h := h.2 c3
      refine x_iinc (v := x4 + 1) (lvs' := [(4, .int (x4 + 1)), (0, .ref a0), (1, .int x1), (2, .int x2), (3, .int x3)]) dX6_find_22 (n := 25) rfl 4 rfl rfl (by decide) rfl ?_
      refine x_goto (tgt := 3) dX6_find_25 rfl ?_
      exact x_sub [1, 2, 3, 4, 0] rfl (hK3 (x4 + 1) h)
    · have h := h.1 c3
      refine x_iload dX6_find_19 (n := 21) rfl 4 rfl ?_
      exact x_iret rq ⟨rfl, h⟩ dX6_find_21
theorem met_X6_find (σ : Hp) (a0 n0 : Nat) (x1 : Int32) (x2 : Int32) (x3 : Int32) (Q : Int32 → Prop) (ha0 : gT σ a0 = some (.inr (.int, n0))) (h : wp_X6_find σ a0 n0 x1 x2 x3 Q) : MetX yX6_find cX6_find 5 (some .int) rm_X6_find σ [.ref a0, .int x1, .int x2, .int x3] (oI (fun r σ' => σ' = σ ∧ Q r)) 0 0 := by
  refine metX_of (own := RX6) (lvs := [(0, .ref a0), (1, .int x1), (2, .int x2), (3, .int x3)]) (by decide) rfl (Nat.le_of_ble_eq_true rfl) rfl (fun G rq => ?_)
  unfold wp_X6_find at h
  refine x_iconst dX6_find_0 (n := 1) rfl ic_0 ?_
  refine x_istore (lvs' := [(4, .int 0), (0, .ref a0), (1, .int x1), (2, .int x2), (3, .int x3)]) dX6_find_1 (n := 3) rfl (by decide) rfl ?_
  exact x_sub [1, 2, 3, 4, 0] rfl (xl_X6_find_3 σ a0 n0 Q G ha0 rq x1 x2 x3 0 h)
abbrev rm_X6_newName : Room := { frames := 2, cells := 0, slots := 0, locals := 47 }
def wp_X6_newName (o : Nat) (σ0 : Hp) (a1 n1 : Nat) (x2 : Int32) (x3 : Int32) (Q : Int32 → Hp → Prop) : Prop := ((gI σ0 o 8) = 2 → wp_X6_find σ0 a1 n1 x2 x3 (gI σ0 o 9) (fun r2 => (r2 < 0 → (vp_in (x2 + x3) n1) ∧ (wp_X6_token o (pI σ0 a1 (x2 + x3).toNatClampNeg (gI σ0 o 9)) (fun  s5 => Q 1 s5))) ∧ (¬ r2 < 0 → ∀ (r11 : Int32) (s7 : Hp), (r11, s7) = f_X6_wrong o σ0 3 → (r11 = 0 ∨ r11 = 1) ∧ (Q r11 s7)))) ∧ (¬ (gI σ0 o 8) = 2 → ∀ (r17 : Int32) (s13 : Hp), (r17, s13) = f_X6_wrong o σ0 1 → (r17 = 0 ∨ r17 = 1) ∧ (Q r17 s13))
theorem met_X6_newName (o : Nat) (σ0 : Hp) (a1 n1 : Nat) (x2 : Int32) (x3 : Int32) (Q : Int32 → Hp → Prop) (hB0 : MB o σ0) (ha1 : gT σ0 a1 = some (.inr (.int, n1))) (h : wp_X6_newName o σ0 a1 n1 x2 x3 Q) : MetX yX6_newName cX6_newName 4 (some .boolean) rm_X6_newName σ0 [.ref o, .ref a1, .int x2, .int x3] (oI (fun r σ' => SH σ0 σ' ∧ Q r σ')) 0 0 := by
  refine metX_of (own := RX6) (lvs := [(0, .ref o), (1, .ref a1), (2, .int x2), (3, .int x3)]) (by decide) rfl (Nat.le_of_ble_eq_true rfl) rfl (fun G rq => ?_)
  unfold wp_X6_newName at h
  refine x_aload_n dX6_newName_0 (n := 1) rfl rfl 0 rfl ?_
  refine x_geti fl_X6_139_0 rfl hB0.1 rfl dX6_newName_1 (n := 4) rfl ?_
  refine x_iconst dX6_newName_4 (n := 5) rfl ic_2 ?_
  refine x_icmp_eq (tgt := 14) dX6_newName_5 rfl (n := 8) rfl (fun c1 => ?_) (fun c1 => ?_)
  · have h := h.1 c1
    refine x_aload_n dX6_newName_14 (n := 15) rfl rfl 1 rfl ?_
    refine x_iload_n dX6_newName_15 (n := 16) rfl rfl 2 rfl ?_
    refine x_iload_n dX6_newName_16 (n := 17) rfl rfl 3 rfl ?_
    refine x_aload_n dX6_newName_17 (n := 18) rfl rfl 0 rfl ?_
    refine x_geti fl_X6_150_0 rfl hB0.1 rfl dX6_newName_18 (n := 21) rfl ?_
    refine x_cSip (As := [.ref a1, .int x2, .int x3, .int (gI σ0 o 9)]) (rest := []) cs_X6_255 (met_X6_find σ0 a1 n1 x2 x3 (gI σ0 o 9) _ ((SH.rf (σ := σ0)).t ha1) h) (by decide) rfl rfl rfl dX6_newName_21 (n := 24) rfl (fun r2 h => ?_)
    refine x_if_lt (tgt := 33) dX6_newName_24 rfl (n := 27) rfl (fun c3 => ?_) (fun c3 => ?_)
    · have h := h.1 c3
      refine x_aload_n dX6_newName_33 (n := 34) rfl rfl 1 rfl ?_
      refine x_iload_n dX6_newName_34 (n := 35) rfl rfl 2 rfl ?_
      refine x_iload_n dX6_newName_35 (n := 36) rfl rfl 3 rfl ?_
      refine x_iadd dX6_newName_36 (n := 37) rfl ?_
      refine x_aload_n dX6_newName_37 (n := 38) rfl rfl 0 rfl ?_
      refine x_geti fl_X6_150_0 rfl hB0.1 rfl dX6_newName_38 (n := 41) rfl ?_
      obtain ⟨b4, h⟩ := h
      refine x_iast ((SH.rf (σ := σ0)).t ha1) b4 rfl dX6_newName_41 (n := 42) rfl ?_
      refine x_aload_n dX6_newName_42 (n := 43) rfl rfl 0 rfl ?_
      refine x_cVvm (As := []) (rest := []) cv_X6_173 ck0 (met_X6_token o (pI σ0 a1 (x2 + x3).toNatClampNeg (gI σ0 o 9)) _ hB0.i h) hB0.i.1 (by decide) rfl rfl rfl dX6_newName_43 (n := 46) rfl (fun  s5 hs6 h => ?_)
      have hs6t := (SH.rf (σ := σ0)).i.tr hs6; have hBs5 := hB0.sh hs6t
      refine x_iconst dX6_newName_46 (n := 47) rfl ic_1 ?_
      exact x_zret rq ⟨hs6t, h⟩ isB1 dX6_newName_47
    · have h := h.2 c3
      refine x_aload_n dX6_newName_27 (n := 28) rfl rfl 0 rfl ?_
      refine x_iconst dX6_newName_28 (n := 29) rfl ic_3 ?_
      refine x_cVim (As := [.int 3]) (rest := []) cv_X6_163 ck0 (met_X6_wrong o σ0 3 hB0) hB0.1 (by decide) rfl rfl rfl dX6_newName_29 (n := 32) rfl (fun r11 s7 hs8 e10 => ?_)
      have hs8t := (SH.rf (σ := σ0)).tr hs8; have hBs7 := hB0.sh hs8t
      have h := h r11 s7 e10
      obtain ⟨b12, h⟩ := h
      exact x_zret rq ⟨hs8t, h⟩ b12 dX6_newName_32
  · have h := h.2 c1
    refine x_aload_n dX6_newName_8 (n := 9) rfl rfl 0 rfl ?_
    refine x_iconst dX6_newName_9 (n := 10) rfl ic_1 ?_
    refine x_cVim (As := [.int 1]) (rest := []) cv_X6_163 ck0 (met_X6_wrong o σ0 1 hB0) hB0.1 (by decide) rfl rfl rfl dX6_newName_10 (n := 13) rfl (fun r17 s13 hs14 e16 => ?_)
    have hs14t := (SH.rf (σ := σ0)).tr hs14; have hBs13 := hB0.sh hs14t
    have h := h r17 s13 e16
    obtain ⟨b18, h⟩ := h
    exact x_zret rq ⟨hs14t, h⟩ b18 dX6_newName_13
abbrev rm_X6_oldName : Room := { frames := 2, cells := 0, slots := 0, locals := 47 }
def wp_X6_oldName (o : Nat) (σ0 : Hp) (a1 n1 : Nat) (x2 : Int32) (x3 : Int32) (Q : Int32 → Hp → Prop) : Prop := ((gI σ0 o 8) = 2 → wp_X6_find σ0 a1 n1 x2 x3 (gI σ0 o 9) (fun r2 => (0 ≤ r2 → wp_X6_token o (pI σ0 o 11 r2) (fun  s4 => Q 1 s4)) ∧ (¬ 0 ≤ r2 → ∀ (r10 : Int32) (s6 : Hp), (r10, s6) = f_X6_wrong o σ0 4 → (r10 = 0 ∨ r10 = 1) ∧ (Q r10 s6)))) ∧ (¬ (gI σ0 o 8) = 2 → ∀ (r16 : Int32) (s12 : Hp), (r16, s12) = f_X6_wrong o σ0 1 → (r16 = 0 ∨ r16 = 1) ∧ (Q r16 s12))
theorem met_X6_oldName (o : Nat) (σ0 : Hp) (a1 n1 : Nat) (x2 : Int32) (x3 : Int32) (Q : Int32 → Hp → Prop) (hB0 : MB o σ0) (ha1 : gT σ0 a1 = some (.inr (.int, n1))) (h : wp_X6_oldName o σ0 a1 n1 x2 x3 Q) : MetX yX6_oldName cX6_oldName 5 (some .boolean) rm_X6_oldName σ0 [.ref o, .ref a1, .int x2, .int x3] (oI (fun r σ' => SH σ0 σ' ∧ Q r σ')) 0 0 := by
  refine metX_of (own := RX6) (lvs := [(0, .ref o), (1, .ref a1), (2, .int x2), (3, .int x3)]) (by decide) rfl (Nat.le_of_ble_eq_true rfl) rfl (fun G rq => ?_)
  unfold wp_X6_oldName at h
  refine x_aload_n dX6_oldName_0 (n := 1) rfl rfl 0 rfl ?_
  refine x_geti fl_X6_139_0 rfl hB0.1 rfl dX6_oldName_1 (n := 4) rfl ?_
  refine x_iconst dX6_oldName_4 (n := 5) rfl ic_2 ?_
  refine x_icmp_eq (tgt := 14) dX6_oldName_5 rfl (n := 8) rfl (fun c1 => ?_) (fun c1 => ?_)
  · have h := h.1 c1
    refine x_aload_n dX6_oldName_14 (n := 15) rfl rfl 1 rfl ?_
    refine x_iload_n dX6_oldName_15 (n := 16) rfl rfl 2 rfl ?_
    refine x_iload_n dX6_oldName_16 (n := 17) rfl rfl 3 rfl ?_
    refine x_aload_n dX6_oldName_17 (n := 18) rfl rfl 0 rfl ?_
    refine x_geti fl_X6_150_0 rfl hB0.1 rfl dX6_oldName_18 (n := 21) rfl ?_
    refine x_cSip (As := [.ref a1, .int x2, .int x3, .int (gI σ0 o 9)]) (rest := []) cs_X6_255 (met_X6_find σ0 a1 n1 x2 x3 (gI σ0 o 9) _ ((SH.rf (σ := σ0)).t ha1) h) (by decide) rfl rfl rfl dX6_oldName_21 (n := 24) rfl (fun r2 h => ?_)
    refine x_istore (lvs' := [(4, .int r2), (0, .ref o), (1, .ref a1), (2, .int x2), (3, .int x3)]) dX6_oldName_24 (n := 26) rfl (by decide) rfl ?_
    refine x_iload dX6_oldName_26 (n := 28) rfl 0 rfl ?_
    refine x_if_ge (tgt := 37) dX6_oldName_28 rfl (n := 31) rfl (fun c3 => ?_) (fun c3 => ?_)
    · have h := h.1 c3
      refine x_aload_n dX6_oldName_37 (n := 38) rfl rfl 1 rfl ?_
      refine x_iload dX6_oldName_38 (n := 40) rfl 0 rfl ?_
      refine x_puti fp_X6_170_0 rfl hB0.1 dX6_oldName_40 (n := 43) rfl ?_
      refine x_aload_n dX6_oldName_43 (n := 44) rfl rfl 1 rfl ?_
      refine x_cVvm (As := []) (rest := []) cv_X6_173 ck0 (met_X6_token o (pI σ0 o 11 r2) _ hB0.i h) hB0.i.1 (by decide) rfl rfl rfl dX6_oldName_44 (n := 47) rfl (fun  s4 hs5 h => ?_)
      have hs5t := (SH.rf (σ := σ0)).i.tr hs5; have hBs4 := hB0.sh hs5t
      refine x_iconst dX6_oldName_47 (n := 48) rfl ic_1 ?_
      exact x_zret rq ⟨hs5t, h⟩ isB1 dX6_oldName_48
    · have h := h.2 c3
      refine x_aload_n dX6_oldName_31 (n := 32) rfl rfl 1 rfl ?_
      refine x_iconst dX6_oldName_32 (n := 33) rfl ic_4 ?_
      refine x_cVim (As := [.int 4]) (rest := []) cv_X6_163 ck0 (met_X6_wrong o σ0 4 hB0) hB0.1 (by decide) rfl rfl rfl dX6_oldName_33 (n := 36) rfl (fun r10 s6 hs7 e9 => ?_)
      have hs7t := (SH.rf (σ := σ0)).tr hs7; have hBs6 := hB0.sh hs7t
      have h := h r10 s6 e9
      obtain ⟨b11, h⟩ := h
      exact x_zret rq ⟨hs7t, h⟩ b11 dX6_oldName_36
  · have h := h.2 c1
    refine x_aload_n dX6_oldName_8 (n := 9) rfl rfl 0 rfl ?_
    refine x_iconst dX6_oldName_9 (n := 10) rfl ic_1 ?_
    refine x_cVim (As := [.int 1]) (rest := []) cv_X6_163 ck0 (met_X6_wrong o σ0 1 hB0) hB0.1 (by decide) rfl rfl rfl dX6_oldName_10 (n := 13) rfl (fun r16 s12 hs13 e15 => ?_)
    have hs13t := (SH.rf (σ := σ0)).tr hs13; have hBs12 := hB0.sh hs13t
    have h := h r16 s12 e15
    obtain ⟨b17, h⟩ := h
    exact x_zret rq ⟨hs13t, h⟩ b17 dX6_oldName_13
abbrev rm_X6_deedLine : Room := { frames := 4, cells := 0, slots := 0, locals := 97 }
def wj_X6_deedLine_159 (o : Nat) (σ : Hp) (x1 : Int32) (x2 : Int32) (Q : Int32 → Hp → Prop)  : Prop := (vp_in x1 24) ∧ ((vp_in (x1 + 1) 24) ∧ (wp_X6_keyRead o (pI (pI σ (o + 14) x1.toNatClampNeg x2) (o + 14) (x1 + 1).toNatClampNeg (gI σ o 11)) 13 (fun r52 s50 => (r52 = 0 → Q 0 s50) ∧ (¬ r52 = 0 → wp_X6_number o s50 0 999 (fun r56 s54 => (r56 = 0 → Q 0 s54) ∧ (¬ r56 = 0 → (vp_in (x1 + 2) 24) ∧ (Q 1 (pI (pI s54 (o + 14) (x1 + 2).toNatClampNeg (gI s54 o 11)) o 21 ((gI s54 o 21) + 1)))))))))
def wj_X6_deedLine_151 (o : Nat) (σ : Hp) (x1 : Int32) (x2 : Int32) (w0 : Int32) (Q : Int32 → Hp → Prop)  : Prop := wp_X6_number o σ 0 w0 (fun r61 s59 => (r61 = 0 → Q 0 s59) ∧ (¬ r61 = 0 → wj_X6_deedLine_159 o s59 x1 x2 Q))
def wp_X6_deedLine (o : Nat) (σ0 : Hp) (Q : Int32 → Hp → Prop) : Prop := ((gI σ0 o 21) = 4 → ∀ (r46 : Int32) (s42 : Hp), (r46, s42) = f_X6_wrong o σ0 2 → (r46 = 0 ∨ r46 = 1) ∧ (Q r46 s42)) ∧ (¬ (gI σ0 o 21) = 4 → wp_X6_token o σ0 (fun  s2 => wp_X6_newName o s2 (o + 12) 8 4 (gI s2 o 21) (fun r6 s4 => (r6 = 0 → Q 0 s4) ∧ (¬ r6 = 0 → wp_X6_dateRead o s4 0 (fun r10 s8 => (r10 = 0 → Q 0 s8) ∧ (¬ r10 = 0 → (vp_in (4 + (gI s8 o 21)) 8) ∧ (((gI s8 o 8) = 1 → ((gI s8 o 9) < 10 → ∀ (r25 : Int32) (s21 : Hp), (r25, s21) = f_X6_wrong o (pL s8 (o + 13) (4 + (gI s8 o 21)).toNatClampNeg (gL s8 o 44)) 1 → (r25 = 0 ∨ r25 = 1) ∧ (Q r25 s21)) ∧ (¬ (gI s8 o 9) < 10 → ((gI s8 o 9) ≤ 12 → wp_X6_token o (pL s8 (o + 13) (4 + (gI s8 o 21)).toNatClampNeg (gL s8 o 44)) (fun  s28 => (((gI s8 o 9) - 10) = 2 → wp_X6_oldName o s28 (o + 6) 8 4 (gI s28 o 19) (fun r34 s32 => (r34 = 0 → Q 0 s32) ∧ (¬ r34 = 0 → wj_X6_deedLine_159 o s32 (12 + (3 * (gI s8 o 21))) ((gI s8 o 9) - 10) Q))) ∧ (¬ ((gI s8 o 9) - 10) = 2 → (((gI s8 o 9) - 10) = 0 → wj_X6_deedLine_151 o s28 (12 + (3 * (gI s8 o 21))) ((gI s8 o 9) - 10) 999 Q) ∧ (¬ ((gI s8 o 9) - 10) = 0 → wj_X6_deedLine_151 o s28 (12 + (3 * (gI s8 o 21))) ((gI s8 o 9) - 10) 99999 Q)))) ∧ (¬ (gI s8 o 9) ≤ 12 → ∀ (r40 : Int32) (s36 : Hp), (r40, s36) = f_X6_wrong o (pL s8 (o + 13) (4 + (gI s8 o 21)).toNatClampNeg (gL s8 o 44)) 1 → (r40 = 0 ∨ r40 = 1) ∧ (Q r40 s36)))) ∧ (¬ (gI s8 o 8) = 1 → ∀ (r18 : Int32) (s14 : Hp), (r18, s14) = f_X6_wrong o (pL s8 (o + 13) (4 + (gI s8 o 21)).toNatClampNeg (gL s8 o 44)) 1 → (r18 = 0 ∨ r18 = 1) ∧ (Q r18 s14)))))))))
theorem xj_X6_deedLine_159 (o : Nat) (σ0 : Hp) (Q : Int32 → Hp → Prop) (G : XE) (hB0 : MB o σ0) (rq : RQ G 0 0 (oI (fun r σ' => SH σ0 σ' ∧ Q r σ'))) (σ : Hp) (x1 : Int32) (x2 : Int32)    (hs : SH σ0 σ) (h : wj_X6_deedLine_159 o σ x1 x2 Q ) : X G rm_X6_deedLine cX6_deedLine RX6 3 (some .boolean) σ 0 0 159 [(0, .ref o), (1, .int x1), (2, .int x2)] [] := by
  have hs : SH σ0 σ := hs
  have hB := hB0.sh hs
  unfold wj_X6_deedLine_159 at h
  refine x_aload_n dX6_deedLine_159 (n := 160) rfl rfl 0 rfl ?_
  refine x_getr fl_X6_54_0 rfl hB.1 hB.r38 dX6_deedLine_160 (n := 163) rfl ?_
  refine x_iload_n dX6_deedLine_163 (n := 164) rfl rfl 1 rfl ?_
  refine x_iload_n dX6_deedLine_164 (n := 165) rfl rfl 2 rfl ?_
  obtain ⟨b48, h⟩ := h
  refine x_iast hB.a38 b48 rfl dX6_deedLine_165 (n := 166) rfl ?_
  refine x_aload_n dX6_deedLine_166 (n := 167) rfl rfl 0 rfl ?_
  refine x_getr fl_X6_54_0 rfl hB.i.1 hB.i.r38 dX6_deedLine_167 (n := 170) rfl ?_
  refine x_iload_n dX6_deedLine_170 (n := 171) rfl rfl 1 rfl ?_
  refine x_iconst dX6_deedLine_171 (n := 172) rfl ic_1 ?_
  refine x_iadd dX6_deedLine_172 (n := 173) rfl ?_
  refine x_aload_n dX6_deedLine_173 (n := 174) rfl rfl 0 rfl ?_
  refine x_geti fl_X6_170_0 rfl hB.i.1 (gIo (by omega)) dX6_deedLine_174 (n := 177) rfl ?_
  obtain ⟨b49, h⟩ := h
  refine x_iast hB.i.a38 b49 rfl dX6_deedLine_177 (n := 178) rfl ?_
  refine x_aload_n dX6_deedLine_178 (n := 179) rfl rfl 0 rfl ?_
  refine x_bipush dX6_deedLine_179 (n := 181) rfl bp_13 ?_
  refine x_cVim (As := [.int 13]) (rest := []) cv_X6_290 ck0 (met_X6_keyRead o (pI (pI σ (o + 14) x1.toNatClampNeg x2) (o + 14) (x1 + 1).toNatClampNeg (gI σ o 11)) 13 _ hB.i.i h) hB.i.i.1 (by decide) rfl rfl rfl dX6_deedLine_181 (n := 184) rfl (fun r52 s50 hs51 h => ?_)
  have hs51t := hs.i.i.tr hs51; have hBs50 := hB0.sh hs51t
  refine x_if_eq (tgt := 198) dX6_deedLine_184 rfl (n := 187) rfl (fun c53 => ?_) (fun c53 => ?_)
  · have h := h.1 c53
    refine x_iconst dX6_deedLine_198 (n := 199) rfl ic_0 ?_
    exact x_zret rq ⟨hs51t, h⟩ isB0 dX6_deedLine_199
  · have h := h.2 c53
    refine x_aload_n dX6_deedLine_187 (n := 188) rfl rfl 0 rfl ?_
    refine x_iconst dX6_deedLine_188 (n := 189) rfl ic_0 ?_
    refine x_sipush dX6_deedLine_189 (n := 192) rfl sp_999 ?_
    refine x_cVim (As := [.int 0, .int 999]) (rest := []) cv_X6_179 ck0 (met_X6_number o s50 0 999 _ hBs50 h) hBs50.1 (by decide) rfl rfl rfl dX6_deedLine_192 (n := 195) rfl (fun r56 s54 hs55 h => ?_)
    have hs55t := hs51t.tr hs55; have hBs54 := hB0.sh hs55t
    refine x_if_ne (tgt := 200) dX6_deedLine_195 rfl (n := 198) rfl (fun c57 => ?_) (fun c57 => ?_)
    · have h := h.2 c57
      refine x_aload_n dX6_deedLine_200 (n := 201) rfl rfl 0 rfl ?_
      refine x_getr fl_X6_54_0 rfl hBs54.1 hBs54.r38 dX6_deedLine_201 (n := 204) rfl ?_
      refine x_iload_n dX6_deedLine_204 (n := 205) rfl rfl 1 rfl ?_
      refine x_iconst dX6_deedLine_205 (n := 206) rfl ic_2 ?_
      refine x_iadd dX6_deedLine_206 (n := 207) rfl ?_
      refine x_aload_n dX6_deedLine_207 (n := 208) rfl rfl 0 rfl ?_
      refine x_geti fl_X6_170_0 rfl hBs54.1 rfl dX6_deedLine_208 (n := 211) rfl ?_
      obtain ⟨b58, h⟩ := h
      refine x_iast hBs54.a38 b58 rfl dX6_deedLine_211 (n := 212) rfl ?_
      refine x_aload_n dX6_deedLine_212 (n := 213) rfl rfl 0 rfl ?_
      refine x_dup dX6_deedLine_213 (n := 214) rfl rfl ?_
      refine x_geti fl_X6_195_0 rfl hBs54.i.1 (gIo (by omega)) dX6_deedLine_214 (n := 217) rfl ?_
      refine x_iconst dX6_deedLine_217 (n := 218) rfl ic_1 ?_
      refine x_iadd dX6_deedLine_218 (n := 219) rfl ?_
      refine x_puti fp_X6_195_0 rfl hBs54.i.1 dX6_deedLine_219 (n := 222) rfl ?_
      refine x_iconst dX6_deedLine_222 (n := 223) rfl ic_1 ?_
      exact x_zret rq ⟨hs55t.i.i, h⟩ isB1 dX6_deedLine_223
    · have h := h.1 c57
      refine x_iconst dX6_deedLine_198 (n := 199) rfl ic_0 ?_
      exact x_zret rq ⟨hs55t, h⟩ isB0 dX6_deedLine_199
theorem xj_X6_deedLine_151 (o : Nat) (σ0 : Hp) (Q : Int32 → Hp → Prop) (G : XE) (hB0 : MB o σ0) (rq : RQ G 0 0 (oI (fun r σ' => SH σ0 σ' ∧ Q r σ'))) (σ : Hp) (x1 : Int32) (x2 : Int32) (w0 : Int32)    (hs : SH σ0 σ) (h : wj_X6_deedLine_151 o σ x1 x2 w0 Q ) : X G rm_X6_deedLine cX6_deedLine RX6 3 (some .boolean) σ 0 0 151 [(0, .ref o), (1, .int x1), (2, .int x2)] [.int w0, .int 0, .ref o] := by
  have hs : SH σ0 σ := hs
  have hB := hB0.sh hs
  unfold wj_X6_deedLine_151 at h
  refine x_cVim (As := [.int 0, .int w0]) (rest := []) cv_X6_179 ck0 (met_X6_number o σ 0 w0 _ hB h) hB.1 (by decide) rfl rfl rfl dX6_deedLine_151 (n := 154) rfl (fun r61 s59 hs60 h => ?_)
  have hs60t := hs.tr hs60; have hBs59 := hB0.sh hs60t
  refine x_if_ne (tgt := 159) dX6_deedLine_154 rfl (n := 157) rfl (fun c62 => ?_) (fun c62 => ?_)
  · have h := h.2 c62
    exact x_sub [0, 1, 2] rfl (xj_X6_deedLine_159 o σ0 Q G hB0 rq s59 x1 x2 hs60t h)
  · have h := h.1 c62
    refine x_iconst dX6_deedLine_157 (n := 158) rfl ic_0 ?_
    exact x_zret rq ⟨hs60t, h⟩ isB0 dX6_deedLine_158
theorem met_X6_deedLine (o : Nat) (σ0 : Hp) (Q : Int32 → Hp → Prop) (hB0 : MB o σ0) (h : wp_X6_deedLine o σ0 Q) : MetX yX6_deedLine cX6_deedLine 3 (some .boolean) rm_X6_deedLine σ0 [.ref o] (oI (fun r σ' => SH σ0 σ' ∧ Q r σ')) 0 0 := by
  refine metX_of (own := RX6) (lvs := [(0, .ref o)]) (by decide) rfl (Nat.le_of_ble_eq_true rfl) rfl (fun G rq => ?_)
  unfold wp_X6_deedLine at h
  refine x_aload_n dX6_deedLine_0 (n := 1) rfl rfl 0 rfl ?_
  refine x_geti fl_X6_195_0 rfl hB0.1 rfl dX6_deedLine_1 (n := 4) rfl ?_
  refine x_iconst dX6_deedLine_4 (n := 5) rfl ic_4 ?_
  refine x_icmp_ne (tgt := 14) dX6_deedLine_5 rfl (n := 8) rfl (fun c1 => ?_) (fun c1 => ?_)
  · have h := h.2 c1
    refine x_aload_n dX6_deedLine_14 (n := 15) rfl rfl 0 rfl ?_
    refine x_cVvm (As := []) (rest := []) cv_X6_173 ck0 (met_X6_token o σ0 _ hB0 h) hB0.1 (by decide) rfl rfl rfl dX6_deedLine_15 (n := 18) rfl (fun  s2 hs3 h => ?_)
    have hs3t := (SH.rf (σ := σ0)).tr hs3; have hBs2 := hB0.sh hs3t
    refine x_aload_n dX6_deedLine_18 (n := 19) rfl rfl 0 rfl ?_
    refine x_aload_n dX6_deedLine_19 (n := 20) rfl rfl 0 rfl ?_
    refine x_getr fl_X6_48_0 rfl hBs2.1 hBs2.r36 dX6_deedLine_20 (n := 23) rfl ?_
    refine x_iconst dX6_deedLine_23 (n := 24) rfl ic_4 ?_
    refine x_aload_n dX6_deedLine_24 (n := 25) rfl rfl 0 rfl ?_
    refine x_geti fl_X6_195_0 rfl hBs2.1 rfl dX6_deedLine_25 (n := 28) rfl ?_
    refine x_cVim (As := [.ref (o + 12), .int 4, .int (gI s2 o 21)]) (rest := []) cv_X6_259 ck0 (met_X6_newName o s2 (o + 12) 8 4 (gI s2 o 21) _ hBs2 hBs2.a36 h) hBs2.1 (by decide) rfl rfl rfl dX6_deedLine_28 (n := 31) rfl (fun r6 s4 hs5 h => ?_)
    have hs5t := hs3t.tr hs5; have hBs4 := hB0.sh hs5t
    refine x_if_eq (tgt := 42) dX6_deedLine_31 rfl (n := 34) rfl (fun c7 => ?_) (fun c7 => ?_)
    · have h := h.1 c7
      refine x_iconst dX6_deedLine_42 (n := 43) rfl ic_0 ?_
      exact x_zret rq ⟨hs5t, h⟩ isB0 dX6_deedLine_43
    · have h := h.2 c7
      refine x_aload_n dX6_deedLine_34 (n := 35) rfl rfl 0 rfl ?_
      refine x_lconst dX6_deedLine_35 (n := 36) rfl lc_0 ?_
      refine x_cVim (As := [.long 0]) (rest := []) cv_X6_283 ck0 (met_X6_dateRead o s4 0 _ hBs4 h) hBs4.1 (by decide) rfl rfl rfl dX6_deedLine_36 (n := 39) rfl (fun r10 s8 hs9 h => ?_)
      have hs9t := hs5t.tr hs9; have hBs8 := hB0.sh hs9t
      refine x_if_ne (tgt := 44) dX6_deedLine_39 rfl (n := 42) rfl (fun c11 => ?_) (fun c11 => ?_)
      · have h := h.2 c11
        refine x_aload_n dX6_deedLine_44 (n := 45) rfl rfl 0 rfl ?_
        refine x_getr fl_X6_51_0 rfl hBs8.1 hBs8.r37 dX6_deedLine_45 (n := 48) rfl ?_
        refine x_iconst dX6_deedLine_48 (n := 49) rfl ic_4 ?_
        refine x_aload_n dX6_deedLine_49 (n := 50) rfl rfl 0 rfl ?_
        refine x_geti fl_X6_195_0 rfl hBs8.1 rfl dX6_deedLine_50 (n := 53) rfl ?_
        refine x_iadd dX6_deedLine_53 (n := 54) rfl ?_
        refine x_aload_n dX6_deedLine_54 (n := 55) rfl rfl 0 rfl ?_
        refine x_getl fl_X6_279_0 rfl hBs8.1 rfl dX6_deedLine_55 (n := 58) rfl ?_
        obtain ⟨b12, h⟩ := h
        refine x_last hBs8.a37 b12 rfl dX6_deedLine_58 (n := 59) rfl ?_
        refine x_bipush dX6_deedLine_59 (n := 61) rfl bp_12 ?_
        refine x_iconst dX6_deedLine_61 (n := 62) rfl ic_3 ?_
        refine x_aload_n dX6_deedLine_62 (n := 63) rfl rfl 0 rfl ?_
        refine x_geti fl_X6_195_0 rfl hBs8.l.1 (gIl) dX6_deedLine_63 (n := 66) rfl ?_
        refine x_imul dX6_deedLine_66 (n := 67) rfl ?_
        refine x_iadd dX6_deedLine_67 (n := 68) rfl ?_
        refine x_istore_n (lvs' := [(1, .int (12 + (3 * (gI s8 o 21)))), (0, .ref o)]) dX6_deedLine_68 (n := 69) rfl rfl (by decide) rfl ?_
        refine x_aload_n dX6_deedLine_69 (n := 70) rfl rfl 1 rfl ?_
        refine x_geti fl_X6_139_0 rfl hBs8.l.1 (gIl) dX6_deedLine_70 (n := 73) rfl ?_
        refine x_iconst dX6_deedLine_73 (n := 74) rfl ic_1 ?_
        refine x_icmp_ne (tgt := 95) dX6_deedLine_74 rfl (n := 77) rfl (fun c13 => ?_) (fun c13 => ?_)
        · have h := h.2 c13
          refine x_aload_n dX6_deedLine_95 (n := 96) rfl rfl 1 rfl ?_
          refine x_iconst dX6_deedLine_96 (n := 97) rfl ic_1 ?_
          refine x_cVim (As := [.int 1]) (rest := []) cv_X6_163 ck0 (met_X6_wrong o (pL s8 (o + 13) (4 + (gI s8 o 21)).toNatClampNeg (gL s8 o 44)) 1 hBs8.l) hBs8.l.1 (by decide) rfl rfl rfl dX6_deedLine_97 (n := 100) rfl (fun r18 s14 hs15 e17 => ?_)
          have hs15t := hs9t.l.tr hs15; have hBs14 := hB0.sh hs15t
          have h := h r18 s14 e17
          obtain ⟨b19, h⟩ := h
          exact x_zret rq ⟨hs15t, h⟩ b19 dX6_deedLine_100
        · have h := h.1 c13
          refine x_aload_n dX6_deedLine_77 (n := 78) rfl rfl 1 rfl ?_
          refine x_geti fl_X6_150_0 rfl hBs8.l.1 (gIl) dX6_deedLine_78 (n := 81) rfl ?_
          refine x_bipush dX6_deedLine_81 (n := 83) rfl bp_10 ?_
          refine x_icmp_lt (tgt := 95) dX6_deedLine_83 rfl (n := 86) rfl (fun c20 => ?_) (fun c20 => ?_)
          · have h := h.1 c20
            refine x_aload_n dX6_deedLine_95 (n := 96) rfl rfl 1 rfl ?_
            refine x_iconst dX6_deedLine_96 (n := 97) rfl ic_1 ?_
            refine x_cVim (As := [.int 1]) (rest := []) cv_X6_163 ck0 (met_X6_wrong o (pL s8 (o + 13) (4 + (gI s8 o 21)).toNatClampNeg (gL s8 o 44)) 1 hBs8.l) hBs8.l.1 (by decide) rfl rfl rfl dX6_deedLine_97 (n := 100) rfl (fun r25 s21 hs22 e24 => ?_)
            have hs22t := hs9t.l.tr hs22; have hBs21 := hB0.sh hs22t
            have h := h r25 s21 e24
            obtain ⟨b26, h⟩ := h
            exact x_zret rq ⟨hs22t, h⟩ b26 dX6_deedLine_100
          · have h := h.2 c20
            refine x_aload_n dX6_deedLine_86 (n := 87) rfl rfl 1 rfl ?_
            refine x_geti fl_X6_150_0 rfl hBs8.l.1 (gIl) dX6_deedLine_87 (n := 90) rfl ?_
            refine x_bipush dX6_deedLine_90 (n := 92) rfl bp_12 ?_
            refine x_icmp_le (tgt := 101) dX6_deedLine_92 rfl (n := 95) rfl (fun c27 => ?_) (fun c27 => ?_)
            · have h := h.1 c27
              refine x_aload_n dX6_deedLine_101 (n := 102) rfl rfl 1 rfl ?_
              refine x_geti fl_X6_150_0 rfl hBs8.l.1 (gIl) dX6_deedLine_102 (n := 105) rfl ?_
              refine x_bipush dX6_deedLine_105 (n := 107) rfl bp_10 ?_
              refine x_isub dX6_deedLine_107 (n := 108) rfl ?_
              refine x_istore_n (lvs' := [(2, .int ((gI s8 o 9) - 10)), (1, .int (12 + (3 * (gI s8 o 21)))), (0, .ref o)]) dX6_deedLine_108 (n := 109) rfl rfl (by decide) rfl ?_
              refine x_aload_n dX6_deedLine_109 (n := 110) rfl rfl 2 rfl ?_
              refine x_cVvm (As := []) (rest := []) cv_X6_173 ck0 (met_X6_token o (pL s8 (o + 13) (4 + (gI s8 o 21)).toNatClampNeg (gL s8 o 44)) _ hBs8.l h) hBs8.l.1 (by decide) rfl rfl rfl dX6_deedLine_110 (n := 113) rfl (fun  s28 hs29 h => ?_)
              have hs29t := hs9t.l.tr hs29; have hBs28 := hB0.sh hs29t
              refine x_iload_n dX6_deedLine_113 (n := 114) rfl rfl 0 rfl ?_
              refine x_iconst dX6_deedLine_114 (n := 115) rfl ic_2 ?_
              refine x_icmp_ne (tgt := 137) dX6_deedLine_115 rfl (n := 118) rfl (fun c30 => ?_) (fun c30 => ?_)
              · have h := h.2 c30
                refine x_aload_n dX6_deedLine_137 (n := 138) rfl rfl 2 rfl ?_
                refine x_iconst dX6_deedLine_138 (n := 139) rfl ic_0 ?_
                refine x_iload_n dX6_deedLine_139 (n := 140) rfl rfl 0 rfl ?_
                refine x_if_ne (tgt := 149) dX6_deedLine_140 rfl (n := 143) rfl (fun c31 => ?_) (fun c31 => ?_)
                · have h := h.2 c31
                  refine x_ldc dX6_deedLine_149 (n := 151) rfl q1786 ?_
                  exact x_sub [2, 1, 0] rfl (xj_X6_deedLine_151 o σ0 Q G hB0 rq s28 (12 + (3 * (gI s8 o 21))) ((gI s8 o 9) - 10) 99999 hs29t h)
                · have h := h.1 c31
                  refine x_sipush dX6_deedLine_143 (n := 146) rfl sp_999 ?_
                  refine x_goto (tgt := 151) dX6_deedLine_146 rfl ?_
                  exact x_sub [2, 1, 0] rfl (xj_X6_deedLine_151 o σ0 Q G hB0 rq s28 (12 + (3 * (gI s8 o 21))) ((gI s8 o 9) - 10) 999 hs29t h)
              · have h := h.1 c30
                refine x_aload_n dX6_deedLine_118 (n := 119) rfl rfl 2 rfl ?_
                refine x_aload_n dX6_deedLine_119 (n := 120) rfl rfl 2 rfl ?_
                refine x_getr fl_X6_29_0 rfl hBs28.1 hBs28.r30 dX6_deedLine_120 (n := 123) rfl ?_
                refine x_iconst dX6_deedLine_123 (n := 124) rfl ic_4 ?_
                refine x_aload_n dX6_deedLine_124 (n := 125) rfl rfl 2 rfl ?_
                refine x_geti fl_X6_189_0 rfl hBs28.1 rfl dX6_deedLine_125 (n := 128) rfl ?_
                refine x_cVim (As := [.ref (o + 6), .int 4, .int (gI s28 o 19)]) (rest := []) cv_X6_287 ck0 (met_X6_oldName o s28 (o + 6) 8 4 (gI s28 o 19) _ hBs28 hBs28.a30 h) hBs28.1 (by decide) rfl rfl rfl dX6_deedLine_128 (n := 131) rfl (fun r34 s32 hs33 h => ?_)
                have hs33t := hs29t.tr hs33; have hBs32 := hB0.sh hs33t
                refine x_if_eq (tgt := 157) dX6_deedLine_131 rfl (n := 134) rfl (fun c35 => ?_) (fun c35 => ?_)
                · have h := h.1 c35
                  refine x_iconst dX6_deedLine_157 (n := 158) rfl ic_0 ?_
                  exact x_zret rq ⟨hs33t, h⟩ isB0 dX6_deedLine_158
                · have h := h.2 c35
                  refine x_goto (tgt := 159) dX6_deedLine_134 rfl ?_
                  exact x_sub [2, 1, 0] rfl (xj_X6_deedLine_159 o σ0 Q G hB0 rq s32 (12 + (3 * (gI s8 o 21))) ((gI s8 o 9) - 10) hs33t h)
            · have h := h.2 c27
              refine x_aload_n dX6_deedLine_95 (n := 96) rfl rfl 1 rfl ?_
              refine x_iconst dX6_deedLine_96 (n := 97) rfl ic_1 ?_
              refine x_cVim (As := [.int 1]) (rest := []) cv_X6_163 ck0 (met_X6_wrong o (pL s8 (o + 13) (4 + (gI s8 o 21)).toNatClampNeg (gL s8 o 44)) 1 hBs8.l) hBs8.l.1 (by decide) rfl rfl rfl dX6_deedLine_97 (n := 100) rfl (fun r40 s36 hs37 e39 => ?_)
              have hs37t := hs9t.l.tr hs37; have hBs36 := hB0.sh hs37t
              have h := h r40 s36 e39
              obtain ⟨b41, h⟩ := h
              exact x_zret rq ⟨hs37t, h⟩ b41 dX6_deedLine_100
      · have h := h.1 c11
        refine x_iconst dX6_deedLine_42 (n := 43) rfl ic_0 ?_
        exact x_zret rq ⟨hs9t, h⟩ isB0 dX6_deedLine_43
  · have h := h.1 c1
    refine x_aload_n dX6_deedLine_8 (n := 9) rfl rfl 0 rfl ?_
    refine x_iconst dX6_deedLine_9 (n := 10) rfl ic_2 ?_
    refine x_cVim (As := [.int 2]) (rest := []) cv_X6_163 ck0 (met_X6_wrong o σ0 2 hB0) hB0.1 (by decide) rfl rfl rfl dX6_deedLine_10 (n := 13) rfl (fun r46 s42 hs43 e45 => ?_)
    have hs43t := (SH.rf (σ := σ0)).tr hs43; have hBs42 := hB0.sh hs43t
    have h := h r46 s42 e45
    obtain ⟨b47, h⟩ := h
    exact x_zret rq ⟨hs43t, h⟩ b47 dX6_deedLine_13
abbrev rm_X6_dropHeld : Room := { frames := 0, cells := 0, slots := 0, locals := 0 }
def f_X6_dropHeld (o : Nat) (σ0 : Hp) : Int32 × Hp := (gI (pI σ0 o 48 ((gI σ0 o 48) - 1)) (o + 21) ((gI σ0 o 48) - 1).toNatClampNeg, pI σ0 o 48 ((gI σ0 o 48) - 1))
def ok_X6_dropHeld (o : Nat) (σ0 : Hp) : Prop := vp_in ((gI σ0 o 48) - 1) 96
theorem met_X6_dropHeld (o : Nat) (σ0 : Hp) (hB0 : MB o σ0) (hk : ok_X6_dropHeld o σ0) : MetX yX6_dropHeld cX6_dropHeld 1 (some .int) rm_X6_dropHeld σ0 [.ref o] (oI (fun r σ' => SH σ0 σ' ∧ (r, σ') = (f_X6_dropHeld o σ0))) 0 0 := by
  refine metX_of (own := RX6) (lvs := [(0, .ref o)]) (by decide) rfl (Nat.le_of_ble_eq_true rfl) rfl (fun G rq => ?_)
  have hv : (f_X6_dropHeld o σ0) = _ := f_X6_dropHeld.eq_1 _ _
  unfold ok_X6_dropHeld at hk
  refine x_aload_n dX6_dropHeld_0 (n := 1) rfl rfl 0 rfl ?_
  refine x_dup dX6_dropHeld_1 (n := 2) rfl rfl ?_
  refine x_geti fl_X6_330_0 rfl hB0.1 rfl dX6_dropHeld_2 (n := 5) rfl ?_
  refine x_iconst dX6_dropHeld_5 (n := 6) rfl ic_1 ?_
  refine x_isub dX6_dropHeld_6 (n := 7) rfl ?_
  refine x_puti fp_X6_330_0 rfl hB0.1 dX6_dropHeld_7 (n := 10) rfl ?_
  refine x_aload_n dX6_dropHeld_10 (n := 11) rfl rfl 0 rfl ?_
  refine x_getr fl_X6_75_0 rfl hB0.i.1 hB0.i.r46 dX6_dropHeld_11 (n := 14) rfl ?_
  refine x_aload_n dX6_dropHeld_14 (n := 15) rfl rfl 0 rfl ?_
  refine x_geti fl_X6_330_0 rfl hB0.i.1 (gIs) dX6_dropHeld_15 (n := 18) rfl ?_
  have b1 := hk
  refine x_iald hB0.i.a46 b1 rfl dX6_dropHeld_18 (n := 19) rfl ?_
  exact x_iret rq ⟨(SH.rf (σ := σ0)).i, hv.symm⟩ dX6_dropHeld_19
abbrev rm_X6_grown : Room := { frames := 0, cells := 0, slots := 0, locals := 0 }
def f_X6_grown (o : Nat) (σ0 : Hp) (x1 : Int32) (x2 : Int32) (x3 : Int32) : Hp := pI (pI (pI (pI (pI (pI σ0 (o + 17) (64 + (gI σ0 o 23)).toNatClampNeg x1) (o + 18) (64 + (gI σ0 o 23)).toNatClampNeg x2) (o + 19) (64 + (gI σ0 o 23)).toNatClampNeg x3) (o + 21) (gI σ0 o 48).toNatClampNeg (gI σ0 o 23)) o 48 ((gI σ0 o 48) + 1)) o 23 ((gI σ0 o 23) + 1)
def ok_X6_grown (o : Nat) (σ0 : Hp) (x1 : Int32) (x2 : Int32) (x3 : Int32) : Prop := (vp_in (64 + (gI σ0 o 23)) 128) ∧ ((vp_in (64 + (gI σ0 o 23)) 128) ∧ ((vp_in (64 + (gI σ0 o 23)) 128) ∧ (vp_in (gI σ0 o 48) 96)))
theorem met_X6_grown (o : Nat) (σ0 : Hp) (x1 : Int32) (x2 : Int32) (x3 : Int32) (hB0 : MB o σ0) (hk : ok_X6_grown o σ0 x1 x2 x3) : MetX yX6_grown cX6_grown 4 none rm_X6_grown σ0 [.ref o, .int x1, .int x2, .int x3] (oV (fun σ' => SH σ0 σ' ∧ σ' = (f_X6_grown o σ0 x1 x2 x3))) 0 0 := by
  refine metX_of (own := RX6) (lvs := [(0, .ref o), (1, .int x1), (2, .int x2), (3, .int x3)]) (by decide) rfl (Nat.le_of_ble_eq_true rfl) rfl (fun G rq => ?_)
  have hv : (f_X6_grown o σ0 x1 x2 x3) = _ := f_X6_grown.eq_1 _ _ _ _ _
  unfold ok_X6_grown at hk
  refine x_aload_n dX6_grown_0 (n := 1) rfl rfl 0 rfl ?_
  refine x_getr fl_X6_63_0 rfl hB0.1 hB0.r41 dX6_grown_1 (n := 4) rfl ?_
  refine x_bipush dX6_grown_4 (n := 6) rfl bp_64 ?_
  refine x_aload_n dX6_grown_6 (n := 7) rfl rfl 0 rfl ?_
  refine x_geti fl_X6_201_0 rfl hB0.1 rfl dX6_grown_7 (n := 10) rfl ?_
  refine x_iadd dX6_grown_10 (n := 11) rfl ?_
  refine x_iload_n dX6_grown_11 (n := 12) rfl rfl 1 rfl ?_
  obtain ⟨b1, hk⟩ := hk
  refine x_iast hB0.a41 b1 rfl dX6_grown_12 (n := 13) rfl ?_
  refine x_aload_n dX6_grown_13 (n := 14) rfl rfl 0 rfl ?_
  refine x_getr fl_X6_66_0 rfl hB0.i.1 hB0.i.r42 dX6_grown_14 (n := 17) rfl ?_
  refine x_bipush dX6_grown_17 (n := 19) rfl bp_64 ?_
  refine x_aload_n dX6_grown_19 (n := 20) rfl rfl 0 rfl ?_
  refine x_geti fl_X6_201_0 rfl hB0.i.1 (gIo (by omega)) dX6_grown_20 (n := 23) rfl ?_
  refine x_iadd dX6_grown_23 (n := 24) rfl ?_
  refine x_iload_n dX6_grown_24 (n := 25) rfl rfl 2 rfl ?_
  obtain ⟨b2, hk⟩ := hk
  refine x_iast hB0.i.a42 b2 rfl dX6_grown_25 (n := 26) rfl ?_
  refine x_aload_n dX6_grown_26 (n := 27) rfl rfl 0 rfl ?_
  refine x_getr fl_X6_69_0 rfl hB0.i.i.1 hB0.i.i.r43 dX6_grown_27 (n := 30) rfl ?_
  refine x_bipush dX6_grown_30 (n := 32) rfl bp_64 ?_
  refine x_aload_n dX6_grown_32 (n := 33) rfl rfl 0 rfl ?_
  refine x_geti fl_X6_201_0 rfl hB0.i.i.1 ((gIo (by omega)).trans (gIo (by omega))) dX6_grown_33 (n := 36) rfl ?_
  refine x_iadd dX6_grown_36 (n := 37) rfl ?_
  refine x_iload_n dX6_grown_37 (n := 38) rfl rfl 3 rfl ?_
  obtain ⟨b3, hk⟩ := hk
  refine x_iast hB0.i.i.a43 b3 rfl dX6_grown_38 (n := 39) rfl ?_
  refine x_aload_n dX6_grown_39 (n := 40) rfl rfl 0 rfl ?_
  refine x_getr fl_X6_75_0 rfl hB0.i.i.i.1 hB0.i.i.i.r46 dX6_grown_40 (n := 43) rfl ?_
  refine x_aload_n dX6_grown_43 (n := 44) rfl rfl 0 rfl ?_
  refine x_geti fl_X6_330_0 rfl hB0.i.i.i.1 ((gIo (by omega)).trans ((gIo (by omega)).trans (gIo (by omega)))) dX6_grown_44 (n := 47) rfl ?_
  refine x_aload_n dX6_grown_47 (n := 48) rfl rfl 0 rfl ?_
  refine x_geti fl_X6_201_0 rfl hB0.i.i.i.1 ((gIo (by omega)).trans ((gIo (by omega)).trans (gIo (by omega)))) dX6_grown_48 (n := 51) rfl ?_
  have b4 := hk
  refine x_iast hB0.i.i.i.a46 b4 rfl dX6_grown_51 (n := 52) rfl ?_
  refine x_aload_n dX6_grown_52 (n := 53) rfl rfl 0 rfl ?_
  refine x_dup dX6_grown_53 (n := 54) rfl rfl ?_
  refine x_geti fl_X6_330_0 rfl hB0.i.i.i.i.1 ((gIo (by omega)).trans ((gIo (by omega)).trans ((gIo (by omega)).trans (gIo (by omega))))) dX6_grown_54 (n := 57) rfl ?_
  refine x_iconst dX6_grown_57 (n := 58) rfl ic_1 ?_
  refine x_iadd dX6_grown_58 (n := 59) rfl ?_
  refine x_puti fp_X6_330_0 rfl hB0.i.i.i.i.1 dX6_grown_59 (n := 62) rfl ?_
  refine x_aload_n dX6_grown_62 (n := 63) rfl rfl 0 rfl ?_
  refine x_dup dX6_grown_63 (n := 64) rfl rfl ?_
  refine x_geti fl_X6_201_0 rfl hB0.i.i.i.i.i.1 ((gIn (by decide)).trans ((gIo (by omega)).trans ((gIo (by omega)).trans ((gIo (by omega)).trans (gIo (by omega)))))) dX6_grown_64 (n := 67) rfl ?_
  refine x_iconst dX6_grown_67 (n := 68) rfl ic_1 ?_
  refine x_iadd dX6_grown_68 (n := 69) rfl ?_
  refine x_puti fp_X6_201_0 rfl hB0.i.i.i.i.i.1 dX6_grown_69 (n := 72) rfl ?_
  exact x_vret rq ⟨(SH.rf (σ := σ0)).i.i.i.i.i.i, hv.symm⟩ dX6_grown_72
abbrev rm_X6_rank : Room := { frames := 0, cells := 0, slots := 0, locals := 0 }
def f_X6_rank (x0 : Int32) : Int32 := if x0 < 13 then if x0 < 11 then if x0 < 5 then if x0 = 2 then 3 else if x0 = 3 then 2 else if x0 = 4 then 1 else 0 else 4 else 5 else 6
theorem met_X6_rank (σ : Hp) (x0 : Int32)  : MetX yX6_rank cX6_rank 1 (some .int) rm_X6_rank σ [.int x0] (oI (fun r σ' => σ' = σ ∧ r = (f_X6_rank x0))) 0 0 := by
  refine metX_of (own := RX6) (lvs := [(0, .int x0)]) (by decide) rfl (Nat.le_of_ble_eq_true rfl) rfl (fun G rq => ?_)
  have hv : (f_X6_rank x0) = _ := f_X6_rank.eq_1 _
  refine x_iload_n dX6_rank_0 (n := 1) rfl rfl 0 rfl ?_
  refine x_bipush dX6_rank_1 (n := 3) rfl bp_13 ?_
  refine x_icmp_lt (tgt := 11) dX6_rank_3 rfl (n := 6) rfl (fun c1 => ?_) (fun c1 => ?_)
  · have hv := hv.trans (if_pos c1)
    refine x_iload_n dX6_rank_11 (n := 12) rfl rfl 0 rfl ?_
    refine x_bipush dX6_rank_12 (n := 14) rfl bp_11 ?_
    refine x_icmp_lt (tgt := 21) dX6_rank_14 rfl (n := 17) rfl (fun c2 => ?_) (fun c2 => ?_)
    · have hv := hv.trans (if_pos c2)
      refine x_iload_n dX6_rank_21 (n := 22) rfl rfl 0 rfl ?_
      refine x_iconst dX6_rank_22 (n := 23) rfl ic_5 ?_
      refine x_icmp_lt (tgt := 30) dX6_rank_23 rfl (n := 26) rfl (fun c3 => ?_) (fun c3 => ?_)
      · have hv := hv.trans (if_pos c3)
        refine x_iload_n dX6_rank_30 (n := 31) rfl rfl 0 rfl ?_
        refine x_iconst dX6_rank_31 (n := 32) rfl ic_2 ?_
        refine x_icmp_ne (tgt := 39) dX6_rank_32 rfl (n := 35) rfl (fun c4 => ?_) (fun c4 => ?_)
        · have hv := hv.trans (if_neg c4)
          refine x_iload_n dX6_rank_39 (n := 40) rfl rfl 0 rfl ?_
          refine x_iconst dX6_rank_40 (n := 41) rfl ic_3 ?_
          refine x_icmp_ne (tgt := 48) dX6_rank_41 rfl (n := 44) rfl (fun c5 => ?_) (fun c5 => ?_)
          · have hv := hv.trans (if_neg c5)
            refine x_iload_n dX6_rank_48 (n := 49) rfl rfl 0 rfl ?_
            refine x_iconst dX6_rank_49 (n := 50) rfl ic_4 ?_
            refine x_icmp_ne (tgt := 57) dX6_rank_50 rfl (n := 53) rfl (fun c6 => ?_) (fun c6 => ?_)
            · have hv := hv.trans (if_neg c6)
              refine x_iconst dX6_rank_57 (n := 58) rfl ic_0 ?_
              exact x_iret rq ⟨rfl, hv.symm⟩ dX6_rank_58
            · have hv := hv.trans (if_pos c6)
              refine x_iconst dX6_rank_53 (n := 54) rfl ic_1 ?_
              refine x_goto (tgt := 58) dX6_rank_54 rfl ?_
              exact x_iret rq ⟨rfl, hv.symm⟩ dX6_rank_58
          · have hv := hv.trans (if_pos c5)
            refine x_iconst dX6_rank_44 (n := 45) rfl ic_2 ?_
            refine x_goto (tgt := 58) dX6_rank_45 rfl ?_
            exact x_iret rq ⟨rfl, hv.symm⟩ dX6_rank_58
        · have hv := hv.trans (if_pos c4)
          refine x_iconst dX6_rank_35 (n := 36) rfl ic_3 ?_
          refine x_goto (tgt := 58) dX6_rank_36 rfl ?_
          exact x_iret rq ⟨rfl, hv.symm⟩ dX6_rank_58
      · have hv := hv.trans (if_neg c3)
        refine x_iconst dX6_rank_26 (n := 27) rfl ic_4 ?_
        refine x_goto (tgt := 58) dX6_rank_27 rfl ?_
        exact x_iret rq ⟨rfl, hv.symm⟩ dX6_rank_58
    · have hv := hv.trans (if_neg c2)
      refine x_iconst dX6_rank_17 (n := 18) rfl ic_5 ?_
      refine x_goto (tgt := 58) dX6_rank_18 rfl ?_
      exact x_iret rq ⟨rfl, hv.symm⟩ dX6_rank_58
  · have hv := hv.trans (if_neg c1)
    refine x_bipush dX6_rank_6 (n := 8) rfl bp_6 ?_
    refine x_goto (tgt := 58) dX6_rank_8 rfl ?_
    exact x_iret rq ⟨rfl, hv.symm⟩ dX6_rank_58
abbrev rm_X6_bind : Room := { frames := 1, cells := 0, slots := 0, locals := 23 }
def wj_X6_bind_58 (o : Nat) (σ : Hp) (x1 : Int32) (x2 : Int32) (w0 : Int32) (Q : Hp → Prop) (K0 : (Hp) → Prop) : Prop := (ok_X6_dropHeld o σ) ∧ (∀ (r19 : Int32) (s15 : Hp), (r19, s15) = f_X6_dropHeld o σ → (ok_X6_grown o s15 x2 r19 w0) ∧ (∀ s20 : Hp, s20 = f_X6_grown o s15 x2 r19 w0 → K0 s20))
def lb_X6_bind_0 (o : Nat) (x1 : Int32) (Q : Hp → Prop)  (K0 : Hp → Prop) (σ : Hp) : Prop := ((gI σ o 47) ≤ 0 → Q σ) ∧ (¬ (gI σ o 47) ≤ 0 → (vp_in ((gI σ o 47) - 1) 96) ∧ (((f_X6_rank (gI σ (o + 20) ((gI σ o 47) - 1).toNatClampNeg)) < x1 → Q σ) ∧ (¬ (f_X6_rank (gI σ (o + 20) ((gI σ o 47) - 1).toNatClampNeg)) < x1 → (vp_in ((gI σ o 47) - 1) 96) ∧ (∀ v7 : Int32, v7 = gI (pI σ o 47 ((gI σ o 47) - 1)) (o + 20) ((gI σ o 47) - 1).toNatClampNeg → (v7 = 2 → wj_X6_bind_58 o (pI σ o 47 ((gI σ o 47) - 1)) x1 v7 (-1) Q K0) ∧ (¬ v7 = 2 → (ok_X6_dropHeld o (pI σ o 47 ((gI σ o 47) - 1))) ∧ (∀ (r14 : Int32) (s10 : Hp), (r14, s10) = f_X6_dropHeld o (pI σ o 47 ((gI σ o 47) - 1)) → wj_X6_bind_58 o s10 x1 v7 r14 Q K0))))))
def wp_X6_bind (o : Nat) (σ0 : Hp) (x1 : Int32) (Q : Hp → Prop) : Prop := lp (lb_X6_bind_0 o x1 Q) σ0
theorem xj_X6_bind_58 (o : Nat) (σ0 : Hp) (Q : Hp → Prop) (G : XE) (hB0 : MB o σ0) (rq : RQ G 0 0 (oV (fun σ' => SH σ0 σ' ∧ Q σ'))) (σ : Hp) (x1 : Int32) (x2 : Int32) (w0 : Int32)  (K0 : (Hp) → Prop) (hK0 : ∀ z : (Hp), SH σ0 z → K0 z → X G rm_X6_bind cX6_bind RX6 5 none z 0 0 0 [(0, .ref o), (1, .int x1)] []) (hs : SH σ0 σ) (h : wj_X6_bind_58 o σ x1 x2 w0 Q K0) : X G rm_X6_bind cX6_bind RX6 5 none σ 0 0 58 [(0, .ref o), (1, .int x1), (2, .int x2)] [.int w0] := by
  have hs : SH σ0 σ := hs
  have hB := hB0.sh hs
  unfold wj_X6_bind_58 at h
  refine x_istore_n (lvs' := [(3, .int w0), (0, .ref o), (1, .int x1), (2, .int x2)]) dX6_bind_58 (n := 59) rfl rfl (by decide) rfl ?_
  refine x_aload_n dX6_bind_59 (n := 60) rfl rfl 1 rfl ?_
  obtain ⟨b17, h⟩ := h
  refine x_cVim (As := []) (rest := []) cv_X6_340 ck0 (met_X6_dropHeld o σ hB b17) hB.1 (by decide) rfl rfl rfl dX6_bind_60 (n := 63) rfl (fun r19 s15 hs16 e18 => ?_)
  have hs16t := hs.tr hs16; have hBs15 := hB0.sh hs16t
  have h := h r19 s15 e18
  refine x_istore (lvs' := [(4, .int r19), (3, .int w0), (0, .ref o), (1, .int x1), (2, .int x2)]) dX6_bind_63 (n := 65) rfl (by decide) rfl ?_
  refine x_aload_n dX6_bind_65 (n := 66) rfl rfl 2 rfl ?_
  refine x_iload_n dX6_bind_66 (n := 67) rfl rfl 4 rfl ?_
  refine x_iload dX6_bind_67 (n := 69) rfl 0 rfl ?_
  refine x_iload_n dX6_bind_69 (n := 70) rfl rfl 1 rfl ?_
  obtain ⟨b22, h⟩ := h
  refine x_cVvm (As := [.int x2, .int r19, .int w0]) (rest := []) cv_X6_343 ck0 (met_X6_grown o s15 x2 r19 w0 hBs15 b22) hBs15.1 (by decide) rfl rfl rfl dX6_bind_70 (n := 73) rfl (fun  s20 hs21 e23 => ?_)
  have hs21t := hs16t.tr hs21; have hBs20 := hB0.sh hs21t
  have h := h s20 e23
  refine x_goto (tgt := 0) dX6_bind_73 rfl ?_
  exact x_sub [2, 3] rfl (hK0 s20 hs21t h)
theorem xl_X6_bind_0 (o : Nat) (σ0 : Hp) (Q : Hp → Prop) (G : XE) (hB0 : MB o σ0) (rq : RQ G 0 0 (oV (fun σ' => SH σ0 σ' ∧ Q σ'))) (x1 : Int32)    : ∀ z : Hp, SH σ0 z → lp (lb_X6_bind_0 o x1 Q ) z → X G rm_X6_bind cX6_bind RX6 5 none z 0 0 0 [(0, .ref o), (1, .int x1)] [] := by
  intro z
  refine fun hs h => lp_X (P := fun z => SH σ0 z → X G rm_X6_bind cX6_bind RX6 5 none z 0 0 0 [(0, .ref o), (1, .int x1)] []) ?_ h hs
  intro K0 hK0 σ h hs
  have hs : SH σ0 σ := hs
  have hB := hB0.sh hs
  simp only [lb_X6_bind_0] at h
  show X G rm_X6_bind cX6_bind RX6 5 none σ 0 0 0 [(0, .ref o), (1, .int x1)] []
  have hK0 : ∀ z : (Hp), SH σ0 z → K0 z → X G rm_X6_bind cX6_bind RX6 5 none z 0 0 0 [(0, .ref o), (1, .int x1)] [] := fun z hs h => hK0 z h hs
  refine x_aload_n dX6_bind_0 (n := 1) rfl rfl 0 rfl ?_
  refine x_geti fl_X6_333_0 rfl hB.1 rfl dX6_bind_1 (n := 4) rfl ?_
  refine x_if_le (tgt := 76) dX6_bind_4 rfl (n := 7) rfl (fun c1 => ?_) (fun c1 => ?_)
  · have h := h.1 c1
    exact x_vret rq ⟨hs, h⟩ dX6_bind_76
  · have h := h.2 c1
    refine x_aload_n dX6_bind_7 (n := 8) rfl rfl 0 rfl ?_
    refine x_getr fl_X6_72_0 rfl hB.1 hB.r45 dX6_bind_8 (n := 11) rfl ?_
    refine x_aload_n dX6_bind_11 (n := 12) rfl rfl 0 rfl ?_
    refine x_geti fl_X6_333_0 rfl hB.1 rfl dX6_bind_12 (n := 15) rfl ?_
    refine x_iconst dX6_bind_15 (n := 16) rfl ic_1 ?_
    refine x_isub dX6_bind_16 (n := 17) rfl ?_
    obtain ⟨b2, h⟩ := h
    refine x_iald hB.a45 b2 rfl dX6_bind_17 (n := 18) rfl ?_
    refine x_cSip (As := [.int (gI σ (o + 20) ((gI σ o 47) - 1).toNatClampNeg)]) (rest := []) cs_X6_336 (met_X6_rank σ (gI σ (o + 20) ((gI σ o 47) - 1).toNatClampNeg) ) (by decide) rfl rfl rfl dX6_bind_18 (n := 21) rfl (fun r4 q => ?_)
    subst q
    refine x_iload_n dX6_bind_21 (n := 22) rfl rfl 1 rfl ?_
    refine x_icmp_lt (tgt := 76) dX6_bind_22 rfl (n := 25) rfl (fun c5 => ?_) (fun c5 => ?_)
    · have h := h.1 c5
      exact x_vret rq ⟨hs, h⟩ dX6_bind_76
    · have h := h.2 c5
      refine x_aload_n dX6_bind_25 (n := 26) rfl rfl 0 rfl ?_
      refine x_dup dX6_bind_26 (n := 27) rfl rfl ?_
      refine x_geti fl_X6_333_0 rfl hB.1 rfl dX6_bind_27 (n := 30) rfl ?_
      refine x_iconst dX6_bind_30 (n := 31) rfl ic_1 ?_
      refine x_isub dX6_bind_31 (n := 32) rfl ?_
      refine x_puti fp_X6_333_0 rfl hB.1 dX6_bind_32 (n := 35) rfl ?_
      refine x_aload_n dX6_bind_35 (n := 36) rfl rfl 0 rfl ?_
      refine x_getr fl_X6_72_0 rfl hB.i.1 hB.i.r45 dX6_bind_36 (n := 39) rfl ?_
      refine x_aload_n dX6_bind_39 (n := 40) rfl rfl 0 rfl ?_
      refine x_geti fl_X6_333_0 rfl hB.i.1 (gIs) dX6_bind_40 (n := 43) rfl ?_
      obtain ⟨b6, h⟩ := h
      refine x_iald hB.i.a45 b6 rfl dX6_bind_43 (n := 44) rfl ?_
      refine x_topi (fun v7 e8 => ?_)
      have h := h v7 e8
      refine x_istore_n (lvs' := [(2, .int v7), (0, .ref o), (1, .int x1)]) dX6_bind_44 (n := 45) rfl rfl (by decide) rfl ?_
      refine x_iload_n dX6_bind_45 (n := 46) rfl rfl 0 rfl ?_
      refine x_iconst dX6_bind_46 (n := 47) rfl ic_2 ?_
      refine x_icmp_ne (tgt := 54) dX6_bind_47 rfl (n := 50) rfl (fun c9 => ?_) (fun c9 => ?_)
      · have h := h.2 c9
        refine x_aload_n dX6_bind_54 (n := 55) rfl rfl 1 rfl ?_
        obtain ⟨b12, h⟩ := h
        refine x_cVim (As := []) (rest := []) cv_X6_340 ck0 (met_X6_dropHeld o (pI σ o 47 ((gI σ o 47) - 1)) hB.i b12) hB.i.1 (by decide) rfl rfl rfl dX6_bind_55 (n := 58) rfl (fun r14 s10 hs11 e13 => ?_)
        have hs11t := hs.i.tr hs11; have hBs10 := hB0.sh hs11t
        have h := h r14 s10 e13
        exact x_sub [1, 2, 0] rfl (xj_X6_bind_58 o σ0 Q G hB0 rq s10 x1 v7 r14 K0 hK0 hs11t h)
      · have h := h.1 c9
        refine x_iconst dX6_bind_50 (n := 51) rfl ic_m1 ?_
        refine x_goto (tgt := 58) dX6_bind_51 rfl ?_
        exact x_sub [1, 2, 0] rfl (xj_X6_bind_58 o σ0 Q G hB0 rq (pI σ o 47 ((gI σ o 47) - 1)) x1 v7 (-1) K0 hK0 hs.i h)
theorem met_X6_bind (o : Nat) (σ0 : Hp) (x1 : Int32) (Q : Hp → Prop) (hB0 : MB o σ0) (h : wp_X6_bind o σ0 x1 Q) : MetX yX6_bind cX6_bind 5 none rm_X6_bind σ0 [.ref o, .int x1] (oV (fun σ' => SH σ0 σ' ∧ Q σ')) 0 0 := by
  refine metX_of (own := RX6) (lvs := [(0, .ref o), (1, .int x1)]) (by decide) rfl (Nat.le_of_ble_eq_true rfl) rfl (fun G rq => ?_)
  unfold wp_X6_bind at h
  exact x_sub [0, 1] rfl (xl_X6_bind_0 o σ0 Q G hB0 rq x1 σ0 (SH.rf (σ := σ0)) h)
abbrev rm_X6_isSign : Room := { frames := 0, cells := 0, slots := 0, locals := 0 }
def f_X6_isSign (o : Nat) (σ : Hp) (x1 : Int32) : Int32 := if (gI σ o 8) = 4 then if (gI σ o 9) = x1 then 1 else 0 else 0
theorem met_X6_isSign (o : Nat) (σ : Hp) (x1 : Int32) (hB : MB o σ) : MetX yX6_isSign cX6_isSign 2 (some .boolean) rm_X6_isSign σ [.ref o, .int x1] (oI (fun r σ' => σ' = σ ∧ r = (f_X6_isSign o σ x1))) 0 0 := by
  refine metX_of (own := RX6) (lvs := [(0, .ref o), (1, .int x1)]) (by decide) rfl (Nat.le_of_ble_eq_true rfl) rfl (fun G rq => ?_)
  have hv : (f_X6_isSign o σ x1) = _ := f_X6_isSign.eq_1 _ _ _
  refine x_aload_n dX6_isSign_0 (n := 1) rfl rfl 0 rfl ?_
  refine x_geti fl_X6_139_0 rfl hB.1 rfl dX6_isSign_1 (n := 4) rfl ?_
  refine x_iconst dX6_isSign_4 (n := 5) rfl ic_4 ?_
  refine x_icmp_ne (tgt := 20) dX6_isSign_5 rfl (n := 8) rfl (fun c1 => ?_) (fun c1 => ?_)
  · have hv := hv.trans (if_neg c1)
    refine x_iconst dX6_isSign_20 (n := 21) rfl ic_0 ?_
    exact x_zret rq ⟨rfl, hv.symm⟩ isB0 dX6_isSign_21
  · have hv := hv.trans (if_pos c1)
    refine x_aload_n dX6_isSign_8 (n := 9) rfl rfl 0 rfl ?_
    refine x_geti fl_X6_150_0 rfl hB.1 rfl dX6_isSign_9 (n := 12) rfl ?_
    refine x_iload_n dX6_isSign_12 (n := 13) rfl rfl 1 rfl ?_
    refine x_icmp_ne (tgt := 20) dX6_isSign_13 rfl (n := 16) rfl (fun c2 => ?_) (fun c2 => ?_)
    · have hv := hv.trans (if_neg c2)
      refine x_iconst dX6_isSign_20 (n := 21) rfl ic_0 ?_
      exact x_zret rq ⟨rfl, hv.symm⟩ isB0 dX6_isSign_21
    · have hv := hv.trans (if_pos c2)
      refine x_iconst dX6_isSign_16 (n := 17) rfl ic_1 ?_
      refine x_goto (tgt := 21) dX6_isSign_17 rfl ?_
      exact x_zret rq ⟨rfl, hv.symm⟩ isB1 dX6_isSign_21
abbrev rm_X6_isCounted : Room := { frames := 1, cells := 0, slots := 0, locals := 21 }
def wp_X6_isCounted (o : Nat) (σ0 : Hp) (Q : Int32 → Hp → Prop) : Prop := ((gI σ0 o 50) = 64 → ∀ (r6 : Int32) (s2 : Hp), (r6, s2) = f_X6_wrong o σ0 2 → (r6 = 0 ∨ r6 = 1) ∧ (Q r6 s2)) ∧ (¬ (gI σ0 o 50) = 64 → Q 1 (pI σ0 o 50 ((gI σ0 o 50) + 1)))
theorem met_X6_isCounted (o : Nat) (σ0 : Hp) (Q : Int32 → Hp → Prop) (hB0 : MB o σ0) (h : wp_X6_isCounted o σ0 Q) : MetX yX6_isCounted cX6_isCounted 1 (some .boolean) rm_X6_isCounted σ0 [.ref o] (oI (fun r σ' => SH σ0 σ' ∧ Q r σ')) 0 0 := by
  refine metX_of (own := RX6) (lvs := [(0, .ref o)]) (by decide) rfl (Nat.le_of_ble_eq_true rfl) rfl (fun G rq => ?_)
  unfold wp_X6_isCounted at h
  refine x_aload_n dX6_isCounted_0 (n := 1) rfl rfl 0 rfl ?_
  refine x_geti fl_X6_204_0 rfl hB0.1 rfl dX6_isCounted_1 (n := 4) rfl ?_
  refine x_bipush dX6_isCounted_4 (n := 6) rfl bp_64 ?_
  refine x_icmp_ne (tgt := 15) dX6_isCounted_6 rfl (n := 9) rfl (fun c1 => ?_) (fun c1 => ?_)
  · have h := h.2 c1
    refine x_aload_n dX6_isCounted_15 (n := 16) rfl rfl 0 rfl ?_
    refine x_dup dX6_isCounted_16 (n := 17) rfl rfl ?_
    refine x_geti fl_X6_204_0 rfl hB0.1 rfl dX6_isCounted_17 (n := 20) rfl ?_
    refine x_iconst dX6_isCounted_20 (n := 21) rfl ic_1 ?_
    refine x_iadd dX6_isCounted_21 (n := 22) rfl ?_
    refine x_puti fp_X6_204_0 rfl hB0.1 dX6_isCounted_22 (n := 25) rfl ?_
    refine x_iconst dX6_isCounted_25 (n := 26) rfl ic_1 ?_
    exact x_zret rq ⟨(SH.rf (σ := σ0)).i, h⟩ isB1 dX6_isCounted_26
  · have h := h.1 c1
    refine x_aload_n dX6_isCounted_9 (n := 10) rfl rfl 0 rfl ?_
    refine x_iconst dX6_isCounted_10 (n := 11) rfl ic_2 ?_
    refine x_cVim (As := [.int 2]) (rest := []) cv_X6_163 ck0 (met_X6_wrong o σ0 2 hB0) hB0.1 (by decide) rfl rfl rfl dX6_isCounted_11 (n := 14) rfl (fun r6 s2 hs3 e5 => ?_)
    have hs3t := (SH.rf (σ := σ0)).tr hs3; have hBs2 := hB0.sh hs3t
    have h := h r6 s2 e5
    obtain ⟨b7, h⟩ := h
    exact x_zret rq ⟨hs3t, h⟩ b7 dX6_isCounted_14
abbrev rm_X6_nameMet : Room := { frames := 0, cells := 0, slots := 0, locals := 0 }
def f_X6_nameMet (o : Nat) (σ : Hp) : Int32 := if (gI σ o 8) = 1 then if (gI σ o 9) = 6 then 2 else if (gI σ o 9) = 7 then 3 else if (gI σ o 9) = 8 then (-1) else if (gI σ o 9) = 9 then (-1) else if (gI σ o 9) = 10 then (-1) else if (gI σ o 9) = 11 then (-1) else if (gI σ o 9) = 12 then (-1) else if (gI σ o 9) = 13 then (-1) else if (gI σ o 9) = 14 then (-1) else if (gI σ o 9) = 15 then (-1) else if (gI σ o 9) = 16 then (-1) else if (gI σ o 9) = 17 then (-1) else if (gI σ o 9) = 18 then (-1) else if (gI σ o 9) = 19 then 0 else if (gI σ o 9) = 20 then 1 else if (gI σ o 9) = 21 then 4 else if (gI σ o 9) = 22 then 5 else (-1) else (-1)
theorem met_X6_nameMet (o : Nat) (σ : Hp) (hB : MB o σ) : MetX yX6_nameMet cX6_nameMet 1 (some .int) rm_X6_nameMet σ [.ref o] (oI (fun r σ' => σ' = σ ∧ r = (f_X6_nameMet o σ))) 0 0 := by
  refine metX_of (own := RX6) (lvs := [(0, .ref o)]) (by decide) rfl (Nat.le_of_ble_eq_true rfl) rfl (fun G rq => ?_)
  have hv : (f_X6_nameMet o σ) = _ := f_X6_nameMet.eq_1 _ _
  refine x_aload_n dX6_nameMet_0 (n := 1) rfl rfl 0 rfl ?_
  refine x_geti fl_X6_139_0 rfl hB.1 rfl dX6_nameMet_1 (n := 4) rfl ?_
  refine x_iconst dX6_nameMet_4 (n := 5) rfl ic_1 ?_
  refine x_icmp_eq (tgt := 10) dX6_nameMet_5 rfl (n := 8) rfl (fun c1 => ?_) (fun c1 => ?_)
  · have hv := hv.trans (if_pos c1)
    refine x_aload_n dX6_nameMet_10 (n := 11) rfl rfl 0 rfl ?_
    refine x_geti fl_X6_150_0 rfl hB.1 rfl dX6_nameMet_11 (n := 14) rfl ?_
    refine x_by ((gI σ o 9) = 6) (fun c2 => ?_) (fun c2 => ?_)
    · have hv := hv.trans (if_pos c2)
      have z2 := tsw_in c2 ti_6
      refine x_tswIn (tgt := 100) dX6_nameMet_14 (by rw [z2]; decide) (by rw [z2]; decide) (by rw [z2]; rfl) rfl ?_
      refine x_iconst dX6_nameMet_100 (n := 101) rfl ic_2 ?_
      exact x_iret rq ⟨rfl, hv.symm⟩ dX6_nameMet_101
    · have hv := hv.trans (if_neg c2)
      refine x_by ((gI σ o 9) = 7) (fun c3 => ?_) (fun c3 => ?_)
      · have hv := hv.trans (if_pos c3)
        have z3 := tsw_in c3 ti_7
        refine x_tswIn (tgt := 102) dX6_nameMet_14 (by rw [z3]; decide) (by rw [z3]; decide) (by rw [z3]; rfl) rfl ?_
        refine x_iconst dX6_nameMet_102 (n := 103) rfl ic_3 ?_
        exact x_iret rq ⟨rfl, hv.symm⟩ dX6_nameMet_103
      · have hv := hv.trans (if_neg c3)
        refine x_by ((gI σ o 9) = 8) (fun c4 => ?_) (fun c4 => ?_)
        · have hv := hv.trans (if_pos c4)
          have z4 := tsw_in c4 ti_8
          refine x_tswIn (tgt := 108) dX6_nameMet_14 (by rw [z4]; decide) (by rw [z4]; decide) (by rw [z4]; rfl) rfl ?_
          refine x_iconst dX6_nameMet_108 (n := 109) rfl ic_m1 ?_
          exact x_iret rq ⟨rfl, hv.symm⟩ dX6_nameMet_109
        · have hv := hv.trans (if_neg c4)
          refine x_by ((gI σ o 9) = 9) (fun c5 => ?_) (fun c5 => ?_)
          · have hv := hv.trans (if_pos c5)
            have z5 := tsw_in c5 ti_9
            refine x_tswIn (tgt := 108) dX6_nameMet_14 (by rw [z5]; decide) (by rw [z5]; decide) (by rw [z5]; rfl) rfl ?_
            refine x_iconst dX6_nameMet_108 (n := 109) rfl ic_m1 ?_
            exact x_iret rq ⟨rfl, hv.symm⟩ dX6_nameMet_109
          · have hv := hv.trans (if_neg c5)
            refine x_by ((gI σ o 9) = 10) (fun c6 => ?_) (fun c6 => ?_)
            · have hv := hv.trans (if_pos c6)
              have z6 := tsw_in c6 ti_10
              refine x_tswIn (tgt := 108) dX6_nameMet_14 (by rw [z6]; decide) (by rw [z6]; decide) (by rw [z6]; rfl) rfl ?_
              refine x_iconst dX6_nameMet_108 (n := 109) rfl ic_m1 ?_
              exact x_iret rq ⟨rfl, hv.symm⟩ dX6_nameMet_109
            · have hv := hv.trans (if_neg c6)
              refine x_by ((gI σ o 9) = 11) (fun c7 => ?_) (fun c7 => ?_)
              · have hv := hv.trans (if_pos c7)
                have z7 := tsw_in c7 ti_11
                refine x_tswIn (tgt := 108) dX6_nameMet_14 (by rw [z7]; decide) (by rw [z7]; decide) (by rw [z7]; rfl) rfl ?_
                refine x_iconst dX6_nameMet_108 (n := 109) rfl ic_m1 ?_
                exact x_iret rq ⟨rfl, hv.symm⟩ dX6_nameMet_109
              · have hv := hv.trans (if_neg c7)
                refine x_by ((gI σ o 9) = 12) (fun c8 => ?_) (fun c8 => ?_)
                · have hv := hv.trans (if_pos c8)
                  have z8 := tsw_in c8 ti_12
                  refine x_tswIn (tgt := 108) dX6_nameMet_14 (by rw [z8]; decide) (by rw [z8]; decide) (by rw [z8]; rfl) rfl ?_
                  refine x_iconst dX6_nameMet_108 (n := 109) rfl ic_m1 ?_
                  exact x_iret rq ⟨rfl, hv.symm⟩ dX6_nameMet_109
                · have hv := hv.trans (if_neg c8)
                  refine x_by ((gI σ o 9) = 13) (fun c9 => ?_) (fun c9 => ?_)
                  · have hv := hv.trans (if_pos c9)
                    have z9 := tsw_in c9 ti_13
                    refine x_tswIn (tgt := 108) dX6_nameMet_14 (by rw [z9]; decide) (by rw [z9]; decide) (by rw [z9]; rfl) rfl ?_
                    refine x_iconst dX6_nameMet_108 (n := 109) rfl ic_m1 ?_
                    exact x_iret rq ⟨rfl, hv.symm⟩ dX6_nameMet_109
                  · have hv := hv.trans (if_neg c9)
                    refine x_by ((gI σ o 9) = 14) (fun c10 => ?_) (fun c10 => ?_)
                    · have hv := hv.trans (if_pos c10)
                      have z10 := tsw_in c10 ti_14
                      refine x_tswIn (tgt := 108) dX6_nameMet_14 (by rw [z10]; decide) (by rw [z10]; decide) (by rw [z10]; rfl) rfl ?_
                      refine x_iconst dX6_nameMet_108 (n := 109) rfl ic_m1 ?_
                      exact x_iret rq ⟨rfl, hv.symm⟩ dX6_nameMet_109
                    · have hv := hv.trans (if_neg c10)
                      refine x_by ((gI σ o 9) = 15) (fun c11 => ?_) (fun c11 => ?_)
                      · have hv := hv.trans (if_pos c11)
                        have z11 := tsw_in c11 ti_15
                        refine x_tswIn (tgt := 108) dX6_nameMet_14 (by rw [z11]; decide) (by rw [z11]; decide) (by rw [z11]; rfl) rfl ?_
                        refine x_iconst dX6_nameMet_108 (n := 109) rfl ic_m1 ?_
                        exact x_iret rq ⟨rfl, hv.symm⟩ dX6_nameMet_109
                      · have hv := hv.trans (if_neg c11)
                        refine x_by ((gI σ o 9) = 16) (fun c12 => ?_) (fun c12 => ?_)
                        · have hv := hv.trans (if_pos c12)
                          have z12 := tsw_in c12 ti_16
                          refine x_tswIn (tgt := 108) dX6_nameMet_14 (by rw [z12]; decide) (by rw [z12]; decide) (by rw [z12]; rfl) rfl ?_
                          refine x_iconst dX6_nameMet_108 (n := 109) rfl ic_m1 ?_
                          exact x_iret rq ⟨rfl, hv.symm⟩ dX6_nameMet_109
                        · have hv := hv.trans (if_neg c12)
                          refine x_by ((gI σ o 9) = 17) (fun c13 => ?_) (fun c13 => ?_)
                          · have hv := hv.trans (if_pos c13)
                            have z13 := tsw_in c13 ti_17
                            refine x_tswIn (tgt := 108) dX6_nameMet_14 (by rw [z13]; decide) (by rw [z13]; decide) (by rw [z13]; rfl) rfl ?_
                            refine x_iconst dX6_nameMet_108 (n := 109) rfl ic_m1 ?_
                            exact x_iret rq ⟨rfl, hv.symm⟩ dX6_nameMet_109
                          · have hv := hv.trans (if_neg c13)
                            refine x_by ((gI σ o 9) = 18) (fun c14 => ?_) (fun c14 => ?_)
                            · have hv := hv.trans (if_pos c14)
                              have z14 := tsw_in c14 ti_18
                              refine x_tswIn (tgt := 108) dX6_nameMet_14 (by rw [z14]; decide) (by rw [z14]; decide) (by rw [z14]; rfl) rfl ?_
                              refine x_iconst dX6_nameMet_108 (n := 109) rfl ic_m1 ?_
                              exact x_iret rq ⟨rfl, hv.symm⟩ dX6_nameMet_109
                            · have hv := hv.trans (if_neg c14)
                              refine x_by ((gI σ o 9) = 19) (fun c15 => ?_) (fun c15 => ?_)
                              · have hv := hv.trans (if_pos c15)
                                have z15 := tsw_in c15 ti_19
                                refine x_tswIn (tgt := 96) dX6_nameMet_14 (by rw [z15]; decide) (by rw [z15]; decide) (by rw [z15]; rfl) rfl ?_
                                refine x_iconst dX6_nameMet_96 (n := 97) rfl ic_0 ?_
                                exact x_iret rq ⟨rfl, hv.symm⟩ dX6_nameMet_97
                              · have hv := hv.trans (if_neg c15)
                                refine x_by ((gI σ o 9) = 20) (fun c16 => ?_) (fun c16 => ?_)
                                · have hv := hv.trans (if_pos c16)
                                  have z16 := tsw_in c16 ti_20
                                  refine x_tswIn (tgt := 98) dX6_nameMet_14 (by rw [z16]; decide) (by rw [z16]; decide) (by rw [z16]; rfl) rfl ?_
                                  refine x_iconst dX6_nameMet_98 (n := 99) rfl ic_1 ?_
                                  exact x_iret rq ⟨rfl, hv.symm⟩ dX6_nameMet_99
                                · have hv := hv.trans (if_neg c16)
                                  refine x_by ((gI σ o 9) = 21) (fun c17 => ?_) (fun c17 => ?_)
                                  · have hv := hv.trans (if_pos c17)
                                    have z17 := tsw_in c17 ti_21
                                    refine x_tswIn (tgt := 104) dX6_nameMet_14 (by rw [z17]; decide) (by rw [z17]; decide) (by rw [z17]; rfl) rfl ?_
                                    refine x_iconst dX6_nameMet_104 (n := 105) rfl ic_4 ?_
                                    exact x_iret rq ⟨rfl, hv.symm⟩ dX6_nameMet_105
                                  · have hv := hv.trans (if_neg c17)
                                    refine x_by ((gI σ o 9) = 22) (fun c18 => ?_) (fun c18 => ?_)
                                    · have hv := hv.trans (if_pos c18)
                                      have z18 := tsw_in c18 ti_22
                                      refine x_tswIn (tgt := 106) dX6_nameMet_14 (by rw [z18]; decide) (by rw [z18]; decide) (by rw [z18]; rfl) rfl ?_
                                      refine x_iconst dX6_nameMet_106 (n := 107) rfl ic_5 ?_
                                      exact x_iret rq ⟨rfl, hv.symm⟩ dX6_nameMet_107
                                    · have hv := hv.trans (if_neg c18)
                                      have z2 := ne_int c2 ti_6
                                      have z3 := ne_int c3 ti_7
                                      have z4 := ne_int c4 ti_8
                                      have z5 := ne_int c5 ti_9
                                      have z6 := ne_int c6 ti_10
                                      have z7 := ne_int c7 ti_11
                                      have z8 := ne_int c8 ti_12
                                      have z9 := ne_int c9 ti_13
                                      have z10 := ne_int c10 ti_14
                                      have z11 := ne_int c11 ti_15
                                      have z12 := ne_int c12 ti_16
                                      have z13 := ne_int c13 ti_17
                                      have z14 := ne_int c14 ti_18
                                      have z15 := ne_int c15 ti_19
                                      have z16 := ne_int c16 ti_20
                                      have z17 := ne_int c17 ti_21
                                      have z18 := ne_int c18 ti_22
                                      refine x_tswOut (tgt := 108) dX6_nameMet_14 (by omega) rfl ?_
                                      refine x_iconst dX6_nameMet_108 (n := 109) rfl ic_m1 ?_
                                      exact x_iret rq ⟨rfl, hv.symm⟩ dX6_nameMet_109
  · have hv := hv.trans (if_neg c1)
    refine x_iconst dX6_nameMet_8 (n := 9) rfl ic_m1 ?_
    exact x_iret rq ⟨rfl, hv.symm⟩ dX6_nameMet_9
abbrev rm_X6_waitsFor : Room := { frames := 0, cells := 0, slots := 0, locals := 0 }
def f_X6_waitsFor (o : Nat) (σ0 : Hp) (x1 : Int32) : Hp := pI (pI σ0 (o + 20) (gI σ0 o 47).toNatClampNeg x1) o 47 ((gI σ0 o 47) + 1)
def ok_X6_waitsFor (o : Nat) (σ0 : Hp) (x1 : Int32) : Prop := vp_in (gI σ0 o 47) 96
theorem met_X6_waitsFor (o : Nat) (σ0 : Hp) (x1 : Int32) (hB0 : MB o σ0) (hk : ok_X6_waitsFor o σ0 x1) : MetX yX6_waitsFor cX6_waitsFor 2 none rm_X6_waitsFor σ0 [.ref o, .int x1] (oV (fun σ' => SH σ0 σ' ∧ σ' = (f_X6_waitsFor o σ0 x1))) 0 0 := by
  refine metX_of (own := RX6) (lvs := [(0, .ref o), (1, .int x1)]) (by decide) rfl (Nat.le_of_ble_eq_true rfl) rfl (fun G rq => ?_)
  have hv : (f_X6_waitsFor o σ0 x1) = _ := f_X6_waitsFor.eq_1 _ _ _
  unfold ok_X6_waitsFor at hk
  refine x_aload_n dX6_waitsFor_0 (n := 1) rfl rfl 0 rfl ?_
  refine x_getr fl_X6_72_0 rfl hB0.1 hB0.r45 dX6_waitsFor_1 (n := 4) rfl ?_
  refine x_aload_n dX6_waitsFor_4 (n := 5) rfl rfl 0 rfl ?_
  refine x_geti fl_X6_333_0 rfl hB0.1 rfl dX6_waitsFor_5 (n := 8) rfl ?_
  refine x_iload_n dX6_waitsFor_8 (n := 9) rfl rfl 1 rfl ?_
  have b1 := hk
  refine x_iast hB0.a45 b1 rfl dX6_waitsFor_9 (n := 10) rfl ?_
  refine x_aload_n dX6_waitsFor_10 (n := 11) rfl rfl 0 rfl ?_
  refine x_dup dX6_waitsFor_11 (n := 12) rfl rfl ?_
  refine x_geti fl_X6_333_0 rfl hB0.i.1 (gIo (by omega)) dX6_waitsFor_12 (n := 15) rfl ?_
  refine x_iconst dX6_waitsFor_15 (n := 16) rfl ic_1 ?_
  refine x_iadd dX6_waitsFor_16 (n := 17) rfl ?_
  refine x_puti fp_X6_333_0 rfl hB0.i.1 dX6_waitsFor_17 (n := 20) rfl ?_
  exact x_vret rq ⟨(SH.rf (σ := σ0)).i.i, hv.symm⟩ dX6_waitsFor_20
abbrev rm_X6_leafRead : Room := { frames := 2, cells := 0, slots := 0, locals := 47 }
def wj_X6_leafRead_160 (o : Nat) (σ : Hp) (w0 : Int32) (w1 : Int32) (Q : Int32 → Hp → Prop)  : Prop := (ok_X6_grown o σ w1 w0 0) ∧ (∀ s55 : Hp, s55 = f_X6_grown o σ w1 w0 0 → wp_X6_token o (pI s55 o 51 0) (fun  s59 => Q 1 s59))
def wj_X6_leafRead_148 (o : Nat) (σ : Hp) (x1 : Int32) (w0 : Int32) (Q : Int32 → Hp → Prop)  : Prop := (x1 < 0 → wj_X6_leafRead_160 o σ (gI σ o 9) w0 Q) ∧ (¬ x1 < 0 → wj_X6_leafRead_160 o σ x1 w0 Q)
def wj_X6_leafRead_129 (o : Nat) (σ : Hp) (x1 : Int32) (Q : Int32 → Hp → Prop)  : Prop := wp_X6_isCounted o σ (fun r51 s49 => (r51 = 0 → Q 0 s49) ∧ (¬ r51 = 0 → (x1 < 0 → wj_X6_leafRead_148 o s49 x1 0 Q) ∧ (¬ x1 < 0 → wj_X6_leafRead_148 o s49 x1 1 Q)))
def wj_X6_leafRead_109 (o : Nat) (σ : Hp) (x1 : Int32) (Q : Int32 → Hp → Prop)  : Prop := (0 ≤ x1 → wj_X6_leafRead_129 o σ x1 Q) ∧ (¬ 0 ≤ x1 → ((gI σ o 9) ≤ 9999 → wj_X6_leafRead_129 o σ x1 Q) ∧ (¬ (gI σ o 9) ≤ 9999 → ∀ (r47 : Int32) (s43 : Hp), (r47, s43) = f_X6_wrong o σ 2 → (r47 = 0 ∨ r47 = 1) ∧ (Q r47 s43)))
def wj_X6_leafRead_86 (o : Nat) (σ : Hp)  (Q : Int32 → Hp → Prop)  : Prop := (0 ≤ (f_X6_nameMet o σ) → wj_X6_leafRead_109 o σ (f_X6_nameMet o σ) Q) ∧ (¬ 0 ≤ (f_X6_nameMet o σ) → ((gI σ o 8) = 3 → wj_X6_leafRead_109 o σ (f_X6_nameMet o σ) Q) ∧ (¬ (gI σ o 8) = 3 → ∀ (r39 : Int32) (s35 : Hp), (r39, s35) = f_X6_wrong o σ 1 → (r39 = 0 ∨ r39 = 1) ∧ (Q r39 s35)))
def wp_X6_leafRead (o : Nat) (σ0 : Hp) (Q : Int32 → Hp → Prop) : Prop := ((f_X6_isSign o σ0 40) = 0 → ((f_X6_isKey o σ0 18) = 0 → wj_X6_leafRead_86 o σ0 Q) ∧ (¬ (f_X6_isKey o σ0 18) = 0 → ((gI σ0 o 52) = 0 → wj_X6_leafRead_86 o σ0 Q) ∧ (¬ (gI σ0 o 52) = 0 → wp_X6_isCounted o σ0 (fun r10 s8 => (r10 = 0 → Q 0 s8) ∧ (¬ r10 = 0 → (ok_X6_waitsFor o s8 2) ∧ (∀ s12 : Hp, s12 = f_X6_waitsFor o s8 2 → wp_X6_token o s12 (fun  s16 => Q 1 s16))))))) ∧ (¬ (f_X6_isSign o σ0 40) = 0 → ((gI σ0 o 49) = 8 → ∀ (r29 : Int32) (s25 : Hp), (r29, s25) = f_X6_wrong o σ0 2 → (r29 = 0 ∨ r29 = 1) ∧ (Q r29 s25)) ∧ (¬ (gI σ0 o 49) = 8 → (ok_X6_waitsFor o (pI σ0 o 49 ((gI σ0 o 49) + 1)) 0) ∧ (∀ s19 : Hp, s19 = f_X6_waitsFor o (pI σ0 o 49 ((gI σ0 o 49) + 1)) 0 → wp_X6_token o (pI s19 o 52 1) (fun  s23 => Q 1 s23))))
theorem xj_X6_leafRead_160 (o : Nat) (σ0 : Hp) (Q : Int32 → Hp → Prop) (G : XE) (hB0 : MB o σ0) (rq : RQ G 0 0 (oI (fun r σ' => SH σ0 σ' ∧ Q r σ'))) (σ : Hp) (w0 : Int32) (w1 : Int32)    (hs : SH σ0 σ) (h : wj_X6_leafRead_160 o σ w0 w1 Q ) : X G rm_X6_leafRead cX6_leafRead RX6 2 (some .boolean) σ 0 0 160 [(0, .ref o)] [.int w0, .int w1, .ref o] := by
  have hs : SH σ0 σ := hs
  have hB := hB0.sh hs
  unfold wj_X6_leafRead_160 at h
  refine x_iconst dX6_leafRead_160 (n := 161) rfl ic_0 ?_
  obtain ⟨b57, h⟩ := h
  refine x_cVvm (As := [.int w1, .int w0, .int 0]) (rest := []) cv_X6_343 ck0 (met_X6_grown o σ w1 w0 0 hB b57) hB.1 (by decide) rfl rfl rfl dX6_leafRead_161 (n := 164) rfl (fun  s55 hs56 e58 => ?_)
  have hs56t := hs.tr hs56; have hBs55 := hB0.sh hs56t
  have h := h s55 e58
  refine x_aload_n dX6_leafRead_164 (n := 165) rfl rfl 0 rfl ?_
  refine x_iconst dX6_leafRead_165 (n := 166) rfl ic_0 ?_
  refine x_putz fp_X6_363_0 rfl hBs55.1 isB0 dX6_leafRead_166 (n := 169) rfl ?_
  refine x_aload_n dX6_leafRead_169 (n := 170) rfl rfl 0 rfl ?_
  refine x_cVvm (As := []) (rest := []) cv_X6_173 ck0 (met_X6_token o (pI s55 o 51 0) _ hBs55.i h) hBs55.i.1 (by decide) rfl rfl rfl dX6_leafRead_170 (n := 173) rfl (fun  s59 hs60 h => ?_)
  have hs60t := hs56t.i.tr hs60; have hBs59 := hB0.sh hs60t
  refine x_iconst dX6_leafRead_173 (n := 174) rfl ic_1 ?_
  exact x_zret rq ⟨hs60t, h⟩ isB1 dX6_leafRead_174
theorem xj_X6_leafRead_148 (o : Nat) (σ0 : Hp) (Q : Int32 → Hp → Prop) (G : XE) (hB0 : MB o σ0) (rq : RQ G 0 0 (oI (fun r σ' => SH σ0 σ' ∧ Q r σ'))) (σ : Hp) (x1 : Int32) (w0 : Int32)    (hs : SH σ0 σ) (h : wj_X6_leafRead_148 o σ x1 w0 Q ) : X G rm_X6_leafRead cX6_leafRead RX6 2 (some .boolean) σ 0 0 148 [(0, .ref o), (1, .int x1)] [.int w0, .ref o] := by
  have hs : SH σ0 σ := hs
  have hB := hB0.sh hs
  unfold wj_X6_leafRead_148 at h
  refine x_iload_n dX6_leafRead_148 (n := 149) rfl rfl 1 rfl ?_
  refine x_if_lt (tgt := 156) dX6_leafRead_149 rfl (n := 152) rfl (fun c54 => ?_) (fun c54 => ?_)
  · have h := h.1 c54
    refine x_aload_n dX6_leafRead_156 (n := 157) rfl rfl 0 rfl ?_
    refine x_geti fl_X6_150_0 rfl hB.1 rfl dX6_leafRead_157 (n := 160) rfl ?_
    exact x_sub [0] rfl (xj_X6_leafRead_160 o σ0 Q G hB0 rq σ (gI σ o 9) w0 hs h)
  · have h := h.2 c54
    refine x_iload_n dX6_leafRead_152 (n := 153) rfl rfl 1 rfl ?_
    refine x_goto (tgt := 160) dX6_leafRead_153 rfl ?_
    exact x_sub [0] rfl (xj_X6_leafRead_160 o σ0 Q G hB0 rq σ x1 w0 hs h)
theorem xj_X6_leafRead_129 (o : Nat) (σ0 : Hp) (Q : Int32 → Hp → Prop) (G : XE) (hB0 : MB o σ0) (rq : RQ G 0 0 (oI (fun r σ' => SH σ0 σ' ∧ Q r σ'))) (σ : Hp) (x1 : Int32)    (hs : SH σ0 σ) (h : wj_X6_leafRead_129 o σ x1 Q ) : X G rm_X6_leafRead cX6_leafRead RX6 2 (some .boolean) σ 0 0 129 [(0, .ref o), (1, .int x1)] [] := by
  have hs : SH σ0 σ := hs
  have hB := hB0.sh hs
  unfold wj_X6_leafRead_129 at h
  refine x_aload_n dX6_leafRead_129 (n := 130) rfl rfl 0 rfl ?_
  refine x_cVim (As := []) (rest := []) cv_X6_357 ck0 (met_X6_isCounted o σ _ hB h) hB.1 (by decide) rfl rfl rfl dX6_leafRead_130 (n := 133) rfl (fun r51 s49 hs50 h => ?_)
  have hs50t := hs.tr hs50; have hBs49 := hB0.sh hs50t
  refine x_if_ne (tgt := 138) dX6_leafRead_133 rfl (n := 136) rfl (fun c52 => ?_) (fun c52 => ?_)
  · have h := h.2 c52
    refine x_aload_n dX6_leafRead_138 (n := 139) rfl rfl 0 rfl ?_
    refine x_iload_n dX6_leafRead_139 (n := 140) rfl rfl 1 rfl ?_
    refine x_if_lt (tgt := 147) dX6_leafRead_140 rfl (n := 143) rfl (fun c53 => ?_) (fun c53 => ?_)
    · have h := h.1 c53
      refine x_iconst dX6_leafRead_147 (n := 148) rfl ic_0 ?_
      exact x_sub [0, 1] rfl (xj_X6_leafRead_148 o σ0 Q G hB0 rq s49 x1 0 hs50t h)
    · have h := h.2 c53
      refine x_iconst dX6_leafRead_143 (n := 144) rfl ic_1 ?_
      refine x_goto (tgt := 148) dX6_leafRead_144 rfl ?_
      exact x_sub [0, 1] rfl (xj_X6_leafRead_148 o σ0 Q G hB0 rq s49 x1 1 hs50t h)
  · have h := h.1 c52
    refine x_iconst dX6_leafRead_136 (n := 137) rfl ic_0 ?_
    exact x_zret rq ⟨hs50t, h⟩ isB0 dX6_leafRead_137
theorem xj_X6_leafRead_109 (o : Nat) (σ0 : Hp) (Q : Int32 → Hp → Prop) (G : XE) (hB0 : MB o σ0) (rq : RQ G 0 0 (oI (fun r σ' => SH σ0 σ' ∧ Q r σ'))) (σ : Hp) (x1 : Int32)    (hs : SH σ0 σ) (h : wj_X6_leafRead_109 o σ x1 Q ) : X G rm_X6_leafRead cX6_leafRead RX6 2 (some .boolean) σ 0 0 109 [(0, .ref o), (1, .int x1)] [] := by
  have hs : SH σ0 σ := hs
  have hB := hB0.sh hs
  unfold wj_X6_leafRead_109 at h
  refine x_iload_n dX6_leafRead_109 (n := 110) rfl rfl 1 rfl ?_
  refine x_if_ge (tgt := 129) dX6_leafRead_110 rfl (n := 113) rfl (fun c41 => ?_) (fun c41 => ?_)
  · have h := h.1 c41
    exact x_sub [0, 1] rfl (xj_X6_leafRead_129 o σ0 Q G hB0 rq σ x1 hs h)
  · have h := h.2 c41
    refine x_aload_n dX6_leafRead_113 (n := 114) rfl rfl 0 rfl ?_
    refine x_geti fl_X6_150_0 rfl hB.1 rfl dX6_leafRead_114 (n := 117) rfl ?_
    refine x_sipush dX6_leafRead_117 (n := 120) rfl sp_9999 ?_
    refine x_icmp_le (tgt := 129) dX6_leafRead_120 rfl (n := 123) rfl (fun c42 => ?_) (fun c42 => ?_)
    · have h := h.1 c42
      exact x_sub [0, 1] rfl (xj_X6_leafRead_129 o σ0 Q G hB0 rq σ x1 hs h)
    · have h := h.2 c42
      refine x_aload_n dX6_leafRead_123 (n := 124) rfl rfl 0 rfl ?_
      refine x_iconst dX6_leafRead_124 (n := 125) rfl ic_2 ?_
      refine x_cVim (As := [.int 2]) (rest := []) cv_X6_163 ck0 (met_X6_wrong o σ 2 hB) hB.1 (by decide) rfl rfl rfl dX6_leafRead_125 (n := 128) rfl (fun r47 s43 hs44 e46 => ?_)
      have hs44t := hs.tr hs44; have hBs43 := hB0.sh hs44t
      have h := h r47 s43 e46
      obtain ⟨b48, h⟩ := h
      exact x_zret rq ⟨hs44t, h⟩ b48 dX6_leafRead_128
theorem xj_X6_leafRead_86 (o : Nat) (σ0 : Hp) (Q : Int32 → Hp → Prop) (G : XE) (hB0 : MB o σ0) (rq : RQ G 0 0 (oI (fun r σ' => SH σ0 σ' ∧ Q r σ'))) (σ : Hp)     (hs : SH σ0 σ) (h : wj_X6_leafRead_86 o σ Q ) : X G rm_X6_leafRead cX6_leafRead RX6 2 (some .boolean) σ 0 0 86 [(0, .ref o)] [] := by
  have hs : SH σ0 σ := hs
  have hB := hB0.sh hs
  unfold wj_X6_leafRead_86 at h
  refine x_aload_n dX6_leafRead_86 (n := 87) rfl rfl 0 rfl ?_
  refine x_cVip (As := []) (rest := []) cv_X6_360 ck0 (met_X6_nameMet o σ hB) hB.1 (by decide) rfl rfl rfl dX6_leafRead_87 (n := 90) rfl (fun r32 q => ?_)
  subst q
  refine x_istore_n (lvs' := [(1, .int (f_X6_nameMet o σ)), (0, .ref o)]) dX6_leafRead_90 (n := 91) rfl rfl (by decide) rfl ?_
  refine x_iload_n dX6_leafRead_91 (n := 92) rfl rfl 0 rfl ?_
  refine x_if_ge (tgt := 109) dX6_leafRead_92 rfl (n := 95) rfl (fun c33 => ?_) (fun c33 => ?_)
  · have h := h.1 c33
    exact x_sub [1, 0] rfl (xj_X6_leafRead_109 o σ0 Q G hB0 rq σ (f_X6_nameMet o σ) hs h)
  · have h := h.2 c33
    refine x_aload_n dX6_leafRead_95 (n := 96) rfl rfl 1 rfl ?_
    refine x_geti fl_X6_139_0 rfl hB.1 rfl dX6_leafRead_96 (n := 99) rfl ?_
    refine x_iconst dX6_leafRead_99 (n := 100) rfl ic_3 ?_
    refine x_icmp_eq (tgt := 109) dX6_leafRead_100 rfl (n := 103) rfl (fun c34 => ?_) (fun c34 => ?_)
    · have h := h.1 c34
      exact x_sub [1, 0] rfl (xj_X6_leafRead_109 o σ0 Q G hB0 rq σ (f_X6_nameMet o σ) hs h)
    · have h := h.2 c34
      refine x_aload_n dX6_leafRead_103 (n := 104) rfl rfl 1 rfl ?_
      refine x_iconst dX6_leafRead_104 (n := 105) rfl ic_1 ?_
      refine x_cVim (As := [.int 1]) (rest := []) cv_X6_163 ck0 (met_X6_wrong o σ 1 hB) hB.1 (by decide) rfl rfl rfl dX6_leafRead_105 (n := 108) rfl (fun r39 s35 hs36 e38 => ?_)
      have hs36t := hs.tr hs36; have hBs35 := hB0.sh hs36t
      have h := h r39 s35 e38
      obtain ⟨b40, h⟩ := h
      exact x_zret rq ⟨hs36t, h⟩ b40 dX6_leafRead_108
theorem met_X6_leafRead (o : Nat) (σ0 : Hp) (Q : Int32 → Hp → Prop) (hB0 : MB o σ0) (h : wp_X6_leafRead o σ0 Q) : MetX yX6_leafRead cX6_leafRead 2 (some .boolean) rm_X6_leafRead σ0 [.ref o] (oI (fun r σ' => SH σ0 σ' ∧ Q r σ')) 0 0 := by
  refine metX_of (own := RX6) (lvs := [(0, .ref o)]) (by decide) rfl (Nat.le_of_ble_eq_true rfl) rfl (fun G rq => ?_)
  unfold wp_X6_leafRead at h
  refine x_aload_n dX6_leafRead_0 (n := 1) rfl rfl 0 rfl ?_
  refine x_bipush dX6_leafRead_1 (n := 3) rfl bp_40 ?_
  refine x_cVip (As := [.int 40]) (rest := []) cv_X6_176 ck0 (met_X6_isSign o σ0 40 hB0) hB0.1 (by decide) rfl rfl rfl dX6_leafRead_3 (n := 6) rfl (fun r2 q => ?_)
  subst q
  refine x_if_eq (tgt := 50) dX6_leafRead_6 rfl (n := 9) rfl (fun c3 => ?_) (fun c3 => ?_)
  · have h := h.1 c3
    refine x_aload_n dX6_leafRead_50 (n := 51) rfl rfl 0 rfl ?_
    refine x_bipush dX6_leafRead_51 (n := 53) rfl bp_18 ?_
    refine x_cVip (As := [.int 18]) (rest := []) cv_X6_183 ck0 (met_X6_isKey o σ0 18 hB0) hB0.1 (by decide) rfl rfl rfl dX6_leafRead_53 (n := 56) rfl (fun r5 q => ?_)
    subst q
    refine x_if_eq (tgt := 86) dX6_leafRead_56 rfl (n := 59) rfl (fun c6 => ?_) (fun c6 => ?_)
    · have h := h.1 c6
      exact x_sub [0] rfl (xj_X6_leafRead_86 o σ0 Q G hB0 rq σ0 (SH.rf (σ := σ0)) h)
    · have h := h.2 c6
      refine x_aload_n dX6_leafRead_59 (n := 60) rfl rfl 0 rfl ?_
      refine x_geti fl_X6_354_0 rfl hB0.1 rfl dX6_leafRead_60 (n := 63) rfl ?_
      refine x_if_eq (tgt := 86) dX6_leafRead_63 rfl (n := 66) rfl (fun c7 => ?_) (fun c7 => ?_)
      · have h := h.1 c7
        exact x_sub [0] rfl (xj_X6_leafRead_86 o σ0 Q G hB0 rq σ0 (SH.rf (σ := σ0)) h)
      · have h := h.2 c7
        refine x_aload_n dX6_leafRead_66 (n := 67) rfl rfl 0 rfl ?_
        refine x_cVim (As := []) (rest := []) cv_X6_357 ck0 (met_X6_isCounted o σ0 _ hB0 h) hB0.1 (by decide) rfl rfl rfl dX6_leafRead_67 (n := 70) rfl (fun r10 s8 hs9 h => ?_)
        have hs9t := (SH.rf (σ := σ0)).tr hs9; have hBs8 := hB0.sh hs9t
        refine x_if_ne (tgt := 75) dX6_leafRead_70 rfl (n := 73) rfl (fun c11 => ?_) (fun c11 => ?_)
        · have h := h.2 c11
          refine x_aload_n dX6_leafRead_75 (n := 76) rfl rfl 0 rfl ?_
          refine x_iconst dX6_leafRead_76 (n := 77) rfl ic_2 ?_
          obtain ⟨b14, h⟩ := h
          refine x_cVvm (As := [.int 2]) (rest := []) cv_X6_350 ck0 (met_X6_waitsFor o s8 2 hBs8 b14) hBs8.1 (by decide) rfl rfl rfl dX6_leafRead_77 (n := 80) rfl (fun  s12 hs13 e15 => ?_)
          have hs13t := hs9t.tr hs13; have hBs12 := hB0.sh hs13t
          have h := h s12 e15
          refine x_aload_n dX6_leafRead_80 (n := 81) rfl rfl 0 rfl ?_
          refine x_cVvm (As := []) (rest := []) cv_X6_173 ck0 (met_X6_token o s12 _ hBs12 h) hBs12.1 (by decide) rfl rfl rfl dX6_leafRead_81 (n := 84) rfl (fun  s16 hs17 h => ?_)
          have hs17t := hs13t.tr hs17; have hBs16 := hB0.sh hs17t
          refine x_iconst dX6_leafRead_84 (n := 85) rfl ic_1 ?_
          exact x_zret rq ⟨hs17t, h⟩ isB1 dX6_leafRead_85
        · have h := h.1 c11
          refine x_iconst dX6_leafRead_73 (n := 74) rfl ic_0 ?_
          exact x_zret rq ⟨hs9t, h⟩ isB0 dX6_leafRead_74
  · have h := h.2 c3
    refine x_aload_n dX6_leafRead_9 (n := 10) rfl rfl 0 rfl ?_
    refine x_geti fl_X6_347_0 rfl hB0.1 rfl dX6_leafRead_10 (n := 13) rfl ?_
    refine x_bipush dX6_leafRead_13 (n := 15) rfl bp_8 ?_
    refine x_icmp_ne (tgt := 24) dX6_leafRead_15 rfl (n := 18) rfl (fun c18 => ?_) (fun c18 => ?_)
    · have h := h.2 c18
      refine x_aload_n dX6_leafRead_24 (n := 25) rfl rfl 0 rfl ?_
      refine x_dup dX6_leafRead_25 (n := 26) rfl rfl ?_
      refine x_geti fl_X6_347_0 rfl hB0.1 rfl dX6_leafRead_26 (n := 29) rfl ?_
      refine x_iconst dX6_leafRead_29 (n := 30) rfl ic_1 ?_
      refine x_iadd dX6_leafRead_30 (n := 31) rfl ?_
      refine x_puti fp_X6_347_0 rfl hB0.1 dX6_leafRead_31 (n := 34) rfl ?_
      refine x_aload_n dX6_leafRead_34 (n := 35) rfl rfl 0 rfl ?_
      refine x_iconst dX6_leafRead_35 (n := 36) rfl ic_0 ?_
      obtain ⟨b21, h⟩ := h
      refine x_cVvm (As := [.int 0]) (rest := []) cv_X6_350 ck0 (met_X6_waitsFor o (pI σ0 o 49 ((gI σ0 o 49) + 1)) 0 hB0.i b21) hB0.i.1 (by decide) rfl rfl rfl dX6_leafRead_36 (n := 39) rfl (fun  s19 hs20 e22 => ?_)
      have hs20t := (SH.rf (σ := σ0)).i.tr hs20; have hBs19 := hB0.sh hs20t
      have h := h s19 e22
      refine x_aload_n dX6_leafRead_39 (n := 40) rfl rfl 0 rfl ?_
      refine x_iconst dX6_leafRead_40 (n := 41) rfl ic_1 ?_
      refine x_putz fp_X6_354_0 rfl hBs19.1 isB1 dX6_leafRead_41 (n := 44) rfl ?_
      refine x_aload_n dX6_leafRead_44 (n := 45) rfl rfl 0 rfl ?_
      refine x_cVvm (As := []) (rest := []) cv_X6_173 ck0 (met_X6_token o (pI s19 o 52 1) _ hBs19.i h) hBs19.i.1 (by decide) rfl rfl rfl dX6_leafRead_45 (n := 48) rfl (fun  s23 hs24 h => ?_)
      have hs24t := hs20t.i.tr hs24; have hBs23 := hB0.sh hs24t
      refine x_iconst dX6_leafRead_48 (n := 49) rfl ic_1 ?_
      exact x_zret rq ⟨hs24t, h⟩ isB1 dX6_leafRead_49
    · have h := h.1 c18
      refine x_aload_n dX6_leafRead_18 (n := 19) rfl rfl 0 rfl ?_
      refine x_iconst dX6_leafRead_19 (n := 20) rfl ic_2 ?_
      refine x_cVim (As := [.int 2]) (rest := []) cv_X6_163 ck0 (met_X6_wrong o σ0 2 hB0) hB0.1 (by decide) rfl rfl rfl dX6_leafRead_20 (n := 23) rfl (fun r29 s25 hs26 e28 => ?_)
      have hs26t := (SH.rf (σ := σ0)).tr hs26; have hBs25 := hB0.sh hs26t
      have h := h r29 s25 e28
      obtain ⟨b30, h⟩ := h
      exact x_zret rq ⟨hs26t, h⟩ b30 dX6_leafRead_23
