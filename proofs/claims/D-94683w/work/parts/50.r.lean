set_option maxRecDepth 100000
abbrev rm_X2_word : Room := { frames := 4, cells := 0, slots := 0, locals := 85 }
def wj_X2_word_80 (o c d : Nat) (σ : Hp)  (x1 : Int32) (x2 : Int32) (Q : Int32 → Prop) (K2 : (Int32) → Prop) : Prop := (((gI σ o 2) + x2) = (gI σ o 0) → Q x1) ∧ (¬ ((gI σ o 2) + x2) = (gI σ o 0) → K2 (x1 + 1))
def lb_X2_word_35 (o c d : Nat) (σ : Hp) (x1 : Int32) (Q : Int32 → Prop) (K2 : (Int32) → Prop) (K35 : Int32 → Prop) (x2 : Int32) : Prop := ((gI σ o 0) ≤ ((gI σ o 2) + x2) → wj_X2_word_80 o c d σ x1 x2 Q K2) ∧ (¬ (gI σ o 0) ≤ ((gI σ o 2) + x2) → (vp_in x1 23) ∧ ((ok_J3_charAt (nmB.getD x1.toNatClampNeg []) x2) ∧ ((vp_in ((gI σ o 2) + x2) 900) ∧ (((f_J3_charAt (nmB.getD x1.toNatClampNeg []) x2) = (gI σ (c + 1) ((gI σ o 2) + x2).toNatClampNeg) → K35 (x2 + 1)) ∧ (¬ (f_J3_charAt (nmB.getD x1.toNatClampNeg []) x2) = (gI σ (c + 1) ((gI σ o 2) + x2).toNatClampNeg) → wj_X2_word_80 o c d σ x1 x2 Q K2)))))
def lb_X2_word_2 (o c d : Nat) (σ : Hp)  (Q : Int32 → Prop)  (K2 : Int32 → Prop) (x1 : Int32) : Prop := (23 ≤ x1 → Q (-1)) ∧ (¬ 23 ≤ x1 → (vp_in x1 23) ∧ (((f_J3_length (nmB.getD x1.toNatClampNeg [])) = ((gI σ o 0) - (gI σ o 2)) → lp (lb_X2_word_35 o c d σ x1 Q K2) 0) ∧ (¬ (f_J3_length (nmB.getD x1.toNatClampNeg [])) = ((gI σ o 0) - (gI σ o 2)) → K2 (x1 + 1))))
def wp_X2_word (o c d : Nat) (σ : Hp) (Q : Int32 → Prop) : Prop := lp (lb_X2_word_2 o c d σ Q) 0
theorem xj_X2_word_80 (o c d : Nat) (σ : Hp) (Q : Int32 → Prop) (G : XE) (hB : EB o c d σ) (rq : RQ G 0 0 (oI (fun r σ' => σ' = σ ∧ Q r)))  (x1 : Int32) (x2 : Int32)  (K2 : (Int32) → Prop) (hK2 : ∀ z : (Int32), K2 z → X G rm_X2_word cX2_word RX2 3 (some .int) σ 0 0 2 [(0, .ref o), (1, .int z)] [])  (h : wj_X2_word_80 o c d σ x1 x2 Q K2) : X G rm_X2_word cX2_word RX2 3 (some .int) σ 0 0 80 [(0, .ref o), (1, .int x1), (2, .int x2)] [] := by
  unfold wj_X2_word_80 at h
  refine x_aload_n dX2_word_80 (n := 81) rfl rfl 0 rfl ?_
  refine x_geti fl_X2_30_2 rfl hB.1 rfl dX2_word_81 (n := 84) rfl ?_
  refine x_iload_n dX2_word_84 (n := 85) rfl rfl 2 rfl ?_
  refine x_iadd dX2_word_85 (n := 86) rfl ?_
  refine x_aload_n dX2_word_86 (n := 87) rfl rfl 0 rfl ?_
  refine x_geti fl_X2_15_2 rfl hB.1 rfl dX2_word_87 (n := 90) rfl ?_
  refine x_icmp_ne (tgt := 95) dX2_word_90 rfl (n := 93) rfl (fun c15 => ?_) (fun c15 => ?_)
  · have h := h.2 c15
    refine x_iinc (v := x1 + 1) (lvs' := [(1, .int (x1 + 1)), (0, .ref o), (2, .int x2)]) dX2_word_95 (n := 98) rfl 1 rfl rfl (by decide) rfl ?_
    refine x_goto (tgt := 2) dX2_word_98 rfl ?_
    exact x_sub [1, 0] rfl (hK2 (x1 + 1) h)
  · have h := h.1 c15
    refine x_iload_n dX2_word_93 (n := 94) rfl rfl 1 rfl ?_
    exact x_iret rq ⟨rfl, h⟩ dX2_word_94
theorem xl_X2_word_35 (o c d : Nat) (σ : Hp) (Q : Int32 → Prop) (G : XE) (hB : EB o c d σ) (rq : RQ G 0 0 (oI (fun r σ' => σ' = σ ∧ Q r))) (x1 : Int32)  (K2 : (Int32) → Prop) (hK2 : ∀ z : (Int32), K2 z → X G rm_X2_word cX2_word RX2 3 (some .int) σ 0 0 2 [(0, .ref o), (1, .int z)] []) : ∀ z : Int32, lp (lb_X2_word_35 o c d σ x1 Q K2) z → X G rm_X2_word cX2_word RX2 3 (some .int) σ 0 0 35 [(0, .ref o), (1, .int x1), (2, .int z)] [] := by
  intro z
  refine fun h => lp_X (P := fun z => X G rm_X2_word cX2_word RX2 3 (some .int) σ 0 0 35 [(0, .ref o), (1, .int x1), (2, .int z)] []) ?_ h
  intro K35 hK35 x2 h
  simp only [lb_X2_word_35] at h
  show X G rm_X2_word cX2_word RX2 3 (some .int) σ 0 0 35 [(0, .ref o), (1, .int x1), (2, .int x2)] []
  have hK35 : ∀ z : (Int32), K35 z → X G rm_X2_word cX2_word RX2 3 (some .int) σ 0 0 35 [(0, .ref o), (1, .int x1), (2, .int z)] [] := fun z h => hK35 z h
  refine x_aload_n dX2_word_35 (n := 36) rfl rfl 0 rfl ?_
  refine x_geti fl_X2_30_2 rfl hB.1 rfl dX2_word_36 (n := 39) rfl ?_
  refine x_iload_n dX2_word_39 (n := 40) rfl rfl 2 rfl ?_
  refine x_iadd dX2_word_40 (n := 41) rfl ?_
  refine x_aload_n dX2_word_41 (n := 42) rfl rfl 0 rfl ?_
  refine x_geti fl_X2_15_2 rfl hB.1 rfl dX2_word_42 (n := 45) rfl ?_
  refine x_icmp_ge (tgt := 80) dX2_word_45 rfl (n := 48) rfl (fun c8 => ?_) (fun c8 => ?_)
  · have h := h.1 c8
    exact x_sub [0, 1, 2] rfl (xj_X2_word_80 o c d σ Q G hB rq x1 x2 K2 hK2 h)
  · have h := h.2 c8
    refine x_names q461 dX2_word_48 (n := 51) rfl (fun a9 ada9 ha9 => ?_)
    refine x_iload_n dX2_word_51 (n := 52) rfl rfl 1 rfl ?_
    obtain ⟨b10, h⟩ := h
    refine x_ta ha9.2.1 b10 rfl dX2_word_52 (n := 53) rfl ?_
    refine x_iload_n dX2_word_53 (n := 54) rfl rfl 2 rfl ?_
    obtain ⟨b11, h⟩ := h
    refine x_cVZ (As := [.int x2]) (rest := []) cv_X2_76 (met_J3_charAt σ (nmB.getD x1.toNatClampNeg []) x2 (ada9 x1.toNatClampNeg) b11) STR.zs (ha9.2.2 _ (vin_lt b10)) (by obtain ⟨_, k1, -⟩ := (ha9.2.2 _ (vin_lt b10)); exact k1) (by decide) rfl rfl rfl dX2_word_54 (n := 57) rfl (fun r12 q => ?_)
    subst q
    refine x_aload_n dX2_word_57 (n := 58) rfl rfl 0 rfl ?_
    refine x_getr fl_X2_3_2 rfl hB.1 hB.2.1 dX2_word_58 (n := 61) rfl ?_
    refine x_getr fl_X2_22_1 rfl hB.2.2.1 hB.2.2.2.1 dX2_word_61 (n := 64) rfl ?_
    refine x_aload_n dX2_word_64 (n := 65) rfl rfl 0 rfl ?_
    refine x_geti fl_X2_30_2 rfl hB.1 rfl dX2_word_65 (n := 68) rfl ?_
    refine x_iload_n dX2_word_68 (n := 69) rfl rfl 2 rfl ?_
    refine x_iadd dX2_word_69 (n := 70) rfl ?_
    obtain ⟨b13, h⟩ := h
    refine x_bald hB.2.2.2.2.1 b13 rfl dX2_word_70 (n := 71) rfl ?_
    refine x_icmp_ne (tgt := 80) dX2_word_71 rfl (n := 74) rfl (fun c14 => ?_) (fun c14 => ?_)
    · have h := h.2 c14
      exact x_sub [0, 1, 2] rfl (xj_X2_word_80 o c d σ Q G hB rq x1 x2 K2 hK2 h)
    · have h := h.1 c14
      refine x_iinc (v := x2 + 1) (lvs' := [(2, .int (x2 + 1)), (0, .ref o), (1, .int x1)]) dX2_word_74 (n := 77) rfl 2 rfl rfl (by decide) rfl ?_
      refine x_goto (tgt := 35) dX2_word_77 rfl ?_
      exact x_sub [1, 2, 0] rfl (hK35 (x2 + 1) h)
theorem xl_X2_word_2 (o c d : Nat) (σ : Hp) (Q : Int32 → Prop) (G : XE) (hB : EB o c d σ) (rq : RQ G 0 0 (oI (fun r σ' => σ' = σ ∧ Q r)))     : ∀ z : Int32, lp (lb_X2_word_2 o c d σ  Q ) z → X G rm_X2_word cX2_word RX2 3 (some .int) σ 0 0 2 [(0, .ref o), (1, .int z)] [] := by
  intro z
  refine fun h => lp_X (P := fun z => X G rm_X2_word cX2_word RX2 3 (some .int) σ 0 0 2 [(0, .ref o), (1, .int z)] []) ?_ h
  intro K2 hK2 x1 h
  simp only [lb_X2_word_2] at h
  show X G rm_X2_word cX2_word RX2 3 (some .int) σ 0 0 2 [(0, .ref o), (1, .int x1)] []
  have hK2 : ∀ z : (Int32), K2 z → X G rm_X2_word cX2_word RX2 3 (some .int) σ 0 0 2 [(0, .ref o), (1, .int z)] [] := fun z h => hK2 z h
  refine x_iload_n dX2_word_2 (n := 3) rfl rfl 1 rfl ?_
  refine x_names q461 dX2_word_3 (n := 6) rfl (fun a1 ada1 ha1 => ?_)
  refine x_tlen ha1.2.1 (v := 23) rfl dX2_word_6 (n := 7) rfl ?_
  refine x_icmp_ge (tgt := 101) dX2_word_7 rfl (n := 10) rfl (fun c2 => ?_) (fun c2 => ?_)
  · have h := h.1 c2
    refine x_iconst dX2_word_101 (n := 102) rfl ic_m1 ?_
    exact x_iret rq ⟨rfl, h⟩ dX2_word_102
  · have h := h.2 c2
    refine x_names q461 dX2_word_10 (n := 13) rfl (fun a3 ada3 ha3 => ?_)
    refine x_iload_n dX2_word_13 (n := 14) rfl rfl 1 rfl ?_
    obtain ⟨b4, h⟩ := h
    refine x_ta ha3.2.1 b4 rfl dX2_word_14 (n := 15) rfl ?_
    refine x_cVZ (As := []) (rest := []) cv_X2_73 (met_J3_length σ (nmB.getD x1.toNatClampNeg []) (ada3 x1.toNatClampNeg) ) STR.zs (ha3.2.2 _ (vin_lt b4)) (by obtain ⟨_, k1, -⟩ := (ha3.2.2 _ (vin_lt b4)); exact k1) (by decide) rfl rfl rfl dX2_word_15 (n := 18) rfl (fun r6 q => ?_)
    subst q
    refine x_aload_n dX2_word_18 (n := 19) rfl rfl 0 rfl ?_
    refine x_geti fl_X2_15_2 rfl hB.1 rfl dX2_word_19 (n := 22) rfl ?_
    refine x_aload_n dX2_word_22 (n := 23) rfl rfl 0 rfl ?_
    refine x_geti fl_X2_30_2 rfl hB.1 rfl dX2_word_23 (n := 26) rfl ?_
    refine x_isub dX2_word_26 (n := 27) rfl ?_
    refine x_icmp_eq (tgt := 33) dX2_word_27 rfl (n := 30) rfl (fun c7 => ?_) (fun c7 => ?_)
    · have h := h.1 c7
      refine x_iconst dX2_word_33 (n := 34) rfl ic_0 ?_
      refine x_istore_n (lvs' := [(2, .int 0), (0, .ref o), (1, .int x1)]) dX2_word_34 (n := 35) rfl rfl (by decide) rfl ?_
      exact x_sub [1, 2, 0] rfl (xl_X2_word_35 o c d σ Q G hB rq x1 K2 hK2 0 h)
    · have h := h.2 c7
      refine x_goto (tgt := 95) dX2_word_30 rfl ?_
      refine x_iinc (v := x1 + 1) (lvs' := [(1, .int (x1 + 1)), (0, .ref o)]) dX2_word_95 (n := 98) rfl 1 rfl rfl (by decide) rfl ?_
      refine x_goto (tgt := 2) dX2_word_98 rfl ?_
      exact x_sub [1, 0] rfl (hK2 (x1 + 1) h)
theorem met_X2_word (o c d : Nat) (σ : Hp) (Q : Int32 → Prop) (hB : EB o c d σ) (h : wp_X2_word o c d σ Q) : MetX yX2_word cX2_word 3 (some .int) rm_X2_word σ [.ref o] (oI (fun r σ' => σ' = σ ∧ Q r)) 0 0 := by
  refine metX_of (own := RX2) (lvs := [(0, .ref o)]) (by decide) rfl (Nat.le_of_ble_eq_true rfl) rfl (fun G rq => ?_)
  unfold wp_X2_word at h
  refine x_iconst dX2_word_0 (n := 1) rfl ic_0 ?_
  refine x_istore_n (lvs' := [(1, .int 0), (0, .ref o)]) dX2_word_1 (n := 2) rfl rfl (by decide) rfl ?_
  exact x_sub [1, 0] rfl (xl_X2_word_2 o c d σ Q G hB rq 0 h)
abbrev rm_X2_sign : Room := { frames := 4, cells := 0, slots := 0, locals := 91 }
def wj_X2_sign_110 (o c d : Nat) (σ : Hp)  (Q : Hp → Prop)  : Prop := ((gI σ o 4) < 256 → Q σ) ∧ (¬ (gI σ o 4) < 256 → Q (pI σ o 0 ((gI σ o 0) + 1)))
def wj_X2_sign_88 (o c d : Nat) (σ : Hp) (x1 : Int32) (Q : Hp → Prop)  : Prop := (x1 = 62 → (ok_X2_here o c d σ) ∧ (((f_X2_here o c d σ) = 61 → wj_X2_sign_110 o c d (pI σ o 4 257) Q) ∧ (¬ (f_X2_here o c d σ) = 61 → wj_X2_sign_110 o c d σ Q))) ∧ (¬ x1 = 62 → wj_X2_sign_110 o c d σ Q)
def wj_X2_sign_63 (o c d : Nat) (σ : Hp) (x1 : Int32) (Q : Hp → Prop)  : Prop := (x1 = 60 → (ok_X2_here o c d σ) ∧ (((f_X2_here o c d σ) = 62 → wj_X2_sign_110 o c d (pI σ o 4 258) Q) ∧ (¬ (f_X2_here o c d σ) = 62 → wj_X2_sign_88 o c d σ x1 Q))) ∧ (¬ x1 = 60 → wj_X2_sign_88 o c d σ x1 Q)
def wj_X2_sign_30 (o c d : Nat) (σ : Hp) (x1 : Int32) (w0 : Int32) (Q : Hp → Prop)  : Prop := (x1 = 60 → (ok_X2_here o c d (pI (pI σ o 3 w0) o 4 x1)) ∧ (((f_X2_here o c d (pI (pI σ o 3 w0) o 4 x1)) = 61 → wj_X2_sign_110 o c d (pI (pI (pI σ o 3 w0) o 4 x1) o 4 256) Q) ∧ (¬ (f_X2_here o c d (pI (pI σ o 3 w0) o 4 x1)) = 61 → wj_X2_sign_63 o c d (pI (pI σ o 3 w0) o 4 x1) x1 Q))) ∧ (¬ x1 = 60 → wj_X2_sign_63 o c d (pI (pI σ o 3 w0) o 4 x1) x1 Q)
def wp_X2_sign (o c d : Nat) (σ0 : Hp) (Q : Hp → Prop) : Prop := (ok_X2_here o c d σ0) ∧ (wp_J3_indexOf sgB (f_X2_here o c d σ0) (fun r5 => (r5 < 0 → wj_X2_sign_30 o c d (pI σ0 o 0 ((gI σ0 o 0) + 1)) (f_X2_here o c d σ0) 5 Q) ∧ (¬ r5 < 0 → wj_X2_sign_30 o c d (pI σ0 o 0 ((gI σ0 o 0) + 1)) (f_X2_here o c d σ0) 3 Q)))
theorem xj_X2_sign_110 (o c d : Nat) (σ0 : Hp) (Q : Hp → Prop) (G : XE) (hB0 : EB o c d σ0) (rq : RQ G 0 0 (oV (fun σ' => SH σ0 σ' ∧ Q σ'))) (σ : Hp)     (hs : SH σ0 σ) (h : wj_X2_sign_110 o c d σ Q ) : X G rm_X2_sign cX2_sign RX2 2 none σ 0 0 110 [(0, .ref o)] [] := by
  have hs : SH σ0 σ := hs
  have hB := hB0.sh hs
  unfold wj_X2_sign_110 at h
  refine x_aload_n dX2_sign_110 (n := 111) rfl rfl 0 rfl ?_
  refine x_geti fl_X2_47_2 rfl hB.1 rfl dX2_sign_111 (n := 114) rfl ?_
  refine x_sipush dX2_sign_114 (n := 117) rfl sp_256 ?_
  refine x_icmp_lt (tgt := 130) dX2_sign_117 rfl (n := 120) rfl (fun c11 => ?_) (fun c11 => ?_)
  · have h := h.1 c11
    exact x_vret rq ⟨hs, h⟩ dX2_sign_130
  · have h := h.2 c11
    refine x_aload_n dX2_sign_120 (n := 121) rfl rfl 0 rfl ?_
    refine x_dup dX2_sign_121 (n := 122) rfl rfl ?_
    refine x_geti fl_X2_15_2 rfl hB.1 rfl dX2_sign_122 (n := 125) rfl ?_
    refine x_iconst dX2_sign_125 (n := 126) rfl ic_1 ?_
    refine x_iadd dX2_sign_126 (n := 127) rfl ?_
    refine x_puti fp_X2_15_2 rfl hB.1 dX2_sign_127 (n := 130) rfl ?_
    exact x_vret rq ⟨hs.i, h⟩ dX2_sign_130
theorem xj_X2_sign_88 (o c d : Nat) (σ0 : Hp) (Q : Hp → Prop) (G : XE) (hB0 : EB o c d σ0) (rq : RQ G 0 0 (oV (fun σ' => SH σ0 σ' ∧ Q σ'))) (σ : Hp) (x1 : Int32)    (hs : SH σ0 σ) (h : wj_X2_sign_88 o c d σ x1 Q ) : X G rm_X2_sign cX2_sign RX2 2 none σ 0 0 88 [(0, .ref o), (1, .int x1)] [] := by
  have hs : SH σ0 σ := hs
  have hB := hB0.sh hs
  unfold wj_X2_sign_88 at h
  refine x_iload_n dX2_sign_88 (n := 89) rfl rfl 1 rfl ?_
  refine x_bipush dX2_sign_89 (n := 91) rfl bp_62 ?_
  refine x_icmp_ne (tgt := 110) dX2_sign_91 rfl (n := 94) rfl (fun c16 => ?_) (fun c16 => ?_)
  · have h := h.2 c16
    exact x_sub [0] rfl (xj_X2_sign_110 o c d σ0 Q G hB0 rq σ hs h)
  · have h := h.1 c16
    refine x_aload_n dX2_sign_94 (n := 95) rfl rfl 0 rfl ?_
    obtain ⟨b17, h⟩ := h
    refine x_cVip (As := []) (rest := []) cv_X2_26 ck2 (met_X2_here o c d σ hB b17) hB.1 (by decide) rfl rfl rfl dX2_sign_95 (n := 98) rfl (fun r18 q => ?_)
    subst q
    refine x_bipush dX2_sign_98 (n := 100) rfl bp_61 ?_
    refine x_icmp_ne (tgt := 110) dX2_sign_100 rfl (n := 103) rfl (fun c19 => ?_) (fun c19 => ?_)
    · have h := h.2 c19
      exact x_sub [0] rfl (xj_X2_sign_110 o c d σ0 Q G hB0 rq σ hs h)
    · have h := h.1 c19
      refine x_aload_n dX2_sign_103 (n := 104) rfl rfl 0 rfl ?_
      refine x_sipush dX2_sign_104 (n := 107) rfl sp_257 ?_
      refine x_puti fp_X2_47_2 rfl hB.1 dX2_sign_107 (n := 110) rfl ?_
      exact x_sub [0] rfl (xj_X2_sign_110 o c d σ0 Q G hB0 rq (pI σ o 4 257) hs.i h)
theorem xj_X2_sign_63 (o c d : Nat) (σ0 : Hp) (Q : Hp → Prop) (G : XE) (hB0 : EB o c d σ0) (rq : RQ G 0 0 (oV (fun σ' => SH σ0 σ' ∧ Q σ'))) (σ : Hp) (x1 : Int32)    (hs : SH σ0 σ) (h : wj_X2_sign_63 o c d σ x1 Q ) : X G rm_X2_sign cX2_sign RX2 2 none σ 0 0 63 [(0, .ref o), (1, .int x1)] [] := by
  have hs : SH σ0 σ := hs
  have hB := hB0.sh hs
  unfold wj_X2_sign_63 at h
  refine x_iload_n dX2_sign_63 (n := 64) rfl rfl 1 rfl ?_
  refine x_bipush dX2_sign_64 (n := 66) rfl bp_60 ?_
  refine x_icmp_ne (tgt := 88) dX2_sign_66 rfl (n := 69) rfl (fun c12 => ?_) (fun c12 => ?_)
  · have h := h.2 c12
    exact x_sub [0, 1] rfl (xj_X2_sign_88 o c d σ0 Q G hB0 rq σ x1 hs h)
  · have h := h.1 c12
    refine x_aload_n dX2_sign_69 (n := 70) rfl rfl 0 rfl ?_
    obtain ⟨b13, h⟩ := h
    refine x_cVip (As := []) (rest := []) cv_X2_26 ck2 (met_X2_here o c d σ hB b13) hB.1 (by decide) rfl rfl rfl dX2_sign_70 (n := 73) rfl (fun r14 q => ?_)
    subst q
    refine x_bipush dX2_sign_73 (n := 75) rfl bp_62 ?_
    refine x_icmp_ne (tgt := 88) dX2_sign_75 rfl (n := 78) rfl (fun c15 => ?_) (fun c15 => ?_)
    · have h := h.2 c15
      exact x_sub [0, 1] rfl (xj_X2_sign_88 o c d σ0 Q G hB0 rq σ x1 hs h)
    · have h := h.1 c15
      refine x_aload_n dX2_sign_78 (n := 79) rfl rfl 0 rfl ?_
      refine x_sipush dX2_sign_79 (n := 82) rfl sp_258 ?_
      refine x_puti fp_X2_47_2 rfl hB.1 dX2_sign_82 (n := 85) rfl ?_
      refine x_goto (tgt := 110) dX2_sign_85 rfl ?_
      exact x_sub [0] rfl (xj_X2_sign_110 o c d σ0 Q G hB0 rq (pI σ o 4 258) hs.i h)
theorem xj_X2_sign_30 (o c d : Nat) (σ0 : Hp) (Q : Hp → Prop) (G : XE) (hB0 : EB o c d σ0) (rq : RQ G 0 0 (oV (fun σ' => SH σ0 σ' ∧ Q σ'))) (σ : Hp) (x1 : Int32) (w0 : Int32)    (hs : SH σ0 σ) (h : wj_X2_sign_30 o c d σ x1 w0 Q ) : X G rm_X2_sign cX2_sign RX2 2 none σ 0 0 30 [(0, .ref o), (1, .int x1)] [.int w0, .ref o] := by
  have hs : SH σ0 σ := hs
  have hB := hB0.sh hs
  unfold wj_X2_sign_30 at h
  refine x_puti fp_X2_33_2 rfl hB.1 dX2_sign_30 (n := 33) rfl ?_
  refine x_aload_n dX2_sign_33 (n := 34) rfl rfl 0 rfl ?_
  refine x_iload_n dX2_sign_34 (n := 35) rfl rfl 1 rfl ?_
  refine x_puti fp_X2_47_2 rfl hB.i.1 dX2_sign_35 (n := 38) rfl ?_
  refine x_iload_n dX2_sign_38 (n := 39) rfl rfl 1 rfl ?_
  refine x_bipush dX2_sign_39 (n := 41) rfl bp_60 ?_
  refine x_icmp_ne (tgt := 63) dX2_sign_41 rfl (n := 44) rfl (fun c7 => ?_) (fun c7 => ?_)
  · have h := h.2 c7
    exact x_sub [0, 1] rfl (xj_X2_sign_63 o c d σ0 Q G hB0 rq (pI (pI σ o 3 w0) o 4 x1) x1 hs.i.i h)
  · have h := h.1 c7
    refine x_aload_n dX2_sign_44 (n := 45) rfl rfl 0 rfl ?_
    obtain ⟨b8, h⟩ := h
    refine x_cVip (As := []) (rest := []) cv_X2_26 ck2 (met_X2_here o c d (pI (pI σ o 3 w0) o 4 x1) hB.i.i b8) hB.i.i.1 (by decide) rfl rfl rfl dX2_sign_45 (n := 48) rfl (fun r9 q => ?_)
    subst q
    refine x_bipush dX2_sign_48 (n := 50) rfl bp_61 ?_
    refine x_icmp_ne (tgt := 63) dX2_sign_50 rfl (n := 53) rfl (fun c10 => ?_) (fun c10 => ?_)
    · have h := h.2 c10
      exact x_sub [0, 1] rfl (xj_X2_sign_63 o c d σ0 Q G hB0 rq (pI (pI σ o 3 w0) o 4 x1) x1 hs.i.i h)
    · have h := h.1 c10
      refine x_aload_n dX2_sign_53 (n := 54) rfl rfl 0 rfl ?_
      refine x_sipush dX2_sign_54 (n := 57) rfl sp_256 ?_
      refine x_puti fp_X2_47_2 rfl hB.i.i.1 dX2_sign_57 (n := 60) rfl ?_
      refine x_goto (tgt := 110) dX2_sign_60 rfl ?_
      exact x_sub [0] rfl (xj_X2_sign_110 o c d σ0 Q G hB0 rq (pI (pI (pI σ o 3 w0) o 4 x1) o 4 256) hs.i.i.i h)
theorem met_X2_sign (o c d : Nat) (σ0 : Hp) (Q : Hp → Prop) (hB0 : EB o c d σ0) (h : wp_X2_sign o c d σ0 Q) : MetX yX2_sign cX2_sign 2 none rm_X2_sign σ0 [.ref o] (oV (fun σ' => SH σ0 σ' ∧ Q σ')) 0 0 := by
  refine metX_of (own := RX2) (lvs := [(0, .ref o)]) (by decide) rfl (Nat.le_of_ble_eq_true rfl) rfl (fun G rq => ?_)
  unfold wp_X2_sign at h
  refine x_aload_n dX2_sign_0 (n := 1) rfl rfl 0 rfl ?_
  obtain ⟨b1, h⟩ := h
  refine x_cVip (As := []) (rest := []) cv_X2_26 ck2 (met_X2_here o c d σ0 hB0 b1) hB0.1 (by decide) rfl rfl rfl dX2_sign_1 (n := 4) rfl (fun r2 q => ?_)
  subst q
  refine x_istore_n (lvs' := [(1, .int (f_X2_here o c d σ0)), (0, .ref o)]) dX2_sign_4 (n := 5) rfl rfl (by decide) rfl ?_
  refine x_aload_n dX2_sign_5 (n := 6) rfl rfl 1 rfl ?_
  refine x_dup dX2_sign_6 (n := 7) rfl rfl ?_
  refine x_geti fl_X2_15_2 rfl hB0.1 rfl dX2_sign_7 (n := 10) rfl ?_
  refine x_iconst dX2_sign_10 (n := 11) rfl ic_1 ?_
  refine x_iadd dX2_sign_11 (n := 12) rfl ?_
  refine x_puti fp_X2_15_2 rfl hB0.1 dX2_sign_12 (n := 15) rfl ?_
  refine x_aload_n dX2_sign_15 (n := 16) rfl rfl 1 rfl ?_
  refine x_signs rfl dX2_sign_16 (n := 18) rfl (fun q3 hq3 => ?_)
  refine x_iload_n dX2_sign_18 (n := 19) rfl rfl 0 rfl ?_
  refine x_cVZ (As := [.int (f_X2_here o c d σ0)]) (rest := [.ref o]) cv_X2_63 (met_J3_indexOf (pI σ0 o 0 ((gI σ0 o 0) + 1)) sgB (f_X2_here o c d σ0) q3 _ h) STR.zs hq3 (by obtain ⟨_, k1, -⟩ := hq3; exact k1) (by decide) rfl rfl rfl dX2_sign_19 (n := 22) rfl (fun r5 h => ?_)
  refine x_if_lt (tgt := 29) dX2_sign_22 rfl (n := 25) rfl (fun c6 => ?_) (fun c6 => ?_)
  · have h := h.1 c6
    refine x_iconst dX2_sign_29 (n := 30) rfl ic_5 ?_
    exact x_sub [1, 0] rfl (xj_X2_sign_30 o c d σ0 Q G hB0 rq (pI σ0 o 0 ((gI σ0 o 0) + 1)) (f_X2_here o c d σ0) 5 (SH.rf (σ := σ0)).i h)
  · have h := h.2 c6
    refine x_iconst dX2_sign_25 (n := 26) rfl ic_3 ?_
    refine x_goto (tgt := 30) dX2_sign_26 rfl ?_
    exact x_sub [1, 0] rfl (xj_X2_sign_30 o c d σ0 Q G hB0 rq (pI σ0 o 0 ((gI σ0 o 0) + 1)) (f_X2_here o c d σ0) 3 (SH.rf (σ := σ0)).i h)
abbrev rm_X2_next : Room := { frames := 5, cells := 0, slots := 0, locals := 112 }
def wj_X2_next_145 (o c d : Nat) (σ : Hp) (w0 : Int32) (Q : Hp → Prop)  : Prop := (w0 = 1 → wp_X2_name o c d (pI σ o 3 w0) (fun  s29 => Q s29)) ∧ (¬ w0 = 1 → Q (pI σ o 3 w0))
def lb_X2_next_75 (o c d : Nat)  (Q : Hp → Prop)  (K75 : Hp → Prop) (σ : Hp) : Prop := (ok_X2_here o c d σ) ∧ (((f_X1_in ((f_X2_here o c d σ).toInt64) 97 122) = 0 → wp_X2_word o c d σ (fun r25 => (r25 = (-1) → (((gI σ o 0) - (gI σ o 2)) ≤ 6 → wj_X2_next_145 o c d (pI σ o 4 r25) 1 Q) ∧ (¬ ((gI σ o 0) - (gI σ o 2)) ≤ 6 → wj_X2_next_145 o c d (pI σ o 4 r25) 5 Q)) ∧ (¬ r25 = (-1) → wj_X2_next_145 o c d (pI σ o 4 r25) 0 Q))) ∧ (¬ (f_X1_in ((f_X2_here o c d σ).toInt64) 97 122) = 0 → K75 (pI σ o 0 ((gI σ o 0) + 1))))
def lb_X2_next_190 (o c d : Nat)  (Q : Hp → Prop)  (K190 : Hp → Prop) (σ : Hp) : Prop := (ok_X2_here o c d σ) ∧ (((f_X1_in ((f_X2_here o c d σ).toInt64) 48 57) = 0 → Q σ) ∧ (¬ (f_X1_in ((f_X2_here o c d σ).toInt64) 48 57) = 0 → ((gI σ o 4) ≤ 99999 → (ok_X2_here o c d σ) ∧ (K190 (pI (pI σ o 4 (((10 * (gI σ o 4)) + (f_X2_here o c d σ)) - 48)) o 0 ((gI σ o 0) + 1)))) ∧ (¬ (gI σ o 4) ≤ 99999 → K190 (pI (pI σ o 4 (gI σ o 4)) o 0 ((gI σ o 0) + 1)))))
def lb_X2_next_0 (o c d : Nat)  (Q : Hp → Prop)  (K0 : Hp → Prop) (σ : Hp) : Prop := (ok_X2_here o c d σ) ∧ (((f_X2_here o c d σ) = 10 → K0 (pI σ o 0 ((gI σ o 0) + 1))) ∧ (¬ (f_X2_here o c d σ) = 10 → (ok_X2_here o c d σ) ∧ (((f_X2_here o c d σ) = 32 → K0 (pI σ o 0 ((gI σ o 0) + 1))) ∧ (¬ (f_X2_here o c d σ) = 32 → ((gI σ o 0) = (gI σ o 1) → Q (pI (pI σ o 2 (gI σ o 0)) o 3 4)) ∧ (¬ (gI σ o 0) = (gI σ o 1) → (ok_X2_here o c d (pI σ o 2 (gI σ o 0))) ∧ (((f_X1_in ((f_X2_here o c d (pI σ o 2 (gI σ o 0))).toInt64) 97 122) = 0 → (ok_X2_here o c d (pI σ o 2 (gI σ o 0))) ∧ (((f_X1_in ((f_X2_here o c d (pI σ o 2 (gI σ o 0))).toInt64) 48 57) = 0 → wp_X2_sign o c d (pI σ o 2 (gI σ o 0)) (fun  s18 => Q s18)) ∧ (¬ (f_X1_in ((f_X2_here o c d (pI σ o 2 (gI σ o 0))).toInt64) 48 57) = 0 → lp (lb_X2_next_190 o c d Q) (pI (pI (pI σ o 2 (gI σ o 0)) o 3 2) o 4 0)))) ∧ (¬ (f_X1_in ((f_X2_here o c d (pI σ o 2 (gI σ o 0))).toInt64) 97 122) = 0 → lp (lb_X2_next_75 o c d Q) (pI σ o 2 (gI σ o 0)))))))))
def wp_X2_next (o c d : Nat) (σ0 : Hp) (Q : Hp → Prop) : Prop := lp (lb_X2_next_0 o c d Q) σ0
theorem xj_X2_next_145 (o c d : Nat) (σ0 : Hp) (Q : Hp → Prop) (G : XE) (hB0 : EB o c d σ0) (rq : RQ G 0 0 (oV (fun σ' => SH σ0 σ' ∧ Q σ'))) (σ : Hp) (w0 : Int32)    (hs : SH σ0 σ) (h : wj_X2_next_145 o c d σ w0 Q ) : X G rm_X2_next cX2_next RX2 1 none σ 0 0 145 [(0, .ref o)] [.int w0, .ref o] := by
  have hs : SH σ0 σ := hs
  have hB := hB0.sh hs
  unfold wj_X2_next_145 at h
  refine x_puti fp_X2_33_2 rfl hB.1 dX2_next_145 (n := 148) rfl ?_
  refine x_aload_n dX2_next_148 (n := 149) rfl rfl 0 rfl ?_
  refine x_geti fl_X2_33_2 rfl hB.i.1 (gIs) dX2_next_149 (n := 152) rfl ?_
  refine x_iconst dX2_next_152 (n := 153) rfl ic_1 ?_
  refine x_icmp_ne (tgt := 259) dX2_next_153 rfl (n := 156) rfl (fun c28 => ?_) (fun c28 => ?_)
  · have h := h.2 c28
    exact x_vret rq ⟨hs.i, h⟩ dX2_next_259
  · have h := h.1 c28
    refine x_aload_n dX2_next_156 (n := 157) rfl rfl 0 rfl ?_
    refine x_cVvm (As := []) (rest := []) cv_X2_50 ck2 (met_X2_name o c d (pI σ o 3 w0) _ hB.i h) hB.i.1 (by decide) rfl rfl rfl dX2_next_157 (n := 160) rfl (fun  s29 hs30 h => ?_)
    have hs30t := hs.i.tr hs30; have hBs29 := hB0.sh hs30t
    refine x_goto (tgt := 259) dX2_next_160 rfl ?_
    exact x_vret rq ⟨hs30t, h⟩ dX2_next_259
theorem xl_X2_next_75 (o c d : Nat) (σ0 : Hp) (Q : Hp → Prop) (G : XE) (hB0 : EB o c d σ0) (rq : RQ G 0 0 (oV (fun σ' => SH σ0 σ' ∧ Q σ')))     : ∀ z : Hp, SH σ0 z → lp (lb_X2_next_75 o c d  Q ) z → X G rm_X2_next cX2_next RX2 1 none z 0 0 75 [(0, .ref o)] [] := by
  intro z
  refine fun hs h => lp_X (P := fun z => SH σ0 z → X G rm_X2_next cX2_next RX2 1 none z 0 0 75 [(0, .ref o)] []) ?_ h hs
  intro K75 hK75 σ h hs
  have hs : SH σ0 σ := hs
  have hB := hB0.sh hs
  simp only [lb_X2_next_75] at h
  show X G rm_X2_next cX2_next RX2 1 none σ 0 0 75 [(0, .ref o)] []
  have hK75 : ∀ z : (Hp), SH σ0 z → K75 z → X G rm_X2_next cX2_next RX2 1 none z 0 0 75 [(0, .ref o)] [] := fun z hs h => hK75 z h hs
  refine x_aload_n dX2_next_75 (n := 76) rfl rfl 0 rfl ?_
  obtain ⟨b20, h⟩ := h
  refine x_cVip (As := []) (rest := []) cv_X2_26 ck2 (met_X2_here o c d σ hB b20) hB.1 (by decide) rfl rfl rfl dX2_next_76 (n := 79) rfl (fun r21 q => ?_)
  subst q
  refine x_i2l dX2_next_79 (n := 80) rfl ?_
  refine x_ldc2 dX2_next_80 (n := 83) rfl q454 ?_
  refine x_ldc2 dX2_next_83 (n := 86) rfl q455 ?_
  refine x_cSip (As := [.long ((f_X2_here o c d σ).toInt64), .long 97, .long 122]) (rest := []) cs_X2_40 (met_X1_in σ ((f_X2_here o c d σ).toInt64) 97 122 ) (by decide) rfl rfl rfl dX2_next_86 (n := 89) rfl (fun r23 q => ?_)
  subst q
  refine x_if_eq (tgt := 105) dX2_next_89 rfl (n := 92) rfl (fun c24 => ?_) (fun c24 => ?_)
  · have h := h.1 c24
    refine x_aload_n dX2_next_105 (n := 106) rfl rfl 0 rfl ?_
    refine x_aload_n dX2_next_106 (n := 107) rfl rfl 0 rfl ?_
    refine x_cVip (As := []) (rest := [.ref o]) cv_X2_44 ck2 (met_X2_word o c d σ _ hB h) hB.1 (by decide) rfl rfl rfl dX2_next_107 (n := 110) rfl (fun r25 h => ?_)
    refine x_puti fp_X2_47_2 rfl hB.1 dX2_next_110 (n := 113) rfl ?_
    refine x_aload_n dX2_next_113 (n := 114) rfl rfl 0 rfl ?_
    refine x_aload_n dX2_next_114 (n := 115) rfl rfl 0 rfl ?_
    refine x_geti fl_X2_47_2 rfl hB.i.1 (gIs) dX2_next_115 (n := 118) rfl ?_
    refine x_iconst dX2_next_118 (n := 119) rfl ic_m1 ?_
    refine x_icmp_eq (tgt := 126) dX2_next_119 rfl (n := 122) rfl (fun c26 => ?_) (fun c26 => ?_)
    · have h := h.1 c26
      refine x_aload_n dX2_next_126 (n := 127) rfl rfl 0 rfl ?_
      refine x_geti fl_X2_15_2 rfl hB.i.1 (gIn (by decide)) dX2_next_127 (n := 130) rfl ?_
      refine x_aload_n dX2_next_130 (n := 131) rfl rfl 0 rfl ?_
      refine x_geti fl_X2_30_2 rfl hB.i.1 (gIn (by decide)) dX2_next_131 (n := 134) rfl ?_
      refine x_isub dX2_next_134 (n := 135) rfl ?_
      refine x_bipush dX2_next_135 (n := 137) rfl bp_6 ?_
      refine x_icmp_le (tgt := 144) dX2_next_137 rfl (n := 140) rfl (fun c27 => ?_) (fun c27 => ?_)
      · have h := h.1 c27
        refine x_iconst dX2_next_144 (n := 145) rfl ic_1 ?_
        exact x_sub [0] rfl (xj_X2_next_145 o c d σ0 Q G hB0 rq (pI σ o 4 r25) 1 hs.i h)
      · have h := h.2 c27
        refine x_iconst dX2_next_140 (n := 141) rfl ic_5 ?_
        refine x_goto (tgt := 145) dX2_next_141 rfl ?_
        exact x_sub [0] rfl (xj_X2_next_145 o c d σ0 Q G hB0 rq (pI σ o 4 r25) 5 hs.i h)
    · have h := h.2 c26
      refine x_iconst dX2_next_122 (n := 123) rfl ic_0 ?_
      refine x_goto (tgt := 145) dX2_next_123 rfl ?_
      exact x_sub [0] rfl (xj_X2_next_145 o c d σ0 Q G hB0 rq (pI σ o 4 r25) 0 hs.i h)
  · have h := h.2 c24
    refine x_aload_n dX2_next_92 (n := 93) rfl rfl 0 rfl ?_
    refine x_dup dX2_next_93 (n := 94) rfl rfl ?_
    refine x_geti fl_X2_15_2 rfl hB.1 rfl dX2_next_94 (n := 97) rfl ?_
    refine x_iconst dX2_next_97 (n := 98) rfl ic_1 ?_
    refine x_iadd dX2_next_98 (n := 99) rfl ?_
    refine x_puti fp_X2_15_2 rfl hB.1 dX2_next_99 (n := 102) rfl ?_
    refine x_goto (tgt := 75) dX2_next_102 rfl ?_
    exact x_sub [0] rfl (hK75 (pI σ o 0 ((gI σ o 0) + 1)) hs.i h)
theorem xl_X2_next_190 (o c d : Nat) (σ0 : Hp) (Q : Hp → Prop) (G : XE) (hB0 : EB o c d σ0) (rq : RQ G 0 0 (oV (fun σ' => SH σ0 σ' ∧ Q σ')))     : ∀ z : Hp, SH σ0 z → lp (lb_X2_next_190 o c d  Q ) z → X G rm_X2_next cX2_next RX2 1 none z 0 0 190 [(0, .ref o)] [] := by
  intro z
  refine fun hs h => lp_X (P := fun z => SH σ0 z → X G rm_X2_next cX2_next RX2 1 none z 0 0 190 [(0, .ref o)] []) ?_ h hs
  intro K190 hK190 σ h hs
  have hs : SH σ0 σ := hs
  have hB := hB0.sh hs
  simp only [lb_X2_next_190] at h
  show X G rm_X2_next cX2_next RX2 1 none σ 0 0 190 [(0, .ref o)] []
  have hK190 : ∀ z : (Hp), SH σ0 z → K190 z → X G rm_X2_next cX2_next RX2 1 none z 0 0 190 [(0, .ref o)] [] := fun z hs h => hK190 z h hs
  refine x_aload_n dX2_next_190 (n := 191) rfl rfl 0 rfl ?_
  obtain ⟨b31, h⟩ := h
  refine x_cVip (As := []) (rest := []) cv_X2_26 ck2 (met_X2_here o c d σ hB b31) hB.1 (by decide) rfl rfl rfl dX2_next_191 (n := 194) rfl (fun r32 q => ?_)
  subst q
  refine x_i2l dX2_next_194 (n := 195) rfl ?_
  refine x_ldc2 dX2_next_195 (n := 198) rfl q515 ?_
  refine x_ldc2 dX2_next_198 (n := 201) rfl q516 ?_
  refine x_cSip (As := [.long ((f_X2_here o c d σ).toInt64), .long 48, .long 57]) (rest := []) cs_X2_40 (met_X1_in σ ((f_X2_here o c d σ).toInt64) 48 57 ) (by decide) rfl rfl rfl dX2_next_201 (n := 204) rfl (fun r34 q => ?_)
  subst q
  refine x_if_eq (tgt := 259) dX2_next_204 rfl (n := 207) rfl (fun c35 => ?_) (fun c35 => ?_)
  · have h := h.1 c35
    exact x_vret rq ⟨hs, h⟩ dX2_next_259
  · have h := h.2 c35
    refine x_aload_n dX2_next_207 (n := 208) rfl rfl 0 rfl ?_
    refine x_aload_n dX2_next_208 (n := 209) rfl rfl 0 rfl ?_
    refine x_geti fl_X2_47_2 rfl hB.1 rfl dX2_next_209 (n := 212) rfl ?_
    refine x_ldc dX2_next_212 (n := 214) rfl q517 ?_
    refine x_icmp_le (tgt := 224) dX2_next_214 rfl (n := 217) rfl (fun c36 => ?_) (fun c36 => ?_)
    · have h := h.1 c36
      refine x_bipush dX2_next_224 (n := 226) rfl bp_10 ?_
      refine x_aload_n dX2_next_226 (n := 227) rfl rfl 0 rfl ?_
      refine x_geti fl_X2_47_2 rfl hB.1 rfl dX2_next_227 (n := 230) rfl ?_
      refine x_imul dX2_next_230 (n := 231) rfl ?_
      refine x_aload_n dX2_next_231 (n := 232) rfl rfl 0 rfl ?_
      obtain ⟨b37, h⟩ := h
      refine x_cVip (As := []) (rest := [.int (10 * (gI σ o 4)), .ref o]) cv_X2_26 ck2 (met_X2_here o c d σ hB b37) hB.1 (by decide) rfl rfl rfl dX2_next_232 (n := 235) rfl (fun r38 q => ?_)
      subst q
      refine x_iadd dX2_next_235 (n := 236) rfl ?_
      refine x_bipush dX2_next_236 (n := 238) rfl bp_48 ?_
      refine x_isub dX2_next_238 (n := 239) rfl ?_
      refine x_puti fp_X2_47_2 rfl hB.1 dX2_next_239 (n := 242) rfl ?_
      refine x_aload_n dX2_next_242 (n := 243) rfl rfl 0 rfl ?_
      refine x_dup dX2_next_243 (n := 244) rfl rfl ?_
      refine x_geti fl_X2_15_2 rfl hB.i.1 (gIn (by decide)) dX2_next_244 (n := 247) rfl ?_
      refine x_iconst dX2_next_247 (n := 248) rfl ic_1 ?_
      refine x_iadd dX2_next_248 (n := 249) rfl ?_
      refine x_puti fp_X2_15_2 rfl hB.i.1 dX2_next_249 (n := 252) rfl ?_
      refine x_goto (tgt := 190) dX2_next_252 rfl ?_
      exact x_sub [0] rfl (hK190 (pI (pI σ o 4 (((10 * (gI σ o 4)) + (f_X2_here o c d σ)) - 48)) o 0 ((gI σ o 0) + 1)) hs.i.i h)
    · have h := h.2 c36
      refine x_aload_n dX2_next_217 (n := 218) rfl rfl 0 rfl ?_
      refine x_geti fl_X2_47_2 rfl hB.1 rfl dX2_next_218 (n := 221) rfl ?_
      refine x_goto (tgt := 239) dX2_next_221 rfl ?_
      refine x_puti fp_X2_47_2 rfl hB.1 dX2_next_239 (n := 242) rfl ?_
      refine x_aload_n dX2_next_242 (n := 243) rfl rfl 0 rfl ?_
      refine x_dup dX2_next_243 (n := 244) rfl rfl ?_
      refine x_geti fl_X2_15_2 rfl hB.i.1 (gIn (by decide)) dX2_next_244 (n := 247) rfl ?_
      refine x_iconst dX2_next_247 (n := 248) rfl ic_1 ?_
      refine x_iadd dX2_next_248 (n := 249) rfl ?_
      refine x_puti fp_X2_15_2 rfl hB.i.1 dX2_next_249 (n := 252) rfl ?_
      refine x_goto (tgt := 190) dX2_next_252 rfl ?_
      exact x_sub [0] rfl (hK190 (pI (pI σ o 4 (gI σ o 4)) o 0 ((gI σ o 0) + 1)) hs.i.i h)
theorem xl_X2_next_0 (o c d : Nat) (σ0 : Hp) (Q : Hp → Prop) (G : XE) (hB0 : EB o c d σ0) (rq : RQ G 0 0 (oV (fun σ' => SH σ0 σ' ∧ Q σ')))     : ∀ z : Hp, SH σ0 z → lp (lb_X2_next_0 o c d  Q ) z → X G rm_X2_next cX2_next RX2 1 none z 0 0 0 [(0, .ref o)] [] := by
  intro z
  refine fun hs h => lp_X (P := fun z => SH σ0 z → X G rm_X2_next cX2_next RX2 1 none z 0 0 0 [(0, .ref o)] []) ?_ h hs
  intro K0 hK0 σ h hs
  have hs : SH σ0 σ := hs
  have hB := hB0.sh hs
  simp only [lb_X2_next_0] at h
  show X G rm_X2_next cX2_next RX2 1 none σ 0 0 0 [(0, .ref o)] []
  have hK0 : ∀ z : (Hp), SH σ0 z → K0 z → X G rm_X2_next cX2_next RX2 1 none z 0 0 0 [(0, .ref o)] [] := fun z hs h => hK0 z h hs
  refine x_aload_n dX2_next_0 (n := 1) rfl rfl 0 rfl ?_
  obtain ⟨b1, h⟩ := h
  refine x_cVip (As := []) (rest := []) cv_X2_26 ck2 (met_X2_here o c d σ hB b1) hB.1 (by decide) rfl rfl rfl dX2_next_1 (n := 4) rfl (fun r2 q => ?_)
  subst q
  refine x_bipush dX2_next_4 (n := 6) rfl bp_10 ?_
  refine x_icmp_eq (tgt := 18) dX2_next_6 rfl (n := 9) rfl (fun c3 => ?_) (fun c3 => ?_)
  · have h := h.1 c3
    refine x_aload_n dX2_next_18 (n := 19) rfl rfl 0 rfl ?_
    refine x_dup dX2_next_19 (n := 20) rfl rfl ?_
    refine x_geti fl_X2_15_2 rfl hB.1 rfl dX2_next_20 (n := 23) rfl ?_
    refine x_iconst dX2_next_23 (n := 24) rfl ic_1 ?_
    refine x_iadd dX2_next_24 (n := 25) rfl ?_
    refine x_puti fp_X2_15_2 rfl hB.1 dX2_next_25 (n := 28) rfl ?_
    refine x_goto (tgt := 0) dX2_next_28 rfl ?_
    exact x_sub [0] rfl (hK0 (pI σ o 0 ((gI σ o 0) + 1)) hs.i h)
  · have h := h.2 c3
    refine x_aload_n dX2_next_9 (n := 10) rfl rfl 0 rfl ?_
    obtain ⟨b4, h⟩ := h
    refine x_cVip (As := []) (rest := []) cv_X2_26 ck2 (met_X2_here o c d σ hB b4) hB.1 (by decide) rfl rfl rfl dX2_next_10 (n := 13) rfl (fun r5 q => ?_)
    subst q
    refine x_bipush dX2_next_13 (n := 15) rfl bp_32 ?_
    refine x_icmp_ne (tgt := 31) dX2_next_15 rfl (n := 18) rfl (fun c6 => ?_) (fun c6 => ?_)
    · have h := h.2 c6
      refine x_aload_n dX2_next_31 (n := 32) rfl rfl 0 rfl ?_
      refine x_aload_n dX2_next_32 (n := 33) rfl rfl 0 rfl ?_
      refine x_geti fl_X2_15_2 rfl hB.1 rfl dX2_next_33 (n := 36) rfl ?_
      refine x_puti fp_X2_30_2 rfl hB.1 dX2_next_36 (n := 39) rfl ?_
      refine x_aload_n dX2_next_39 (n := 40) rfl rfl 0 rfl ?_
      refine x_geti fl_X2_15_2 rfl hB.i.1 (gIn (by decide)) dX2_next_40 (n := 43) rfl ?_
      refine x_aload_n dX2_next_43 (n := 44) rfl rfl 0 rfl ?_
      refine x_geti fl_X2_19_2 rfl hB.i.1 (gIn (by decide)) dX2_next_44 (n := 47) rfl ?_
      refine x_icmp_ne (tgt := 58) dX2_next_47 rfl (n := 50) rfl (fun c7 => ?_) (fun c7 => ?_)
      · have h := h.2 c7
        refine x_aload_n dX2_next_58 (n := 59) rfl rfl 0 rfl ?_
        obtain ⟨b8, h⟩ := h
        refine x_cVip (As := []) (rest := []) cv_X2_26 ck2 (met_X2_here o c d (pI σ o 2 (gI σ o 0)) hB.i b8) hB.i.1 (by decide) rfl rfl rfl dX2_next_59 (n := 62) rfl (fun r9 q => ?_)
        subst q
        refine x_i2l dX2_next_62 (n := 63) rfl ?_
        refine x_ldc2 dX2_next_63 (n := 66) rfl q454 ?_
        refine x_ldc2 dX2_next_66 (n := 69) rfl q455 ?_
        refine x_cSip (As := [.long ((f_X2_here o c d (pI σ o 2 (gI σ o 0))).toInt64), .long 97, .long 122]) (rest := []) cs_X2_40 (met_X1_in (pI σ o 2 (gI σ o 0)) ((f_X2_here o c d (pI σ o 2 (gI σ o 0))).toInt64) 97 122 ) (by decide) rfl rfl rfl dX2_next_69 (n := 72) rfl (fun r11 q => ?_)
        subst q
        refine x_if_eq (tgt := 163) dX2_next_72 rfl (n := 75) rfl (fun c12 => ?_) (fun c12 => ?_)
        · have h := h.1 c12
          refine x_aload_n dX2_next_163 (n := 164) rfl rfl 0 rfl ?_
          obtain ⟨b13, h⟩ := h
          refine x_cVip (As := []) (rest := []) cv_X2_26 ck2 (met_X2_here o c d (pI σ o 2 (gI σ o 0)) hB.i b13) hB.i.1 (by decide) rfl rfl rfl dX2_next_164 (n := 167) rfl (fun r14 q => ?_)
          subst q
          refine x_i2l dX2_next_167 (n := 168) rfl ?_
          refine x_ldc2 dX2_next_168 (n := 171) rfl q515 ?_
          refine x_ldc2 dX2_next_171 (n := 174) rfl q516 ?_
          refine x_cSip (As := [.long ((f_X2_here o c d (pI σ o 2 (gI σ o 0))).toInt64), .long 48, .long 57]) (rest := []) cs_X2_40 (met_X1_in (pI σ o 2 (gI σ o 0)) ((f_X2_here o c d (pI σ o 2 (gI σ o 0))).toInt64) 48 57 ) (by decide) rfl rfl rfl dX2_next_174 (n := 177) rfl (fun r16 q => ?_)
          subst q
          refine x_if_eq (tgt := 255) dX2_next_177 rfl (n := 180) rfl (fun c17 => ?_) (fun c17 => ?_)
          · have h := h.1 c17
            refine x_aload_n dX2_next_255 (n := 256) rfl rfl 0 rfl ?_
            refine x_cVvm (As := []) (rest := []) cv_X2_58 ck2 (met_X2_sign o c d (pI σ o 2 (gI σ o 0)) _ hB.i h) hB.i.1 (by decide) rfl rfl rfl dX2_next_256 (n := 259) rfl (fun  s18 hs19 h => ?_)
            have hs19t := hs.i.tr hs19; have hBs18 := hB0.sh hs19t
            exact x_vret rq ⟨hs19t, h⟩ dX2_next_259
          · have h := h.2 c17
            refine x_aload_n dX2_next_180 (n := 181) rfl rfl 0 rfl ?_
            refine x_iconst dX2_next_181 (n := 182) rfl ic_2 ?_
            refine x_puti fp_X2_33_2 rfl hB.i.1 dX2_next_182 (n := 185) rfl ?_
            refine x_aload_n dX2_next_185 (n := 186) rfl rfl 0 rfl ?_
            refine x_iconst dX2_next_186 (n := 187) rfl ic_0 ?_
            refine x_puti fp_X2_47_2 rfl hB.i.i.1 dX2_next_187 (n := 190) rfl ?_
            exact x_sub [0] rfl (xl_X2_next_190 o c d σ0 Q G hB0 rq (pI (pI (pI σ o 2 (gI σ o 0)) o 3 2) o 4 0) hs.i.i.i h)
        · have h := h.2 c12
          exact x_sub [0] rfl (xl_X2_next_75 o c d σ0 Q G hB0 rq (pI σ o 2 (gI σ o 0)) hs.i h)
      · have h := h.1 c7
        refine x_aload_n dX2_next_50 (n := 51) rfl rfl 0 rfl ?_
        refine x_iconst dX2_next_51 (n := 52) rfl ic_4 ?_
        refine x_puti fp_X2_33_2 rfl hB.i.1 dX2_next_52 (n := 55) rfl ?_
        refine x_goto (tgt := 259) dX2_next_55 rfl ?_
        exact x_vret rq ⟨hs.i.i, h⟩ dX2_next_259
    · have h := h.1 c6
      refine x_aload_n dX2_next_18 (n := 19) rfl rfl 0 rfl ?_
      refine x_dup dX2_next_19 (n := 20) rfl rfl ?_
      refine x_geti fl_X2_15_2 rfl hB.1 rfl dX2_next_20 (n := 23) rfl ?_
      refine x_iconst dX2_next_23 (n := 24) rfl ic_1 ?_
      refine x_iadd dX2_next_24 (n := 25) rfl ?_
      refine x_puti fp_X2_15_2 rfl hB.1 dX2_next_25 (n := 28) rfl ?_
      refine x_goto (tgt := 0) dX2_next_28 rfl ?_
      exact x_sub [0] rfl (hK0 (pI σ o 0 ((gI σ o 0) + 1)) hs.i h)
theorem met_X2_next (o c d : Nat) (σ0 : Hp) (Q : Hp → Prop) (hB0 : EB o c d σ0) (h : wp_X2_next o c d σ0 Q) : MetX yX2_next cX2_next 1 none rm_X2_next σ0 [.ref o] (oV (fun σ' => SH σ0 σ' ∧ Q σ')) 0 0 := by
  refine metX_of (own := RX2) (lvs := [(0, .ref o)]) (by decide) rfl (Nat.le_of_ble_eq_true rfl) rfl (fun G rq => ?_)
  unfold wp_X2_next at h
  exact x_sub [0] rfl (xl_X2_next_0 o c d σ0 Q G hB0 rq σ0 (SH.rf (σ := σ0)) h)
