set_option maxRecDepth 100000
def lb_X1_text_82 (o c : Nat)  (Q : Int32 → Hp → Prop)  (K82 : Int32 × Hp → Prop) (z : Int32 × Hp) : Prop := match z with
  | (x2, σ) => ((gI σ o 9) ≤ x2 → wp_X1_forgetRows o c (pI (pI (pI σ o 11 0) o 14 0) o 15 0) (fun  s4 => Q (gI s4 c 11) s4)) ∧ (¬ (gI σ o 9) ≤ x2 → (vp_in x2 12) ∧ ((ok_J2_get (c + 9) 6 σ x2) ∧ ((NB (f_J2_get (c + 9) 6 σ x2) σ) ∧ (wp_X5_become (o + 38 + 6 * x2.toNatClampNeg) σ (f_J2_get (c + 9) 6 σ x2) (fun  s10 => K82 (x2 + 1, s10))))))
def wt_X1_text_66 (o c : Nat) (σ0 : Hp) (Q : Int32 → Hp → Prop) : Prop := lp (lb_X1_text_82 o c Q) (0, pI σ0 o 9 (f_J2_size (c + 9) 6 σ0))
theorem xl_X1_text_82 {rm : Room} {P9 : Int32 → Hp → Prop} {PX9 : Nat → String → Hp → Prop} {mc ms cs ss : Nat} (o c : Nat) (σ0 : Hp) (Q : Int32 → Hp → Prop) (G : XE) (hB0 : LB o c σ0) (rq : RQx G [((32 : Nat), (44 : Nat), (47 : Nat), (107 : Nat))] mc ms (oI P9) PX9) (hP : ∀ r σ', SH σ0 σ' → Q r σ' → P9 r σ') (hcs : cs ≤ rm.cells ∧ ss ≤ rm.slots) (hmc : cs ≤ mc ∧ ss ≤ ms) (hrm : 3 ≤ rm.frames ∧ 64 ≤ rm.locals)     : ∀ z : Int32 × Hp, SH σ0 z.2 → lp (lb_X1_text_82 o c  Q ) z → X G rm cX1_text RX1 3 (some .int) z.2 cs ss 82 [(0, .ref o), (2, .int z.1)] [] := by
  intro z
  refine fun hs h => lp_X (P := fun z => SH σ0 z.2 → X G rm cX1_text RX1 3 (some .int) z.2 cs ss 82 [(0, .ref o), (2, .int z.1)] []) ?_ h hs
  intro K82 hK82 z h hs
  obtain ⟨x2, σ⟩ := z
  have hs : SH σ0 σ := hs
  have hB := hB0.sh hs
  simp only [lb_X1_text_82] at h
  show X G rm cX1_text RX1 3 (some .int) σ cs ss 82 [(0, .ref o), (2, .int x2)] []
  have hK82 : ∀ z : (Int32 × Hp), SH σ0 z.2 → K82 z → X G rm cX1_text RX1 3 (some .int) z.2 cs ss 82 [(0, .ref o), (2, .int z.1)] [] := fun z hs h => hK82 z h hs
  refine x_iload_n dX1_text_82 (n := 83) rfl rfl 1 rfl ?_
  refine x_aload_n dX1_text_83 (n := 84) rfl rfl 0 rfl ?_
  refine x_geti fl_X1_124_1 rfl hB.1 rfl dX1_text_84 (n := 87) rfl ?_
  refine x_icmp_ge (tgt := 119) dX1_text_87 rfl (n := 90) rfl (fun c3 => ?_) (fun c3 => ?_)
  · have h := h.1 c3
    refine x_aload_n dX1_text_119 (n := 120) rfl rfl 0 rfl ?_
    refine x_iconst dX1_text_120 (n := 121) rfl ic_0 ?_
    refine x_puti fp_X1_135_1 rfl hB.1 dX1_text_121 (n := 124) rfl ?_
    refine x_aload_n dX1_text_124 (n := 125) rfl rfl 0 rfl ?_
    refine x_iconst dX1_text_125 (n := 126) rfl ic_0 ?_
    refine x_puti fp_X1_138_1 rfl hB.i.1 dX1_text_126 (n := 129) rfl ?_
    refine x_aload_n dX1_text_129 (n := 130) rfl rfl 0 rfl ?_
    refine x_iconst dX1_text_130 (n := 131) rfl ic_0 ?_
    refine x_putz fp_X1_141_1 rfl hB.i.i.1 isB0 dX1_text_131 (n := 134) rfl ?_
    refine x_aload_n dX1_text_134 (n := 135) rfl rfl 0 rfl ?_
    refine x_cVvm (As := []) (rest := []) cv_X1_145 ck1 (met_X1_forgetRows o c (pI (pI (pI σ o 11 0) o 14 0) o 15 0) _ hB.i.i.i h) hB.i.i.i.1 ⟨rfl, rfl, Nat.le_trans (by decide) hrm.1, Nat.le_trans (by decide) hrm.2, hcs.1, hcs.2⟩ rfl rfl rfl dX1_text_135 (n := 138) rfl (fun  s4 hs5 h => ?_)
    have hs5t := hs.i.i.i.tr hs5; have hBs4 := hB0.sh hs5t
    refine x_aload_n dX1_text_138 (n := 139) rfl rfl 0 rfl ?_
    refine x_getr fl_X1_39_1 rfl hBs4.1 hBs4.r5 dX1_text_139 (n := 142) rfl ?_
    refine x_geti fl_X1_148_3 rfl hBs4.rb.1 rfl dX1_text_142 (n := 145) rfl ?_
    exact x_widen hmc.1 hmc.2 (y_iret rq (hP _ _ hs5t h) dX1_text_145)
  · have h := h.2 c3
    refine x_aload_n dX1_text_90 (n := 91) rfl rfl 0 rfl ?_
    refine x_getr fl_X1_49_1 rfl hB.1 hB.r7 dX1_text_91 (n := 94) rfl ?_
    refine x_iload_n dX1_text_94 (n := 95) rfl rfl 1 rfl ?_
    obtain ⟨b6, h⟩ := h
    refine x_aald at_note rfl hB.a7 b6 rfl (hB.n7 b6) dX1_text_95 (n := 96) rfl ?_
    refine x_aload_n dX1_text_96 (n := 97) rfl rfl 0 rfl ?_
    refine x_getr fl_X1_39_1 rfl hB.1 hB.r5 dX1_text_97 (n := 100) rfl ?_
    refine x_getr fl_X1_115_3 rfl hB.rb.1 hB.rb.r4 dX1_text_100 (n := 103) rfl ?_
    refine x_iload_n dX1_text_103 (n := 104) rfl rfl 1 rfl ?_
    obtain ⟨b7, h⟩ := h
    refine x_cVrp (As := [.int x2]) (rest := [.ref (o + 38 + 6 * x2.toNatClampNeg)]) cv_X1_127 ck4 (met_J2_get (c + 9) 6 σ x2 hB.rb.b4 b7) hB.rb.b4.1 ⟨rfl, rfl, Nat.le_trans (by decide) hrm.1, Nat.le_trans (by decide) hrm.2, hcs.1, hcs.2⟩ rfl rfl rfl dX1_text_104 (n := 107) rfl (fun r8 q => ?_)
    subst q
    obtain ⟨b9, h⟩ := h
    refine x_cast cx_X1_47_5 b9.1 dX1_text_107 (n := 110) rfl ?_
    refine x_cVvm (As := [.ref (f_J2_get (c + 9) 6 σ x2)]) (rest := []) cv_X1_131 ck5 (met_X5_become (o + 38 + 6 * x2.toNatClampNeg) σ (f_J2_get (c + 9) 6 σ x2) _ (hB.b7 b6) b9 h) (hB.b7 b6).1 ⟨rfl, rfl, Nat.le_trans (by decide) hrm.1, Nat.le_trans (by decide) hrm.2, hcs.1, hcs.2⟩ rfl rfl rfl dX1_text_110 (n := 113) rfl (fun  s10 hs11 h => ?_)
    have hs11t := hs.tr hs11; have hBs10 := hB0.sh hs11t
    refine x_iinc (v := x2 + 1) (lvs' := [(2, .int (x2 + 1)), (0, .ref o)]) dX1_text_113 (n := 116) rfl 1 rfl rfl (by decide) rfl ?_
    refine x_goto (tgt := 82) dX1_text_116 rfl ?_
    exact x_sub [1, 0] rfl (hK82 (x2 + 1, s10) hs11t h)
theorem xt_X1_text_66 {rm : Room} {P9 : Int32 → Hp → Prop} {PX9 : Nat → String → Hp → Prop} {mc ms cs ss : Nat} (o c : Nat) (σ0 : Hp) (Q : Int32 → Hp → Prop) (G : XE) (hB0 : LB o c σ0) (rq : RQx G [((32 : Nat), (44 : Nat), (47 : Nat), (107 : Nat))] mc ms (oI P9) PX9) (hP : ∀ r σ', SH σ0 σ' → Q r σ' → P9 r σ') (hcs : cs ≤ rm.cells ∧ ss ≤ rm.slots) (hmc : cs ≤ mc ∧ ss ≤ ms) (hrm : 3 ≤ rm.frames ∧ 64 ≤ rm.locals) (h : wt_X1_text_66 o c σ0 Q) : X G rm cX1_text RX1 3 (some .int) σ0 cs ss 66 [(0, .ref o)] [] := by
  unfold wt_X1_text_66 at h
  refine x_aload_n dX1_text_66 (n := 67) rfl rfl 0 rfl ?_
  refine x_aload_n dX1_text_67 (n := 68) rfl rfl 0 rfl ?_
  refine x_getr fl_X1_39_1 rfl hB0.1 hB0.r5 dX1_text_68 (n := 71) rfl ?_
  refine x_getr fl_X1_115_3 rfl hB0.rb.1 hB0.rb.r4 dX1_text_71 (n := 74) rfl ?_
  refine x_cVip (As := []) (rest := [.ref o]) cv_X1_118 ck4 (met_J2_size (c + 9) 6 σ0 hB0.rb.b4) hB0.rb.b4.1 ⟨rfl, rfl, Nat.le_trans (by decide) hrm.1, Nat.le_trans (by decide) hrm.2, hcs.1, hcs.2⟩ rfl rfl rfl dX1_text_74 (n := 77) rfl (fun r2 q => ?_)
  subst q
  refine x_puti fp_X1_124_1 rfl hB0.1 dX1_text_77 (n := 80) rfl ?_
  refine x_iconst dX1_text_80 (n := 81) rfl ic_0 ?_
  refine x_istore_n (lvs' := [(2, .int 0), (0, .ref o)]) dX1_text_81 (n := 82) rfl rfl (by decide) rfl ?_
  exact x_sub [1, 0] rfl (xl_X1_text_82 o c σ0 Q G hB0 rq hP hcs hmc hrm (0, pI σ0 o 9 (f_J2_size (c + 9) 6 σ0)) (SH.rf (σ := σ0)).i h)
