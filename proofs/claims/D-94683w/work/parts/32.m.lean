set_option maxRecDepth 100000
abbrev rm_X6_times : Room := { frames := 0, cells := 0, slots := 0, locals := 0 }
def fj_X6_times_69 (o : Nat) (σ : Hp) (y1 : Int64) (y3 : Int64) (w0 : Int32) : Int64 × Hp := if w0 = 0 then (y1 * y3, pI σ o 57 w0) else (0, pI σ o 57 w0)
def oj_X6_times_69 (o : Nat) (σ : Hp) (y1 : Int64) (y3 : Int64) (w0 : Int32) : Prop := w0 = 0 ∨ w0 = 1
def fj_X6_times_64 (o : Nat) (σ : Hp) (y1 : Int64) (y3 : Int64) : Int64 × Hp := fj_X6_times_69 o σ y1 y3 1
def oj_X6_times_64 (o : Nat) (σ : Hp) (y1 : Int64) (y3 : Int64) : Prop := oj_X6_times_69 o σ y1 y3 1
def fj_X6_times_49 (o : Nat) (σ : Hp) (y1 : Int64) (y3 : Int64) (w0 : Int32) : Int64 × Hp := if (gI σ o 57) = 0 then if w0 = 0 then fj_X6_times_69 o σ y1 y3 0 else fj_X6_times_64 o σ y1 y3 else fj_X6_times_64 o σ y1 y3
def oj_X6_times_49 (o : Nat) (σ : Hp) (y1 : Int64) (y3 : Int64) (w0 : Int32) : Prop := ((gI σ o 57) = 0 → ((w0 = 0 → (oj_X6_times_69 o σ y1 y3 0)) ∧ (¬ w0 = 0 → (oj_X6_times_64 o σ y1 y3)))) ∧ (¬ (gI σ o 57) = 0 → (oj_X6_times_64 o σ y1 y3))
def fj_X6_times_48 (o : Nat) (σ : Hp) (y1 : Int64) (y3 : Int64) : Int64 × Hp := fj_X6_times_49 o σ y1 y3 0
def oj_X6_times_48 (o : Nat) (σ : Hp) (y1 : Int64) (y3 : Int64) : Prop := oj_X6_times_49 o σ y1 y3 0
def fj_X6_times_39 (o : Nat) (σ : Hp) (y1 : Int64) (y3 : Int64) (w0 : Int64) (w1 : Int64) (w2 : Int64) : Int64 × Hp := if w2 ≤ (w1 / w0) then fj_X6_times_48 o σ y1 y3 else fj_X6_times_49 o σ y1 y3 1
def oj_X6_times_39 (o : Nat) (σ : Hp) (y1 : Int64) (y3 : Int64) (w0 : Int64) (w1 : Int64) (w2 : Int64) : Prop := (¬ w0 = 0) ∧ ((w2 ≤ (w1 / w0) → (oj_X6_times_48 o σ y1 y3)) ∧ (¬ w2 ≤ (w1 / w0) → (oj_X6_times_49 o σ y1 y3 1)))
def fj_X6_times_24 (o : Nat) (σ : Hp) (y1 : Int64) (y3 : Int64) (w0 : Int64) : Int64 × Hp := if 0 ≤ y1 then fj_X6_times_39 o σ y1 y3 y1 1000000000000 w0 else fj_X6_times_39 o σ y1 y3 (-y1) 1000000000000 w0
def oj_X6_times_24 (o : Nat) (σ : Hp) (y1 : Int64) (y3 : Int64) (w0 : Int64) : Prop := (0 ≤ y1 → (oj_X6_times_39 o σ y1 y3 y1 1000000000000 w0)) ∧ (¬ 0 ≤ y1 → (oj_X6_times_39 o σ y1 y3 (-y1) 1000000000000 w0))
def f_X6_times (o : Nat) (σ0 : Hp) (y1 : Int64) (y3 : Int64) : Int64 × Hp := if y1 = 0 then fj_X6_times_48 o σ0 y1 y3 else if y3 = 0 then fj_X6_times_48 o σ0 y1 y3 else if 0 ≤ y3 then fj_X6_times_24 o σ0 y1 y3 y3 else fj_X6_times_24 o σ0 y1 y3 (-y3)
def ok_X6_times (o : Nat) (σ0 : Hp) (y1 : Int64) (y3 : Int64) : Prop := (y1 = 0 → (oj_X6_times_48 o σ0 y1 y3)) ∧ (¬ y1 = 0 → ((y3 = 0 → (oj_X6_times_48 o σ0 y1 y3)) ∧ (¬ y3 = 0 → ((0 ≤ y3 → (oj_X6_times_24 o σ0 y1 y3 y3)) ∧ (¬ 0 ≤ y3 → (oj_X6_times_24 o σ0 y1 y3 (-y3)))))))
theorem xj_X6_times_69 (o : Nat) (σ0 : Hp) (G : XE) (hB0 : MB o σ0) (σ : Hp) (y1 : Int64) (y3 : Int64) (w0 : Int32)  (hs : SH σ0 σ) (V : Int64 × Hp) (hv : V = fj_X6_times_69 o σ y1 y3 w0) (rq : RQ G 0 0 (oL (fun r σ' => SH σ0 σ' ∧ (r, σ') = V))) (hk : oj_X6_times_69 o σ y1 y3 w0) : X G rm_X6_times cX6_times RX6 6 (some .long) σ 0 0 69 [(0, .ref o), (1, .long y1), (3, .long y3)] [.int w0, .ref o] := by
  have hB := hB0.sh hs
  unfold fj_X6_times_69 at hv
  unfold oj_X6_times_69 at hk
  have b3 := hk
  refine x_putz fp_X6_428_0 rfl hB.1 b3 dX6_times_69 (n := 72) rfl ?_
  refine x_aload_n dX6_times_72 (n := 73) rfl rfl 0 rfl ?_
  refine x_geti fl_X6_428_0 rfl hB.i.1 (gIs) dX6_times_73 (n := 76) rfl ?_
  refine x_if_eq (tgt := 83) dX6_times_76 rfl (n := 79) rfl (fun c4 => ?_) (fun c4 => ?_)
  · have hv := hv.trans (if_pos c4)
    refine x_lload_n dX6_times_83 (n := 84) rfl rfl 1 rfl ?_
    refine x_lload_n dX6_times_84 (n := 85) rfl rfl 2 rfl ?_
    refine x_lmul dX6_times_85 (n := 86) rfl ?_
    exact x_lret rq ⟨hs.i, hv.symm⟩ dX6_times_86
  · have hv := hv.trans (if_neg c4)
    refine x_lconst dX6_times_79 (n := 80) rfl lc_0 ?_
    refine x_goto (tgt := 86) dX6_times_80 rfl ?_
    exact x_lret rq ⟨hs.i, hv.symm⟩ dX6_times_86
theorem xj_X6_times_64 (o : Nat) (σ0 : Hp) (G : XE) (hB0 : MB o σ0) (σ : Hp) (y1 : Int64) (y3 : Int64)  (hs : SH σ0 σ) (V : Int64 × Hp) (hv : V = fj_X6_times_64 o σ y1 y3) (rq : RQ G 0 0 (oL (fun r σ' => SH σ0 σ' ∧ (r, σ') = V))) (hk : oj_X6_times_64 o σ y1 y3) : X G rm_X6_times cX6_times RX6 6 (some .long) σ 0 0 64 [(0, .ref o), (1, .long y1), (3, .long y3)] [.ref o] := by
  have hB := hB0.sh hs
  unfold fj_X6_times_64 at hv
  unfold oj_X6_times_64 at hk
  refine x_iconst dX6_times_64 (n := 65) rfl ic_1 ?_
  refine x_goto (tgt := 69) dX6_times_65 rfl ?_
  exact x_sub [0, 1, 2] rfl (xj_X6_times_69 o σ0 G hB0 σ y1 y3 1 hs _ hv rq hk)
theorem xj_X6_times_49 (o : Nat) (σ0 : Hp) (G : XE) (hB0 : MB o σ0) (σ : Hp) (y1 : Int64) (y3 : Int64) (w0 : Int32)  (hs : SH σ0 σ) (V : Int64 × Hp) (hv : V = fj_X6_times_49 o σ y1 y3 w0) (rq : RQ G 0 0 (oL (fun r σ' => SH σ0 σ' ∧ (r, σ') = V))) (hk : oj_X6_times_49 o σ y1 y3 w0) : X G rm_X6_times cX6_times RX6 6 (some .long) σ 0 0 49 [(0, .ref o), (1, .long y1), (3, .long y3)] [.int w0] := by
  have hB := hB0.sh hs
  unfold fj_X6_times_49 at hv
  unfold oj_X6_times_49 at hk
  refine x_istore (lvs' := [(5, .int w0), (0, .ref o), (1, .long y1), (3, .long y3)]) dX6_times_49 (n := 51) rfl (by decide) rfl ?_
  refine x_aload_n dX6_times_51 (n := 52) rfl rfl 1 rfl ?_
  refine x_aload_n dX6_times_52 (n := 53) rfl rfl 1 rfl ?_
  refine x_geti fl_X6_428_0 rfl hB.1 rfl dX6_times_53 (n := 56) rfl ?_
  refine x_if_ne (tgt := 64) dX6_times_56 rfl (n := 59) rfl (fun c2 => ?_) (fun c2 => ?_)
  · have hk := hk.2 c2
    have hv := hv.trans (if_neg c2)
    exact x_sub [1, 2, 3] rfl (xj_X6_times_64 o σ0 G hB0 σ y1 y3 hs _ hv rq hk)
  · have hk := hk.1 c2
    have hv := hv.trans (if_pos c2)
    refine x_iload dX6_times_59 (n := 61) rfl 0 rfl ?_
    refine x_if_eq (tgt := 68) dX6_times_61 rfl (n := 64) rfl (fun c5 => ?_) (fun c5 => ?_)
    · have hk := hk.1 c5
      have hv := hv.trans (if_pos c5)
      refine x_iconst dX6_times_68 (n := 69) rfl ic_0 ?_
      exact x_sub [1, 2, 3] rfl (xj_X6_times_69 o σ0 G hB0 σ y1 y3 0 hs _ hv rq hk)
    · have hk := hk.2 c5
      have hv := hv.trans (if_neg c5)
      exact x_sub [1, 2, 3] rfl (xj_X6_times_64 o σ0 G hB0 σ y1 y3 hs _ hv rq hk)
theorem xj_X6_times_48 (o : Nat) (σ0 : Hp) (G : XE) (hB0 : MB o σ0) (σ : Hp) (y1 : Int64) (y3 : Int64)  (hs : SH σ0 σ) (V : Int64 × Hp) (hv : V = fj_X6_times_48 o σ y1 y3) (rq : RQ G 0 0 (oL (fun r σ' => SH σ0 σ' ∧ (r, σ') = V))) (hk : oj_X6_times_48 o σ y1 y3) : X G rm_X6_times cX6_times RX6 6 (some .long) σ 0 0 48 [(0, .ref o), (1, .long y1), (3, .long y3)] [] := by
  have hB := hB0.sh hs
  unfold fj_X6_times_48 at hv
  unfold oj_X6_times_48 at hk
  refine x_iconst dX6_times_48 (n := 49) rfl ic_0 ?_
  exact x_sub [0, 1, 2] rfl (xj_X6_times_49 o σ0 G hB0 σ y1 y3 0 hs _ hv rq hk)
theorem xj_X6_times_39 (o : Nat) (σ0 : Hp) (G : XE) (hB0 : MB o σ0) (σ : Hp) (y1 : Int64) (y3 : Int64) (w0 : Int64) (w1 : Int64) (w2 : Int64)  (hs : SH σ0 σ) (V : Int64 × Hp) (hv : V = fj_X6_times_39 o σ y1 y3 w0 w1 w2) (rq : RQ G 0 0 (oL (fun r σ' => SH σ0 σ' ∧ (r, σ') = V))) (hk : oj_X6_times_39 o σ y1 y3 w0 w1 w2) : X G rm_X6_times cX6_times RX6 6 (some .long) σ 0 0 39 [(0, .ref o), (1, .long y1), (3, .long y3)] [.long w0, .long w1, .long w2] := by
  have hB := hB0.sh hs
  unfold fj_X6_times_39 at hv
  unfold oj_X6_times_39 at hk
  obtain ⟨b9, hk⟩ := hk
  refine x_ldiv dX6_times_39 (n := 40) rfl b9 ?_
  refine x_lcmp_le (tgt := 48) dX6_times_40 (pc1 := 41) rfl dX6_times_41 rfl (n := 44) rfl (fun c10 => ?_) (fun c10 => ?_)
  · have hk := hk.1 c10
    have hv := hv.trans (if_pos c10)
    exact x_sub [0, 1, 2] rfl (xj_X6_times_48 o σ0 G hB0 σ y1 y3 hs _ hv rq hk)
  · have hk := hk.2 c10
    have hv := hv.trans (if_neg c10)
    refine x_iconst dX6_times_44 (n := 45) rfl ic_1 ?_
    refine x_goto (tgt := 49) dX6_times_45 rfl ?_
    exact x_sub [0, 1, 2] rfl (xj_X6_times_49 o σ0 G hB0 σ y1 y3 1 hs _ hv rq hk)
theorem xj_X6_times_24 (o : Nat) (σ0 : Hp) (G : XE) (hB0 : MB o σ0) (σ : Hp) (y1 : Int64) (y3 : Int64) (w0 : Int64)  (hs : SH σ0 σ) (V : Int64 × Hp) (hv : V = fj_X6_times_24 o σ y1 y3 w0) (rq : RQ G 0 0 (oL (fun r σ' => SH σ0 σ' ∧ (r, σ') = V))) (hk : oj_X6_times_24 o σ y1 y3 w0) : X G rm_X6_times cX6_times RX6 6 (some .long) σ 0 0 24 [(0, .ref o), (1, .long y1), (3, .long y3)] [.long w0] := by
  have hB := hB0.sh hs
  unfold fj_X6_times_24 at hv
  unfold oj_X6_times_24 at hk
  refine x_ldc2 dX6_times_24 (n := 27) rfl q1900 ?_
  refine x_lload_n dX6_times_27 (n := 28) rfl rfl 1 rfl ?_
  refine x_lconst dX6_times_28 (n := 29) rfl lc_0 ?_
  refine x_lcmp_ge (tgt := 38) dX6_times_29 (pc1 := 30) rfl dX6_times_30 rfl (n := 33) rfl (fun c8 => ?_) (fun c8 => ?_)
  · have hk := hk.1 c8
    have hv := hv.trans (if_pos c8)
    refine x_lload_n dX6_times_38 (n := 39) rfl rfl 1 rfl ?_
    exact x_sub [0, 1, 2] rfl (xj_X6_times_39 o σ0 G hB0 σ y1 y3 y1 1000000000000 w0 hs _ hv rq hk)
  · have hk := hk.2 c8
    have hv := hv.trans (if_neg c8)
    refine x_lload_n dX6_times_33 (n := 34) rfl rfl 1 rfl ?_
    refine x_lneg dX6_times_34 (n := 35) rfl ?_
    refine x_goto (tgt := 39) dX6_times_35 rfl ?_
    exact x_sub [0, 1, 2] rfl (xj_X6_times_39 o σ0 G hB0 σ y1 y3 (-y1) 1000000000000 w0 hs _ hv rq hk)
theorem met_X6_times (o : Nat) (σ0 : Hp) (y1 : Int64) (y3 : Int64) (hB0 : MB o σ0) (hk : ok_X6_times o σ0 y1 y3) : MetX yX6_times cX6_times 6 (some .long) rm_X6_times σ0 [.ref o, .long y1, .long y3] (oL (fun r σ' => SH σ0 σ' ∧ (r, σ') = (f_X6_times o σ0 y1 y3))) 0 0 := by
  refine metX_of (own := RX6) (lvs := [(0, .ref o), (1, .long y1), (3, .long y3)]) (by decide) rfl (Nat.le_of_ble_eq_true rfl) rfl (fun G rq => ?_)
  have hv : (f_X6_times o σ0 y1 y3) = _ := f_X6_times.eq_1 _ _ _ _
  unfold ok_X6_times at hk
  refine x_lload_n dX6_times_0 (n := 1) rfl rfl 1 rfl ?_
  refine x_lconst dX6_times_1 (n := 2) rfl lc_0 ?_
  refine x_lcmp_eq (tgt := 48) dX6_times_2 (pc1 := 3) rfl dX6_times_3 rfl (n := 6) rfl (fun c1 => ?_) (fun c1 => ?_)
  · have hk := hk.1 c1
    have hv := hv.trans (if_pos c1)
    exact x_sub [0, 1, 2] rfl (xj_X6_times_48 o σ0 G hB0 σ0 y1 y3 (SH.rf (σ := σ0)) _ hv rq hk)
  · have hk := hk.2 c1
    have hv := hv.trans (if_neg c1)
    refine x_lload_n dX6_times_6 (n := 7) rfl rfl 2 rfl ?_
    refine x_lconst dX6_times_7 (n := 8) rfl lc_0 ?_
    refine x_lcmp_eq (tgt := 48) dX6_times_8 (pc1 := 9) rfl dX6_times_9 rfl (n := 12) rfl (fun c6 => ?_) (fun c6 => ?_)
    · have hk := hk.1 c6
      have hv := hv.trans (if_pos c6)
      exact x_sub [0, 1, 2] rfl (xj_X6_times_48 o σ0 G hB0 σ0 y1 y3 (SH.rf (σ := σ0)) _ hv rq hk)
    · have hk := hk.2 c6
      have hv := hv.trans (if_neg c6)
      refine x_lload_n dX6_times_12 (n := 13) rfl rfl 2 rfl ?_
      refine x_lconst dX6_times_13 (n := 14) rfl lc_0 ?_
      refine x_lcmp_ge (tgt := 23) dX6_times_14 (pc1 := 15) rfl dX6_times_15 rfl (n := 18) rfl (fun c7 => ?_) (fun c7 => ?_)
      · have hk := hk.1 c7
        have hv := hv.trans (if_pos c7)
        refine x_lload_n dX6_times_23 (n := 24) rfl rfl 2 rfl ?_
        exact x_sub [0, 1, 2] rfl (xj_X6_times_24 o σ0 G hB0 σ0 y1 y3 y3 (SH.rf (σ := σ0)) _ hv rq hk)
      · have hk := hk.2 c7
        have hv := hv.trans (if_neg c7)
        refine x_lload_n dX6_times_18 (n := 19) rfl rfl 2 rfl ?_
        refine x_lneg dX6_times_19 (n := 20) rfl ?_
        refine x_goto (tgt := 24) dX6_times_20 rfl ?_
        exact x_sub [0, 1, 2] rfl (xj_X6_times_24 o σ0 G hB0 σ0 y1 y3 (-y3) (SH.rf (σ := σ0)) _ hv rq hk)
abbrev rm_X6_valueOf : Room := { frames := 1, cells := 0, slots := 0, locals := 25 }
def wj_X6_valueOf_248 (o : Nat) (σ : Hp) (x1 : Int32) (y2 : Int64) (y4 : Int64) (w0 : Int32) (Q : Int64 → Hp → Prop)  : Prop := (w0 = 0 ∨ w0 = 1) ∧ ((w0 = 0 → (vp_in x1 128) ∧ (((gI (pI σ o 57 w0) (o + 17) x1.toNatClampNeg) = 14 → (¬ y4 = 0) ∧ (Q (y2 / y4) (pI σ o 57 w0))) ∧ (¬ (gI (pI σ o 57 w0) (o + 17) x1.toNatClampNeg) = 14 → (¬ y4 = 0) ∧ (Q (y2 - y2 / y4 * y4) (pI σ o 57 w0))))) ∧ (¬ w0 = 0 → Q 0 (pI σ o 57 w0)))
def wj_X6_valueOf_243 (o : Nat) (σ : Hp) (x1 : Int32) (y2 : Int64) (y4 : Int64) (Q : Int64 → Hp → Prop)  : Prop := wj_X6_valueOf_248 o σ x1 y2 y4 1 Q
def wp_X6_valueOf (o : Nat) (σ0 : Hp) (x1 : Int32) (Q : Int64 → Hp → Prop) : Prop := (vp_in x1 128) ∧ (((gI σ0 (o + 17) x1.toNatClampNeg) = 0 → (vp_in x1 128) ∧ (Q ((gI σ0 (o + 18) x1.toNatClampNeg).toInt64) σ0)) ∧ (¬ (gI σ0 (o + 17) x1.toNatClampNeg) = 0 → (vp_in x1 128) ∧ (((gI σ0 (o + 17) x1.toNatClampNeg) = 1 → (vp_in x1 128) ∧ ((vp_in (gI σ0 (o + 18) x1.toNatClampNeg) 6) ∧ (∀ (r87 : Int64) (s83 : Hp), (r87, s83) = f_X6_bounded o σ0 (gL σ0 (o + 22) (gI σ0 (o + 18) x1.toNatClampNeg).toNatClampNeg) → Q r87 s83))) ∧ (¬ (gI σ0 (o + 17) x1.toNatClampNeg) = 1 → (vp_in x1 128) ∧ ((vp_in (gI σ0 (o + 18) x1.toNatClampNeg) 64) ∧ (∀ v7 : Int64, v7 = gL σ0 (o + 23) (gI σ0 (o + 18) x1.toNatClampNeg).toNatClampNeg → (vp_in x1 128) ∧ (((gI σ0 (o + 17) x1.toNatClampNeg) = 2 → (v7 = 0 → Q 1 σ0) ∧ (¬ v7 = 0 → Q 0 σ0)) ∧ (¬ (gI σ0 (o + 17) x1.toNatClampNeg) = 2 → (vp_in x1 128) ∧ ((vp_in (gI σ0 (o + 19) x1.toNatClampNeg) 64) ∧ (∀ v13 : Int64, v13 = gL σ0 (o + 23) (gI σ0 (o + 19) x1.toNatClampNeg).toNatClampNeg → (vp_in x1 128) ∧ (((gI σ0 (o + 17) x1.toNatClampNeg) = 3 → (v7 = 0 → Q 0 σ0) ∧ (¬ v7 = 0 → (v13 = 0 → Q 0 σ0) ∧ (¬ v13 = 0 → Q 1 σ0))) ∧ (¬ (gI σ0 (o + 17) x1.toNatClampNeg) = 3 → ((gI σ0 (o + 17) x1.toNatClampNeg) = 4 → (v7 = 0 → (v13 = 0 → Q 0 σ0) ∧ (¬ v13 = 0 → Q 1 σ0)) ∧ (¬ v7 = 0 → Q 1 σ0)) ∧ (¬ (gI σ0 (o + 17) x1.toNatClampNeg) = 4 → ((gI σ0 (o + 17) x1.toNatClampNeg) = 5 → (vp_in x1 128) ∧ (((f_X6_compares (gI σ0 (o + 17) x1.toNatClampNeg) v7 v13) = 0 → Q 0 σ0) ∧ (¬ (f_X6_compares (gI σ0 (o + 17) x1.toNatClampNeg) v7 v13) = 0 → Q 1 σ0))) ∧ (¬ (gI σ0 (o + 17) x1.toNatClampNeg) = 5 → ((gI σ0 (o + 17) x1.toNatClampNeg) = 6 → (vp_in x1 128) ∧ (((f_X6_compares (gI σ0 (o + 17) x1.toNatClampNeg) v7 v13) = 0 → Q 0 σ0) ∧ (¬ (f_X6_compares (gI σ0 (o + 17) x1.toNatClampNeg) v7 v13) = 0 → Q 1 σ0))) ∧ (¬ (gI σ0 (o + 17) x1.toNatClampNeg) = 6 → ((gI σ0 (o + 17) x1.toNatClampNeg) = 7 → (vp_in x1 128) ∧ (((f_X6_compares (gI σ0 (o + 17) x1.toNatClampNeg) v7 v13) = 0 → Q 0 σ0) ∧ (¬ (f_X6_compares (gI σ0 (o + 17) x1.toNatClampNeg) v7 v13) = 0 → Q 1 σ0))) ∧ (¬ (gI σ0 (o + 17) x1.toNatClampNeg) = 7 → ((gI σ0 (o + 17) x1.toNatClampNeg) = 8 → (vp_in x1 128) ∧ (((f_X6_compares (gI σ0 (o + 17) x1.toNatClampNeg) v7 v13) = 0 → Q 0 σ0) ∧ (¬ (f_X6_compares (gI σ0 (o + 17) x1.toNatClampNeg) v7 v13) = 0 → Q 1 σ0))) ∧ (¬ (gI σ0 (o + 17) x1.toNatClampNeg) = 8 → ((gI σ0 (o + 17) x1.toNatClampNeg) = 9 → (vp_in x1 128) ∧ (((f_X6_compares (gI σ0 (o + 17) x1.toNatClampNeg) v7 v13) = 0 → Q 0 σ0) ∧ (¬ (f_X6_compares (gI σ0 (o + 17) x1.toNatClampNeg) v7 v13) = 0 → Q 1 σ0))) ∧ (¬ (gI σ0 (o + 17) x1.toNatClampNeg) = 9 → ((gI σ0 (o + 17) x1.toNatClampNeg) = 10 → (vp_in x1 128) ∧ (((f_X6_compares (gI σ0 (o + 17) x1.toNatClampNeg) v7 v13) = 0 → Q 0 σ0) ∧ (¬ (f_X6_compares (gI σ0 (o + 17) x1.toNatClampNeg) v7 v13) = 0 → Q 1 σ0))) ∧ (¬ (gI σ0 (o + 17) x1.toNatClampNeg) = 10 → ((gI σ0 (o + 17) x1.toNatClampNeg) = 11 → ∀ (r57 : Int64) (s53 : Hp), (r57, s53) = f_X6_bounded o σ0 (v7 + v13) → Q r57 s53) ∧ (¬ (gI σ0 (o + 17) x1.toNatClampNeg) = 11 → ((gI σ0 (o + 17) x1.toNatClampNeg) = 12 → ∀ (r63 : Int64) (s59 : Hp), (r63, s59) = f_X6_bounded o σ0 (v7 - v13) → Q r63 s59) ∧ (¬ (gI σ0 (o + 17) x1.toNatClampNeg) = 12 → ((gI σ0 (o + 17) x1.toNatClampNeg) = 13 → (ok_X6_times o σ0 v7 v13) ∧ (∀ (r69 : Int64) (s65 : Hp), (r69, s65) = f_X6_times o σ0 v7 v13 → Q r69 s65)) ∧ (¬ (gI σ0 (o + 17) x1.toNatClampNeg) = 13 → ((gI σ0 (o + 17) x1.toNatClampNeg) = 14 → ((gI σ0 o 57) = 0 → (v13 = 0 → wj_X6_valueOf_243 o σ0 x1 v7 v13 Q) ∧ (¬ v13 = 0 → wj_X6_valueOf_248 o σ0 x1 v7 v13 0 Q)) ∧ (¬ (gI σ0 o 57) = 0 → wj_X6_valueOf_243 o σ0 x1 v7 v13 Q)) ∧ (¬ (gI σ0 (o + 17) x1.toNatClampNeg) = 14 → ((gI σ0 (o + 17) x1.toNatClampNeg) = 15 → ((gI σ0 o 57) = 0 → (v13 = 0 → wj_X6_valueOf_243 o σ0 x1 v7 v13 Q) ∧ (¬ v13 = 0 → wj_X6_valueOf_248 o σ0 x1 v7 v13 0 Q)) ∧ (¬ (gI σ0 o 57) = 0 → wj_X6_valueOf_243 o σ0 x1 v7 v13 Q)) ∧ (¬ (gI σ0 (o + 17) x1.toNatClampNeg) = 15 → (vp_in x1 128) ∧ (((f_X6_compares (gI σ0 (o + 17) x1.toNatClampNeg) v7 v13) = 0 → Q 0 σ0) ∧ (¬ (f_X6_compares (gI σ0 (o + 17) x1.toNatClampNeg) v7 v13) = 0 → Q 1 σ0))))))))))))))))))))))))))
theorem xj_X6_valueOf_248 (o : Nat) (σ0 : Hp) (Q : Int64 → Hp → Prop) (G : XE) (hB0 : MB o σ0) (rq : RQ G 0 0 (oL (fun r σ' => SH σ0 σ' ∧ Q r σ'))) (σ : Hp) (x1 : Int32) (y2 : Int64) (y4 : Int64) (w0 : Int32)    (hs : SH σ0 σ) (h : wj_X6_valueOf_248 o σ x1 y2 y4 w0 Q ) : X G rm_X6_valueOf cX6_valueOf RX6 6 (some .long) σ 0 0 248 [(0, .ref o), (1, .int x1), (2, .long y2), (4, .long y4)] [.int w0, .ref o] := by
  have hs : SH σ0 σ := hs
  have hB := hB0.sh hs
  unfold wj_X6_valueOf_248 at h
  obtain ⟨b89, h⟩ := h
  refine x_putz fp_X6_428_0 rfl hB.1 b89 dX6_valueOf_248 (n := 251) rfl ?_
  refine x_aload_n dX6_valueOf_251 (n := 252) rfl rfl 0 rfl ?_
  refine x_geti fl_X6_428_0 rfl hB.i.1 (gIs) dX6_valueOf_252 (n := 255) rfl ?_
  refine x_if_eq (tgt := 262) dX6_valueOf_255 rfl (n := 258) rfl (fun c90 => ?_) (fun c90 => ?_)
  · have h := h.1 c90
    refine x_aload_n dX6_valueOf_262 (n := 263) rfl rfl 0 rfl ?_
    refine x_getr fl_X6_63_0 rfl hB.i.1 hB.i.r41 dX6_valueOf_263 (n := 266) rfl ?_
    refine x_iload_n dX6_valueOf_266 (n := 267) rfl rfl 1 rfl ?_
    obtain ⟨b91, h⟩ := h
    refine x_iald hB.i.a41 b91 rfl dX6_valueOf_267 (n := 268) rfl ?_
    refine x_bipush dX6_valueOf_268 (n := 270) rfl bp_14 ?_
    refine x_icmp_ne (tgt := 280) dX6_valueOf_270 rfl (n := 273) rfl (fun c92 => ?_) (fun c92 => ?_)
    · have h := h.2 c92
      refine x_lload_n dX6_valueOf_280 (n := 281) rfl rfl 2 rfl ?_
      refine x_lload dX6_valueOf_281 (n := 283) rfl 3 rfl ?_
      obtain ⟨b93, h⟩ := h
      refine x_lrem dX6_valueOf_283 (n := 284) rfl b93 ?_
      exact x_lret rq ⟨hs.i, h⟩ dX6_valueOf_284
    · have h := h.1 c92
      refine x_lload_n dX6_valueOf_273 (n := 274) rfl rfl 2 rfl ?_
      refine x_lload dX6_valueOf_274 (n := 276) rfl 3 rfl ?_
      obtain ⟨b94, h⟩ := h
      refine x_ldiv dX6_valueOf_276 (n := 277) rfl b94 ?_
      refine x_goto (tgt := 284) dX6_valueOf_277 rfl ?_
      exact x_lret rq ⟨hs.i, h⟩ dX6_valueOf_284
  · have h := h.2 c90
    refine x_lconst dX6_valueOf_258 (n := 259) rfl lc_0 ?_
    refine x_goto (tgt := 284) dX6_valueOf_259 rfl ?_
    exact x_lret rq ⟨hs.i, h⟩ dX6_valueOf_284
theorem xj_X6_valueOf_243 (o : Nat) (σ0 : Hp) (Q : Int64 → Hp → Prop) (G : XE) (hB0 : MB o σ0) (rq : RQ G 0 0 (oL (fun r σ' => SH σ0 σ' ∧ Q r σ'))) (σ : Hp) (x1 : Int32) (y2 : Int64) (y4 : Int64)    (hs : SH σ0 σ) (h : wj_X6_valueOf_243 o σ x1 y2 y4 Q ) : X G rm_X6_valueOf cX6_valueOf RX6 6 (some .long) σ 0 0 243 [(0, .ref o), (1, .int x1), (2, .long y2), (4, .long y4)] [.ref o] := by
  have hs : SH σ0 σ := hs
  have hB := hB0.sh hs
  unfold wj_X6_valueOf_243 at h
  refine x_iconst dX6_valueOf_243 (n := 244) rfl ic_1 ?_
  refine x_goto (tgt := 248) dX6_valueOf_244 rfl ?_
  exact x_sub [0, 1, 2, 3] rfl (xj_X6_valueOf_248 o σ0 Q G hB0 rq σ x1 y2 y4 1 hs h)
theorem met_X6_valueOf (o : Nat) (σ0 : Hp) (x1 : Int32) (Q : Int64 → Hp → Prop) (hB0 : MB o σ0) (h : wp_X6_valueOf o σ0 x1 Q) : MetX yX6_valueOf cX6_valueOf 6 (some .long) rm_X6_valueOf σ0 [.ref o, .int x1] (oL (fun r σ' => SH σ0 σ' ∧ Q r σ')) 0 0 := by
  refine metX_of (own := RX6) (lvs := [(0, .ref o), (1, .int x1)]) (by decide) rfl (Nat.le_of_ble_eq_true rfl) rfl (fun G rq => ?_)
  unfold wp_X6_valueOf at h
  refine x_aload_n dX6_valueOf_0 (n := 1) rfl rfl 0 rfl ?_
  refine x_getr fl_X6_63_0 rfl hB0.1 hB0.r41 dX6_valueOf_1 (n := 4) rfl ?_
  refine x_iload_n dX6_valueOf_4 (n := 5) rfl rfl 1 rfl ?_
  obtain ⟨b1, h⟩ := h
  refine x_iald hB0.a41 b1 rfl dX6_valueOf_5 (n := 6) rfl ?_
  refine x_if_ne (tgt := 17) dX6_valueOf_6 rfl (n := 9) rfl (fun c2 => ?_) (fun c2 => ?_)
  · have h := h.2 c2
    refine x_aload_n dX6_valueOf_17 (n := 18) rfl rfl 0 rfl ?_
    refine x_getr fl_X6_63_0 rfl hB0.1 hB0.r41 dX6_valueOf_18 (n := 21) rfl ?_
    refine x_iload_n dX6_valueOf_21 (n := 22) rfl rfl 1 rfl ?_
    obtain ⟨b3, h⟩ := h
    refine x_iald hB0.a41 b3 rfl dX6_valueOf_22 (n := 23) rfl ?_
    refine x_iconst dX6_valueOf_23 (n := 24) rfl ic_1 ?_
    refine x_icmp_ne (tgt := 43) dX6_valueOf_24 rfl (n := 27) rfl (fun c4 => ?_) (fun c4 => ?_)
    · have h := h.2 c4
      refine x_aload_n dX6_valueOf_43 (n := 44) rfl rfl 0 rfl ?_
      refine x_getr fl_X6_81_0 rfl hB0.1 hB0.r56 dX6_valueOf_44 (n := 47) rfl ?_
      refine x_aload_n dX6_valueOf_47 (n := 48) rfl rfl 0 rfl ?_
      refine x_getr fl_X6_66_0 rfl hB0.1 hB0.r42 dX6_valueOf_48 (n := 51) rfl ?_
      refine x_iload_n dX6_valueOf_51 (n := 52) rfl rfl 1 rfl ?_
      obtain ⟨b5, h⟩ := h
      refine x_iald hB0.a42 b5 rfl dX6_valueOf_52 (n := 53) rfl ?_
      obtain ⟨b6, h⟩ := h
      refine x_lald hB0.a56 b6 rfl dX6_valueOf_53 (n := 54) rfl ?_
      refine x_topl (fun v7 e8 => ?_)
      have h := h v7 e8
      refine x_lstore_n (lvs' := [(2, .long v7), (0, .ref o), (1, .int x1)]) dX6_valueOf_54 (n := 55) rfl rfl (by decide) rfl ?_
      refine x_aload_n dX6_valueOf_55 (n := 56) rfl rfl 1 rfl ?_
      refine x_getr fl_X6_63_0 rfl hB0.1 hB0.r41 dX6_valueOf_56 (n := 59) rfl ?_
      refine x_iload_n dX6_valueOf_59 (n := 60) rfl rfl 2 rfl ?_
      obtain ⟨b9, h⟩ := h
      refine x_iald hB0.a41 b9 rfl dX6_valueOf_60 (n := 61) rfl ?_
      refine x_iconst dX6_valueOf_61 (n := 62) rfl ic_2 ?_
      refine x_icmp_ne (tgt := 77) dX6_valueOf_62 rfl (n := 65) rfl (fun c10 => ?_) (fun c10 => ?_)
      · have h := h.2 c10
        refine x_aload_n dX6_valueOf_77 (n := 78) rfl rfl 1 rfl ?_
        refine x_getr fl_X6_81_0 rfl hB0.1 hB0.r56 dX6_valueOf_78 (n := 81) rfl ?_
        refine x_aload_n dX6_valueOf_81 (n := 82) rfl rfl 1 rfl ?_
        refine x_getr fl_X6_69_0 rfl hB0.1 hB0.r43 dX6_valueOf_82 (n := 85) rfl ?_
        refine x_iload_n dX6_valueOf_85 (n := 86) rfl rfl 2 rfl ?_
        obtain ⟨b11, h⟩ := h
        refine x_iald hB0.a43 b11 rfl dX6_valueOf_86 (n := 87) rfl ?_
        obtain ⟨b12, h⟩ := h
        refine x_lald hB0.a56 b12 rfl dX6_valueOf_87 (n := 88) rfl ?_
        refine x_topl (fun v13 e14 => ?_)
        have h := h v13 e14
        refine x_lstore (lvs' := [(4, .long v13), (2, .long v7), (0, .ref o), (1, .int x1)]) dX6_valueOf_88 (n := 90) rfl (by decide) rfl ?_
        refine x_aload_n dX6_valueOf_90 (n := 91) rfl rfl 2 rfl ?_
        refine x_getr fl_X6_63_0 rfl hB0.1 hB0.r41 dX6_valueOf_91 (n := 94) rfl ?_
        refine x_iload_n dX6_valueOf_94 (n := 95) rfl rfl 3 rfl ?_
        obtain ⟨b15, h⟩ := h
        refine x_iald hB0.a41 b15 rfl dX6_valueOf_95 (n := 96) rfl ?_
        refine x_by ((gI σ0 (o + 17) x1.toNatClampNeg) = 3) (fun c16 => ?_) (fun c16 => ?_)
        · have h := h.1 c16
          have z16 := tsw_in c16 ti_3
          refine x_tswIn (tgt := 164) dX6_valueOf_96 (by rw [z16]; decide) (by rw [z16]; decide) (by rw [z16]; rfl) rfl ?_
          refine x_lload_n dX6_valueOf_164 (n := 165) rfl rfl 1 rfl ?_
          refine x_lconst dX6_valueOf_165 (n := 166) rfl lc_0 ?_
          refine x_lcmp_eq (tgt := 181) dX6_valueOf_166 (pc1 := 167) rfl dX6_valueOf_167 rfl (n := 170) rfl (fun c17 => ?_) (fun c17 => ?_)
          · have h := h.1 c17
            refine x_lconst dX6_valueOf_181 (n := 182) rfl lc_0 ?_
            exact x_lret rq ⟨(SH.rf (σ := σ0)), h⟩ dX6_valueOf_182
          · have h := h.2 c17
            refine x_lload dX6_valueOf_170 (n := 172) rfl 0 rfl ?_
            refine x_lconst dX6_valueOf_172 (n := 173) rfl lc_0 ?_
            refine x_lcmp_eq (tgt := 181) dX6_valueOf_173 (pc1 := 174) rfl dX6_valueOf_174 rfl (n := 177) rfl (fun c18 => ?_) (fun c18 => ?_)
            · have h := h.1 c18
              refine x_lconst dX6_valueOf_181 (n := 182) rfl lc_0 ?_
              exact x_lret rq ⟨(SH.rf (σ := σ0)), h⟩ dX6_valueOf_182
            · have h := h.2 c18
              refine x_lconst dX6_valueOf_177 (n := 178) rfl lc_1 ?_
              refine x_goto (tgt := 182) dX6_valueOf_178 rfl ?_
              exact x_lret rq ⟨(SH.rf (σ := σ0)), h⟩ dX6_valueOf_182
        · have h := h.2 c16
          refine x_by ((gI σ0 (o + 17) x1.toNatClampNeg) = 4) (fun c19 => ?_) (fun c19 => ?_)
          · have h := h.1 c19
            have z19 := tsw_in c19 ti_4
            refine x_tswIn (tgt := 183) dX6_valueOf_96 (by rw [z19]; decide) (by rw [z19]; decide) (by rw [z19]; rfl) rfl ?_
            refine x_lload_n dX6_valueOf_183 (n := 184) rfl rfl 1 rfl ?_
            refine x_lconst dX6_valueOf_184 (n := 185) rfl lc_0 ?_
            refine x_lcmp_ne (tgt := 196) dX6_valueOf_185 (pc1 := 186) rfl dX6_valueOf_186 rfl (n := 189) rfl (fun c20 => ?_) (fun c20 => ?_)
            · have h := h.2 c20
              refine x_lconst dX6_valueOf_196 (n := 197) rfl lc_1 ?_
              refine x_goto (tgt := 201) dX6_valueOf_197 rfl ?_
              exact x_lret rq ⟨(SH.rf (σ := σ0)), h⟩ dX6_valueOf_201
            · have h := h.1 c20
              refine x_lload dX6_valueOf_189 (n := 191) rfl 0 rfl ?_
              refine x_lconst dX6_valueOf_191 (n := 192) rfl lc_0 ?_
              refine x_lcmp_eq (tgt := 200) dX6_valueOf_192 (pc1 := 193) rfl dX6_valueOf_193 rfl (n := 196) rfl (fun c21 => ?_) (fun c21 => ?_)
              · have h := h.1 c21
                refine x_lconst dX6_valueOf_200 (n := 201) rfl lc_0 ?_
                exact x_lret rq ⟨(SH.rf (σ := σ0)), h⟩ dX6_valueOf_201
              · have h := h.2 c21
                refine x_lconst dX6_valueOf_196 (n := 197) rfl lc_1 ?_
                refine x_goto (tgt := 201) dX6_valueOf_197 rfl ?_
                exact x_lret rq ⟨(SH.rf (σ := σ0)), h⟩ dX6_valueOf_201
          · have h := h.2 c19
            refine x_by ((gI σ0 (o + 17) x1.toNatClampNeg) = 5) (fun c22 => ?_) (fun c22 => ?_)
            · have h := h.1 c22
              have z22 := tsw_in c22 ti_5
              refine x_tswIn (tgt := 285) dX6_valueOf_96 (by rw [z22]; decide) (by rw [z22]; decide) (by rw [z22]; rfl) rfl ?_
              refine x_aload_n dX6_valueOf_285 (n := 286) rfl rfl 2 rfl ?_
              refine x_getr fl_X6_63_0 rfl hB0.1 hB0.r41 dX6_valueOf_286 (n := 289) rfl ?_
              refine x_iload_n dX6_valueOf_289 (n := 290) rfl rfl 3 rfl ?_
              obtain ⟨b23, h⟩ := h
              refine x_iald hB0.a41 b23 rfl dX6_valueOf_290 (n := 291) rfl ?_
              refine x_lload_n dX6_valueOf_291 (n := 292) rfl rfl 1 rfl ?_
              refine x_lload dX6_valueOf_292 (n := 294) rfl 0 rfl ?_
              refine x_cSip (As := [.int (gI σ0 (o + 17) x1.toNatClampNeg), .long v7, .long v13]) (rest := []) cs_X6_441 (met_X6_compares σ0 (gI σ0 (o + 17) x1.toNatClampNeg) v7 v13 ) (by decide) rfl rfl rfl dX6_valueOf_294 (n := 297) rfl (fun r25 q => ?_)
              subst q
              refine x_if_eq (tgt := 304) dX6_valueOf_297 rfl (n := 300) rfl (fun c26 => ?_) (fun c26 => ?_)
              · have h := h.1 c26
                refine x_lconst dX6_valueOf_304 (n := 305) rfl lc_0 ?_
                exact x_lret rq ⟨(SH.rf (σ := σ0)), h⟩ dX6_valueOf_305
              · have h := h.2 c26
                refine x_lconst dX6_valueOf_300 (n := 301) rfl lc_1 ?_
                refine x_goto (tgt := 305) dX6_valueOf_301 rfl ?_
                exact x_lret rq ⟨(SH.rf (σ := σ0)), h⟩ dX6_valueOf_305
            · have h := h.2 c22
              refine x_by ((gI σ0 (o + 17) x1.toNatClampNeg) = 6) (fun c27 => ?_) (fun c27 => ?_)
              · have h := h.1 c27
                have z27 := tsw_in c27 ti_6
                refine x_tswIn (tgt := 285) dX6_valueOf_96 (by rw [z27]; decide) (by rw [z27]; decide) (by rw [z27]; rfl) rfl ?_
                refine x_aload_n dX6_valueOf_285 (n := 286) rfl rfl 2 rfl ?_
                refine x_getr fl_X6_63_0 rfl hB0.1 hB0.r41 dX6_valueOf_286 (n := 289) rfl ?_
                refine x_iload_n dX6_valueOf_289 (n := 290) rfl rfl 3 rfl ?_
                obtain ⟨b28, h⟩ := h
                refine x_iald hB0.a41 b28 rfl dX6_valueOf_290 (n := 291) rfl ?_
                refine x_lload_n dX6_valueOf_291 (n := 292) rfl rfl 1 rfl ?_
                refine x_lload dX6_valueOf_292 (n := 294) rfl 0 rfl ?_
                refine x_cSip (As := [.int (gI σ0 (o + 17) x1.toNatClampNeg), .long v7, .long v13]) (rest := []) cs_X6_441 (met_X6_compares σ0 (gI σ0 (o + 17) x1.toNatClampNeg) v7 v13 ) (by decide) rfl rfl rfl dX6_valueOf_294 (n := 297) rfl (fun r30 q => ?_)
                subst q
                refine x_if_eq (tgt := 304) dX6_valueOf_297 rfl (n := 300) rfl (fun c31 => ?_) (fun c31 => ?_)
                · have h := h.1 c31
                  refine x_lconst dX6_valueOf_304 (n := 305) rfl lc_0 ?_
                  exact x_lret rq ⟨(SH.rf (σ := σ0)), h⟩ dX6_valueOf_305
                · have h := h.2 c31
                  refine x_lconst dX6_valueOf_300 (n := 301) rfl lc_1 ?_
                  refine x_goto (tgt := 305) dX6_valueOf_301 rfl ?_
                  exact x_lret rq ⟨(SH.rf (σ := σ0)), h⟩ dX6_valueOf_305
              · have h := h.2 c27
                refine x_by ((gI σ0 (o + 17) x1.toNatClampNeg) = 7) (fun c32 => ?_) (fun c32 => ?_)
                · have h := h.1 c32
                  have z32 := tsw_in c32 ti_7
                  refine x_tswIn (tgt := 285) dX6_valueOf_96 (by rw [z32]; decide) (by rw [z32]; decide) (by rw [z32]; rfl) rfl ?_
                  refine x_aload_n dX6_valueOf_285 (n := 286) rfl rfl 2 rfl ?_
                  refine x_getr fl_X6_63_0 rfl hB0.1 hB0.r41 dX6_valueOf_286 (n := 289) rfl ?_
                  refine x_iload_n dX6_valueOf_289 (n := 290) rfl rfl 3 rfl ?_
                  obtain ⟨b33, h⟩ := h
                  refine x_iald hB0.a41 b33 rfl dX6_valueOf_290 (n := 291) rfl ?_
                  refine x_lload_n dX6_valueOf_291 (n := 292) rfl rfl 1 rfl ?_
                  refine x_lload dX6_valueOf_292 (n := 294) rfl 0 rfl ?_
                  refine x_cSip (As := [.int (gI σ0 (o + 17) x1.toNatClampNeg), .long v7, .long v13]) (rest := []) cs_X6_441 (met_X6_compares σ0 (gI σ0 (o + 17) x1.toNatClampNeg) v7 v13 ) (by decide) rfl rfl rfl dX6_valueOf_294 (n := 297) rfl (fun r35 q => ?_)
                  subst q
                  refine x_if_eq (tgt := 304) dX6_valueOf_297 rfl (n := 300) rfl (fun c36 => ?_) (fun c36 => ?_)
                  · have h := h.1 c36
                    refine x_lconst dX6_valueOf_304 (n := 305) rfl lc_0 ?_
                    exact x_lret rq ⟨(SH.rf (σ := σ0)), h⟩ dX6_valueOf_305
                  · have h := h.2 c36
                    refine x_lconst dX6_valueOf_300 (n := 301) rfl lc_1 ?_
                    refine x_goto (tgt := 305) dX6_valueOf_301 rfl ?_
                    exact x_lret rq ⟨(SH.rf (σ := σ0)), h⟩ dX6_valueOf_305
                · have h := h.2 c32
                  refine x_by ((gI σ0 (o + 17) x1.toNatClampNeg) = 8) (fun c37 => ?_) (fun c37 => ?_)
                  · have h := h.1 c37
                    have z37 := tsw_in c37 ti_8
                    refine x_tswIn (tgt := 285) dX6_valueOf_96 (by rw [z37]; decide) (by rw [z37]; decide) (by rw [z37]; rfl) rfl ?_
                    refine x_aload_n dX6_valueOf_285 (n := 286) rfl rfl 2 rfl ?_
                    refine x_getr fl_X6_63_0 rfl hB0.1 hB0.r41 dX6_valueOf_286 (n := 289) rfl ?_
                    refine x_iload_n dX6_valueOf_289 (n := 290) rfl rfl 3 rfl ?_
                    obtain ⟨b38, h⟩ := h
                    refine x_iald hB0.a41 b38 rfl dX6_valueOf_290 (n := 291) rfl ?_
                    refine x_lload_n dX6_valueOf_291 (n := 292) rfl rfl 1 rfl ?_
                    refine x_lload dX6_valueOf_292 (n := 294) rfl 0 rfl ?_
                    refine x_cSip (As := [.int (gI σ0 (o + 17) x1.toNatClampNeg), .long v7, .long v13]) (rest := []) cs_X6_441 (met_X6_compares σ0 (gI σ0 (o + 17) x1.toNatClampNeg) v7 v13 ) (by decide) rfl rfl rfl dX6_valueOf_294 (n := 297) rfl (fun r40 q => ?_)
                    subst q
                    refine x_if_eq (tgt := 304) dX6_valueOf_297 rfl (n := 300) rfl (fun c41 => ?_) (fun c41 => ?_)
                    · have h := h.1 c41
                      refine x_lconst dX6_valueOf_304 (n := 305) rfl lc_0 ?_
                      exact x_lret rq ⟨(SH.rf (σ := σ0)), h⟩ dX6_valueOf_305
                    · have h := h.2 c41
                      refine x_lconst dX6_valueOf_300 (n := 301) rfl lc_1 ?_
                      refine x_goto (tgt := 305) dX6_valueOf_301 rfl ?_
                      exact x_lret rq ⟨(SH.rf (σ := σ0)), h⟩ dX6_valueOf_305
                  · have h := h.2 c37
                    refine x_by ((gI σ0 (o + 17) x1.toNatClampNeg) = 9) (fun c42 => ?_) (fun c42 => ?_)
                    · have h := h.1 c42
                      have z42 := tsw_in c42 ti_9
                      refine x_tswIn (tgt := 285) dX6_valueOf_96 (by rw [z42]; decide) (by rw [z42]; decide) (by rw [z42]; rfl) rfl ?_
                      refine x_aload_n dX6_valueOf_285 (n := 286) rfl rfl 2 rfl ?_
                      refine x_getr fl_X6_63_0 rfl hB0.1 hB0.r41 dX6_valueOf_286 (n := 289) rfl ?_
                      refine x_iload_n dX6_valueOf_289 (n := 290) rfl rfl 3 rfl ?_
                      obtain ⟨b43, h⟩ := h
                      refine x_iald hB0.a41 b43 rfl dX6_valueOf_290 (n := 291) rfl ?_
                      refine x_lload_n dX6_valueOf_291 (n := 292) rfl rfl 1 rfl ?_
                      refine x_lload dX6_valueOf_292 (n := 294) rfl 0 rfl ?_
                      refine x_cSip (As := [.int (gI σ0 (o + 17) x1.toNatClampNeg), .long v7, .long v13]) (rest := []) cs_X6_441 (met_X6_compares σ0 (gI σ0 (o + 17) x1.toNatClampNeg) v7 v13 ) (by decide) rfl rfl rfl dX6_valueOf_294 (n := 297) rfl (fun r45 q => ?_)
                      subst q
                      refine x_if_eq (tgt := 304) dX6_valueOf_297 rfl (n := 300) rfl (fun c46 => ?_) (fun c46 => ?_)
                      · have h := h.1 c46
                        refine x_lconst dX6_valueOf_304 (n := 305) rfl lc_0 ?_
                        exact x_lret rq ⟨(SH.rf (σ := σ0)), h⟩ dX6_valueOf_305
                      · have h := h.2 c46
                        refine x_lconst dX6_valueOf_300 (n := 301) rfl lc_1 ?_
                        refine x_goto (tgt := 305) dX6_valueOf_301 rfl ?_
                        exact x_lret rq ⟨(SH.rf (σ := σ0)), h⟩ dX6_valueOf_305
                    · have h := h.2 c42
                      refine x_by ((gI σ0 (o + 17) x1.toNatClampNeg) = 10) (fun c47 => ?_) (fun c47 => ?_)
                      · have h := h.1 c47
                        have z47 := tsw_in c47 ti_10
                        refine x_tswIn (tgt := 285) dX6_valueOf_96 (by rw [z47]; decide) (by rw [z47]; decide) (by rw [z47]; rfl) rfl ?_
                        refine x_aload_n dX6_valueOf_285 (n := 286) rfl rfl 2 rfl ?_
                        refine x_getr fl_X6_63_0 rfl hB0.1 hB0.r41 dX6_valueOf_286 (n := 289) rfl ?_
                        refine x_iload_n dX6_valueOf_289 (n := 290) rfl rfl 3 rfl ?_
                        obtain ⟨b48, h⟩ := h
                        refine x_iald hB0.a41 b48 rfl dX6_valueOf_290 (n := 291) rfl ?_
                        refine x_lload_n dX6_valueOf_291 (n := 292) rfl rfl 1 rfl ?_
                        refine x_lload dX6_valueOf_292 (n := 294) rfl 0 rfl ?_
                        refine x_cSip (As := [.int (gI σ0 (o + 17) x1.toNatClampNeg), .long v7, .long v13]) (rest := []) cs_X6_441 (met_X6_compares σ0 (gI σ0 (o + 17) x1.toNatClampNeg) v7 v13 ) (by decide) rfl rfl rfl dX6_valueOf_294 (n := 297) rfl (fun r50 q => ?_)
                        subst q
                        refine x_if_eq (tgt := 304) dX6_valueOf_297 rfl (n := 300) rfl (fun c51 => ?_) (fun c51 => ?_)
                        · have h := h.1 c51
                          refine x_lconst dX6_valueOf_304 (n := 305) rfl lc_0 ?_
                          exact x_lret rq ⟨(SH.rf (σ := σ0)), h⟩ dX6_valueOf_305
                        · have h := h.2 c51
                          refine x_lconst dX6_valueOf_300 (n := 301) rfl lc_1 ?_
                          refine x_goto (tgt := 305) dX6_valueOf_301 rfl ?_
                          exact x_lret rq ⟨(SH.rf (σ := σ0)), h⟩ dX6_valueOf_305
                      · have h := h.2 c47
                        refine x_by ((gI σ0 (o + 17) x1.toNatClampNeg) = 11) (fun c52 => ?_) (fun c52 => ?_)
                        · have h := h.1 c52
                          have z52 := tsw_in c52 ti_11
                          refine x_tswIn (tgt := 202) dX6_valueOf_96 (by rw [z52]; decide) (by rw [z52]; decide) (by rw [z52]; rfl) rfl ?_
                          refine x_aload_n dX6_valueOf_202 (n := 203) rfl rfl 2 rfl ?_
                          refine x_lload_n dX6_valueOf_203 (n := 204) rfl rfl 1 rfl ?_
                          refine x_lload dX6_valueOf_204 (n := 206) rfl 0 rfl ?_
                          refine x_ladd dX6_valueOf_206 (n := 207) rfl ?_
                          refine x_cVlm (As := [.long (v7 + v13)]) (rest := []) cv_X6_433 ck0 (met_X6_bounded o σ0 (v7 + v13) hB0) hB0.1 (by decide) rfl rfl rfl dX6_valueOf_207 (n := 210) rfl (fun r57 s53 hs54 e56 => ?_)
                          have hs54t := (SH.rf (σ := σ0)).tr hs54; have hBs53 := hB0.sh hs54t
                          have h := h r57 s53 e56
                          exact x_lret rq ⟨hs54t, h⟩ dX6_valueOf_210
                        · have h := h.2 c52
                          refine x_by ((gI σ0 (o + 17) x1.toNatClampNeg) = 12) (fun c58 => ?_) (fun c58 => ?_)
                          · have h := h.1 c58
                            have z58 := tsw_in c58 ti_12
                            refine x_tswIn (tgt := 211) dX6_valueOf_96 (by rw [z58]; decide) (by rw [z58]; decide) (by rw [z58]; rfl) rfl ?_
                            refine x_aload_n dX6_valueOf_211 (n := 212) rfl rfl 2 rfl ?_
                            refine x_lload_n dX6_valueOf_212 (n := 213) rfl rfl 1 rfl ?_
                            refine x_lload dX6_valueOf_213 (n := 215) rfl 0 rfl ?_
                            refine x_lsub dX6_valueOf_215 (n := 216) rfl ?_
                            refine x_cVlm (As := [.long (v7 - v13)]) (rest := []) cv_X6_433 ck0 (met_X6_bounded o σ0 (v7 - v13) hB0) hB0.1 (by decide) rfl rfl rfl dX6_valueOf_216 (n := 219) rfl (fun r63 s59 hs60 e62 => ?_)
                            have hs60t := (SH.rf (σ := σ0)).tr hs60; have hBs59 := hB0.sh hs60t
                            have h := h r63 s59 e62
                            exact x_lret rq ⟨hs60t, h⟩ dX6_valueOf_219
                          · have h := h.2 c58
                            refine x_by ((gI σ0 (o + 17) x1.toNatClampNeg) = 13) (fun c64 => ?_) (fun c64 => ?_)
                            · have h := h.1 c64
                              have z64 := tsw_in c64 ti_13
                              refine x_tswIn (tgt := 220) dX6_valueOf_96 (by rw [z64]; decide) (by rw [z64]; decide) (by rw [z64]; rfl) rfl ?_
                              refine x_aload_n dX6_valueOf_220 (n := 221) rfl rfl 2 rfl ?_
                              refine x_lload_n dX6_valueOf_221 (n := 222) rfl rfl 1 rfl ?_
                              refine x_lload dX6_valueOf_222 (n := 224) rfl 0 rfl ?_
                              obtain ⟨b67, h⟩ := h
                              refine x_cVlm (As := [.long v7, .long v13]) (rest := []) cv_X6_437 ck0 (met_X6_times o σ0 v7 v13 hB0 b67) hB0.1 (by decide) rfl rfl rfl dX6_valueOf_224 (n := 227) rfl (fun r69 s65 hs66 e68 => ?_)
                              have hs66t := (SH.rf (σ := σ0)).tr hs66; have hBs65 := hB0.sh hs66t
                              have h := h r69 s65 e68
                              exact x_lret rq ⟨hs66t, h⟩ dX6_valueOf_227
                            · have h := h.2 c64
                              refine x_by ((gI σ0 (o + 17) x1.toNatClampNeg) = 14) (fun c70 => ?_) (fun c70 => ?_)
                              · have h := h.1 c70
                                have z70 := tsw_in c70 ti_14
                                refine x_tswIn (tgt := 228) dX6_valueOf_96 (by rw [z70]; decide) (by rw [z70]; decide) (by rw [z70]; rfl) rfl ?_
                                refine x_aload_n dX6_valueOf_228 (n := 229) rfl rfl 2 rfl ?_
                                refine x_aload_n dX6_valueOf_229 (n := 230) rfl rfl 2 rfl ?_
                                refine x_geti fl_X6_428_0 rfl hB0.1 rfl dX6_valueOf_230 (n := 233) rfl ?_
                                refine x_if_ne (tgt := 243) dX6_valueOf_233 rfl (n := 236) rfl (fun c71 => ?_) (fun c71 => ?_)
                                · have h := h.2 c71
                                  exact x_sub [2, 3, 1, 0] rfl (xj_X6_valueOf_243 o σ0 Q G hB0 rq σ0 x1 v7 v13 (SH.rf (σ := σ0)) h)
                                · have h := h.1 c71
                                  refine x_lload dX6_valueOf_236 (n := 238) rfl 0 rfl ?_
                                  refine x_lconst dX6_valueOf_238 (n := 239) rfl lc_0 ?_
                                  refine x_lcmp_ne (tgt := 247) dX6_valueOf_239 (pc1 := 240) rfl dX6_valueOf_240 rfl (n := 243) rfl (fun c72 => ?_) (fun c72 => ?_)
                                  · have h := h.2 c72
                                    refine x_iconst dX6_valueOf_247 (n := 248) rfl ic_0 ?_
                                    exact x_sub [2, 3, 1, 0] rfl (xj_X6_valueOf_248 o σ0 Q G hB0 rq σ0 x1 v7 v13 0 (SH.rf (σ := σ0)) h)
                                  · have h := h.1 c72
                                    exact x_sub [2, 3, 1, 0] rfl (xj_X6_valueOf_243 o σ0 Q G hB0 rq σ0 x1 v7 v13 (SH.rf (σ := σ0)) h)
                              · have h := h.2 c70
                                refine x_by ((gI σ0 (o + 17) x1.toNatClampNeg) = 15) (fun c73 => ?_) (fun c73 => ?_)
                                · have h := h.1 c73
                                  have z73 := tsw_in c73 ti_15
                                  refine x_tswIn (tgt := 228) dX6_valueOf_96 (by rw [z73]; decide) (by rw [z73]; decide) (by rw [z73]; rfl) rfl ?_
                                  refine x_aload_n dX6_valueOf_228 (n := 229) rfl rfl 2 rfl ?_
                                  refine x_aload_n dX6_valueOf_229 (n := 230) rfl rfl 2 rfl ?_
                                  refine x_geti fl_X6_428_0 rfl hB0.1 rfl dX6_valueOf_230 (n := 233) rfl ?_
                                  refine x_if_ne (tgt := 243) dX6_valueOf_233 rfl (n := 236) rfl (fun c74 => ?_) (fun c74 => ?_)
                                  · have h := h.2 c74
                                    exact x_sub [2, 3, 1, 0] rfl (xj_X6_valueOf_243 o σ0 Q G hB0 rq σ0 x1 v7 v13 (SH.rf (σ := σ0)) h)
                                  · have h := h.1 c74
                                    refine x_lload dX6_valueOf_236 (n := 238) rfl 0 rfl ?_
                                    refine x_lconst dX6_valueOf_238 (n := 239) rfl lc_0 ?_
                                    refine x_lcmp_ne (tgt := 247) dX6_valueOf_239 (pc1 := 240) rfl dX6_valueOf_240 rfl (n := 243) rfl (fun c75 => ?_) (fun c75 => ?_)
                                    · have h := h.2 c75
                                      refine x_iconst dX6_valueOf_247 (n := 248) rfl ic_0 ?_
                                      exact x_sub [2, 3, 1, 0] rfl (xj_X6_valueOf_248 o σ0 Q G hB0 rq σ0 x1 v7 v13 0 (SH.rf (σ := σ0)) h)
                                    · have h := h.1 c75
                                      exact x_sub [2, 3, 1, 0] rfl (xj_X6_valueOf_243 o σ0 Q G hB0 rq σ0 x1 v7 v13 (SH.rf (σ := σ0)) h)
                                · have h := h.2 c73
                                  have z16 := ne_int c16 ti_3
                                  have z19 := ne_int c19 ti_4
                                  have z22 := ne_int c22 ti_5
                                  have z27 := ne_int c27 ti_6
                                  have z32 := ne_int c32 ti_7
                                  have z37 := ne_int c37 ti_8
                                  have z42 := ne_int c42 ti_9
                                  have z47 := ne_int c47 ti_10
                                  have z52 := ne_int c52 ti_11
                                  have z58 := ne_int c58 ti_12
                                  have z64 := ne_int c64 ti_13
                                  have z70 := ne_int c70 ti_14
                                  have z73 := ne_int c73 ti_15
                                  refine x_tswOut (tgt := 285) dX6_valueOf_96 (by omega) rfl ?_
                                  refine x_aload_n dX6_valueOf_285 (n := 286) rfl rfl 2 rfl ?_
                                  refine x_getr fl_X6_63_0 rfl hB0.1 hB0.r41 dX6_valueOf_286 (n := 289) rfl ?_
                                  refine x_iload_n dX6_valueOf_289 (n := 290) rfl rfl 3 rfl ?_
                                  obtain ⟨b76, h⟩ := h
                                  refine x_iald hB0.a41 b76 rfl dX6_valueOf_290 (n := 291) rfl ?_
                                  refine x_lload_n dX6_valueOf_291 (n := 292) rfl rfl 1 rfl ?_
                                  refine x_lload dX6_valueOf_292 (n := 294) rfl 0 rfl ?_
                                  refine x_cSip (As := [.int (gI σ0 (o + 17) x1.toNatClampNeg), .long v7, .long v13]) (rest := []) cs_X6_441 (met_X6_compares σ0 (gI σ0 (o + 17) x1.toNatClampNeg) v7 v13 ) (by decide) rfl rfl rfl dX6_valueOf_294 (n := 297) rfl (fun r78 q => ?_)
                                  subst q
                                  refine x_if_eq (tgt := 304) dX6_valueOf_297 rfl (n := 300) rfl (fun c79 => ?_) (fun c79 => ?_)
                                  · have h := h.1 c79
                                    refine x_lconst dX6_valueOf_304 (n := 305) rfl lc_0 ?_
                                    exact x_lret rq ⟨(SH.rf (σ := σ0)), h⟩ dX6_valueOf_305
                                  · have h := h.2 c79
                                    refine x_lconst dX6_valueOf_300 (n := 301) rfl lc_1 ?_
                                    refine x_goto (tgt := 305) dX6_valueOf_301 rfl ?_
                                    exact x_lret rq ⟨(SH.rf (σ := σ0)), h⟩ dX6_valueOf_305
      · have h := h.1 c10
        refine x_lload_n dX6_valueOf_65 (n := 66) rfl rfl 0 rfl ?_
        refine x_lconst dX6_valueOf_66 (n := 67) rfl lc_0 ?_
        refine x_lcmp_ne (tgt := 75) dX6_valueOf_67 (pc1 := 68) rfl dX6_valueOf_68 rfl (n := 71) rfl (fun c80 => ?_) (fun c80 => ?_)
        · have h := h.2 c80
          refine x_lconst dX6_valueOf_75 (n := 76) rfl lc_0 ?_
          exact x_lret rq ⟨(SH.rf (σ := σ0)), h⟩ dX6_valueOf_76
        · have h := h.1 c80
          refine x_lconst dX6_valueOf_71 (n := 72) rfl lc_1 ?_
          refine x_goto (tgt := 76) dX6_valueOf_72 rfl ?_
          exact x_lret rq ⟨(SH.rf (σ := σ0)), h⟩ dX6_valueOf_76
    · have h := h.1 c4
      refine x_aload_n dX6_valueOf_27 (n := 28) rfl rfl 0 rfl ?_
      refine x_aload_n dX6_valueOf_28 (n := 29) rfl rfl 0 rfl ?_
      refine x_getr fl_X6_78_0 rfl hB0.1 hB0.r55 dX6_valueOf_29 (n := 32) rfl ?_
      refine x_aload_n dX6_valueOf_32 (n := 33) rfl rfl 0 rfl ?_
      refine x_getr fl_X6_66_0 rfl hB0.1 hB0.r42 dX6_valueOf_33 (n := 36) rfl ?_
      refine x_iload_n dX6_valueOf_36 (n := 37) rfl rfl 1 rfl ?_
      obtain ⟨b81, h⟩ := h
      refine x_iald hB0.a42 b81 rfl dX6_valueOf_37 (n := 38) rfl ?_
      obtain ⟨b82, h⟩ := h
      refine x_lald hB0.a55 b82 rfl dX6_valueOf_38 (n := 39) rfl ?_
      refine x_cVlm (As := [.long (gL σ0 (o + 22) (gI σ0 (o + 18) x1.toNatClampNeg).toNatClampNeg)]) (rest := []) cv_X6_433 ck0 (met_X6_bounded o σ0 (gL σ0 (o + 22) (gI σ0 (o + 18) x1.toNatClampNeg).toNatClampNeg) hB0) hB0.1 (by decide) rfl rfl rfl dX6_valueOf_39 (n := 42) rfl (fun r87 s83 hs84 e86 => ?_)
      have hs84t := (SH.rf (σ := σ0)).tr hs84; have hBs83 := hB0.sh hs84t
      have h := h r87 s83 e86
      exact x_lret rq ⟨hs84t, h⟩ dX6_valueOf_42
  · have h := h.1 c2
    refine x_aload_n dX6_valueOf_9 (n := 10) rfl rfl 0 rfl ?_
    refine x_getr fl_X6_66_0 rfl hB0.1 hB0.r42 dX6_valueOf_10 (n := 13) rfl ?_
    refine x_iload_n dX6_valueOf_13 (n := 14) rfl rfl 1 rfl ?_
    obtain ⟨b88, h⟩ := h
    refine x_iald hB0.a42 b88 rfl dX6_valueOf_14 (n := 15) rfl ?_
    refine x_i2l dX6_valueOf_15 (n := 16) rfl ?_
    exact x_lret rq ⟨(SH.rf (σ := σ0)), h⟩ dX6_valueOf_16
abbrev rm_X6_sumOf : Room := { frames := 2, cells := 0, slots := 0, locals := 56 }
def lb_X6_sumOf_130 (o : Nat) (x1 : Int32) (Q : Int64 → Hp → Prop)  (K130 : Int32 × Hp → Prop) (z : Int32 × Hp) : Prop := match z with
  | (x5, σ) => (vp_in x1 8) ∧ (((gI σ (o + 8) x1.toNatClampNeg) ≤ x5 → ((gI σ o 57) = 0 → (vp_in x1 8) ∧ ((vp_in ((gI σ (o + 8) x1.toNatClampNeg) - 1) 64) ∧ (Q (gL σ (o + 23) ((gI σ (o + 8) x1.toNatClampNeg) - 1).toNatClampNeg) σ))) ∧ (¬ (gI σ o 57) = 0 → Q 0 σ)) ∧ (¬ (gI σ (o + 8) x1.toNatClampNeg) ≤ x5 → wp_X6_valueOf o σ x5 (fun r25 s23 => (vp_in x5 64) ∧ (K130 (x5 + 1, pL s23 (o + 23) x5.toNatClampNeg r25)))))
def wj_X6_sumOf_116 (o : Nat) (σ : Hp) (x1 : Int32) (w0 : Int64) (Q : Int64 → Hp → Prop)  : Prop := (vp_in x1 8) ∧ (∀ v16 : Int32, v16 = gI (pI (pL σ (o + 22) 5 w0) o 57 0) (o + 7) x1.toNatClampNeg → lp (lb_X6_sumOf_130 o x1 Q) (v16, pI (pL σ (o + 22) 5 w0) o 57 0))
def lb_X6_sumOf_64 (o : Nat) (x1 : Int32) (y2 : Int64) (x4 : Int32) (Q : Int64 → Hp → Prop)  (K64 : Int32 × Hp → Prop) (z : Int32 × Hp) : Prop := match z with
  | (x5, σ) => (3 ≤ x5 → (x4 = 0 → wj_X6_sumOf_116 o σ x1 0 Q) ∧ (¬ x4 = 0 → (ok_X6_lengthOf o σ 0 (gL σ o 53)) ∧ (wj_X6_sumOf_116 o σ x1 (f_X6_lengthOf o σ 0 (gL σ o 53)) Q))) ∧ (¬ 3 ≤ x5 → (ok_X6_roundOf o σ y2 x5) ∧ ((vp_in (2 + x5) 6) ∧ (K64 (x5 + 1, pL σ (o + 22) (2 + x5).toNatClampNeg ((f_X6_roundOf o σ y2 x5).toInt64)))))
def wj_X6_sumOf_41 (o : Nat) (σ : Hp) (x1 : Int32) (y2 : Int64) (x4 : Int32) (w0 : Int64) (Q : Int64 → Hp → Prop)  : Prop := (x4 = 0 → lp (lb_X6_sumOf_64 o x1 y2 x4 Q) (0, pL (pL σ (o + 22) 0 w0) (o + 22) 1 0)) ∧ (¬ x4 = 0 → lp (lb_X6_sumOf_64 o x1 y2 x4 Q) (0, pL (pL σ (o + 22) 0 w0) (o + 22) 1 (gL σ o 53)))
def wj_X6_sumOf_21 (o : Nat) (σ : Hp) (x1 : Int32) (y2 : Int64) (w0 : Int32) (Q : Int64 → Hp → Prop)  : Prop := (w0 = 0 → wj_X6_sumOf_41 o σ x1 y2 w0 0 Q) ∧ (¬ w0 = 0 → wj_X6_sumOf_41 o σ x1 y2 w0 (gL σ o 54) Q)
def wj_X6_sumOf_20 (o : Nat) (σ : Hp) (x1 : Int32) (y2 : Int64) (Q : Int64 → Hp → Prop)  : Prop := wj_X6_sumOf_21 o σ x1 y2 0 Q
def wp_X6_sumOf (o : Nat) (σ0 : Hp) (x1 : Int32) (y2 : Int64) (Q : Int64 → Hp → Prop) : Prop := ((gI σ0 o 12) ≤ 0 → wj_X6_sumOf_20 o σ0 x1 y2 Q) ∧ (¬ (gI σ0 o 12) ≤ 0 → wp_X6_date1 o σ0 0 y2 (fun r4 s2 => (r4 = 0 → wj_X6_sumOf_20 o s2 x1 y2 Q) ∧ (¬ r4 = 0 → wj_X6_sumOf_21 o s2 x1 y2 1 Q)))
theorem xl_X6_sumOf_130 (o : Nat) (σ0 : Hp) (Q : Int64 → Hp → Prop) (G : XE) (hB0 : MB o σ0) (rq : RQ G 0 0 (oL (fun r σ' => SH σ0 σ' ∧ Q r σ'))) (x1 : Int32)    : ∀ z : Int32 × Hp, SH σ0 z.2 → lp (lb_X6_sumOf_130 o x1 Q ) z → X G rm_X6_sumOf cX6_sumOf RX6 6 (some .long) z.2 0 0 130 [(0, .ref o), (1, .int x1), (5, .int z.1)] [] := by
  intro z
  refine fun hs h => lp_X (P := fun z => SH σ0 z.2 → X G rm_X6_sumOf cX6_sumOf RX6 6 (some .long) z.2 0 0 130 [(0, .ref o), (1, .int x1), (5, .int z.1)] []) ?_ h hs
  intro K130 hK130 z h hs
  obtain ⟨x5, σ⟩ := z
  have hs : SH σ0 σ := hs
  have hB := hB0.sh hs
  simp only [lb_X6_sumOf_130] at h
  show X G rm_X6_sumOf cX6_sumOf RX6 6 (some .long) σ 0 0 130 [(0, .ref o), (1, .int x1), (5, .int x5)] []
  have hK130 : ∀ z : (Int32 × Hp), SH σ0 z.2 → K130 z → X G rm_X6_sumOf cX6_sumOf RX6 6 (some .long) z.2 0 0 130 [(0, .ref o), (1, .int x1), (5, .int z.1)] [] := fun z hs h => hK130 z h hs
  refine x_iload dX6_sumOf_130 (n := 132) rfl 2 rfl ?_
  refine x_aload_n dX6_sumOf_132 (n := 133) rfl rfl 0 rfl ?_
  refine x_getr fl_X6_35_0 rfl hB.1 hB.r32 dX6_sumOf_133 (n := 136) rfl ?_
  refine x_iload_n dX6_sumOf_136 (n := 137) rfl rfl 1 rfl ?_
  obtain ⟨b18, h⟩ := h
  refine x_iald hB.a32 b18 rfl dX6_sumOf_137 (n := 138) rfl ?_
  refine x_icmp_ge (tgt := 160) dX6_sumOf_138 rfl (n := 141) rfl (fun c19 => ?_) (fun c19 => ?_)
  · have h := h.1 c19
    refine x_aload_n dX6_sumOf_160 (n := 161) rfl rfl 0 rfl ?_
    refine x_geti fl_X6_428_0 rfl hB.1 rfl dX6_sumOf_161 (n := 164) rfl ?_
    refine x_if_eq (tgt := 171) dX6_sumOf_164 rfl (n := 167) rfl (fun c20 => ?_) (fun c20 => ?_)
    · have h := h.1 c20
      refine x_aload_n dX6_sumOf_171 (n := 172) rfl rfl 0 rfl ?_
      refine x_getr fl_X6_81_0 rfl hB.1 hB.r56 dX6_sumOf_172 (n := 175) rfl ?_
      refine x_aload_n dX6_sumOf_175 (n := 176) rfl rfl 0 rfl ?_
      refine x_getr fl_X6_35_0 rfl hB.1 hB.r32 dX6_sumOf_176 (n := 179) rfl ?_
      refine x_iload_n dX6_sumOf_179 (n := 180) rfl rfl 1 rfl ?_
      obtain ⟨b21, h⟩ := h
      refine x_iald hB.a32 b21 rfl dX6_sumOf_180 (n := 181) rfl ?_
      refine x_iconst dX6_sumOf_181 (n := 182) rfl ic_1 ?_
      refine x_isub dX6_sumOf_182 (n := 183) rfl ?_
      obtain ⟨b22, h⟩ := h
      refine x_lald hB.a56 b22 rfl dX6_sumOf_183 (n := 184) rfl ?_
      exact x_lret rq ⟨hs, h⟩ dX6_sumOf_184
    · have h := h.2 c20
      refine x_lconst dX6_sumOf_167 (n := 168) rfl lc_0 ?_
      refine x_goto (tgt := 184) dX6_sumOf_168 rfl ?_
      exact x_lret rq ⟨hs, h⟩ dX6_sumOf_184
  · have h := h.2 c19
    refine x_aload_n dX6_sumOf_141 (n := 142) rfl rfl 0 rfl ?_
    refine x_getr fl_X6_81_0 rfl hB.1 hB.r56 dX6_sumOf_142 (n := 145) rfl ?_
    refine x_iload dX6_sumOf_145 (n := 147) rfl 2 rfl ?_
    refine x_aload_n dX6_sumOf_147 (n := 148) rfl rfl 0 rfl ?_
    refine x_iload dX6_sumOf_148 (n := 150) rfl 2 rfl ?_
    refine x_cVlm (As := [.int x5]) (rest := [.int x5, .ref (o + 23)]) cv_X6_445 ck0 (met_X6_valueOf o σ x5 _ hB h) hB.1 (by decide) rfl rfl rfl dX6_sumOf_150 (n := 153) rfl (fun r25 s23 hs24 h => ?_)
    have hs24t := hs.tr hs24; have hBs23 := hB0.sh hs24t
    obtain ⟨b26, h⟩ := h
    refine x_last hBs23.a56 b26 rfl dX6_sumOf_153 (n := 154) rfl ?_
    refine x_iinc (v := x5 + 1) (lvs' := [(5, .int (x5 + 1)), (0, .ref o), (1, .int x1)]) dX6_sumOf_154 (n := 157) rfl 2 rfl rfl (by decide) rfl ?_
    refine x_goto (tgt := 130) dX6_sumOf_157 rfl ?_
    exact x_sub [1, 2, 0] rfl (hK130 (x5 + 1, pL s23 (o + 23) x5.toNatClampNeg r25) hs24t.l h)
theorem xj_X6_sumOf_116 (o : Nat) (σ0 : Hp) (Q : Int64 → Hp → Prop) (G : XE) (hB0 : MB o σ0) (rq : RQ G 0 0 (oL (fun r σ' => SH σ0 σ' ∧ Q r σ'))) (σ : Hp) (x1 : Int32) (w0 : Int64)    (hs : SH σ0 σ) (h : wj_X6_sumOf_116 o σ x1 w0 Q ) : X G rm_X6_sumOf cX6_sumOf RX6 6 (some .long) σ 0 0 116 [(0, .ref o), (1, .int x1)] [.long w0, .int 5, .ref (o + 22)] := by
  have hs : SH σ0 σ := hs
  have hB := hB0.sh hs
  unfold wj_X6_sumOf_116 at h
  refine x_last hB.a55 (vin_of (by decide) tn_5 rfl) tn_5 dX6_sumOf_116 (n := 117) rfl ?_
  refine x_aload_n dX6_sumOf_117 (n := 118) rfl rfl 0 rfl ?_
  refine x_iconst dX6_sumOf_118 (n := 119) rfl ic_0 ?_
  refine x_putz fp_X6_428_0 rfl hB.l.1 isB0 dX6_sumOf_119 (n := 122) rfl ?_
  refine x_aload_n dX6_sumOf_122 (n := 123) rfl rfl 0 rfl ?_
  refine x_getr fl_X6_32_0 rfl hB.l.i.1 hB.l.i.r31 dX6_sumOf_123 (n := 126) rfl ?_
  refine x_iload_n dX6_sumOf_126 (n := 127) rfl rfl 1 rfl ?_
  obtain ⟨b15, h⟩ := h
  refine x_iald hB.l.i.a31 b15 rfl dX6_sumOf_127 (n := 128) rfl ?_
  refine x_topi (fun v16 e17 => ?_)
  have h := h v16 e17
  refine x_istore (lvs' := [(5, .int v16), (0, .ref o), (1, .int x1)]) dX6_sumOf_128 (n := 130) rfl (by decide) rfl ?_
  exact x_sub [1, 2, 0] rfl (xl_X6_sumOf_130 o σ0 Q G hB0 rq x1 (v16, pI (pL σ (o + 22) 5 w0) o 57 0) hs.l.i h)
theorem xl_X6_sumOf_64 (o : Nat) (σ0 : Hp) (Q : Int64 → Hp → Prop) (G : XE) (hB0 : MB o σ0) (rq : RQ G 0 0 (oL (fun r σ' => SH σ0 σ' ∧ Q r σ'))) (x1 : Int32) (y2 : Int64) (x4 : Int32)    : ∀ z : Int32 × Hp, SH σ0 z.2 → lp (lb_X6_sumOf_64 o x1 y2 x4 Q ) z → X G rm_X6_sumOf cX6_sumOf RX6 6 (some .long) z.2 0 0 64 [(0, .ref o), (1, .int x1), (2, .long y2), (4, .int x4), (5, .int z.1)] [] := by
  intro z
  refine fun hs h => lp_X (P := fun z => SH σ0 z.2 → X G rm_X6_sumOf cX6_sumOf RX6 6 (some .long) z.2 0 0 64 [(0, .ref o), (1, .int x1), (2, .long y2), (4, .int x4), (5, .int z.1)] []) ?_ h hs
  intro K64 hK64 z h hs
  obtain ⟨x5, σ⟩ := z
  have hs : SH σ0 σ := hs
  have hB := hB0.sh hs
  simp only [lb_X6_sumOf_64] at h
  show X G rm_X6_sumOf cX6_sumOf RX6 6 (some .long) σ 0 0 64 [(0, .ref o), (1, .int x1), (2, .long y2), (4, .int x4), (5, .int x5)] []
  have hK64 : ∀ z : (Int32 × Hp), SH σ0 z.2 → K64 z → X G rm_X6_sumOf cX6_sumOf RX6 6 (some .long) z.2 0 0 64 [(0, .ref o), (1, .int x1), (2, .long y2), (4, .int x4), (5, .int z.1)] [] := fun z hs h => hK64 z h hs
  refine x_iload dX6_sumOf_64 (n := 66) rfl 4 rfl ?_
  refine x_iconst dX6_sumOf_66 (n := 67) rfl ic_3 ?_
  refine x_icmp_ge (tgt := 93) dX6_sumOf_67 rfl (n := 70) rfl (fun c8 => ?_) (fun c8 => ?_)
  · have h := h.1 c8
    refine x_aload_n dX6_sumOf_93 (n := 94) rfl rfl 0 rfl ?_
    refine x_getr fl_X6_78_0 rfl hB.1 hB.r55 dX6_sumOf_94 (n := 97) rfl ?_
    refine x_iconst dX6_sumOf_97 (n := 98) rfl ic_5 ?_
    refine x_iload dX6_sumOf_98 (n := 100) rfl 3 rfl ?_
    refine x_if_eq (tgt := 115) dX6_sumOf_100 rfl (n := 103) rfl (fun c9 => ?_) (fun c9 => ?_)
    · have h := h.1 c9
      refine x_lconst dX6_sumOf_115 (n := 116) rfl lc_0 ?_
      exact x_sub [0, 1] rfl (xj_X6_sumOf_116 o σ0 Q G hB0 rq σ x1 0 hs h)
    · have h := h.2 c9
      refine x_aload_n dX6_sumOf_103 (n := 104) rfl rfl 0 rfl ?_
      refine x_iconst dX6_sumOf_104 (n := 105) rfl ic_0 ?_
      refine x_aload_n dX6_sumOf_105 (n := 106) rfl rfl 0 rfl ?_
      refine x_getl fl_X6_396_0 rfl hB.1 rfl dX6_sumOf_106 (n := 109) rfl ?_
      obtain ⟨b10, h⟩ := h
      refine x_cVlp (As := [.int 0, .long (gL σ o 53)]) (rest := [.int 5, .ref (o + 22)]) cv_X6_375 ck0 (met_X6_lengthOf o σ 0 (gL σ o 53) hB b10) hB.1 (by decide) rfl rfl rfl dX6_sumOf_109 (n := 112) rfl (fun r11 q => ?_)
      subst q
      refine x_goto (tgt := 116) dX6_sumOf_112 rfl ?_
      exact x_sub [0, 1] rfl (xj_X6_sumOf_116 o σ0 Q G hB0 rq σ x1 (f_X6_lengthOf o σ 0 (gL σ o 53)) hs h)
  · have h := h.2 c8
    refine x_aload_n dX6_sumOf_70 (n := 71) rfl rfl 0 rfl ?_
    refine x_getr fl_X6_78_0 rfl hB.1 hB.r55 dX6_sumOf_71 (n := 74) rfl ?_
    refine x_iconst dX6_sumOf_74 (n := 75) rfl ic_2 ?_
    refine x_iload dX6_sumOf_75 (n := 77) rfl 4 rfl ?_
    refine x_iadd dX6_sumOf_77 (n := 78) rfl ?_
    refine x_aload_n dX6_sumOf_78 (n := 79) rfl rfl 0 rfl ?_
    refine x_lload_n dX6_sumOf_79 (n := 80) rfl rfl 2 rfl ?_
    refine x_iload dX6_sumOf_80 (n := 82) rfl 4 rfl ?_
    obtain ⟨b12, h⟩ := h
    refine x_cVip (As := [.long y2, .int x5]) (rest := [.int (2 + x5), .ref (o + 22)]) cv_X6_424 ck0 (met_X6_roundOf o σ y2 x5 hB b12) hB.1 (by decide) rfl rfl rfl dX6_sumOf_82 (n := 85) rfl (fun r13 q => ?_)
    subst q
    refine x_i2l dX6_sumOf_85 (n := 86) rfl ?_
    obtain ⟨b14, h⟩ := h
    refine x_last hB.a55 b14 rfl dX6_sumOf_86 (n := 87) rfl ?_
    refine x_iinc (v := x5 + 1) (lvs' := [(5, .int (x5 + 1)), (0, .ref o), (1, .int x1), (2, .long y2), (4, .int x4)]) dX6_sumOf_87 (n := 90) rfl 4 rfl rfl (by decide) rfl ?_
    refine x_goto (tgt := 64) dX6_sumOf_90 rfl ?_
    exact x_sub [1, 2, 3, 4, 0] rfl (hK64 (x5 + 1, pL σ (o + 22) (2 + x5).toNatClampNeg ((f_X6_roundOf o σ y2 x5).toInt64)) hs.l h)
theorem xj_X6_sumOf_41 (o : Nat) (σ0 : Hp) (Q : Int64 → Hp → Prop) (G : XE) (hB0 : MB o σ0) (rq : RQ G 0 0 (oL (fun r σ' => SH σ0 σ' ∧ Q r σ'))) (σ : Hp) (x1 : Int32) (y2 : Int64) (x4 : Int32) (w0 : Int64)    (hs : SH σ0 σ) (h : wj_X6_sumOf_41 o σ x1 y2 x4 w0 Q ) : X G rm_X6_sumOf cX6_sumOf RX6 6 (some .long) σ 0 0 41 [(0, .ref o), (1, .int x1), (2, .long y2), (4, .int x4)] [.long w0, .int 0, .ref (o + 22)] := by
  have hs : SH σ0 σ := hs
  have hB := hB0.sh hs
  unfold wj_X6_sumOf_41 at h
  refine x_last hB.a55 (vin_of (by decide) tn_0 rfl) tn_0 dX6_sumOf_41 (n := 42) rfl ?_
  refine x_aload_n dX6_sumOf_42 (n := 43) rfl rfl 0 rfl ?_
  refine x_getr fl_X6_78_0 rfl hB.l.1 hB.l.r55 dX6_sumOf_43 (n := 46) rfl ?_
  refine x_iconst dX6_sumOf_46 (n := 47) rfl ic_1 ?_
  refine x_iload dX6_sumOf_47 (n := 49) rfl 3 rfl ?_
  refine x_if_eq (tgt := 59) dX6_sumOf_49 rfl (n := 52) rfl (fun c7 => ?_) (fun c7 => ?_)
  · have h := h.1 c7
    refine x_lconst dX6_sumOf_59 (n := 60) rfl lc_0 ?_
    refine x_last hB.l.a55 (vin_of (by decide) tn_1 rfl) tn_1 dX6_sumOf_60 (n := 61) rfl ?_
    refine x_iconst dX6_sumOf_61 (n := 62) rfl ic_0 ?_
    refine x_istore (lvs' := [(5, .int 0), (0, .ref o), (1, .int x1), (2, .long y2), (4, .int x4)]) dX6_sumOf_62 (n := 64) rfl (by decide) rfl ?_
    exact x_sub [1, 2, 3, 4, 0] rfl (xl_X6_sumOf_64 o σ0 Q G hB0 rq x1 y2 x4 (0, pL (pL σ (o + 22) 0 w0) (o + 22) 1 0) hs.l.l h)
  · have h := h.2 c7
    refine x_aload_n dX6_sumOf_52 (n := 53) rfl rfl 0 rfl ?_
    refine x_getl fl_X6_396_0 rfl hB.l.1 (gLo (by omega)) dX6_sumOf_53 (n := 56) rfl ?_
    refine x_goto (tgt := 60) dX6_sumOf_56 rfl ?_
    refine x_last hB.l.a55 (vin_of (by decide) tn_1 rfl) tn_1 dX6_sumOf_60 (n := 61) rfl ?_
    refine x_iconst dX6_sumOf_61 (n := 62) rfl ic_0 ?_
    refine x_istore (lvs' := [(5, .int 0), (0, .ref o), (1, .int x1), (2, .long y2), (4, .int x4)]) dX6_sumOf_62 (n := 64) rfl (by decide) rfl ?_
    exact x_sub [1, 2, 3, 4, 0] rfl (xl_X6_sumOf_64 o σ0 Q G hB0 rq x1 y2 x4 (0, pL (pL σ (o + 22) 0 w0) (o + 22) 1 (gL σ o 53)) hs.l.l h)
theorem xj_X6_sumOf_21 (o : Nat) (σ0 : Hp) (Q : Int64 → Hp → Prop) (G : XE) (hB0 : MB o σ0) (rq : RQ G 0 0 (oL (fun r σ' => SH σ0 σ' ∧ Q r σ'))) (σ : Hp) (x1 : Int32) (y2 : Int64) (w0 : Int32)    (hs : SH σ0 σ) (h : wj_X6_sumOf_21 o σ x1 y2 w0 Q ) : X G rm_X6_sumOf cX6_sumOf RX6 6 (some .long) σ 0 0 21 [(0, .ref o), (1, .int x1), (2, .long y2)] [.int w0] := by
  have hs : SH σ0 σ := hs
  have hB := hB0.sh hs
  unfold wj_X6_sumOf_21 at h
  refine x_istore (lvs' := [(4, .int w0), (0, .ref o), (1, .int x1), (2, .long y2)]) dX6_sumOf_21 (n := 23) rfl (by decide) rfl ?_
  refine x_aload_n dX6_sumOf_23 (n := 24) rfl rfl 1 rfl ?_
  refine x_getr fl_X6_78_0 rfl hB.1 hB.r55 dX6_sumOf_24 (n := 27) rfl ?_
  refine x_iconst dX6_sumOf_27 (n := 28) rfl ic_0 ?_
  refine x_iload dX6_sumOf_28 (n := 30) rfl 0 rfl ?_
  refine x_if_eq (tgt := 40) dX6_sumOf_30 rfl (n := 33) rfl (fun c6 => ?_) (fun c6 => ?_)
  · have h := h.1 c6
    refine x_lconst dX6_sumOf_40 (n := 41) rfl lc_0 ?_
    exact x_sub [1, 2, 3, 0] rfl (xj_X6_sumOf_41 o σ0 Q G hB0 rq σ x1 y2 w0 0 hs h)
  · have h := h.2 c6
    refine x_aload_n dX6_sumOf_33 (n := 34) rfl rfl 1 rfl ?_
    refine x_getl fl_X6_399_0 rfl hB.1 rfl dX6_sumOf_34 (n := 37) rfl ?_
    refine x_goto (tgt := 41) dX6_sumOf_37 rfl ?_
    exact x_sub [1, 2, 3, 0] rfl (xj_X6_sumOf_41 o σ0 Q G hB0 rq σ x1 y2 w0 (gL σ o 54) hs h)
theorem xj_X6_sumOf_20 (o : Nat) (σ0 : Hp) (Q : Int64 → Hp → Prop) (G : XE) (hB0 : MB o σ0) (rq : RQ G 0 0 (oL (fun r σ' => SH σ0 σ' ∧ Q r σ'))) (σ : Hp) (x1 : Int32) (y2 : Int64)    (hs : SH σ0 σ) (h : wj_X6_sumOf_20 o σ x1 y2 Q ) : X G rm_X6_sumOf cX6_sumOf RX6 6 (some .long) σ 0 0 20 [(0, .ref o), (1, .int x1), (2, .long y2)] [] := by
  have hs : SH σ0 σ := hs
  have hB := hB0.sh hs
  unfold wj_X6_sumOf_20 at h
  refine x_iconst dX6_sumOf_20 (n := 21) rfl ic_0 ?_
  exact x_sub [0, 1, 2] rfl (xj_X6_sumOf_21 o σ0 Q G hB0 rq σ x1 y2 0 hs h)
theorem met_X6_sumOf (o : Nat) (σ0 : Hp) (x1 : Int32) (y2 : Int64) (Q : Int64 → Hp → Prop) (hB0 : MB o σ0) (h : wp_X6_sumOf o σ0 x1 y2 Q) : MetX yX6_sumOf cX6_sumOf 6 (some .long) rm_X6_sumOf σ0 [.ref o, .int x1, .long y2] (oL (fun r σ' => SH σ0 σ' ∧ Q r σ')) 0 0 := by
  refine metX_of (own := RX6) (lvs := [(0, .ref o), (1, .int x1), (2, .long y2)]) (by decide) rfl (Nat.le_of_ble_eq_true rfl) rfl (fun G rq => ?_)
  unfold wp_X6_sumOf at h
  refine x_aload_n dX6_sumOf_0 (n := 1) rfl rfl 0 rfl ?_
  refine x_geti fl_X6_217_0 rfl hB0.1 rfl dX6_sumOf_1 (n := 4) rfl ?_
  refine x_if_le (tgt := 20) dX6_sumOf_4 rfl (n := 7) rfl (fun c1 => ?_) (fun c1 => ?_)
  · have h := h.1 c1
    exact x_sub [0, 1, 2] rfl (xj_X6_sumOf_20 o σ0 Q G hB0 rq σ0 x1 y2 (SH.rf (σ := σ0)) h)
  · have h := h.2 c1
    refine x_aload_n dX6_sumOf_7 (n := 8) rfl rfl 0 rfl ?_
    refine x_iconst dX6_sumOf_8 (n := 9) rfl ic_0 ?_
    refine x_lload_n dX6_sumOf_9 (n := 10) rfl rfl 2 rfl ?_
    refine x_cVim (As := [.int 0, .long y2]) (rest := []) cv_X6_416 ck0 (met_X6_date1 o σ0 0 y2 _ hB0 h) hB0.1 (by decide) rfl rfl rfl dX6_sumOf_10 (n := 13) rfl (fun r4 s2 hs3 h => ?_)
    have hs3t := (SH.rf (σ := σ0)).tr hs3; have hBs2 := hB0.sh hs3t
    refine x_if_eq (tgt := 20) dX6_sumOf_13 rfl (n := 16) rfl (fun c5 => ?_) (fun c5 => ?_)
    · have h := h.1 c5
      exact x_sub [0, 1, 2] rfl (xj_X6_sumOf_20 o σ0 Q G hB0 rq s2 x1 y2 hs3t h)
    · have h := h.2 c5
      refine x_iconst dX6_sumOf_16 (n := 17) rfl ic_1 ?_
      refine x_goto (tgt := 21) dX6_sumOf_17 rfl ?_
      exact x_sub [0, 1, 2] rfl (xj_X6_sumOf_21 o σ0 Q G hB0 rq s2 x1 y2 1 hs3t h)
abbrev rm_X6_feast : Room := { frames := 3, cells := 0, slots := 0, locals := 81 }
def wp_X6_feast (o : Nat) (σ0 : Hp) (x1 : Int32) (y2 : Int64) (Q : Int32 → Hp → Prop) : Prop := ((f_X6_isFeast o (pI σ0 o 2 0) x1) = 0 → Q (-1) (pI σ0 o 2 0)) ∧ (¬ (f_X6_isFeast o (pI σ0 o 2 0) x1) = 0 → ((f_X6_isCount y2) = 0 → Q (-1) (pI σ0 o 2 0)) ∧ (¬ (f_X6_isCount y2) = 0 → wp_X6_sumOf o (pI σ0 o 2 0) x1 y2 (fun r9 s7 => (r9 = 0 → Q 0 s7) ∧ (¬ r9 = 0 → Q 1 s7))))
theorem met_X6_feast (o : Nat) (σ0 : Hp) (x1 : Int32) (y2 : Int64) (Q : Int32 → Hp → Prop) (hB0 : MB o σ0) (h : wp_X6_feast o σ0 x1 y2 Q) : MetX yX6_feast cX6_feast 4 (some .int) rm_X6_feast σ0 [.ref o, .int x1, .long y2] (oI (fun r σ' => SH σ0 σ' ∧ Q r σ')) 0 0 := by
  refine metX_of (own := RX6) (lvs := [(0, .ref o), (1, .int x1), (2, .long y2)]) (by decide) rfl (Nat.le_of_ble_eq_true rfl) rfl (fun G rq => ?_)
  unfold wp_X6_feast at h
  refine x_aload_n dX6_feast_0 (n := 1) rfl rfl 0 rfl ?_
  refine x_iconst dX6_feast_1 (n := 2) rfl ic_0 ?_
  refine x_puti fp_X6_119_0 rfl hB0.1 dX6_feast_2 (n := 5) rfl ?_
  refine x_aload_n dX6_feast_5 (n := 6) rfl rfl 0 rfl ?_
  refine x_iload_n dX6_feast_6 (n := 7) rfl rfl 1 rfl ?_
  refine x_cVip (As := [.int x1]) (rest := []) cv_X6_448 ck0 (met_X6_isFeast o (pI σ0 o 2 0) x1 hB0.i) hB0.i.1 (by decide) rfl rfl rfl dX6_feast_7 (n := 10) rfl (fun r2 q => ?_)
  subst q
  refine x_if_eq (tgt := 20) dX6_feast_10 rfl (n := 13) rfl (fun c3 => ?_) (fun c3 => ?_)
  · have h := h.1 c3
    refine x_iconst dX6_feast_20 (n := 21) rfl ic_m1 ?_
    refine x_goto (tgt := 40) dX6_feast_21 rfl ?_
    exact x_iret rq ⟨(SH.rf (σ := σ0)).i, h⟩ dX6_feast_40
  · have h := h.2 c3
    refine x_lload_n dX6_feast_13 (n := 14) rfl rfl 2 rfl ?_
    refine x_cSip (As := [.long y2]) (rest := []) cs_X6_413 (met_X6_isCount (pI σ0 o 2 0) y2 ) (by decide) rfl rfl rfl dX6_feast_14 (n := 17) rfl (fun r5 q => ?_)
    subst q
    refine x_if_ne (tgt := 24) dX6_feast_17 rfl (n := 20) rfl (fun c6 => ?_) (fun c6 => ?_)
    · have h := h.2 c6
      refine x_aload_n dX6_feast_24 (n := 25) rfl rfl 0 rfl ?_
      refine x_iload_n dX6_feast_25 (n := 26) rfl rfl 1 rfl ?_
      refine x_lload_n dX6_feast_26 (n := 27) rfl rfl 2 rfl ?_
      refine x_cVlm (As := [.int x1, .long y2]) (rest := []) cv_X6_451 ck0 (met_X6_sumOf o (pI σ0 o 2 0) x1 y2 _ hB0.i h) hB0.i.1 (by decide) rfl rfl rfl dX6_feast_27 (n := 30) rfl (fun r9 s7 hs8 h => ?_)
      have hs8t := (SH.rf (σ := σ0)).i.tr hs8; have hBs7 := hB0.sh hs8t
      refine x_lconst dX6_feast_30 (n := 31) rfl lc_0 ?_
      refine x_lcmp_eq (tgt := 39) dX6_feast_31 (pc1 := 32) rfl dX6_feast_32 rfl (n := 35) rfl (fun c10 => ?_) (fun c10 => ?_)
      · have h := h.1 c10
        refine x_iconst dX6_feast_39 (n := 40) rfl ic_0 ?_
        exact x_iret rq ⟨hs8t, h⟩ dX6_feast_40
      · have h := h.2 c10
        refine x_iconst dX6_feast_35 (n := 36) rfl ic_1 ?_
        refine x_goto (tgt := 40) dX6_feast_36 rfl ?_
        exact x_iret rq ⟨hs8t, h⟩ dX6_feast_40
    · have h := h.1 c6
      refine x_iconst dX6_feast_20 (n := 21) rfl ic_m1 ?_
      refine x_goto (tgt := 40) dX6_feast_21 rfl ?_
      exact x_iret rq ⟨(SH.rf (σ := σ0)).i, h⟩ dX6_feast_40
abbrev rm_X6_festiveOf : Room := { frames := 3, cells := 0, slots := 0, locals := 81 }
def lb_X6_festiveOf_3 (o : Nat) (x1 : Int32) (y2 : Int64) (Q : Int64 → Hp → Prop)  (K3 : Int64 × Hp → Prop) (z : Int64 × Hp) : Prop := match z with
  | (y4, σ) => ((y2 + 20000) ≤ y4 → Q (-2) σ) ∧ (¬ (y2 + 20000) ≤ y4 → (1000000000000 < y4 → Q (-2) σ) ∧ (¬ 1000000000000 < y4 → wp_X6_sumOf o σ x1 y4 (fun r5 s3 => (r5 = 0 → K3 (y4 + 1, s3)) ∧ (¬ r5 = 0 → Q y4 s3))))
def wp_X6_festiveOf (o : Nat) (σ0 : Hp) (x1 : Int32) (y2 : Int64) (Q : Int64 → Hp → Prop) : Prop := lp (lb_X6_festiveOf_3 o x1 y2 Q) (y2, σ0)
theorem xl_X6_festiveOf_3 (o : Nat) (σ0 : Hp) (Q : Int64 → Hp → Prop) (G : XE) (hB0 : MB o σ0) (rq : RQ G 0 0 (oL (fun r σ' => SH σ0 σ' ∧ Q r σ'))) (x1 : Int32) (y2 : Int64)    : ∀ z : Int64 × Hp, SH σ0 z.2 → lp (lb_X6_festiveOf_3 o x1 y2 Q ) z → X G rm_X6_festiveOf cX6_festiveOf RX6 6 (some .long) z.2 0 0 3 [(0, .ref o), (1, .int x1), (2, .long y2), (4, .long z.1)] [] := by
  intro z
  refine fun hs h => lp_X (P := fun z => SH σ0 z.2 → X G rm_X6_festiveOf cX6_festiveOf RX6 6 (some .long) z.2 0 0 3 [(0, .ref o), (1, .int x1), (2, .long y2), (4, .long z.1)] []) ?_ h hs
  intro K3 hK3 z h hs
  obtain ⟨y4, σ⟩ := z
  have hs : SH σ0 σ := hs
  have hB := hB0.sh hs
  simp only [lb_X6_festiveOf_3] at h
  show X G rm_X6_festiveOf cX6_festiveOf RX6 6 (some .long) σ 0 0 3 [(0, .ref o), (1, .int x1), (2, .long y2), (4, .long y4)] []
  have hK3 : ∀ z : (Int64 × Hp), SH σ0 z.2 → K3 z → X G rm_X6_festiveOf cX6_festiveOf RX6 6 (some .long) z.2 0 0 3 [(0, .ref o), (1, .int x1), (2, .long y2), (4, .long z.1)] [] := fun z hs h => hK3 z h hs
  refine x_lload dX6_festiveOf_3 (n := 5) rfl 3 rfl ?_
  refine x_lload_n dX6_festiveOf_5 (n := 6) rfl rfl 2 rfl ?_
  refine x_ldc2 dX6_festiveOf_6 (n := 9) rfl q2039 ?_
  refine x_ladd dX6_festiveOf_9 (n := 10) rfl ?_
  refine x_lcmp_ge (tgt := 47) dX6_festiveOf_10 (pc1 := 11) rfl dX6_festiveOf_11 rfl (n := 14) rfl (fun c1 => ?_) (fun c1 => ?_)
  · have h := h.1 c1
    refine x_ldc2 dX6_festiveOf_47 (n := 50) rfl q2040 ?_
    exact x_lret rq ⟨hs, h⟩ dX6_festiveOf_50
  · have h := h.2 c1
    refine x_lload dX6_festiveOf_14 (n := 16) rfl 3 rfl ?_
    refine x_ldc2 dX6_festiveOf_16 (n := 19) rfl q1900 ?_
    refine x_lcmp_gt (tgt := 47) dX6_festiveOf_19 (pc1 := 20) rfl dX6_festiveOf_20 rfl (n := 23) rfl (fun c2 => ?_) (fun c2 => ?_)
    · have h := h.1 c2
      refine x_ldc2 dX6_festiveOf_47 (n := 50) rfl q2040 ?_
      exact x_lret rq ⟨hs, h⟩ dX6_festiveOf_50
    · have h := h.2 c2
      refine x_aload_n dX6_festiveOf_23 (n := 24) rfl rfl 0 rfl ?_
      refine x_iload_n dX6_festiveOf_24 (n := 25) rfl rfl 1 rfl ?_
      refine x_lload dX6_festiveOf_25 (n := 27) rfl 3 rfl ?_
      refine x_cVlm (As := [.int x1, .long y4]) (rest := []) cv_X6_451 ck0 (met_X6_sumOf o σ x1 y4 _ hB h) hB.1 (by decide) rfl rfl rfl dX6_festiveOf_27 (n := 30) rfl (fun r5 s3 hs4 h => ?_)
      have hs4t := hs.tr hs4; have hBs3 := hB0.sh hs4t
      refine x_lconst dX6_festiveOf_30 (n := 31) rfl lc_0 ?_
      refine x_lcmp_eq (tgt := 38) dX6_festiveOf_31 (pc1 := 32) rfl dX6_festiveOf_32 rfl (n := 35) rfl (fun c6 => ?_) (fun c6 => ?_)
      · have h := h.1 c6
        refine x_lload dX6_festiveOf_38 (n := 40) rfl 3 rfl ?_
        refine x_lconst dX6_festiveOf_40 (n := 41) rfl lc_1 ?_
        refine x_ladd dX6_festiveOf_41 (n := 42) rfl ?_
        refine x_lstore (lvs' := [(4, .long (y4 + 1)), (0, .ref o), (1, .int x1), (2, .long y2)]) dX6_festiveOf_42 (n := 44) rfl (by decide) rfl ?_
        refine x_goto (tgt := 3) dX6_festiveOf_44 rfl ?_
        exact x_sub [1, 2, 3, 0] rfl (hK3 (y4 + 1, s3) hs4t h)
      · have h := h.2 c6
        refine x_lload dX6_festiveOf_35 (n := 37) rfl 3 rfl ?_
        exact x_lret rq ⟨hs4t, h⟩ dX6_festiveOf_37
theorem met_X6_festiveOf (o : Nat) (σ0 : Hp) (x1 : Int32) (y2 : Int64) (Q : Int64 → Hp → Prop) (hB0 : MB o σ0) (h : wp_X6_festiveOf o σ0 x1 y2 Q) : MetX yX6_festiveOf cX6_festiveOf 6 (some .long) rm_X6_festiveOf σ0 [.ref o, .int x1, .long y2] (oL (fun r σ' => SH σ0 σ' ∧ Q r σ')) 0 0 := by
  refine metX_of (own := RX6) (lvs := [(0, .ref o), (1, .int x1), (2, .long y2)]) (by decide) rfl (Nat.le_of_ble_eq_true rfl) rfl (fun G rq => ?_)
  unfold wp_X6_festiveOf at h
  refine x_lload_n dX6_festiveOf_0 (n := 1) rfl rfl 2 rfl ?_
  refine x_lstore (lvs' := [(4, .long y2), (0, .ref o), (1, .int x1), (2, .long y2)]) dX6_festiveOf_1 (n := 3) rfl (by decide) rfl ?_
  exact x_sub [1, 2, 3, 0] rfl (xl_X6_festiveOf_3 o σ0 Q G hB0 rq x1 y2 (y2, σ0) (SH.rf (σ := σ0)) h)
abbrev rm_X6_festive : Room := { frames := 4, cells := 0, slots := 0, locals := 106 }
def wp_X6_festive (o : Nat) (σ0 : Hp) (x1 : Int32) (y2 : Int64) (Q : Int64 → Hp → Prop) : Prop := ((f_X6_isFeast o (pI σ0 o 2 0) x1) = 0 → Q (-1) (pI σ0 o 2 0)) ∧ (¬ (f_X6_isFeast o (pI σ0 o 2 0) x1) = 0 → ((f_X6_isCount y2) = 0 → Q (-1) (pI σ0 o 2 0)) ∧ (¬ (f_X6_isCount y2) = 0 → wp_X6_festiveOf o (pI σ0 o 2 0) x1 y2 (fun r9 s7 => Q r9 s7)))
theorem met_X6_festive (o : Nat) (σ0 : Hp) (x1 : Int32) (y2 : Int64) (Q : Int64 → Hp → Prop) (hB0 : MB o σ0) (h : wp_X6_festive o σ0 x1 y2 Q) : MetX yX6_festive cX6_festive 4 (some .long) rm_X6_festive σ0 [.ref o, .int x1, .long y2] (oL (fun r σ' => SH σ0 σ' ∧ Q r σ')) 0 0 := by
  refine metX_of (own := RX6) (lvs := [(0, .ref o), (1, .int x1), (2, .long y2)]) (by decide) rfl (Nat.le_of_ble_eq_true rfl) rfl (fun G rq => ?_)
  unfold wp_X6_festive at h
  refine x_aload_n dX6_festive_0 (n := 1) rfl rfl 0 rfl ?_
  refine x_iconst dX6_festive_1 (n := 2) rfl ic_0 ?_
  refine x_puti fp_X6_119_0 rfl hB0.1 dX6_festive_2 (n := 5) rfl ?_
  refine x_aload_n dX6_festive_5 (n := 6) rfl rfl 0 rfl ?_
  refine x_iload_n dX6_festive_6 (n := 7) rfl rfl 1 rfl ?_
  refine x_cVip (As := [.int x1]) (rest := []) cv_X6_448 ck0 (met_X6_isFeast o (pI σ0 o 2 0) x1 hB0.i) hB0.i.1 (by decide) rfl rfl rfl dX6_festive_7 (n := 10) rfl (fun r2 q => ?_)
  subst q
  refine x_if_eq (tgt := 29) dX6_festive_10 rfl (n := 13) rfl (fun c3 => ?_) (fun c3 => ?_)
  · have h := h.1 c3
    refine x_ldc2 dX6_festive_29 (n := 32) rfl q1880 ?_
    exact x_lret rq ⟨(SH.rf (σ := σ0)).i, h⟩ dX6_festive_32
  · have h := h.2 c3
    refine x_lload_n dX6_festive_13 (n := 14) rfl rfl 2 rfl ?_
    refine x_cSip (As := [.long y2]) (rest := []) cs_X6_413 (met_X6_isCount (pI σ0 o 2 0) y2 ) (by decide) rfl rfl rfl dX6_festive_14 (n := 17) rfl (fun r5 q => ?_)
    subst q
    refine x_if_eq (tgt := 29) dX6_festive_17 rfl (n := 20) rfl (fun c6 => ?_) (fun c6 => ?_)
    · have h := h.1 c6
      refine x_ldc2 dX6_festive_29 (n := 32) rfl q1880 ?_
      exact x_lret rq ⟨(SH.rf (σ := σ0)).i, h⟩ dX6_festive_32
    · have h := h.2 c6
      refine x_aload_n dX6_festive_20 (n := 21) rfl rfl 0 rfl ?_
      refine x_iload_n dX6_festive_21 (n := 22) rfl rfl 1 rfl ?_
      refine x_lload_n dX6_festive_22 (n := 23) rfl rfl 2 rfl ?_
      refine x_cVlm (As := [.int x1, .long y2]) (rest := []) cv_X6_458 ck0 (met_X6_festiveOf o (pI σ0 o 2 0) x1 y2 _ hB0.i h) hB0.i.1 (by decide) rfl rfl rfl dX6_festive_23 (n := 26) rfl (fun r9 s7 hs8 h => ?_)
      have hs8t := (SH.rf (σ := σ0)).i.tr hs8; have hBs7 := hB0.sh hs8t
      refine x_goto (tgt := 32) dX6_festive_26 rfl ?_
      exact x_lret rq ⟨hs8t, h⟩ dX6_festive_32
abbrev rm_X6_rule : Room := { frames := 3, cells := 0, slots := 0, locals := 81 }
def wp_X6_rule (o : Nat) (σ0 : Hp) (x1 : Int32) (y2 : Int64) (Q : Int64 → Hp → Prop) : Prop := ((f_X6_isFeast o (pI σ0 o 2 0) x1) = 0 → Q (-9223372036854775808) (pI σ0 o 2 0)) ∧ (¬ (f_X6_isFeast o (pI σ0 o 2 0) x1) = 0 → ((f_X6_isCount y2) = 0 → Q (-9223372036854775808) (pI σ0 o 2 0)) ∧ (¬ (f_X6_isCount y2) = 0 → wp_X6_sumOf o (pI σ0 o 2 0) x1 y2 (fun r9 s7 => ((gI s7 o 57) = 0 → Q r9 s7) ∧ (¬ (gI s7 o 57) = 0 → Q (-9223372036854775808) s7))))
theorem met_X6_rule (o : Nat) (σ0 : Hp) (x1 : Int32) (y2 : Int64) (Q : Int64 → Hp → Prop) (hB0 : MB o σ0) (h : wp_X6_rule o σ0 x1 y2 Q) : MetX yX6_rule cX6_rule 6 (some .long) rm_X6_rule σ0 [.ref o, .int x1, .long y2] (oL (fun r σ' => SH σ0 σ' ∧ Q r σ')) 0 0 := by
  refine metX_of (own := RX6) (lvs := [(0, .ref o), (1, .int x1), (2, .long y2)]) (by decide) rfl (Nat.le_of_ble_eq_true rfl) rfl (fun G rq => ?_)
  unfold wp_X6_rule at h
  refine x_aload_n dX6_rule_0 (n := 1) rfl rfl 0 rfl ?_
  refine x_iconst dX6_rule_1 (n := 2) rfl ic_0 ?_
  refine x_puti fp_X6_119_0 rfl hB0.1 dX6_rule_2 (n := 5) rfl ?_
  refine x_aload_n dX6_rule_5 (n := 6) rfl rfl 0 rfl ?_
  refine x_iload_n dX6_rule_6 (n := 7) rfl rfl 1 rfl ?_
  refine x_cVip (As := [.int x1]) (rest := []) cv_X6_448 ck0 (met_X6_isFeast o (pI σ0 o 2 0) x1 hB0.i) hB0.i.1 (by decide) rfl rfl rfl dX6_rule_7 (n := 10) rfl (fun r2 q => ?_)
  subst q
  refine x_if_eq (tgt := 20) dX6_rule_10 rfl (n := 13) rfl (fun c3 => ?_) (fun c3 => ?_)
  · have h := h.1 c3
    refine x_ldc2 dX6_rule_20 (n := 23) rfl q2045 ?_
    exact x_lret rq ⟨(SH.rf (σ := σ0)).i, h⟩ dX6_rule_23
  · have h := h.2 c3
    refine x_lload_n dX6_rule_13 (n := 14) rfl rfl 2 rfl ?_
    refine x_cSip (As := [.long y2]) (rest := []) cs_X6_413 (met_X6_isCount (pI σ0 o 2 0) y2 ) (by decide) rfl rfl rfl dX6_rule_14 (n := 17) rfl (fun r5 q => ?_)
    subst q
    refine x_if_ne (tgt := 24) dX6_rule_17 rfl (n := 20) rfl (fun c6 => ?_) (fun c6 => ?_)
    · have h := h.2 c6
      refine x_aload_n dX6_rule_24 (n := 25) rfl rfl 0 rfl ?_
      refine x_iload_n dX6_rule_25 (n := 26) rfl rfl 1 rfl ?_
      refine x_lload_n dX6_rule_26 (n := 27) rfl rfl 2 rfl ?_
      refine x_cVlm (As := [.int x1, .long y2]) (rest := []) cv_X6_451 ck0 (met_X6_sumOf o (pI σ0 o 2 0) x1 y2 _ hB0.i h) hB0.i.1 (by decide) rfl rfl rfl dX6_rule_27 (n := 30) rfl (fun r9 s7 hs8 h => ?_)
      have hs8t := (SH.rf (σ := σ0)).i.tr hs8; have hBs7 := hB0.sh hs8t
      refine x_lstore (lvs' := [(4, .long r9), (0, .ref o), (1, .int x1), (2, .long y2)]) dX6_rule_30 (n := 32) rfl (by decide) rfl ?_
      refine x_aload_n dX6_rule_32 (n := 33) rfl rfl 1 rfl ?_
      refine x_geti fl_X6_428_0 rfl hBs7.1 rfl dX6_rule_33 (n := 36) rfl ?_
      refine x_if_eq (tgt := 45) dX6_rule_36 rfl (n := 39) rfl (fun c10 => ?_) (fun c10 => ?_)
      · have h := h.1 c10
        refine x_lload dX6_rule_45 (n := 47) rfl 0 rfl ?_
        exact x_lret rq ⟨hs8t, h⟩ dX6_rule_47
      · have h := h.2 c10
        refine x_ldc2 dX6_rule_39 (n := 42) rfl q2045 ?_
        refine x_goto (tgt := 47) dX6_rule_42 rfl ?_
        exact x_lret rq ⟨hs8t, h⟩ dX6_rule_47
    · have h := h.1 c6
      refine x_ldc2 dX6_rule_20 (n := 23) rfl q2045 ?_
      exact x_lret rq ⟨(SH.rf (σ := σ0)).i, h⟩ dX6_rule_23
abbrev rm_X6_isPerson : Room := { frames := 0, cells := 0, slots := 0, locals := 0 }
def f_X6_isPerson (o : Nat) (σ : Hp) (x1 : Int32) : Int32 := if x1 < 0 then 0 else if (gI σ o 14) ≤ x1 then 0 else 1
theorem met_X6_isPerson (o : Nat) (σ : Hp) (x1 : Int32) (hB : MB o σ) : MetX yX6_isPerson cX6_isPerson 2 (some .boolean) rm_X6_isPerson σ [.ref o, .int x1] (oI (fun r σ' => σ' = σ ∧ r = (f_X6_isPerson o σ x1))) 0 0 := by
  refine metX_of (own := RX6) (lvs := [(0, .ref o), (1, .int x1)]) (by decide) rfl (Nat.le_of_ble_eq_true rfl) rfl (fun G rq => ?_)
  have hv : (f_X6_isPerson o σ x1) = _ := f_X6_isPerson.eq_1 _ _ _
  refine x_iload_n dX6_isPerson_0 (n := 1) rfl rfl 1 rfl ?_
  refine x_if_lt (tgt := 16) dX6_isPerson_1 rfl (n := 4) rfl (fun c1 => ?_) (fun c1 => ?_)
  · have hv := hv.trans (if_pos c1)
    refine x_iconst dX6_isPerson_16 (n := 17) rfl ic_0 ?_
    exact x_zret rq ⟨rfl, hv.symm⟩ isB0 dX6_isPerson_17
  · have hv := hv.trans (if_neg c1)
    refine x_iload_n dX6_isPerson_4 (n := 5) rfl rfl 1 rfl ?_
    refine x_aload_n dX6_isPerson_5 (n := 6) rfl rfl 0 rfl ?_
    refine x_geti fl_X6_223_0 rfl hB.1 rfl dX6_isPerson_6 (n := 9) rfl ?_
    refine x_icmp_ge (tgt := 16) dX6_isPerson_9 rfl (n := 12) rfl (fun c2 => ?_) (fun c2 => ?_)
    · have hv := hv.trans (if_pos c2)
      refine x_iconst dX6_isPerson_16 (n := 17) rfl ic_0 ?_
      exact x_zret rq ⟨rfl, hv.symm⟩ isB0 dX6_isPerson_17
    · have hv := hv.trans (if_neg c2)
      refine x_iconst dX6_isPerson_12 (n := 13) rfl ic_1 ?_
      refine x_goto (tgt := 17) dX6_isPerson_13 rfl ?_
      exact x_zret rq ⟨rfl, hv.symm⟩ isB1 dX6_isPerson_17
abbrev rm_X6_life : Room := { frames := 1, cells := 0, slots := 0, locals := 21 }
def f_X6_life (o : Nat) (σ0 : Hp) (x1 : Int32) (x2 : Int32) : Int64 × Hp := if (f_X6_isPerson o (pI σ0 o 2 0) x1) = 0 then ((-1), pI σ0 o 2 0) else if x2 = 0 then (gL (pI σ0 o 2 0) (o + 10) x1.toNatClampNeg, pI σ0 o 2 0) else if x2 = 1 then (gL (pI σ0 o 2 0) (o + 11) x1.toNatClampNeg, pI σ0 o 2 0) else ((-1), pI σ0 o 2 0)
def ok_X6_life (o : Nat) (σ0 : Hp) (x1 : Int32) (x2 : Int32) : Prop := ((f_X6_isPerson o (pI σ0 o 2 0) x1) = 0 → True) ∧ (¬ (f_X6_isPerson o (pI σ0 o 2 0) x1) = 0 → ((x2 = 0 → (vp_in x1 12)) ∧ (¬ x2 = 0 → ((x2 = 1 → (vp_in x1 12)) ∧ (¬ x2 = 1 → True)))))
theorem met_X6_life (o : Nat) (σ0 : Hp) (x1 : Int32) (x2 : Int32) (hB0 : MB o σ0) (hk : ok_X6_life o σ0 x1 x2) : MetX yX6_life cX6_life 3 (some .long) rm_X6_life σ0 [.ref o, .int x1, .int x2] (oL (fun r σ' => SH σ0 σ' ∧ (r, σ') = (f_X6_life o σ0 x1 x2))) 0 0 := by
  refine metX_of (own := RX6) (lvs := [(0, .ref o), (1, .int x1), (2, .int x2)]) (by decide) rfl (Nat.le_of_ble_eq_true rfl) rfl (fun G rq => ?_)
  have hv : (f_X6_life o σ0 x1 x2) = _ := f_X6_life.eq_1 _ _ _ _
  unfold ok_X6_life at hk
  refine x_aload_n dX6_life_0 (n := 1) rfl rfl 0 rfl ?_
  refine x_iconst dX6_life_1 (n := 2) rfl ic_0 ?_
  refine x_puti fp_X6_119_0 rfl hB0.1 dX6_life_2 (n := 5) rfl ?_
  refine x_aload_n dX6_life_5 (n := 6) rfl rfl 0 rfl ?_
  refine x_iload_n dX6_life_6 (n := 7) rfl rfl 1 rfl ?_
  refine x_cVip (As := [.int x1]) (rest := []) cv_X6_463 ck0 (met_X6_isPerson o (pI σ0 o 2 0) x1 hB0.i) hB0.i.1 (by decide) rfl rfl rfl dX6_life_7 (n := 10) rfl (fun r2 q => ?_)
  subst q
  refine x_if_ne (tgt := 19) dX6_life_10 rfl (n := 13) rfl (fun c3 => ?_) (fun c3 => ?_)
  · have hk := hk.2 c3
    have hv := hv.trans (if_neg c3)
    refine x_iload_n dX6_life_19 (n := 20) rfl rfl 2 rfl ?_
    refine x_if_ne (tgt := 32) dX6_life_20 rfl (n := 23) rfl (fun c4 => ?_) (fun c4 => ?_)
    · have hk := hk.2 c4
      have hv := hv.trans (if_neg c4)
      refine x_iload_n dX6_life_32 (n := 33) rfl rfl 2 rfl ?_
      refine x_iconst dX6_life_33 (n := 34) rfl ic_1 ?_
      refine x_icmp_ne (tgt := 46) dX6_life_34 rfl (n := 37) rfl (fun c5 => ?_) (fun c5 => ?_)
      · have hk := hk.2 c5
        have hv := hv.trans (if_neg c5)
        refine x_ldc2 dX6_life_46 (n := 49) rfl q1880 ?_
        exact x_lret rq ⟨(SH.rf (σ := σ0)).i, hv.symm⟩ dX6_life_49
      · have hk := hk.1 c5
        have hv := hv.trans (if_pos c5)
        refine x_aload_n dX6_life_37 (n := 38) rfl rfl 0 rfl ?_
        refine x_getr fl_X6_45_0 rfl hB0.i.1 hB0.i.r35 dX6_life_38 (n := 41) rfl ?_
        refine x_iload_n dX6_life_41 (n := 42) rfl rfl 1 rfl ?_
        have b6 := hk
        refine x_lald hB0.i.a35 b6 rfl dX6_life_42 (n := 43) rfl ?_
        refine x_goto (tgt := 49) dX6_life_43 rfl ?_
        exact x_lret rq ⟨(SH.rf (σ := σ0)).i, hv.symm⟩ dX6_life_49
    · have hk := hk.1 c4
      have hv := hv.trans (if_pos c4)
      refine x_aload_n dX6_life_23 (n := 24) rfl rfl 0 rfl ?_
      refine x_getr fl_X6_41_0 rfl hB0.i.1 hB0.i.r34 dX6_life_24 (n := 27) rfl ?_
      refine x_iload_n dX6_life_27 (n := 28) rfl rfl 1 rfl ?_
      have b7 := hk
      refine x_lald hB0.i.a34 b7 rfl dX6_life_28 (n := 29) rfl ?_
      refine x_goto (tgt := 49) dX6_life_29 rfl ?_
      exact x_lret rq ⟨(SH.rf (σ := σ0)).i, hv.symm⟩ dX6_life_49
  · have hk := hk.1 c3
    have hv := hv.trans (if_pos c3)
    refine x_ldc2 dX6_life_13 (n := 16) rfl q1880 ?_
    refine x_goto (tgt := 49) dX6_life_16 rfl ?_
    exact x_lret rq ⟨(SH.rf (σ := σ0)).i, hv.symm⟩ dX6_life_49
abbrev rm_X6_age : Room := { frames := 2, cells := 0, slots := 0, locals := 56 }
def wj_X6_age_178 (o : Nat) (σ : Hp) (y5 : Int64) (y12 : Int64) (Q : Int64 → Hp → Prop)  : Prop := (y12 ≤ y5 → Q 0 σ) ∧ (¬ y12 ≤ y5 → Q (y12 - y5) σ)
def wj_X6_age_176 (o : Nat) (σ : Hp) (y5 : Int64) (w0 : Int64) (Q : Int64 → Hp → Prop)  : Prop := wj_X6_age_178 o σ y5 w0 Q
def wj_X6_age_131 (o : Nat) (σ : Hp) (x4 : Int32) (y5 : Int64) (y7 : Int64) (y9 : Int64) (w0 : Int64) (Q : Int64 → Hp → Prop)  : Prop := (0 ≤ y9 → wj_X6_age_178 o σ y5 w0 Q) ∧ (¬ 0 ≤ y9 → (vp_in (3 * x4) 24) ∧ ((¬ (-y9) = 0) ∧ (∀ v30 : Int64, v30 = ((((gI σ (o + 5) (3 * x4).toNatClampNeg).toInt64) - y7) / (-y9)) + 1 → (v30 ≤ w0 → wj_X6_age_176 o σ y5 v30 Q) ∧ (¬ v30 ≤ w0 → wj_X6_age_176 o σ y5 w0 Q))))
def wp_X6_age (o : Nat) (σ0 : Hp) (x1 : Int32) (y2 : Int64) (x4 : Int32) (Q : Int64 → Hp → Prop) : Prop := ((f_X6_isPerson o (pI σ0 o 2 0) x1) = 0 → Q (-1) (pI σ0 o 2 0)) ∧ (¬ (f_X6_isPerson o (pI σ0 o 2 0) x1) = 0 → ((f_X6_isCount y2) = 0 → Q (-1) (pI σ0 o 2 0)) ∧ (¬ (f_X6_isCount y2) = 0 → ((f_X6_isLand o (pI σ0 o 2 0) x4) = 0 → Q (-1) (pI σ0 o 2 0)) ∧ (¬ (f_X6_isLand o (pI σ0 o 2 0) x4) = 0 → (vp_in x1 12) ∧ ((y2 < (gL (pI σ0 o 2 0) (o + 10) x1.toNatClampNeg) → Q (-1) (pI σ0 o 2 0)) ∧ (¬ y2 < (gL (pI σ0 o 2 0) (o + 10) x1.toNatClampNeg) → (vp_in x1 12) ∧ (wp_X6_date1 o (pI σ0 o 2 0) x4 (gL (pI σ0 o 2 0) (o + 10) x1.toNatClampNeg) (fun r15 s13 => (r15 = 0 → Q (-1) s13) ∧ (¬ r15 = 0 → (vp_in ((3 * x4) + 1) 24) ∧ (∀ v18 : Int64, v18 = (gI s13 (o + 5) ((3 * x4) + 1).toNatClampNeg).toInt64 → wp_X6_date1 o s13 x4 y2 (fun r22 s20 => (r22 = 0 → (ok_X6_endYear o s20 x4) ∧ (wj_X6_age_131 o s20 x4 (gL s13 o 53) (gL s13 o 54) v18 (f_X6_endYear o s20 x4) Q)) ∧ (¬ r22 = 0 → ((gL s20 o 54) < (gL s13 o 54) → wj_X6_age_131 o s20 x4 (gL s13 o 53) (gL s13 o 54) v18 ((gL s20 o 53) - 1) Q) ∧ (¬ (gL s20 o 54) < (gL s13 o 54) → wj_X6_age_131 o s20 x4 (gL s13 o 53) (gL s13 o 54) v18 (gL s20 o 53) Q))))))))))))
theorem xj_X6_age_178 (o : Nat) (σ0 : Hp) (Q : Int64 → Hp → Prop) (G : XE) (hB0 : MB o σ0) (rq : RQ G 0 0 (oL (fun r σ' => SH σ0 σ' ∧ Q r σ'))) (σ : Hp) (y5 : Int64) (y12 : Int64)    (hs : SH σ0 σ) (h : wj_X6_age_178 o σ y5 y12 Q ) : X G rm_X6_age cX6_age RX6 16 (some .long) σ 0 0 178 [(5, .long y5), (12, .long y12)] [] := by
  have hs : SH σ0 σ := hs
  have hB := hB0.sh hs
  unfold wj_X6_age_178 at h
  refine x_lload dX6_age_178 (n := 180) rfl 1 rfl ?_
  refine x_lload dX6_age_180 (n := 182) rfl 0 rfl ?_
  refine x_lcmp_le (tgt := 194) dX6_age_182 (pc1 := 183) rfl dX6_age_183 rfl (n := 186) rfl (fun c33 => ?_) (fun c33 => ?_)
  · have h := h.1 c33
    refine x_lconst dX6_age_194 (n := 195) rfl lc_0 ?_
    exact x_lret rq ⟨hs, h⟩ dX6_age_195
  · have h := h.2 c33
    refine x_lload dX6_age_186 (n := 188) rfl 1 rfl ?_
    refine x_lload dX6_age_188 (n := 190) rfl 0 rfl ?_
    refine x_lsub dX6_age_190 (n := 191) rfl ?_
    refine x_goto (tgt := 195) dX6_age_191 rfl ?_
    exact x_lret rq ⟨hs, h⟩ dX6_age_195
theorem xj_X6_age_176 (o : Nat) (σ0 : Hp) (Q : Int64 → Hp → Prop) (G : XE) (hB0 : MB o σ0) (rq : RQ G 0 0 (oL (fun r σ' => SH σ0 σ' ∧ Q r σ'))) (σ : Hp) (y5 : Int64) (w0 : Int64)    (hs : SH σ0 σ) (h : wj_X6_age_176 o σ y5 w0 Q ) : X G rm_X6_age cX6_age RX6 16 (some .long) σ 0 0 176 [(5, .long y5)] [.long w0] := by
  have hs : SH σ0 σ := hs
  have hB := hB0.sh hs
  unfold wj_X6_age_176 at h
  refine x_lstore (lvs' := [(12, .long w0), (5, .long y5)]) dX6_age_176 (n := 178) rfl (by decide) rfl ?_
  exact x_sub [1, 0] rfl (xj_X6_age_178 o σ0 Q G hB0 rq σ y5 w0 hs h)
theorem xj_X6_age_131 (o : Nat) (σ0 : Hp) (Q : Int64 → Hp → Prop) (G : XE) (hB0 : MB o σ0) (rq : RQ G 0 0 (oL (fun r σ' => SH σ0 σ' ∧ Q r σ'))) (σ : Hp) (x4 : Int32) (y5 : Int64) (y7 : Int64) (y9 : Int64) (w0 : Int64)    (hs : SH σ0 σ) (h : wj_X6_age_131 o σ x4 y5 y7 y9 w0 Q ) : X G rm_X6_age cX6_age RX6 16 (some .long) σ 0 0 131 [(0, .ref o), (4, .int x4), (5, .long y5), (7, .long y7), (9, .long y9)] [.long w0] := by
  have hs : SH σ0 σ := hs
  have hB := hB0.sh hs
  unfold wj_X6_age_131 at h
  refine x_lstore (lvs' := [(12, .long w0), (0, .ref o), (4, .int x4), (5, .long y5), (7, .long y7), (9, .long y9)]) dX6_age_131 (n := 133) rfl (by decide) rfl ?_
  refine x_lload dX6_age_133 (n := 135) rfl 5 rfl ?_
  refine x_lconst dX6_age_135 (n := 136) rfl lc_0 ?_
  refine x_lcmp_ge (tgt := 178) dX6_age_136 (pc1 := 137) rfl dX6_age_137 rfl (n := 140) rfl (fun c27 => ?_) (fun c27 => ?_)
  · have h := h.1 c27
    exact x_sub [3, 0] rfl (xj_X6_age_178 o σ0 Q G hB0 rq σ y5 w0 hs h)
  · have h := h.2 c27
    refine x_aload_n dX6_age_140 (n := 141) rfl rfl 1 rfl ?_
    refine x_getr fl_X6_26_0 rfl hB.1 hB.r29 dX6_age_141 (n := 144) rfl ?_
    refine x_iconst dX6_age_144 (n := 145) rfl ic_3 ?_
    refine x_iload dX6_age_145 (n := 147) rfl 2 rfl ?_
    refine x_imul dX6_age_147 (n := 148) rfl ?_
    obtain ⟨b28, h⟩ := h
    refine x_iald hB.a29 b28 rfl dX6_age_148 (n := 149) rfl ?_
    refine x_i2l dX6_age_149 (n := 150) rfl ?_
    refine x_lload dX6_age_150 (n := 152) rfl 4 rfl ?_
    refine x_lsub dX6_age_152 (n := 153) rfl ?_
    refine x_lload dX6_age_153 (n := 155) rfl 5 rfl ?_
    refine x_lneg dX6_age_155 (n := 156) rfl ?_
    obtain ⟨b29, h⟩ := h
    refine x_ldiv dX6_age_156 (n := 157) rfl b29 ?_
    refine x_lconst dX6_age_157 (n := 158) rfl lc_1 ?_
    refine x_ladd dX6_age_158 (n := 159) rfl ?_
    refine x_topl (fun v30 e31 => ?_)
    have h := h v30 e31
    refine x_lstore (lvs' := [(14, .long v30), (12, .long w0), (0, .ref o), (4, .int x4), (5, .long y5), (7, .long y7), (9, .long y9)]) dX6_age_159 (n := 161) rfl (by decide) rfl ?_
    refine x_lload dX6_age_161 (n := 163) rfl 1 rfl ?_
    refine x_lload dX6_age_163 (n := 165) rfl 0 rfl ?_
    refine x_lcmp_ge (tgt := 174) dX6_age_165 (pc1 := 166) rfl dX6_age_166 rfl (n := 169) rfl (fun c32 => ?_) (fun c32 => ?_)
    · have h := h.1 c32
      refine x_lload dX6_age_174 (n := 176) rfl 0 rfl ?_
      exact x_sub [4] rfl (xj_X6_age_176 o σ0 Q G hB0 rq σ y5 v30 hs h)
    · have h := h.2 c32
      refine x_lload dX6_age_169 (n := 171) rfl 1 rfl ?_
      refine x_goto (tgt := 176) dX6_age_171 rfl ?_
      exact x_sub [4] rfl (xj_X6_age_176 o σ0 Q G hB0 rq σ y5 w0 hs h)
theorem met_X6_age (o : Nat) (σ0 : Hp) (x1 : Int32) (y2 : Int64) (x4 : Int32) (Q : Int64 → Hp → Prop) (hB0 : MB o σ0) (h : wp_X6_age o σ0 x1 y2 x4 Q) : MetX yX6_age cX6_age 16 (some .long) rm_X6_age σ0 [.ref o, .int x1, .long y2, .int x4] (oL (fun r σ' => SH σ0 σ' ∧ Q r σ')) 0 0 := by
  refine metX_of (own := RX6) (lvs := [(0, .ref o), (1, .int x1), (2, .long y2), (4, .int x4)]) (by decide) rfl (Nat.le_of_ble_eq_true rfl) rfl (fun G rq => ?_)
  unfold wp_X6_age at h
  refine x_aload_n dX6_age_0 (n := 1) rfl rfl 0 rfl ?_
  refine x_iconst dX6_age_1 (n := 2) rfl ic_0 ?_
  refine x_puti fp_X6_119_0 rfl hB0.1 dX6_age_2 (n := 5) rfl ?_
  refine x_aload_n dX6_age_5 (n := 6) rfl rfl 0 rfl ?_
  refine x_iload_n dX6_age_6 (n := 7) rfl rfl 1 rfl ?_
  refine x_cVip (As := [.int x1]) (rest := []) cv_X6_463 ck0 (met_X6_isPerson o (pI σ0 o 2 0) x1 hB0.i) hB0.i.1 (by decide) rfl rfl rfl dX6_age_7 (n := 10) rfl (fun r2 q => ?_)
  subst q
  refine x_if_eq (tgt := 55) dX6_age_10 rfl (n := 13) rfl (fun c3 => ?_) (fun c3 => ?_)
  · have h := h.1 c3
    refine x_ldc2 dX6_age_55 (n := 58) rfl q1880 ?_
    exact x_lret rq ⟨(SH.rf (σ := σ0)).i, h⟩ dX6_age_58
  · have h := h.2 c3
    refine x_lload_n dX6_age_13 (n := 14) rfl rfl 2 rfl ?_
    refine x_cSip (As := [.long y2]) (rest := []) cs_X6_413 (met_X6_isCount (pI σ0 o 2 0) y2 ) (by decide) rfl rfl rfl dX6_age_14 (n := 17) rfl (fun r5 q => ?_)
    subst q
    refine x_if_eq (tgt := 55) dX6_age_17 rfl (n := 20) rfl (fun c6 => ?_) (fun c6 => ?_)
    · have h := h.1 c6
      refine x_ldc2 dX6_age_55 (n := 58) rfl q1880 ?_
      exact x_lret rq ⟨(SH.rf (σ := σ0)).i, h⟩ dX6_age_58
    · have h := h.2 c6
      refine x_aload_n dX6_age_20 (n := 21) rfl rfl 0 rfl ?_
      refine x_iload dX6_age_21 (n := 23) rfl 3 rfl ?_
      refine x_cVip (As := [.int x4]) (rest := []) cv_X6_404 ck0 (met_X6_isLand o (pI σ0 o 2 0) x4 hB0.i) hB0.i.1 (by decide) rfl rfl rfl dX6_age_23 (n := 26) rfl (fun r8 q => ?_)
      subst q
      refine x_if_eq (tgt := 55) dX6_age_26 rfl (n := 29) rfl (fun c9 => ?_) (fun c9 => ?_)
      · have h := h.1 c9
        refine x_ldc2 dX6_age_55 (n := 58) rfl q1880 ?_
        exact x_lret rq ⟨(SH.rf (σ := σ0)).i, h⟩ dX6_age_58
      · have h := h.2 c9
        refine x_lload_n dX6_age_29 (n := 30) rfl rfl 2 rfl ?_
        refine x_aload_n dX6_age_30 (n := 31) rfl rfl 0 rfl ?_
        refine x_getr fl_X6_41_0 rfl hB0.i.1 hB0.i.r34 dX6_age_31 (n := 34) rfl ?_
        refine x_iload_n dX6_age_34 (n := 35) rfl rfl 1 rfl ?_
        obtain ⟨b10, h⟩ := h
        refine x_lald hB0.i.a34 b10 rfl dX6_age_35 (n := 36) rfl ?_
        refine x_lcmp_lt (tgt := 55) dX6_age_36 (pc1 := 37) rfl dX6_age_37 rfl (n := 40) rfl (fun c11 => ?_) (fun c11 => ?_)
        · have h := h.1 c11
          refine x_ldc2 dX6_age_55 (n := 58) rfl q1880 ?_
          exact x_lret rq ⟨(SH.rf (σ := σ0)).i, h⟩ dX6_age_58
        · have h := h.2 c11
          refine x_aload_n dX6_age_40 (n := 41) rfl rfl 0 rfl ?_
          refine x_iload dX6_age_41 (n := 43) rfl 3 rfl ?_
          refine x_aload_n dX6_age_43 (n := 44) rfl rfl 0 rfl ?_
          refine x_getr fl_X6_41_0 rfl hB0.i.1 hB0.i.r34 dX6_age_44 (n := 47) rfl ?_
          refine x_iload_n dX6_age_47 (n := 48) rfl rfl 1 rfl ?_
          obtain ⟨b12, h⟩ := h
          refine x_lald hB0.i.a34 b12 rfl dX6_age_48 (n := 49) rfl ?_
          refine x_cVim (As := [.int x4, .long (gL (pI σ0 o 2 0) (o + 10) x1.toNatClampNeg)]) (rest := []) cv_X6_416 ck0 (met_X6_date1 o (pI σ0 o 2 0) x4 (gL (pI σ0 o 2 0) (o + 10) x1.toNatClampNeg) _ hB0.i h) hB0.i.1 (by decide) rfl rfl rfl dX6_age_49 (n := 52) rfl (fun r15 s13 hs14 h => ?_)
          have hs14t := (SH.rf (σ := σ0)).i.tr hs14; have hBs13 := hB0.sh hs14t
          refine x_if_ne (tgt := 59) dX6_age_52 rfl (n := 55) rfl (fun c16 => ?_) (fun c16 => ?_)
          · have h := h.2 c16
            refine x_aload_n dX6_age_59 (n := 60) rfl rfl 0 rfl ?_
            refine x_getl fl_X6_396_0 rfl hBs13.1 rfl dX6_age_60 (n := 63) rfl ?_
            refine x_lstore (lvs' := [(5, .long (gL s13 o 53)), (0, .ref o), (1, .int x1), (2, .long y2), (4, .int x4)]) dX6_age_63 (n := 65) rfl (by decide) rfl ?_
            refine x_aload_n dX6_age_65 (n := 66) rfl rfl 1 rfl ?_
            refine x_getl fl_X6_399_0 rfl hBs13.1 rfl dX6_age_66 (n := 69) rfl ?_
            refine x_lstore (lvs' := [(7, .long (gL s13 o 54)), (5, .long (gL s13 o 53)), (0, .ref o), (1, .int x1), (2, .long y2), (4, .int x4)]) dX6_age_69 (n := 71) rfl (by decide) rfl ?_
            refine x_aload_n dX6_age_71 (n := 72) rfl rfl 2 rfl ?_
            refine x_getr fl_X6_26_0 rfl hBs13.1 hBs13.r29 dX6_age_72 (n := 75) rfl ?_
            refine x_iconst dX6_age_75 (n := 76) rfl ic_3 ?_
            refine x_iload dX6_age_76 (n := 78) rfl 5 rfl ?_
            refine x_imul dX6_age_78 (n := 79) rfl ?_
            refine x_iconst dX6_age_79 (n := 80) rfl ic_1 ?_
            refine x_iadd dX6_age_80 (n := 81) rfl ?_
            obtain ⟨b17, h⟩ := h
            refine x_iald hBs13.a29 b17 rfl dX6_age_81 (n := 82) rfl ?_
            refine x_i2l dX6_age_82 (n := 83) rfl ?_
            refine x_topl (fun v18 e19 => ?_)
            have h := h v18 e19
            refine x_lstore (lvs' := [(9, .long v18), (7, .long (gL s13 o 54)), (5, .long (gL s13 o 53)), (0, .ref o), (1, .int x1), (2, .long y2), (4, .int x4)]) dX6_age_83 (n := 85) rfl (by decide) rfl ?_
            refine x_aload_n dX6_age_85 (n := 86) rfl rfl 3 rfl ?_
            refine x_iload dX6_age_86 (n := 88) rfl 6 rfl ?_
            refine x_lload_n dX6_age_88 (n := 89) rfl rfl 5 rfl ?_
            refine x_cVim (As := [.int x4, .long y2]) (rest := []) cv_X6_416 ck0 (met_X6_date1 o s13 x4 y2 _ hBs13 h) hBs13.1 (by decide) rfl rfl rfl dX6_age_89 (n := 92) rfl (fun r22 s20 hs21 h => ?_)
            have hs21t := hs14t.tr hs21; have hBs20 := hB0.sh hs21t
            refine x_istore (lvs' := [(11, .int r22), (9, .long v18), (7, .long (gL s13 o 54)), (5, .long (gL s13 o 53)), (0, .ref o), (1, .int x1), (2, .long y2), (4, .int x4)]) dX6_age_92 (n := 94) rfl (by decide) rfl ?_
            refine x_iload dX6_age_94 (n := 96) rfl 0 rfl ?_
            refine x_if_eq (tgt := 125) dX6_age_96 rfl (n := 99) rfl (fun c23 => ?_) (fun c23 => ?_)
            · have h := h.1 c23
              refine x_aload_n dX6_age_125 (n := 126) rfl rfl 4 rfl ?_
              refine x_iload dX6_age_126 (n := 128) rfl 7 rfl ?_
              obtain ⟨b24, h⟩ := h
              refine x_cVlp (As := [.int x4]) (rest := []) cv_X6_392 ck0 (met_X6_endYear o s20 x4 hBs20 b24) hBs20.1 (by decide) rfl rfl rfl dX6_age_128 (n := 131) rfl (fun r25 q => ?_)
              subst q
              exact x_sub [4, 7, 3, 2, 1] rfl (xj_X6_age_131 o σ0 Q G hB0 rq s20 x4 (gL s13 o 53) (gL s13 o 54) v18 (f_X6_endYear o s20 x4) hs21t h)
            · have h := h.2 c23
              refine x_aload_n dX6_age_99 (n := 100) rfl rfl 4 rfl ?_
              refine x_getl fl_X6_399_0 rfl hBs20.1 rfl dX6_age_100 (n := 103) rfl ?_
              refine x_lload dX6_age_103 (n := 105) rfl 2 rfl ?_
              refine x_lcmp_lt (tgt := 116) dX6_age_105 (pc1 := 106) rfl dX6_age_106 rfl (n := 109) rfl (fun c26 => ?_) (fun c26 => ?_)
              · have h := h.1 c26
                refine x_aload_n dX6_age_116 (n := 117) rfl rfl 4 rfl ?_
                refine x_getl fl_X6_396_0 rfl hBs20.1 rfl dX6_age_117 (n := 120) rfl ?_
                refine x_lconst dX6_age_120 (n := 121) rfl lc_1 ?_
                refine x_lsub dX6_age_121 (n := 122) rfl ?_
                refine x_goto (tgt := 131) dX6_age_122 rfl ?_
                exact x_sub [4, 7, 3, 2, 1] rfl (xj_X6_age_131 o σ0 Q G hB0 rq s20 x4 (gL s13 o 53) (gL s13 o 54) v18 ((gL s20 o 53) - 1) hs21t h)
              · have h := h.2 c26
                refine x_aload_n dX6_age_109 (n := 110) rfl rfl 4 rfl ?_
                refine x_getl fl_X6_396_0 rfl hBs20.1 rfl dX6_age_110 (n := 113) rfl ?_
                refine x_goto (tgt := 131) dX6_age_113 rfl ?_
                exact x_sub [4, 7, 3, 2, 1] rfl (xj_X6_age_131 o σ0 Q G hB0 rq s20 x4 (gL s13 o 53) (gL s13 o 54) v18 (gL s20 o 53) hs21t h)
          · have h := h.1 c16
            refine x_ldc2 dX6_age_55 (n := 58) rfl q1880 ?_
            exact x_lret rq ⟨hs14t, h⟩ dX6_age_58
abbrev rm_X6_elder : Room := { frames := 1, cells := 0, slots := 0, locals := 21 }
def f_X6_elder (o : Nat) (σ0 : Hp) (x1 : Int32) (x2 : Int32) : Int32 × Hp := if (f_X6_isPerson o (pI σ0 o 2 0) x1) = 0 then ((-1), pI σ0 o 2 0) else if (f_X6_isPerson o (pI σ0 o 2 0) x2) = 0 then ((-1), pI σ0 o 2 0) else if (gL (pI σ0 o 2 0) (o + 10) x1.toNatClampNeg) ≤ (gL (pI σ0 o 2 0) (o + 10) x2.toNatClampNeg) then (x1, pI σ0 o 2 0) else (x2, pI σ0 o 2 0)
def ok_X6_elder (o : Nat) (σ0 : Hp) (x1 : Int32) (x2 : Int32) : Prop := ((f_X6_isPerson o (pI σ0 o 2 0) x1) = 0 → True) ∧ (¬ (f_X6_isPerson o (pI σ0 o 2 0) x1) = 0 → (((f_X6_isPerson o (pI σ0 o 2 0) x2) = 0 → True) ∧ (¬ (f_X6_isPerson o (pI σ0 o 2 0) x2) = 0 → ((vp_in x2 12) ∧ (vp_in x1 12)))))
theorem met_X6_elder (o : Nat) (σ0 : Hp) (x1 : Int32) (x2 : Int32) (hB0 : MB o σ0) (hk : ok_X6_elder o σ0 x1 x2) : MetX yX6_elder cX6_elder 3 (some .int) rm_X6_elder σ0 [.ref o, .int x1, .int x2] (oI (fun r σ' => SH σ0 σ' ∧ (r, σ') = (f_X6_elder o σ0 x1 x2))) 0 0 := by
  refine metX_of (own := RX6) (lvs := [(0, .ref o), (1, .int x1), (2, .int x2)]) (by decide) rfl (Nat.le_of_ble_eq_true rfl) rfl (fun G rq => ?_)
  have hv : (f_X6_elder o σ0 x1 x2) = _ := f_X6_elder.eq_1 _ _ _ _
  unfold ok_X6_elder at hk
  refine x_aload_n dX6_elder_0 (n := 1) rfl rfl 0 rfl ?_
  refine x_iconst dX6_elder_1 (n := 2) rfl ic_0 ?_
  refine x_puti fp_X6_119_0 rfl hB0.1 dX6_elder_2 (n := 5) rfl ?_
  refine x_aload_n dX6_elder_5 (n := 6) rfl rfl 0 rfl ?_
  refine x_iload_n dX6_elder_6 (n := 7) rfl rfl 1 rfl ?_
  refine x_cVip (As := [.int x1]) (rest := []) cv_X6_463 ck0 (met_X6_isPerson o (pI σ0 o 2 0) x1 hB0.i) hB0.i.1 (by decide) rfl rfl rfl dX6_elder_7 (n := 10) rfl (fun r2 q => ?_)
  subst q
  refine x_if_eq (tgt := 21) dX6_elder_10 rfl (n := 13) rfl (fun c3 => ?_) (fun c3 => ?_)
  · have hk := hk.1 c3
    have hv := hv.trans (if_pos c3)
    refine x_iconst dX6_elder_21 (n := 22) rfl ic_m1 ?_
    refine x_goto (tgt := 46) dX6_elder_22 rfl ?_
    exact x_iret rq ⟨(SH.rf (σ := σ0)).i, hv.symm⟩ dX6_elder_46
  · have hk := hk.2 c3
    have hv := hv.trans (if_neg c3)
    refine x_aload_n dX6_elder_13 (n := 14) rfl rfl 0 rfl ?_
    refine x_iload_n dX6_elder_14 (n := 15) rfl rfl 2 rfl ?_
    refine x_cVip (As := [.int x2]) (rest := []) cv_X6_463 ck0 (met_X6_isPerson o (pI σ0 o 2 0) x2 hB0.i) hB0.i.1 (by decide) rfl rfl rfl dX6_elder_15 (n := 18) rfl (fun r5 q => ?_)
    subst q
    refine x_if_ne (tgt := 25) dX6_elder_18 rfl (n := 21) rfl (fun c6 => ?_) (fun c6 => ?_)
    · have hk := hk.2 c6
      have hv := hv.trans (if_neg c6)
      refine x_aload_n dX6_elder_25 (n := 26) rfl rfl 0 rfl ?_
      refine x_getr fl_X6_41_0 rfl hB0.i.1 hB0.i.r34 dX6_elder_26 (n := 29) rfl ?_
      refine x_iload_n dX6_elder_29 (n := 30) rfl rfl 2 rfl ?_
      obtain ⟨b7, hk⟩ := hk
      refine x_lald hB0.i.a34 b7 rfl dX6_elder_30 (n := 31) rfl ?_
      refine x_aload_n dX6_elder_31 (n := 32) rfl rfl 0 rfl ?_
      refine x_getr fl_X6_41_0 rfl hB0.i.1 hB0.i.r34 dX6_elder_32 (n := 35) rfl ?_
      refine x_iload_n dX6_elder_35 (n := 36) rfl rfl 1 rfl ?_
      have b8 := hk
      refine x_lald hB0.i.a34 b8 rfl dX6_elder_36 (n := 37) rfl ?_
      refine x_lcmp_ge (tgt := 45) dX6_elder_37 (pc1 := 38) rfl dX6_elder_38 rfl (n := 41) rfl (fun c9 => ?_) (fun c9 => ?_)
      · have hv := hv.trans (if_pos c9)
        refine x_iload_n dX6_elder_45 (n := 46) rfl rfl 1 rfl ?_
        exact x_iret rq ⟨(SH.rf (σ := σ0)).i, hv.symm⟩ dX6_elder_46
      · have hv := hv.trans (if_neg c9)
        refine x_iload_n dX6_elder_41 (n := 42) rfl rfl 2 rfl ?_
        refine x_goto (tgt := 46) dX6_elder_42 rfl ?_
        exact x_iret rq ⟨(SH.rf (σ := σ0)).i, hv.symm⟩ dX6_elder_46
    · have hk := hk.1 c6
      have hv := hv.trans (if_pos c6)
      refine x_iconst dX6_elder_21 (n := 22) rfl ic_m1 ?_
      refine x_goto (tgt := 46) dX6_elder_22 rfl ?_
      exact x_iret rq ⟨(SH.rf (σ := σ0)).i, hv.symm⟩ dX6_elder_46
abbrev rm_X6_often : Room := { frames := 1, cells := 0, slots := 0, locals := 21 }
def fj_X6_often_185 (o : Nat) (σ : Hp) (y10 : Int64) (y12 : Int64) : Int64 × Hp := if y10 ≤ y12 then ((y12 - y10) + 1, σ) else (0, σ)
def fj_X6_often_183 (o : Nat) (σ : Hp) (y10 : Int64) (w0 : Int64) : Int64 × Hp := fj_X6_often_185 o σ y10 w0
def fj_X6_often_138 (o : Nat) (σ : Hp) (y4 : Int64) (y6 : Int64) (y8 : Int64) (y10 : Int64) (y12 : Int64) : Int64 × Hp := if 0 ≤ y8 then fj_X6_often_185 o σ y10 y12 else if y4 ≤ y6 then if (((y6 - y4) / (-y8)) + 1) ≤ y12 then fj_X6_often_183 o σ y10 (((y6 - y4) / (-y8)) + 1) else fj_X6_often_183 o σ y10 y12 else (0, σ)
def oj_X6_often_138 (o : Nat) (σ : Hp) (y4 : Int64) (y6 : Int64) (y8 : Int64) (y10 : Int64) (y12 : Int64) : Prop := (0 ≤ y8 → True) ∧ (¬ 0 ≤ y8 → ((y4 ≤ y6 → (¬ (-y8) = 0)) ∧ (¬ y4 ≤ y6 → True)))
def fj_X6_often_136 (o : Nat) (σ : Hp) (y4 : Int64) (y6 : Int64) (y8 : Int64) (y12 : Int64) (w0 : Int64) : Int64 × Hp := fj_X6_often_138 o σ y4 y6 y8 w0 y12
def oj_X6_often_136 (o : Nat) (σ : Hp) (y4 : Int64) (y6 : Int64) (y8 : Int64) (y12 : Int64) (w0 : Int64) : Prop := oj_X6_often_138 o σ y4 y6 y8 w0 y12
def fj_X6_often_90 (o : Nat) (σ : Hp) (y4 : Int64) (y6 : Int64) (y8 : Int64) (y10 : Int64) (y12 : Int64) : Int64 × Hp := if y8 ≤ 0 then fj_X6_often_138 o σ y4 y6 y8 y10 y12 else if y4 ≤ y6 then fj_X6_often_138 o σ y4 y6 y8 y10 y12 else if y10 ≤ ((((y4 - y6) - 1) / y8) + 2) then fj_X6_often_136 o σ y4 y6 y8 y12 ((((y4 - y6) - 1) / y8) + 2) else fj_X6_often_136 o σ y4 y6 y8 y12 y10
def oj_X6_often_90 (o : Nat) (σ : Hp) (y4 : Int64) (y6 : Int64) (y8 : Int64) (y10 : Int64) (y12 : Int64) : Prop := (y8 ≤ 0 → (oj_X6_often_138 o σ y4 y6 y8 y10 y12)) ∧ (¬ y8 ≤ 0 → ((y4 ≤ y6 → (oj_X6_often_138 o σ y4 y6 y8 y10 y12)) ∧ (¬ y4 ≤ y6 → ((¬ y8 = 0) ∧ ((y10 ≤ ((((y4 - y6) - 1) / y8) + 2) → (oj_X6_often_136 o σ y4 y6 y8 y12 ((((y4 - y6) - 1) / y8) + 2))) ∧ (¬ y10 ≤ ((((y4 - y6) - 1) / y8) + 2) → (oj_X6_often_136 o σ y4 y6 y8 y12 y10)))))))
def f_X6_often (o : Nat) (σ0 : Hp) (x1 : Int32) (x2 : Int32) (x3 : Int32) (y4 : Int64) : Int64 × Hp := if (f_X6_isLand o (pI σ0 o 2 0) x1) = 0 then ((-1), pI σ0 o 2 0) else if x2 < 1 then ((-1), pI σ0 o 2 0) else if 1000000000 < x3 then ((-1), pI σ0 o 2 0) else if x3 < x2 then ((-1), pI σ0 o 2 0) else if 1 ≤ y4 then if ((gI (pI σ0 o 2 0) (o + 5) ((3 * x1) + 1).toNatClampNeg).toInt64) = 0 then if y4 ≤ ((gI (pI σ0 o 2 0) (o + 5) (3 * x1).toNatClampNeg).toInt64) then fj_X6_often_90 o (pI σ0 o 2 0) y4 ((gI (pI σ0 o 2 0) (o + 5) (3 * x1).toNatClampNeg).toInt64) ((gI (pI σ0 o 2 0) (o + 5) ((3 * x1) + 1).toNatClampNeg).toInt64) x2.toInt64 x3.toInt64 else (0, pI σ0 o 2 0) else fj_X6_often_90 o (pI σ0 o 2 0) y4 ((gI (pI σ0 o 2 0) (o + 5) (3 * x1).toNatClampNeg).toInt64) ((gI (pI σ0 o 2 0) (o + 5) ((3 * x1) + 1).toNatClampNeg).toInt64) x2.toInt64 x3.toInt64 else ((-1), pI σ0 o 2 0)
def ok_X6_often (o : Nat) (σ0 : Hp) (x1 : Int32) (x2 : Int32) (x3 : Int32) (y4 : Int64) : Prop := ((f_X6_isLand o (pI σ0 o 2 0) x1) = 0 → True) ∧ (¬ (f_X6_isLand o (pI σ0 o 2 0) x1) = 0 → ((x2 < 1 → True) ∧ (¬ x2 < 1 → ((1000000000 < x3 → True) ∧ (¬ 1000000000 < x3 → ((x3 < x2 → True) ∧ (¬ x3 < x2 → ((1 ≤ y4 → ((vp_in (3 * x1) 24) ∧ ((vp_in ((3 * x1) + 1) 24) ∧ ((((gI (pI σ0 o 2 0) (o + 5) ((3 * x1) + 1).toNatClampNeg).toInt64) = 0 → ((y4 ≤ ((gI (pI σ0 o 2 0) (o + 5) (3 * x1).toNatClampNeg).toInt64) → (oj_X6_often_90 o (pI σ0 o 2 0) y4 ((gI (pI σ0 o 2 0) (o + 5) (3 * x1).toNatClampNeg).toInt64) ((gI (pI σ0 o 2 0) (o + 5) ((3 * x1) + 1).toNatClampNeg).toInt64) x2.toInt64 x3.toInt64)) ∧ (¬ y4 ≤ ((gI (pI σ0 o 2 0) (o + 5) (3 * x1).toNatClampNeg).toInt64) → True))) ∧ (¬ ((gI (pI σ0 o 2 0) (o + 5) ((3 * x1) + 1).toNatClampNeg).toInt64) = 0 → (oj_X6_often_90 o (pI σ0 o 2 0) y4 ((gI (pI σ0 o 2 0) (o + 5) (3 * x1).toNatClampNeg).toInt64) ((gI (pI σ0 o 2 0) (o + 5) ((3 * x1) + 1).toNatClampNeg).toInt64) x2.toInt64 x3.toInt64)))))) ∧ (¬ 1 ≤ y4 → True)))))))))
theorem xj_X6_often_185 (o : Nat) (σ0 : Hp) (G : XE) (hB0 : MB o σ0) (σ : Hp) (y10 : Int64) (y12 : Int64)  (hs : SH σ0 σ) (V : Int64 × Hp) (hv : V = fj_X6_often_185 o σ y10 y12) (rq : RQ G 0 0 (oL (fun r σ' => SH σ0 σ' ∧ (r, σ') = V)))  : X G rm_X6_often cX6_often RX6 16 (some .long) σ 0 0 185 [(10, .long y10), (12, .long y12)] [] := by
  have hB := hB0.sh hs
  unfold fj_X6_often_185 at hv
  refine x_lload dX6_often_185 (n := 187) rfl 1 rfl ?_
  refine x_lload dX6_often_187 (n := 189) rfl 0 rfl ?_
  refine x_lcmp_ge (tgt := 197) dX6_often_189 (pc1 := 190) rfl dX6_often_190 rfl (n := 193) rfl (fun c13 => ?_) (fun c13 => ?_)
  · have hv := hv.trans (if_pos c13)
    refine x_lload dX6_often_197 (n := 199) rfl 1 rfl ?_
    refine x_lload dX6_often_199 (n := 201) rfl 0 rfl ?_
    refine x_lsub dX6_often_201 (n := 202) rfl ?_
    refine x_lconst dX6_often_202 (n := 203) rfl lc_1 ?_
    refine x_ladd dX6_often_203 (n := 204) rfl ?_
    exact x_lret rq ⟨hs, hv.symm⟩ dX6_often_204
  · have hv := hv.trans (if_neg c13)
    refine x_lconst dX6_often_193 (n := 194) rfl lc_0 ?_
    refine x_goto (tgt := 204) dX6_often_194 rfl ?_
    exact x_lret rq ⟨hs, hv.symm⟩ dX6_often_204
theorem xj_X6_often_183 (o : Nat) (σ0 : Hp) (G : XE) (hB0 : MB o σ0) (σ : Hp) (y10 : Int64) (w0 : Int64)  (hs : SH σ0 σ) (V : Int64 × Hp) (hv : V = fj_X6_often_183 o σ y10 w0) (rq : RQ G 0 0 (oL (fun r σ' => SH σ0 σ' ∧ (r, σ') = V)))  : X G rm_X6_often cX6_often RX6 16 (some .long) σ 0 0 183 [(10, .long y10)] [.long w0] := by
  have hB := hB0.sh hs
  unfold fj_X6_often_183 at hv
  refine x_lstore (lvs' := [(12, .long w0), (10, .long y10)]) dX6_often_183 (n := 185) rfl (by decide) rfl ?_
  exact x_sub [1, 0] rfl (xj_X6_often_185 o σ0 G hB0 σ y10 w0 hs _ hv rq)
theorem xj_X6_often_138 (o : Nat) (σ0 : Hp) (G : XE) (hB0 : MB o σ0) (σ : Hp) (y4 : Int64) (y6 : Int64) (y8 : Int64) (y10 : Int64) (y12 : Int64)  (hs : SH σ0 σ) (V : Int64 × Hp) (hv : V = fj_X6_often_138 o σ y4 y6 y8 y10 y12) (rq : RQ G 0 0 (oL (fun r σ' => SH σ0 σ' ∧ (r, σ') = V))) (hk : oj_X6_often_138 o σ y4 y6 y8 y10 y12) : X G rm_X6_often cX6_often RX6 16 (some .long) σ 0 0 138 [(4, .long y4), (6, .long y6), (8, .long y8), (10, .long y10), (12, .long y12)] [] := by
  have hB := hB0.sh hs
  unfold fj_X6_often_138 at hv
  unfold oj_X6_often_138 at hk
  refine x_lload dX6_often_138 (n := 140) rfl 2 rfl ?_
  refine x_lconst dX6_often_140 (n := 141) rfl lc_0 ?_
  refine x_lcmp_ge (tgt := 185) dX6_often_141 (pc1 := 142) rfl dX6_often_142 rfl (n := 145) rfl (fun c12 => ?_) (fun c12 => ?_)
  · have hk := hk.1 c12
    have hv := hv.trans (if_pos c12)
    exact x_sub [3, 4] rfl (xj_X6_often_185 o σ0 G hB0 σ y10 y12 hs _ hv rq)
  · have hk := hk.2 c12
    have hv := hv.trans (if_neg c12)
    refine x_lload dX6_often_145 (n := 147) rfl 1 rfl ?_
    refine x_lload dX6_often_147 (n := 149) rfl 0 rfl ?_
    refine x_lcmp_ge (tgt := 155) dX6_often_149 (pc1 := 150) rfl dX6_often_150 rfl (n := 153) rfl (fun c14 => ?_) (fun c14 => ?_)
    · have hk := hk.1 c14
      have hv := hv.trans (if_pos c14)
      refine x_lload dX6_often_155 (n := 157) rfl 1 rfl ?_
      refine x_lload dX6_often_157 (n := 159) rfl 0 rfl ?_
      refine x_lsub dX6_often_159 (n := 160) rfl ?_
      refine x_lload dX6_often_160 (n := 162) rfl 2 rfl ?_
      refine x_lneg dX6_often_162 (n := 163) rfl ?_
      have b15 := hk
      refine x_ldiv dX6_often_163 (n := 164) rfl b15 ?_
      refine x_lconst dX6_often_164 (n := 165) rfl lc_1 ?_
      refine x_ladd dX6_often_165 (n := 166) rfl ?_
      refine x_lstore (lvs' := [(14, .long (((y6 - y4) / (-y8)) + 1)), (4, .long y4), (6, .long y6), (8, .long y8), (10, .long y10), (12, .long y12)]) dX6_often_166 (n := 168) rfl (by decide) rfl ?_
      refine x_lload dX6_often_168 (n := 170) rfl 5 rfl ?_
      refine x_lload dX6_often_170 (n := 172) rfl 0 rfl ?_
      refine x_lcmp_ge (tgt := 181) dX6_often_172 (pc1 := 173) rfl dX6_often_173 rfl (n := 176) rfl (fun c16 => ?_) (fun c16 => ?_)
      · have hv := hv.trans (if_pos c16)
        refine x_lload dX6_often_181 (n := 183) rfl 0 rfl ?_
        exact x_sub [4] rfl (xj_X6_often_183 o σ0 G hB0 σ y10 (((y6 - y4) / (-y8)) + 1) hs _ hv rq)
      · have hv := hv.trans (if_neg c16)
        refine x_lload dX6_often_176 (n := 178) rfl 5 rfl ?_
        refine x_goto (tgt := 183) dX6_often_178 rfl ?_
        exact x_sub [4] rfl (xj_X6_often_183 o σ0 G hB0 σ y10 y12 hs _ hv rq)
    · have hk := hk.2 c14
      have hv := hv.trans (if_neg c14)
      refine x_lconst dX6_often_153 (n := 154) rfl lc_0 ?_
      exact x_lret rq ⟨hs, hv.symm⟩ dX6_often_154
theorem xj_X6_often_136 (o : Nat) (σ0 : Hp) (G : XE) (hB0 : MB o σ0) (σ : Hp) (y4 : Int64) (y6 : Int64) (y8 : Int64) (y12 : Int64) (w0 : Int64)  (hs : SH σ0 σ) (V : Int64 × Hp) (hv : V = fj_X6_often_136 o σ y4 y6 y8 y12 w0) (rq : RQ G 0 0 (oL (fun r σ' => SH σ0 σ' ∧ (r, σ') = V))) (hk : oj_X6_often_136 o σ y4 y6 y8 y12 w0) : X G rm_X6_often cX6_often RX6 16 (some .long) σ 0 0 136 [(4, .long y4), (6, .long y6), (8, .long y8), (12, .long y12)] [.long w0] := by
  have hB := hB0.sh hs
  unfold fj_X6_often_136 at hv
  unfold oj_X6_often_136 at hk
  refine x_lstore (lvs' := [(10, .long w0), (4, .long y4), (6, .long y6), (8, .long y8), (12, .long y12)]) dX6_often_136 (n := 138) rfl (by decide) rfl ?_
  exact x_sub [1, 2, 3, 0, 4] rfl (xj_X6_often_138 o σ0 G hB0 σ y4 y6 y8 w0 y12 hs _ hv rq hk)
theorem xj_X6_often_90 (o : Nat) (σ0 : Hp) (G : XE) (hB0 : MB o σ0) (σ : Hp) (y4 : Int64) (y6 : Int64) (y8 : Int64) (y10 : Int64) (y12 : Int64)  (hs : SH σ0 σ) (V : Int64 × Hp) (hv : V = fj_X6_often_90 o σ y4 y6 y8 y10 y12) (rq : RQ G 0 0 (oL (fun r σ' => SH σ0 σ' ∧ (r, σ') = V))) (hk : oj_X6_often_90 o σ y4 y6 y8 y10 y12) : X G rm_X6_often cX6_often RX6 16 (some .long) σ 0 0 90 [(4, .long y4), (6, .long y6), (8, .long y8), (10, .long y10), (12, .long y12)] [] := by
  have hB := hB0.sh hs
  unfold fj_X6_often_90 at hv
  unfold oj_X6_often_90 at hk
  refine x_lload dX6_often_90 (n := 92) rfl 2 rfl ?_
  refine x_lconst dX6_often_92 (n := 93) rfl lc_0 ?_
  refine x_lcmp_le (tgt := 138) dX6_often_93 (pc1 := 94) rfl dX6_often_94 rfl (n := 97) rfl (fun c11 => ?_) (fun c11 => ?_)
  · have hk := hk.1 c11
    have hv := hv.trans (if_pos c11)
    exact x_sub [0, 1, 2, 3, 4] rfl (xj_X6_often_138 o σ0 G hB0 σ y4 y6 y8 y10 y12 hs _ hv rq hk)
  · have hk := hk.2 c11
    have hv := hv.trans (if_neg c11)
    refine x_lload dX6_often_97 (n := 99) rfl 0 rfl ?_
    refine x_lload dX6_often_99 (n := 101) rfl 1 rfl ?_
    refine x_lcmp_le (tgt := 138) dX6_often_101 (pc1 := 102) rfl dX6_often_102 rfl (n := 105) rfl (fun c17 => ?_) (fun c17 => ?_)
    · have hk := hk.1 c17
      have hv := hv.trans (if_pos c17)
      exact x_sub [0, 1, 2, 3, 4] rfl (xj_X6_often_138 o σ0 G hB0 σ y4 y6 y8 y10 y12 hs _ hv rq hk)
    · have hk := hk.2 c17
      have hv := hv.trans (if_neg c17)
      refine x_lload dX6_often_105 (n := 107) rfl 0 rfl ?_
      refine x_lload dX6_often_107 (n := 109) rfl 1 rfl ?_
      refine x_lsub dX6_often_109 (n := 110) rfl ?_
      refine x_lconst dX6_often_110 (n := 111) rfl lc_1 ?_
      refine x_lsub dX6_often_111 (n := 112) rfl ?_
      refine x_lload dX6_often_112 (n := 114) rfl 2 rfl ?_
      obtain ⟨b18, hk⟩ := hk
      refine x_ldiv dX6_often_114 (n := 115) rfl b18 ?_
      refine x_ldc2 dX6_often_115 (n := 118) rfl q1899 ?_
      refine x_ladd dX6_often_118 (n := 119) rfl ?_
      refine x_lstore (lvs' := [(14, .long ((((y4 - y6) - 1) / y8) + 2)), (4, .long y4), (6, .long y6), (8, .long y8), (10, .long y10), (12, .long y12)]) dX6_often_119 (n := 121) rfl (by decide) rfl ?_
      refine x_lload dX6_often_121 (n := 123) rfl 4 rfl ?_
      refine x_lload dX6_often_123 (n := 125) rfl 0 rfl ?_
      refine x_lcmp_le (tgt := 134) dX6_often_125 (pc1 := 126) rfl dX6_often_126 rfl (n := 129) rfl (fun c19 => ?_) (fun c19 => ?_)
      · have hk := hk.1 c19
        have hv := hv.trans (if_pos c19)
        refine x_lload dX6_often_134 (n := 136) rfl 0 rfl ?_
        exact x_sub [1, 2, 3, 5] rfl (xj_X6_often_136 o σ0 G hB0 σ y4 y6 y8 y12 ((((y4 - y6) - 1) / y8) + 2) hs _ hv rq hk)
      · have hk := hk.2 c19
        have hv := hv.trans (if_neg c19)
        refine x_lload dX6_often_129 (n := 131) rfl 4 rfl ?_
        refine x_goto (tgt := 136) dX6_often_131 rfl ?_
        exact x_sub [1, 2, 3, 5] rfl (xj_X6_often_136 o σ0 G hB0 σ y4 y6 y8 y12 y10 hs _ hv rq hk)
theorem met_X6_often (o : Nat) (σ0 : Hp) (x1 : Int32) (x2 : Int32) (x3 : Int32) (y4 : Int64) (hB0 : MB o σ0) (hk : ok_X6_often o σ0 x1 x2 x3 y4) : MetX yX6_often cX6_often 16 (some .long) rm_X6_often σ0 [.ref o, .int x1, .int x2, .int x3, .long y4] (oL (fun r σ' => SH σ0 σ' ∧ (r, σ') = (f_X6_often o σ0 x1 x2 x3 y4))) 0 0 := by
  refine metX_of (own := RX6) (lvs := [(0, .ref o), (1, .int x1), (2, .int x2), (3, .int x3), (4, .long y4)]) (by decide) rfl (Nat.le_of_ble_eq_true rfl) rfl (fun G rq => ?_)
  have hv : (f_X6_often o σ0 x1 x2 x3 y4) = _ := f_X6_often.eq_1 _ _ _ _ _ _
  unfold ok_X6_often at hk
  refine x_aload_n dX6_often_0 (n := 1) rfl rfl 0 rfl ?_
  refine x_iconst dX6_often_1 (n := 2) rfl ic_0 ?_
  refine x_puti fp_X6_119_0 rfl hB0.1 dX6_often_2 (n := 5) rfl ?_
  refine x_aload_n dX6_often_5 (n := 6) rfl rfl 0 rfl ?_
  refine x_iload_n dX6_often_6 (n := 7) rfl rfl 1 rfl ?_
  refine x_cVip (As := [.int x1]) (rest := []) cv_X6_404 ck0 (met_X6_isLand o (pI σ0 o 2 0) x1 hB0.i) hB0.i.1 (by decide) rfl rfl rfl dX6_often_7 (n := 10) rfl (fun r2 q => ?_)
  subst q
  refine x_if_eq (tgt := 37) dX6_often_10 rfl (n := 13) rfl (fun c3 => ?_) (fun c3 => ?_)
  · have hk := hk.1 c3
    have hv := hv.trans (if_pos c3)
    refine x_ldc2 dX6_often_37 (n := 40) rfl q1880 ?_
    exact x_lret rq ⟨(SH.rf (σ := σ0)).i, hv.symm⟩ dX6_often_40
  · have hk := hk.2 c3
    have hv := hv.trans (if_neg c3)
    refine x_iload_n dX6_often_13 (n := 14) rfl rfl 2 rfl ?_
    refine x_iconst dX6_often_14 (n := 15) rfl ic_1 ?_
    refine x_icmp_lt (tgt := 37) dX6_often_15 rfl (n := 18) rfl (fun c4 => ?_) (fun c4 => ?_)
    · have hk := hk.1 c4
      have hv := hv.trans (if_pos c4)
      refine x_ldc2 dX6_often_37 (n := 40) rfl q1880 ?_
      exact x_lret rq ⟨(SH.rf (σ := σ0)).i, hv.symm⟩ dX6_often_40
    · have hk := hk.2 c4
      have hv := hv.trans (if_neg c4)
      refine x_iload_n dX6_often_18 (n := 19) rfl rfl 3 rfl ?_
      refine x_ldcw dX6_often_19 (n := 22) rfl q1992 ?_
      refine x_icmp_gt (tgt := 37) dX6_often_22 rfl (n := 25) rfl (fun c5 => ?_) (fun c5 => ?_)
      · have hk := hk.1 c5
        have hv := hv.trans (if_pos c5)
        refine x_ldc2 dX6_often_37 (n := 40) rfl q1880 ?_
        exact x_lret rq ⟨(SH.rf (σ := σ0)).i, hv.symm⟩ dX6_often_40
      · have hk := hk.2 c5
        have hv := hv.trans (if_neg c5)
        refine x_iload_n dX6_often_25 (n := 26) rfl rfl 2 rfl ?_
        refine x_iload_n dX6_often_26 (n := 27) rfl rfl 3 rfl ?_
        refine x_icmp_gt (tgt := 37) dX6_often_27 rfl (n := 30) rfl (fun c6 => ?_) (fun c6 => ?_)
        · have hk := hk.1 c6
          have hv := hv.trans (if_pos c6)
          refine x_ldc2 dX6_often_37 (n := 40) rfl q1880 ?_
          exact x_lret rq ⟨(SH.rf (σ := σ0)).i, hv.symm⟩ dX6_often_40
        · have hk := hk.2 c6
          have hv := hv.trans (if_neg c6)
          refine x_lload dX6_often_30 (n := 32) rfl 4 rfl ?_
          refine x_lconst dX6_often_32 (n := 33) rfl lc_1 ?_
          refine x_lcmp_ge (tgt := 41) dX6_often_33 (pc1 := 34) rfl dX6_often_34 rfl (n := 37) rfl (fun c7 => ?_) (fun c7 => ?_)
          · have hk := hk.1 c7
            have hv := hv.trans (if_pos c7)
            refine x_aload_n dX6_often_41 (n := 42) rfl rfl 0 rfl ?_
            refine x_getr fl_X6_26_0 rfl hB0.i.1 hB0.i.r29 dX6_often_42 (n := 45) rfl ?_
            refine x_iconst dX6_often_45 (n := 46) rfl ic_3 ?_
            refine x_iload_n dX6_often_46 (n := 47) rfl rfl 1 rfl ?_
            refine x_imul dX6_often_47 (n := 48) rfl ?_
            obtain ⟨b8, hk⟩ := hk
            refine x_iald hB0.i.a29 b8 rfl dX6_often_48 (n := 49) rfl ?_
            refine x_i2l dX6_often_49 (n := 50) rfl ?_
            refine x_lstore (lvs' := [(6, .long ((gI (pI σ0 o 2 0) (o + 5) (3 * x1).toNatClampNeg).toInt64)), (0, .ref o), (1, .int x1), (2, .int x2), (3, .int x3), (4, .long y4)]) dX6_often_50 (n := 52) rfl (by decide) rfl ?_
            refine x_aload_n dX6_often_52 (n := 53) rfl rfl 1 rfl ?_
            refine x_getr fl_X6_26_0 rfl hB0.i.1 hB0.i.r29 dX6_often_53 (n := 56) rfl ?_
            refine x_iconst dX6_often_56 (n := 57) rfl ic_3 ?_
            refine x_iload_n dX6_often_57 (n := 58) rfl rfl 2 rfl ?_
            refine x_imul dX6_often_58 (n := 59) rfl ?_
            refine x_iconst dX6_often_59 (n := 60) rfl ic_1 ?_
            refine x_iadd dX6_often_60 (n := 61) rfl ?_
            obtain ⟨b9, hk⟩ := hk
            refine x_iald hB0.i.a29 b9 rfl dX6_often_61 (n := 62) rfl ?_
            refine x_i2l dX6_often_62 (n := 63) rfl ?_
            refine x_lstore (lvs' := [(8, .long ((gI (pI σ0 o 2 0) (o + 5) ((3 * x1) + 1).toNatClampNeg).toInt64)), (6, .long ((gI (pI σ0 o 2 0) (o + 5) (3 * x1).toNatClampNeg).toInt64)), (0, .ref o), (1, .int x1), (2, .int x2), (3, .int x3), (4, .long y4)]) dX6_often_63 (n := 65) rfl (by decide) rfl ?_
            refine x_iload_n dX6_often_65 (n := 66) rfl rfl 4 rfl ?_
            refine x_i2l dX6_often_66 (n := 67) rfl ?_
            refine x_lstore (lvs' := [(10, .long x2.toInt64), (8, .long ((gI (pI σ0 o 2 0) (o + 5) ((3 * x1) + 1).toNatClampNeg).toInt64)), (6, .long ((gI (pI σ0 o 2 0) (o + 5) (3 * x1).toNatClampNeg).toInt64)), (0, .ref o), (1, .int x1), (2, .int x2), (3, .int x3), (4, .long y4)]) dX6_often_67 (n := 69) rfl (by decide) rfl ?_
            refine x_iload_n dX6_often_69 (n := 70) rfl rfl 6 rfl ?_
            refine x_i2l dX6_often_70 (n := 71) rfl ?_
            refine x_lstore (lvs' := [(12, .long x3.toInt64), (10, .long x2.toInt64), (8, .long ((gI (pI σ0 o 2 0) (o + 5) ((3 * x1) + 1).toNatClampNeg).toInt64)), (6, .long ((gI (pI σ0 o 2 0) (o + 5) (3 * x1).toNatClampNeg).toInt64)), (0, .ref o), (1, .int x1), (2, .int x2), (3, .int x3), (4, .long y4)]) dX6_often_71 (n := 73) rfl (by decide) rfl ?_
            refine x_lload dX6_often_73 (n := 75) rfl 2 rfl ?_
            refine x_lconst dX6_often_75 (n := 76) rfl lc_0 ?_
            refine x_lcmp_ne (tgt := 90) dX6_often_76 (pc1 := 77) rfl dX6_often_77 rfl (n := 80) rfl (fun c10 => ?_) (fun c10 => ?_)
            · have hk := hk.2 c10
              have hv := hv.trans (if_neg c10)
              exact x_sub [8, 3, 2, 1, 0] rfl (xj_X6_often_90 o σ0 G hB0 (pI σ0 o 2 0) y4 ((gI (pI σ0 o 2 0) (o + 5) (3 * x1).toNatClampNeg).toInt64) ((gI (pI σ0 o 2 0) (o + 5) ((3 * x1) + 1).toNatClampNeg).toInt64) x2.toInt64 x3.toInt64 (SH.rf (σ := σ0)).i _ hv rq hk)
            · have hk := hk.1 c10
              have hv := hv.trans (if_pos c10)
              refine x_lload dX6_often_80 (n := 82) rfl 3 rfl ?_
              refine x_lload dX6_often_82 (n := 84) rfl 8 rfl ?_
              refine x_lcmp_ge (tgt := 90) dX6_often_84 (pc1 := 85) rfl dX6_often_85 rfl (n := 88) rfl (fun c20 => ?_) (fun c20 => ?_)
              · have hk := hk.1 c20
                have hv := hv.trans (if_pos c20)
                exact x_sub [8, 3, 2, 1, 0] rfl (xj_X6_often_90 o σ0 G hB0 (pI σ0 o 2 0) y4 ((gI (pI σ0 o 2 0) (o + 5) (3 * x1).toNatClampNeg).toInt64) ((gI (pI σ0 o 2 0) (o + 5) ((3 * x1) + 1).toNatClampNeg).toInt64) x2.toInt64 x3.toInt64 (SH.rf (σ := σ0)).i _ hv rq hk)
              · have hk := hk.2 c20
                have hv := hv.trans (if_neg c20)
                refine x_lconst dX6_often_88 (n := 89) rfl lc_0 ?_
                exact x_lret rq ⟨(SH.rf (σ := σ0)).i, hv.symm⟩ dX6_often_89
          · have hk := hk.2 c7
            have hv := hv.trans (if_neg c7)
            refine x_ldc2 dX6_often_37 (n := 40) rfl q1880 ?_
            exact x_lret rq ⟨(SH.rf (σ := σ0)).i, hv.symm⟩ dX6_often_40
abbrev rm_X6_begins : Room := { frames := 3, cells := 0, slots := 0, locals := 69 }
def f_X6_begins (o : Nat) (σ : Hp) (x1 : Int32) (y2 : Int64) : Int32 := if (f_X6_isAsked o σ x1 y2) = 0 then 0 else if 1000000000000 < (f_X6_beginOf o σ x1 y2) then 0 else 1
def ok_X6_begins (o : Nat) (σ : Hp) (x1 : Int32) (y2 : Int64) : Prop := (ok_X6_isAsked o σ x1 y2) ∧ (((f_X6_isAsked o σ x1 y2) = 0 → True) ∧ (¬ (f_X6_isAsked o σ x1 y2) = 0 → (ok_X6_beginOf o σ x1 y2)))
theorem met_X6_begins (o : Nat) (σ : Hp) (x1 : Int32) (y2 : Int64) (hB : MB o σ) (hk : ok_X6_begins o σ x1 y2) : MetX yX6_begins cX6_begins 4 (some .boolean) rm_X6_begins σ [.ref o, .int x1, .long y2] (oI (fun r σ' => σ' = σ ∧ r = (f_X6_begins o σ x1 y2))) 0 0 := by
  refine metX_of (own := RX6) (lvs := [(0, .ref o), (1, .int x1), (2, .long y2)]) (by decide) rfl (Nat.le_of_ble_eq_true rfl) rfl (fun G rq => ?_)
  have hv : (f_X6_begins o σ x1 y2) = _ := f_X6_begins.eq_1 _ _ _ _
  unfold ok_X6_begins at hk
  refine x_aload_n dX6_begins_0 (n := 1) rfl rfl 0 rfl ?_
  refine x_iload_n dX6_begins_1 (n := 2) rfl rfl 1 rfl ?_
  refine x_lload_n dX6_begins_2 (n := 3) rfl rfl 2 rfl ?_
  obtain ⟨b1, hk⟩ := hk
  refine x_cVip (As := [.int x1, .long y2]) (rest := []) cv_X6_410 ck0 (met_X6_isAsked o σ x1 y2 hB b1) hB.1 (by decide) rfl rfl rfl dX6_begins_3 (n := 6) rfl (fun r2 q => ?_)
  subst q
  refine x_if_eq (tgt := 26) dX6_begins_6 rfl (n := 9) rfl (fun c3 => ?_) (fun c3 => ?_)
  · have hk := hk.1 c3
    have hv := hv.trans (if_pos c3)
    refine x_iconst dX6_begins_26 (n := 27) rfl ic_0 ?_
    exact x_zret rq ⟨rfl, hv.symm⟩ isB0 dX6_begins_27
  · have hk := hk.2 c3
    have hv := hv.trans (if_neg c3)
    refine x_aload_n dX6_begins_9 (n := 10) rfl rfl 0 rfl ?_
    refine x_iload_n dX6_begins_10 (n := 11) rfl rfl 1 rfl ?_
    refine x_lload_n dX6_begins_11 (n := 12) rfl rfl 2 rfl ?_
    have b4 := hk
    refine x_cVlp (As := [.int x1, .long y2]) (rest := []) cv_X6_389 ck0 (met_X6_beginOf o σ x1 y2 hB b4) hB.1 (by decide) rfl rfl rfl dX6_begins_12 (n := 15) rfl (fun r5 q => ?_)
    subst q
    refine x_ldc2 dX6_begins_15 (n := 18) rfl q1900 ?_
    refine x_lcmp_gt (tgt := 26) dX6_begins_18 (pc1 := 19) rfl dX6_begins_19 rfl (n := 22) rfl (fun c6 => ?_) (fun c6 => ?_)
    · have hv := hv.trans (if_pos c6)
      refine x_iconst dX6_begins_26 (n := 27) rfl ic_0 ?_
      exact x_zret rq ⟨rfl, hv.symm⟩ isB0 dX6_begins_27
    · have hv := hv.trans (if_neg c6)
      refine x_iconst dX6_begins_22 (n := 23) rfl ic_1 ?_
      refine x_goto (tgt := 27) dX6_begins_23 rfl ?_
      exact x_zret rq ⟨rfl, hv.symm⟩ isB1 dX6_begins_27
abbrev rm_X6_floor : Room := { frames := 0, cells := 0, slots := 0, locals := 0 }
def f_X6_floor (y0 : Int64) (y2 : Int64) : Int64 := if y0 < 0 then -((((-y0) + y2) - 1) / y2) else y0 / y2
def ok_X6_floor (y0 : Int64) (y2 : Int64) : Prop := (y0 < 0 → (¬ y2 = 0)) ∧ (¬ y0 < 0 → (¬ y2 = 0))
theorem met_X6_floor (σ : Hp) (y0 : Int64) (y2 : Int64) (hk : ok_X6_floor y0 y2) : MetX yX6_floor cX6_floor 4 (some .long) rm_X6_floor σ [.long y0, .long y2] (oL (fun r σ' => σ' = σ ∧ r = (f_X6_floor y0 y2))) 0 0 := by
  refine metX_of (own := RX6) (lvs := [(0, .long y0), (2, .long y2)]) (by decide) rfl (Nat.le_of_ble_eq_true rfl) rfl (fun G rq => ?_)
  have hv : (f_X6_floor y0 y2) = _ := f_X6_floor.eq_1 _ _
  unfold ok_X6_floor at hk
  refine x_lload_n dX6_floor_0 (n := 1) rfl rfl 0 rfl ?_
  refine x_lconst dX6_floor_1 (n := 2) rfl lc_0 ?_
  refine x_lcmp_lt (tgt := 12) dX6_floor_2 (pc1 := 3) rfl dX6_floor_3 rfl (n := 6) rfl (fun c1 => ?_) (fun c1 => ?_)
  · have hk := hk.1 c1
    have hv := hv.trans (if_pos c1)
    refine x_lload_n dX6_floor_12 (n := 13) rfl rfl 0 rfl ?_
    refine x_lneg dX6_floor_13 (n := 14) rfl ?_
    refine x_lload_n dX6_floor_14 (n := 15) rfl rfl 1 rfl ?_
    refine x_ladd dX6_floor_15 (n := 16) rfl ?_
    refine x_lconst dX6_floor_16 (n := 17) rfl lc_1 ?_
    refine x_lsub dX6_floor_17 (n := 18) rfl ?_
    refine x_lload_n dX6_floor_18 (n := 19) rfl rfl 1 rfl ?_
    have b2 := hk
    refine x_ldiv dX6_floor_19 (n := 20) rfl b2 ?_
    refine x_lneg dX6_floor_20 (n := 21) rfl ?_
    exact x_lret rq ⟨rfl, hv.symm⟩ dX6_floor_21
  · have hk := hk.2 c1
    have hv := hv.trans (if_neg c1)
    refine x_lload_n dX6_floor_6 (n := 7) rfl rfl 0 rfl ?_
    refine x_lload_n dX6_floor_7 (n := 8) rfl rfl 1 rfl ?_
    have b3 := hk
    refine x_ldiv dX6_floor_8 (n := 9) rfl b3 ?_
    refine x_goto (tgt := 21) dX6_floor_9 rfl ?_
    exact x_lret rq ⟨rfl, hv.symm⟩ dX6_floor_21
abbrev rm_X6_springsOf : Room := { frames := 1, cells := 0, slots := 0, locals := 25 }
def f_X6_springsOf (o : Nat) (σ : Hp) (x1 : Int32) (y2 : Int64) : Int64 := (f_X6_floor ((((f_X6_beginOf o σ x1 y2) + (f_X6_lengthOf o σ x1 y2)) - 1) * ((gI σ (o + 3) 6).toInt64)) ((gI σ (o + 3) 5).toInt64)) - (f_X6_floor (((f_X6_beginOf o σ x1 y2) - 1) * ((gI σ (o + 3) 6).toInt64)) ((gI σ (o + 3) 5).toInt64))
def ok_X6_springsOf (o : Nat) (σ : Hp) (x1 : Int32) (y2 : Int64) : Prop := (ok_X6_beginOf o σ x1 y2) ∧ ((ok_X6_lengthOf o σ x1 y2) ∧ ((ok_X6_floor ((((f_X6_beginOf o σ x1 y2) + (f_X6_lengthOf o σ x1 y2)) - 1) * ((gI σ (o + 3) 6).toInt64)) ((gI σ (o + 3) 5).toInt64)) ∧ (ok_X6_floor (((f_X6_beginOf o σ x1 y2) - 1) * ((gI σ (o + 3) 6).toInt64)) ((gI σ (o + 3) 5).toInt64))))
theorem met_X6_springsOf (o : Nat) (σ : Hp) (x1 : Int32) (y2 : Int64) (hB : MB o σ) (hk : ok_X6_springsOf o σ x1 y2) : MetX yX6_springsOf cX6_springsOf 8 (some .long) rm_X6_springsOf σ [.ref o, .int x1, .long y2] (oL (fun r σ' => σ' = σ ∧ r = (f_X6_springsOf o σ x1 y2))) 0 0 := by
  refine metX_of (own := RX6) (lvs := [(0, .ref o), (1, .int x1), (2, .long y2)]) (by decide) rfl (Nat.le_of_ble_eq_true rfl) rfl (fun G rq => ?_)
  have hv : (f_X6_springsOf o σ x1 y2) = _ := f_X6_springsOf.eq_1 _ _ _ _
  unfold ok_X6_springsOf at hk
  refine x_aload_n dX6_springsOf_0 (n := 1) rfl rfl 0 rfl ?_
  refine x_iload_n dX6_springsOf_1 (n := 2) rfl rfl 1 rfl ?_
  refine x_lload_n dX6_springsOf_2 (n := 3) rfl rfl 2 rfl ?_
  obtain ⟨b1, hk⟩ := hk
  refine x_cVlp (As := [.int x1, .long y2]) (rest := []) cv_X6_389 ck0 (met_X6_beginOf o σ x1 y2 hB b1) hB.1 (by decide) rfl rfl rfl dX6_springsOf_3 (n := 6) rfl (fun r2 q => ?_)
  subst q
  refine x_lstore (lvs' := [(4, .long (f_X6_beginOf o σ x1 y2)), (0, .ref o), (1, .int x1), (2, .long y2)]) dX6_springsOf_6 (n := 8) rfl (by decide) rfl ?_
  refine x_lload dX6_springsOf_8 (n := 10) rfl 0 rfl ?_
  refine x_aload_n dX6_springsOf_10 (n := 11) rfl rfl 1 rfl ?_
  refine x_iload_n dX6_springsOf_11 (n := 12) rfl rfl 2 rfl ?_
  refine x_lload_n dX6_springsOf_12 (n := 13) rfl rfl 3 rfl ?_
  obtain ⟨b3, hk⟩ := hk
  refine x_cVlp (As := [.int x1, .long y2]) (rest := [.long (f_X6_beginOf o σ x1 y2)]) cv_X6_375 ck0 (met_X6_lengthOf o σ x1 y2 hB b3) hB.1 (by decide) rfl rfl rfl dX6_springsOf_13 (n := 16) rfl (fun r4 q => ?_)
  subst q
  refine x_ladd dX6_springsOf_16 (n := 17) rfl ?_
  refine x_lconst dX6_springsOf_17 (n := 18) rfl lc_1 ?_
  refine x_lsub dX6_springsOf_18 (n := 19) rfl ?_
  refine x_lstore (lvs' := [(6, .long (((f_X6_beginOf o σ x1 y2) + (f_X6_lengthOf o σ x1 y2)) - 1)), (4, .long (f_X6_beginOf o σ x1 y2)), (0, .ref o), (1, .int x1), (2, .long y2)]) dX6_springsOf_19 (n := 21) rfl (by decide) rfl ?_
  refine x_lload dX6_springsOf_21 (n := 23) rfl 0 rfl ?_
  refine x_aload_n dX6_springsOf_23 (n := 24) rfl rfl 2 rfl ?_
  refine x_getr fl_X6_20_0 rfl hB.1 hB.r24 dX6_springsOf_24 (n := 27) rfl ?_
  refine x_bipush dX6_springsOf_27 (n := 29) rfl bp_6 ?_
  refine x_iald hB.a24 (vin_of (by decide) tn_6 rfl) tn_6 dX6_springsOf_29 (n := 30) rfl ?_
  refine x_i2l dX6_springsOf_30 (n := 31) rfl ?_
  refine x_lmul dX6_springsOf_31 (n := 32) rfl ?_
  refine x_aload_n dX6_springsOf_32 (n := 33) rfl rfl 2 rfl ?_
  refine x_getr fl_X6_20_0 rfl hB.1 hB.r24 dX6_springsOf_33 (n := 36) rfl ?_
  refine x_iconst dX6_springsOf_36 (n := 37) rfl ic_5 ?_
  refine x_iald hB.a24 (vin_of (by decide) tn_5 rfl) tn_5 dX6_springsOf_37 (n := 38) rfl ?_
  refine x_i2l dX6_springsOf_38 (n := 39) rfl ?_
  obtain ⟨b5, hk⟩ := hk
  refine x_cSlp (As := [.long ((((f_X6_beginOf o σ x1 y2) + (f_X6_lengthOf o σ x1 y2)) - 1) * ((gI σ (o + 3) 6).toInt64)), .long ((gI σ (o + 3) 5).toInt64)]) (rest := []) cs_X6_466 (met_X6_floor σ ((((f_X6_beginOf o σ x1 y2) + (f_X6_lengthOf o σ x1 y2)) - 1) * ((gI σ (o + 3) 6).toInt64)) ((gI σ (o + 3) 5).toInt64)  b5) (by decide) rfl rfl rfl dX6_springsOf_39 (n := 42) rfl (fun r6 q => ?_)
  subst q
  refine x_lload dX6_springsOf_42 (n := 44) rfl 1 rfl ?_
  refine x_lconst dX6_springsOf_44 (n := 45) rfl lc_1 ?_
  refine x_lsub dX6_springsOf_45 (n := 46) rfl ?_
  refine x_aload_n dX6_springsOf_46 (n := 47) rfl rfl 2 rfl ?_
  refine x_getr fl_X6_20_0 rfl hB.1 hB.r24 dX6_springsOf_47 (n := 50) rfl ?_
  refine x_bipush dX6_springsOf_50 (n := 52) rfl bp_6 ?_
  refine x_iald hB.a24 (vin_of (by decide) tn_6 rfl) tn_6 dX6_springsOf_52 (n := 53) rfl ?_
  refine x_i2l dX6_springsOf_53 (n := 54) rfl ?_
  refine x_lmul dX6_springsOf_54 (n := 55) rfl ?_
  refine x_aload_n dX6_springsOf_55 (n := 56) rfl rfl 2 rfl ?_
  refine x_getr fl_X6_20_0 rfl hB.1 hB.r24 dX6_springsOf_56 (n := 59) rfl ?_
  refine x_iconst dX6_springsOf_59 (n := 60) rfl ic_5 ?_
  refine x_iald hB.a24 (vin_of (by decide) tn_5 rfl) tn_5 dX6_springsOf_60 (n := 61) rfl ?_
  refine x_i2l dX6_springsOf_61 (n := 62) rfl ?_
  have b7 := hk
  refine x_cSlp (As := [.long (((f_X6_beginOf o σ x1 y2) - 1) * ((gI σ (o + 3) 6).toInt64)), .long ((gI σ (o + 3) 5).toInt64)]) (rest := [.long (f_X6_floor ((((f_X6_beginOf o σ x1 y2) + (f_X6_lengthOf o σ x1 y2)) - 1) * ((gI σ (o + 3) 6).toInt64)) ((gI σ (o + 3) 5).toInt64))]) cs_X6_466 (met_X6_floor σ (((f_X6_beginOf o σ x1 y2) - 1) * ((gI σ (o + 3) 6).toInt64)) ((gI σ (o + 3) 5).toInt64)  b7) (by decide) rfl rfl rfl dX6_springsOf_62 (n := 65) rfl (fun r8 q => ?_)
  subst q
  refine x_lsub dX6_springsOf_65 (n := 66) rfl ?_
  exact x_lret rq ⟨rfl, hv.symm⟩ dX6_springsOf_66
abbrev rm_X6_springs : Room := { frames := 4, cells := 0, slots := 0, locals := 92 }
def f_X6_springs (o : Nat) (σ0 : Hp) (x1 : Int32) (x2 : Int32) : Int64 × Hp := if (f_X6_isLand o (pI σ0 o 2 0) x1) = 0 then ((-1), pI σ0 o 2 0) else if (f_X6_begins o (pI σ0 o 2 0) x1 x2.toInt64) = 0 then ((-1), pI σ0 o 2 0) else (f_X6_springsOf o (pI σ0 o 2 0) x1 x2.toInt64, pI σ0 o 2 0)
def ok_X6_springs (o : Nat) (σ0 : Hp) (x1 : Int32) (x2 : Int32) : Prop := ((f_X6_isLand o (pI σ0 o 2 0) x1) = 0 → True) ∧ (¬ (f_X6_isLand o (pI σ0 o 2 0) x1) = 0 → ((ok_X6_begins o (pI σ0 o 2 0) x1 x2.toInt64) ∧ (((f_X6_begins o (pI σ0 o 2 0) x1 x2.toInt64) = 0 → True) ∧ (¬ (f_X6_begins o (pI σ0 o 2 0) x1 x2.toInt64) = 0 → (ok_X6_springsOf o (pI σ0 o 2 0) x1 x2.toInt64)))))
theorem met_X6_springs (o : Nat) (σ0 : Hp) (x1 : Int32) (x2 : Int32) (hB0 : MB o σ0) (hk : ok_X6_springs o σ0 x1 x2) : MetX yX6_springs cX6_springs 3 (some .long) rm_X6_springs σ0 [.ref o, .int x1, .int x2] (oL (fun r σ' => SH σ0 σ' ∧ (r, σ') = (f_X6_springs o σ0 x1 x2))) 0 0 := by
  refine metX_of (own := RX6) (lvs := [(0, .ref o), (1, .int x1), (2, .int x2)]) (by decide) rfl (Nat.le_of_ble_eq_true rfl) rfl (fun G rq => ?_)
  have hv : (f_X6_springs o σ0 x1 x2) = _ := f_X6_springs.eq_1 _ _ _ _
  unfold ok_X6_springs at hk
  refine x_aload_n dX6_springs_0 (n := 1) rfl rfl 0 rfl ?_
  refine x_iconst dX6_springs_1 (n := 2) rfl ic_0 ?_
  refine x_puti fp_X6_119_0 rfl hB0.1 dX6_springs_2 (n := 5) rfl ?_
  refine x_aload_n dX6_springs_5 (n := 6) rfl rfl 0 rfl ?_
  refine x_iload_n dX6_springs_6 (n := 7) rfl rfl 1 rfl ?_
  refine x_cVip (As := [.int x1]) (rest := []) cv_X6_404 ck0 (met_X6_isLand o (pI σ0 o 2 0) x1 hB0.i) hB0.i.1 (by decide) rfl rfl rfl dX6_springs_7 (n := 10) rfl (fun r2 q => ?_)
  subst q
  refine x_if_eq (tgt := 33) dX6_springs_10 rfl (n := 13) rfl (fun c3 => ?_) (fun c3 => ?_)
  · have hk := hk.1 c3
    have hv := hv.trans (if_pos c3)
    refine x_ldc2 dX6_springs_33 (n := 36) rfl q1880 ?_
    exact x_lret rq ⟨(SH.rf (σ := σ0)).i, hv.symm⟩ dX6_springs_36
  · have hk := hk.2 c3
    have hv := hv.trans (if_neg c3)
    refine x_aload_n dX6_springs_13 (n := 14) rfl rfl 0 rfl ?_
    refine x_iload_n dX6_springs_14 (n := 15) rfl rfl 1 rfl ?_
    refine x_iload_n dX6_springs_15 (n := 16) rfl rfl 2 rfl ?_
    refine x_i2l dX6_springs_16 (n := 17) rfl ?_
    obtain ⟨b4, hk⟩ := hk
    refine x_cVip (As := [.int x1, .long x2.toInt64]) (rest := []) cv_X6_469 ck0 (met_X6_begins o (pI σ0 o 2 0) x1 x2.toInt64 hB0.i b4) hB0.i.1 (by decide) rfl rfl rfl dX6_springs_17 (n := 20) rfl (fun r5 q => ?_)
    subst q
    refine x_if_eq (tgt := 33) dX6_springs_20 rfl (n := 23) rfl (fun c6 => ?_) (fun c6 => ?_)
    · have hk := hk.1 c6
      have hv := hv.trans (if_pos c6)
      refine x_ldc2 dX6_springs_33 (n := 36) rfl q1880 ?_
      exact x_lret rq ⟨(SH.rf (σ := σ0)).i, hv.symm⟩ dX6_springs_36
    · have hk := hk.2 c6
      have hv := hv.trans (if_neg c6)
      refine x_aload_n dX6_springs_23 (n := 24) rfl rfl 0 rfl ?_
      refine x_iload_n dX6_springs_24 (n := 25) rfl rfl 1 rfl ?_
      refine x_iload_n dX6_springs_25 (n := 26) rfl rfl 2 rfl ?_
      refine x_i2l dX6_springs_26 (n := 27) rfl ?_
      have b7 := hk
      refine x_cVlp (As := [.int x1, .long x2.toInt64]) (rest := []) cv_X6_472 ck0 (met_X6_springsOf o (pI σ0 o 2 0) x1 x2.toInt64 hB0.i b7) hB0.i.1 (by decide) rfl rfl rfl dX6_springs_27 (n := 30) rfl (fun r8 q => ?_)
      subst q
      refine x_goto (tgt := 36) dX6_springs_30 rfl ?_
      exact x_lret rq ⟨(SH.rf (σ := σ0)).i, hv.symm⟩ dX6_springs_36
abbrev rm_X6_many : Room := { frames := 4, cells := 0, slots := 0, locals := 92 }
def lb_X6_many_39 (o : Nat) (x1 : Int32) (x2 : Int32) (x3 : Int32) (Q : Int32 → Hp → Prop)  (K39 : Int64 × Hp → Prop) (z : Int64 × Hp) : Prop := match z with
  | (y4, σ) => ((x2.toInt64 + 1000) ≤ y4 → Q (-2) σ) ∧ (¬ (x2.toInt64 + 1000) ≤ y4 → (ok_X6_begins o σ x1 y4) ∧ (((f_X6_begins o σ x1 y4) = 0 → Q (-2) σ) ∧ (¬ (f_X6_begins o σ x1 y4) = 0 → (ok_X6_springsOf o σ x1 y4) ∧ (((f_X6_springsOf o σ x1 y4) = x3.toInt64 → Q y4.toInt32 σ) ∧ (¬ (f_X6_springsOf o σ x1 y4) = x3.toInt64 → K39 (y4 + 1, σ))))))
def wp_X6_many (o : Nat) (σ0 : Hp) (x1 : Int32) (x2 : Int32) (x3 : Int32) (Q : Int32 → Hp → Prop) : Prop := ((f_X6_isLand o (pI σ0 o 2 0) x1) = 0 → Q (-1) (pI σ0 o 2 0)) ∧ (¬ (f_X6_isLand o (pI σ0 o 2 0) x1) = 0 → ((f_X6_isIn x3 0 99) = 0 → Q (-1) (pI σ0 o 2 0)) ∧ (¬ (f_X6_isIn x3 0 99) = 0 → (ok_X6_begins o (pI σ0 o 2 0) x1 x2.toInt64) ∧ (((f_X6_begins o (pI σ0 o 2 0) x1 x2.toInt64) = 0 → Q (-1) (pI σ0 o 2 0)) ∧ (¬ (f_X6_begins o (pI σ0 o 2 0) x1 x2.toInt64) = 0 → lp (lb_X6_many_39 o x1 x2 x3 Q) (x2.toInt64, pI σ0 o 2 0)))))
theorem xl_X6_many_39 (o : Nat) (σ0 : Hp) (Q : Int32 → Hp → Prop) (G : XE) (hB0 : MB o σ0) (rq : RQ G 0 0 (oI (fun r σ' => SH σ0 σ' ∧ Q r σ'))) (x1 : Int32) (x2 : Int32) (x3 : Int32)    : ∀ z : Int64 × Hp, SH σ0 z.2 → lp (lb_X6_many_39 o x1 x2 x3 Q ) z → X G rm_X6_many cX6_many RX6 6 (some .int) z.2 0 0 39 [(0, .ref o), (1, .int x1), (2, .int x2), (3, .int x3), (4, .long z.1)] [] := by
  intro z
  refine fun hs h => lp_X (P := fun z => SH σ0 z.2 → X G rm_X6_many cX6_many RX6 6 (some .int) z.2 0 0 39 [(0, .ref o), (1, .int x1), (2, .int x2), (3, .int x3), (4, .long z.1)] []) ?_ h hs
  intro K39 hK39 z h hs
  obtain ⟨y4, σ⟩ := z
  have hs : SH σ0 σ := hs
  have hB := hB0.sh hs
  simp only [lb_X6_many_39] at h
  show X G rm_X6_many cX6_many RX6 6 (some .int) σ 0 0 39 [(0, .ref o), (1, .int x1), (2, .int x2), (3, .int x3), (4, .long y4)] []
  have hK39 : ∀ z : (Int64 × Hp), SH σ0 z.2 → K39 z → X G rm_X6_many cX6_many RX6 6 (some .int) z.2 0 0 39 [(0, .ref o), (1, .int x1), (2, .int x2), (3, .int x3), (4, .long z.1)] [] := fun z hs h => hK39 z h hs
  refine x_lload dX6_many_39 (n := 41) rfl 4 rfl ?_
  refine x_iload_n dX6_many_41 (n := 42) rfl rfl 2 rfl ?_
  refine x_i2l dX6_many_42 (n := 43) rfl ?_
  refine x_ldc2 dX6_many_43 (n := 46) rfl q2085 ?_
  refine x_ladd dX6_many_46 (n := 47) rfl ?_
  refine x_lcmp_ge (tgt := 87) dX6_many_47 (pc1 := 48) rfl dX6_many_48 rfl (n := 51) rfl (fun c10 => ?_) (fun c10 => ?_)
  · have h := h.1 c10
    refine x_bipush dX6_many_87 (n := 89) rfl bp_m2 ?_
    exact x_iret rq ⟨hs, h⟩ dX6_many_89
  · have h := h.2 c10
    refine x_aload_n dX6_many_51 (n := 52) rfl rfl 0 rfl ?_
    refine x_iload_n dX6_many_52 (n := 53) rfl rfl 1 rfl ?_
    refine x_lload dX6_many_53 (n := 55) rfl 4 rfl ?_
    obtain ⟨b11, h⟩ := h
    refine x_cVip (As := [.int x1, .long y4]) (rest := []) cv_X6_469 ck0 (met_X6_begins o σ x1 y4 hB b11) hB.1 (by decide) rfl rfl rfl dX6_many_55 (n := 58) rfl (fun r12 q => ?_)
    subst q
    refine x_if_eq (tgt := 87) dX6_many_58 rfl (n := 61) rfl (fun c13 => ?_) (fun c13 => ?_)
    · have h := h.1 c13
      refine x_bipush dX6_many_87 (n := 89) rfl bp_m2 ?_
      exact x_iret rq ⟨hs, h⟩ dX6_many_89
    · have h := h.2 c13
      refine x_aload_n dX6_many_61 (n := 62) rfl rfl 0 rfl ?_
      refine x_iload_n dX6_many_62 (n := 63) rfl rfl 1 rfl ?_
      refine x_lload dX6_many_63 (n := 65) rfl 4 rfl ?_
      obtain ⟨b14, h⟩ := h
      refine x_cVlp (As := [.int x1, .long y4]) (rest := []) cv_X6_472 ck0 (met_X6_springsOf o σ x1 y4 hB b14) hB.1 (by decide) rfl rfl rfl dX6_many_65 (n := 68) rfl (fun r15 q => ?_)
      subst q
      refine x_iload_n dX6_many_68 (n := 69) rfl rfl 3 rfl ?_
      refine x_i2l dX6_many_69 (n := 70) rfl ?_
      refine x_lcmp_ne (tgt := 78) dX6_many_70 (pc1 := 71) rfl dX6_many_71 rfl (n := 74) rfl (fun c16 => ?_) (fun c16 => ?_)
      · have h := h.2 c16
        refine x_lload dX6_many_78 (n := 80) rfl 4 rfl ?_
        refine x_lconst dX6_many_80 (n := 81) rfl lc_1 ?_
        refine x_ladd dX6_many_81 (n := 82) rfl ?_
        refine x_lstore (lvs' := [(4, .long (y4 + 1)), (0, .ref o), (1, .int x1), (2, .int x2), (3, .int x3)]) dX6_many_82 (n := 84) rfl (by decide) rfl ?_
        refine x_goto (tgt := 39) dX6_many_84 rfl ?_
        exact x_sub [1, 2, 3, 4, 0] rfl (hK39 (y4 + 1, σ) hs h)
      · have h := h.1 c16
        refine x_lload dX6_many_74 (n := 76) rfl 4 rfl ?_
        refine x_l2i dX6_many_76 (n := 77) rfl ?_
        exact x_iret rq ⟨hs, h⟩ dX6_many_77
theorem met_X6_many (o : Nat) (σ0 : Hp) (x1 : Int32) (x2 : Int32) (x3 : Int32) (Q : Int32 → Hp → Prop) (hB0 : MB o σ0) (h : wp_X6_many o σ0 x1 x2 x3 Q) : MetX yX6_many cX6_many 6 (some .int) rm_X6_many σ0 [.ref o, .int x1, .int x2, .int x3] (oI (fun r σ' => SH σ0 σ' ∧ Q r σ')) 0 0 := by
  refine metX_of (own := RX6) (lvs := [(0, .ref o), (1, .int x1), (2, .int x2), (3, .int x3)]) (by decide) rfl (Nat.le_of_ble_eq_true rfl) rfl (fun G rq => ?_)
  unfold wp_X6_many at h
  refine x_aload_n dX6_many_0 (n := 1) rfl rfl 0 rfl ?_
  refine x_iconst dX6_many_1 (n := 2) rfl ic_0 ?_
  refine x_puti fp_X6_119_0 rfl hB0.1 dX6_many_2 (n := 5) rfl ?_
  refine x_aload_n dX6_many_5 (n := 6) rfl rfl 0 rfl ?_
  refine x_iload_n dX6_many_6 (n := 7) rfl rfl 1 rfl ?_
  refine x_cVip (As := [.int x1]) (rest := []) cv_X6_404 ck0 (met_X6_isLand o (pI σ0 o 2 0) x1 hB0.i) hB0.i.1 (by decide) rfl rfl rfl dX6_many_7 (n := 10) rfl (fun r2 q => ?_)
  subst q
  refine x_if_eq (tgt := 33) dX6_many_10 rfl (n := 13) rfl (fun c3 => ?_) (fun c3 => ?_)
  · have h := h.1 c3
    refine x_iconst dX6_many_33 (n := 34) rfl ic_m1 ?_
    exact x_iret rq ⟨(SH.rf (σ := σ0)).i, h⟩ dX6_many_34
  · have h := h.2 c3
    refine x_iload_n dX6_many_13 (n := 14) rfl rfl 3 rfl ?_
    refine x_iconst dX6_many_14 (n := 15) rfl ic_0 ?_
    refine x_bipush dX6_many_15 (n := 17) rfl bp_99 ?_
    refine x_cSip (As := [.int x3, .int 0, .int 99]) (rest := []) cs_X6_166 (met_X6_isIn (pI σ0 o 2 0) x3 0 99 ) (by decide) rfl rfl rfl dX6_many_17 (n := 20) rfl (fun r5 q => ?_)
    subst q
    refine x_if_eq (tgt := 33) dX6_many_20 rfl (n := 23) rfl (fun c6 => ?_) (fun c6 => ?_)
    · have h := h.1 c6
      refine x_iconst dX6_many_33 (n := 34) rfl ic_m1 ?_
      exact x_iret rq ⟨(SH.rf (σ := σ0)).i, h⟩ dX6_many_34
    · have h := h.2 c6
      refine x_aload_n dX6_many_23 (n := 24) rfl rfl 0 rfl ?_
      refine x_iload_n dX6_many_24 (n := 25) rfl rfl 1 rfl ?_
      refine x_iload_n dX6_many_25 (n := 26) rfl rfl 2 rfl ?_
      refine x_i2l dX6_many_26 (n := 27) rfl ?_
      obtain ⟨b7, h⟩ := h
      refine x_cVip (As := [.int x1, .long x2.toInt64]) (rest := []) cv_X6_469 ck0 (met_X6_begins o (pI σ0 o 2 0) x1 x2.toInt64 hB0.i b7) hB0.i.1 (by decide) rfl rfl rfl dX6_many_27 (n := 30) rfl (fun r8 q => ?_)
      subst q
      refine x_if_ne (tgt := 35) dX6_many_30 rfl (n := 33) rfl (fun c9 => ?_) (fun c9 => ?_)
      · have h := h.2 c9
        refine x_iload_n dX6_many_35 (n := 36) rfl rfl 2 rfl ?_
        refine x_i2l dX6_many_36 (n := 37) rfl ?_
        refine x_lstore (lvs' := [(4, .long x2.toInt64), (0, .ref o), (1, .int x1), (2, .int x2), (3, .int x3)]) dX6_many_37 (n := 39) rfl (by decide) rfl ?_
        exact x_sub [1, 2, 3, 4, 0] rfl (xl_X6_many_39 o σ0 Q G hB0 rq x1 x2 x3 (x2.toInt64, pI σ0 o 2 0) (SH.rf (σ := σ0)).i h)
      · have h := h.1 c9
        refine x_iconst dX6_many_33 (n := 34) rfl ic_m1 ?_
        exact x_iret rq ⟨(SH.rf (σ := σ0)).i, h⟩ dX6_many_34
abbrev rm_X6_next : Room := { frames := 2, cells := 0, slots := 0, locals := 56 }
def wj_X6_next_121 (o : Nat) (σ : Hp) (y1 : Int64) (x3 : Int32) (x4 : Int32) (x5 : Int32) (y6 : Int64) (w0 : Int32) (Q : Int64 → Hp → Prop) (K62 : (Int64 × Hp) → Prop) : Prop := (w0 = 0 → K62 (y6 + 1, σ)) ∧ (¬ w0 = 0 → (x3 < 0 → Q y6 σ) ∧ (¬ x3 < 0 → ((gI σ o 12) ≤ 0 → K62 (y6 + 1, σ)) ∧ (¬ (gI σ o 12) ≤ 0 → wp_X6_date1 o σ 0 y6 (fun r25 s23 => (r25 = 0 → K62 (y6 + 1, s23)) ∧ (¬ r25 = 0 → ((gL s23 o 54) = x3.toInt64 → Q y6 s23) ∧ (¬ (gL s23 o 54) = x3.toInt64 → K62 (y6 + 1, s23)))))))
def wj_X6_next_120 (o : Nat) (σ : Hp) (y1 : Int64) (x3 : Int32) (x4 : Int32) (x5 : Int32) (y6 : Int64) (Q : Int64 → Hp → Prop) (K62 : (Int64 × Hp) → Prop) : Prop := wj_X6_next_121 o σ y1 x3 x4 x5 y6 0 Q K62
def wj_X6_next_116 (o : Nat) (σ : Hp) (y1 : Int64) (x3 : Int32) (x4 : Int32) (x5 : Int32) (y6 : Int64) (Q : Int64 → Hp → Prop) (K62 : (Int64 × Hp) → Prop) : Prop := wj_X6_next_121 o σ y1 x3 x4 x5 y6 1 Q K62
def wj_X6_next_99 (o : Nat) (σ : Hp) (y1 : Int64) (x3 : Int32) (x4 : Int32) (x5 : Int32) (y6 : Int64) (Q : Int64 → Hp → Prop) (K62 : (Int64 × Hp) → Prop) : Prop := (x5 < 0 → wj_X6_next_116 o σ y1 x3 x4 x5 y6 Q K62) ∧ (¬ x5 < 0 → (ok_X6_roundOf o σ y6 1) ∧ (((f_X6_roundOf o σ y6 1) = x5 → wj_X6_next_116 o σ y1 x3 x4 x5 y6 Q K62) ∧ (¬ (f_X6_roundOf o σ y6 1) = x5 → wj_X6_next_120 o σ y1 x3 x4 x5 y6 Q K62)))
def lb_X6_next_62 (o : Nat) (y1 : Int64) (x3 : Int32) (x4 : Int32) (x5 : Int32) (Q : Int64 → Hp → Prop)  (K62 : Int64 × Hp → Prop) (z : Int64 × Hp) : Prop := match z with
  | (y6, σ) => ((y1 + 20000) ≤ y6 → Q (-2) σ) ∧ (¬ (y1 + 20000) ≤ y6 → (1000000000000 < y6 → Q (-2) σ) ∧ (¬ 1000000000000 < y6 → (x4 < 0 → wj_X6_next_99 o σ y1 x3 x4 x5 y6 Q K62) ∧ (¬ x4 < 0 → (ok_X6_roundOf o σ y6 0) ∧ (((f_X6_roundOf o σ y6 0) = x4 → wj_X6_next_99 o σ y1 x3 x4 x5 y6 Q K62) ∧ (¬ (f_X6_roundOf o σ y6 0) = x4 → wj_X6_next_120 o σ y1 x3 x4 x5 y6 Q K62)))))
def wj_X6_next_27 (o : Nat) (σ : Hp) (y1 : Int64) (x3 : Int32) (x4 : Int32) (x5 : Int32) (Q : Int64 → Hp → Prop)  : Prop := ((f_X6_isIn x4 (-1) ((gI σ (o + 3) 0) - 1)) = 0 → Q (-1) σ) ∧ (¬ (f_X6_isIn x4 (-1) ((gI σ (o + 3) 0) - 1)) = 0 → ((f_X6_isIn x5 (-1) 7) = 0 → Q (-1) σ) ∧ (¬ (f_X6_isIn x5 (-1) 7) = 0 → lp (lb_X6_next_62 o y1 x3 x4 x5 Q) (y1, σ)))
def wp_X6_next (o : Nat) (σ0 : Hp) (y1 : Int64) (x3 : Int32) (x4 : Int32) (x5 : Int32) (Q : Int64 → Hp → Prop) : Prop := ((f_X6_isCount y1) = 0 → Q (-1) (pI σ0 o 2 0)) ∧ (¬ (f_X6_isCount y1) = 0 → (x3 = (-1) → wj_X6_next_27 o (pI σ0 o 2 0) y1 x3 x4 x5 Q) ∧ (¬ x3 = (-1) → ((f_X6_isIn x3 1 99999) = 0 → Q (-1) (pI σ0 o 2 0)) ∧ (¬ (f_X6_isIn x3 1 99999) = 0 → wj_X6_next_27 o (pI σ0 o 2 0) y1 x3 x4 x5 Q)))
theorem xj_X6_next_121 (o : Nat) (σ0 : Hp) (Q : Int64 → Hp → Prop) (G : XE) (hB0 : MB o σ0) (rq : RQ G 0 0 (oL (fun r σ' => SH σ0 σ' ∧ Q r σ'))) (σ : Hp) (y1 : Int64) (x3 : Int32) (x4 : Int32) (x5 : Int32) (y6 : Int64) (w0 : Int32)  (K62 : (Int64 × Hp) → Prop) (hK62 : ∀ z : (Int64 × Hp), SH σ0 z.2 → K62 z → X G rm_X6_next cX6_next RX6 9 (some .long) z.2 0 0 62 [(0, .ref o), (1, .long y1), (3, .int x3), (4, .int x4), (5, .int x5), (6, .long z.1)] []) (hs : SH σ0 σ) (h : wj_X6_next_121 o σ y1 x3 x4 x5 y6 w0 Q K62) : X G rm_X6_next cX6_next RX6 9 (some .long) σ 0 0 121 [(0, .ref o), (1, .long y1), (3, .int x3), (4, .int x4), (5, .int x5), (6, .long y6)] [.int w0] := by
  have hs : SH σ0 σ := hs
  have hB := hB0.sh hs
  unfold wj_X6_next_121 at h
  refine x_istore (lvs' := [(8, .int w0), (0, .ref o), (1, .long y1), (3, .int x3), (4, .int x4), (5, .int x5), (6, .long y6)]) dX6_next_121 (n := 123) rfl (by decide) rfl ?_
  refine x_iload dX6_next_123 (n := 125) rfl 0 rfl ?_
  refine x_if_eq (tgt := 162) dX6_next_125 rfl (n := 128) rfl (fun c20 => ?_) (fun c20 => ?_)
  · have h := h.1 c20
    refine x_lload dX6_next_162 (n := 164) rfl 6 rfl ?_
    refine x_lconst dX6_next_164 (n := 165) rfl lc_1 ?_
    refine x_ladd dX6_next_165 (n := 166) rfl ?_
    refine x_lstore (lvs' := [(6, .long (y6 + 1)), (8, .int w0), (0, .ref o), (1, .long y1), (3, .int x3), (4, .int x4), (5, .int x5)]) dX6_next_166 (n := 168) rfl (by decide) rfl ?_
    refine x_goto (tgt := 62) dX6_next_168 rfl ?_
    exact x_sub [2, 3, 4, 5, 6, 0] rfl (hK62 (y6 + 1, σ) hs h)
  · have h := h.2 c20
    refine x_iload_n dX6_next_128 (n := 129) rfl rfl 3 rfl ?_
    refine x_if_lt (tgt := 159) dX6_next_129 rfl (n := 132) rfl (fun c21 => ?_) (fun c21 => ?_)
    · have h := h.1 c21
      refine x_lload dX6_next_159 (n := 161) rfl 6 rfl ?_
      exact x_lret rq ⟨hs, h⟩ dX6_next_161
    · have h := h.2 c21
      refine x_aload_n dX6_next_132 (n := 133) rfl rfl 1 rfl ?_
      refine x_geti fl_X6_217_0 rfl hB.1 rfl dX6_next_133 (n := 136) rfl ?_
      refine x_if_le (tgt := 162) dX6_next_136 rfl (n := 139) rfl (fun c22 => ?_) (fun c22 => ?_)
      · have h := h.1 c22
        refine x_lload dX6_next_162 (n := 164) rfl 6 rfl ?_
        refine x_lconst dX6_next_164 (n := 165) rfl lc_1 ?_
        refine x_ladd dX6_next_165 (n := 166) rfl ?_
        refine x_lstore (lvs' := [(6, .long (y6 + 1)), (8, .int w0), (0, .ref o), (1, .long y1), (3, .int x3), (4, .int x4), (5, .int x5)]) dX6_next_166 (n := 168) rfl (by decide) rfl ?_
        refine x_goto (tgt := 62) dX6_next_168 rfl ?_
        exact x_sub [2, 3, 4, 5, 6, 0] rfl (hK62 (y6 + 1, σ) hs h)
      · have h := h.2 c22
        refine x_aload_n dX6_next_139 (n := 140) rfl rfl 1 rfl ?_
        refine x_iconst dX6_next_140 (n := 141) rfl ic_0 ?_
        refine x_lload dX6_next_141 (n := 143) rfl 6 rfl ?_
        refine x_cVim (As := [.int 0, .long y6]) (rest := []) cv_X6_416 ck0 (met_X6_date1 o σ 0 y6 _ hB h) hB.1 (by decide) rfl rfl rfl dX6_next_143 (n := 146) rfl (fun r25 s23 hs24 h => ?_)
        have hs24t := hs.tr hs24; have hBs23 := hB0.sh hs24t
        refine x_if_eq (tgt := 162) dX6_next_146 rfl (n := 149) rfl (fun c26 => ?_) (fun c26 => ?_)
        · have h := h.1 c26
          refine x_lload dX6_next_162 (n := 164) rfl 6 rfl ?_
          refine x_lconst dX6_next_164 (n := 165) rfl lc_1 ?_
          refine x_ladd dX6_next_165 (n := 166) rfl ?_
          refine x_lstore (lvs' := [(6, .long (y6 + 1)), (8, .int w0), (0, .ref o), (1, .long y1), (3, .int x3), (4, .int x4), (5, .int x5)]) dX6_next_166 (n := 168) rfl (by decide) rfl ?_
          refine x_goto (tgt := 62) dX6_next_168 rfl ?_
          exact x_sub [2, 3, 4, 5, 6, 0] rfl (hK62 (y6 + 1, s23) hs24t h)
        · have h := h.2 c26
          refine x_aload_n dX6_next_149 (n := 150) rfl rfl 1 rfl ?_
          refine x_getl fl_X6_399_0 rfl hBs23.1 rfl dX6_next_150 (n := 153) rfl ?_
          refine x_iload_n dX6_next_153 (n := 154) rfl rfl 3 rfl ?_
          refine x_i2l dX6_next_154 (n := 155) rfl ?_
          refine x_lcmp_ne (tgt := 162) dX6_next_155 (pc1 := 156) rfl dX6_next_156 rfl (n := 159) rfl (fun c27 => ?_) (fun c27 => ?_)
          · have h := h.2 c27
            refine x_lload dX6_next_162 (n := 164) rfl 6 rfl ?_
            refine x_lconst dX6_next_164 (n := 165) rfl lc_1 ?_
            refine x_ladd dX6_next_165 (n := 166) rfl ?_
            refine x_lstore (lvs' := [(6, .long (y6 + 1)), (8, .int w0), (0, .ref o), (1, .long y1), (3, .int x3), (4, .int x4), (5, .int x5)]) dX6_next_166 (n := 168) rfl (by decide) rfl ?_
            refine x_goto (tgt := 62) dX6_next_168 rfl ?_
            exact x_sub [2, 3, 4, 5, 6, 0] rfl (hK62 (y6 + 1, s23) hs24t h)
          · have h := h.1 c27
            refine x_lload dX6_next_159 (n := 161) rfl 6 rfl ?_
            exact x_lret rq ⟨hs24t, h⟩ dX6_next_161
theorem xj_X6_next_120 (o : Nat) (σ0 : Hp) (Q : Int64 → Hp → Prop) (G : XE) (hB0 : MB o σ0) (rq : RQ G 0 0 (oL (fun r σ' => SH σ0 σ' ∧ Q r σ'))) (σ : Hp) (y1 : Int64) (x3 : Int32) (x4 : Int32) (x5 : Int32) (y6 : Int64)  (K62 : (Int64 × Hp) → Prop) (hK62 : ∀ z : (Int64 × Hp), SH σ0 z.2 → K62 z → X G rm_X6_next cX6_next RX6 9 (some .long) z.2 0 0 62 [(0, .ref o), (1, .long y1), (3, .int x3), (4, .int x4), (5, .int x5), (6, .long z.1)] []) (hs : SH σ0 σ) (h : wj_X6_next_120 o σ y1 x3 x4 x5 y6 Q K62) : X G rm_X6_next cX6_next RX6 9 (some .long) σ 0 0 120 [(0, .ref o), (1, .long y1), (3, .int x3), (4, .int x4), (5, .int x5), (6, .long y6)] [] := by
  have hs : SH σ0 σ := hs
  have hB := hB0.sh hs
  unfold wj_X6_next_120 at h
  refine x_iconst dX6_next_120 (n := 121) rfl ic_0 ?_
  exact x_sub [0, 1, 2, 3, 4, 5] rfl (xj_X6_next_121 o σ0 Q G hB0 rq σ y1 x3 x4 x5 y6 0 K62 hK62 hs h)
theorem xj_X6_next_116 (o : Nat) (σ0 : Hp) (Q : Int64 → Hp → Prop) (G : XE) (hB0 : MB o σ0) (rq : RQ G 0 0 (oL (fun r σ' => SH σ0 σ' ∧ Q r σ'))) (σ : Hp) (y1 : Int64) (x3 : Int32) (x4 : Int32) (x5 : Int32) (y6 : Int64)  (K62 : (Int64 × Hp) → Prop) (hK62 : ∀ z : (Int64 × Hp), SH σ0 z.2 → K62 z → X G rm_X6_next cX6_next RX6 9 (some .long) z.2 0 0 62 [(0, .ref o), (1, .long y1), (3, .int x3), (4, .int x4), (5, .int x5), (6, .long z.1)] []) (hs : SH σ0 σ) (h : wj_X6_next_116 o σ y1 x3 x4 x5 y6 Q K62) : X G rm_X6_next cX6_next RX6 9 (some .long) σ 0 0 116 [(0, .ref o), (1, .long y1), (3, .int x3), (4, .int x4), (5, .int x5), (6, .long y6)] [] := by
  have hs : SH σ0 σ := hs
  have hB := hB0.sh hs
  unfold wj_X6_next_116 at h
  refine x_iconst dX6_next_116 (n := 117) rfl ic_1 ?_
  refine x_goto (tgt := 121) dX6_next_117 rfl ?_
  exact x_sub [0, 1, 2, 3, 4, 5] rfl (xj_X6_next_121 o σ0 Q G hB0 rq σ y1 x3 x4 x5 y6 1 K62 hK62 hs h)
theorem xj_X6_next_99 (o : Nat) (σ0 : Hp) (Q : Int64 → Hp → Prop) (G : XE) (hB0 : MB o σ0) (rq : RQ G 0 0 (oL (fun r σ' => SH σ0 σ' ∧ Q r σ'))) (σ : Hp) (y1 : Int64) (x3 : Int32) (x4 : Int32) (x5 : Int32) (y6 : Int64)  (K62 : (Int64 × Hp) → Prop) (hK62 : ∀ z : (Int64 × Hp), SH σ0 z.2 → K62 z → X G rm_X6_next cX6_next RX6 9 (some .long) z.2 0 0 62 [(0, .ref o), (1, .long y1), (3, .int x3), (4, .int x4), (5, .int x5), (6, .long z.1)] []) (hs : SH σ0 σ) (h : wj_X6_next_99 o σ y1 x3 x4 x5 y6 Q K62) : X G rm_X6_next cX6_next RX6 9 (some .long) σ 0 0 99 [(0, .ref o), (1, .long y1), (3, .int x3), (4, .int x4), (5, .int x5), (6, .long y6)] [] := by
  have hs : SH σ0 σ := hs
  have hB := hB0.sh hs
  unfold wj_X6_next_99 at h
  refine x_iload dX6_next_99 (n := 101) rfl 4 rfl ?_
  refine x_if_lt (tgt := 116) dX6_next_101 rfl (n := 104) rfl (fun c28 => ?_) (fun c28 => ?_)
  · have h := h.1 c28
    exact x_sub [0, 1, 2, 3, 4, 5] rfl (xj_X6_next_116 o σ0 Q G hB0 rq σ y1 x3 x4 x5 y6 K62 hK62 hs h)
  · have h := h.2 c28
    refine x_aload_n dX6_next_104 (n := 105) rfl rfl 0 rfl ?_
    refine x_lload dX6_next_105 (n := 107) rfl 5 rfl ?_
    refine x_iconst dX6_next_107 (n := 108) rfl ic_1 ?_
    obtain ⟨b29, h⟩ := h
    refine x_cVip (As := [.long y6, .int 1]) (rest := []) cv_X6_424 ck0 (met_X6_roundOf o σ y6 1 hB b29) hB.1 (by decide) rfl rfl rfl dX6_next_108 (n := 111) rfl (fun r30 q => ?_)
    subst q
    refine x_iload dX6_next_111 (n := 113) rfl 4 rfl ?_
    refine x_icmp_ne (tgt := 120) dX6_next_113 rfl (n := 116) rfl (fun c31 => ?_) (fun c31 => ?_)
    · have h := h.2 c31
      exact x_sub [0, 1, 2, 3, 4, 5] rfl (xj_X6_next_120 o σ0 Q G hB0 rq σ y1 x3 x4 x5 y6 K62 hK62 hs h)
    · have h := h.1 c31
      exact x_sub [0, 1, 2, 3, 4, 5] rfl (xj_X6_next_116 o σ0 Q G hB0 rq σ y1 x3 x4 x5 y6 K62 hK62 hs h)
theorem xl_X6_next_62 (o : Nat) (σ0 : Hp) (Q : Int64 → Hp → Prop) (G : XE) (hB0 : MB o σ0) (rq : RQ G 0 0 (oL (fun r σ' => SH σ0 σ' ∧ Q r σ'))) (y1 : Int64) (x3 : Int32) (x4 : Int32) (x5 : Int32)    : ∀ z : Int64 × Hp, SH σ0 z.2 → lp (lb_X6_next_62 o y1 x3 x4 x5 Q ) z → X G rm_X6_next cX6_next RX6 9 (some .long) z.2 0 0 62 [(0, .ref o), (1, .long y1), (3, .int x3), (4, .int x4), (5, .int x5), (6, .long z.1)] [] := by
  intro z
  refine fun hs h => lp_X (P := fun z => SH σ0 z.2 → X G rm_X6_next cX6_next RX6 9 (some .long) z.2 0 0 62 [(0, .ref o), (1, .long y1), (3, .int x3), (4, .int x4), (5, .int x5), (6, .long z.1)] []) ?_ h hs
  intro K62 hK62 z h hs
  obtain ⟨y6, σ⟩ := z
  have hs : SH σ0 σ := hs
  have hB := hB0.sh hs
  simp only [lb_X6_next_62] at h
  show X G rm_X6_next cX6_next RX6 9 (some .long) σ 0 0 62 [(0, .ref o), (1, .long y1), (3, .int x3), (4, .int x4), (5, .int x5), (6, .long y6)] []
  have hK62 : ∀ z : (Int64 × Hp), SH σ0 z.2 → K62 z → X G rm_X6_next cX6_next RX6 9 (some .long) z.2 0 0 62 [(0, .ref o), (1, .long y1), (3, .int x3), (4, .int x4), (5, .int x5), (6, .long z.1)] [] := fun z hs h => hK62 z h hs
  refine x_lload dX6_next_62 (n := 64) rfl 5 rfl ?_
  refine x_lload_n dX6_next_64 (n := 65) rfl rfl 1 rfl ?_
  refine x_ldc2 dX6_next_65 (n := 68) rfl q2039 ?_
  refine x_ladd dX6_next_68 (n := 69) rfl ?_
  refine x_lcmp_ge (tgt := 171) dX6_next_69 (pc1 := 70) rfl dX6_next_70 rfl (n := 73) rfl (fun c14 => ?_) (fun c14 => ?_)
  · have h := h.1 c14
    refine x_ldc2 dX6_next_171 (n := 174) rfl q2040 ?_
    exact x_lret rq ⟨hs, h⟩ dX6_next_174
  · have h := h.2 c14
    refine x_lload dX6_next_73 (n := 75) rfl 5 rfl ?_
    refine x_ldc2 dX6_next_75 (n := 78) rfl q1900 ?_
    refine x_lcmp_gt (tgt := 171) dX6_next_78 (pc1 := 79) rfl dX6_next_79 rfl (n := 82) rfl (fun c15 => ?_) (fun c15 => ?_)
    · have h := h.1 c15
      refine x_ldc2 dX6_next_171 (n := 174) rfl q2040 ?_
      exact x_lret rq ⟨hs, h⟩ dX6_next_174
    · have h := h.2 c15
      refine x_iload dX6_next_82 (n := 84) rfl 3 rfl ?_
      refine x_if_lt (tgt := 99) dX6_next_84 rfl (n := 87) rfl (fun c16 => ?_) (fun c16 => ?_)
      · have h := h.1 c16
        exact x_sub [0, 1, 2, 3, 4, 5] rfl (xj_X6_next_99 o σ0 Q G hB0 rq σ y1 x3 x4 x5 y6 K62 hK62 hs h)
      · have h := h.2 c16
        refine x_aload_n dX6_next_87 (n := 88) rfl rfl 0 rfl ?_
        refine x_lload dX6_next_88 (n := 90) rfl 5 rfl ?_
        refine x_iconst dX6_next_90 (n := 91) rfl ic_0 ?_
        obtain ⟨b17, h⟩ := h
        refine x_cVip (As := [.long y6, .int 0]) (rest := []) cv_X6_424 ck0 (met_X6_roundOf o σ y6 0 hB b17) hB.1 (by decide) rfl rfl rfl dX6_next_91 (n := 94) rfl (fun r18 q => ?_)
        subst q
        refine x_iload dX6_next_94 (n := 96) rfl 3 rfl ?_
        refine x_icmp_ne (tgt := 120) dX6_next_96 rfl (n := 99) rfl (fun c19 => ?_) (fun c19 => ?_)
        · have h := h.2 c19
          exact x_sub [0, 1, 2, 3, 4, 5] rfl (xj_X6_next_120 o σ0 Q G hB0 rq σ y1 x3 x4 x5 y6 K62 hK62 hs h)
        · have h := h.1 c19
          exact x_sub [0, 1, 2, 3, 4, 5] rfl (xj_X6_next_99 o σ0 Q G hB0 rq σ y1 x3 x4 x5 y6 K62 hK62 hs h)
theorem xj_X6_next_27 (o : Nat) (σ0 : Hp) (Q : Int64 → Hp → Prop) (G : XE) (hB0 : MB o σ0) (rq : RQ G 0 0 (oL (fun r σ' => SH σ0 σ' ∧ Q r σ'))) (σ : Hp) (y1 : Int64) (x3 : Int32) (x4 : Int32) (x5 : Int32)    (hs : SH σ0 σ) (h : wj_X6_next_27 o σ y1 x3 x4 x5 Q ) : X G rm_X6_next cX6_next RX6 9 (some .long) σ 0 0 27 [(0, .ref o), (1, .long y1), (3, .int x3), (4, .int x4), (5, .int x5)] [] := by
  have hs : SH σ0 σ := hs
  have hB := hB0.sh hs
  unfold wj_X6_next_27 at h
  refine x_iload dX6_next_27 (n := 29) rfl 3 rfl ?_
  refine x_iconst dX6_next_29 (n := 30) rfl ic_m1 ?_
  refine x_aload_n dX6_next_30 (n := 31) rfl rfl 0 rfl ?_
  refine x_getr fl_X6_20_0 rfl hB.1 hB.r24 dX6_next_31 (n := 34) rfl ?_
  refine x_iconst dX6_next_34 (n := 35) rfl ic_0 ?_
  refine x_iald hB.a24 (vin_of (by decide) tn_0 rfl) tn_0 dX6_next_35 (n := 36) rfl ?_
  refine x_iconst dX6_next_36 (n := 37) rfl ic_1 ?_
  refine x_isub dX6_next_37 (n := 38) rfl ?_
  refine x_cSip (As := [.int x4, .int (-1), .int ((gI σ (o + 3) 0) - 1)]) (rest := []) cs_X6_166 (met_X6_isIn σ x4 (-1) ((gI σ (o + 3) 0) - 1) ) (by decide) rfl rfl rfl dX6_next_38 (n := 41) rfl (fun r9 q => ?_)
  subst q
  refine x_if_eq (tgt := 55) dX6_next_41 rfl (n := 44) rfl (fun c10 => ?_) (fun c10 => ?_)
  · have h := h.1 c10
    refine x_ldc2 dX6_next_55 (n := 58) rfl q1880 ?_
    exact x_lret rq ⟨hs, h⟩ dX6_next_58
  · have h := h.2 c10
    refine x_iload dX6_next_44 (n := 46) rfl 4 rfl ?_
    refine x_iconst dX6_next_46 (n := 47) rfl ic_m1 ?_
    refine x_bipush dX6_next_47 (n := 49) rfl bp_7 ?_
    refine x_cSip (As := [.int x5, .int (-1), .int 7]) (rest := []) cs_X6_166 (met_X6_isIn σ x5 (-1) 7 ) (by decide) rfl rfl rfl dX6_next_49 (n := 52) rfl (fun r12 q => ?_)
    subst q
    refine x_if_ne (tgt := 59) dX6_next_52 rfl (n := 55) rfl (fun c13 => ?_) (fun c13 => ?_)
    · have h := h.2 c13
      refine x_lload_n dX6_next_59 (n := 60) rfl rfl 1 rfl ?_
      refine x_lstore (lvs' := [(6, .long y1), (0, .ref o), (1, .long y1), (3, .int x3), (4, .int x4), (5, .int x5)]) dX6_next_60 (n := 62) rfl (by decide) rfl ?_
      exact x_sub [1, 2, 3, 4, 5, 0] rfl (xl_X6_next_62 o σ0 Q G hB0 rq y1 x3 x4 x5 (y1, σ) hs h)
    · have h := h.1 c13
      refine x_ldc2 dX6_next_55 (n := 58) rfl q1880 ?_
      exact x_lret rq ⟨hs, h⟩ dX6_next_58
theorem met_X6_next (o : Nat) (σ0 : Hp) (y1 : Int64) (x3 : Int32) (x4 : Int32) (x5 : Int32) (Q : Int64 → Hp → Prop) (hB0 : MB o σ0) (h : wp_X6_next o σ0 y1 x3 x4 x5 Q) : MetX yX6_next cX6_next 9 (some .long) rm_X6_next σ0 [.ref o, .long y1, .int x3, .int x4, .int x5] (oL (fun r σ' => SH σ0 σ' ∧ Q r σ')) 0 0 := by
  refine metX_of (own := RX6) (lvs := [(0, .ref o), (1, .long y1), (3, .int x3), (4, .int x4), (5, .int x5)]) (by decide) rfl (Nat.le_of_ble_eq_true rfl) rfl (fun G rq => ?_)
  unfold wp_X6_next at h
  refine x_aload_n dX6_next_0 (n := 1) rfl rfl 0 rfl ?_
  refine x_iconst dX6_next_1 (n := 2) rfl ic_0 ?_
  refine x_puti fp_X6_119_0 rfl hB0.1 dX6_next_2 (n := 5) rfl ?_
  refine x_lload_n dX6_next_5 (n := 6) rfl rfl 1 rfl ?_
  refine x_cSip (As := [.long y1]) (rest := []) cs_X6_413 (met_X6_isCount (pI σ0 o 2 0) y1 ) (by decide) rfl rfl rfl dX6_next_6 (n := 9) rfl (fun r2 q => ?_)
  subst q
  refine x_if_eq (tgt := 55) dX6_next_9 rfl (n := 12) rfl (fun c3 => ?_) (fun c3 => ?_)
  · have h := h.1 c3
    refine x_ldc2 dX6_next_55 (n := 58) rfl q1880 ?_
    exact x_lret rq ⟨(SH.rf (σ := σ0)).i, h⟩ dX6_next_58
  · have h := h.2 c3
    refine x_iload_n dX6_next_12 (n := 13) rfl rfl 2 rfl ?_
    refine x_iconst dX6_next_13 (n := 14) rfl ic_m1 ?_
    refine x_icmp_eq (tgt := 27) dX6_next_14 rfl (n := 17) rfl (fun c4 => ?_) (fun c4 => ?_)
    · have h := h.1 c4
      exact x_sub [0, 1, 2, 3, 4] rfl (xj_X6_next_27 o σ0 Q G hB0 rq (pI σ0 o 2 0) y1 x3 x4 x5 (SH.rf (σ := σ0)).i h)
    · have h := h.2 c4
      refine x_iload_n dX6_next_17 (n := 18) rfl rfl 2 rfl ?_
      refine x_iconst dX6_next_18 (n := 19) rfl ic_1 ?_
      refine x_ldc dX6_next_19 (n := 21) rfl q1786 ?_
      refine x_cSip (As := [.int x3, .int 1, .int 99999]) (rest := []) cs_X6_166 (met_X6_isIn (pI σ0 o 2 0) x3 1 99999 ) (by decide) rfl rfl rfl dX6_next_21 (n := 24) rfl (fun r6 q => ?_)
      subst q
      refine x_if_eq (tgt := 55) dX6_next_24 rfl (n := 27) rfl (fun c7 => ?_) (fun c7 => ?_)
      · have h := h.1 c7
        refine x_ldc2 dX6_next_55 (n := 58) rfl q1880 ?_
        exact x_lret rq ⟨(SH.rf (σ := σ0)).i, h⟩ dX6_next_58
      · have h := h.2 c7
        exact x_sub [0, 1, 2, 3, 4] rfl (xj_X6_next_27 o σ0 Q G hB0 rq (pI σ0 o 2 0) y1 x3 x4 x5 (SH.rf (σ := σ0)).i h)
abbrev rm_X6_alike : Room := { frames := 2, cells := 0, slots := 0, locals := 56 }
def lb_X6_alike_40 (o : Nat) (x1 : Int32) (x2 : Int32) (y3 : Int64) (x5 : Int32) (Q : Int64 → Hp → Prop)  (K40 : Int64 × Hp → Prop) (z : Int64 × Hp) : Prop := match z with
  | (y6, σ) => ((y3 + 20000) ≤ y6 → Q (-2) σ) ∧ (¬ (y3 + 20000) ≤ y6 → (1000000000000 < y6 → Q (-2) σ) ∧ (¬ 1000000000000 < y6 → wp_X6_date1 o σ x1 y6 (fun r15 s13 => (r15 = 0 → K40 (y6 + 1, s13)) ∧ (¬ r15 = 0 → wp_X6_date1 o s13 x2 y6 (fun r19 s17 => (r19 = 0 → K40 (y6 + 1, s17)) ∧ (¬ r19 = 0 → ((gL s17 o 54) = (gL s13 o 54) → (x5 = 0 → Q y6 s17) ∧ (¬ x5 = 0 → ((gL s17 o 53) = (gL s13 o 53) → Q y6 s17) ∧ (¬ (gL s17 o 53) = (gL s13 o 53) → K40 (y6 + 1, s17)))) ∧ (¬ (gL s17 o 54) = (gL s13 o 54) → K40 (y6 + 1, s17))))))))
def wp_X6_alike (o : Nat) (σ0 : Hp) (x1 : Int32) (x2 : Int32) (y3 : Int64) (x5 : Int32) (Q : Int64 → Hp → Prop) : Prop := ((f_X6_isLand o (pI σ0 o 2 0) x1) = 0 → Q (-1) (pI σ0 o 2 0)) ∧ (¬ (f_X6_isLand o (pI σ0 o 2 0) x1) = 0 → ((f_X6_isLand o (pI σ0 o 2 0) x2) = 0 → Q (-1) (pI σ0 o 2 0)) ∧ (¬ (f_X6_isLand o (pI σ0 o 2 0) x2) = 0 → (x1 = x2 → Q (-1) (pI σ0 o 2 0)) ∧ (¬ x1 = x2 → ((f_X6_isCount y3) = 0 → Q (-1) (pI σ0 o 2 0)) ∧ (¬ (f_X6_isCount y3) = 0 → lp (lb_X6_alike_40 o x1 x2 y3 x5 Q) (y3, pI σ0 o 2 0)))))
theorem xl_X6_alike_40 (o : Nat) (σ0 : Hp) (Q : Int64 → Hp → Prop) (G : XE) (hB0 : MB o σ0) (rq : RQ G 0 0 (oL (fun r σ' => SH σ0 σ' ∧ Q r σ'))) (x1 : Int32) (x2 : Int32) (y3 : Int64) (x5 : Int32)    : ∀ z : Int64 × Hp, SH σ0 z.2 → lp (lb_X6_alike_40 o x1 x2 y3 x5 Q ) z → X G rm_X6_alike cX6_alike RX6 12 (some .long) z.2 0 0 40 [(0, .ref o), (1, .int x1), (2, .int x2), (3, .long y3), (5, .int x5), (6, .long z.1)] [] := by
  intro z
  refine fun hs h => lp_X (P := fun z => SH σ0 z.2 → X G rm_X6_alike cX6_alike RX6 12 (some .long) z.2 0 0 40 [(0, .ref o), (1, .int x1), (2, .int x2), (3, .long y3), (5, .int x5), (6, .long z.1)] []) ?_ h hs
  intro K40 hK40 z h hs
  obtain ⟨y6, σ⟩ := z
  have hs : SH σ0 σ := hs
  have hB := hB0.sh hs
  simp only [lb_X6_alike_40] at h
  show X G rm_X6_alike cX6_alike RX6 12 (some .long) σ 0 0 40 [(0, .ref o), (1, .int x1), (2, .int x2), (3, .long y3), (5, .int x5), (6, .long y6)] []
  have hK40 : ∀ z : (Int64 × Hp), SH σ0 z.2 → K40 z → X G rm_X6_alike cX6_alike RX6 12 (some .long) z.2 0 0 40 [(0, .ref o), (1, .int x1), (2, .int x2), (3, .long y3), (5, .int x5), (6, .long z.1)] [] := fun z hs h => hK40 z h hs
  refine x_lload dX6_alike_40 (n := 42) rfl 5 rfl ?_
  refine x_lload_n dX6_alike_42 (n := 43) rfl rfl 3 rfl ?_
  refine x_ldc2 dX6_alike_43 (n := 46) rfl q2039 ?_
  refine x_ladd dX6_alike_46 (n := 47) rfl ?_
  refine x_lcmp_ge (tgt := 132) dX6_alike_47 (pc1 := 48) rfl dX6_alike_48 rfl (n := 51) rfl (fun c11 => ?_) (fun c11 => ?_)
  · have h := h.1 c11
    refine x_ldc2 dX6_alike_132 (n := 135) rfl q2040 ?_
    exact x_lret rq ⟨hs, h⟩ dX6_alike_135
  · have h := h.2 c11
    refine x_lload dX6_alike_51 (n := 53) rfl 5 rfl ?_
    refine x_ldc2 dX6_alike_53 (n := 56) rfl q1900 ?_
    refine x_lcmp_gt (tgt := 132) dX6_alike_56 (pc1 := 57) rfl dX6_alike_57 rfl (n := 60) rfl (fun c12 => ?_) (fun c12 => ?_)
    · have h := h.1 c12
      refine x_ldc2 dX6_alike_132 (n := 135) rfl q2040 ?_
      exact x_lret rq ⟨hs, h⟩ dX6_alike_135
    · have h := h.2 c12
      refine x_aload_n dX6_alike_60 (n := 61) rfl rfl 0 rfl ?_
      refine x_iload_n dX6_alike_61 (n := 62) rfl rfl 1 rfl ?_
      refine x_lload dX6_alike_62 (n := 64) rfl 5 rfl ?_
      refine x_cVim (As := [.int x1, .long y6]) (rest := []) cv_X6_416 ck0 (met_X6_date1 o σ x1 y6 _ hB h) hB.1 (by decide) rfl rfl rfl dX6_alike_64 (n := 67) rfl (fun r15 s13 hs14 h => ?_)
      have hs14t := hs.tr hs14; have hBs13 := hB0.sh hs14t
      refine x_if_ne (tgt := 73) dX6_alike_67 rfl (n := 70) rfl (fun c16 => ?_) (fun c16 => ?_)
      · have h := h.2 c16
        refine x_aload_n dX6_alike_73 (n := 74) rfl rfl 0 rfl ?_
        refine x_getl fl_X6_396_0 rfl hBs13.1 rfl dX6_alike_74 (n := 77) rfl ?_
        refine x_lstore (lvs' := [(8, .long (gL s13 o 53)), (0, .ref o), (1, .int x1), (2, .int x2), (3, .long y3), (5, .int x5), (6, .long y6)]) dX6_alike_77 (n := 79) rfl (by decide) rfl ?_
        refine x_aload_n dX6_alike_79 (n := 80) rfl rfl 1 rfl ?_
        refine x_getl fl_X6_399_0 rfl hBs13.1 rfl dX6_alike_80 (n := 83) rfl ?_
        refine x_lstore (lvs' := [(10, .long (gL s13 o 54)), (8, .long (gL s13 o 53)), (0, .ref o), (1, .int x1), (2, .int x2), (3, .long y3), (5, .int x5), (6, .long y6)]) dX6_alike_83 (n := 85) rfl (by decide) rfl ?_
        refine x_aload_n dX6_alike_85 (n := 86) rfl rfl 2 rfl ?_
        refine x_iload_n dX6_alike_86 (n := 87) rfl rfl 4 rfl ?_
        refine x_lload dX6_alike_87 (n := 89) rfl 7 rfl ?_
        refine x_cVim (As := [.int x2, .long y6]) (rest := []) cv_X6_416 ck0 (met_X6_date1 o s13 x2 y6 _ hBs13 h) hBs13.1 (by decide) rfl rfl rfl dX6_alike_89 (n := 92) rfl (fun r19 s17 hs18 h => ?_)
        have hs18t := hs14t.tr hs18; have hBs17 := hB0.sh hs18t
        refine x_if_eq (tgt := 123) dX6_alike_92 rfl (n := 95) rfl (fun c20 => ?_) (fun c20 => ?_)
        · have h := h.1 c20
          refine x_lload dX6_alike_123 (n := 125) rfl 7 rfl ?_
          refine x_lconst dX6_alike_125 (n := 126) rfl lc_1 ?_
          refine x_ladd dX6_alike_126 (n := 127) rfl ?_
          refine x_lstore (lvs' := [(6, .long (y6 + 1)), (10, .long (gL s13 o 54)), (8, .long (gL s13 o 53)), (0, .ref o), (1, .int x1), (2, .int x2), (3, .long y3), (5, .int x5)]) dX6_alike_127 (n := 129) rfl (by decide) rfl ?_
          refine x_goto (tgt := 40) dX6_alike_129 rfl ?_
          exact x_sub [3, 4, 5, 6, 7, 0] rfl (hK40 (y6 + 1, s17) hs18t h)
        · have h := h.2 c20
          refine x_aload_n dX6_alike_95 (n := 96) rfl rfl 2 rfl ?_
          refine x_getl fl_X6_399_0 rfl hBs17.1 rfl dX6_alike_96 (n := 99) rfl ?_
          refine x_lload dX6_alike_99 (n := 101) rfl 0 rfl ?_
          refine x_lcmp_ne (tgt := 123) dX6_alike_101 (pc1 := 102) rfl dX6_alike_102 rfl (n := 105) rfl (fun c21 => ?_) (fun c21 => ?_)
          · have h := h.2 c21
            refine x_lload dX6_alike_123 (n := 125) rfl 7 rfl ?_
            refine x_lconst dX6_alike_125 (n := 126) rfl lc_1 ?_
            refine x_ladd dX6_alike_126 (n := 127) rfl ?_
            refine x_lstore (lvs' := [(6, .long (y6 + 1)), (10, .long (gL s13 o 54)), (8, .long (gL s13 o 53)), (0, .ref o), (1, .int x1), (2, .int x2), (3, .long y3), (5, .int x5)]) dX6_alike_127 (n := 129) rfl (by decide) rfl ?_
            refine x_goto (tgt := 40) dX6_alike_129 rfl ?_
            exact x_sub [3, 4, 5, 6, 7, 0] rfl (hK40 (y6 + 1, s17) hs18t h)
          · have h := h.1 c21
            refine x_iload dX6_alike_105 (n := 107) rfl 6 rfl ?_
            refine x_if_eq (tgt := 120) dX6_alike_107 rfl (n := 110) rfl (fun c22 => ?_) (fun c22 => ?_)
            · have h := h.1 c22
              refine x_lload dX6_alike_120 (n := 122) rfl 7 rfl ?_
              exact x_lret rq ⟨hs18t, h⟩ dX6_alike_122
            · have h := h.2 c22
              refine x_aload_n dX6_alike_110 (n := 111) rfl rfl 2 rfl ?_
              refine x_getl fl_X6_396_0 rfl hBs17.1 rfl dX6_alike_111 (n := 114) rfl ?_
              refine x_lload dX6_alike_114 (n := 116) rfl 1 rfl ?_
              refine x_lcmp_ne (tgt := 123) dX6_alike_116 (pc1 := 117) rfl dX6_alike_117 rfl (n := 120) rfl (fun c23 => ?_) (fun c23 => ?_)
              · have h := h.2 c23
                refine x_lload dX6_alike_123 (n := 125) rfl 7 rfl ?_
                refine x_lconst dX6_alike_125 (n := 126) rfl lc_1 ?_
                refine x_ladd dX6_alike_126 (n := 127) rfl ?_
                refine x_lstore (lvs' := [(6, .long (y6 + 1)), (10, .long (gL s13 o 54)), (8, .long (gL s13 o 53)), (0, .ref o), (1, .int x1), (2, .int x2), (3, .long y3), (5, .int x5)]) dX6_alike_127 (n := 129) rfl (by decide) rfl ?_
                refine x_goto (tgt := 40) dX6_alike_129 rfl ?_
                exact x_sub [3, 4, 5, 6, 7, 0] rfl (hK40 (y6 + 1, s17) hs18t h)
              · have h := h.1 c23
                refine x_lload dX6_alike_120 (n := 122) rfl 7 rfl ?_
                exact x_lret rq ⟨hs18t, h⟩ dX6_alike_122
      · have h := h.1 c16
        refine x_goto (tgt := 123) dX6_alike_70 rfl ?_
        refine x_lload dX6_alike_123 (n := 125) rfl 5 rfl ?_
        refine x_lconst dX6_alike_125 (n := 126) rfl lc_1 ?_
        refine x_ladd dX6_alike_126 (n := 127) rfl ?_
        refine x_lstore (lvs' := [(6, .long (y6 + 1)), (0, .ref o), (1, .int x1), (2, .int x2), (3, .long y3), (5, .int x5)]) dX6_alike_127 (n := 129) rfl (by decide) rfl ?_
        refine x_goto (tgt := 40) dX6_alike_129 rfl ?_
        exact x_sub [1, 2, 3, 4, 5, 0] rfl (hK40 (y6 + 1, s13) hs14t h)
theorem met_X6_alike (o : Nat) (σ0 : Hp) (x1 : Int32) (x2 : Int32) (y3 : Int64) (x5 : Int32) (Q : Int64 → Hp → Prop) (hB0 : MB o σ0) (h : wp_X6_alike o σ0 x1 x2 y3 x5 Q) : MetX yX6_alike cX6_alike 12 (some .long) rm_X6_alike σ0 [.ref o, .int x1, .int x2, .long y3, .int x5] (oL (fun r σ' => SH σ0 σ' ∧ Q r σ')) 0 0 := by
  refine metX_of (own := RX6) (lvs := [(0, .ref o), (1, .int x1), (2, .int x2), (3, .long y3), (5, .int x5)]) (by decide) rfl (Nat.le_of_ble_eq_true rfl) rfl (fun G rq => ?_)
  unfold wp_X6_alike at h
  refine x_aload_n dX6_alike_0 (n := 1) rfl rfl 0 rfl ?_
  refine x_iconst dX6_alike_1 (n := 2) rfl ic_0 ?_
  refine x_puti fp_X6_119_0 rfl hB0.1 dX6_alike_2 (n := 5) rfl ?_
  refine x_aload_n dX6_alike_5 (n := 6) rfl rfl 0 rfl ?_
  refine x_iload_n dX6_alike_6 (n := 7) rfl rfl 1 rfl ?_
  refine x_cVip (As := [.int x1]) (rest := []) cv_X6_404 ck0 (met_X6_isLand o (pI σ0 o 2 0) x1 hB0.i) hB0.i.1 (by decide) rfl rfl rfl dX6_alike_7 (n := 10) rfl (fun r2 q => ?_)
  subst q
  refine x_if_eq (tgt := 33) dX6_alike_10 rfl (n := 13) rfl (fun c3 => ?_) (fun c3 => ?_)
  · have h := h.1 c3
    refine x_ldc2 dX6_alike_33 (n := 36) rfl q1880 ?_
    exact x_lret rq ⟨(SH.rf (σ := σ0)).i, h⟩ dX6_alike_36
  · have h := h.2 c3
    refine x_aload_n dX6_alike_13 (n := 14) rfl rfl 0 rfl ?_
    refine x_iload_n dX6_alike_14 (n := 15) rfl rfl 2 rfl ?_
    refine x_cVip (As := [.int x2]) (rest := []) cv_X6_404 ck0 (met_X6_isLand o (pI σ0 o 2 0) x2 hB0.i) hB0.i.1 (by decide) rfl rfl rfl dX6_alike_15 (n := 18) rfl (fun r5 q => ?_)
    subst q
    refine x_if_eq (tgt := 33) dX6_alike_18 rfl (n := 21) rfl (fun c6 => ?_) (fun c6 => ?_)
    · have h := h.1 c6
      refine x_ldc2 dX6_alike_33 (n := 36) rfl q1880 ?_
      exact x_lret rq ⟨(SH.rf (σ := σ0)).i, h⟩ dX6_alike_36
    · have h := h.2 c6
      refine x_iload_n dX6_alike_21 (n := 22) rfl rfl 1 rfl ?_
      refine x_iload_n dX6_alike_22 (n := 23) rfl rfl 2 rfl ?_
      refine x_icmp_eq (tgt := 33) dX6_alike_23 rfl (n := 26) rfl (fun c7 => ?_) (fun c7 => ?_)
      · have h := h.1 c7
        refine x_ldc2 dX6_alike_33 (n := 36) rfl q1880 ?_
        exact x_lret rq ⟨(SH.rf (σ := σ0)).i, h⟩ dX6_alike_36
      · have h := h.2 c7
        refine x_lload_n dX6_alike_26 (n := 27) rfl rfl 3 rfl ?_
        refine x_cSip (As := [.long y3]) (rest := []) cs_X6_413 (met_X6_isCount (pI σ0 o 2 0) y3 ) (by decide) rfl rfl rfl dX6_alike_27 (n := 30) rfl (fun r9 q => ?_)
        subst q
        refine x_if_ne (tgt := 37) dX6_alike_30 rfl (n := 33) rfl (fun c10 => ?_) (fun c10 => ?_)
        · have h := h.2 c10
          refine x_lload_n dX6_alike_37 (n := 38) rfl rfl 3 rfl ?_
          refine x_lstore (lvs' := [(6, .long y3), (0, .ref o), (1, .int x1), (2, .int x2), (3, .long y3), (5, .int x5)]) dX6_alike_38 (n := 40) rfl (by decide) rfl ?_
          exact x_sub [1, 2, 3, 4, 5, 0] rfl (xl_X6_alike_40 o σ0 Q G hB0 rq x1 x2 y3 x5 (y3, pI σ0 o 2 0) (SH.rf (σ := σ0)).i h)
        · have h := h.1 c10
          refine x_ldc2 dX6_alike_33 (n := 36) rfl q1880 ?_
          exact x_lret rq ⟨(SH.rf (σ := σ0)).i, h⟩ dX6_alike_36
abbrev rm_X6_yearsLater : Room := { frames := 3, cells := 0, slots := 0, locals := 73 }
def f_X6_yearsLater (o : Nat) (σ : Hp) (x1 : Int32) (y2 : Int64) (y4 : Int64) : Int64 := if (f_X6_isYear o σ x1 y2) = 0 then (-1) else if (f_X6_lengthOf o σ x1 y2) < y4 then f_X6_countOf o σ x1 (y2 + 1) 1 else f_X6_countOf o σ x1 y2 y4
def ok_X6_yearsLater (o : Nat) (σ : Hp) (x1 : Int32) (y2 : Int64) (y4 : Int64) : Prop := (ok_X6_isYear o σ x1 y2) ∧ (((f_X6_isYear o σ x1 y2) = 0 → True) ∧ (¬ (f_X6_isYear o σ x1 y2) = 0 → ((ok_X6_lengthOf o σ x1 y2) ∧ (((f_X6_lengthOf o σ x1 y2) < y4 → (ok_X6_countOf o σ x1 (y2 + 1) 1)) ∧ (¬ (f_X6_lengthOf o σ x1 y2) < y4 → (ok_X6_countOf o σ x1 y2 y4))))))
theorem met_X6_yearsLater (o : Nat) (σ : Hp) (x1 : Int32) (y2 : Int64) (y4 : Int64) (hB : MB o σ) (hk : ok_X6_yearsLater o σ x1 y2 y4) : MetX yX6_yearsLater cX6_yearsLater 6 (some .long) rm_X6_yearsLater σ [.ref o, .int x1, .long y2, .long y4] (oL (fun r σ' => σ' = σ ∧ r = (f_X6_yearsLater o σ x1 y2 y4))) 0 0 := by
  refine metX_of (own := RX6) (lvs := [(0, .ref o), (1, .int x1), (2, .long y2), (4, .long y4)]) (by decide) rfl (Nat.le_of_ble_eq_true rfl) rfl (fun G rq => ?_)
  have hv : (f_X6_yearsLater o σ x1 y2 y4) = _ := f_X6_yearsLater.eq_1 _ _ _ _ _
  unfold ok_X6_yearsLater at hk
  refine x_aload_n dX6_yearsLater_0 (n := 1) rfl rfl 0 rfl ?_
  refine x_iload_n dX6_yearsLater_1 (n := 2) rfl rfl 1 rfl ?_
  refine x_lload_n dX6_yearsLater_2 (n := 3) rfl rfl 2 rfl ?_
  obtain ⟨b1, hk⟩ := hk
  refine x_cVip (As := [.int x1, .long y2]) (rest := []) cv_X6_385 ck0 (met_X6_isYear o σ x1 y2 hB b1) hB.1 (by decide) rfl rfl rfl dX6_yearsLater_3 (n := 6) rfl (fun r2 q => ?_)
  subst q
  refine x_if_ne (tgt := 13) dX6_yearsLater_6 rfl (n := 9) rfl (fun c3 => ?_) (fun c3 => ?_)
  · have hk := hk.2 c3
    have hv := hv.trans (if_neg c3)
    refine x_aload_n dX6_yearsLater_13 (n := 14) rfl rfl 0 rfl ?_
    refine x_iload_n dX6_yearsLater_14 (n := 15) rfl rfl 1 rfl ?_
    refine x_lload_n dX6_yearsLater_15 (n := 16) rfl rfl 2 rfl ?_
    obtain ⟨b4, hk⟩ := hk
    refine x_cVlp (As := [.int x1, .long y2]) (rest := []) cv_X6_375 ck0 (met_X6_lengthOf o σ x1 y2 hB b4) hB.1 (by decide) rfl rfl rfl dX6_yearsLater_16 (n := 19) rfl (fun r5 q => ?_)
    subst q
    refine x_lload dX6_yearsLater_19 (n := 21) rfl 3 rfl ?_
    refine x_lcmp_lt (tgt := 34) dX6_yearsLater_21 (pc1 := 22) rfl dX6_yearsLater_22 rfl (n := 25) rfl (fun c6 => ?_) (fun c6 => ?_)
    · have hk := hk.1 c6
      have hv := hv.trans (if_pos c6)
      refine x_aload_n dX6_yearsLater_34 (n := 35) rfl rfl 0 rfl ?_
      refine x_iload_n dX6_yearsLater_35 (n := 36) rfl rfl 1 rfl ?_
      refine x_lload_n dX6_yearsLater_36 (n := 37) rfl rfl 2 rfl ?_
      refine x_lconst dX6_yearsLater_37 (n := 38) rfl lc_1 ?_
      refine x_ladd dX6_yearsLater_38 (n := 39) rfl ?_
      refine x_lconst dX6_yearsLater_39 (n := 40) rfl lc_1 ?_
      have b7 := hk
      refine x_cVlp (As := [.int x1, .long (y2 + 1), .long 1]) (rest := []) cv_X6_275 ck0 (met_X6_countOf o σ x1 (y2 + 1) 1 hB b7) hB.1 (by decide) rfl rfl rfl dX6_yearsLater_40 (n := 43) rfl (fun r8 q => ?_)
      subst q
      exact x_lret rq ⟨rfl, hv.symm⟩ dX6_yearsLater_43
    · have hk := hk.2 c6
      have hv := hv.trans (if_neg c6)
      refine x_aload_n dX6_yearsLater_25 (n := 26) rfl rfl 0 rfl ?_
      refine x_iload_n dX6_yearsLater_26 (n := 27) rfl rfl 1 rfl ?_
      refine x_lload_n dX6_yearsLater_27 (n := 28) rfl rfl 2 rfl ?_
      refine x_lload dX6_yearsLater_28 (n := 30) rfl 3 rfl ?_
      have b9 := hk
      refine x_cVlp (As := [.int x1, .long y2, .long y4]) (rest := []) cv_X6_275 ck0 (met_X6_countOf o σ x1 y2 y4 hB b9) hB.1 (by decide) rfl rfl rfl dX6_yearsLater_30 (n := 33) rfl (fun r10 q => ?_)
      subst q
      exact x_lret rq ⟨rfl, hv.symm⟩ dX6_yearsLater_33
  · have hk := hk.1 c3
    have hv := hv.trans (if_pos c3)
    refine x_ldc2 dX6_yearsLater_9 (n := 12) rfl q1880 ?_
    exact x_lret rq ⟨rfl, hv.symm⟩ dX6_yearsLater_12
abbrev rm_X6_dueOf : Room := { frames := 4, cells := 0, slots := 0, locals := 106 }
def wp_X6_dueOf (o : Nat) (σ0 : Hp) (x1 : Int32) (x2 : Int32) (Q : Int64 → Hp → Prop) : Prop := (vp_in ((3 * x1) + 1) 24) ∧ (∀ v2 : Int32, v2 = gI σ0 (o + 14) ((3 * x1) + 1).toNatClampNeg → (vp_in (3 * x1) 24) ∧ (((gI σ0 (o + 14) (3 * x1).toNatClampNeg) = 0 → (ok_X6_yearsLater o σ0 x2 ((gL σ0 o 53) + v2.toInt64) (gL σ0 o 54)) ∧ (Q (f_X6_yearsLater o σ0 x2 ((gL σ0 o 53) + v2.toInt64) (gL σ0 o 54)) σ0)) ∧ (¬ (gI σ0 (o + 14) (3 * x1).toNatClampNeg) = 0 → (vp_in (3 * x1) 24) ∧ (((gI σ0 (o + 14) (3 * x1).toNatClampNeg) = 2 → (vp_in x1 8) ∧ (wp_X6_festiveOf o σ0 v2 ((gL σ0 (o + 13) x1.toNatClampNeg) + 1) (fun r14 s12 => Q r14 s12))) ∧ (¬ (gI σ0 (o + 14) (3 * x1).toNatClampNeg) = 2 → (vp_in x1 8) ∧ ((((gL σ0 (o + 13) x1.toNatClampNeg) + v2.toInt64) ≤ 1000000000000 → (vp_in x1 8) ∧ (Q ((gL σ0 (o + 13) x1.toNatClampNeg) + v2.toInt64) σ0)) ∧ (¬ ((gL σ0 (o + 13) x1.toNatClampNeg) + v2.toInt64) ≤ 1000000000000 → Q (-1) σ0)))))))
theorem met_X6_dueOf (o : Nat) (σ0 : Hp) (x1 : Int32) (x2 : Int32) (Q : Int64 → Hp → Prop) (hB0 : MB o σ0) (h : wp_X6_dueOf o σ0 x1 x2 Q) : MetX yX6_dueOf cX6_dueOf 4 (some .long) rm_X6_dueOf σ0 [.ref o, .int x1, .int x2] (oL (fun r σ' => SH σ0 σ' ∧ Q r σ')) 0 0 := by
  refine metX_of (own := RX6) (lvs := [(0, .ref o), (1, .int x1), (2, .int x2)]) (by decide) rfl (Nat.le_of_ble_eq_true rfl) rfl (fun G rq => ?_)
  unfold wp_X6_dueOf at h
  refine x_aload_n dX6_dueOf_0 (n := 1) rfl rfl 0 rfl ?_
  refine x_getr fl_X6_54_0 rfl hB0.1 hB0.r38 dX6_dueOf_1 (n := 4) rfl ?_
  refine x_iconst dX6_dueOf_4 (n := 5) rfl ic_3 ?_
  refine x_iload_n dX6_dueOf_5 (n := 6) rfl rfl 1 rfl ?_
  refine x_imul dX6_dueOf_6 (n := 7) rfl ?_
  refine x_iconst dX6_dueOf_7 (n := 8) rfl ic_1 ?_
  refine x_iadd dX6_dueOf_8 (n := 9) rfl ?_
  obtain ⟨b1, h⟩ := h
  refine x_iald hB0.a38 b1 rfl dX6_dueOf_9 (n := 10) rfl ?_
  refine x_topi (fun v2 e3 => ?_)
  have h := h v2 e3
  refine x_istore_n (lvs' := [(3, .int v2), (0, .ref o), (1, .int x1), (2, .int x2)]) dX6_dueOf_10 (n := 11) rfl rfl (by decide) rfl ?_
  refine x_aload_n dX6_dueOf_11 (n := 12) rfl rfl 1 rfl ?_
  refine x_getr fl_X6_54_0 rfl hB0.1 hB0.r38 dX6_dueOf_12 (n := 15) rfl ?_
  refine x_iconst dX6_dueOf_15 (n := 16) rfl ic_3 ?_
  refine x_iload_n dX6_dueOf_16 (n := 17) rfl rfl 2 rfl ?_
  refine x_imul dX6_dueOf_17 (n := 18) rfl ?_
  obtain ⟨b4, h⟩ := h
  refine x_iald hB0.a38 b4 rfl dX6_dueOf_18 (n := 19) rfl ?_
  refine x_if_ne (tgt := 39) dX6_dueOf_19 rfl (n := 22) rfl (fun c5 => ?_) (fun c5 => ?_)
  · have h := h.2 c5
    refine x_aload_n dX6_dueOf_39 (n := 40) rfl rfl 1 rfl ?_
    refine x_getr fl_X6_54_0 rfl hB0.1 hB0.r38 dX6_dueOf_40 (n := 43) rfl ?_
    refine x_iconst dX6_dueOf_43 (n := 44) rfl ic_3 ?_
    refine x_iload_n dX6_dueOf_44 (n := 45) rfl rfl 2 rfl ?_
    refine x_imul dX6_dueOf_45 (n := 46) rfl ?_
    obtain ⟨b6, h⟩ := h
    refine x_iald hB0.a38 b6 rfl dX6_dueOf_46 (n := 47) rfl ?_
    refine x_iconst dX6_dueOf_47 (n := 48) rfl ic_2 ?_
    refine x_icmp_ne (tgt := 65) dX6_dueOf_48 rfl (n := 51) rfl (fun c7 => ?_) (fun c7 => ?_)
    · have h := h.2 c7
      refine x_aload_n dX6_dueOf_65 (n := 66) rfl rfl 1 rfl ?_
      refine x_getr fl_X6_51_0 rfl hB0.1 hB0.r37 dX6_dueOf_66 (n := 69) rfl ?_
      refine x_iload_n dX6_dueOf_69 (n := 70) rfl rfl 2 rfl ?_
      obtain ⟨b8, h⟩ := h
      refine x_lald hB0.a37 b8 rfl dX6_dueOf_70 (n := 71) rfl ?_
      refine x_iload_n dX6_dueOf_71 (n := 72) rfl rfl 0 rfl ?_
      refine x_i2l dX6_dueOf_72 (n := 73) rfl ?_
      refine x_ladd dX6_dueOf_73 (n := 74) rfl ?_
      refine x_ldc2 dX6_dueOf_74 (n := 77) rfl q1900 ?_
      refine x_lcmp_le (tgt := 87) dX6_dueOf_77 (pc1 := 78) rfl dX6_dueOf_78 rfl (n := 81) rfl (fun c9 => ?_) (fun c9 => ?_)
      · have h := h.1 c9
        refine x_aload_n dX6_dueOf_87 (n := 88) rfl rfl 1 rfl ?_
        refine x_getr fl_X6_51_0 rfl hB0.1 hB0.r37 dX6_dueOf_88 (n := 91) rfl ?_
        refine x_iload_n dX6_dueOf_91 (n := 92) rfl rfl 2 rfl ?_
        obtain ⟨b10, h⟩ := h
        refine x_lald hB0.a37 b10 rfl dX6_dueOf_92 (n := 93) rfl ?_
        refine x_iload_n dX6_dueOf_93 (n := 94) rfl rfl 0 rfl ?_
        refine x_i2l dX6_dueOf_94 (n := 95) rfl ?_
        refine x_ladd dX6_dueOf_95 (n := 96) rfl ?_
        exact x_lret rq ⟨(SH.rf (σ := σ0)), h⟩ dX6_dueOf_96
      · have h := h.2 c9
        refine x_ldc2 dX6_dueOf_81 (n := 84) rfl q1880 ?_
        refine x_goto (tgt := 96) dX6_dueOf_84 rfl ?_
        exact x_lret rq ⟨(SH.rf (σ := σ0)), h⟩ dX6_dueOf_96
    · have h := h.1 c7
      refine x_aload_n dX6_dueOf_51 (n := 52) rfl rfl 1 rfl ?_
      refine x_iload_n dX6_dueOf_52 (n := 53) rfl rfl 0 rfl ?_
      refine x_aload_n dX6_dueOf_53 (n := 54) rfl rfl 1 rfl ?_
      refine x_getr fl_X6_51_0 rfl hB0.1 hB0.r37 dX6_dueOf_54 (n := 57) rfl ?_
      refine x_iload_n dX6_dueOf_57 (n := 58) rfl rfl 2 rfl ?_
      obtain ⟨b11, h⟩ := h
      refine x_lald hB0.a37 b11 rfl dX6_dueOf_58 (n := 59) rfl ?_
      refine x_lconst dX6_dueOf_59 (n := 60) rfl lc_1 ?_
      refine x_ladd dX6_dueOf_60 (n := 61) rfl ?_
      refine x_cVlm (As := [.int v2, .long ((gL σ0 (o + 13) x1.toNatClampNeg) + 1)]) (rest := []) cv_X6_458 ck0 (met_X6_festiveOf o σ0 v2 ((gL σ0 (o + 13) x1.toNatClampNeg) + 1) _ hB0 h) hB0.1 (by decide) rfl rfl rfl dX6_dueOf_61 (n := 64) rfl (fun r14 s12 hs13 h => ?_)
      have hs13t := (SH.rf (σ := σ0)).tr hs13; have hBs12 := hB0.sh hs13t
      exact x_lret rq ⟨hs13t, h⟩ dX6_dueOf_64
  · have h := h.1 c5
    refine x_aload_n dX6_dueOf_22 (n := 23) rfl rfl 1 rfl ?_
    refine x_iload_n dX6_dueOf_23 (n := 24) rfl rfl 3 rfl ?_
    refine x_aload_n dX6_dueOf_24 (n := 25) rfl rfl 1 rfl ?_
    refine x_getl fl_X6_396_0 rfl hB0.1 rfl dX6_dueOf_25 (n := 28) rfl ?_
    refine x_iload_n dX6_dueOf_28 (n := 29) rfl rfl 0 rfl ?_
    refine x_i2l dX6_dueOf_29 (n := 30) rfl ?_
    refine x_ladd dX6_dueOf_30 (n := 31) rfl ?_
    refine x_aload_n dX6_dueOf_31 (n := 32) rfl rfl 1 rfl ?_
    refine x_getl fl_X6_399_0 rfl hB0.1 rfl dX6_dueOf_32 (n := 35) rfl ?_
    obtain ⟨b15, h⟩ := h
    refine x_cVlp (As := [.int x2, .long ((gL σ0 o 53) + v2.toInt64), .long (gL σ0 o 54)]) (rest := []) cv_X6_477 ck0 (met_X6_yearsLater o σ0 x2 ((gL σ0 o 53) + v2.toInt64) (gL σ0 o 54) hB0 b15) hB0.1 (by decide) rfl rfl rfl dX6_dueOf_35 (n := 38) rfl (fun r16 q => ?_)
    subst q
    exact x_lret rq ⟨(SH.rf (σ := σ0)), h⟩ dX6_dueOf_38
abbrev rm_X6_endedBy : Room := { frames := 2, cells := 0, slots := 0, locals := 56 }
def wp_X6_endedBy (o : Nat) (σ0 : Hp) (x1 : Int32) (y2 : Int64) (Q : Int64 → Hp → Prop) : Prop := (vp_in ((3 * x1) + 2) 24) ∧ ((((gI σ0 (o + 5) ((3 * x1) + 2).toNatClampNeg).toInt64) ≤ y2 → wp_X6_date1 o σ0 x1 y2 (fun r5 s3 => (r5 = 0 → (ok_X6_endYear o s3 x1) ∧ (Q (f_X6_endYear o s3 x1) s3)) ∧ (¬ r5 = 0 → (ok_X6_lengthOf o s3 x1 (gL s3 o 53)) ∧ (((gL s3 o 54) = (f_X6_lengthOf o s3 x1 (gL s3 o 53)) → Q (gL s3 o 53) s3) ∧ (¬ (gL s3 o 54) = (f_X6_lengthOf o s3 x1 (gL s3 o 53)) → Q ((gL s3 o 53) - 1) s3))))) ∧ (¬ ((gI σ0 (o + 5) ((3 * x1) + 2).toNatClampNeg).toInt64) ≤ y2 → Q 0 σ0))
theorem met_X6_endedBy (o : Nat) (σ0 : Hp) (x1 : Int32) (y2 : Int64) (Q : Int64 → Hp → Prop) (hB0 : MB o σ0) (h : wp_X6_endedBy o σ0 x1 y2 Q) : MetX yX6_endedBy cX6_endedBy 4 (some .long) rm_X6_endedBy σ0 [.ref o, .int x1, .long y2] (oL (fun r σ' => SH σ0 σ' ∧ Q r σ')) 0 0 := by
  refine metX_of (own := RX6) (lvs := [(0, .ref o), (1, .int x1), (2, .long y2)]) (by decide) rfl (Nat.le_of_ble_eq_true rfl) rfl (fun G rq => ?_)
  unfold wp_X6_endedBy at h
  refine x_lload_n dX6_endedBy_0 (n := 1) rfl rfl 2 rfl ?_
  refine x_aload_n dX6_endedBy_1 (n := 2) rfl rfl 0 rfl ?_
  refine x_getr fl_X6_26_0 rfl hB0.1 hB0.r29 dX6_endedBy_2 (n := 5) rfl ?_
  refine x_iconst dX6_endedBy_5 (n := 6) rfl ic_3 ?_
  refine x_iload_n dX6_endedBy_6 (n := 7) rfl rfl 1 rfl ?_
  refine x_imul dX6_endedBy_7 (n := 8) rfl ?_
  refine x_iconst dX6_endedBy_8 (n := 9) rfl ic_2 ?_
  refine x_iadd dX6_endedBy_9 (n := 10) rfl ?_
  obtain ⟨b1, h⟩ := h
  refine x_iald hB0.a29 b1 rfl dX6_endedBy_10 (n := 11) rfl ?_
  refine x_i2l dX6_endedBy_11 (n := 12) rfl ?_
  refine x_lcmp_ge (tgt := 18) dX6_endedBy_12 (pc1 := 13) rfl dX6_endedBy_13 rfl (n := 16) rfl (fun c2 => ?_) (fun c2 => ?_)
  · have h := h.1 c2
    refine x_aload_n dX6_endedBy_18 (n := 19) rfl rfl 0 rfl ?_
    refine x_iload_n dX6_endedBy_19 (n := 20) rfl rfl 1 rfl ?_
    refine x_lload_n dX6_endedBy_20 (n := 21) rfl rfl 2 rfl ?_
    refine x_cVim (As := [.int x1, .long y2]) (rest := []) cv_X6_416 ck0 (met_X6_date1 o σ0 x1 y2 _ hB0 h) hB0.1 (by decide) rfl rfl rfl dX6_endedBy_21 (n := 24) rfl (fun r5 s3 hs4 h => ?_)
    have hs4t := (SH.rf (σ := σ0)).tr hs4; have hBs3 := hB0.sh hs4t
    refine x_if_ne (tgt := 33) dX6_endedBy_24 rfl (n := 27) rfl (fun c6 => ?_) (fun c6 => ?_)
    · have h := h.2 c6
      refine x_aload_n dX6_endedBy_33 (n := 34) rfl rfl 0 rfl ?_
      refine x_getl fl_X6_399_0 rfl hBs3.1 rfl dX6_endedBy_34 (n := 37) rfl ?_
      refine x_aload_n dX6_endedBy_37 (n := 38) rfl rfl 0 rfl ?_
      refine x_iload_n dX6_endedBy_38 (n := 39) rfl rfl 1 rfl ?_
      refine x_aload_n dX6_endedBy_39 (n := 40) rfl rfl 0 rfl ?_
      refine x_getl fl_X6_396_0 rfl hBs3.1 rfl dX6_endedBy_40 (n := 43) rfl ?_
      obtain ⟨b7, h⟩ := h
      refine x_cVlp (As := [.int x1, .long (gL s3 o 53)]) (rest := [.long (gL s3 o 54)]) cv_X6_375 ck0 (met_X6_lengthOf o s3 x1 (gL s3 o 53) hBs3 b7) hBs3.1 (by decide) rfl rfl rfl dX6_endedBy_43 (n := 46) rfl (fun r8 q => ?_)
      subst q
      refine x_lcmp_ne (tgt := 57) dX6_endedBy_46 (pc1 := 47) rfl dX6_endedBy_47 rfl (n := 50) rfl (fun c9 => ?_) (fun c9 => ?_)
      · have h := h.2 c9
        refine x_aload_n dX6_endedBy_57 (n := 58) rfl rfl 0 rfl ?_
        refine x_getl fl_X6_396_0 rfl hBs3.1 rfl dX6_endedBy_58 (n := 61) rfl ?_
        refine x_lconst dX6_endedBy_61 (n := 62) rfl lc_1 ?_
        refine x_lsub dX6_endedBy_62 (n := 63) rfl ?_
        exact x_lret rq ⟨hs4t, h⟩ dX6_endedBy_63
      · have h := h.1 c9
        refine x_aload_n dX6_endedBy_50 (n := 51) rfl rfl 0 rfl ?_
        refine x_getl fl_X6_396_0 rfl hBs3.1 rfl dX6_endedBy_51 (n := 54) rfl ?_
        refine x_goto (tgt := 63) dX6_endedBy_54 rfl ?_
        exact x_lret rq ⟨hs4t, h⟩ dX6_endedBy_63
    · have h := h.1 c6
      refine x_aload_n dX6_endedBy_27 (n := 28) rfl rfl 0 rfl ?_
      refine x_iload_n dX6_endedBy_28 (n := 29) rfl rfl 1 rfl ?_
      obtain ⟨b10, h⟩ := h
      refine x_cVlp (As := [.int x1]) (rest := []) cv_X6_392 ck0 (met_X6_endYear o s3 x1 hBs3 b10) hBs3.1 (by decide) rfl rfl rfl dX6_endedBy_29 (n := 32) rfl (fun r11 q => ?_)
      subst q
      exact x_lret rq ⟨hs4t, h⟩ dX6_endedBy_32
  · have h := h.2 c2
    refine x_lconst dX6_endedBy_16 (n := 17) rfl lc_0 ?_
    exact x_lret rq ⟨(SH.rf (σ := σ0)), h⟩ dX6_endedBy_17
abbrev rm_X6_deed : Room := { frames := 5, cells := 0, slots := 0, locals := 129 }
def wp_X6_deed (o : Nat) (σ0 : Hp) (x1 : Int32) (x2 : Int32) (x3 : Int32) (Q : Int64 → Hp → Prop) : Prop := (x1 < 0 → Q (-1) (pI σ0 o 2 0)) ∧ (¬ x1 < 0 → ((gI σ0 o 15) ≤ x1 → Q (-1) (pI σ0 o 2 0)) ∧ (¬ (gI σ0 o 15) ≤ x1 → ((f_X6_isLand o (pI σ0 o 2 0) x2) = 0 → Q (-1) (pI σ0 o 2 0)) ∧ (¬ (f_X6_isLand o (pI σ0 o 2 0) x2) = 0 → ((f_X6_isIn x3 0 2) = 0 → Q (-1) (pI σ0 o 2 0)) ∧ (¬ (f_X6_isIn x3 0 2) = 0 → (vp_in x1 8) ∧ (wp_X6_date1 o (pI σ0 o 2 0) x2 (gL (pI σ0 o 2 0) (o + 13) x1.toNatClampNeg) (fun r12 s10 => (r12 = 0 → Q (-1) s10) ∧ (¬ r12 = 0 → (x3 = 0 → (vp_in x1 8) ∧ (Q (gL s10 (o + 13) x1.toNatClampNeg) s10)) ∧ (¬ x3 = 0 → wp_X6_dueOf o s10 x1 x2 (fun r17 s15 => (r17 < 0 → Q r17 s15) ∧ (¬ r17 < 0 → (x3 = 1 → Q r17 s15) ∧ (¬ x3 = 1 → (vp_in ((3 * x1) + 2) 24) ∧ (wp_X6_endedBy o s15 x2 r17 (fun r23 s21 => (vp_in x1 8) ∧ (wp_X6_endedBy o s21 x2 (gL s21 (o + 13) x1.toNatClampNeg) (fun r27 s25 => Q (((gI s15 (o + 14) ((3 * x1) + 2).toNatClampNeg).toInt64) * (r23 - r27)) s25)))))))))))))))
theorem met_X6_deed (o : Nat) (σ0 : Hp) (x1 : Int32) (x2 : Int32) (x3 : Int32) (Q : Int64 → Hp → Prop) (hB0 : MB o σ0) (h : wp_X6_deed o σ0 x1 x2 x3 Q) : MetX yX6_deed cX6_deed 6 (some .long) rm_X6_deed σ0 [.ref o, .int x1, .int x2, .int x3] (oL (fun r σ' => SH σ0 σ' ∧ Q r σ')) 0 0 := by
  refine metX_of (own := RX6) (lvs := [(0, .ref o), (1, .int x1), (2, .int x2), (3, .int x3)]) (by decide) rfl (Nat.le_of_ble_eq_true rfl) rfl (fun G rq => ?_)
  unfold wp_X6_deed at h
  refine x_aload_n dX6_deed_0 (n := 1) rfl rfl 0 rfl ?_
  refine x_iconst dX6_deed_1 (n := 2) rfl ic_0 ?_
  refine x_puti fp_X6_119_0 rfl hB0.1 dX6_deed_2 (n := 5) rfl ?_
  refine x_iload_n dX6_deed_5 (n := 6) rfl rfl 1 rfl ?_
  refine x_if_lt (tgt := 48) dX6_deed_6 rfl (n := 9) rfl (fun c1 => ?_) (fun c1 => ?_)
  · have h := h.1 c1
    refine x_ldc2 dX6_deed_48 (n := 51) rfl q1880 ?_
    exact x_lret rq ⟨(SH.rf (σ := σ0)).i, h⟩ dX6_deed_51
  · have h := h.2 c1
    refine x_iload_n dX6_deed_9 (n := 10) rfl rfl 1 rfl ?_
    refine x_aload_n dX6_deed_10 (n := 11) rfl rfl 0 rfl ?_
    refine x_geti fl_X6_226_0 rfl hB0.i.1 (gIn (by decide)) dX6_deed_11 (n := 14) rfl ?_
    refine x_icmp_ge (tgt := 48) dX6_deed_14 rfl (n := 17) rfl (fun c2 => ?_) (fun c2 => ?_)
    · have h := h.1 c2
      refine x_ldc2 dX6_deed_48 (n := 51) rfl q1880 ?_
      exact x_lret rq ⟨(SH.rf (σ := σ0)).i, h⟩ dX6_deed_51
    · have h := h.2 c2
      refine x_aload_n dX6_deed_17 (n := 18) rfl rfl 0 rfl ?_
      refine x_iload_n dX6_deed_18 (n := 19) rfl rfl 2 rfl ?_
      refine x_cVip (As := [.int x2]) (rest := []) cv_X6_404 ck0 (met_X6_isLand o (pI σ0 o 2 0) x2 hB0.i) hB0.i.1 (by decide) rfl rfl rfl dX6_deed_19 (n := 22) rfl (fun r4 q => ?_)
      subst q
      refine x_if_eq (tgt := 48) dX6_deed_22 rfl (n := 25) rfl (fun c5 => ?_) (fun c5 => ?_)
      · have h := h.1 c5
        refine x_ldc2 dX6_deed_48 (n := 51) rfl q1880 ?_
        exact x_lret rq ⟨(SH.rf (σ := σ0)).i, h⟩ dX6_deed_51
      · have h := h.2 c5
        refine x_iload_n dX6_deed_25 (n := 26) rfl rfl 3 rfl ?_
        refine x_iconst dX6_deed_26 (n := 27) rfl ic_0 ?_
        refine x_iconst dX6_deed_27 (n := 28) rfl ic_2 ?_
        refine x_cSip (As := [.int x3, .int 0, .int 2]) (rest := []) cs_X6_166 (met_X6_isIn (pI σ0 o 2 0) x3 0 2 ) (by decide) rfl rfl rfl dX6_deed_28 (n := 31) rfl (fun r7 q => ?_)
        subst q
        refine x_if_eq (tgt := 48) dX6_deed_31 rfl (n := 34) rfl (fun c8 => ?_) (fun c8 => ?_)
        · have h := h.1 c8
          refine x_ldc2 dX6_deed_48 (n := 51) rfl q1880 ?_
          exact x_lret rq ⟨(SH.rf (σ := σ0)).i, h⟩ dX6_deed_51
        · have h := h.2 c8
          refine x_aload_n dX6_deed_34 (n := 35) rfl rfl 0 rfl ?_
          refine x_iload_n dX6_deed_35 (n := 36) rfl rfl 2 rfl ?_
          refine x_aload_n dX6_deed_36 (n := 37) rfl rfl 0 rfl ?_
          refine x_getr fl_X6_51_0 rfl hB0.i.1 hB0.i.r37 dX6_deed_37 (n := 40) rfl ?_
          refine x_iload_n dX6_deed_40 (n := 41) rfl rfl 1 rfl ?_
          obtain ⟨b9, h⟩ := h
          refine x_lald hB0.i.a37 b9 rfl dX6_deed_41 (n := 42) rfl ?_
          refine x_cVim (As := [.int x2, .long (gL (pI σ0 o 2 0) (o + 13) x1.toNatClampNeg)]) (rest := []) cv_X6_416 ck0 (met_X6_date1 o (pI σ0 o 2 0) x2 (gL (pI σ0 o 2 0) (o + 13) x1.toNatClampNeg) _ hB0.i h) hB0.i.1 (by decide) rfl rfl rfl dX6_deed_42 (n := 45) rfl (fun r12 s10 hs11 h => ?_)
          have hs11t := (SH.rf (σ := σ0)).i.tr hs11; have hBs10 := hB0.sh hs11t
          refine x_if_ne (tgt := 52) dX6_deed_45 rfl (n := 48) rfl (fun c13 => ?_) (fun c13 => ?_)
          · have h := h.2 c13
            refine x_iload_n dX6_deed_52 (n := 53) rfl rfl 3 rfl ?_
            refine x_if_ne (tgt := 63) dX6_deed_53 rfl (n := 56) rfl (fun c14 => ?_) (fun c14 => ?_)
            · have h := h.2 c14
              refine x_aload_n dX6_deed_63 (n := 64) rfl rfl 0 rfl ?_
              refine x_iload_n dX6_deed_64 (n := 65) rfl rfl 1 rfl ?_
              refine x_iload_n dX6_deed_65 (n := 66) rfl rfl 2 rfl ?_
              refine x_cVlm (As := [.int x1, .int x2]) (rest := []) cv_X6_480 ck0 (met_X6_dueOf o s10 x1 x2 _ hBs10 h) hBs10.1 (by decide) rfl rfl rfl dX6_deed_66 (n := 69) rfl (fun r17 s15 hs16 h => ?_)
              have hs16t := hs11t.tr hs16; have hBs15 := hB0.sh hs16t
              refine x_lstore (lvs' := [(4, .long r17), (0, .ref o), (1, .int x1), (2, .int x2), (3, .int x3)]) dX6_deed_69 (n := 71) rfl (by decide) rfl ?_
              refine x_lload dX6_deed_71 (n := 73) rfl 0 rfl ?_
              refine x_lconst dX6_deed_73 (n := 74) rfl lc_0 ?_
              refine x_lcmp_lt (tgt := 83) dX6_deed_74 (pc1 := 75) rfl dX6_deed_75 rfl (n := 78) rfl (fun c18 => ?_) (fun c18 => ?_)
              · have h := h.1 c18
                refine x_lload dX6_deed_83 (n := 85) rfl 0 rfl ?_
                exact x_lret rq ⟨hs16t, h⟩ dX6_deed_85
              · have h := h.2 c18
                refine x_iload_n dX6_deed_78 (n := 79) rfl rfl 4 rfl ?_
                refine x_iconst dX6_deed_79 (n := 80) rfl ic_1 ?_
                refine x_icmp_ne (tgt := 86) dX6_deed_80 rfl (n := 83) rfl (fun c19 => ?_) (fun c19 => ?_)
                · have h := h.2 c19
                  refine x_aload_n dX6_deed_86 (n := 87) rfl rfl 1 rfl ?_
                  refine x_getr fl_X6_54_0 rfl hBs15.1 hBs15.r38 dX6_deed_87 (n := 90) rfl ?_
                  refine x_iconst dX6_deed_90 (n := 91) rfl ic_3 ?_
                  refine x_iload_n dX6_deed_91 (n := 92) rfl rfl 2 rfl ?_
                  refine x_imul dX6_deed_92 (n := 93) rfl ?_
                  refine x_iconst dX6_deed_93 (n := 94) rfl ic_2 ?_
                  refine x_iadd dX6_deed_94 (n := 95) rfl ?_
                  obtain ⟨b20, h⟩ := h
                  refine x_iald hBs15.a38 b20 rfl dX6_deed_95 (n := 96) rfl ?_
                  refine x_i2l dX6_deed_96 (n := 97) rfl ?_
                  refine x_aload_n dX6_deed_97 (n := 98) rfl rfl 1 rfl ?_
                  refine x_iload_n dX6_deed_98 (n := 99) rfl rfl 3 rfl ?_
                  refine x_lload dX6_deed_99 (n := 101) rfl 0 rfl ?_
                  refine x_cVlm (As := [.int x2, .long r17]) (rest := [.long ((gI s15 (o + 14) ((3 * x1) + 2).toNatClampNeg).toInt64)]) cv_X6_484 ck0 (met_X6_endedBy o s15 x2 r17 _ hBs15 h) hBs15.1 (by decide) rfl rfl rfl dX6_deed_101 (n := 104) rfl (fun r23 s21 hs22 h => ?_)
                  have hs22t := hs16t.tr hs22; have hBs21 := hB0.sh hs22t
                  refine x_aload_n dX6_deed_104 (n := 105) rfl rfl 1 rfl ?_
                  refine x_iload_n dX6_deed_105 (n := 106) rfl rfl 3 rfl ?_
                  refine x_aload_n dX6_deed_106 (n := 107) rfl rfl 1 rfl ?_
                  refine x_getr fl_X6_51_0 rfl hBs21.1 hBs21.r37 dX6_deed_107 (n := 110) rfl ?_
                  refine x_iload_n dX6_deed_110 (n := 111) rfl rfl 2 rfl ?_
                  obtain ⟨b24, h⟩ := h
                  refine x_lald hBs21.a37 b24 rfl dX6_deed_111 (n := 112) rfl ?_
                  refine x_cVlm (As := [.int x2, .long (gL s21 (o + 13) x1.toNatClampNeg)]) (rest := [.long r23, .long ((gI s15 (o + 14) ((3 * x1) + 2).toNatClampNeg).toInt64)]) cv_X6_484 ck0 (met_X6_endedBy o s21 x2 (gL s21 (o + 13) x1.toNatClampNeg) _ hBs21 h) hBs21.1 (by decide) rfl rfl rfl dX6_deed_112 (n := 115) rfl (fun r27 s25 hs26 h => ?_)
                  have hs26t := hs22t.tr hs26; have hBs25 := hB0.sh hs26t
                  refine x_lsub dX6_deed_115 (n := 116) rfl ?_
                  refine x_lmul dX6_deed_116 (n := 117) rfl ?_
                  exact x_lret rq ⟨hs26t, h⟩ dX6_deed_117
                · have h := h.1 c19
                  refine x_lload dX6_deed_83 (n := 85) rfl 0 rfl ?_
                  exact x_lret rq ⟨hs16t, h⟩ dX6_deed_85
            · have h := h.1 c14
              refine x_aload_n dX6_deed_56 (n := 57) rfl rfl 0 rfl ?_
              refine x_getr fl_X6_51_0 rfl hBs10.1 hBs10.r37 dX6_deed_57 (n := 60) rfl ?_
              refine x_iload_n dX6_deed_60 (n := 61) rfl rfl 1 rfl ?_
              obtain ⟨b28, h⟩ := h
              refine x_lald hBs10.a37 b28 rfl dX6_deed_61 (n := 62) rfl ?_
              exact x_lret rq ⟨hs11t, h⟩ dX6_deed_62
          · have h := h.1 c13
            refine x_ldc2 dX6_deed_48 (n := 51) rfl q1880 ?_
            exact x_lret rq ⟨hs11t, h⟩ dX6_deed_51
abbrev rm_X6_isDays : Room := { frames := 1, cells := 0, slots := 0, locals := 22 }
def f_X6_isDays (x0 : Int32) : Int32 := f_X6_isIn x0 1 99999
def ok_X6_isDays (x0 : Int32) : Prop := (f_X6_isIn x0 1 99999) = 0 ∨ (f_X6_isIn x0 1 99999) = 1
theorem met_X6_isDays (σ : Hp) (x0 : Int32) (hk : ok_X6_isDays x0) : MetX yX6_isDays cX6_isDays 1 (some .boolean) rm_X6_isDays σ [.int x0] (oI (fun r σ' => σ' = σ ∧ r = (f_X6_isDays x0))) 0 0 := by
  refine metX_of (own := RX6) (lvs := [(0, .int x0)]) (by decide) rfl (Nat.le_of_ble_eq_true rfl) rfl (fun G rq => ?_)
  have hv : (f_X6_isDays x0) = _ := f_X6_isDays.eq_1 _
  unfold ok_X6_isDays at hk
  refine x_iload_n dX6_isDays_0 (n := 1) rfl rfl 0 rfl ?_
  refine x_iconst dX6_isDays_1 (n := 2) rfl ic_1 ?_
  refine x_ldc dX6_isDays_2 (n := 4) rfl q1786 ?_
  refine x_cSip (As := [.int x0, .int 1, .int 99999]) (rest := []) cs_X6_166 (met_X6_isIn σ x0 1 99999 ) (by decide) rfl rfl rfl dX6_isDays_4 (n := 7) rfl (fun r2 q => ?_)
  subst q
  have b3 := hk
  exact x_zret rq ⟨rfl, hv.symm⟩ b3 dX6_isDays_7
abbrev rm_X6_ends : Room := { frames := 3, cells := 0, slots := 0, locals := 79 }
def wp_X6_ends (o : Nat) (σ0 : Hp) (x1 : Int32) (y2 : Int64) (x4 : Int32) (Q : Int32 → Hp → Prop) : Prop := ((f_X6_isLand o (pI σ0 o 2 0) x1) = 0 → Q (-1) (pI σ0 o 2 0)) ∧ (¬ (f_X6_isLand o (pI σ0 o 2 0) x1) = 0 → ((f_X6_isCount y2) = 0 → Q (-1) (pI σ0 o 2 0)) ∧ (¬ (f_X6_isCount y2) = 0 → (ok_X6_isDays x4) ∧ (((f_X6_isDays x4) = 0 → Q (-1) (pI σ0 o 2 0)) ∧ (¬ (f_X6_isDays x4) = 0 → ((y2 + x4.toInt64) ≤ 1000000000000 → wp_X6_endedBy o (pI σ0 o 2 0) x1 (y2 + x4.toInt64) (fun r13 s11 => wp_X6_endedBy o s11 x1 y2 (fun r16 s14 => Q ((r13 - r16).toInt32) s14))) ∧ (¬ (y2 + x4.toInt64) ≤ 1000000000000 → Q (-1) (pI σ0 o 2 0))))))
theorem met_X6_ends (o : Nat) (σ0 : Hp) (x1 : Int32) (y2 : Int64) (x4 : Int32) (Q : Int32 → Hp → Prop) (hB0 : MB o σ0) (h : wp_X6_ends o σ0 x1 y2 x4 Q) : MetX yX6_ends cX6_ends 5 (some .int) rm_X6_ends σ0 [.ref o, .int x1, .long y2, .int x4] (oI (fun r σ' => SH σ0 σ' ∧ Q r σ')) 0 0 := by
  refine metX_of (own := RX6) (lvs := [(0, .ref o), (1, .int x1), (2, .long y2), (4, .int x4)]) (by decide) rfl (Nat.le_of_ble_eq_true rfl) rfl (fun G rq => ?_)
  unfold wp_X6_ends at h
  refine x_aload_n dX6_ends_0 (n := 1) rfl rfl 0 rfl ?_
  refine x_iconst dX6_ends_1 (n := 2) rfl ic_0 ?_
  refine x_puti fp_X6_119_0 rfl hB0.1 dX6_ends_2 (n := 5) rfl ?_
  refine x_aload_n dX6_ends_5 (n := 6) rfl rfl 0 rfl ?_
  refine x_iload_n dX6_ends_6 (n := 7) rfl rfl 1 rfl ?_
  refine x_cVip (As := [.int x1]) (rest := []) cv_X6_404 ck0 (met_X6_isLand o (pI σ0 o 2 0) x1 hB0.i) hB0.i.1 (by decide) rfl rfl rfl dX6_ends_7 (n := 10) rfl (fun r2 q => ?_)
  subst q
  refine x_if_eq (tgt := 40) dX6_ends_10 rfl (n := 13) rfl (fun c3 => ?_) (fun c3 => ?_)
  · have h := h.1 c3
    refine x_iconst dX6_ends_40 (n := 41) rfl ic_m1 ?_
    exact x_iret rq ⟨(SH.rf (σ := σ0)).i, h⟩ dX6_ends_41
  · have h := h.2 c3
    refine x_lload_n dX6_ends_13 (n := 14) rfl rfl 2 rfl ?_
    refine x_cSip (As := [.long y2]) (rest := []) cs_X6_413 (met_X6_isCount (pI σ0 o 2 0) y2 ) (by decide) rfl rfl rfl dX6_ends_14 (n := 17) rfl (fun r5 q => ?_)
    subst q
    refine x_if_eq (tgt := 40) dX6_ends_17 rfl (n := 20) rfl (fun c6 => ?_) (fun c6 => ?_)
    · have h := h.1 c6
      refine x_iconst dX6_ends_40 (n := 41) rfl ic_m1 ?_
      exact x_iret rq ⟨(SH.rf (σ := σ0)).i, h⟩ dX6_ends_41
    · have h := h.2 c6
      refine x_iload dX6_ends_20 (n := 22) rfl 3 rfl ?_
      obtain ⟨b7, h⟩ := h
      refine x_cSip (As := [.int x4]) (rest := []) cs_X6_487 (met_X6_isDays (pI σ0 o 2 0) x4  b7) (by decide) rfl rfl rfl dX6_ends_22 (n := 25) rfl (fun r8 q => ?_)
      subst q
      refine x_if_eq (tgt := 40) dX6_ends_25 rfl (n := 28) rfl (fun c9 => ?_) (fun c9 => ?_)
      · have h := h.1 c9
        refine x_iconst dX6_ends_40 (n := 41) rfl ic_m1 ?_
        exact x_iret rq ⟨(SH.rf (σ := σ0)).i, h⟩ dX6_ends_41
      · have h := h.2 c9
        refine x_lload_n dX6_ends_28 (n := 29) rfl rfl 2 rfl ?_
        refine x_iload dX6_ends_29 (n := 31) rfl 3 rfl ?_
        refine x_i2l dX6_ends_31 (n := 32) rfl ?_
        refine x_ladd dX6_ends_32 (n := 33) rfl ?_
        refine x_ldc2 dX6_ends_33 (n := 36) rfl q1900 ?_
        refine x_lcmp_le (tgt := 42) dX6_ends_36 (pc1 := 37) rfl dX6_ends_37 rfl (n := 40) rfl (fun c10 => ?_) (fun c10 => ?_)
        · have h := h.1 c10
          refine x_aload_n dX6_ends_42 (n := 43) rfl rfl 0 rfl ?_
          refine x_iload_n dX6_ends_43 (n := 44) rfl rfl 1 rfl ?_
          refine x_lload_n dX6_ends_44 (n := 45) rfl rfl 2 rfl ?_
          refine x_iload dX6_ends_45 (n := 47) rfl 3 rfl ?_
          refine x_i2l dX6_ends_47 (n := 48) rfl ?_
          refine x_ladd dX6_ends_48 (n := 49) rfl ?_
          refine x_cVlm (As := [.int x1, .long (y2 + x4.toInt64)]) (rest := []) cv_X6_484 ck0 (met_X6_endedBy o (pI σ0 o 2 0) x1 (y2 + x4.toInt64) _ hB0.i h) hB0.i.1 (by decide) rfl rfl rfl dX6_ends_49 (n := 52) rfl (fun r13 s11 hs12 h => ?_)
          have hs12t := (SH.rf (σ := σ0)).i.tr hs12; have hBs11 := hB0.sh hs12t
          refine x_aload_n dX6_ends_52 (n := 53) rfl rfl 0 rfl ?_
          refine x_iload_n dX6_ends_53 (n := 54) rfl rfl 1 rfl ?_
          refine x_lload_n dX6_ends_54 (n := 55) rfl rfl 2 rfl ?_
          refine x_cVlm (As := [.int x1, .long y2]) (rest := [.long r13]) cv_X6_484 ck0 (met_X6_endedBy o s11 x1 y2 _ hBs11 h) hBs11.1 (by decide) rfl rfl rfl dX6_ends_55 (n := 58) rfl (fun r16 s14 hs15 h => ?_)
          have hs15t := hs12t.tr hs15; have hBs14 := hB0.sh hs15t
          refine x_lsub dX6_ends_58 (n := 59) rfl ?_
          refine x_l2i dX6_ends_59 (n := 60) rfl ?_
          exact x_iret rq ⟨hs15t, h⟩ dX6_ends_60
        · have h := h.2 c10
          refine x_iconst dX6_ends_40 (n := 41) rfl ic_m1 ?_
          exact x_iret rq ⟨(SH.rf (σ := σ0)).i, h⟩ dX6_ends_41
abbrev rm_X6_hire : Room := { frames := 3, cells := 0, slots := 0, locals := 79 }
def wj_X6_hire_121 (o : Nat) (σ : Hp) (x1 : Int32) (y2 : Int64) (x4 : Int32) (x5 : Int32) (y10 : Int64) (y12 : Int64) (Q : Int64 → Hp → Prop) (K71 : (Int64 × Int64 × Int64 × Hp) → Prop) : Prop := K71 (y10, y12, y10 + 1, σ)
def lb_X6_hire_71 (o : Nat) (x1 : Int32) (y2 : Int64) (x4 : Int32) (x5 : Int32) (Q : Int64 → Hp → Prop)  (K71 : Int64 × Int64 × Int64 × Hp → Prop) (z : Int64 × Int64 × Int64 × Hp) : Prop := match z with
  | (y6, y8, y10, σ) => ((y2 + x4.toInt64) < y10 → Q y6 σ) ∧ (¬ (y2 + x4.toInt64) < y10 → wp_X6_endedBy o σ x1 (y10 + x5.toInt64) (fun r17 s15 => wp_X6_endedBy o s15 x1 y10 (fun r20 s18 => (y6 < 0 → wj_X6_hire_121 o s18 x1 y2 x4 x5 y10 (r17 - r20) Q K71) ∧ (¬ y6 < 0 → (y8 < (r17 - r20) → wj_X6_hire_121 o s18 x1 y2 x4 x5 y10 (r17 - r20) Q K71) ∧ (¬ y8 < (r17 - r20) → K71 (y6, y8, y10 + 1, s18))))))
def wp_X6_hire (o : Nat) (σ0 : Hp) (x1 : Int32) (y2 : Int64) (x4 : Int32) (x5 : Int32) (Q : Int64 → Hp → Prop) : Prop := ((f_X6_isLand o (pI σ0 o 2 0) x1) = 0 → Q (-1) (pI σ0 o 2 0)) ∧ (¬ (f_X6_isLand o (pI σ0 o 2 0) x1) = 0 → ((f_X6_isCount y2) = 0 → Q (-1) (pI σ0 o 2 0)) ∧ (¬ (f_X6_isCount y2) = 0 → ((f_X6_isIn x4 0 999) = 0 → Q (-1) (pI σ0 o 2 0)) ∧ (¬ (f_X6_isIn x4 0 999) = 0 → (ok_X6_isDays x5) ∧ (((f_X6_isDays x5) = 0 → Q (-1) (pI σ0 o 2 0)) ∧ (¬ (f_X6_isDays x5) = 0 → (((y2 + x4.toInt64) + x5.toInt64) ≤ 1000000000000 → lp (lb_X6_hire_71 o x1 y2 x4 x5 Q) ((-1), 0, y2, pI σ0 o 2 0)) ∧ (¬ ((y2 + x4.toInt64) + x5.toInt64) ≤ 1000000000000 → Q (-1) (pI σ0 o 2 0)))))))
theorem xj_X6_hire_121 (o : Nat) (σ0 : Hp) (Q : Int64 → Hp → Prop) (G : XE) (hB0 : MB o σ0) (rq : RQ G 0 0 (oL (fun r σ' => SH σ0 σ' ∧ Q r σ'))) (σ : Hp) (x1 : Int32) (y2 : Int64) (x4 : Int32) (x5 : Int32) (y10 : Int64) (y12 : Int64)  (K71 : (Int64 × Int64 × Int64 × Hp) → Prop) (hK71 : ∀ z : (Int64 × Int64 × Int64 × Hp), SH σ0 z.2.2.2 → K71 z → X G rm_X6_hire cX6_hire RX6 14 (some .long) z.2.2.2 0 0 71 [(0, .ref o), (1, .int x1), (2, .long y2), (4, .int x4), (5, .int x5), (6, .long z.1), (8, .long z.2.1), (10, .long z.2.2.1)] []) (hs : SH σ0 σ) (h : wj_X6_hire_121 o σ x1 y2 x4 x5 y10 y12 Q K71) : X G rm_X6_hire cX6_hire RX6 14 (some .long) σ 0 0 121 [(0, .ref o), (1, .int x1), (2, .long y2), (4, .int x4), (5, .int x5), (10, .long y10), (12, .long y12)] [] := by
  have hs : SH σ0 σ := hs
  have hB := hB0.sh hs
  unfold wj_X6_hire_121 at h
  refine x_lload dX6_hire_121 (n := 123) rfl 5 rfl ?_
  refine x_lstore (lvs' := [(6, .long y10), (0, .ref o), (1, .int x1), (2, .long y2), (4, .int x4), (5, .int x5), (10, .long y10), (12, .long y12)]) dX6_hire_123 (n := 125) rfl (by decide) rfl ?_
  refine x_lload dX6_hire_125 (n := 127) rfl 7 rfl ?_
  refine x_lstore (lvs' := [(8, .long y12), (6, .long y10), (0, .ref o), (1, .int x1), (2, .long y2), (4, .int x4), (5, .int x5), (10, .long y10), (12, .long y12)]) dX6_hire_127 (n := 129) rfl (by decide) rfl ?_
  refine x_lload dX6_hire_129 (n := 131) rfl 7 rfl ?_
  refine x_lconst dX6_hire_131 (n := 132) rfl lc_1 ?_
  refine x_ladd dX6_hire_132 (n := 133) rfl ?_
  refine x_lstore (lvs' := [(10, .long (y10 + 1)), (8, .long y12), (6, .long y10), (0, .ref o), (1, .int x1), (2, .long y2), (4, .int x4), (5, .int x5), (12, .long y12)]) dX6_hire_133 (n := 135) rfl (by decide) rfl ?_
  refine x_goto (tgt := 71) dX6_hire_135 rfl ?_
  exact x_sub [3, 4, 5, 6, 7, 2, 1, 0] rfl (hK71 (y10, y12, y10 + 1, σ) hs h)
theorem xl_X6_hire_71 (o : Nat) (σ0 : Hp) (Q : Int64 → Hp → Prop) (G : XE) (hB0 : MB o σ0) (rq : RQ G 0 0 (oL (fun r σ' => SH σ0 σ' ∧ Q r σ'))) (x1 : Int32) (y2 : Int64) (x4 : Int32) (x5 : Int32)    : ∀ z : Int64 × Int64 × Int64 × Hp, SH σ0 z.2.2.2 → lp (lb_X6_hire_71 o x1 y2 x4 x5 Q ) z → X G rm_X6_hire cX6_hire RX6 14 (some .long) z.2.2.2 0 0 71 [(0, .ref o), (1, .int x1), (2, .long y2), (4, .int x4), (5, .int x5), (6, .long z.1), (8, .long z.2.1), (10, .long z.2.2.1)] [] := by
  intro z
  refine fun hs h => lp_X (P := fun z => SH σ0 z.2.2.2 → X G rm_X6_hire cX6_hire RX6 14 (some .long) z.2.2.2 0 0 71 [(0, .ref o), (1, .int x1), (2, .long y2), (4, .int x4), (5, .int x5), (6, .long z.1), (8, .long z.2.1), (10, .long z.2.2.1)] []) ?_ h hs
  intro K71 hK71 z h hs
  obtain ⟨y6, y8, y10, σ⟩ := z
  have hs : SH σ0 σ := hs
  have hB := hB0.sh hs
  simp only [lb_X6_hire_71] at h
  show X G rm_X6_hire cX6_hire RX6 14 (some .long) σ 0 0 71 [(0, .ref o), (1, .int x1), (2, .long y2), (4, .int x4), (5, .int x5), (6, .long y6), (8, .long y8), (10, .long y10)] []
  have hK71 : ∀ z : (Int64 × Int64 × Int64 × Hp), SH σ0 z.2.2.2 → K71 z → X G rm_X6_hire cX6_hire RX6 14 (some .long) z.2.2.2 0 0 71 [(0, .ref o), (1, .int x1), (2, .long y2), (4, .int x4), (5, .int x5), (6, .long z.1), (8, .long z.2.1), (10, .long z.2.2.1)] [] := fun z hs h => hK71 z h hs
  refine x_lload dX6_hire_71 (n := 73) rfl 7 rfl ?_
  refine x_lload_n dX6_hire_73 (n := 74) rfl rfl 2 rfl ?_
  refine x_iload dX6_hire_74 (n := 76) rfl 3 rfl ?_
  refine x_i2l dX6_hire_76 (n := 77) rfl ?_
  refine x_ladd dX6_hire_77 (n := 78) rfl ?_
  refine x_lcmp_gt (tgt := 138) dX6_hire_78 (pc1 := 79) rfl dX6_hire_79 rfl (n := 82) rfl (fun c14 => ?_) (fun c14 => ?_)
  · have h := h.1 c14
    refine x_lload dX6_hire_138 (n := 140) rfl 5 rfl ?_
    exact x_lret rq ⟨hs, h⟩ dX6_hire_140
  · have h := h.2 c14
    refine x_aload_n dX6_hire_82 (n := 83) rfl rfl 0 rfl ?_
    refine x_iload_n dX6_hire_83 (n := 84) rfl rfl 1 rfl ?_
    refine x_lload dX6_hire_84 (n := 86) rfl 7 rfl ?_
    refine x_iload dX6_hire_86 (n := 88) rfl 4 rfl ?_
    refine x_i2l dX6_hire_88 (n := 89) rfl ?_
    refine x_ladd dX6_hire_89 (n := 90) rfl ?_
    refine x_cVlm (As := [.int x1, .long (y10 + x5.toInt64)]) (rest := []) cv_X6_484 ck0 (met_X6_endedBy o σ x1 (y10 + x5.toInt64) _ hB h) hB.1 (by decide) rfl rfl rfl dX6_hire_90 (n := 93) rfl (fun r17 s15 hs16 h => ?_)
    have hs16t := hs.tr hs16; have hBs15 := hB0.sh hs16t
    refine x_aload_n dX6_hire_93 (n := 94) rfl rfl 0 rfl ?_
    refine x_iload_n dX6_hire_94 (n := 95) rfl rfl 1 rfl ?_
    refine x_lload dX6_hire_95 (n := 97) rfl 7 rfl ?_
    refine x_cVlm (As := [.int x1, .long y10]) (rest := [.long r17]) cv_X6_484 ck0 (met_X6_endedBy o s15 x1 y10 _ hBs15 h) hBs15.1 (by decide) rfl rfl rfl dX6_hire_97 (n := 100) rfl (fun r20 s18 hs19 h => ?_)
    have hs19t := hs16t.tr hs19; have hBs18 := hB0.sh hs19t
    refine x_lsub dX6_hire_100 (n := 101) rfl ?_
    refine x_lstore (lvs' := [(12, .long (r17 - r20)), (0, .ref o), (1, .int x1), (2, .long y2), (4, .int x4), (5, .int x5), (6, .long y6), (8, .long y8), (10, .long y10)]) dX6_hire_101 (n := 103) rfl (by decide) rfl ?_
    refine x_lload dX6_hire_103 (n := 105) rfl 6 rfl ?_
    refine x_lconst dX6_hire_105 (n := 106) rfl lc_0 ?_
    refine x_lcmp_lt (tgt := 121) dX6_hire_106 (pc1 := 107) rfl dX6_hire_107 rfl (n := 110) rfl (fun c21 => ?_) (fun c21 => ?_)
    · have h := h.1 c21
      exact x_sub [1, 2, 3, 4, 5, 8, 0] rfl (xj_X6_hire_121 o σ0 Q G hB0 rq s18 x1 y2 x4 x5 y10 (r17 - r20) K71 hK71 hs19t h)
    · have h := h.2 c21
      refine x_lload dX6_hire_110 (n := 112) rfl 0 rfl ?_
      refine x_lload dX6_hire_112 (n := 114) rfl 7 rfl ?_
      refine x_lcmp_gt (tgt := 121) dX6_hire_114 (pc1 := 115) rfl dX6_hire_115 rfl (n := 118) rfl (fun c22 => ?_) (fun c22 => ?_)
      · have h := h.1 c22
        exact x_sub [1, 2, 3, 4, 5, 8, 0] rfl (xj_X6_hire_121 o σ0 Q G hB0 rq s18 x1 y2 x4 x5 y10 (r17 - r20) K71 hK71 hs19t h)
      · have h := h.2 c22
        refine x_goto (tgt := 129) dX6_hire_118 rfl ?_
        refine x_lload dX6_hire_129 (n := 131) rfl 8 rfl ?_
        refine x_lconst dX6_hire_131 (n := 132) rfl lc_1 ?_
        refine x_ladd dX6_hire_132 (n := 133) rfl ?_
        refine x_lstore (lvs' := [(10, .long (y10 + 1)), (12, .long (r17 - r20)), (0, .ref o), (1, .int x1), (2, .long y2), (4, .int x4), (5, .int x5), (6, .long y6), (8, .long y8)]) dX6_hire_133 (n := 135) rfl (by decide) rfl ?_
        refine x_goto (tgt := 71) dX6_hire_135 rfl ?_
        exact x_sub [2, 3, 4, 5, 6, 7, 8, 0] rfl (hK71 (y6, y8, y10 + 1, s18) hs19t h)
theorem met_X6_hire (o : Nat) (σ0 : Hp) (x1 : Int32) (y2 : Int64) (x4 : Int32) (x5 : Int32) (Q : Int64 → Hp → Prop) (hB0 : MB o σ0) (h : wp_X6_hire o σ0 x1 y2 x4 x5 Q) : MetX yX6_hire cX6_hire 14 (some .long) rm_X6_hire σ0 [.ref o, .int x1, .long y2, .int x4, .int x5] (oL (fun r σ' => SH σ0 σ' ∧ Q r σ')) 0 0 := by
  refine metX_of (own := RX6) (lvs := [(0, .ref o), (1, .int x1), (2, .long y2), (4, .int x4), (5, .int x5)]) (by decide) rfl (Nat.le_of_ble_eq_true rfl) rfl (fun G rq => ?_)
  unfold wp_X6_hire at h
  refine x_aload_n dX6_hire_0 (n := 1) rfl rfl 0 rfl ?_
  refine x_iconst dX6_hire_1 (n := 2) rfl ic_0 ?_
  refine x_puti fp_X6_119_0 rfl hB0.1 dX6_hire_2 (n := 5) rfl ?_
  refine x_aload_n dX6_hire_5 (n := 6) rfl rfl 0 rfl ?_
  refine x_iload_n dX6_hire_6 (n := 7) rfl rfl 1 rfl ?_
  refine x_cVip (As := [.int x1]) (rest := []) cv_X6_404 ck0 (met_X6_isLand o (pI σ0 o 2 0) x1 hB0.i) hB0.i.1 (by decide) rfl rfl rfl dX6_hire_7 (n := 10) rfl (fun r2 q => ?_)
  subst q
  refine x_if_eq (tgt := 56) dX6_hire_10 rfl (n := 13) rfl (fun c3 => ?_) (fun c3 => ?_)
  · have h := h.1 c3
    refine x_ldc2 dX6_hire_56 (n := 59) rfl q1880 ?_
    exact x_lret rq ⟨(SH.rf (σ := σ0)).i, h⟩ dX6_hire_59
  · have h := h.2 c3
    refine x_lload_n dX6_hire_13 (n := 14) rfl rfl 2 rfl ?_
    refine x_cSip (As := [.long y2]) (rest := []) cs_X6_413 (met_X6_isCount (pI σ0 o 2 0) y2 ) (by decide) rfl rfl rfl dX6_hire_14 (n := 17) rfl (fun r5 q => ?_)
    subst q
    refine x_if_eq (tgt := 56) dX6_hire_17 rfl (n := 20) rfl (fun c6 => ?_) (fun c6 => ?_)
    · have h := h.1 c6
      refine x_ldc2 dX6_hire_56 (n := 59) rfl q1880 ?_
      exact x_lret rq ⟨(SH.rf (σ := σ0)).i, h⟩ dX6_hire_59
    · have h := h.2 c6
      refine x_iload dX6_hire_20 (n := 22) rfl 3 rfl ?_
      refine x_iconst dX6_hire_22 (n := 23) rfl ic_0 ?_
      refine x_sipush dX6_hire_23 (n := 26) rfl sp_999 ?_
      refine x_cSip (As := [.int x4, .int 0, .int 999]) (rest := []) cs_X6_166 (met_X6_isIn (pI σ0 o 2 0) x4 0 999 ) (by decide) rfl rfl rfl dX6_hire_26 (n := 29) rfl (fun r8 q => ?_)
      subst q
      refine x_if_eq (tgt := 56) dX6_hire_29 rfl (n := 32) rfl (fun c9 => ?_) (fun c9 => ?_)
      · have h := h.1 c9
        refine x_ldc2 dX6_hire_56 (n := 59) rfl q1880 ?_
        exact x_lret rq ⟨(SH.rf (σ := σ0)).i, h⟩ dX6_hire_59
      · have h := h.2 c9
        refine x_iload dX6_hire_32 (n := 34) rfl 4 rfl ?_
        obtain ⟨b10, h⟩ := h
        refine x_cSip (As := [.int x5]) (rest := []) cs_X6_487 (met_X6_isDays (pI σ0 o 2 0) x5  b10) (by decide) rfl rfl rfl dX6_hire_34 (n := 37) rfl (fun r11 q => ?_)
        subst q
        refine x_if_eq (tgt := 56) dX6_hire_37 rfl (n := 40) rfl (fun c12 => ?_) (fun c12 => ?_)
        · have h := h.1 c12
          refine x_ldc2 dX6_hire_56 (n := 59) rfl q1880 ?_
          exact x_lret rq ⟨(SH.rf (σ := σ0)).i, h⟩ dX6_hire_59
        · have h := h.2 c12
          refine x_lload_n dX6_hire_40 (n := 41) rfl rfl 2 rfl ?_
          refine x_iload dX6_hire_41 (n := 43) rfl 3 rfl ?_
          refine x_i2l dX6_hire_43 (n := 44) rfl ?_
          refine x_ladd dX6_hire_44 (n := 45) rfl ?_
          refine x_iload dX6_hire_45 (n := 47) rfl 4 rfl ?_
          refine x_i2l dX6_hire_47 (n := 48) rfl ?_
          refine x_ladd dX6_hire_48 (n := 49) rfl ?_
          refine x_ldc2 dX6_hire_49 (n := 52) rfl q1900 ?_
          refine x_lcmp_le (tgt := 60) dX6_hire_52 (pc1 := 53) rfl dX6_hire_53 rfl (n := 56) rfl (fun c13 => ?_) (fun c13 => ?_)
          · have h := h.1 c13
            refine x_ldc2 dX6_hire_60 (n := 63) rfl q1880 ?_
            refine x_lstore (lvs' := [(6, .long (-1)), (0, .ref o), (1, .int x1), (2, .long y2), (4, .int x4), (5, .int x5)]) dX6_hire_63 (n := 65) rfl (by decide) rfl ?_
            refine x_lconst dX6_hire_65 (n := 66) rfl lc_0 ?_
            refine x_lstore (lvs' := [(8, .long 0), (6, .long (-1)), (0, .ref o), (1, .int x1), (2, .long y2), (4, .int x4), (5, .int x5)]) dX6_hire_66 (n := 68) rfl (by decide) rfl ?_
            refine x_lload_n dX6_hire_68 (n := 69) rfl rfl 4 rfl ?_
            refine x_lstore (lvs' := [(10, .long y2), (8, .long 0), (6, .long (-1)), (0, .ref o), (1, .int x1), (2, .long y2), (4, .int x4), (5, .int x5)]) dX6_hire_69 (n := 71) rfl (by decide) rfl ?_
            exact x_sub [3, 4, 5, 6, 7, 2, 1, 0] rfl (xl_X6_hire_71 o σ0 Q G hB0 rq x1 y2 x4 x5 ((-1), 0, y2, pI σ0 o 2 0) (SH.rf (σ := σ0)).i h)
          · have h := h.2 c13
            refine x_ldc2 dX6_hire_56 (n := 59) rfl q1880 ?_
            exact x_lret rq ⟨(SH.rf (σ := σ0)).i, h⟩ dX6_hire_59
