set_option maxRecDepth 100000
abbrev rm_J7_max : Room := { frames := 0, cells := 0, slots := 0, locals := 0 }
def f_J7_max (x0 : Int32) (x1 : Int32) : Int32 := if x0 < x1 then x1 else x0
theorem met_J7_max (σ : Hp) (x0 : Int32) (x1 : Int32)  : MetX yJ7_max cJ7_max 2 (some .int) rm_J7_max σ [.int x0, .int x1] (oI (fun r σ' => σ' = σ ∧ r = (f_J7_max x0 x1))) 0 0 := by
  refine metX_ofF (own := RJ7) (lvs := [(0, .int x0), (1, .int x1)]) (by decide +kernel) rfl (Nat.le_of_ble_eq_true rfl) rfl (fun G rq => ?_)
  have hv : (f_J7_max x0 x1) = _ := f_J7_max.eq_1 _ _
  refine x_iload_n dJ7_max_0 (n := 1) rfl rfl 0 rfl ?_
  refine x_iload_n dJ7_max_1 (n := 2) rfl rfl 1 rfl ?_
  refine x_icmp_lt (tgt := 9) dJ7_max_2 rfl (n := 5) rfl (fun c1 => ?_) (fun c1 => ?_)
  · have hv := hv.trans (if_pos c1)
    refine x_iload_n dJ7_max_9 (n := 10) rfl rfl 1 rfl ?_
    exact x_iret rq ⟨rfl, hv.symm⟩ dJ7_max_10
  · have hv := hv.trans (if_neg c1)
    refine x_iload_n dJ7_max_5 (n := 6) rfl rfl 0 rfl ?_
    refine x_goto (tgt := 10) dJ7_max_6 rfl ?_
    exact x_iret rq ⟨rfl, hv.symm⟩ dJ7_max_10
abbrev rm_J7_min : Room := { frames := 0, cells := 0, slots := 0, locals := 0 }
def f_J7_min (x0 : Int32) (x1 : Int32) : Int32 := if x1 < x0 then x1 else x0
theorem met_J7_min (σ : Hp) (x0 : Int32) (x1 : Int32)  : MetX yJ7_min cJ7_min 2 (some .int) rm_J7_min σ [.int x0, .int x1] (oI (fun r σ' => σ' = σ ∧ r = (f_J7_min x0 x1))) 0 0 := by
  refine metX_ofF (own := RJ7) (lvs := [(0, .int x0), (1, .int x1)]) (by decide +kernel) rfl (Nat.le_of_ble_eq_true rfl) rfl (fun G rq => ?_)
  have hv : (f_J7_min x0 x1) = _ := f_J7_min.eq_1 _ _
  refine x_iload_n dJ7_min_0 (n := 1) rfl rfl 0 rfl ?_
  refine x_iload_n dJ7_min_1 (n := 2) rfl rfl 1 rfl ?_
  refine x_icmp_gt (tgt := 9) dJ7_min_2 rfl (n := 5) rfl (fun c1 => ?_) (fun c1 => ?_)
  · have hv := hv.trans (if_pos c1)
    refine x_iload_n dJ7_min_9 (n := 10) rfl rfl 1 rfl ?_
    exact x_iret rq ⟨rfl, hv.symm⟩ dJ7_min_10
  · have hv := hv.trans (if_neg c1)
    refine x_iload_n dJ7_min_5 (n := 6) rfl rfl 0 rfl ?_
    refine x_goto (tgt := 10) dJ7_min_6 rfl ?_
    exact x_iret rq ⟨rfl, hv.symm⟩ dJ7_min_10
abbrev rm_J7_min_2 : Room := { frames := 0, cells := 0, slots := 0, locals := 0 }
def f_J7_min_2 (y0 : Int64) (y2 : Int64) : Int64 := if y2 < y0 then y2 else y0
theorem met_J7_min_2 (σ : Hp) (y0 : Int64) (y2 : Int64)  : MetX yJ7_min_2 cJ7_min_2 4 (some .long) rm_J7_min_2 σ [.long y0, .long y2] (oL (fun r σ' => σ' = σ ∧ r = (f_J7_min_2 y0 y2))) 0 0 := by
  refine metX_ofF (own := RJ7) (lvs := [(0, .long y0), (2, .long y2)]) (by decide +kernel) rfl (Nat.le_of_ble_eq_true rfl) rfl (fun G rq => ?_)
  have hv : (f_J7_min_2 y0 y2) = _ := f_J7_min_2.eq_1 _ _
  refine x_lload_n dJ7_min_2_0 (n := 1) rfl rfl 0 rfl ?_
  refine x_lload_n dJ7_min_2_1 (n := 2) rfl rfl 1 rfl ?_
  refine x_lcmp_gt (tgt := 10) dJ7_min_2_2 (pc1 := 3) rfl dJ7_min_2_3 rfl (n := 6) rfl (fun c1 => ?_) (fun c1 => ?_)
  · have hv := hv.trans (if_pos c1)
    refine x_lload_n dJ7_min_2_10 (n := 11) rfl rfl 1 rfl ?_
    exact x_lret rq ⟨rfl, hv.symm⟩ dJ7_min_2_11
  · have hv := hv.trans (if_neg c1)
    refine x_lload_n dJ7_min_2_6 (n := 7) rfl rfl 0 rfl ?_
    refine x_goto (tgt := 11) dJ7_min_2_7 rfl ?_
    exact x_lret rq ⟨rfl, hv.symm⟩ dJ7_min_2_11
abbrev rm_J7_max_2 : Room := { frames := 0, cells := 0, slots := 0, locals := 0 }
def f_J7_max_2 (y0 : Int64) (y2 : Int64) : Int64 := if y0 < y2 then y2 else y0
theorem met_J7_max_2 (σ : Hp) (y0 : Int64) (y2 : Int64)  : MetX yJ7_max_2 cJ7_max_2 4 (some .long) rm_J7_max_2 σ [.long y0, .long y2] (oL (fun r σ' => σ' = σ ∧ r = (f_J7_max_2 y0 y2))) 0 0 := by
  refine metX_ofF (own := RJ7) (lvs := [(0, .long y0), (2, .long y2)]) (by decide +kernel) rfl (Nat.le_of_ble_eq_true rfl) rfl (fun G rq => ?_)
  have hv : (f_J7_max_2 y0 y2) = _ := f_J7_max_2.eq_1 _ _
  refine x_lload_n dJ7_max_2_0 (n := 1) rfl rfl 0 rfl ?_
  refine x_lload_n dJ7_max_2_1 (n := 2) rfl rfl 1 rfl ?_
  refine x_lcmp_lt (tgt := 10) dJ7_max_2_2 (pc1 := 3) rfl dJ7_max_2_3 rfl (n := 6) rfl (fun c1 => ?_) (fun c1 => ?_)
  · have hv := hv.trans (if_pos c1)
    refine x_lload_n dJ7_max_2_10 (n := 11) rfl rfl 1 rfl ?_
    exact x_lret rq ⟨rfl, hv.symm⟩ dJ7_max_2_11
  · have hv := hv.trans (if_neg c1)
    refine x_lload_n dJ7_max_2_6 (n := 7) rfl rfl 0 rfl ?_
    refine x_goto (tgt := 11) dJ7_max_2_7 rfl ?_
    exact x_lret rq ⟨rfl, hv.symm⟩ dJ7_max_2_11
abbrev rm_J7_abs : Room := { frames := 0, cells := 0, slots := 0, locals := 0 }
def f_J7_abs (y0 : Int64) : Int64 := if 0 ≤ y0 then y0 else -y0
theorem met_J7_abs (σ : Hp) (y0 : Int64)  : MetX yJ7_abs cJ7_abs 2 (some .long) rm_J7_abs σ [.long y0] (oL (fun r σ' => σ' = σ ∧ r = (f_J7_abs y0))) 0 0 := by
  refine metX_ofF (own := RJ7) (lvs := [(0, .long y0)]) (by decide +kernel) rfl (Nat.le_of_ble_eq_true rfl) rfl (fun G rq => ?_)
  have hv : (f_J7_abs y0) = _ := f_J7_abs.eq_1 _
  refine x_lload_n dJ7_abs_0 (n := 1) rfl rfl 0 rfl ?_
  refine x_lconst dJ7_abs_1 (n := 2) rfl lc_0 ?_
  refine x_lcmp_ge (tgt := 11) dJ7_abs_2 (pc1 := 3) rfl dJ7_abs_3 rfl (n := 6) rfl (fun c1 => ?_) (fun c1 => ?_)
  · have hv := hv.trans (if_pos c1)
    refine x_lload_n dJ7_abs_11 (n := 12) rfl rfl 0 rfl ?_
    exact x_lret rq ⟨rfl, hv.symm⟩ dJ7_abs_12
  · have hv := hv.trans (if_neg c1)
    refine x_lload_n dJ7_abs_6 (n := 7) rfl rfl 0 rfl ?_
    refine x_lneg dJ7_abs_7 (n := 8) rfl ?_
    refine x_goto (tgt := 12) dJ7_abs_8 rfl ?_
    exact x_lret rq ⟨rfl, hv.symm⟩ dJ7_abs_12
abbrev rm_J7_floorDiv : Room := { frames := 0, cells := 0, slots := 0, locals := 0 }
def f_J7_floorDiv (y0 : Int64) (y2 : Int64) : Int64 := if 0 ≤ (y0 ^^^ y2) then y0 / y2 else if ((y0 / y2) * y2) = y0 then y0 / y2 else (y0 / y2) - 1
def ok_J7_floorDiv (y0 : Int64) (y2 : Int64) : Prop := ¬ y2 = 0
theorem met_J7_floorDiv (σ : Hp) (y0 : Int64) (y2 : Int64) (hk : ok_J7_floorDiv y0 y2) : MetX yJ7_floorDiv cJ7_floorDiv 6 (some .long) rm_J7_floorDiv σ [.long y0, .long y2] (oL (fun r σ' => σ' = σ ∧ r = (f_J7_floorDiv y0 y2))) 0 0 := by
  refine metX_ofF (own := RJ7) (lvs := [(0, .long y0), (2, .long y2)]) (by decide +kernel) rfl (Nat.le_of_ble_eq_true rfl) rfl (fun G rq => ?_)
  have hv : (f_J7_floorDiv y0 y2) = _ := f_J7_floorDiv.eq_1 _ _
  unfold ok_J7_floorDiv at hk
  refine x_lload_n dJ7_floorDiv_0 (n := 1) rfl rfl 0 rfl ?_
  refine x_lload_n dJ7_floorDiv_1 (n := 2) rfl rfl 1 rfl ?_
  have b1 := hk
  refine x_ldiv dJ7_floorDiv_2 (n := 3) rfl b1 ?_
  refine x_lstore (lvs' := [(4, .long (y0 / y2)), (0, .long y0), (2, .long y2)]) dJ7_floorDiv_3 (n := 5) rfl (by decide) rfl ?_
  refine x_lload_n dJ7_floorDiv_5 (n := 6) rfl rfl 1 rfl ?_
  refine x_lload_n dJ7_floorDiv_6 (n := 7) rfl rfl 2 rfl ?_
  refine x_lxor dJ7_floorDiv_7 (n := 8) rfl ?_
  refine x_lconst dJ7_floorDiv_8 (n := 9) rfl lc_0 ?_
  refine x_lcmp_ge (tgt := 27) dJ7_floorDiv_9 (pc1 := 10) rfl dJ7_floorDiv_10 rfl (n := 13) rfl (fun c2 => ?_) (fun c2 => ?_)
  · have hv := hv.trans (if_pos c2)
    refine x_lload dJ7_floorDiv_27 (n := 29) rfl 0 rfl ?_
    exact x_lret rq ⟨rfl, hv.symm⟩ dJ7_floorDiv_29
  · have hv := hv.trans (if_neg c2)
    refine x_lload dJ7_floorDiv_13 (n := 15) rfl 0 rfl ?_
    refine x_lload_n dJ7_floorDiv_15 (n := 16) rfl rfl 2 rfl ?_
    refine x_lmul dJ7_floorDiv_16 (n := 17) rfl ?_
    refine x_lload_n dJ7_floorDiv_17 (n := 18) rfl rfl 1 rfl ?_
    refine x_lcmp_eq (tgt := 27) dJ7_floorDiv_18 (pc1 := 19) rfl dJ7_floorDiv_19 rfl (n := 22) rfl (fun c3 => ?_) (fun c3 => ?_)
    · have hv := hv.trans (if_pos c3)
      refine x_lload dJ7_floorDiv_27 (n := 29) rfl 0 rfl ?_
      exact x_lret rq ⟨rfl, hv.symm⟩ dJ7_floorDiv_29
    · have hv := hv.trans (if_neg c3)
      refine x_lload dJ7_floorDiv_22 (n := 24) rfl 0 rfl ?_
      refine x_lconst dJ7_floorDiv_24 (n := 25) rfl lc_1 ?_
      refine x_lsub dJ7_floorDiv_25 (n := 26) rfl ?_
      exact x_lret rq ⟨rfl, hv.symm⟩ dJ7_floorDiv_26
abbrev rm_J18_bitCount : Room := { frames := 0, cells := 0, slots := 0, locals := 0 }
def f_J18_bitCount (x0 : Int32) : Int32 := (((((((x0 - (((x0.toUInt32 >>> ((1 : Int32).toUInt32 &&& Int32.toUInt32 31)).toInt32) &&& 1431655765)) &&& 858993459) + ((((x0 - (((x0.toUInt32 >>> ((1 : Int32).toUInt32 &&& Int32.toUInt32 31)).toInt32) &&& 1431655765)).toUInt32 >>> ((2 : Int32).toUInt32 &&& Int32.toUInt32 31)).toInt32) &&& 858993459)) + (((((x0 - (((x0.toUInt32 >>> ((1 : Int32).toUInt32 &&& Int32.toUInt32 31)).toInt32) &&& 1431655765)) &&& 858993459) + ((((x0 - (((x0.toUInt32 >>> ((1 : Int32).toUInt32 &&& Int32.toUInt32 31)).toInt32) &&& 1431655765)).toUInt32 >>> ((2 : Int32).toUInt32 &&& Int32.toUInt32 31)).toInt32) &&& 858993459)).toUInt32 >>> ((4 : Int32).toUInt32 &&& Int32.toUInt32 31)).toInt32)) &&& 252645135) + (((((((x0 - (((x0.toUInt32 >>> ((1 : Int32).toUInt32 &&& Int32.toUInt32 31)).toInt32) &&& 1431655765)) &&& 858993459) + ((((x0 - (((x0.toUInt32 >>> ((1 : Int32).toUInt32 &&& Int32.toUInt32 31)).toInt32) &&& 1431655765)).toUInt32 >>> ((2 : Int32).toUInt32 &&& Int32.toUInt32 31)).toInt32) &&& 858993459)) + (((((x0 - (((x0.toUInt32 >>> ((1 : Int32).toUInt32 &&& Int32.toUInt32 31)).toInt32) &&& 1431655765)) &&& 858993459) + ((((x0 - (((x0.toUInt32 >>> ((1 : Int32).toUInt32 &&& Int32.toUInt32 31)).toInt32) &&& 1431655765)).toUInt32 >>> ((2 : Int32).toUInt32 &&& Int32.toUInt32 31)).toInt32) &&& 858993459)).toUInt32 >>> ((4 : Int32).toUInt32 &&& Int32.toUInt32 31)).toInt32)) &&& 252645135).toUInt32 >>> ((8 : Int32).toUInt32 &&& Int32.toUInt32 31)).toInt32)) + ((((((((x0 - (((x0.toUInt32 >>> ((1 : Int32).toUInt32 &&& Int32.toUInt32 31)).toInt32) &&& 1431655765)) &&& 858993459) + ((((x0 - (((x0.toUInt32 >>> ((1 : Int32).toUInt32 &&& Int32.toUInt32 31)).toInt32) &&& 1431655765)).toUInt32 >>> ((2 : Int32).toUInt32 &&& Int32.toUInt32 31)).toInt32) &&& 858993459)) + (((((x0 - (((x0.toUInt32 >>> ((1 : Int32).toUInt32 &&& Int32.toUInt32 31)).toInt32) &&& 1431655765)) &&& 858993459) + ((((x0 - (((x0.toUInt32 >>> ((1 : Int32).toUInt32 &&& Int32.toUInt32 31)).toInt32) &&& 1431655765)).toUInt32 >>> ((2 : Int32).toUInt32 &&& Int32.toUInt32 31)).toInt32) &&& 858993459)).toUInt32 >>> ((4 : Int32).toUInt32 &&& Int32.toUInt32 31)).toInt32)) &&& 252645135) + (((((((x0 - (((x0.toUInt32 >>> ((1 : Int32).toUInt32 &&& Int32.toUInt32 31)).toInt32) &&& 1431655765)) &&& 858993459) + ((((x0 - (((x0.toUInt32 >>> ((1 : Int32).toUInt32 &&& Int32.toUInt32 31)).toInt32) &&& 1431655765)).toUInt32 >>> ((2 : Int32).toUInt32 &&& Int32.toUInt32 31)).toInt32) &&& 858993459)) + (((((x0 - (((x0.toUInt32 >>> ((1 : Int32).toUInt32 &&& Int32.toUInt32 31)).toInt32) &&& 1431655765)) &&& 858993459) + ((((x0 - (((x0.toUInt32 >>> ((1 : Int32).toUInt32 &&& Int32.toUInt32 31)).toInt32) &&& 1431655765)).toUInt32 >>> ((2 : Int32).toUInt32 &&& Int32.toUInt32 31)).toInt32) &&& 858993459)).toUInt32 >>> ((4 : Int32).toUInt32 &&& Int32.toUInt32 31)).toInt32)) &&& 252645135).toUInt32 >>> ((8 : Int32).toUInt32 &&& Int32.toUInt32 31)).toInt32)).toUInt32 >>> ((16 : Int32).toUInt32 &&& Int32.toUInt32 31)).toInt32)) &&& 63
theorem met_J18_bitCount (σ : Hp) (x0 : Int32)  : MetX yJ18_bitCount cJ18_bitCount 1 (some .int) rm_J18_bitCount σ [.int x0] (oI (fun r σ' => σ' = σ ∧ r = (f_J18_bitCount x0))) 0 0 := by
  refine metX_of (own := RJ18) (lvs := [(0, .int x0)]) (by decide) rfl (Nat.le_of_ble_eq_true rfl) rfl (fun G rq => ?_)
  have hv : (f_J18_bitCount x0) = _ := f_J18_bitCount.eq_1 _
  refine x_iload_n dJ18_bitCount_0 (n := 1) rfl rfl 0 rfl ?_
  refine x_iload_n dJ18_bitCount_1 (n := 2) rfl rfl 0 rfl ?_
  refine x_iconst dJ18_bitCount_2 (n := 3) rfl ic_1 ?_
  refine x_iushr dJ18_bitCount_3 (n := 4) rfl ?_
  refine x_ldcw dJ18_bitCount_4 (n := 7) rfl q1391 ?_
  refine x_iand dJ18_bitCount_7 (n := 8) rfl ?_
  refine x_isub dJ18_bitCount_8 (n := 9) rfl ?_
  refine x_istore_n (lvs' := [(0, .int (x0 - (((x0.toUInt32 >>> ((1 : Int32).toUInt32 &&& Int32.toUInt32 31)).toInt32) &&& 1431655765)))]) dJ18_bitCount_9 (n := 10) rfl rfl (by decide) rfl ?_
  refine x_iload_n dJ18_bitCount_10 (n := 11) rfl rfl 0 rfl ?_
  refine x_ldcw dJ18_bitCount_11 (n := 14) rfl q1392 ?_
  refine x_iand dJ18_bitCount_14 (n := 15) rfl ?_
  refine x_iload_n dJ18_bitCount_15 (n := 16) rfl rfl 0 rfl ?_
  refine x_iconst dJ18_bitCount_16 (n := 17) rfl ic_2 ?_
  refine x_iushr dJ18_bitCount_17 (n := 18) rfl ?_
  refine x_ldcw dJ18_bitCount_18 (n := 21) rfl q1392 ?_
  refine x_iand dJ18_bitCount_21 (n := 22) rfl ?_
  refine x_iadd dJ18_bitCount_22 (n := 23) rfl ?_
  refine x_istore_n (lvs' := [(0, .int (((x0 - (((x0.toUInt32 >>> ((1 : Int32).toUInt32 &&& Int32.toUInt32 31)).toInt32) &&& 1431655765)) &&& 858993459) + ((((x0 - (((x0.toUInt32 >>> ((1 : Int32).toUInt32 &&& Int32.toUInt32 31)).toInt32) &&& 1431655765)).toUInt32 >>> ((2 : Int32).toUInt32 &&& Int32.toUInt32 31)).toInt32) &&& 858993459)))]) dJ18_bitCount_23 (n := 24) rfl rfl (by decide) rfl ?_
  refine x_iload_n dJ18_bitCount_24 (n := 25) rfl rfl 0 rfl ?_
  refine x_iload_n dJ18_bitCount_25 (n := 26) rfl rfl 0 rfl ?_
  refine x_iconst dJ18_bitCount_26 (n := 27) rfl ic_4 ?_
  refine x_iushr dJ18_bitCount_27 (n := 28) rfl ?_
  refine x_iadd dJ18_bitCount_28 (n := 29) rfl ?_
  refine x_ldcw dJ18_bitCount_29 (n := 32) rfl q1393 ?_
  refine x_iand dJ18_bitCount_32 (n := 33) rfl ?_
  refine x_istore_n (lvs' := [(0, .int (((((x0 - (((x0.toUInt32 >>> ((1 : Int32).toUInt32 &&& Int32.toUInt32 31)).toInt32) &&& 1431655765)) &&& 858993459) + ((((x0 - (((x0.toUInt32 >>> ((1 : Int32).toUInt32 &&& Int32.toUInt32 31)).toInt32) &&& 1431655765)).toUInt32 >>> ((2 : Int32).toUInt32 &&& Int32.toUInt32 31)).toInt32) &&& 858993459)) + (((((x0 - (((x0.toUInt32 >>> ((1 : Int32).toUInt32 &&& Int32.toUInt32 31)).toInt32) &&& 1431655765)) &&& 858993459) + ((((x0 - (((x0.toUInt32 >>> ((1 : Int32).toUInt32 &&& Int32.toUInt32 31)).toInt32) &&& 1431655765)).toUInt32 >>> ((2 : Int32).toUInt32 &&& Int32.toUInt32 31)).toInt32) &&& 858993459)).toUInt32 >>> ((4 : Int32).toUInt32 &&& Int32.toUInt32 31)).toInt32)) &&& 252645135))]) dJ18_bitCount_33 (n := 34) rfl rfl (by decide) rfl ?_
  refine x_iload_n dJ18_bitCount_34 (n := 35) rfl rfl 0 rfl ?_
  refine x_iload_n dJ18_bitCount_35 (n := 36) rfl rfl 0 rfl ?_
  refine x_bipush dJ18_bitCount_36 (n := 38) rfl bp_8 ?_
  refine x_iushr dJ18_bitCount_38 (n := 39) rfl ?_
  refine x_iadd dJ18_bitCount_39 (n := 40) rfl ?_
  refine x_istore_n (lvs' := [(0, .int ((((((x0 - (((x0.toUInt32 >>> ((1 : Int32).toUInt32 &&& Int32.toUInt32 31)).toInt32) &&& 1431655765)) &&& 858993459) + ((((x0 - (((x0.toUInt32 >>> ((1 : Int32).toUInt32 &&& Int32.toUInt32 31)).toInt32) &&& 1431655765)).toUInt32 >>> ((2 : Int32).toUInt32 &&& Int32.toUInt32 31)).toInt32) &&& 858993459)) + (((((x0 - (((x0.toUInt32 >>> ((1 : Int32).toUInt32 &&& Int32.toUInt32 31)).toInt32) &&& 1431655765)) &&& 858993459) + ((((x0 - (((x0.toUInt32 >>> ((1 : Int32).toUInt32 &&& Int32.toUInt32 31)).toInt32) &&& 1431655765)).toUInt32 >>> ((2 : Int32).toUInt32 &&& Int32.toUInt32 31)).toInt32) &&& 858993459)).toUInt32 >>> ((4 : Int32).toUInt32 &&& Int32.toUInt32 31)).toInt32)) &&& 252645135) + (((((((x0 - (((x0.toUInt32 >>> ((1 : Int32).toUInt32 &&& Int32.toUInt32 31)).toInt32) &&& 1431655765)) &&& 858993459) + ((((x0 - (((x0.toUInt32 >>> ((1 : Int32).toUInt32 &&& Int32.toUInt32 31)).toInt32) &&& 1431655765)).toUInt32 >>> ((2 : Int32).toUInt32 &&& Int32.toUInt32 31)).toInt32) &&& 858993459)) + (((((x0 - (((x0.toUInt32 >>> ((1 : Int32).toUInt32 &&& Int32.toUInt32 31)).toInt32) &&& 1431655765)) &&& 858993459) + ((((x0 - (((x0.toUInt32 >>> ((1 : Int32).toUInt32 &&& Int32.toUInt32 31)).toInt32) &&& 1431655765)).toUInt32 >>> ((2 : Int32).toUInt32 &&& Int32.toUInt32 31)).toInt32) &&& 858993459)).toUInt32 >>> ((4 : Int32).toUInt32 &&& Int32.toUInt32 31)).toInt32)) &&& 252645135).toUInt32 >>> ((8 : Int32).toUInt32 &&& Int32.toUInt32 31)).toInt32)))]) dJ18_bitCount_40 (n := 41) rfl rfl (by decide) rfl ?_
  refine x_iload_n dJ18_bitCount_41 (n := 42) rfl rfl 0 rfl ?_
  refine x_iload_n dJ18_bitCount_42 (n := 43) rfl rfl 0 rfl ?_
  refine x_bipush dJ18_bitCount_43 (n := 45) rfl bp_16 ?_
  refine x_iushr dJ18_bitCount_45 (n := 46) rfl ?_
  refine x_iadd dJ18_bitCount_46 (n := 47) rfl ?_
  refine x_istore_n (lvs' := [(0, .int (((((((x0 - (((x0.toUInt32 >>> ((1 : Int32).toUInt32 &&& Int32.toUInt32 31)).toInt32) &&& 1431655765)) &&& 858993459) + ((((x0 - (((x0.toUInt32 >>> ((1 : Int32).toUInt32 &&& Int32.toUInt32 31)).toInt32) &&& 1431655765)).toUInt32 >>> ((2 : Int32).toUInt32 &&& Int32.toUInt32 31)).toInt32) &&& 858993459)) + (((((x0 - (((x0.toUInt32 >>> ((1 : Int32).toUInt32 &&& Int32.toUInt32 31)).toInt32) &&& 1431655765)) &&& 858993459) + ((((x0 - (((x0.toUInt32 >>> ((1 : Int32).toUInt32 &&& Int32.toUInt32 31)).toInt32) &&& 1431655765)).toUInt32 >>> ((2 : Int32).toUInt32 &&& Int32.toUInt32 31)).toInt32) &&& 858993459)).toUInt32 >>> ((4 : Int32).toUInt32 &&& Int32.toUInt32 31)).toInt32)) &&& 252645135) + (((((((x0 - (((x0.toUInt32 >>> ((1 : Int32).toUInt32 &&& Int32.toUInt32 31)).toInt32) &&& 1431655765)) &&& 858993459) + ((((x0 - (((x0.toUInt32 >>> ((1 : Int32).toUInt32 &&& Int32.toUInt32 31)).toInt32) &&& 1431655765)).toUInt32 >>> ((2 : Int32).toUInt32 &&& Int32.toUInt32 31)).toInt32) &&& 858993459)) + (((((x0 - (((x0.toUInt32 >>> ((1 : Int32).toUInt32 &&& Int32.toUInt32 31)).toInt32) &&& 1431655765)) &&& 858993459) + ((((x0 - (((x0.toUInt32 >>> ((1 : Int32).toUInt32 &&& Int32.toUInt32 31)).toInt32) &&& 1431655765)).toUInt32 >>> ((2 : Int32).toUInt32 &&& Int32.toUInt32 31)).toInt32) &&& 858993459)).toUInt32 >>> ((4 : Int32).toUInt32 &&& Int32.toUInt32 31)).toInt32)) &&& 252645135).toUInt32 >>> ((8 : Int32).toUInt32 &&& Int32.toUInt32 31)).toInt32)) + ((((((((x0 - (((x0.toUInt32 >>> ((1 : Int32).toUInt32 &&& Int32.toUInt32 31)).toInt32) &&& 1431655765)) &&& 858993459) + ((((x0 - (((x0.toUInt32 >>> ((1 : Int32).toUInt32 &&& Int32.toUInt32 31)).toInt32) &&& 1431655765)).toUInt32 >>> ((2 : Int32).toUInt32 &&& Int32.toUInt32 31)).toInt32) &&& 858993459)) + (((((x0 - (((x0.toUInt32 >>> ((1 : Int32).toUInt32 &&& Int32.toUInt32 31)).toInt32) &&& 1431655765)) &&& 858993459) + ((((x0 - (((x0.toUInt32 >>> ((1 : Int32).toUInt32 &&& Int32.toUInt32 31)).toInt32) &&& 1431655765)).toUInt32 >>> ((2 : Int32).toUInt32 &&& Int32.toUInt32 31)).toInt32) &&& 858993459)).toUInt32 >>> ((4 : Int32).toUInt32 &&& Int32.toUInt32 31)).toInt32)) &&& 252645135) + (((((((x0 - (((x0.toUInt32 >>> ((1 : Int32).toUInt32 &&& Int32.toUInt32 31)).toInt32) &&& 1431655765)) &&& 858993459) + ((((x0 - (((x0.toUInt32 >>> ((1 : Int32).toUInt32 &&& Int32.toUInt32 31)).toInt32) &&& 1431655765)).toUInt32 >>> ((2 : Int32).toUInt32 &&& Int32.toUInt32 31)).toInt32) &&& 858993459)) + (((((x0 - (((x0.toUInt32 >>> ((1 : Int32).toUInt32 &&& Int32.toUInt32 31)).toInt32) &&& 1431655765)) &&& 858993459) + ((((x0 - (((x0.toUInt32 >>> ((1 : Int32).toUInt32 &&& Int32.toUInt32 31)).toInt32) &&& 1431655765)).toUInt32 >>> ((2 : Int32).toUInt32 &&& Int32.toUInt32 31)).toInt32) &&& 858993459)).toUInt32 >>> ((4 : Int32).toUInt32 &&& Int32.toUInt32 31)).toInt32)) &&& 252645135).toUInt32 >>> ((8 : Int32).toUInt32 &&& Int32.toUInt32 31)).toInt32)).toUInt32 >>> ((16 : Int32).toUInt32 &&& Int32.toUInt32 31)).toInt32)))]) dJ18_bitCount_47 (n := 48) rfl rfl (by decide) rfl ?_
  refine x_iload_n dJ18_bitCount_48 (n := 49) rfl rfl 0 rfl ?_
  refine x_bipush dJ18_bitCount_49 (n := 51) rfl bp_63 ?_
  refine x_iand dJ18_bitCount_51 (n := 52) rfl ?_
  exact x_iret rq ⟨rfl, hv.symm⟩ dJ18_bitCount_52
abbrev rm_J5_checkIndex : Room := { frames := 0, cells := 0, slots := 0, locals := 0 }
def f_J5_checkIndex (x0 : Int32) (x1 : Int32) : Int32 := if x0 < 0 then 0 else if x0 < x1 then x0 else 0
def ok_J5_checkIndex (x0 : Int32) (x1 : Int32) : Prop := (x0 < 0 → False) ∧ (¬ x0 < 0 → ((x0 < x1 → True) ∧ (¬ x0 < x1 → False)))
theorem met_J5_checkIndex (σ : Hp) (x0 : Int32) (x1 : Int32) (hk : ok_J5_checkIndex x0 x1) : MetX yJ5_checkIndex cJ5_checkIndex 3 (some .int) rm_J5_checkIndex σ [.int x0, .int x1, .null] (oI (fun r σ' => σ' = σ ∧ r = (f_J5_checkIndex x0 x1))) 0 0 := by
  refine metX_of (own := RJ5) (lvs := [(0, .int x0), (1, .int x1), (2, .null)]) (by decide) rfl (Nat.le_of_ble_eq_true rfl) rfl (fun G rq => ?_)
  have hv : (f_J5_checkIndex x0 x1) = _ := f_J5_checkIndex.eq_1 _ _
  unfold ok_J5_checkIndex at hk
  refine x_iload_n dJ5_checkIndex_0 (n := 1) rfl rfl 0 rfl ?_
  refine x_if_lt (tgt := 9) dJ5_checkIndex_1 rfl (n := 4) rfl (fun c1 => ?_) (fun c1 => ?_)
  · have hk := hk.1 c1
    have hv := hv.trans (if_pos c1)
    exact hk.elim
  · have hk := hk.2 c1
    have hv := hv.trans (if_neg c1)
    refine x_iload_n dJ5_checkIndex_4 (n := 5) rfl rfl 0 rfl ?_
    refine x_iload_n dJ5_checkIndex_5 (n := 6) rfl rfl 1 rfl ?_
    refine x_icmp_lt (tgt := 16) dJ5_checkIndex_6 rfl (n := 9) rfl (fun c2 => ?_) (fun c2 => ?_)
    · have hk := hk.1 c2
      have hv := hv.trans (if_pos c2)
      refine x_iload_n dJ5_checkIndex_16 (n := 17) rfl rfl 0 rfl ?_
      exact x_iret rq ⟨rfl, hv.symm⟩ dJ5_checkIndex_17
    · have hk := hk.2 c2
      have hv := hv.trans (if_neg c2)
      exact hk.elim
abbrev rm_J11_checkIndex : Room := { frames := 1, cells := 0, slots := 0, locals := 22 }
def f_J11_checkIndex (x0 : Int32) (x1 : Int32) : Int32 := f_J5_checkIndex x0 x1
def ok_J11_checkIndex (x0 : Int32) (x1 : Int32) : Prop := ok_J5_checkIndex x0 x1
theorem met_J11_checkIndex (σ : Hp) (x0 : Int32) (x1 : Int32) (hk : ok_J11_checkIndex x0 x1) : MetX yJ11_checkIndex cJ11_checkIndex 2 (some .int) rm_J11_checkIndex σ [.int x0, .int x1] (oI (fun r σ' => σ' = σ ∧ r = (f_J11_checkIndex x0 x1))) 0 0 := by
  refine metX_of (own := RJ11) (lvs := [(0, .int x0), (1, .int x1)]) (by decide) rfl (Nat.le_of_ble_eq_true rfl) rfl (fun G rq => ?_)
  have hv : (f_J11_checkIndex x0 x1) = _ := f_J11_checkIndex.eq_1 _ _
  unfold ok_J11_checkIndex at hk
  refine x_iload_n dJ11_checkIndex_0 (n := 1) rfl rfl 0 rfl ?_
  refine x_iload_n dJ11_checkIndex_1 (n := 2) rfl rfl 1 rfl ?_
  refine x_null dJ11_checkIndex_2 (n := 3) rfl ?_
  have b1 := hk
  refine x_cSip (As := [.int x0, .int x1, .null]) (rest := []) cs_J11_105 (met_J5_checkIndex σ x0 x1  b1) (by decide) rfl rfl rfl dJ11_checkIndex_3 (n := 6) rfl (fun r2 q => ?_)
  subst q
  exact x_iret rq ⟨rfl, hv.symm⟩ dJ11_checkIndex_6
abbrev rm_J2_size : Room := { frames := 0, cells := 0, slots := 0, locals := 0 }
def f_J2_size (o c : Nat) (σ : Hp) : Int32 := gI σ o 2
theorem met_J2_size (o c : Nat) (σ : Hp) (hB : AB o c σ) : MetX yJ2_size cJ2_size 1 (some .int) rm_J2_size σ [.ref o] (oI (fun r σ' => σ' = σ ∧ r = (f_J2_size o c σ))) 0 0 := by
  refine metX_of (own := RJ2) (lvs := [(0, .ref o)]) (by decide) rfl (Nat.le_of_ble_eq_true rfl) rfl (fun G rq => ?_)
  have hv : (f_J2_size o c σ) = _ := f_J2_size.eq_1 _ _ _
  refine x_aload_n dJ2_size_0 (n := 1) rfl rfl 0 rfl ?_
  refine x_geti fl_J2_48_4 rfl hB.1 rfl dJ2_size_1 (n := 4) rfl ?_
  exact x_iret rq ⟨rfl, hv.symm⟩ dJ2_size_4
abbrev rm_J2_elementData : Room := { frames := 0, cells := 0, slots := 0, locals := 0 }
def f_J2_elementData (o c : Nat) (σ : Hp) (x1 : Int32) : Nat := rf σ (o + 1) x1.toNatClampNeg
def ok_J2_elementData (o c : Nat) (σ : Hp) (x1 : Int32) : Prop := (vp_in x1 c) ∧ (gR σ (o + 1) x1.toNatClampNeg ≠ none)
theorem met_J2_elementData (o c : Nat) (σ : Hp) (x1 : Int32) (hB : AB o c σ) (hk : ok_J2_elementData o c σ x1) : MetX yJ2_elementData cJ2_elementData 2 (some (.object "java/lang/Object")) rm_J2_elementData σ [.ref o, .int x1] (oR (fun r σ' => σ' = σ ∧ r = (f_J2_elementData o c σ x1))) 0 0 := by
  refine metX_of (own := RJ2) (lvs := [(0, .ref o), (1, .int x1)]) (by decide) rfl (Nat.le_of_ble_eq_true rfl) rfl (fun G rq => ?_)
  have hv : (f_J2_elementData o c σ x1) = _ := f_J2_elementData.eq_1 _ _ _ _
  unfold ok_J2_elementData at hk
  refine x_aload_n dJ2_elementData_0 (n := 1) rfl rfl 0 rfl ?_
  refine x_getr fl_J2_9_4 rfl hB.1 hB.2.1 dJ2_elementData_1 (n := 4) rfl ?_
  refine x_iload_n dJ2_elementData_4 (n := 5) rfl rfl 1 rfl ?_
  obtain ⟨b1, hk⟩ := hk
  have b2 := hk
  refine x_aaldn at_obj rfl hB.2.2 b1 rfl b2 rfl dJ2_elementData_5 (n := 6) rfl ?_
  exact x_aret rfl rq ⟨rfl, hv.symm⟩ dJ2_elementData_6
abbrev rm_J2_get : Room := { frames := 2, cells := 0, slots := 0, locals := 43 }
def f_J2_get (o c : Nat) (σ : Hp) (x1 : Int32) : Nat := f_J2_elementData o c σ x1
def ok_J2_get (o c : Nat) (σ : Hp) (x1 : Int32) : Prop := (ok_J11_checkIndex x1 (gI σ o 2)) ∧ (ok_J2_elementData o c σ x1)
theorem met_J2_get (o c : Nat) (σ : Hp) (x1 : Int32) (hB : AB o c σ) (hk : ok_J2_get o c σ x1) : MetX yJ2_get cJ2_get 2 (some (.object "java/lang/Object")) rm_J2_get σ [.ref o, .int x1] (oR (fun r σ' => σ' = σ ∧ r = (f_J2_get o c σ x1))) 0 0 := by
  refine metX_of (own := RJ2) (lvs := [(0, .ref o), (1, .int x1)]) (by decide) rfl (Nat.le_of_ble_eq_true rfl) rfl (fun G rq => ?_)
  have hv : (f_J2_get o c σ x1) = _ := f_J2_get.eq_1 _ _ _ _
  unfold ok_J2_get at hk
  refine x_iload_n dJ2_get_0 (n := 1) rfl rfl 1 rfl ?_
  refine x_aload_n dJ2_get_1 (n := 2) rfl rfl 0 rfl ?_
  refine x_geti fl_J2_48_4 rfl hB.1 rfl dJ2_get_2 (n := 5) rfl ?_
  obtain ⟨b1, hk⟩ := hk
  refine x_cSip (As := [.int x1, .int (gI σ o 2)]) (rest := []) cs_J2_118 (met_J11_checkIndex σ x1 (gI σ o 2)  b1) (by decide) rfl rfl rfl dJ2_get_5 (n := 8) rfl (fun r2 q => ?_)
  subst q
  refine x_pop dJ2_get_8 (n := 9) rfl rfl ?_
  refine x_aload_n dJ2_get_9 (n := 10) rfl rfl 0 rfl ?_
  refine x_iload_n dJ2_get_10 (n := 11) rfl rfl 1 rfl ?_
  have b3 := hk
  refine x_cVrp (As := [.int x1]) (rest := []) cv_J2_123 ck4 (met_J2_elementData o c σ x1 hB b3) hB.1 (by decide) rfl rfl rfl dJ2_get_11 (n := 14) rfl (fun r4 q => ?_)
  subst q
  exact x_aret rfl rq ⟨rfl, hv.symm⟩ dJ2_get_14
abbrev rm_J2_isEmpty : Room := { frames := 0, cells := 0, slots := 0, locals := 0 }
def f_J2_isEmpty (o c : Nat) (σ : Hp) : Int32 := if (gI σ o 2) = 0 then 1 else 0
theorem met_J2_isEmpty (o c : Nat) (σ : Hp) (hB : AB o c σ) : MetX yJ2_isEmpty cJ2_isEmpty 1 (some .boolean) rm_J2_isEmpty σ [.ref o] (oI (fun r σ' => σ' = σ ∧ r = (f_J2_isEmpty o c σ))) 0 0 := by
  refine metX_of (own := RJ2) (lvs := [(0, .ref o)]) (by decide) rfl (Nat.le_of_ble_eq_true rfl) rfl (fun G rq => ?_)
  have hv : (f_J2_isEmpty o c σ) = _ := f_J2_isEmpty.eq_1 _ _ _
  refine x_aload_n dJ2_isEmpty_0 (n := 1) rfl rfl 0 rfl ?_
  refine x_geti fl_J2_48_4 rfl hB.1 rfl dJ2_isEmpty_1 (n := 4) rfl ?_
  refine x_if_ne (tgt := 11) dJ2_isEmpty_4 rfl (n := 7) rfl (fun c1 => ?_) (fun c1 => ?_)
  · have hv := hv.trans (if_neg c1)
    refine x_iconst dJ2_isEmpty_11 (n := 12) rfl ic_0 ?_
    exact x_zret rq ⟨rfl, hv.symm⟩ isB0 dJ2_isEmpty_12
  · have hv := hv.trans (if_pos c1)
    refine x_iconst dJ2_isEmpty_7 (n := 8) rfl ic_1 ?_
    refine x_goto (tgt := 12) dJ2_isEmpty_8 rfl ?_
    exact x_zret rq ⟨rfl, hv.symm⟩ isB1 dJ2_isEmpty_12
abbrev rm_X1_put : Room := { frames := 0, cells := 0, slots := 0, locals := 0 }
def lb_X1_put_3 (o c : Nat) (x1 : Int32) (Q : Hp → Prop)  (K3 : Int32 × Hp → Prop) (z : Int32 × Hp) : Prop := match z with
  | (x2, σ) => (x2 < 0 → Q σ) ∧ (¬ x2 < 0 → (vp_in (gI σ o 1) 900) ∧ (K3 (x2 + (-8), pI (pI σ o 1 ((gI σ o 1) + 1)) (o + 1) (gI σ o 1).toNatClampNeg (vp_nar .byte ((x1 >>> (x2 &&& 31)).toInt8.toInt32)))))
def wp_X1_put (o c : Nat) (σ0 : Hp) (x1 : Int32) (Q : Hp → Prop) : Prop := lp (lb_X1_put_3 o c x1 Q) (24, σ0)
theorem xl_X1_put_3 (o c : Nat) (σ0 : Hp) (Q : Hp → Prop) (G : XE) (hB0 : LB o c σ0) (rq : RQ G 0 0 (oV (fun σ' => SH σ0 σ' ∧ Q σ'))) (x1 : Int32)    : ∀ z : Int32 × Hp, SH σ0 z.2 → lp (lb_X1_put_3 o c x1 Q ) z → X G rm_X1_put cX1_put RX1 3 none z.2 0 0 3 [(0, .ref o), (1, .int x1), (2, .int z.1)] [] := by
  intro z
  refine fun hs h => lp_X (P := fun z => SH σ0 z.2 → X G rm_X1_put cX1_put RX1 3 none z.2 0 0 3 [(0, .ref o), (1, .int x1), (2, .int z.1)] []) ?_ h hs
  intro K3 hK3 z h hs
  obtain ⟨x2, σ⟩ := z
  have hs : SH σ0 σ := hs
  have hB := hB0.sh hs
  simp only [lb_X1_put_3] at h
  show X G rm_X1_put cX1_put RX1 3 none σ 0 0 3 [(0, .ref o), (1, .int x1), (2, .int x2)] []
  have hK3 : ∀ z : (Int32 × Hp), SH σ0 z.2 → K3 z → X G rm_X1_put cX1_put RX1 3 none z.2 0 0 3 [(0, .ref o), (1, .int x1), (2, .int z.1)] [] := fun z hs h => hK3 z h hs
  refine x_iload_n dX1_put_3 (n := 4) rfl rfl 2 rfl ?_
  refine x_if_lt (tgt := 33) dX1_put_4 rfl (n := 7) rfl (fun c1 => ?_) (fun c1 => ?_)
  · have h := h.1 c1
    exact x_vret rq ⟨hs, h⟩ dX1_put_33
  · have h := h.2 c1
    refine x_aload_n dX1_put_7 (n := 8) rfl rfl 0 rfl ?_
    refine x_getr fl_X1_19_1 rfl hB.1 hB.r0 dX1_put_8 (n := 11) rfl ?_
    refine x_aload_n dX1_put_11 (n := 12) rfl rfl 0 rfl ?_
    refine x_dup dX1_put_12 (n := 13) rfl rfl ?_
    refine x_geti fl_X1_90_1 rfl hB.1 rfl dX1_put_13 (n := 16) rfl ?_
    refine x_dup_x1 dX1_put_16 (n := 17) rfl rfl rfl ?_
    refine x_iconst dX1_put_17 (n := 18) rfl ic_1 ?_
    refine x_iadd dX1_put_18 (n := 19) rfl ?_
    refine x_puti fp_X1_90_1 rfl hB.1 dX1_put_19 (n := 22) rfl ?_
    refine x_iload_n dX1_put_22 (n := 23) rfl rfl 1 rfl ?_
    refine x_iload_n dX1_put_23 (n := 24) rfl rfl 2 rfl ?_
    refine x_ishr dX1_put_24 (n := 25) rfl ?_
    refine x_i2b dX1_put_25 (n := 26) rfl ?_
    obtain ⟨b2, h⟩ := h
    refine x_bast hB.i.a0 b2 rfl dX1_put_26 (n := 27) rfl ?_
    refine x_iinc (v := x2 + (-8)) (lvs' := [(2, .int (x2 + (-8))), (0, .ref o), (1, .int x1)]) dX1_put_27 (n := 30) rfl 2 rfl rfl (by decide) rfl ?_
    refine x_goto (tgt := 3) dX1_put_30 rfl ?_
    exact x_sub [1, 2, 0] rfl (hK3 (x2 + (-8), pI (pI σ o 1 ((gI σ o 1) + 1)) (o + 1) (gI σ o 1).toNatClampNeg (vp_nar .byte ((x1 >>> (x2 &&& 31)).toInt8.toInt32))) hs.i.i h)
theorem met_X1_put (o c : Nat) (σ0 : Hp) (x1 : Int32) (Q : Hp → Prop) (hB0 : LB o c σ0) (h : wp_X1_put o c σ0 x1 Q) : MetX yX1_put cX1_put 3 none rm_X1_put σ0 [.ref o, .int x1] (oV (fun σ' => SH σ0 σ' ∧ Q σ')) 0 0 := by
  refine metX_of (own := RX1) (lvs := [(0, .ref o), (1, .int x1)]) (by decide) rfl (Nat.le_of_ble_eq_true rfl) rfl (fun G rq => ?_)
  unfold wp_X1_put at h
  refine x_bipush dX1_put_0 (n := 2) rfl bp_24 ?_
  refine x_istore_n (lvs' := [(2, .int 24), (0, .ref o), (1, .int x1)]) dX1_put_2 (n := 3) rfl rfl (by decide) rfl ?_
  exact x_sub [1, 2, 0] rfl (xl_X1_put_3 o c σ0 Q G hB0 rq x1 (24, σ0) (SH.rf (σ := σ0)) h)
abbrev rm_X1_feed : Room := { frames := 1, cells := 0, slots := 0, locals := 22 }
def wp_X1_feed (o c : Nat) (σ0 : Hp) (x1 : Int32) (x2 : Int32) (x3 : Int32) (x4 : Int32) (x5 : Int32) (Q : Int32 → Hp → Prop) : Prop := (((gI σ0 o 1) + 20) ≤ 900 → wp_X1_put o c σ0 x1 (fun  s2 => wp_X1_put o c s2 x2 (fun  s4 => wp_X1_put o c s4 x3 (fun  s6 => wp_X1_put o c s6 x4 (fun  s8 => wp_X1_put o c s8 x5 (fun  s10 => Q (gI s10 o 1) s10)))))) ∧ (¬ ((gI σ0 o 1) + 20) ≤ 900 → Q (-1) σ0)
theorem met_X1_feed (o c : Nat) (σ0 : Hp) (x1 : Int32) (x2 : Int32) (x3 : Int32) (x4 : Int32) (x5 : Int32) (Q : Int32 → Hp → Prop) (hB0 : LB o c σ0) (h : wp_X1_feed o c σ0 x1 x2 x3 x4 x5 Q) : MetX yX1_feed cX1_feed 6 (some .int) rm_X1_feed σ0 [.ref o, .int x1, .int x2, .int x3, .int x4, .int x5] (oI (fun r σ' => SH σ0 σ' ∧ Q r σ')) 0 0 := by
  refine metX_of (own := RX1) (lvs := [(0, .ref o), (1, .int x1), (2, .int x2), (3, .int x3), (4, .int x4), (5, .int x5)]) (by decide) rfl (Nat.le_of_ble_eq_true rfl) rfl (fun G rq => ?_)
  unfold wp_X1_feed at h
  refine x_aload_n dX1_feed_0 (n := 1) rfl rfl 0 rfl ?_
  refine x_geti fl_X1_90_1 rfl hB0.1 rfl dX1_feed_1 (n := 4) rfl ?_
  refine x_bipush dX1_feed_4 (n := 6) rfl bp_20 ?_
  refine x_iadd dX1_feed_6 (n := 7) rfl ?_
  refine x_sipush dX1_feed_7 (n := 10) rfl sp_900 ?_
  refine x_icmp_le (tgt := 15) dX1_feed_10 rfl (n := 13) rfl (fun c1 => ?_) (fun c1 => ?_)
  · have h := h.1 c1
    refine x_aload_n dX1_feed_15 (n := 16) rfl rfl 0 rfl ?_
    refine x_iload_n dX1_feed_16 (n := 17) rfl rfl 1 rfl ?_
    refine x_cVvm (As := [.int x1]) (rest := []) cv_X1_93 ck1 (met_X1_put o c σ0 x1 _ hB0 h) hB0.1 (by decide) rfl rfl rfl dX1_feed_17 (n := 20) rfl (fun  s2 hs3 h => ?_)
    have hs3t := (SH.rf (σ := σ0)).tr hs3; have hBs2 := hB0.sh hs3t
    refine x_aload_n dX1_feed_20 (n := 21) rfl rfl 0 rfl ?_
    refine x_iload_n dX1_feed_21 (n := 22) rfl rfl 2 rfl ?_
    refine x_cVvm (As := [.int x2]) (rest := []) cv_X1_93 ck1 (met_X1_put o c s2 x2 _ hBs2 h) hBs2.1 (by decide) rfl rfl rfl dX1_feed_22 (n := 25) rfl (fun  s4 hs5 h => ?_)
    have hs5t := hs3t.tr hs5; have hBs4 := hB0.sh hs5t
    refine x_aload_n dX1_feed_25 (n := 26) rfl rfl 0 rfl ?_
    refine x_iload_n dX1_feed_26 (n := 27) rfl rfl 3 rfl ?_
    refine x_cVvm (As := [.int x3]) (rest := []) cv_X1_93 ck1 (met_X1_put o c s4 x3 _ hBs4 h) hBs4.1 (by decide) rfl rfl rfl dX1_feed_27 (n := 30) rfl (fun  s6 hs7 h => ?_)
    have hs7t := hs5t.tr hs7; have hBs6 := hB0.sh hs7t
    refine x_aload_n dX1_feed_30 (n := 31) rfl rfl 0 rfl ?_
    refine x_iload dX1_feed_31 (n := 33) rfl 4 rfl ?_
    refine x_cVvm (As := [.int x4]) (rest := []) cv_X1_93 ck1 (met_X1_put o c s6 x4 _ hBs6 h) hBs6.1 (by decide) rfl rfl rfl dX1_feed_33 (n := 36) rfl (fun  s8 hs9 h => ?_)
    have hs9t := hs7t.tr hs9; have hBs8 := hB0.sh hs9t
    refine x_aload_n dX1_feed_36 (n := 37) rfl rfl 0 rfl ?_
    refine x_iload dX1_feed_37 (n := 39) rfl 5 rfl ?_
    refine x_cVvm (As := [.int x5]) (rest := []) cv_X1_93 ck1 (met_X1_put o c s8 x5 _ hBs8 h) hBs8.1 (by decide) rfl rfl rfl dX1_feed_39 (n := 42) rfl (fun  s10 hs11 h => ?_)
    have hs11t := hs9t.tr hs11; have hBs10 := hB0.sh hs11t
    refine x_aload_n dX1_feed_42 (n := 43) rfl rfl 0 rfl ?_
    refine x_geti fl_X1_90_1 rfl hBs10.1 rfl dX1_feed_43 (n := 46) rfl ?_
    exact x_iret rq ⟨hs11t, h⟩ dX1_feed_46
  · have h := h.2 c1
    refine x_iconst dX1_feed_13 (n := 14) rfl ic_m1 ?_
    exact x_iret rq ⟨(SH.rf (σ := σ0)), h⟩ dX1_feed_14
abbrev rm_X1_in : Room := { frames := 0, cells := 0, slots := 0, locals := 0 }
def f_X1_in (y0 : Int64) (y2 : Int64) (y4 : Int64) : Int32 := if y0 < y2 then 0 else if y4 < y0 then 0 else 1
theorem met_X1_in (σ : Hp) (y0 : Int64) (y2 : Int64) (y4 : Int64)  : MetX yX1_in cX1_in 6 (some .boolean) rm_X1_in σ [.long y0, .long y2, .long y4] (oI (fun r σ' => σ' = σ ∧ r = (f_X1_in y0 y2 y4))) 0 0 := by
  refine metX_of (own := RX1) (lvs := [(0, .long y0), (2, .long y2), (4, .long y4)]) (by decide) rfl (Nat.le_of_ble_eq_true rfl) rfl (fun G rq => ?_)
  have hv : (f_X1_in y0 y2 y4) = _ := f_X1_in.eq_1 _ _ _
  refine x_lload_n dX1_in_0 (n := 1) rfl rfl 0 rfl ?_
  refine x_lload_n dX1_in_1 (n := 2) rfl rfl 1 rfl ?_
  refine x_lcmp_lt (tgt := 17) dX1_in_2 (pc1 := 3) rfl dX1_in_3 rfl (n := 6) rfl (fun c1 => ?_) (fun c1 => ?_)
  · have hv := hv.trans (if_pos c1)
    refine x_iconst dX1_in_17 (n := 18) rfl ic_0 ?_
    exact x_zret rq ⟨rfl, hv.symm⟩ isB0 dX1_in_18
  · have hv := hv.trans (if_neg c1)
    refine x_lload_n dX1_in_6 (n := 7) rfl rfl 0 rfl ?_
    refine x_lload dX1_in_7 (n := 9) rfl 2 rfl ?_
    refine x_lcmp_gt (tgt := 17) dX1_in_9 (pc1 := 10) rfl dX1_in_10 rfl (n := 13) rfl (fun c2 => ?_) (fun c2 => ?_)
    · have hv := hv.trans (if_pos c2)
      refine x_iconst dX1_in_17 (n := 18) rfl ic_0 ?_
      exact x_zret rq ⟨rfl, hv.symm⟩ isB0 dX1_in_18
    · have hv := hv.trans (if_neg c2)
      refine x_iconst dX1_in_13 (n := 14) rfl ic_1 ?_
      refine x_goto (tgt := 18) dX1_in_14 rfl ?_
      exact x_zret rq ⟨rfl, hv.symm⟩ isB1 dX1_in_18
abbrev rm_X1_forgetRows : Room := { frames := 0, cells := 0, slots := 0, locals := 0 }
def lb_X1_forgetRows_2 (o c : Nat)  (Q : Hp → Prop)  (K2 : Int32 × Hp → Prop) (z : Int32 × Hp) : Prop := match z with
  | (x1, σ) => (12 ≤ x1 → Q σ) ∧ (¬ 12 ≤ x1 → (vp_in x1 12) ∧ (K2 (x1 + 1, pI σ (o + 35) x1.toNatClampNeg (vp_nar .boolean 0))))
def wp_X1_forgetRows (o c : Nat) (σ0 : Hp) (Q : Hp → Prop) : Prop := lp (lb_X1_forgetRows_2 o c Q) (0, σ0)
theorem xl_X1_forgetRows_2 (o c : Nat) (σ0 : Hp) (Q : Hp → Prop) (G : XE) (hB0 : LB o c σ0) (rq : RQ G 0 0 (oV (fun σ' => SH σ0 σ' ∧ Q σ')))     : ∀ z : Int32 × Hp, SH σ0 z.2 → lp (lb_X1_forgetRows_2 o c  Q ) z → X G rm_X1_forgetRows cX1_forgetRows RX1 2 none z.2 0 0 2 [(0, .ref o), (1, .int z.1)] [] := by
  intro z
  refine fun hs h => lp_X (P := fun z => SH σ0 z.2 → X G rm_X1_forgetRows cX1_forgetRows RX1 2 none z.2 0 0 2 [(0, .ref o), (1, .int z.1)] []) ?_ h hs
  intro K2 hK2 z h hs
  obtain ⟨x1, σ⟩ := z
  have hs : SH σ0 σ := hs
  have hB := hB0.sh hs
  simp only [lb_X1_forgetRows_2] at h
  show X G rm_X1_forgetRows cX1_forgetRows RX1 2 none σ 0 0 2 [(0, .ref o), (1, .int x1)] []
  have hK2 : ∀ z : (Int32 × Hp), SH σ0 z.2 → K2 z → X G rm_X1_forgetRows cX1_forgetRows RX1 2 none z.2 0 0 2 [(0, .ref o), (1, .int z.1)] [] := fun z hs h => hK2 z h hs
  refine x_iload_n dX1_forgetRows_2 (n := 3) rfl rfl 1 rfl ?_
  refine x_bipush dX1_forgetRows_3 (n := 5) rfl bp_12 ?_
  refine x_icmp_ge (tgt := 21) dX1_forgetRows_5 rfl (n := 8) rfl (fun c1 => ?_) (fun c1 => ?_)
  · have h := h.1 c1
    exact x_vret rq ⟨hs, h⟩ dX1_forgetRows_21
  · have h := h.2 c1
    refine x_aload_n dX1_forgetRows_8 (n := 9) rfl rfl 0 rfl ?_
    refine x_getr fl_X1_77_1 rfl hB.1 hB.r21 dX1_forgetRows_9 (n := 12) rfl ?_
    refine x_iload_n dX1_forgetRows_12 (n := 13) rfl rfl 1 rfl ?_
    refine x_iconst dX1_forgetRows_13 (n := 14) rfl ic_0 ?_
    obtain ⟨b2, h⟩ := h
    refine x_zast hB.a21 b2 rfl dX1_forgetRows_14 (n := 15) rfl ?_
    refine x_iinc (v := x1 + 1) (lvs' := [(1, .int (x1 + 1)), (0, .ref o)]) dX1_forgetRows_15 (n := 18) rfl 1 rfl rfl (by decide) rfl ?_
    refine x_goto (tgt := 2) dX1_forgetRows_18 rfl ?_
    exact x_sub [1, 0] rfl (hK2 (x1 + 1, pI σ (o + 35) x1.toNatClampNeg (vp_nar .boolean 0)) hs.i h)
theorem met_X1_forgetRows (o c : Nat) (σ0 : Hp) (Q : Hp → Prop) (hB0 : LB o c σ0) (h : wp_X1_forgetRows o c σ0 Q) : MetX yX1_forgetRows cX1_forgetRows 2 none rm_X1_forgetRows σ0 [.ref o] (oV (fun σ' => SH σ0 σ' ∧ Q σ')) 0 0 := by
  refine metX_of (own := RX1) (lvs := [(0, .ref o)]) (by decide) rfl (Nat.le_of_ble_eq_true rfl) rfl (fun G rq => ?_)
  unfold wp_X1_forgetRows at h
  refine x_iconst dX1_forgetRows_0 (n := 1) rfl ic_0 ?_
  refine x_istore_n (lvs' := [(1, .int 0), (0, .ref o)]) dX1_forgetRows_1 (n := 2) rfl rfl (by decide) rfl ?_
  exact x_sub [1, 0] rfl (xl_X1_forgetRows_2 o c σ0 Q G hB0 rq (0, σ0) (SH.rf (σ := σ0)) h)
abbrev rm_X1_fault : Room := { frames := 0, cells := 0, slots := 0, locals := 0 }
def f_X1_fault (o c : Nat) (σ : Hp) (x1 : Int32) : Int32 := if x1 = 0 then gI σ o 2 else if x1 = 1 then gI σ o 3 else (-1)
theorem met_X1_fault (o c : Nat) (σ : Hp) (x1 : Int32) (hB : LB o c σ) : MetX yX1_fault cX1_fault 2 (some .int) rm_X1_fault σ [.ref o, .int x1] (oI (fun r σ' => σ' = σ ∧ r = (f_X1_fault o c σ x1))) 0 0 := by
  refine metX_of (own := RX1) (lvs := [(0, .ref o), (1, .int x1)]) (by decide) rfl (Nat.le_of_ble_eq_true rfl) rfl (fun G rq => ?_)
  have hv : (f_X1_fault o c σ x1) = _ := f_X1_fault.eq_1 _ _ _ _
  refine x_iload_n dX1_fault_0 (n := 1) rfl rfl 1 rfl ?_
  refine x_if_ne (tgt := 11) dX1_fault_1 rfl (n := 4) rfl (fun c1 => ?_) (fun c1 => ?_)
  · have hv := hv.trans (if_neg c1)
    refine x_iload_n dX1_fault_11 (n := 12) rfl rfl 1 rfl ?_
    refine x_iconst dX1_fault_12 (n := 13) rfl ic_1 ?_
    refine x_icmp_ne (tgt := 23) dX1_fault_13 rfl (n := 16) rfl (fun c2 => ?_) (fun c2 => ?_)
    · have hv := hv.trans (if_neg c2)
      refine x_iconst dX1_fault_23 (n := 24) rfl ic_m1 ?_
      exact x_iret rq ⟨rfl, hv.symm⟩ dX1_fault_24
    · have hv := hv.trans (if_pos c2)
      refine x_aload_n dX1_fault_16 (n := 17) rfl rfl 0 rfl ?_
      refine x_geti fl_X1_23_1 rfl hB.1 rfl dX1_fault_17 (n := 20) rfl ?_
      refine x_goto (tgt := 24) dX1_fault_20 rfl ?_
      exact x_iret rq ⟨rfl, hv.symm⟩ dX1_fault_24
  · have hv := hv.trans (if_pos c1)
    refine x_aload_n dX1_fault_4 (n := 5) rfl rfl 0 rfl ?_
    refine x_geti fl_X1_100_1 rfl hB.1 rfl dX1_fault_5 (n := 8) rfl ?_
    refine x_goto (tgt := 24) dX1_fault_8 rfl ?_
    exact x_iret rq ⟨rfl, hv.symm⟩ dX1_fault_24
abbrev rm_X4_find : Room := { frames := 3, cells := 0, slots := 0, locals := 64 }
def lb_X4_find_2 (σ : Hp) (a0 c0 : Nat) (x1 : Int32) (Q : Int32 → Prop)  (K2 : Int32 → Prop) (x2 : Int32) : Prop := ((f_J2_size a0 c0 σ) ≤ x2 → Q (-1)) ∧ (¬ (f_J2_size a0 c0 σ) ≤ x2 → (ok_J2_get a0 c0 σ x2) ∧ ((isNm σ (f_J2_get a0 c0 σ x2)) ∧ (((gI σ (f_J2_get a0 c0 σ x2) 0) = x1 → Q x2) ∧ (¬ (gI σ (f_J2_get a0 c0 σ x2) 0) = x1 → K2 (x2 + 1)))))
def wp_X4_find (σ : Hp) (a0 c0 : Nat) (x1 : Int32) (Q : Int32 → Prop) : Prop := lp (lb_X4_find_2 σ a0 c0 x1 Q) 0
theorem xl_X4_find_2 (σ : Hp) (a0 c0 : Nat) (Q : Int32 → Prop) (G : XE) (ha0 : AB a0 c0 σ) (rq : RQ G 0 0 (oI (fun r σ' => σ' = σ ∧ Q r))) (x1 : Int32)    : ∀ z : Int32, lp (lb_X4_find_2 σ a0 c0 x1 Q ) z → X G rm_X4_find cX4_find RX4 3 (some .int) σ 0 0 2 [(0, .ref a0), (1, .int x1), (2, .int z)] [] := by
  intro z
  refine fun h => lp_X (P := fun z => X G rm_X4_find cX4_find RX4 3 (some .int) σ 0 0 2 [(0, .ref a0), (1, .int x1), (2, .int z)] []) ?_ h
  intro K2 hK2 x2 h
  simp only [lb_X4_find_2] at h
  show X G rm_X4_find cX4_find RX4 3 (some .int) σ 0 0 2 [(0, .ref a0), (1, .int x1), (2, .int x2)] []
  have hK2 : ∀ z : (Int32), K2 z → X G rm_X4_find cX4_find RX4 3 (some .int) σ 0 0 2 [(0, .ref a0), (1, .int x1), (2, .int z)] [] := fun z h => hK2 z h
  refine x_iload_n dX4_find_2 (n := 3) rfl rfl 2 rfl ?_
  refine x_aload_n dX4_find_3 (n := 4) rfl rfl 0 rfl ?_
  refine x_cVip (As := []) (rest := [.int x2]) cv_X4_15 ck4 (met_J2_size a0 c0 σ ha0) ha0.1 (by decide) rfl rfl rfl dX4_find_4 (n := 7) rfl (fun r2 q => ?_)
  subst q
  refine x_icmp_ge (tgt := 33) dX4_find_7 rfl (n := 10) rfl (fun c3 => ?_) (fun c3 => ?_)
  · have h := h.1 c3
    refine x_iconst dX4_find_33 (n := 34) rfl ic_m1 ?_
    exact x_iret rq ⟨rfl, h⟩ dX4_find_34
  · have h := h.2 c3
    refine x_aload_n dX4_find_10 (n := 11) rfl rfl 0 rfl ?_
    refine x_iload_n dX4_find_11 (n := 12) rfl rfl 2 rfl ?_
    obtain ⟨b4, h⟩ := h
    refine x_cVrp (As := [.int x2]) (rest := []) cv_X4_21 ck4 (met_J2_get a0 c0 σ x2 ha0 b4) ha0.1 (by decide) rfl rfl rfl dX4_find_12 (n := 15) rfl (fun r5 q => ?_)
    subst q
    obtain ⟨b6, h⟩ := h
    refine x_castM nmd cxm_X4_10 b6 dX4_find_15 (n := 18) rfl ?_
    refine x_getM nmd flm_X4_9 b6 rfl dX4_find_18 (n := 21) rfl ?_
    refine x_iload_n dX4_find_21 (n := 22) rfl rfl 1 rfl ?_
    refine x_icmp_ne (tgt := 27) dX4_find_22 rfl (n := 25) rfl (fun c7 => ?_) (fun c7 => ?_)
    · have h := h.2 c7
      refine x_iinc (v := x2 + 1) (lvs' := [(2, .int (x2 + 1)), (0, .ref a0), (1, .int x1)]) dX4_find_27 (n := 30) rfl 2 rfl rfl (by decide) rfl ?_
      refine x_goto (tgt := 2) dX4_find_30 rfl ?_
      exact x_sub [1, 2, 0] rfl (hK2 (x2 + 1) h)
    · have h := h.1 c7
      refine x_iload_n dX4_find_25 (n := 26) rfl rfl 2 rfl ?_
      exact x_iret rq ⟨rfl, h⟩ dX4_find_26
theorem met_X4_find (σ : Hp) (a0 c0 : Nat) (x1 : Int32) (Q : Int32 → Prop) (ha0 : AB a0 c0 σ) (h : wp_X4_find σ a0 c0 x1 Q) : MetX yX4_find cX4_find 3 (some .int) rm_X4_find σ [.ref a0, .int x1] (oI (fun r σ' => σ' = σ ∧ Q r)) 0 0 := by
  refine metX_of (own := RX4) (lvs := [(0, .ref a0), (1, .int x1)]) (by decide) rfl (Nat.le_of_ble_eq_true rfl) rfl (fun G rq => ?_)
  unfold wp_X4_find at h
  refine x_iconst dX4_find_0 (n := 1) rfl ic_0 ?_
  refine x_istore_n (lvs' := [(2, .int 0), (0, .ref a0), (1, .int x1)]) dX4_find_1 (n := 2) rfl rfl (by decide) rfl ?_
  exact x_sub [1, 2, 0] rfl (xl_X4_find_2 σ a0 c0 Q G ha0 rq x1 0 h)
abbrev rm_X1_named : Room := { frames := 4, cells := 0, slots := 0, locals := 86 }
def wp_X1_named (o c : Nat) (σ : Hp) (x1 : Int32) (x2 : Int32) (Q : Int32 → Prop) : Prop := (x1 = 0 → wp_X4_find σ (c + 1) 4 x2 (fun r2 => Q r2)) ∧ (¬ x1 = 0 → (x1 = 1 → wp_X4_find σ (c + 3) 4 x2 (fun r4 => Q r4)) ∧ (¬ x1 = 1 → (x1 = 2 → wp_X4_find σ (c + 5) 6 x2 (fun r6 => Q r6)) ∧ (¬ x1 = 2 → (x1 = 3 → wp_X4_find σ (c + 7) 4 x2 (fun r8 => Q r8)) ∧ (¬ x1 = 3 → (x1 = 4 → wp_X4_find σ (c + 9) 6 x2 (fun r10 => Q r10)) ∧ (¬ x1 = 4 → Q (-1))))))
theorem met_X1_named (o c : Nat) (σ : Hp) (x1 : Int32) (x2 : Int32) (Q : Int32 → Prop) (hB : LB o c σ) (h : wp_X1_named o c σ x1 x2 Q) : MetX yX1_named cX1_named 3 (some .int) rm_X1_named σ [.ref o, .int x1, .int x2] (oI (fun r σ' => σ' = σ ∧ Q r)) 0 0 := by
  refine metX_of (own := RX1) (lvs := [(0, .ref o), (1, .int x1), (2, .int x2)]) (by decide) rfl (Nat.le_of_ble_eq_true rfl) rfl (fun G rq => ?_)
  unfold wp_X1_named at h
  refine x_iload_n dX1_named_0 (n := 1) rfl rfl 1 rfl ?_
  refine x_by (x1 = 0) (fun c1 => ?_) (fun c1 => ?_)
  · have h := h.1 c1
    have z1 := tsw_in c1 ti_0
    refine x_tswIn (tgt := 36) dX1_named_1 (by rw [z1]; decide) (by rw [z1]; decide) (by rw [z1]; rfl) rfl ?_
    refine x_aload_n dX1_named_36 (n := 37) rfl rfl 0 rfl ?_
    refine x_getr fl_X1_39_1 rfl hB.1 hB.r5 dX1_named_37 (n := 40) rfl ?_
    refine x_getr fl_X1_151_3 rfl hB.rb.1 hB.rb.r0 dX1_named_40 (n := 43) rfl ?_
    refine x_iload_n dX1_named_43 (n := 44) rfl rfl 2 rfl ?_
    refine x_cSip (As := [.ref (c + 1), .int x2]) (rest := []) cs_X1_154 (met_X4_find σ (c + 1) 4 x2 _ hB.rb.b0 h) (by decide) rfl rfl rfl dX1_named_44 (n := 47) rfl (fun r2 h => ?_)
    exact x_iret rq ⟨rfl, h⟩ dX1_named_47
  · have h := h.2 c1
    refine x_by (x1 = 1) (fun c3 => ?_) (fun c3 => ?_)
    · have h := h.1 c3
      have z3 := tsw_in c3 ti_1
      refine x_tswIn (tgt := 48) dX1_named_1 (by rw [z3]; decide) (by rw [z3]; decide) (by rw [z3]; rfl) rfl ?_
      refine x_aload_n dX1_named_48 (n := 49) rfl rfl 0 rfl ?_
      refine x_getr fl_X1_39_1 rfl hB.1 hB.r5 dX1_named_49 (n := 52) rfl ?_
      refine x_getr fl_X1_160_3 rfl hB.rb.1 hB.rb.r1 dX1_named_52 (n := 55) rfl ?_
      refine x_iload_n dX1_named_55 (n := 56) rfl rfl 2 rfl ?_
      refine x_cSip (As := [.ref (c + 3), .int x2]) (rest := []) cs_X1_154 (met_X4_find σ (c + 3) 4 x2 _ hB.rb.b1 h) (by decide) rfl rfl rfl dX1_named_56 (n := 59) rfl (fun r4 h => ?_)
      exact x_iret rq ⟨rfl, h⟩ dX1_named_59
    · have h := h.2 c3
      refine x_by (x1 = 2) (fun c5 => ?_) (fun c5 => ?_)
      · have h := h.1 c5
        have z5 := tsw_in c5 ti_2
        refine x_tswIn (tgt := 60) dX1_named_1 (by rw [z5]; decide) (by rw [z5]; decide) (by rw [z5]; rfl) rfl ?_
        refine x_aload_n dX1_named_60 (n := 61) rfl rfl 0 rfl ?_
        refine x_getr fl_X1_39_1 rfl hB.1 hB.r5 dX1_named_61 (n := 64) rfl ?_
        refine x_getr fl_X1_163_3 rfl hB.rb.1 hB.rb.r2 dX1_named_64 (n := 67) rfl ?_
        refine x_iload_n dX1_named_67 (n := 68) rfl rfl 2 rfl ?_
        refine x_cSip (As := [.ref (c + 5), .int x2]) (rest := []) cs_X1_154 (met_X4_find σ (c + 5) 6 x2 _ hB.rb.b2 h) (by decide) rfl rfl rfl dX1_named_68 (n := 71) rfl (fun r6 h => ?_)
        exact x_iret rq ⟨rfl, h⟩ dX1_named_71
      · have h := h.2 c5
        refine x_by (x1 = 3) (fun c7 => ?_) (fun c7 => ?_)
        · have h := h.1 c7
          have z7 := tsw_in c7 ti_3
          refine x_tswIn (tgt := 72) dX1_named_1 (by rw [z7]; decide) (by rw [z7]; decide) (by rw [z7]; rfl) rfl ?_
          refine x_aload_n dX1_named_72 (n := 73) rfl rfl 0 rfl ?_
          refine x_getr fl_X1_39_1 rfl hB.1 hB.r5 dX1_named_73 (n := 76) rfl ?_
          refine x_getr fl_X1_166_3 rfl hB.rb.1 hB.rb.r3 dX1_named_76 (n := 79) rfl ?_
          refine x_iload_n dX1_named_79 (n := 80) rfl rfl 2 rfl ?_
          refine x_cSip (As := [.ref (c + 7), .int x2]) (rest := []) cs_X1_154 (met_X4_find σ (c + 7) 4 x2 _ hB.rb.b3 h) (by decide) rfl rfl rfl dX1_named_80 (n := 83) rfl (fun r8 h => ?_)
          exact x_iret rq ⟨rfl, h⟩ dX1_named_83
        · have h := h.2 c7
          refine x_by (x1 = 4) (fun c9 => ?_) (fun c9 => ?_)
          · have h := h.1 c9
            have z9 := tsw_in c9 ti_4
            refine x_tswIn (tgt := 84) dX1_named_1 (by rw [z9]; decide) (by rw [z9]; decide) (by rw [z9]; rfl) rfl ?_
            refine x_aload_n dX1_named_84 (n := 85) rfl rfl 0 rfl ?_
            refine x_getr fl_X1_39_1 rfl hB.1 hB.r5 dX1_named_85 (n := 88) rfl ?_
            refine x_getr fl_X1_115_3 rfl hB.rb.1 hB.rb.r4 dX1_named_88 (n := 91) rfl ?_
            refine x_iload_n dX1_named_91 (n := 92) rfl rfl 2 rfl ?_
            refine x_cSip (As := [.ref (c + 9), .int x2]) (rest := []) cs_X1_154 (met_X4_find σ (c + 9) 6 x2 _ hB.rb.b4 h) (by decide) rfl rfl rfl dX1_named_92 (n := 95) rfl (fun r10 h => ?_)
            exact x_iret rq ⟨rfl, h⟩ dX1_named_95
          · have h := h.2 c9
            have z1 := ne_int c1 ti_0
            have z3 := ne_int c3 ti_1
            have z5 := ne_int c5 ti_2
            have z7 := ne_int c7 ti_3
            have z9 := ne_int c9 ti_4
            refine x_tswOut (tgt := 96) dX1_named_1 (by omega) rfl ?_
            refine x_iconst dX1_named_96 (n := 97) rfl ic_m1 ?_
            exact x_iret rq ⟨rfl, h⟩ dX1_named_97
abbrev rm_X1_isLand : Room := { frames := 1, cells := 0, slots := 0, locals := 25 }
def f_X1_isLand (o c : Nat) (σ : Hp) (x1 : Int32) : Int32 := f_X1_in x1.toInt64 0 (((f_J2_size (c + 1) 4 σ) - 1).toInt64)
def ok_X1_isLand (o c : Nat) (σ : Hp) (x1 : Int32) : Prop := (f_X1_in x1.toInt64 0 (((f_J2_size (c + 1) 4 σ) - 1).toInt64)) = 0 ∨ (f_X1_in x1.toInt64 0 (((f_J2_size (c + 1) 4 σ) - 1).toInt64)) = 1
theorem met_X1_isLand (o c : Nat) (σ : Hp) (x1 : Int32) (hB : LB o c σ) (hk : ok_X1_isLand o c σ x1) : MetX yX1_isLand cX1_isLand 2 (some .boolean) rm_X1_isLand σ [.ref o, .int x1] (oI (fun r σ' => σ' = σ ∧ r = (f_X1_isLand o c σ x1))) 0 0 := by
  refine metX_of (own := RX1) (lvs := [(0, .ref o), (1, .int x1)]) (by decide) rfl (Nat.le_of_ble_eq_true rfl) rfl (fun G rq => ?_)
  have hv : (f_X1_isLand o c σ x1) = _ := f_X1_isLand.eq_1 _ _ _ _
  unfold ok_X1_isLand at hk
  refine x_iload_n dX1_isLand_0 (n := 1) rfl rfl 1 rfl ?_
  refine x_i2l dX1_isLand_1 (n := 2) rfl ?_
  refine x_lconst dX1_isLand_2 (n := 3) rfl lc_0 ?_
  refine x_aload_n dX1_isLand_3 (n := 4) rfl rfl 0 rfl ?_
  refine x_getr fl_X1_39_1 rfl hB.1 hB.r5 dX1_isLand_4 (n := 7) rfl ?_
  refine x_getr fl_X1_151_3 rfl hB.rb.1 hB.rb.r0 dX1_isLand_7 (n := 10) rfl ?_
  refine x_cVip (As := []) (rest := [.long 0, .long x1.toInt64]) cv_X1_118 ck4 (met_J2_size (c + 1) 4 σ hB.rb.b0) hB.rb.b0.1 (by decide) rfl rfl rfl dX1_isLand_10 (n := 13) rfl (fun r2 q => ?_)
  subst q
  refine x_iconst dX1_isLand_13 (n := 14) rfl ic_1 ?_
  refine x_isub dX1_isLand_14 (n := 15) rfl ?_
  refine x_i2l dX1_isLand_15 (n := 16) rfl ?_
  refine x_cSip (As := [.long x1.toInt64, .long 0, .long (((f_J2_size (c + 1) 4 σ) - 1).toInt64)]) (rest := []) cs_X1_96 (met_X1_in σ x1.toInt64 0 (((f_J2_size (c + 1) 4 σ) - 1).toInt64) ) (by decide) rfl rfl rfl dX1_isLand_16 (n := 19) rfl (fun r4 q => ?_)
  subst q
  have b5 := hk
  exact x_zret rq ⟨rfl, hv.symm⟩ b5 dX1_isLand_19
abbrev rm_X1_land : Room := { frames := 3, cells := 0, slots := 0, locals := 64 }
def f_X1_land (o c : Nat) (σ : Hp) (x1 : Int32) : Nat := f_J2_get (c + 1) 4 σ x1
def ok_X1_land (o c : Nat) (σ : Hp) (x1 : Int32) : Prop := (ok_J2_get (c + 1) 4 σ x1) ∧ (OB 6 (f_J2_get (c + 1) 4 σ x1) σ)
theorem met_X1_land (o c : Nat) (σ : Hp) (x1 : Int32) (hB : LB o c σ) (hk : ok_X1_land o c σ x1) : MetX yX1_land cX1_land 2 (some (.object "LongYears$Land")) rm_X1_land σ [.ref o, .int x1] (oR (fun r σ' => σ' = σ ∧ r = (f_X1_land o c σ x1))) 0 0 := by
  refine metX_of (own := RX1) (lvs := [(0, .ref o), (1, .int x1)]) (by decide) rfl (Nat.le_of_ble_eq_true rfl) rfl (fun G rq => ?_)
  have hv : (f_X1_land o c σ x1) = _ := f_X1_land.eq_1 _ _ _ _
  unfold ok_X1_land at hk
  refine x_aload_n dX1_land_0 (n := 1) rfl rfl 0 rfl ?_
  refine x_getr fl_X1_39_1 rfl hB.1 hB.r5 dX1_land_1 (n := 4) rfl ?_
  refine x_getr fl_X1_151_3 rfl hB.rb.1 hB.rb.r0 dX1_land_4 (n := 7) rfl ?_
  refine x_iload_n dX1_land_7 (n := 8) rfl rfl 1 rfl ?_
  obtain ⟨b1, hk⟩ := hk
  refine x_cVrp (As := [.int x1]) (rest := []) cv_X1_127 ck4 (met_J2_get (c + 1) 4 σ x1 hB.rb.b0 b1) hB.rb.b0.1 (by decide) rfl rfl rfl dX1_land_8 (n := 11) rfl (fun r2 q => ?_)
  subst q
  have b3 := hk
  refine x_cast cx_X1_169_6 b3 dX1_land_11 (n := 14) rfl ?_
  exact x_aret rfl rq ⟨rfl, hv.symm⟩ dX1_land_14
abbrev rm_X8_last : Room := { frames := 0, cells := 0, slots := 0, locals := 0 }
def f_X8_last (o : Nat) (σ : Hp) : Int64 := if 0 ≤ (gI σ o 2) then 9223372036854775807 else ((((gI σ o 1) - 1) / (-(gI σ o 2))).toInt64) + 1
def ok_X8_last (o : Nat) (σ : Hp) : Prop := (0 ≤ (gI σ o 2) → True) ∧ (¬ 0 ≤ (gI σ o 2) → (¬ (-(gI σ o 2)) = 0))
theorem met_X8_last (o : Nat) (σ : Hp) (hB : OB 6 o σ) (hk : ok_X8_last o σ) : MetX yX8_last cX8_last 1 (some .long) rm_X8_last σ [.ref o] (oL (fun r σ' => σ' = σ ∧ r = (f_X8_last o σ))) 0 0 := by
  refine metX_of (own := RX8) (lvs := [(0, .ref o)]) (by decide) rfl (Nat.le_of_ble_eq_true rfl) rfl (fun G rq => ?_)
  have hv : (f_X8_last o σ) = _ := f_X8_last.eq_1 _ _
  unfold ok_X8_last at hk
  refine x_aload_n dX8_last_0 (n := 1) rfl rfl 0 rfl ?_
  refine x_geti fl_X8_15_6 rfl hB rfl dX8_last_1 (n := 4) rfl ?_
  refine x_if_ge (tgt := 25) dX8_last_4 rfl (n := 7) rfl (fun c1 => ?_) (fun c1 => ?_)
  · have hk := hk.1 c1
    have hv := hv.trans (if_pos c1)
    refine x_ldc2 dX8_last_25 (n := 28) rfl q814 ?_
    exact x_lret rq ⟨rfl, hv.symm⟩ dX8_last_28
  · have hk := hk.2 c1
    have hv := hv.trans (if_neg c1)
    refine x_aload_n dX8_last_7 (n := 8) rfl rfl 0 rfl ?_
    refine x_geti fl_X8_9_6 rfl hB rfl dX8_last_8 (n := 11) rfl ?_
    refine x_iconst dX8_last_11 (n := 12) rfl ic_1 ?_
    refine x_isub dX8_last_12 (n := 13) rfl ?_
    refine x_aload_n dX8_last_13 (n := 14) rfl rfl 0 rfl ?_
    refine x_geti fl_X8_15_6 rfl hB rfl dX8_last_14 (n := 17) rfl ?_
    refine x_ineg dX8_last_17 (n := 18) rfl ?_
    have b2 := hk
    refine x_idiv dX8_last_18 (n := 19) rfl b2 ?_
    refine x_i2l dX8_last_19 (n := 20) rfl ?_
    refine x_lconst dX8_last_20 (n := 21) rfl lc_1 ?_
    refine x_ladd dX8_last_21 (n := 22) rfl ?_
    refine x_goto (tgt := 28) dX8_last_22 rfl ?_
    exact x_lret rq ⟨rfl, hv.symm⟩ dX8_last_28
abbrev rm_X8_has : Room := { frames := 1, cells := 0, slots := 0, locals := 20 }
def f_X8_has (o : Nat) (σ : Hp) (y1 : Int64) : Int32 := if y1 < 1 then 0 else if (f_X8_last o σ) < y1 then 0 else 1
def ok_X8_has (o : Nat) (σ : Hp) (y1 : Int64) : Prop := (y1 < 1 → True) ∧ (¬ y1 < 1 → (ok_X8_last o σ))
theorem met_X8_has (o : Nat) (σ : Hp) (y1 : Int64) (hB : OB 6 o σ) (hk : ok_X8_has o σ y1) : MetX yX8_has cX8_has 3 (some .boolean) rm_X8_has σ [.ref o, .long y1] (oI (fun r σ' => σ' = σ ∧ r = (f_X8_has o σ y1))) 0 0 := by
  refine metX_of (own := RX8) (lvs := [(0, .ref o), (1, .long y1)]) (by decide) rfl (Nat.le_of_ble_eq_true rfl) rfl (fun G rq => ?_)
  have hv : (f_X8_has o σ y1) = _ := f_X8_has.eq_1 _ _ _
  unfold ok_X8_has at hk
  refine x_lload_n dX8_has_0 (n := 1) rfl rfl 1 rfl ?_
  refine x_lconst dX8_has_1 (n := 2) rfl lc_1 ?_
  refine x_lcmp_lt (tgt := 19) dX8_has_2 (pc1 := 3) rfl dX8_has_3 rfl (n := 6) rfl (fun c1 => ?_) (fun c1 => ?_)
  · have hk := hk.1 c1
    have hv := hv.trans (if_pos c1)
    refine x_iconst dX8_has_19 (n := 20) rfl ic_0 ?_
    exact x_zret rq ⟨rfl, hv.symm⟩ isB0 dX8_has_20
  · have hk := hk.2 c1
    have hv := hv.trans (if_neg c1)
    refine x_lload_n dX8_has_6 (n := 7) rfl rfl 1 rfl ?_
    refine x_aload_n dX8_has_7 (n := 8) rfl rfl 0 rfl ?_
    have b2 := hk
    refine x_cVlp (As := []) (rest := [.long y1]) cv_X8_22 ck6 (met_X8_last o σ hB b2) hB (by decide) rfl rfl rfl dX8_has_8 (n := 11) rfl (fun r3 q => ?_)
    subst q
    refine x_lcmp_gt (tgt := 19) dX8_has_11 (pc1 := 12) rfl dX8_has_12 rfl (n := 15) rfl (fun c4 => ?_) (fun c4 => ?_)
    · have hv := hv.trans (if_pos c4)
      refine x_iconst dX8_has_19 (n := 20) rfl ic_0 ?_
      exact x_zret rq ⟨rfl, hv.symm⟩ isB0 dX8_has_20
    · have hv := hv.trans (if_neg c4)
      refine x_iconst dX8_has_15 (n := 16) rfl ic_1 ?_
      refine x_goto (tgt := 20) dX8_has_16 rfl ?_
      exact x_zret rq ⟨rfl, hv.symm⟩ isB1 dX8_has_20
abbrev rm_X1_isYear : Room := { frames := 4, cells := 0, slots := 0, locals := 85 }
def f_X1_isYear (o c : Nat) (σ : Hp) (x1 : Int32) (x2 : Int32) : Int32 := if (f_X1_isLand o c σ x1) = 0 then 0 else if (f_X1_in x2.toInt64 1 1000000000) = 0 then 0 else if (f_X8_has (f_X1_land o c σ x1) σ x2.toInt64) = 0 then 0 else 1
def ok_X1_isYear (o c : Nat) (σ : Hp) (x1 : Int32) (x2 : Int32) : Prop := (ok_X1_isLand o c σ x1) ∧ (((f_X1_isLand o c σ x1) = 0 → True) ∧ (¬ (f_X1_isLand o c σ x1) = 0 → (((f_X1_in x2.toInt64 1 1000000000) = 0 → True) ∧ (¬ (f_X1_in x2.toInt64 1 1000000000) = 0 → ((ok_X1_land o c σ x1) ∧ ((OB 6 (f_X1_land o c σ x1) σ) ∧ (ok_X8_has (f_X1_land o c σ x1) σ x2.toInt64)))))))
theorem met_X1_isYear (o c : Nat) (σ : Hp) (x1 : Int32) (x2 : Int32) (hB : LB o c σ) (hk : ok_X1_isYear o c σ x1 x2) : MetX yX1_isYear cX1_isYear 3 (some .boolean) rm_X1_isYear σ [.ref o, .int x1, .int x2] (oI (fun r σ' => σ' = σ ∧ r = (f_X1_isYear o c σ x1 x2))) 0 0 := by
  refine metX_of (own := RX1) (lvs := [(0, .ref o), (1, .int x1), (2, .int x2)]) (by decide) rfl (Nat.le_of_ble_eq_true rfl) rfl (fun G rq => ?_)
  have hv : (f_X1_isYear o c σ x1 x2) = _ := f_X1_isYear.eq_1 _ _ _ _ _
  unfold ok_X1_isYear at hk
  refine x_aload_n dX1_isYear_0 (n := 1) rfl rfl 0 rfl ?_
  refine x_iload_n dX1_isYear_1 (n := 2) rfl rfl 1 rfl ?_
  obtain ⟨b1, hk⟩ := hk
  refine x_cVip (As := [.int x1]) (rest := []) cv_X1_171 ck1 (met_X1_isLand o c σ x1 hB b1) hB.1 (by decide) rfl rfl rfl dX1_isYear_2 (n := 5) rfl (fun r2 q => ?_)
  subst q
  refine x_if_eq (tgt := 37) dX1_isYear_5 rfl (n := 8) rfl (fun c3 => ?_) (fun c3 => ?_)
  · have hk := hk.1 c3
    have hv := hv.trans (if_pos c3)
    refine x_iconst dX1_isYear_37 (n := 38) rfl ic_0 ?_
    exact x_zret rq ⟨rfl, hv.symm⟩ isB0 dX1_isYear_38
  · have hk := hk.2 c3
    have hv := hv.trans (if_neg c3)
    refine x_iload_n dX1_isYear_8 (n := 9) rfl rfl 2 rfl ?_
    refine x_i2l dX1_isYear_9 (n := 10) rfl ?_
    refine x_lconst dX1_isYear_10 (n := 11) rfl lc_1 ?_
    refine x_ldc2 dX1_isYear_11 (n := 14) rfl q1051 ?_
    refine x_cSip (As := [.long x2.toInt64, .long 1, .long 1000000000]) (rest := []) cs_X1_96 (met_X1_in σ x2.toInt64 1 1000000000 ) (by decide) rfl rfl rfl dX1_isYear_14 (n := 17) rfl (fun r5 q => ?_)
    subst q
    refine x_if_eq (tgt := 37) dX1_isYear_17 rfl (n := 20) rfl (fun c6 => ?_) (fun c6 => ?_)
    · have hk := hk.1 c6
      have hv := hv.trans (if_pos c6)
      refine x_iconst dX1_isYear_37 (n := 38) rfl ic_0 ?_
      exact x_zret rq ⟨rfl, hv.symm⟩ isB0 dX1_isYear_38
    · have hk := hk.2 c6
      have hv := hv.trans (if_neg c6)
      refine x_aload_n dX1_isYear_20 (n := 21) rfl rfl 0 rfl ?_
      refine x_iload_n dX1_isYear_21 (n := 22) rfl rfl 1 rfl ?_
      obtain ⟨b7, hk⟩ := hk
      refine x_cVrp (As := [.int x1]) (rest := []) cv_X1_177 ck1 (met_X1_land o c σ x1 hB b7) hB.1 (by decide) rfl rfl rfl dX1_isYear_22 (n := 25) rfl (fun r8 q => ?_)
      subst q
      refine x_iload_n dX1_isYear_25 (n := 26) rfl rfl 2 rfl ?_
      refine x_i2l dX1_isYear_26 (n := 27) rfl ?_
      obtain ⟨b9, hk⟩ := hk
      have b10 := hk
      refine x_cVip (As := [.long x2.toInt64]) (rest := []) cv_X1_181 ck6 (met_X8_has (f_X1_land o c σ x1) σ x2.toInt64 b9 b10) b9 (by decide) rfl rfl rfl dX1_isYear_27 (n := 30) rfl (fun r11 q => ?_)
      subst q
      refine x_if_eq (tgt := 37) dX1_isYear_30 rfl (n := 33) rfl (fun c12 => ?_) (fun c12 => ?_)
      · have hv := hv.trans (if_pos c12)
        refine x_iconst dX1_isYear_37 (n := 38) rfl ic_0 ?_
        exact x_zret rq ⟨rfl, hv.symm⟩ isB0 dX1_isYear_38
      · have hv := hv.trans (if_neg c12)
        refine x_iconst dX1_isYear_33 (n := 34) rfl ic_1 ?_
        refine x_goto (tgt := 38) dX1_isYear_34 rfl ?_
        exact x_zret rq ⟨rfl, hv.symm⟩ isB1 dX1_isYear_38
abbrev rm_X8_length : Room := { frames := 0, cells := 0, slots := 0, locals := 0 }
def f_X8_length (o : Nat) (σ : Hp) (y1 : Int64) : Int64 := ((gI σ o 1).toInt64) + (((gI σ o 2).toInt64) * (y1 - 1))
theorem met_X8_length (o : Nat) (σ : Hp) (y1 : Int64) (hB : OB 6 o σ) : MetX yX8_length cX8_length 3 (some .long) rm_X8_length σ [.ref o, .long y1] (oL (fun r σ' => σ' = σ ∧ r = (f_X8_length o σ y1))) 0 0 := by
  refine metX_of (own := RX8) (lvs := [(0, .ref o), (1, .long y1)]) (by decide) rfl (Nat.le_of_ble_eq_true rfl) rfl (fun G rq => ?_)
  have hv : (f_X8_length o σ y1) = _ := f_X8_length.eq_1 _ _ _
  refine x_aload_n dX8_length_0 (n := 1) rfl rfl 0 rfl ?_
  refine x_geti fl_X8_9_6 rfl hB rfl dX8_length_1 (n := 4) rfl ?_
  refine x_i2l dX8_length_4 (n := 5) rfl ?_
  refine x_aload_n dX8_length_5 (n := 6) rfl rfl 0 rfl ?_
  refine x_geti fl_X8_15_6 rfl hB rfl dX8_length_6 (n := 9) rfl ?_
  refine x_i2l dX8_length_9 (n := 10) rfl ?_
  refine x_lload_n dX8_length_10 (n := 11) rfl rfl 1 rfl ?_
  refine x_lconst dX8_length_11 (n := 12) rfl lc_1 ?_
  refine x_lsub dX8_length_12 (n := 13) rfl ?_
  refine x_lmul dX8_length_13 (n := 14) rfl ?_
  refine x_ladd dX8_length_14 (n := 15) rfl ?_
  exact x_lret rq ⟨rfl, hv.symm⟩ dX8_length_15
abbrev rm_X1_length : Room := { frames := 5, cells := 0, slots := 0, locals := 107 }
def f_X1_length (o c : Nat) (σ : Hp) (x1 : Int32) (x2 : Int32) : Int64 := if (f_X1_isYear o c σ x1 x2) = 0 then (-1) else f_X8_length (f_X1_land o c σ x1) σ x2.toInt64
def ok_X1_length (o c : Nat) (σ : Hp) (x1 : Int32) (x2 : Int32) : Prop := (ok_X1_isYear o c σ x1 x2) ∧ (((f_X1_isYear o c σ x1 x2) = 0 → True) ∧ (¬ (f_X1_isYear o c σ x1 x2) = 0 → ((ok_X1_land o c σ x1) ∧ (OB 6 (f_X1_land o c σ x1) σ))))
theorem met_X1_length (o c : Nat) (σ : Hp) (x1 : Int32) (x2 : Int32) (hB : LB o c σ) (hk : ok_X1_length o c σ x1 x2) : MetX yX1_length cX1_length 3 (some .long) rm_X1_length σ [.ref o, .int x1, .int x2] (oL (fun r σ' => σ' = σ ∧ r = (f_X1_length o c σ x1 x2))) 0 0 := by
  refine metX_of (own := RX1) (lvs := [(0, .ref o), (1, .int x1), (2, .int x2)]) (by decide) rfl (Nat.le_of_ble_eq_true rfl) rfl (fun G rq => ?_)
  have hv : (f_X1_length o c σ x1 x2) = _ := f_X1_length.eq_1 _ _ _ _ _
  unfold ok_X1_length at hk
  refine x_aload_n dX1_length_0 (n := 1) rfl rfl 0 rfl ?_
  refine x_iload_n dX1_length_1 (n := 2) rfl rfl 1 rfl ?_
  refine x_iload_n dX1_length_2 (n := 3) rfl rfl 2 rfl ?_
  obtain ⟨b1, hk⟩ := hk
  refine x_cVip (As := [.int x1, .int x2]) (rest := []) cv_X1_200 ck1 (met_X1_isYear o c σ x1 x2 hB b1) hB.1 (by decide) rfl rfl rfl dX1_length_3 (n := 6) rfl (fun r2 q => ?_)
  subst q
  refine x_if_eq (tgt := 22) dX1_length_6 rfl (n := 9) rfl (fun c3 => ?_) (fun c3 => ?_)
  · have hk := hk.1 c3
    have hv := hv.trans (if_pos c3)
    refine x_ldc2 dX1_length_22 (n := 25) rfl q1059 ?_
    exact x_lret rq ⟨rfl, hv.symm⟩ dX1_length_25
  · have hk := hk.2 c3
    have hv := hv.trans (if_neg c3)
    refine x_aload_n dX1_length_9 (n := 10) rfl rfl 0 rfl ?_
    refine x_iload_n dX1_length_10 (n := 11) rfl rfl 1 rfl ?_
    obtain ⟨b4, hk⟩ := hk
    refine x_cVrp (As := [.int x1]) (rest := []) cv_X1_177 ck1 (met_X1_land o c σ x1 hB b4) hB.1 (by decide) rfl rfl rfl dX1_length_11 (n := 14) rfl (fun r5 q => ?_)
    subst q
    refine x_iload_n dX1_length_14 (n := 15) rfl rfl 2 rfl ?_
    refine x_i2l dX1_length_15 (n := 16) rfl ?_
    have b6 := hk
    refine x_cVlp (As := [.long x2.toInt64]) (rest := []) cv_X1_204 ck6 (met_X8_length (f_X1_land o c σ x1) σ x2.toInt64 b6) b6 (by decide) rfl rfl rfl dX1_length_16 (n := 19) rfl (fun r8 q => ?_)
    subst q
    refine x_goto (tgt := 25) dX1_length_19 rfl ?_
    exact x_lret rq ⟨rfl, hv.symm⟩ dX1_length_25
abbrev rm_X1_isCount : Room := { frames := 1, cells := 0, slots := 0, locals := 25 }
def f_X1_isCount (y0 : Int64) : Int32 := f_X1_in y0 0 1000000000000
def ok_X1_isCount (y0 : Int64) : Prop := (f_X1_in y0 0 1000000000000) = 0 ∨ (f_X1_in y0 0 1000000000000) = 1
theorem met_X1_isCount (σ : Hp) (y0 : Int64) (hk : ok_X1_isCount y0) : MetX yX1_isCount cX1_isCount 2 (some .boolean) rm_X1_isCount σ [.long y0] (oI (fun r σ' => σ' = σ ∧ r = (f_X1_isCount y0))) 0 0 := by
  refine metX_of (own := RX1) (lvs := [(0, .long y0)]) (by decide) rfl (Nat.le_of_ble_eq_true rfl) rfl (fun G rq => ?_)
  have hv : (f_X1_isCount y0) = _ := f_X1_isCount.eq_1 _
  unfold ok_X1_isCount at hk
  refine x_lload_n dX1_isCount_0 (n := 1) rfl rfl 0 rfl ?_
  refine x_lconst dX1_isCount_1 (n := 2) rfl lc_0 ?_
  refine x_ldc2 dX1_isCount_2 (n := 5) rfl q1067 ?_
  refine x_cSip (As := [.long y0, .long 0, .long 1000000000000]) (rest := []) cs_X1_96 (met_X1_in σ y0 0 1000000000000 ) (by decide) rfl rfl rfl dX1_isCount_5 (n := 8) rfl (fun r2 q => ?_)
  subst q
  have b3 := hk
  exact x_zret rq ⟨rfl, hv.symm⟩ b3 dX1_isCount_8
abbrev rm_X8_start : Room := { frames := 1, cells := 0, slots := 0, locals := 23 }
def fj_X8_start_19 (o : Nat) (σ : Hp)  (y3 : Int64) : Int64 := if y3 ≤ 1000000000000 then f_J7_min_2 1000000000001 ((((gI σ o 3).toInt64) + (((gI σ o 1).toInt64) * y3)) + (((gI σ o 2).toInt64) * ((y3 * (y3 - 1)) / 2))) else 1000000000001
def f_X8_start (o : Nat) (σ : Hp) (y1 : Int64) : Int64 := if (gI σ o 2) ≤ 0 then fj_X8_start_19 o σ (y1 - 1) else if 2000000 < (y1 - 1) then 1000000000001 else fj_X8_start_19 o σ (y1 - 1)
theorem xj_X8_start_19 (o : Nat) (σ : Hp) (G : XE) (hB : OB 6 o σ)  (y3 : Int64)   (V : Int64) (hv : V = fj_X8_start_19 o σ y3) (rq : RQ G 0 0 (oL (fun r σ' => σ' = σ ∧ r = V)))  : X G rm_X8_start cX8_start RX8 5 (some .long) σ 0 0 19 [(0, .ref o), (3, .long y3)] [] := by
  unfold fj_X8_start_19 at hv
  refine x_lload_n dX8_start_19 (n := 20) rfl rfl 1 rfl ?_
  refine x_ldc2 dX8_start_20 (n := 23) rfl q824 ?_
  refine x_lcmp_le (tgt := 31) dX8_start_23 (pc1 := 24) rfl dX8_start_24 rfl (n := 27) rfl (fun c2 => ?_) (fun c2 => ?_)
  · have hv := hv.trans (if_pos c2)
    refine x_ldc2 dX8_start_31 (n := 34) rfl q825 ?_
    refine x_aload_n dX8_start_34 (n := 35) rfl rfl 0 rfl ?_
    refine x_geti fl_X8_32_6 rfl hB rfl dX8_start_35 (n := 38) rfl ?_
    refine x_i2l dX8_start_38 (n := 39) rfl ?_
    refine x_aload_n dX8_start_39 (n := 40) rfl rfl 0 rfl ?_
    refine x_geti fl_X8_9_6 rfl hB rfl dX8_start_40 (n := 43) rfl ?_
    refine x_i2l dX8_start_43 (n := 44) rfl ?_
    refine x_lload_n dX8_start_44 (n := 45) rfl rfl 1 rfl ?_
    refine x_lmul dX8_start_45 (n := 46) rfl ?_
    refine x_ladd dX8_start_46 (n := 47) rfl ?_
    refine x_aload_n dX8_start_47 (n := 48) rfl rfl 0 rfl ?_
    refine x_geti fl_X8_15_6 rfl hB rfl dX8_start_48 (n := 51) rfl ?_
    refine x_i2l dX8_start_51 (n := 52) rfl ?_
    refine x_lload_n dX8_start_52 (n := 53) rfl rfl 1 rfl ?_
    refine x_lload_n dX8_start_53 (n := 54) rfl rfl 1 rfl ?_
    refine x_lconst dX8_start_54 (n := 55) rfl lc_1 ?_
    refine x_lsub dX8_start_55 (n := 56) rfl ?_
    refine x_lmul dX8_start_56 (n := 57) rfl ?_
    refine x_ldc2 dX8_start_57 (n := 60) rfl q826 ?_
    refine x_ldiv dX8_start_60 (n := 61) rfl (by decide) ?_
    refine x_lmul dX8_start_61 (n := 62) rfl ?_
    refine x_ladd dX8_start_62 (n := 63) rfl ?_
    refine x_cSlp (As := [.long 1000000000001, .long ((((gI σ o 3).toInt64) + (((gI σ o 1).toInt64) * y3)) + (((gI σ o 2).toInt64) * ((y3 * (y3 - 1)) / 2)))]) (rest := []) cs_X8_37 (met_J7_min_2 σ 1000000000001 ((((gI σ o 3).toInt64) + (((gI σ o 1).toInt64) * y3)) + (((gI σ o 2).toInt64) * ((y3 * (y3 - 1)) / 2))) ) (by decide) rfl rfl rfl dX8_start_63 (n := 66) rfl (fun r4 q => ?_)
    subst q
    exact x_lret rq ⟨rfl, hv.symm⟩ dX8_start_66
  · have hv := hv.trans (if_neg c2)
    refine x_ldc2 dX8_start_27 (n := 30) rfl q825 ?_
    exact x_lret rq ⟨rfl, hv.symm⟩ dX8_start_30
theorem met_X8_start (o : Nat) (σ : Hp) (y1 : Int64) (hB : OB 6 o σ) : MetX yX8_start cX8_start 5 (some .long) rm_X8_start σ [.ref o, .long y1] (oL (fun r σ' => σ' = σ ∧ r = (f_X8_start o σ y1))) 0 0 := by
  refine metX_of (own := RX8) (lvs := [(0, .ref o), (1, .long y1)]) (by decide) rfl (Nat.le_of_ble_eq_true rfl) rfl (fun G rq => ?_)
  have hv : (f_X8_start o σ y1) = _ := f_X8_start.eq_1 _ _ _
  refine x_lload_n dX8_start_0 (n := 1) rfl rfl 1 rfl ?_
  refine x_lconst dX8_start_1 (n := 2) rfl lc_1 ?_
  refine x_lsub dX8_start_2 (n := 3) rfl ?_
  refine x_lstore_n (lvs' := [(3, .long (y1 - 1)), (0, .ref o), (1, .long y1)]) dX8_start_3 (n := 4) rfl rfl (by decide) rfl ?_
  refine x_aload_n dX8_start_4 (n := 5) rfl rfl 1 rfl ?_
  refine x_geti fl_X8_15_6 rfl hB rfl dX8_start_5 (n := 8) rfl ?_
  refine x_if_le (tgt := 19) dX8_start_8 rfl (n := 11) rfl (fun c1 => ?_) (fun c1 => ?_)
  · have hv := hv.trans (if_pos c1)
    exact x_sub [1, 0] rfl (xj_X8_start_19 o σ G hB (y1 - 1) _ hv rq)
  · have hv := hv.trans (if_neg c1)
    refine x_lload_n dX8_start_11 (n := 12) rfl rfl 0 rfl ?_
    refine x_ldc2 dX8_start_12 (n := 15) rfl q823 ?_
    refine x_lcmp_gt (tgt := 27) dX8_start_15 (pc1 := 16) rfl dX8_start_16 rfl (n := 19) rfl (fun c5 => ?_) (fun c5 => ?_)
    · have hv := hv.trans (if_pos c5)
      refine x_ldc2 dX8_start_27 (n := 30) rfl q825 ?_
      exact x_lret rq ⟨rfl, hv.symm⟩ dX8_start_30
    · have hv := hv.trans (if_neg c5)
      exact x_sub [1, 0] rfl (xj_X8_start_19 o σ G hB (y1 - 1) _ hv rq)
abbrev rm_X8_year : Room := { frames := 2, cells := 0, slots := 0, locals := 47 }
def lb_X8_year_54 (o : Nat) (σ : Hp) (y1 : Int64) (Q : Int64 → Prop)  (K54 : Int64 × Int64 → Prop) (z : Int64 × Int64) : Prop := match z with
  | (y3, y5) => (y5 ≤ y3 → Q y3) ∧ (¬ y5 ≤ y3 → (y1 < (f_X8_start o σ (((y3 + y5) + 1) / 2)) → K54 (y3, (((y3 + y5) + 1) / 2) - 1)) ∧ (¬ y1 < (f_X8_start o σ (((y3 + y5) + 1) / 2)) → K54 (((y3 + y5) + 1) / 2, y5)))
def wp_X8_year (o : Nat) (σ : Hp) (y1 : Int64) (Q : Int64 → Prop) : Prop := (y1 < ((gI σ o 3).toInt64) → Q (-1)) ∧ (¬ y1 < ((gI σ o 3).toInt64) → (ok_X8_last o σ) ∧ (((f_X8_last o σ) = 9223372036854775807 → (ok_X8_last o σ) ∧ (∀ v9 : Int64, v9 = f_J7_min_2 (f_X8_last o σ) 1000000000001 → lp (lb_X8_year_54 o σ y1 Q) (1, v9))) ∧ (¬ (f_X8_last o σ) = 9223372036854775807 → (ok_X8_last o σ) ∧ ((y1 < (f_X8_start o σ ((f_X8_last o σ) + 1)) → (ok_X8_last o σ) ∧ (∀ v20 : Int64, v20 = f_J7_min_2 (f_X8_last o σ) 1000000000001 → lp (lb_X8_year_54 o σ y1 Q) (1, v20))) ∧ (¬ y1 < (f_X8_start o σ ((f_X8_last o σ) + 1)) → Q (-1))))))
theorem xl_X8_year_54 (o : Nat) (σ : Hp) (Q : Int64 → Prop) (G : XE) (hB : OB 6 o σ) (rq : RQ G 0 0 (oL (fun r σ' => σ' = σ ∧ Q r))) (y1 : Int64)    : ∀ z : Int64 × Int64, lp (lb_X8_year_54 o σ y1 Q ) z → X G rm_X8_year cX8_year RX8 9 (some .long) σ 0 0 54 [(0, .ref o), (1, .long y1), (3, .long z.1), (5, .long z.2)] [] := by
  intro z
  refine fun h => lp_X (P := fun z => X G rm_X8_year cX8_year RX8 9 (some .long) σ 0 0 54 [(0, .ref o), (1, .long y1), (3, .long z.1), (5, .long z.2)] []) ?_ h
  intro K54 hK54 z h
  obtain ⟨y3, y5⟩ := z
  simp only [lb_X8_year_54] at h
  show X G rm_X8_year cX8_year RX8 9 (some .long) σ 0 0 54 [(0, .ref o), (1, .long y1), (3, .long y3), (5, .long y5)] []
  have hK54 : ∀ z : (Int64 × Int64), K54 z → X G rm_X8_year cX8_year RX8 9 (some .long) σ 0 0 54 [(0, .ref o), (1, .long y1), (3, .long z.1), (5, .long z.2)] [] := fun z h => hK54 z h
  refine x_lload_n dX8_year_54 (n := 55) rfl rfl 2 rfl ?_
  refine x_lload dX8_year_55 (n := 57) rfl 3 rfl ?_
  refine x_lcmp_ge (tgt := 99) dX8_year_57 (pc1 := 58) rfl dX8_year_58 rfl (n := 61) rfl (fun c22 => ?_) (fun c22 => ?_)
  · have h := h.1 c22
    refine x_lload_n dX8_year_99 (n := 100) rfl rfl 2 rfl ?_
    exact x_lret rq ⟨rfl, h⟩ dX8_year_100
  · have h := h.2 c22
    refine x_lload_n dX8_year_61 (n := 62) rfl rfl 2 rfl ?_
    refine x_lload dX8_year_62 (n := 64) rfl 3 rfl ?_
    refine x_ladd dX8_year_64 (n := 65) rfl ?_
    refine x_lconst dX8_year_65 (n := 66) rfl lc_1 ?_
    refine x_ladd dX8_year_66 (n := 67) rfl ?_
    refine x_ldc2 dX8_year_67 (n := 70) rfl q826 ?_
    refine x_ldiv dX8_year_70 (n := 71) rfl (by decide) ?_
    refine x_lstore (lvs' := [(7, .long (((y3 + y5) + 1) / 2)), (0, .ref o), (1, .long y1), (3, .long y3), (5, .long y5)]) dX8_year_71 (n := 73) rfl (by decide) rfl ?_
    refine x_aload_n dX8_year_73 (n := 74) rfl rfl 1 rfl ?_
    refine x_lload dX8_year_74 (n := 76) rfl 0 rfl ?_
    refine x_cVlp (As := [.long (((y3 + y5) + 1) / 2)]) (rest := []) cv_X8_43 ck6 (met_X8_start o σ (((y3 + y5) + 1) / 2) hB) hB (by decide) rfl rfl rfl dX8_year_76 (n := 79) rfl (fun r24 q => ?_)
    subst q
    refine x_lload_n dX8_year_79 (n := 80) rfl rfl 2 rfl ?_
    refine x_lcmp_gt (tgt := 90) dX8_year_80 (pc1 := 81) rfl dX8_year_81 rfl (n := 84) rfl (fun c25 => ?_) (fun c25 => ?_)
    · have h := h.1 c25
      refine x_lload dX8_year_90 (n := 92) rfl 0 rfl ?_
      refine x_lconst dX8_year_92 (n := 93) rfl lc_1 ?_
      refine x_lsub dX8_year_93 (n := 94) rfl ?_
      refine x_lstore (lvs' := [(5, .long ((((y3 + y5) + 1) / 2) - 1)), (7, .long (((y3 + y5) + 1) / 2)), (0, .ref o), (1, .long y1), (3, .long y3)]) dX8_year_94 (n := 96) rfl (by decide) rfl ?_
      refine x_goto (tgt := 54) dX8_year_96 rfl ?_
      exact x_sub [2, 3, 4, 0] rfl (hK54 (y3, (((y3 + y5) + 1) / 2) - 1) h)
    · have h := h.2 c25
      refine x_lload dX8_year_84 (n := 86) rfl 0 rfl ?_
      refine x_lstore_n (lvs' := [(3, .long (((y3 + y5) + 1) / 2)), (7, .long (((y3 + y5) + 1) / 2)), (0, .ref o), (1, .long y1), (5, .long y5)]) dX8_year_86 (n := 87) rfl rfl (by decide) rfl ?_
      refine x_goto (tgt := 96) dX8_year_87 rfl ?_
      refine x_goto (tgt := 54) dX8_year_96 rfl ?_
      exact x_sub [2, 3, 0, 4] rfl (hK54 (((y3 + y5) + 1) / 2, y5) h)
theorem met_X8_year (o : Nat) (σ : Hp) (y1 : Int64) (Q : Int64 → Prop) (hB : OB 6 o σ) (h : wp_X8_year o σ y1 Q) : MetX yX8_year cX8_year 9 (some .long) rm_X8_year σ [.ref o, .long y1] (oL (fun r σ' => σ' = σ ∧ Q r)) 0 0 := by
  refine metX_of (own := RX8) (lvs := [(0, .ref o), (1, .long y1)]) (by decide) rfl (Nat.le_of_ble_eq_true rfl) rfl (fun G rq => ?_)
  unfold wp_X8_year at h
  refine x_lload_n dX8_year_0 (n := 1) rfl rfl 1 rfl ?_
  refine x_aload_n dX8_year_1 (n := 2) rfl rfl 0 rfl ?_
  refine x_geti fl_X8_32_6 rfl hB rfl dX8_year_2 (n := 5) rfl ?_
  refine x_i2l dX8_year_5 (n := 6) rfl ?_
  refine x_lcmp_lt (tgt := 36) dX8_year_6 (pc1 := 7) rfl dX8_year_7 rfl (n := 10) rfl (fun c1 => ?_) (fun c1 => ?_)
  · have h := h.1 c1
    refine x_ldc2 dX8_year_36 (n := 39) rfl q1073 ?_
    exact x_lret rq ⟨rfl, h⟩ dX8_year_39
  · have h := h.2 c1
    refine x_aload_n dX8_year_10 (n := 11) rfl rfl 0 rfl ?_
    obtain ⟨b2, h⟩ := h
    refine x_cVlp (As := []) (rest := []) cv_X8_22 ck6 (met_X8_last o σ hB b2) hB (by decide) rfl rfl rfl dX8_year_11 (n := 14) rfl (fun r3 q => ?_)
    subst q
    refine x_ldc2 dX8_year_14 (n := 17) rfl q814 ?_
    refine x_lcmp_eq (tgt := 40) dX8_year_17 (pc1 := 18) rfl dX8_year_18 rfl (n := 21) rfl (fun c4 => ?_) (fun c4 => ?_)
    · have h := h.1 c4
      refine x_lconst dX8_year_40 (n := 41) rfl lc_1 ?_
      refine x_lstore_n (lvs' := [(3, .long 1), (0, .ref o), (1, .long y1)]) dX8_year_41 (n := 42) rfl rfl (by decide) rfl ?_
      refine x_aload_n dX8_year_42 (n := 43) rfl rfl 1 rfl ?_
      obtain ⟨b5, h⟩ := h
      refine x_cVlp (As := []) (rest := []) cv_X8_22 ck6 (met_X8_last o σ hB b5) hB (by decide) rfl rfl rfl dX8_year_43 (n := 46) rfl (fun r6 q => ?_)
      subst q
      refine x_ldc2 dX8_year_46 (n := 49) rfl q825 ?_
      refine x_cSlp (As := [.long (f_X8_last o σ), .long 1000000000001]) (rest := []) cs_X8_37 (met_J7_min_2 σ (f_X8_last o σ) 1000000000001 ) (by decide) rfl rfl rfl dX8_year_49 (n := 52) rfl (fun r8 q => ?_)
      subst q
      refine x_topl (fun v9 e10 => ?_)
      have h := h v9 e10
      refine x_lstore (lvs' := [(5, .long v9), (3, .long 1), (0, .ref o), (1, .long y1)]) dX8_year_52 (n := 54) rfl (by decide) rfl ?_
      exact x_sub [2, 3, 1, 0] rfl (xl_X8_year_54 o σ Q G hB rq y1 (1, v9) h)
    · have h := h.2 c4
      refine x_lload_n dX8_year_21 (n := 22) rfl rfl 1 rfl ?_
      refine x_aload_n dX8_year_22 (n := 23) rfl rfl 0 rfl ?_
      refine x_aload_n dX8_year_23 (n := 24) rfl rfl 0 rfl ?_
      obtain ⟨b11, h⟩ := h
      refine x_cVlp (As := []) (rest := [.ref o, .long y1]) cv_X8_22 ck6 (met_X8_last o σ hB b11) hB (by decide) rfl rfl rfl dX8_year_24 (n := 27) rfl (fun r12 q => ?_)
      subst q
      refine x_lconst dX8_year_27 (n := 28) rfl lc_1 ?_
      refine x_ladd dX8_year_28 (n := 29) rfl ?_
      refine x_cVlp (As := [.long ((f_X8_last o σ) + 1)]) (rest := [.long y1]) cv_X8_43 ck6 (met_X8_start o σ ((f_X8_last o σ) + 1) hB) hB (by decide) rfl rfl rfl dX8_year_29 (n := 32) rfl (fun r14 q => ?_)
      subst q
      refine x_lcmp_lt (tgt := 40) dX8_year_32 (pc1 := 33) rfl dX8_year_33 rfl (n := 36) rfl (fun c15 => ?_) (fun c15 => ?_)
      · have h := h.1 c15
        refine x_lconst dX8_year_40 (n := 41) rfl lc_1 ?_
        refine x_lstore_n (lvs' := [(3, .long 1), (0, .ref o), (1, .long y1)]) dX8_year_41 (n := 42) rfl rfl (by decide) rfl ?_
        refine x_aload_n dX8_year_42 (n := 43) rfl rfl 1 rfl ?_
        obtain ⟨b16, h⟩ := h
        refine x_cVlp (As := []) (rest := []) cv_X8_22 ck6 (met_X8_last o σ hB b16) hB (by decide) rfl rfl rfl dX8_year_43 (n := 46) rfl (fun r17 q => ?_)
        subst q
        refine x_ldc2 dX8_year_46 (n := 49) rfl q825 ?_
        refine x_cSlp (As := [.long (f_X8_last o σ), .long 1000000000001]) (rest := []) cs_X8_37 (met_J7_min_2 σ (f_X8_last o σ) 1000000000001 ) (by decide) rfl rfl rfl dX8_year_49 (n := 52) rfl (fun r19 q => ?_)
        subst q
        refine x_topl (fun v20 e21 => ?_)
        have h := h v20 e21
        refine x_lstore (lvs' := [(5, .long v20), (3, .long 1), (0, .ref o), (1, .long y1)]) dX8_year_52 (n := 54) rfl (by decide) rfl ?_
        exact x_sub [2, 3, 1, 0] rfl (xl_X8_year_54 o σ Q G hB rq y1 (1, v20) h)
      · have h := h.2 c15
        refine x_ldc2 dX8_year_36 (n := 39) rfl q1073 ?_
        exact x_lret rq ⟨rfl, h⟩ dX8_year_39
abbrev rm_X8_day : Room := { frames := 3, cells := 0, slots := 0, locals := 75 }
def wp_X8_day (o : Nat) (σ : Hp) (y1 : Int64) (Q : Int64 → Prop) : Prop := wp_X8_year o σ y1 (fun r1 => Q ((y1 - (f_X8_start o σ r1)) + 1))
theorem met_X8_day (o : Nat) (σ : Hp) (y1 : Int64) (Q : Int64 → Prop) (hB : OB 6 o σ) (h : wp_X8_day o σ y1 Q) : MetX yX8_day cX8_day 3 (some .long) rm_X8_day σ [.ref o, .long y1] (oL (fun r σ' => σ' = σ ∧ Q r)) 0 0 := by
  refine metX_of (own := RX8) (lvs := [(0, .ref o), (1, .long y1)]) (by decide) rfl (Nat.le_of_ble_eq_true rfl) rfl (fun G rq => ?_)
  unfold wp_X8_day at h
  refine x_lload_n dX8_day_0 (n := 1) rfl rfl 1 rfl ?_
  refine x_aload_n dX8_day_1 (n := 2) rfl rfl 0 rfl ?_
  refine x_aload_n dX8_day_2 (n := 3) rfl rfl 0 rfl ?_
  refine x_lload_n dX8_day_3 (n := 4) rfl rfl 1 rfl ?_
  refine x_cVlp (As := [.long y1]) (rest := [.ref o, .long y1]) cv_X8_49 ck6 (met_X8_year o σ y1 _ hB h) hB (by decide) rfl rfl rfl dX8_day_4 (n := 7) rfl (fun r1 h => ?_)
  refine x_cVlp (As := [.long r1]) (rest := [.long y1]) cv_X8_43 ck6 (met_X8_start o σ r1 hB) hB (by decide) rfl rfl rfl dX8_day_7 (n := 10) rfl (fun r3 q => ?_)
  subst q
  refine x_lsub dX8_day_10 (n := 11) rfl ?_
  refine x_lconst dX8_day_11 (n := 12) rfl lc_1 ?_
  refine x_ladd dX8_day_12 (n := 13) rfl ?_
  exact x_lret rq ⟨rfl, h⟩ dX8_day_13
abbrev rm_X1_date : Room := { frames := 4, cells := 0, slots := 0, locals := 97 }
def wp_X1_date (o c : Nat) (σ : Hp) (x1 : Int32) (y2 : Int64) (x4 : Int32) (Q : Int64 → Prop) : Prop := (ok_X1_isLand o c σ x1) ∧ (((f_X1_isLand o c σ x1) = 0 → Q (-1)) ∧ (¬ (f_X1_isLand o c σ x1) = 0 → (ok_X1_isCount y2) ∧ (((f_X1_isCount y2) = 0 → Q (-1)) ∧ (¬ (f_X1_isCount y2) = 0 → ((f_X1_in x4.toInt64 0 1) = 0 → Q (-1)) ∧ (¬ (f_X1_in x4.toInt64 0 1) = 0 → (ok_X1_land o c σ x1) ∧ ((OB 6 (f_X1_land o c σ x1) σ) ∧ (wp_X8_year (f_X1_land o c σ x1) σ y2 (fun r13 => (r13 = (-1) → Q r13) ∧ (¬ r13 = (-1) → (x4 = 0 → Q r13) ∧ (¬ x4 = 0 → (ok_X1_land o c σ x1) ∧ (wp_X8_day (f_X1_land o c σ x1) σ y2 (fun r18 => Q r18))))))))))))
theorem met_X1_date (o c : Nat) (σ : Hp) (x1 : Int32) (y2 : Int64) (x4 : Int32) (Q : Int64 → Prop) (hB : LB o c σ) (h : wp_X1_date o c σ x1 y2 x4 Q) : MetX yX1_date cX1_date 7 (some .long) rm_X1_date σ [.ref o, .int x1, .long y2, .int x4] (oL (fun r σ' => σ' = σ ∧ Q r)) 0 0 := by
  refine metX_of (own := RX1) (lvs := [(0, .ref o), (1, .int x1), (2, .long y2), (4, .int x4)]) (by decide) rfl (Nat.le_of_ble_eq_true rfl) rfl (fun G rq => ?_)
  unfold wp_X1_date at h
  refine x_aload_n dX1_date_0 (n := 1) rfl rfl 0 rfl ?_
  refine x_iload_n dX1_date_1 (n := 2) rfl rfl 1 rfl ?_
  obtain ⟨b1, h⟩ := h
  refine x_cVip (As := [.int x1]) (rest := []) cv_X1_171 ck1 (met_X1_isLand o c σ x1 hB b1) hB.1 (by decide) rfl rfl rfl dX1_date_2 (n := 5) rfl (fun r2 q => ?_)
  subst q
  refine x_if_eq (tgt := 26) dX1_date_5 rfl (n := 8) rfl (fun c3 => ?_) (fun c3 => ?_)
  · have h := h.1 c3
    refine x_ldc2 dX1_date_26 (n := 29) rfl q1059 ?_
    exact x_lret rq ⟨rfl, h⟩ dX1_date_29
  · have h := h.2 c3
    refine x_lload_n dX1_date_8 (n := 9) rfl rfl 2 rfl ?_
    obtain ⟨b4, h⟩ := h
    refine x_cSip (As := [.long y2]) (rest := []) cs_X1_209 (met_X1_isCount σ y2  b4) (by decide) rfl rfl rfl dX1_date_9 (n := 12) rfl (fun r5 q => ?_)
    subst q
    refine x_if_eq (tgt := 26) dX1_date_12 rfl (n := 15) rfl (fun c6 => ?_) (fun c6 => ?_)
    · have h := h.1 c6
      refine x_ldc2 dX1_date_26 (n := 29) rfl q1059 ?_
      exact x_lret rq ⟨rfl, h⟩ dX1_date_29
    · have h := h.2 c6
      refine x_iload dX1_date_15 (n := 17) rfl 3 rfl ?_
      refine x_i2l dX1_date_17 (n := 18) rfl ?_
      refine x_lconst dX1_date_18 (n := 19) rfl lc_0 ?_
      refine x_lconst dX1_date_19 (n := 20) rfl lc_1 ?_
      refine x_cSip (As := [.long x4.toInt64, .long 0, .long 1]) (rest := []) cs_X1_96 (met_X1_in σ x4.toInt64 0 1 ) (by decide) rfl rfl rfl dX1_date_20 (n := 23) rfl (fun r8 q => ?_)
      subst q
      refine x_if_ne (tgt := 30) dX1_date_23 rfl (n := 26) rfl (fun c9 => ?_) (fun c9 => ?_)
      · have h := h.2 c9
        refine x_aload_n dX1_date_30 (n := 31) rfl rfl 0 rfl ?_
        refine x_iload_n dX1_date_31 (n := 32) rfl rfl 1 rfl ?_
        obtain ⟨b10, h⟩ := h
        refine x_cVrp (As := [.int x1]) (rest := []) cv_X1_177 ck1 (met_X1_land o c σ x1 hB b10) hB.1 (by decide) rfl rfl rfl dX1_date_32 (n := 35) rfl (fun r11 q => ?_)
        subst q
        refine x_lload_n dX1_date_35 (n := 36) rfl rfl 2 rfl ?_
        obtain ⟨b12, h⟩ := h
        refine x_cVlp (As := [.long y2]) (rest := []) cv_X1_212 ck6 (met_X8_year (f_X1_land o c σ x1) σ y2 _ b12 h) b12 (by decide) rfl rfl rfl dX1_date_36 (n := 39) rfl (fun r13 h => ?_)
        refine x_lstore (lvs' := [(5, .long r13), (0, .ref o), (1, .int x1), (2, .long y2), (4, .int x4)]) dX1_date_39 (n := 41) rfl (by decide) rfl ?_
        refine x_lload dX1_date_41 (n := 43) rfl 0 rfl ?_
        refine x_ldc2 dX1_date_43 (n := 46) rfl q1059 ?_
        refine x_lcmp_eq (tgt := 55) dX1_date_46 (pc1 := 47) rfl dX1_date_47 rfl (n := 50) rfl (fun c14 => ?_) (fun c14 => ?_)
        · have h := h.1 c14
          refine x_lload dX1_date_55 (n := 57) rfl 0 rfl ?_
          refine x_goto (tgt := 69) dX1_date_57 rfl ?_
          exact x_lret rq ⟨rfl, h⟩ dX1_date_69
        · have h := h.2 c14
          refine x_iload dX1_date_50 (n := 52) rfl 4 rfl ?_
          refine x_if_ne (tgt := 60) dX1_date_52 rfl (n := 55) rfl (fun c15 => ?_) (fun c15 => ?_)
          · have h := h.2 c15
            refine x_aload_n dX1_date_60 (n := 61) rfl rfl 1 rfl ?_
            refine x_iload_n dX1_date_61 (n := 62) rfl rfl 2 rfl ?_
            obtain ⟨b16, h⟩ := h
            refine x_cVrp (As := [.int x1]) (rest := []) cv_X1_177 ck1 (met_X1_land o c σ x1 hB b16) hB.1 (by decide) rfl rfl rfl dX1_date_62 (n := 65) rfl (fun r17 q => ?_)
            subst q
            refine x_lload_n dX1_date_65 (n := 66) rfl rfl 3 rfl ?_
            refine x_cVlp (As := [.long y2]) (rest := []) cv_X1_215 ck6 (met_X8_day (f_X1_land o c σ x1) σ y2 _ b12 h) b12 (by decide) rfl rfl rfl dX1_date_66 (n := 69) rfl (fun r18 h => ?_)
            exact x_lret rq ⟨rfl, h⟩ dX1_date_69
          · have h := h.1 c15
            refine x_lload dX1_date_55 (n := 57) rfl 0 rfl ?_
            refine x_goto (tgt := 69) dX1_date_57 rfl ?_
            exact x_lret rq ⟨rfl, h⟩ dX1_date_69
      · have h := h.1 c9
        refine x_ldc2 dX1_date_26 (n := 29) rfl q1059 ?_
        exact x_lret rq ⟨rfl, h⟩ dX1_date_29
abbrev rm_X10_counted : Room := { frames := 0, cells := 0, slots := 0, locals := 0 }
def f_X10_counted (y0 : Int64) : Int64 := if y0 ≤ 1000000000000 then y0 else (-1)
theorem met_X10_counted (σ : Hp) (y0 : Int64)  : MetX yX10_counted cX10_counted 2 (some .long) rm_X10_counted σ [.long y0] (oL (fun r σ' => σ' = σ ∧ r = (f_X10_counted y0))) 0 0 := by
  refine metX_of (own := RX10) (lvs := [(0, .long y0)]) (by decide) rfl (Nat.le_of_ble_eq_true rfl) rfl (fun G rq => ?_)
  have hv : (f_X10_counted y0) = _ := f_X10_counted.eq_1 _
  refine x_lload_n dX10_counted_0 (n := 1) rfl rfl 0 rfl ?_
  refine x_ldc2 dX10_counted_1 (n := 4) rfl q1087 ?_
  refine x_lcmp_le (tgt := 14) dX10_counted_4 (pc1 := 5) rfl dX10_counted_5 rfl (n := 8) rfl (fun c1 => ?_) (fun c1 => ?_)
  · have hv := hv.trans (if_pos c1)
    refine x_lload_n dX10_counted_14 (n := 15) rfl rfl 0 rfl ?_
    exact x_lret rq ⟨rfl, hv.symm⟩ dX10_counted_15
  · have hv := hv.trans (if_neg c1)
    refine x_ldc2 dX10_counted_8 (n := 11) rfl q1088 ?_
    refine x_goto (tgt := 15) dX10_counted_11 rfl ?_
    exact x_lret rq ⟨rfl, hv.symm⟩ dX10_counted_15
abbrev rm_X1_count : Room := { frames := 5, cells := 0, slots := 0, locals := 107 }
def f_X1_count (o c : Nat) (σ : Hp) (x1 : Int32) (x2 : Int32) (y3 : Int64) : Int64 := if (f_X1_isYear o c σ x1 x2) = 0 then (-1) else if (f_X1_in y3 1 (f_X8_length (f_X1_land o c σ x1) σ x2.toInt64)) = 0 then (-1) else if (f_X8_start (f_X1_land o c σ x1) σ x2.toInt64) ≤ 1000000000000 then f_X10_counted (((f_X8_start (f_X1_land o c σ x1) σ x2.toInt64) + y3) - 1) else (-1)
def ok_X1_count (o c : Nat) (σ : Hp) (x1 : Int32) (x2 : Int32) (y3 : Int64) : Prop := (ok_X1_isYear o c σ x1 x2) ∧ (((f_X1_isYear o c σ x1 x2) = 0 → True) ∧ (¬ (f_X1_isYear o c σ x1 x2) = 0 → ((ok_X1_land o c σ x1) ∧ ((OB 6 (f_X1_land o c σ x1) σ) ∧ (((f_X1_in y3 1 (f_X8_length (f_X1_land o c σ x1) σ x2.toInt64)) = 0 → True) ∧ (¬ (f_X1_in y3 1 (f_X8_length (f_X1_land o c σ x1) σ x2.toInt64)) = 0 → ((ok_X1_land o c σ x1) ∧ (((f_X8_start (f_X1_land o c σ x1) σ x2.toInt64) ≤ 1000000000000 → (ok_X1_land o c σ x1)) ∧ (¬ (f_X8_start (f_X1_land o c σ x1) σ x2.toInt64) ≤ 1000000000000 → True)))))))))
theorem met_X1_count (o c : Nat) (σ : Hp) (x1 : Int32) (x2 : Int32) (y3 : Int64) (hB : LB o c σ) (hk : ok_X1_count o c σ x1 x2 y3) : MetX yX1_count cX1_count 5 (some .long) rm_X1_count σ [.ref o, .int x1, .int x2, .long y3] (oL (fun r σ' => σ' = σ ∧ r = (f_X1_count o c σ x1 x2 y3))) 0 0 := by
  refine metX_of (own := RX1) (lvs := [(0, .ref o), (1, .int x1), (2, .int x2), (3, .long y3)]) (by decide) rfl (Nat.le_of_ble_eq_true rfl) rfl (fun G rq => ?_)
  have hv : (f_X1_count o c σ x1 x2 y3) = _ := f_X1_count.eq_1 _ _ _ _ _ _
  unfold ok_X1_count at hk
  refine x_aload_n dX1_count_0 (n := 1) rfl rfl 0 rfl ?_
  refine x_iload_n dX1_count_1 (n := 2) rfl rfl 1 rfl ?_
  refine x_iload_n dX1_count_2 (n := 3) rfl rfl 2 rfl ?_
  obtain ⟨b1, hk⟩ := hk
  refine x_cVip (As := [.int x1, .int x2]) (rest := []) cv_X1_200 ck1 (met_X1_isYear o c σ x1 x2 hB b1) hB.1 (by decide) rfl rfl rfl dX1_count_3 (n := 6) rfl (fun r2 q => ?_)
  subst q
  refine x_if_eq (tgt := 44) dX1_count_6 rfl (n := 9) rfl (fun c3 => ?_) (fun c3 => ?_)
  · have hk := hk.1 c3
    have hv := hv.trans (if_pos c3)
    refine x_ldc2 dX1_count_44 (n := 47) rfl q1059 ?_
    exact x_lret rq ⟨rfl, hv.symm⟩ dX1_count_47
  · have hk := hk.2 c3
    have hv := hv.trans (if_neg c3)
    refine x_lload_n dX1_count_9 (n := 10) rfl rfl 3 rfl ?_
    refine x_lconst dX1_count_10 (n := 11) rfl lc_1 ?_
    refine x_aload_n dX1_count_11 (n := 12) rfl rfl 0 rfl ?_
    refine x_iload_n dX1_count_12 (n := 13) rfl rfl 1 rfl ?_
    obtain ⟨b4, hk⟩ := hk
    refine x_cVrp (As := [.int x1]) (rest := [.long 1, .long y3]) cv_X1_177 ck1 (met_X1_land o c σ x1 hB b4) hB.1 (by decide) rfl rfl rfl dX1_count_13 (n := 16) rfl (fun r5 q => ?_)
    subst q
    refine x_iload_n dX1_count_16 (n := 17) rfl rfl 2 rfl ?_
    refine x_i2l dX1_count_17 (n := 18) rfl ?_
    obtain ⟨b6, hk⟩ := hk
    refine x_cVlp (As := [.long x2.toInt64]) (rest := [.long 1, .long y3]) cv_X1_204 ck6 (met_X8_length (f_X1_land o c σ x1) σ x2.toInt64 b6) b6 (by decide) rfl rfl rfl dX1_count_18 (n := 21) rfl (fun r8 q => ?_)
    subst q
    refine x_cSip (As := [.long y3, .long 1, .long (f_X8_length (f_X1_land o c σ x1) σ x2.toInt64)]) (rest := []) cs_X1_96 (met_X1_in σ y3 1 (f_X8_length (f_X1_land o c σ x1) σ x2.toInt64) ) (by decide) rfl rfl rfl dX1_count_21 (n := 24) rfl (fun r10 q => ?_)
    subst q
    refine x_if_eq (tgt := 44) dX1_count_24 rfl (n := 27) rfl (fun c11 => ?_) (fun c11 => ?_)
    · have hk := hk.1 c11
      have hv := hv.trans (if_pos c11)
      refine x_ldc2 dX1_count_44 (n := 47) rfl q1059 ?_
      exact x_lret rq ⟨rfl, hv.symm⟩ dX1_count_47
    · have hk := hk.2 c11
      have hv := hv.trans (if_neg c11)
      refine x_aload_n dX1_count_27 (n := 28) rfl rfl 0 rfl ?_
      refine x_iload_n dX1_count_28 (n := 29) rfl rfl 1 rfl ?_
      obtain ⟨b12, hk⟩ := hk
      refine x_cVrp (As := [.int x1]) (rest := []) cv_X1_177 ck1 (met_X1_land o c σ x1 hB b12) hB.1 (by decide) rfl rfl rfl dX1_count_29 (n := 32) rfl (fun r13 q => ?_)
      subst q
      refine x_iload_n dX1_count_32 (n := 33) rfl rfl 2 rfl ?_
      refine x_i2l dX1_count_33 (n := 34) rfl ?_
      refine x_cVlp (As := [.long x2.toInt64]) (rest := []) cv_X1_218 ck6 (met_X8_start (f_X1_land o c σ x1) σ x2.toInt64 b6) b6 (by decide) rfl rfl rfl dX1_count_34 (n := 37) rfl (fun r15 q => ?_)
      subst q
      refine x_ldc2 dX1_count_37 (n := 40) rfl q1067 ?_
      refine x_lcmp_le (tgt := 48) dX1_count_40 (pc1 := 41) rfl dX1_count_41 rfl (n := 44) rfl (fun c16 => ?_) (fun c16 => ?_)
      · have hk := hk.1 c16
        have hv := hv.trans (if_pos c16)
        refine x_aload_n dX1_count_48 (n := 49) rfl rfl 0 rfl ?_
        refine x_iload_n dX1_count_49 (n := 50) rfl rfl 1 rfl ?_
        have b17 := hk
        refine x_cVrp (As := [.int x1]) (rest := []) cv_X1_177 ck1 (met_X1_land o c σ x1 hB b17) hB.1 (by decide) rfl rfl rfl dX1_count_50 (n := 53) rfl (fun r18 q => ?_)
        subst q
        refine x_iload_n dX1_count_53 (n := 54) rfl rfl 2 rfl ?_
        refine x_i2l dX1_count_54 (n := 55) rfl ?_
        refine x_cVlp (As := [.long x2.toInt64]) (rest := []) cv_X1_218 ck6 (met_X8_start (f_X1_land o c σ x1) σ x2.toInt64 b6) b6 (by decide) rfl rfl rfl dX1_count_55 (n := 58) rfl (fun r20 q => ?_)
        subst q
        refine x_lload_n dX1_count_58 (n := 59) rfl rfl 3 rfl ?_
        refine x_ladd dX1_count_59 (n := 60) rfl ?_
        refine x_lconst dX1_count_60 (n := 61) rfl lc_1 ?_
        refine x_lsub dX1_count_61 (n := 62) rfl ?_
        refine x_cSlp (As := [.long (((f_X8_start (f_X1_land o c σ x1) σ x2.toInt64) + y3) - 1)]) (rest := []) cs_X1_221 (met_X10_counted σ (((f_X8_start (f_X1_land o c σ x1) σ x2.toInt64) + y3) - 1) ) (by decide) rfl rfl rfl dX1_count_62 (n := 65) rfl (fun r22 q => ?_)
        subst q
        exact x_lret rq ⟨rfl, hv.symm⟩ dX1_count_65
      · have hk := hk.2 c16
        have hv := hv.trans (if_neg c16)
        refine x_ldc2 dX1_count_44 (n := 47) rfl q1059 ?_
        exact x_lret rq ⟨rfl, hv.symm⟩ dX1_count_47
abbrev rm_X3_moon : Room := { frames := 0, cells := 0, slots := 0, locals := 0 }
def f_X3_moon (o : Nat) (σ : Hp) (y1 : Int64) : Int32 := (((((y1 * ((gI σ o 8).toInt64)) + ((gI σ o 7).toInt64)) - ((y1 * ((gI σ o 8).toInt64)) + ((gI σ o 7).toInt64)) / (gL σ o 12) * (gL σ o 12)) * 8) / (gL σ o 12)).toInt32
def ok_X3_moon (o : Nat) (σ : Hp) (y1 : Int64) : Prop := (¬ (gL σ o 12) = 0) ∧ (¬ (gL σ o 12) = 0)
theorem met_X3_moon (o : Nat) (σ : Hp) (y1 : Int64) (hB : RB o σ) (hk : ok_X3_moon o σ y1) : MetX yX3_moon cX3_moon 3 (some .int) rm_X3_moon σ [.ref o, .long y1] (oI (fun r σ' => σ' = σ ∧ r = (f_X3_moon o σ y1))) 0 0 := by
  refine metX_of (own := RX3) (lvs := [(0, .ref o), (1, .long y1)]) (by decide) rfl (Nat.le_of_ble_eq_true rfl) rfl (fun G rq => ?_)
  have hv : (f_X3_moon o σ y1) = _ := f_X3_moon.eq_1 _ _ _
  unfold ok_X3_moon at hk
  refine x_lload_n dX3_moon_0 (n := 1) rfl rfl 1 rfl ?_
  refine x_aload_n dX3_moon_1 (n := 2) rfl rfl 0 rfl ?_
  refine x_geti fl_X3_36_3 rfl hB.1 rfl dX3_moon_2 (n := 5) rfl ?_
  refine x_i2l dX3_moon_5 (n := 6) rfl ?_
  refine x_lmul dX3_moon_6 (n := 7) rfl ?_
  refine x_aload_n dX3_moon_7 (n := 8) rfl rfl 0 rfl ?_
  refine x_geti fl_X3_56_3 rfl hB.1 rfl dX3_moon_8 (n := 11) rfl ?_
  refine x_i2l dX3_moon_11 (n := 12) rfl ?_
  refine x_ladd dX3_moon_12 (n := 13) rfl ?_
  refine x_aload_n dX3_moon_13 (n := 14) rfl rfl 0 rfl ?_
  refine x_getl fl_X3_44_3 rfl hB.1 rfl dX3_moon_14 (n := 17) rfl ?_
  obtain ⟨b1, hk⟩ := hk
  refine x_lrem dX3_moon_17 (n := 18) rfl b1 ?_
  refine x_ldc2 dX3_moon_18 (n := 21) rfl q1101 ?_
  refine x_lmul dX3_moon_21 (n := 22) rfl ?_
  refine x_aload_n dX3_moon_22 (n := 23) rfl rfl 0 rfl ?_
  refine x_getl fl_X3_44_3 rfl hB.1 rfl dX3_moon_23 (n := 26) rfl ?_
  have b2 := hk
  refine x_ldiv dX3_moon_26 (n := 27) rfl b2 ?_
  refine x_l2i dX3_moon_27 (n := 28) rfl ?_
  exact x_iret rq ⟨rfl, hv.symm⟩ dX3_moon_28
abbrev rm_X3_season : Room := { frames := 0, cells := 0, slots := 0, locals := 0 }
def f_X3_season (o : Nat) (σ : Hp) (y1 : Int64) : Int32 := ((((y1 * ((gI σ o 9).toInt64)) - (y1 * ((gI σ o 9).toInt64)) / (gL σ o 13) * (gL σ o 13)) * 4) / (gL σ o 13)).toInt32
def ok_X3_season (o : Nat) (σ : Hp) (y1 : Int64) : Prop := (¬ (gL σ o 13) = 0) ∧ (¬ (gL σ o 13) = 0)
theorem met_X3_season (o : Nat) (σ : Hp) (y1 : Int64) (hB : RB o σ) (hk : ok_X3_season o σ y1) : MetX yX3_season cX3_season 3 (some .int) rm_X3_season σ [.ref o, .long y1] (oI (fun r σ' => σ' = σ ∧ r = (f_X3_season o σ y1))) 0 0 := by
  refine metX_of (own := RX3) (lvs := [(0, .ref o), (1, .long y1)]) (by decide) rfl (Nat.le_of_ble_eq_true rfl) rfl (fun G rq => ?_)
  have hv : (f_X3_season o σ y1) = _ := f_X3_season.eq_1 _ _ _
  unfold ok_X3_season at hk
  refine x_lload_n dX3_season_0 (n := 1) rfl rfl 1 rfl ?_
  refine x_aload_n dX3_season_1 (n := 2) rfl rfl 0 rfl ?_
  refine x_geti fl_X3_39_3 rfl hB.1 rfl dX3_season_2 (n := 5) rfl ?_
  refine x_i2l dX3_season_5 (n := 6) rfl ?_
  refine x_lmul dX3_season_6 (n := 7) rfl ?_
  refine x_aload_n dX3_season_7 (n := 8) rfl rfl 0 rfl ?_
  refine x_getl fl_X3_50_3 rfl hB.1 rfl dX3_season_8 (n := 11) rfl ?_
  obtain ⟨b1, hk⟩ := hk
  refine x_lrem dX3_season_11 (n := 12) rfl b1 ?_
  refine x_ldc2 dX3_season_12 (n := 15) rfl q1106 ?_
  refine x_lmul dX3_season_15 (n := 16) rfl ?_
  refine x_aload_n dX3_season_16 (n := 17) rfl rfl 0 rfl ?_
  refine x_getl fl_X3_50_3 rfl hB.1 rfl dX3_season_17 (n := 20) rfl ?_
  have b2 := hk
  refine x_ldiv dX3_season_20 (n := 21) rfl b2 ?_
  refine x_l2i dX3_season_21 (n := 22) rfl ?_
  exact x_iret rq ⟨rfl, hv.symm⟩ dX3_season_22
abbrev rm_X3_week : Room := { frames := 0, cells := 0, slots := 0, locals := 0 }
def f_X3_week (o : Nat) (σ : Hp) (y1 : Int64) : Int32 := ((y1 + ((gI σ o 6).toInt64)) - (y1 + ((gI σ o 6).toInt64)) / ((gI σ o 5).toInt64) * ((gI σ o 5).toInt64)).toInt32
def ok_X3_week (o : Nat) (σ : Hp) (y1 : Int64) : Prop := ¬ ((gI σ o 5).toInt64) = 0
theorem met_X3_week (o : Nat) (σ : Hp) (y1 : Int64) (hB : RB o σ) (hk : ok_X3_week o σ y1) : MetX yX3_week cX3_week 3 (some .int) rm_X3_week σ [.ref o, .long y1] (oI (fun r σ' => σ' = σ ∧ r = (f_X3_week o σ y1))) 0 0 := by
  refine metX_of (own := RX3) (lvs := [(0, .ref o), (1, .long y1)]) (by decide) rfl (Nat.le_of_ble_eq_true rfl) rfl (fun G rq => ?_)
  have hv : (f_X3_week o σ y1) = _ := f_X3_week.eq_1 _ _ _
  unfold ok_X3_week at hk
  refine x_lload_n dX3_week_0 (n := 1) rfl rfl 1 rfl ?_
  refine x_aload_n dX3_week_1 (n := 2) rfl rfl 0 rfl ?_
  refine x_geti fl_X3_53_3 rfl hB.1 rfl dX3_week_2 (n := 5) rfl ?_
  refine x_i2l dX3_week_5 (n := 6) rfl ?_
  refine x_ladd dX3_week_6 (n := 7) rfl ?_
  refine x_aload_n dX3_week_7 (n := 8) rfl rfl 0 rfl ?_
  refine x_geti fl_X3_32_3 rfl hB.1 rfl dX3_week_8 (n := 11) rfl ?_
  refine x_i2l dX3_week_11 (n := 12) rfl ?_
  have b1 := hk
  refine x_lrem dX3_week_12 (n := 13) rfl b1 ?_
  refine x_l2i dX3_week_13 (n := 14) rfl ?_
  exact x_iret rq ⟨rfl, hv.symm⟩ dX3_week_14
abbrev rm_X1_round : Room := { frames := 2, cells := 0, slots := 0, locals := 46 }
def f_X1_round (o c : Nat) (σ : Hp) (y1 : Int64) (x3 : Int32) : Int32 := if (f_X1_isCount y1) = 0 then (-1) else if x3 = 0 then f_X3_week c σ y1 else if x3 = 1 then f_X3_moon c σ y1 else if x3 = 2 then f_X3_season c σ y1 else (-1)
def ok_X1_round (o c : Nat) (σ : Hp) (y1 : Int64) (x3 : Int32) : Prop := (ok_X1_isCount y1) ∧ (((f_X1_isCount y1) = 0 → True) ∧ (¬ (f_X1_isCount y1) = 0 → ((x3 = 0 → (ok_X3_week c σ y1)) ∧ (¬ x3 = 0 → ((x3 = 1 → (ok_X3_moon c σ y1)) ∧ (¬ x3 = 1 → ((x3 = 2 → (ok_X3_season c σ y1)) ∧ (¬ x3 = 2 → True))))))))
theorem met_X1_round (o c : Nat) (σ : Hp) (y1 : Int64) (x3 : Int32) (hB : LB o c σ) (hk : ok_X1_round o c σ y1 x3) : MetX yX1_round cX1_round 4 (some .int) rm_X1_round σ [.ref o, .long y1, .int x3] (oI (fun r σ' => σ' = σ ∧ r = (f_X1_round o c σ y1 x3))) 0 0 := by
  refine metX_of (own := RX1) (lvs := [(0, .ref o), (1, .long y1), (3, .int x3)]) (by decide) rfl (Nat.le_of_ble_eq_true rfl) rfl (fun G rq => ?_)
  have hv : (f_X1_round o c σ y1 x3) = _ := f_X1_round.eq_1 _ _ _ _ _
  unfold ok_X1_round at hk
  refine x_lload_n dX1_round_0 (n := 1) rfl rfl 1 rfl ?_
  obtain ⟨b1, hk⟩ := hk
  refine x_cSip (As := [.long y1]) (rest := []) cs_X1_209 (met_X1_isCount σ y1  b1) (by decide) rfl rfl rfl dX1_round_1 (n := 4) rfl (fun r2 q => ?_)
  subst q
  refine x_if_ne (tgt := 9) dX1_round_4 rfl (n := 7) rfl (fun c3 => ?_) (fun c3 => ?_)
  · have hk := hk.2 c3
    have hv := hv.trans (if_neg c3)
    refine x_iload_n dX1_round_9 (n := 10) rfl rfl 2 rfl ?_
    refine x_if_ne (tgt := 24) dX1_round_10 rfl (n := 13) rfl (fun c4 => ?_) (fun c4 => ?_)
    · have hk := hk.2 c4
      have hv := hv.trans (if_neg c4)
      refine x_iload_n dX1_round_24 (n := 25) rfl rfl 2 rfl ?_
      refine x_iconst dX1_round_25 (n := 26) rfl ic_1 ?_
      refine x_icmp_ne (tgt := 40) dX1_round_26 rfl (n := 29) rfl (fun c5 => ?_) (fun c5 => ?_)
      · have hk := hk.2 c5
        have hv := hv.trans (if_neg c5)
        refine x_iload_n dX1_round_40 (n := 41) rfl rfl 2 rfl ?_
        refine x_iconst dX1_round_41 (n := 42) rfl ic_2 ?_
        refine x_icmp_ne (tgt := 56) dX1_round_42 rfl (n := 45) rfl (fun c6 => ?_) (fun c6 => ?_)
        · have hk := hk.2 c6
          have hv := hv.trans (if_neg c6)
          refine x_iconst dX1_round_56 (n := 57) rfl ic_m1 ?_
          exact x_iret rq ⟨rfl, hv.symm⟩ dX1_round_57
        · have hk := hk.1 c6
          have hv := hv.trans (if_pos c6)
          refine x_aload_n dX1_round_45 (n := 46) rfl rfl 0 rfl ?_
          refine x_getr fl_X1_39_1 rfl hB.1 hB.r5 dX1_round_46 (n := 49) rfl ?_
          refine x_lload_n dX1_round_49 (n := 50) rfl rfl 1 rfl ?_
          have b7 := hk
          refine x_cVip (As := [.long y1]) (rest := []) cv_X1_233 ck3 (met_X3_season c σ y1 hB.rb b7) hB.rb.1 (by decide) rfl rfl rfl dX1_round_50 (n := 53) rfl (fun r8 q => ?_)
          subst q
          refine x_goto (tgt := 57) dX1_round_53 rfl ?_
          exact x_iret rq ⟨rfl, hv.symm⟩ dX1_round_57
      · have hk := hk.1 c5
        have hv := hv.trans (if_pos c5)
        refine x_aload_n dX1_round_29 (n := 30) rfl rfl 0 rfl ?_
        refine x_getr fl_X1_39_1 rfl hB.1 hB.r5 dX1_round_30 (n := 33) rfl ?_
        refine x_lload_n dX1_round_33 (n := 34) rfl rfl 1 rfl ?_
        have b9 := hk
        refine x_cVip (As := [.long y1]) (rest := []) cv_X1_230 ck3 (met_X3_moon c σ y1 hB.rb b9) hB.rb.1 (by decide) rfl rfl rfl dX1_round_34 (n := 37) rfl (fun r10 q => ?_)
        subst q
        refine x_goto (tgt := 57) dX1_round_37 rfl ?_
        exact x_iret rq ⟨rfl, hv.symm⟩ dX1_round_57
    · have hk := hk.1 c4
      have hv := hv.trans (if_pos c4)
      refine x_aload_n dX1_round_13 (n := 14) rfl rfl 0 rfl ?_
      refine x_getr fl_X1_39_1 rfl hB.1 hB.r5 dX1_round_14 (n := 17) rfl ?_
      refine x_lload_n dX1_round_17 (n := 18) rfl rfl 1 rfl ?_
      have b11 := hk
      refine x_cVip (As := [.long y1]) (rest := []) cv_X1_226 ck3 (met_X3_week c σ y1 hB.rb b11) hB.rb.1 (by decide) rfl rfl rfl dX1_round_18 (n := 21) rfl (fun r12 q => ?_)
      subst q
      refine x_goto (tgt := 57) dX1_round_21 rfl ?_
      exact x_iret rq ⟨rfl, hv.symm⟩ dX1_round_57
  · have hk := hk.1 c3
    have hv := hv.trans (if_pos c3)
    refine x_iconst dX1_round_7 (n := 8) rfl ic_m1 ?_
    exact x_iret rq ⟨rfl, hv.symm⟩ dX1_round_8
abbrev rm_X1_isFeast : Room := { frames := 1, cells := 0, slots := 0, locals := 25 }
def f_X1_isFeast (o c : Nat) (σ : Hp) (x1 : Int32) : Int32 := f_X1_in x1.toInt64 0 (((f_J2_size (c + 3) 4 σ) - 1).toInt64)
def ok_X1_isFeast (o c : Nat) (σ : Hp) (x1 : Int32) : Prop := (f_X1_in x1.toInt64 0 (((f_J2_size (c + 3) 4 σ) - 1).toInt64)) = 0 ∨ (f_X1_in x1.toInt64 0 (((f_J2_size (c + 3) 4 σ) - 1).toInt64)) = 1
theorem met_X1_isFeast (o c : Nat) (σ : Hp) (x1 : Int32) (hB : LB o c σ) (hk : ok_X1_isFeast o c σ x1) : MetX yX1_isFeast cX1_isFeast 2 (some .boolean) rm_X1_isFeast σ [.ref o, .int x1] (oI (fun r σ' => σ' = σ ∧ r = (f_X1_isFeast o c σ x1))) 0 0 := by
  refine metX_of (own := RX1) (lvs := [(0, .ref o), (1, .int x1)]) (by decide) rfl (Nat.le_of_ble_eq_true rfl) rfl (fun G rq => ?_)
  have hv : (f_X1_isFeast o c σ x1) = _ := f_X1_isFeast.eq_1 _ _ _ _
  unfold ok_X1_isFeast at hk
  refine x_iload_n dX1_isFeast_0 (n := 1) rfl rfl 1 rfl ?_
  refine x_i2l dX1_isFeast_1 (n := 2) rfl ?_
  refine x_lconst dX1_isFeast_2 (n := 3) rfl lc_0 ?_
  refine x_aload_n dX1_isFeast_3 (n := 4) rfl rfl 0 rfl ?_
  refine x_getr fl_X1_39_1 rfl hB.1 hB.r5 dX1_isFeast_4 (n := 7) rfl ?_
  refine x_getr fl_X1_160_3 rfl hB.rb.1 hB.rb.r1 dX1_isFeast_7 (n := 10) rfl ?_
  refine x_cVip (As := []) (rest := [.long 0, .long x1.toInt64]) cv_X1_118 ck4 (met_J2_size (c + 3) 4 σ hB.rb.b1) hB.rb.b1.1 (by decide) rfl rfl rfl dX1_isFeast_10 (n := 13) rfl (fun r2 q => ?_)
  subst q
  refine x_iconst dX1_isFeast_13 (n := 14) rfl ic_1 ?_
  refine x_isub dX1_isFeast_14 (n := 15) rfl ?_
  refine x_i2l dX1_isFeast_15 (n := 16) rfl ?_
  refine x_cSip (As := [.long x1.toInt64, .long 0, .long (((f_J2_size (c + 3) 4 σ) - 1).toInt64)]) (rest := []) cs_X1_96 (met_X1_in σ x1.toInt64 0 (((f_J2_size (c + 3) 4 σ) - 1).toInt64) ) (by decide) rfl rfl rfl dX1_isFeast_16 (n := 19) rfl (fun r4 q => ?_)
  subst q
  have b5 := hk
  exact x_zret rq ⟨rfl, hv.symm⟩ b5 dX1_isFeast_19
abbrev rm_X1_isPerson : Room := { frames := 1, cells := 0, slots := 0, locals := 25 }
def f_X1_isPerson (o c : Nat) (σ : Hp) (x1 : Int32) : Int32 := f_X1_in x1.toInt64 0 (((f_J2_size (c + 5) 6 σ) - 1).toInt64)
def ok_X1_isPerson (o c : Nat) (σ : Hp) (x1 : Int32) : Prop := (f_X1_in x1.toInt64 0 (((f_J2_size (c + 5) 6 σ) - 1).toInt64)) = 0 ∨ (f_X1_in x1.toInt64 0 (((f_J2_size (c + 5) 6 σ) - 1).toInt64)) = 1
theorem met_X1_isPerson (o c : Nat) (σ : Hp) (x1 : Int32) (hB : LB o c σ) (hk : ok_X1_isPerson o c σ x1) : MetX yX1_isPerson cX1_isPerson 2 (some .boolean) rm_X1_isPerson σ [.ref o, .int x1] (oI (fun r σ' => σ' = σ ∧ r = (f_X1_isPerson o c σ x1))) 0 0 := by
  refine metX_of (own := RX1) (lvs := [(0, .ref o), (1, .int x1)]) (by decide) rfl (Nat.le_of_ble_eq_true rfl) rfl (fun G rq => ?_)
  have hv : (f_X1_isPerson o c σ x1) = _ := f_X1_isPerson.eq_1 _ _ _ _
  unfold ok_X1_isPerson at hk
  refine x_iload_n dX1_isPerson_0 (n := 1) rfl rfl 1 rfl ?_
  refine x_i2l dX1_isPerson_1 (n := 2) rfl ?_
  refine x_lconst dX1_isPerson_2 (n := 3) rfl lc_0 ?_
  refine x_aload_n dX1_isPerson_3 (n := 4) rfl rfl 0 rfl ?_
  refine x_getr fl_X1_39_1 rfl hB.1 hB.r5 dX1_isPerson_4 (n := 7) rfl ?_
  refine x_getr fl_X1_163_3 rfl hB.rb.1 hB.rb.r2 dX1_isPerson_7 (n := 10) rfl ?_
  refine x_cVip (As := []) (rest := [.long 0, .long x1.toInt64]) cv_X1_118 ck4 (met_J2_size (c + 5) 6 σ hB.rb.b2) hB.rb.b2.1 (by decide) rfl rfl rfl dX1_isPerson_10 (n := 13) rfl (fun r2 q => ?_)
  subst q
  refine x_iconst dX1_isPerson_13 (n := 14) rfl ic_1 ?_
  refine x_isub dX1_isPerson_14 (n := 15) rfl ?_
  refine x_i2l dX1_isPerson_15 (n := 16) rfl ?_
  refine x_cSip (As := [.long x1.toInt64, .long 0, .long (((f_J2_size (c + 5) 6 σ) - 1).toInt64)]) (rest := []) cs_X1_96 (met_X1_in σ x1.toInt64 0 (((f_J2_size (c + 5) 6 σ) - 1).toInt64) ) (by decide) rfl rfl rfl dX1_isPerson_16 (n := 19) rfl (fun r4 q => ?_)
  subst q
  have b5 := hk
  exact x_zret rq ⟨rfl, hv.symm⟩ b5 dX1_isPerson_19
abbrev rm_X1_life : Room := { frames := 3, cells := 0, slots := 0, locals := 64 }
def f_X1_life (o c : Nat) (σ : Hp) (x1 : Int32) (x2 : Int32) : Int64 := if (f_X1_isPerson o c σ x1) = 0 then (-1) else if x2 = 0 then gL σ (f_J2_get (c + 5) 6 σ x1) 1 else if x2 = 1 then gL σ (f_J2_get (c + 5) 6 σ x1) 2 else (-1)
def ok_X1_life (o c : Nat) (σ : Hp) (x1 : Int32) (x2 : Int32) : Prop := (ok_X1_isPerson o c σ x1) ∧ (((f_X1_isPerson o c σ x1) = 0 → True) ∧ (¬ (f_X1_isPerson o c σ x1) = 0 → ((x2 = 0 → ((ok_J2_get (c + 5) 6 σ x1) ∧ (OB 8 (f_J2_get (c + 5) 6 σ x1) σ))) ∧ (¬ x2 = 0 → ((x2 = 1 → ((ok_J2_get (c + 5) 6 σ x1) ∧ (OB 8 (f_J2_get (c + 5) 6 σ x1) σ))) ∧ (¬ x2 = 1 → True))))))
theorem met_X1_life (o c : Nat) (σ : Hp) (x1 : Int32) (x2 : Int32) (hB : LB o c σ) (hk : ok_X1_life o c σ x1 x2) : MetX yX1_life cX1_life 3 (some .long) rm_X1_life σ [.ref o, .int x1, .int x2] (oL (fun r σ' => σ' = σ ∧ r = (f_X1_life o c σ x1 x2))) 0 0 := by
  refine metX_of (own := RX1) (lvs := [(0, .ref o), (1, .int x1), (2, .int x2)]) (by decide) rfl (Nat.le_of_ble_eq_true rfl) rfl (fun G rq => ?_)
  have hv : (f_X1_life o c σ x1 x2) = _ := f_X1_life.eq_1 _ _ _ _ _
  unfold ok_X1_life at hk
  refine x_aload_n dX1_life_0 (n := 1) rfl rfl 0 rfl ?_
  refine x_iload_n dX1_life_1 (n := 2) rfl rfl 1 rfl ?_
  obtain ⟨b1, hk⟩ := hk
  refine x_cVip (As := [.int x1]) (rest := []) cv_X1_271 ck1 (met_X1_isPerson o c σ x1 hB b1) hB.1 (by decide) rfl rfl rfl dX1_life_2 (n := 5) rfl (fun r2 q => ?_)
  subst q
  refine x_if_ne (tgt := 14) dX1_life_5 rfl (n := 8) rfl (fun c3 => ?_) (fun c3 => ?_)
  · have hk := hk.2 c3
    have hv := hv.trans (if_neg c3)
    refine x_iload_n dX1_life_14 (n := 15) rfl rfl 2 rfl ?_
    refine x_if_ne (tgt := 38) dX1_life_15 rfl (n := 18) rfl (fun c4 => ?_) (fun c4 => ?_)
    · have hk := hk.2 c4
      have hv := hv.trans (if_neg c4)
      refine x_iload_n dX1_life_38 (n := 39) rfl rfl 2 rfl ?_
      refine x_iconst dX1_life_39 (n := 40) rfl ic_1 ?_
      refine x_icmp_ne (tgt := 63) dX1_life_40 rfl (n := 43) rfl (fun c5 => ?_) (fun c5 => ?_)
      · have hk := hk.2 c5
        have hv := hv.trans (if_neg c5)
        refine x_ldc2 dX1_life_63 (n := 66) rfl q1059 ?_
        exact x_lret rq ⟨rfl, hv.symm⟩ dX1_life_66
      · have hk := hk.1 c5
        have hv := hv.trans (if_pos c5)
        refine x_aload_n dX1_life_43 (n := 44) rfl rfl 0 rfl ?_
        refine x_getr fl_X1_39_1 rfl hB.1 hB.r5 dX1_life_44 (n := 47) rfl ?_
        refine x_getr fl_X1_163_3 rfl hB.rb.1 hB.rb.r2 dX1_life_47 (n := 50) rfl ?_
        refine x_iload_n dX1_life_50 (n := 51) rfl rfl 1 rfl ?_
        obtain ⟨b6, hk⟩ := hk
        refine x_cVrp (As := [.int x1]) (rest := []) cv_X1_127 ck4 (met_J2_get (c + 5) 6 σ x1 hB.rb.b2 b6) hB.rb.b2.1 (by decide) rfl rfl rfl dX1_life_51 (n := 54) rfl (fun r7 q => ?_)
        subst q
        have b8 := hk
        refine x_cast cx_X1_274_8 b8 dX1_life_54 (n := 57) rfl ?_
        refine x_getl fl_X1_280_8 rfl b8 rfl dX1_life_57 (n := 60) rfl ?_
        refine x_goto (tgt := 66) dX1_life_60 rfl ?_
        exact x_lret rq ⟨rfl, hv.symm⟩ dX1_life_66
    · have hk := hk.1 c4
      have hv := hv.trans (if_pos c4)
      refine x_aload_n dX1_life_18 (n := 19) rfl rfl 0 rfl ?_
      refine x_getr fl_X1_39_1 rfl hB.1 hB.r5 dX1_life_19 (n := 22) rfl ?_
      refine x_getr fl_X1_163_3 rfl hB.rb.1 hB.rb.r2 dX1_life_22 (n := 25) rfl ?_
      refine x_iload_n dX1_life_25 (n := 26) rfl rfl 1 rfl ?_
      obtain ⟨b9, hk⟩ := hk
      refine x_cVrp (As := [.int x1]) (rest := []) cv_X1_127 ck4 (met_J2_get (c + 5) 6 σ x1 hB.rb.b2 b9) hB.rb.b2.1 (by decide) rfl rfl rfl dX1_life_26 (n := 29) rfl (fun r10 q => ?_)
      subst q
      have b11 := hk
      refine x_cast cx_X1_274_8 b11 dX1_life_29 (n := 32) rfl ?_
      refine x_getl fl_X1_276_8 rfl b11 rfl dX1_life_32 (n := 35) rfl ?_
      refine x_goto (tgt := 66) dX1_life_35 rfl ?_
      exact x_lret rq ⟨rfl, hv.symm⟩ dX1_life_66
  · have hk := hk.1 c3
    have hv := hv.trans (if_pos c3)
    refine x_ldc2 dX1_life_8 (n := 11) rfl q1059 ?_
    refine x_goto (tgt := 66) dX1_life_11 rfl ?_
    exact x_lret rq ⟨rfl, hv.symm⟩ dX1_life_66
abbrev rm_X8_lastWith : Room := { frames := 0, cells := 0, slots := 0, locals := 0 }
def f_X8_lastWith (o : Nat) (σ : Hp) (y1 : Int64) : Int64 := if 0 ≤ (gI σ o 2) then 9223372036854775807 else if y1 ≤ ((gI σ o 1).toInt64) then ((((gI σ o 1).toInt64) - y1) / ((-(gI σ o 2)).toInt64)) + 1 else 0
def ok_X8_lastWith (o : Nat) (σ : Hp) (y1 : Int64) : Prop := (0 ≤ (gI σ o 2) → True) ∧ (¬ 0 ≤ (gI σ o 2) → ((y1 ≤ ((gI σ o 1).toInt64) → (¬ ((-(gI σ o 2)).toInt64) = 0)) ∧ (¬ y1 ≤ ((gI σ o 1).toInt64) → True)))
theorem met_X8_lastWith (o : Nat) (σ : Hp) (y1 : Int64) (hB : OB 6 o σ) (hk : ok_X8_lastWith o σ y1) : MetX yX8_lastWith cX8_lastWith 3 (some .long) rm_X8_lastWith σ [.ref o, .long y1] (oL (fun r σ' => σ' = σ ∧ r = (f_X8_lastWith o σ y1))) 0 0 := by
  refine metX_of (own := RX8) (lvs := [(0, .ref o), (1, .long y1)]) (by decide) rfl (Nat.le_of_ble_eq_true rfl) rfl (fun G rq => ?_)
  have hv : (f_X8_lastWith o σ y1) = _ := f_X8_lastWith.eq_1 _ _ _
  unfold ok_X8_lastWith at hk
  refine x_aload_n dX8_lastWith_0 (n := 1) rfl rfl 0 rfl ?_
  refine x_geti fl_X8_15_6 rfl hB rfl dX8_lastWith_1 (n := 4) rfl ?_
  refine x_if_ge (tgt := 40) dX8_lastWith_4 rfl (n := 7) rfl (fun c1 => ?_) (fun c1 => ?_)
  · have hk := hk.1 c1
    have hv := hv.trans (if_pos c1)
    refine x_ldc2 dX8_lastWith_40 (n := 43) rfl q814 ?_
    exact x_lret rq ⟨rfl, hv.symm⟩ dX8_lastWith_43
  · have hk := hk.2 c1
    have hv := hv.trans (if_neg c1)
    refine x_lload_n dX8_lastWith_7 (n := 8) rfl rfl 1 rfl ?_
    refine x_aload_n dX8_lastWith_8 (n := 9) rfl rfl 0 rfl ?_
    refine x_geti fl_X8_9_6 rfl hB rfl dX8_lastWith_9 (n := 12) rfl ?_
    refine x_i2l dX8_lastWith_12 (n := 13) rfl ?_
    refine x_lcmp_le (tgt := 21) dX8_lastWith_13 (pc1 := 14) rfl dX8_lastWith_14 rfl (n := 17) rfl (fun c2 => ?_) (fun c2 => ?_)
    · have hk := hk.1 c2
      have hv := hv.trans (if_pos c2)
      refine x_aload_n dX8_lastWith_21 (n := 22) rfl rfl 0 rfl ?_
      refine x_geti fl_X8_9_6 rfl hB rfl dX8_lastWith_22 (n := 25) rfl ?_
      refine x_i2l dX8_lastWith_25 (n := 26) rfl ?_
      refine x_lload_n dX8_lastWith_26 (n := 27) rfl rfl 1 rfl ?_
      refine x_lsub dX8_lastWith_27 (n := 28) rfl ?_
      refine x_aload_n dX8_lastWith_28 (n := 29) rfl rfl 0 rfl ?_
      refine x_geti fl_X8_15_6 rfl hB rfl dX8_lastWith_29 (n := 32) rfl ?_
      refine x_ineg dX8_lastWith_32 (n := 33) rfl ?_
      refine x_i2l dX8_lastWith_33 (n := 34) rfl ?_
      have b3 := hk
      refine x_ldiv dX8_lastWith_34 (n := 35) rfl b3 ?_
      refine x_lconst dX8_lastWith_35 (n := 36) rfl lc_1 ?_
      refine x_ladd dX8_lastWith_36 (n := 37) rfl ?_
      refine x_goto (tgt := 43) dX8_lastWith_37 rfl ?_
      exact x_lret rq ⟨rfl, hv.symm⟩ dX8_lastWith_43
    · have hk := hk.2 c2
      have hv := hv.trans (if_neg c2)
      refine x_lconst dX8_lastWith_17 (n := 18) rfl lc_0 ?_
      refine x_goto (tgt := 43) dX8_lastWith_18 rfl ?_
      exact x_lret rq ⟨rfl, hv.symm⟩ dX8_lastWith_43
abbrev rm_X1_age : Room := { frames := 4, cells := 0, slots := 0, locals := 97 }
def wj_X1_age_127 (o c : Nat) (σ : Hp)  (y2 : Int64) (r7 : Nat) (y8 : Int64) (y10 : Int64) (y12 : Int64) (w0 : Int64) (w1 : Int64) (Q : Int64 → Prop)  : Prop := ((f_J7_min_2 w1 w0) = y10 → (OB 6 r7 σ) ∧ (((((f_X8_start r7 σ (f_J7_min_2 w1 w0)) + y12) - 1) ≤ y2 → Q (f_J7_max_2 0 ((f_J7_min_2 w1 w0) - y8))) ∧ (¬ (((f_X8_start r7 σ (f_J7_min_2 w1 w0)) + y12) - 1) ≤ y2 → Q (f_J7_max_2 0 (((f_J7_min_2 w1 w0) - 1) - y8))))) ∧ (¬ (f_J7_min_2 w1 w0) = y10 → Q (f_J7_max_2 0 ((f_J7_min_2 w1 w0) - y8)))
def wp_X1_age (o c : Nat) (σ : Hp) (x1 : Int32) (y2 : Int64) (x4 : Int32) (Q : Int64 → Prop) : Prop := (ok_X1_isPerson o c σ x1) ∧ (((f_X1_isPerson o c σ x1) = 0 → Q (-1)) ∧ (¬ (f_X1_isPerson o c σ x1) = 0 → (ok_X1_isCount y2) ∧ (((f_X1_isCount y2) = 0 → Q (-1)) ∧ (¬ (f_X1_isCount y2) = 0 → (ok_X1_isLand o c σ x4) ∧ (((f_X1_isLand o c σ x4) = 0 → Q (-1)) ∧ (¬ (f_X1_isLand o c σ x4) = 0 → (ok_J2_get (c + 5) 6 σ x1) ∧ ((OB 8 (f_J2_get (c + 5) 6 σ x1) σ) ∧ (∀ v13 : Int64, v13 = gL σ (f_J2_get (c + 5) 6 σ x1) 1 → (ok_X1_land o c σ x4) ∧ ((OB 6 (f_X1_land o c σ x4) σ) ∧ (wp_X8_year (f_X1_land o c σ x4) σ v13 (fun r18 => wp_X8_year (f_X1_land o c σ x4) σ y2 (fun r19 => (y2 < v13 → Q (-1)) ∧ (¬ y2 < v13 → (r18 = (-1) → Q (-1)) ∧ (¬ r18 = (-1) → wp_X8_day (f_X1_land o c σ x4) σ v13 (fun r22 => (ok_X8_lastWith (f_X1_land o c σ x4) σ r22) ∧ ((r19 = (-1) → (ok_X8_last (f_X1_land o c σ x4) σ) ∧ (wj_X1_age_127 o c σ y2 (f_X1_land o c σ x4) r18 r19 r22 (f_X8_last (f_X1_land o c σ x4) σ) (f_X8_lastWith (f_X1_land o c σ x4) σ r22) Q)) ∧ (¬ r19 = (-1) → wj_X1_age_127 o c σ y2 (f_X1_land o c σ x4) r18 r19 r22 r19 (f_X8_lastWith (f_X1_land o c σ x4) σ r22) Q)))))))))))))))))
theorem xj_X1_age_127 (o c : Nat) (σ : Hp) (Q : Int64 → Prop) (G : XE) (hB : LB o c σ) (rq : RQ G 0 0 (oL (fun r σ' => σ' = σ ∧ Q r)))  (y2 : Int64) (r7 : Nat) (y8 : Int64) (y10 : Int64) (y12 : Int64) (w0 : Int64) (w1 : Int64)     (h : wj_X1_age_127 o c σ y2 r7 y8 y10 y12 w0 w1 Q ) : X G rm_X1_age cX1_age RX1 16 (some .long) σ 0 0 127 [(2, .long y2), (7, .ref r7), (8, .long y8), (10, .long y10), (12, .long y12)] [.long w0, .long w1] := by
  unfold wj_X1_age_127 at h
  refine x_cSlp (As := [.long w1, .long w0]) (rest := []) cs_X1_290 (met_J7_min_2 σ w1 w0 ) (by decide) rfl rfl rfl dX1_age_127 (n := 130) rfl (fun r29 q => ?_)
  subst q
  refine x_lstore (lvs' := [(14, .long (f_J7_min_2 w1 w0)), (2, .long y2), (7, .ref r7), (8, .long y8), (10, .long y10), (12, .long y12)]) dX1_age_130 (n := 132) rfl (by decide) rfl ?_
  refine x_lload dX1_age_132 (n := 134) rfl 0 rfl ?_
  refine x_lload dX1_age_134 (n := 136) rfl 4 rfl ?_
  refine x_lcmp_ne (tgt := 163) dX1_age_136 (pc1 := 137) rfl dX1_age_137 rfl (n := 140) rfl (fun c30 => ?_) (fun c30 => ?_)
  · have h := h.2 c30
    refine x_lconst dX1_age_163 (n := 164) rfl lc_0 ?_
    refine x_lload dX1_age_164 (n := 166) rfl 0 rfl ?_
    refine x_lload dX1_age_166 (n := 168) rfl 3 rfl ?_
    refine x_lsub dX1_age_168 (n := 169) rfl ?_
    refine x_cSlp (As := [.long 0, .long ((f_J7_min_2 w1 w0) - y8)]) (rest := []) cs_X1_296 (met_J7_max_2 σ 0 ((f_J7_min_2 w1 w0) - y8) ) (by decide) rfl rfl rfl dX1_age_169 (n := 172) rfl (fun r32 q => ?_)
    subst q
    exact x_lret rq ⟨rfl, h⟩ dX1_age_172
  · have h := h.1 c30
    refine x_aload dX1_age_140 (n := 142) rfl 2 rfl ?_
    refine x_lload dX1_age_142 (n := 144) rfl 0 rfl ?_
    obtain ⟨b33, h⟩ := h
    refine x_cVlp (As := [.long (f_J7_min_2 w1 w0)]) (rest := []) cv_X1_218 ck6 (met_X8_start r7 σ (f_J7_min_2 w1 w0) b33) b33 (by decide) rfl rfl rfl dX1_age_144 (n := 147) rfl (fun r35 q => ?_)
    subst q
    refine x_lload dX1_age_147 (n := 149) rfl 5 rfl ?_
    refine x_ladd dX1_age_149 (n := 150) rfl ?_
    refine x_lconst dX1_age_150 (n := 151) rfl lc_1 ?_
    refine x_lsub dX1_age_151 (n := 152) rfl ?_
    refine x_lload_n dX1_age_152 (n := 153) rfl rfl 1 rfl ?_
    refine x_lcmp_le (tgt := 163) dX1_age_153 (pc1 := 154) rfl dX1_age_154 rfl (n := 157) rfl (fun c36 => ?_) (fun c36 => ?_)
    · have h := h.1 c36
      refine x_lconst dX1_age_163 (n := 164) rfl lc_0 ?_
      refine x_lload dX1_age_164 (n := 166) rfl 0 rfl ?_
      refine x_lload dX1_age_166 (n := 168) rfl 3 rfl ?_
      refine x_lsub dX1_age_168 (n := 169) rfl ?_
      refine x_cSlp (As := [.long 0, .long ((f_J7_min_2 w1 w0) - y8)]) (rest := []) cs_X1_296 (met_J7_max_2 σ 0 ((f_J7_min_2 w1 w0) - y8) ) (by decide) rfl rfl rfl dX1_age_169 (n := 172) rfl (fun r38 q => ?_)
      subst q
      exact x_lret rq ⟨rfl, h⟩ dX1_age_172
    · have h := h.2 c36
      refine x_lload dX1_age_157 (n := 159) rfl 0 rfl ?_
      refine x_lconst dX1_age_159 (n := 160) rfl lc_1 ?_
      refine x_lsub dX1_age_160 (n := 161) rfl ?_
      refine x_lstore (lvs' := [(14, .long ((f_J7_min_2 w1 w0) - 1)), (2, .long y2), (7, .ref r7), (8, .long y8), (10, .long y10), (12, .long y12)]) dX1_age_161 (n := 163) rfl (by decide) rfl ?_
      refine x_lconst dX1_age_163 (n := 164) rfl lc_0 ?_
      refine x_lload dX1_age_164 (n := 166) rfl 0 rfl ?_
      refine x_lload dX1_age_166 (n := 168) rfl 3 rfl ?_
      refine x_lsub dX1_age_168 (n := 169) rfl ?_
      refine x_cSlp (As := [.long 0, .long (((f_J7_min_2 w1 w0) - 1) - y8)]) (rest := []) cs_X1_296 (met_J7_max_2 σ 0 (((f_J7_min_2 w1 w0) - 1) - y8) ) (by decide) rfl rfl rfl dX1_age_169 (n := 172) rfl (fun r40 q => ?_)
      subst q
      exact x_lret rq ⟨rfl, h⟩ dX1_age_172
theorem met_X1_age (o c : Nat) (σ : Hp) (x1 : Int32) (y2 : Int64) (x4 : Int32) (Q : Int64 → Prop) (hB : LB o c σ) (h : wp_X1_age o c σ x1 y2 x4 Q) : MetX yX1_age cX1_age 16 (some .long) rm_X1_age σ [.ref o, .int x1, .long y2, .int x4] (oL (fun r σ' => σ' = σ ∧ Q r)) 0 0 := by
  refine metX_of (own := RX1) (lvs := [(0, .ref o), (1, .int x1), (2, .long y2), (4, .int x4)]) (by decide) rfl (Nat.le_of_ble_eq_true rfl) rfl (fun G rq => ?_)
  unfold wp_X1_age at h
  refine x_aload_n dX1_age_0 (n := 1) rfl rfl 0 rfl ?_
  refine x_iload_n dX1_age_1 (n := 2) rfl rfl 1 rfl ?_
  obtain ⟨b1, h⟩ := h
  refine x_cVip (As := [.int x1]) (rest := []) cv_X1_271 ck1 (met_X1_isPerson o c σ x1 hB b1) hB.1 (by decide) rfl rfl rfl dX1_age_2 (n := 5) rfl (fun r2 q => ?_)
  subst q
  refine x_if_eq (tgt := 24) dX1_age_5 rfl (n := 8) rfl (fun c3 => ?_) (fun c3 => ?_)
  · have h := h.1 c3
    refine x_ldc2 dX1_age_24 (n := 27) rfl q1059 ?_
    exact x_lret rq ⟨rfl, h⟩ dX1_age_27
  · have h := h.2 c3
    refine x_lload_n dX1_age_8 (n := 9) rfl rfl 2 rfl ?_
    obtain ⟨b4, h⟩ := h
    refine x_cSip (As := [.long y2]) (rest := []) cs_X1_209 (met_X1_isCount σ y2  b4) (by decide) rfl rfl rfl dX1_age_9 (n := 12) rfl (fun r5 q => ?_)
    subst q
    refine x_if_eq (tgt := 24) dX1_age_12 rfl (n := 15) rfl (fun c6 => ?_) (fun c6 => ?_)
    · have h := h.1 c6
      refine x_ldc2 dX1_age_24 (n := 27) rfl q1059 ?_
      exact x_lret rq ⟨rfl, h⟩ dX1_age_27
    · have h := h.2 c6
      refine x_aload_n dX1_age_15 (n := 16) rfl rfl 0 rfl ?_
      refine x_iload dX1_age_16 (n := 18) rfl 3 rfl ?_
      obtain ⟨b7, h⟩ := h
      refine x_cVip (As := [.int x4]) (rest := []) cv_X1_171 ck1 (met_X1_isLand o c σ x4 hB b7) hB.1 (by decide) rfl rfl rfl dX1_age_18 (n := 21) rfl (fun r8 q => ?_)
      subst q
      refine x_if_ne (tgt := 28) dX1_age_21 rfl (n := 24) rfl (fun c9 => ?_) (fun c9 => ?_)
      · have h := h.2 c9
        refine x_aload_n dX1_age_28 (n := 29) rfl rfl 0 rfl ?_
        refine x_getr fl_X1_39_1 rfl hB.1 hB.r5 dX1_age_29 (n := 32) rfl ?_
        refine x_getr fl_X1_163_3 rfl hB.rb.1 hB.rb.r2 dX1_age_32 (n := 35) rfl ?_
        refine x_iload_n dX1_age_35 (n := 36) rfl rfl 1 rfl ?_
        obtain ⟨b10, h⟩ := h
        refine x_cVrp (As := [.int x1]) (rest := []) cv_X1_127 ck4 (met_J2_get (c + 5) 6 σ x1 hB.rb.b2 b10) hB.rb.b2.1 (by decide) rfl rfl rfl dX1_age_36 (n := 39) rfl (fun r11 q => ?_)
        subst q
        obtain ⟨b12, h⟩ := h
        refine x_cast cx_X1_274_8 b12 dX1_age_39 (n := 42) rfl ?_
        refine x_getl fl_X1_276_8 rfl b12 rfl dX1_age_42 (n := 45) rfl ?_
        refine x_topl (fun v13 e14 => ?_)
        have h := h v13 e14
        refine x_lstore (lvs' := [(5, .long v13), (0, .ref o), (1, .int x1), (2, .long y2), (4, .int x4)]) dX1_age_45 (n := 47) rfl (by decide) rfl ?_
        refine x_aload_n dX1_age_47 (n := 48) rfl rfl 1 rfl ?_
        refine x_iload dX1_age_48 (n := 50) rfl 4 rfl ?_
        obtain ⟨b15, h⟩ := h
        refine x_cVrp (As := [.int x4]) (rest := []) cv_X1_177 ck1 (met_X1_land o c σ x4 hB b15) hB.1 (by decide) rfl rfl rfl dX1_age_50 (n := 53) rfl (fun r16 q => ?_)
        subst q
        refine x_astore (lvs' := [(7, .ref (f_X1_land o c σ x4)), (5, .long v13), (0, .ref o), (1, .int x1), (2, .long y2), (4, .int x4)]) dX1_age_53 (n := 55) rfl (by decide) rfl ?_
        refine x_aload dX1_age_55 (n := 57) rfl 0 rfl ?_
        refine x_lload dX1_age_57 (n := 59) rfl 1 rfl ?_
        obtain ⟨b17, h⟩ := h
        refine x_cVlp (As := [.long v13]) (rest := []) cv_X1_212 ck6 (met_X8_year (f_X1_land o c σ x4) σ v13 _ b17 h) b17 (by decide) rfl rfl rfl dX1_age_59 (n := 62) rfl (fun r18 h => ?_)
        refine x_lstore (lvs' := [(8, .long r18), (7, .ref (f_X1_land o c σ x4)), (5, .long v13), (0, .ref o), (1, .int x1), (2, .long y2), (4, .int x4)]) dX1_age_62 (n := 64) rfl (by decide) rfl ?_
        refine x_aload dX1_age_64 (n := 66) rfl 1 rfl ?_
        refine x_lload_n dX1_age_66 (n := 67) rfl rfl 5 rfl ?_
        refine x_cVlp (As := [.long y2]) (rest := []) cv_X1_212 ck6 (met_X8_year (f_X1_land o c σ x4) σ y2 _ b17 h) b17 (by decide) rfl rfl rfl dX1_age_67 (n := 70) rfl (fun r19 h => ?_)
        refine x_lstore (lvs' := [(10, .long r19), (8, .long r18), (7, .ref (f_X1_land o c σ x4)), (5, .long v13), (0, .ref o), (1, .int x1), (2, .long y2), (4, .int x4)]) dX1_age_70 (n := 72) rfl (by decide) rfl ?_
        refine x_lload_n dX1_age_72 (n := 73) rfl rfl 6 rfl ?_
        refine x_lload dX1_age_73 (n := 75) rfl 3 rfl ?_
        refine x_lcmp_lt (tgt := 88) dX1_age_75 (pc1 := 76) rfl dX1_age_76 rfl (n := 79) rfl (fun c20 => ?_) (fun c20 => ?_)
        · have h := h.1 c20
          refine x_ldc2 dX1_age_88 (n := 91) rfl q1059 ?_
          exact x_lret rq ⟨rfl, h⟩ dX1_age_91
        · have h := h.2 c20
          refine x_lload dX1_age_79 (n := 81) rfl 1 rfl ?_
          refine x_ldc2 dX1_age_81 (n := 84) rfl q1059 ?_
          refine x_lcmp_ne (tgt := 92) dX1_age_84 (pc1 := 85) rfl dX1_age_85 rfl (n := 88) rfl (fun c21 => ?_) (fun c21 => ?_)
          · have h := h.2 c21
            refine x_aload dX1_age_92 (n := 94) rfl 2 rfl ?_
            refine x_lload dX1_age_94 (n := 96) rfl 3 rfl ?_
            refine x_cVlp (As := [.long v13]) (rest := []) cv_X1_215 ck6 (met_X8_day (f_X1_land o c σ x4) σ v13 _ b17 h) b17 (by decide) rfl rfl rfl dX1_age_96 (n := 99) rfl (fun r22 h => ?_)
            refine x_lstore (lvs' := [(12, .long r22), (10, .long r19), (8, .long r18), (7, .ref (f_X1_land o c σ x4)), (5, .long v13), (0, .ref o), (1, .int x1), (2, .long y2), (4, .int x4)]) dX1_age_99 (n := 101) rfl (by decide) rfl ?_
            refine x_aload dX1_age_101 (n := 103) rfl 3 rfl ?_
            refine x_lload dX1_age_103 (n := 105) rfl 0 rfl ?_
            obtain ⟨b23, h⟩ := h
            refine x_cVlp (As := [.long r22]) (rest := []) cv_X1_283 ck6 (met_X8_lastWith (f_X1_land o c σ x4) σ r22 b17 b23) b17 (by decide) rfl rfl rfl dX1_age_105 (n := 108) rfl (fun r24 q => ?_)
            subst q
            refine x_lload dX1_age_108 (n := 110) rfl 1 rfl ?_
            refine x_ldc2 dX1_age_110 (n := 113) rfl q1059 ?_
            refine x_lcmp_ne (tgt := 125) dX1_age_113 (pc1 := 114) rfl dX1_age_114 rfl (n := 117) rfl (fun c25 => ?_) (fun c25 => ?_)
            · have h := h.2 c25
              refine x_lload dX1_age_125 (n := 127) rfl 1 rfl ?_
              exact x_sub [7, 3, 2, 1, 0] rfl (xj_X1_age_127 o c σ Q G hB rq y2 (f_X1_land o c σ x4) r18 r19 r22 r19 (f_X8_lastWith (f_X1_land o c σ x4) σ r22) h)
            · have h := h.1 c25
              refine x_aload dX1_age_117 (n := 119) rfl 3 rfl ?_
              obtain ⟨b26, h⟩ := h
              refine x_cVlp (As := []) (rest := [.long (f_X8_lastWith (f_X1_land o c σ x4) σ r22)]) cv_X1_286 ck6 (met_X8_last (f_X1_land o c σ x4) σ b17 b26) b17 (by decide) rfl rfl rfl dX1_age_119 (n := 122) rfl (fun r27 q => ?_)
              subst q
              refine x_goto (tgt := 127) dX1_age_122 rfl ?_
              exact x_sub [7, 3, 2, 1, 0] rfl (xj_X1_age_127 o c σ Q G hB rq y2 (f_X1_land o c σ x4) r18 r19 r22 (f_X8_last (f_X1_land o c σ x4) σ) (f_X8_lastWith (f_X1_land o c σ x4) σ r22) h)
          · have h := h.1 c21
            refine x_ldc2 dX1_age_88 (n := 91) rfl q1059 ?_
            exact x_lret rq ⟨rfl, h⟩ dX1_age_91
      · have h := h.1 c9
        refine x_ldc2 dX1_age_24 (n := 27) rfl q1059 ?_
        exact x_lret rq ⟨rfl, h⟩ dX1_age_27
abbrev rm_X1_elder : Room := { frames := 3, cells := 0, slots := 0, locals := 64 }
def f_X1_elder (o c : Nat) (σ : Hp) (x1 : Int32) (x2 : Int32) : Int32 := if (f_X1_isPerson o c σ x1) = 0 then (-1) else if (f_X1_isPerson o c σ x2) = 0 then (-1) else if (gL σ (f_J2_get (c + 5) 6 σ x2) 1) < (gL σ (f_J2_get (c + 5) 6 σ x1) 1) then x2 else x1
def ok_X1_elder (o c : Nat) (σ : Hp) (x1 : Int32) (x2 : Int32) : Prop := (ok_X1_isPerson o c σ x1) ∧ (((f_X1_isPerson o c σ x1) = 0 → True) ∧ (¬ (f_X1_isPerson o c σ x1) = 0 → ((ok_X1_isPerson o c σ x2) ∧ (((f_X1_isPerson o c σ x2) = 0 → True) ∧ (¬ (f_X1_isPerson o c σ x2) = 0 → ((ok_J2_get (c + 5) 6 σ x1) ∧ ((OB 8 (f_J2_get (c + 5) 6 σ x1) σ) ∧ ((ok_J2_get (c + 5) 6 σ x2) ∧ (OB 8 (f_J2_get (c + 5) 6 σ x2) σ)))))))))
theorem met_X1_elder (o c : Nat) (σ : Hp) (x1 : Int32) (x2 : Int32) (hB : LB o c σ) (hk : ok_X1_elder o c σ x1 x2) : MetX yX1_elder cX1_elder 3 (some .int) rm_X1_elder σ [.ref o, .int x1, .int x2] (oI (fun r σ' => σ' = σ ∧ r = (f_X1_elder o c σ x1 x2))) 0 0 := by
  refine metX_of (own := RX1) (lvs := [(0, .ref o), (1, .int x1), (2, .int x2)]) (by decide) rfl (Nat.le_of_ble_eq_true rfl) rfl (fun G rq => ?_)
  have hv : (f_X1_elder o c σ x1 x2) = _ := f_X1_elder.eq_1 _ _ _ _ _
  unfold ok_X1_elder at hk
  refine x_aload_n dX1_elder_0 (n := 1) rfl rfl 0 rfl ?_
  refine x_iload_n dX1_elder_1 (n := 2) rfl rfl 1 rfl ?_
  obtain ⟨b1, hk⟩ := hk
  refine x_cVip (As := [.int x1]) (rest := []) cv_X1_271 ck1 (met_X1_isPerson o c σ x1 hB b1) hB.1 (by decide) rfl rfl rfl dX1_elder_2 (n := 5) rfl (fun r2 q => ?_)
  subst q
  refine x_if_eq (tgt := 16) dX1_elder_5 rfl (n := 8) rfl (fun c3 => ?_) (fun c3 => ?_)
  · have hk := hk.1 c3
    have hv := hv.trans (if_pos c3)
    refine x_iconst dX1_elder_16 (n := 17) rfl ic_m1 ?_
    refine x_goto (tgt := 63) dX1_elder_17 rfl ?_
    exact x_iret rq ⟨rfl, hv.symm⟩ dX1_elder_63
  · have hk := hk.2 c3
    have hv := hv.trans (if_neg c3)
    refine x_aload_n dX1_elder_8 (n := 9) rfl rfl 0 rfl ?_
    refine x_iload_n dX1_elder_9 (n := 10) rfl rfl 2 rfl ?_
    obtain ⟨b4, hk⟩ := hk
    refine x_cVip (As := [.int x2]) (rest := []) cv_X1_271 ck1 (met_X1_isPerson o c σ x2 hB b4) hB.1 (by decide) rfl rfl rfl dX1_elder_10 (n := 13) rfl (fun r5 q => ?_)
    subst q
    refine x_if_ne (tgt := 20) dX1_elder_13 rfl (n := 16) rfl (fun c6 => ?_) (fun c6 => ?_)
    · have hk := hk.2 c6
      have hv := hv.trans (if_neg c6)
      refine x_aload_n dX1_elder_20 (n := 21) rfl rfl 0 rfl ?_
      refine x_getr fl_X1_39_1 rfl hB.1 hB.r5 dX1_elder_21 (n := 24) rfl ?_
      refine x_getr fl_X1_163_3 rfl hB.rb.1 hB.rb.r2 dX1_elder_24 (n := 27) rfl ?_
      refine x_iload_n dX1_elder_27 (n := 28) rfl rfl 1 rfl ?_
      obtain ⟨b7, hk⟩ := hk
      refine x_cVrp (As := [.int x1]) (rest := []) cv_X1_127 ck4 (met_J2_get (c + 5) 6 σ x1 hB.rb.b2 b7) hB.rb.b2.1 (by decide) rfl rfl rfl dX1_elder_28 (n := 31) rfl (fun r8 q => ?_)
      subst q
      obtain ⟨b9, hk⟩ := hk
      refine x_cast cx_X1_274_8 b9 dX1_elder_31 (n := 34) rfl ?_
      refine x_getl fl_X1_276_8 rfl b9 rfl dX1_elder_34 (n := 37) rfl ?_
      refine x_aload_n dX1_elder_37 (n := 38) rfl rfl 0 rfl ?_
      refine x_getr fl_X1_39_1 rfl hB.1 hB.r5 dX1_elder_38 (n := 41) rfl ?_
      refine x_getr fl_X1_163_3 rfl hB.rb.1 hB.rb.r2 dX1_elder_41 (n := 44) rfl ?_
      refine x_iload_n dX1_elder_44 (n := 45) rfl rfl 2 rfl ?_
      obtain ⟨b10, hk⟩ := hk
      refine x_cVrp (As := [.int x2]) (rest := [.long (gL σ (f_J2_get (c + 5) 6 σ x1) 1)]) cv_X1_127 ck4 (met_J2_get (c + 5) 6 σ x2 hB.rb.b2 b10) hB.rb.b2.1 (by decide) rfl rfl rfl dX1_elder_45 (n := 48) rfl (fun r11 q => ?_)
      subst q
      have b12 := hk
      refine x_cast cx_X1_274_8 b12 dX1_elder_48 (n := 51) rfl ?_
      refine x_getl fl_X1_276_8 rfl b12 rfl dX1_elder_51 (n := 54) rfl ?_
      refine x_lcmp_gt (tgt := 62) dX1_elder_54 (pc1 := 55) rfl dX1_elder_55 rfl (n := 58) rfl (fun c13 => ?_) (fun c13 => ?_)
      · have hv := hv.trans (if_pos c13)
        refine x_iload_n dX1_elder_62 (n := 63) rfl rfl 2 rfl ?_
        exact x_iret rq ⟨rfl, hv.symm⟩ dX1_elder_63
      · have hv := hv.trans (if_neg c13)
        refine x_iload_n dX1_elder_58 (n := 59) rfl rfl 1 rfl ?_
        refine x_goto (tgt := 63) dX1_elder_59 rfl ?_
        exact x_iret rq ⟨rfl, hv.symm⟩ dX1_elder_63
    · have hk := hk.1 c6
      have hv := hv.trans (if_pos c6)
      refine x_iconst dX1_elder_16 (n := 17) rfl ic_m1 ?_
      refine x_goto (tgt := 63) dX1_elder_17 rfl ?_
      exact x_iret rq ⟨rfl, hv.symm⟩ dX1_elder_63
abbrev rm_X8_firstWith : Room := { frames := 0, cells := 0, slots := 0, locals := 0 }
def f_X8_firstWith (o : Nat) (σ : Hp) (y1 : Int64) : Int64 := if ((gI σ o 1).toInt64) < y1 then if 0 < (gI σ o 2) then ((((y1 - ((gI σ o 1).toInt64)) + ((gI σ o 2).toInt64)) - 1) / ((gI σ o 2).toInt64)) + 1 else 9223372036854775807 else 1
def ok_X8_firstWith (o : Nat) (σ : Hp) (y1 : Int64) : Prop := (((gI σ o 1).toInt64) < y1 → ((0 < (gI σ o 2) → (¬ ((gI σ o 2).toInt64) = 0)) ∧ (¬ 0 < (gI σ o 2) → True))) ∧ (¬ ((gI σ o 1).toInt64) < y1 → True)
theorem met_X8_firstWith (o : Nat) (σ : Hp) (y1 : Int64) (hB : OB 6 o σ) (hk : ok_X8_firstWith o σ y1) : MetX yX8_firstWith cX8_firstWith 3 (some .long) rm_X8_firstWith σ [.ref o, .long y1] (oL (fun r σ' => σ' = σ ∧ r = (f_X8_firstWith o σ y1))) 0 0 := by
  refine metX_of (own := RX8) (lvs := [(0, .ref o), (1, .long y1)]) (by decide) rfl (Nat.le_of_ble_eq_true rfl) rfl (fun G rq => ?_)
  have hv : (f_X8_firstWith o σ y1) = _ := f_X8_firstWith.eq_1 _ _ _
  unfold ok_X8_firstWith at hk
  refine x_lload_n dX8_firstWith_0 (n := 1) rfl rfl 1 rfl ?_
  refine x_aload_n dX8_firstWith_1 (n := 2) rfl rfl 0 rfl ?_
  refine x_geti fl_X8_9_6 rfl hB rfl dX8_firstWith_2 (n := 5) rfl ?_
  refine x_i2l dX8_firstWith_5 (n := 6) rfl ?_
  refine x_lcmp_gt (tgt := 14) dX8_firstWith_6 (pc1 := 7) rfl dX8_firstWith_7 rfl (n := 10) rfl (fun c1 => ?_) (fun c1 => ?_)
  · have hk := hk.1 c1
    have hv := hv.trans (if_pos c1)
    refine x_aload_n dX8_firstWith_14 (n := 15) rfl rfl 0 rfl ?_
    refine x_geti fl_X8_15_6 rfl hB rfl dX8_firstWith_15 (n := 18) rfl ?_
    refine x_if_gt (tgt := 27) dX8_firstWith_18 rfl (n := 21) rfl (fun c2 => ?_) (fun c2 => ?_)
    · have hk := hk.1 c2
      have hv := hv.trans (if_pos c2)
      refine x_lload_n dX8_firstWith_27 (n := 28) rfl rfl 1 rfl ?_
      refine x_aload_n dX8_firstWith_28 (n := 29) rfl rfl 0 rfl ?_
      refine x_geti fl_X8_9_6 rfl hB rfl dX8_firstWith_29 (n := 32) rfl ?_
      refine x_i2l dX8_firstWith_32 (n := 33) rfl ?_
      refine x_lsub dX8_firstWith_33 (n := 34) rfl ?_
      refine x_aload_n dX8_firstWith_34 (n := 35) rfl rfl 0 rfl ?_
      refine x_geti fl_X8_15_6 rfl hB rfl dX8_firstWith_35 (n := 38) rfl ?_
      refine x_i2l dX8_firstWith_38 (n := 39) rfl ?_
      refine x_ladd dX8_firstWith_39 (n := 40) rfl ?_
      refine x_lconst dX8_firstWith_40 (n := 41) rfl lc_1 ?_
      refine x_lsub dX8_firstWith_41 (n := 42) rfl ?_
      refine x_aload_n dX8_firstWith_42 (n := 43) rfl rfl 0 rfl ?_
      refine x_geti fl_X8_15_6 rfl hB rfl dX8_firstWith_43 (n := 46) rfl ?_
      refine x_i2l dX8_firstWith_46 (n := 47) rfl ?_
      have b3 := hk
      refine x_ldiv dX8_firstWith_47 (n := 48) rfl b3 ?_
      refine x_lconst dX8_firstWith_48 (n := 49) rfl lc_1 ?_
      refine x_ladd dX8_firstWith_49 (n := 50) rfl ?_
      exact x_lret rq ⟨rfl, hv.symm⟩ dX8_firstWith_50
    · have hk := hk.2 c2
      have hv := hv.trans (if_neg c2)
      refine x_ldc2 dX8_firstWith_21 (n := 24) rfl q814 ?_
      refine x_goto (tgt := 50) dX8_firstWith_24 rfl ?_
      exact x_lret rq ⟨rfl, hv.symm⟩ dX8_firstWith_50
  · have hk := hk.2 c1
    have hv := hv.trans (if_neg c1)
    refine x_lconst dX8_firstWith_10 (n := 11) rfl lc_1 ?_
    refine x_goto (tgt := 50) dX8_firstWith_11 rfl ?_
    exact x_lret rq ⟨rfl, hv.symm⟩ dX8_firstWith_50
abbrev rm_X1_often : Room := { frames := 4, cells := 0, slots := 0, locals := 85 }
def fj_X1_often_82 (o c : Nat) (σ : Hp)  (x3 : Int32) (y4 : Int64) (r6 : Nat) (w0 : Int64) (w1 : Int64) : Int64 := if (f_J7_max_2 w1 w0) ≤ (f_J7_min_2 x3.toInt64 (f_X8_lastWith r6 σ y4)) then f_J7_max_2 0 (((f_J7_min_2 x3.toInt64 (f_X8_lastWith r6 σ y4)) - (f_J7_max_2 w1 w0)) + 1) else f_J7_max_2 0 0
def oj_X1_often_82 (o c : Nat) (σ : Hp)  (x3 : Int32) (y4 : Int64) (r6 : Nat) (w0 : Int64) (w1 : Int64) : Prop := (OB 6 r6 σ) ∧ (ok_X8_lastWith r6 σ y4)
def f_X1_often (o c : Nat) (σ : Hp) (x1 : Int32) (x2 : Int32) (x3 : Int32) (y4 : Int64) : Int64 := if (f_X1_isLand o c σ x1) = 0 then (-1) else if (f_X1_in x2.toInt64 1 1000000000) = 0 then (-1) else if (f_X1_in x3.toInt64 x2.toInt64 1000000000) = 0 then (-1) else if 1 ≤ y4 then if (y4 - ((gI σ (f_X1_land o c σ x1) 1).toInt64)) ≤ 99000000000 then fj_X1_often_82 o c σ x3 y4 (f_X1_land o c σ x1) (f_X8_firstWith (f_X1_land o c σ x1) σ y4) x2.toInt64 else fj_X1_often_82 o c σ x3 y4 (f_X1_land o c σ x1) 9223372036854775807 x2.toInt64 else (-1)
def ok_X1_often (o c : Nat) (σ : Hp) (x1 : Int32) (x2 : Int32) (x3 : Int32) (y4 : Int64) : Prop := (ok_X1_isLand o c σ x1) ∧ (((f_X1_isLand o c σ x1) = 0 → True) ∧ (¬ (f_X1_isLand o c σ x1) = 0 → (((f_X1_in x2.toInt64 1 1000000000) = 0 → True) ∧ (¬ (f_X1_in x2.toInt64 1 1000000000) = 0 → (((f_X1_in x3.toInt64 x2.toInt64 1000000000) = 0 → True) ∧ (¬ (f_X1_in x3.toInt64 x2.toInt64 1000000000) = 0 → ((1 ≤ y4 → ((ok_X1_land o c σ x1) ∧ ((OB 6 (f_X1_land o c σ x1) σ) ∧ (((y4 - ((gI σ (f_X1_land o c σ x1) 1).toInt64)) ≤ 99000000000 → ((ok_X8_firstWith (f_X1_land o c σ x1) σ y4) ∧ (oj_X1_often_82 o c σ x3 y4 (f_X1_land o c σ x1) (f_X8_firstWith (f_X1_land o c σ x1) σ y4) x2.toInt64))) ∧ (¬ (y4 - ((gI σ (f_X1_land o c σ x1) 1).toInt64)) ≤ 99000000000 → (oj_X1_often_82 o c σ x3 y4 (f_X1_land o c σ x1) 9223372036854775807 x2.toInt64)))))) ∧ (¬ 1 ≤ y4 → True))))))))
theorem xj_X1_often_82 (o c : Nat) (σ : Hp) (G : XE) (hB : LB o c σ)  (x3 : Int32) (y4 : Int64) (r6 : Nat) (w0 : Int64) (w1 : Int64)   (V : Int64) (hv : V = fj_X1_often_82 o c σ x3 y4 r6 w0 w1) (rq : RQ G 0 0 (oL (fun r σ' => σ' = σ ∧ r = V))) (hk : oj_X1_often_82 o c σ x3 y4 r6 w0 w1) : X G rm_X1_often cX1_often RX1 11 (some .long) σ 0 0 82 [(3, .int x3), (4, .long y4), (6, .ref r6)] [.long w0, .long w1] := by
  unfold fj_X1_often_82 at hv
  unfold oj_X1_often_82 at hk
  refine x_cSlp (As := [.long w1, .long w0]) (rest := []) cs_X1_296 (met_J7_max_2 σ w1 w0 ) (by decide) rfl rfl rfl dX1_often_82 (n := 85) rfl (fun r18 q => ?_)
  subst q
  refine x_lstore (lvs' := [(7, .long (f_J7_max_2 w1 w0)), (3, .int x3), (4, .long y4), (6, .ref r6)]) dX1_often_85 (n := 87) rfl (by decide) rfl ?_
  refine x_iload_n dX1_often_87 (n := 88) rfl rfl 1 rfl ?_
  refine x_i2l dX1_often_88 (n := 89) rfl ?_
  refine x_aload dX1_often_89 (n := 91) rfl 3 rfl ?_
  refine x_lload dX1_often_91 (n := 93) rfl 2 rfl ?_
  obtain ⟨b19, hk⟩ := hk
  have b20 := hk
  refine x_cVlp (As := [.long y4]) (rest := [.long x3.toInt64]) cv_X1_283 ck6 (met_X8_lastWith r6 σ y4 b19 b20) b19 (by decide) rfl rfl rfl dX1_often_93 (n := 96) rfl (fun r21 q => ?_)
  subst q
  refine x_cSlp (As := [.long x3.toInt64, .long (f_X8_lastWith r6 σ y4)]) (rest := []) cs_X1_290 (met_J7_min_2 σ x3.toInt64 (f_X8_lastWith r6 σ y4) ) (by decide) rfl rfl rfl dX1_often_96 (n := 99) rfl (fun r23 q => ?_)
  subst q
  refine x_lstore (lvs' := [(9, .long (f_J7_min_2 x3.toInt64 (f_X8_lastWith r6 σ y4))), (7, .long (f_J7_max_2 w1 w0)), (3, .int x3), (4, .long y4), (6, .ref r6)]) dX1_often_99 (n := 101) rfl (by decide) rfl ?_
  refine x_lconst dX1_often_101 (n := 102) rfl lc_0 ?_
  refine x_lload dX1_often_102 (n := 104) rfl 1 rfl ?_
  refine x_lload dX1_often_104 (n := 106) rfl 0 rfl ?_
  refine x_lcmp_le (tgt := 114) dX1_often_106 (pc1 := 107) rfl dX1_often_107 rfl (n := 110) rfl (fun c24 => ?_) (fun c24 => ?_)
  · have hv := hv.trans (if_pos c24)
    refine x_lload dX1_often_114 (n := 116) rfl 0 rfl ?_
    refine x_lload dX1_often_116 (n := 118) rfl 1 rfl ?_
    refine x_lsub dX1_often_118 (n := 119) rfl ?_
    refine x_lconst dX1_often_119 (n := 120) rfl lc_1 ?_
    refine x_ladd dX1_often_120 (n := 121) rfl ?_
    refine x_cSlp (As := [.long 0, .long (((f_J7_min_2 x3.toInt64 (f_X8_lastWith r6 σ y4)) - (f_J7_max_2 w1 w0)) + 1)]) (rest := []) cs_X1_296 (met_J7_max_2 σ 0 (((f_J7_min_2 x3.toInt64 (f_X8_lastWith r6 σ y4)) - (f_J7_max_2 w1 w0)) + 1) ) (by decide) rfl rfl rfl dX1_often_121 (n := 124) rfl (fun r26 q => ?_)
    subst q
    exact x_lret rq ⟨rfl, hv.symm⟩ dX1_often_124
  · have hv := hv.trans (if_neg c24)
    refine x_lconst dX1_often_110 (n := 111) rfl lc_0 ?_
    refine x_goto (tgt := 121) dX1_often_111 rfl ?_
    refine x_cSlp (As := [.long 0, .long 0]) (rest := []) cs_X1_296 (met_J7_max_2 σ 0 0 ) (by decide) rfl rfl rfl dX1_often_121 (n := 124) rfl (fun r28 q => ?_)
    subst q
    exact x_lret rq ⟨rfl, hv.symm⟩ dX1_often_124
theorem met_X1_often (o c : Nat) (σ : Hp) (x1 : Int32) (x2 : Int32) (x3 : Int32) (y4 : Int64) (hB : LB o c σ) (hk : ok_X1_often o c σ x1 x2 x3 y4) : MetX yX1_often cX1_often 11 (some .long) rm_X1_often σ [.ref o, .int x1, .int x2, .int x3, .long y4] (oL (fun r σ' => σ' = σ ∧ r = (f_X1_often o c σ x1 x2 x3 y4))) 0 0 := by
  refine metX_of (own := RX1) (lvs := [(0, .ref o), (1, .int x1), (2, .int x2), (3, .int x3), (4, .long y4)]) (by decide) rfl (Nat.le_of_ble_eq_true rfl) rfl (fun G rq => ?_)
  have hv : (f_X1_often o c σ x1 x2 x3 y4) = _ := f_X1_often.eq_1 _ _ _ _ _ _ _
  unfold ok_X1_often at hk
  refine x_aload_n dX1_often_0 (n := 1) rfl rfl 0 rfl ?_
  refine x_iload_n dX1_often_1 (n := 2) rfl rfl 1 rfl ?_
  obtain ⟨b1, hk⟩ := hk
  refine x_cVip (As := [.int x1]) (rest := []) cv_X1_171 ck1 (met_X1_isLand o c σ x1 hB b1) hB.1 (by decide) rfl rfl rfl dX1_often_2 (n := 5) rfl (fun r2 q => ?_)
  subst q
  refine x_if_eq (tgt := 40) dX1_often_5 rfl (n := 8) rfl (fun c3 => ?_) (fun c3 => ?_)
  · have hk := hk.1 c3
    have hv := hv.trans (if_pos c3)
    refine x_ldc2 dX1_often_40 (n := 43) rfl q1059 ?_
    exact x_lret rq ⟨rfl, hv.symm⟩ dX1_often_43
  · have hk := hk.2 c3
    have hv := hv.trans (if_neg c3)
    refine x_iload_n dX1_often_8 (n := 9) rfl rfl 2 rfl ?_
    refine x_i2l dX1_often_9 (n := 10) rfl ?_
    refine x_lconst dX1_often_10 (n := 11) rfl lc_1 ?_
    refine x_ldc2 dX1_often_11 (n := 14) rfl q1051 ?_
    refine x_cSip (As := [.long x2.toInt64, .long 1, .long 1000000000]) (rest := []) cs_X1_96 (met_X1_in σ x2.toInt64 1 1000000000 ) (by decide) rfl rfl rfl dX1_often_14 (n := 17) rfl (fun r5 q => ?_)
    subst q
    refine x_if_eq (tgt := 40) dX1_often_17 rfl (n := 20) rfl (fun c6 => ?_) (fun c6 => ?_)
    · have hk := hk.1 c6
      have hv := hv.trans (if_pos c6)
      refine x_ldc2 dX1_often_40 (n := 43) rfl q1059 ?_
      exact x_lret rq ⟨rfl, hv.symm⟩ dX1_often_43
    · have hk := hk.2 c6
      have hv := hv.trans (if_neg c6)
      refine x_iload_n dX1_often_20 (n := 21) rfl rfl 3 rfl ?_
      refine x_i2l dX1_often_21 (n := 22) rfl ?_
      refine x_iload_n dX1_often_22 (n := 23) rfl rfl 2 rfl ?_
      refine x_i2l dX1_often_23 (n := 24) rfl ?_
      refine x_ldc2 dX1_often_24 (n := 27) rfl q1051 ?_
      refine x_cSip (As := [.long x3.toInt64, .long x2.toInt64, .long 1000000000]) (rest := []) cs_X1_96 (met_X1_in σ x3.toInt64 x2.toInt64 1000000000 ) (by decide) rfl rfl rfl dX1_often_27 (n := 30) rfl (fun r8 q => ?_)
      subst q
      refine x_if_eq (tgt := 40) dX1_often_30 rfl (n := 33) rfl (fun c9 => ?_) (fun c9 => ?_)
      · have hk := hk.1 c9
        have hv := hv.trans (if_pos c9)
        refine x_ldc2 dX1_often_40 (n := 43) rfl q1059 ?_
        exact x_lret rq ⟨rfl, hv.symm⟩ dX1_often_43
      · have hk := hk.2 c9
        have hv := hv.trans (if_neg c9)
        refine x_lload dX1_often_33 (n := 35) rfl 4 rfl ?_
        refine x_lconst dX1_often_35 (n := 36) rfl lc_1 ?_
        refine x_lcmp_ge (tgt := 44) dX1_often_36 (pc1 := 37) rfl dX1_often_37 rfl (n := 40) rfl (fun c10 => ?_) (fun c10 => ?_)
        · have hk := hk.1 c10
          have hv := hv.trans (if_pos c10)
          refine x_aload_n dX1_often_44 (n := 45) rfl rfl 0 rfl ?_
          refine x_iload_n dX1_often_45 (n := 46) rfl rfl 1 rfl ?_
          obtain ⟨b11, hk⟩ := hk
          refine x_cVrp (As := [.int x1]) (rest := []) cv_X1_177 ck1 (met_X1_land o c σ x1 hB b11) hB.1 (by decide) rfl rfl rfl dX1_often_46 (n := 49) rfl (fun r12 q => ?_)
          subst q
          refine x_astore (lvs' := [(6, .ref (f_X1_land o c σ x1)), (0, .ref o), (1, .int x1), (2, .int x2), (3, .int x3), (4, .long y4)]) dX1_often_49 (n := 51) rfl (by decide) rfl ?_
          refine x_iload_n dX1_often_51 (n := 52) rfl rfl 3 rfl ?_
          refine x_i2l dX1_often_52 (n := 53) rfl ?_
          refine x_lload dX1_often_53 (n := 55) rfl 5 rfl ?_
          refine x_aload dX1_often_55 (n := 57) rfl 0 rfl ?_
          obtain ⟨b13, hk⟩ := hk
          refine x_geti fl_X1_188_6 rfl b13 rfl dX1_often_57 (n := 60) rfl ?_
          refine x_i2l dX1_often_60 (n := 61) rfl ?_
          refine x_lsub dX1_often_61 (n := 62) rfl ?_
          refine x_ldc2 dX1_often_62 (n := 65) rfl q1217 ?_
          refine x_lcmp_le (tgt := 75) dX1_often_65 (pc1 := 66) rfl dX1_often_66 rfl (n := 69) rfl (fun c14 => ?_) (fun c14 => ?_)
          · have hk := hk.1 c14
            have hv := hv.trans (if_pos c14)
            refine x_aload dX1_often_75 (n := 77) rfl 0 rfl ?_
            refine x_lload dX1_often_77 (n := 79) rfl 5 rfl ?_
            obtain ⟨b15, hk⟩ := hk
            refine x_cVlp (As := [.long y4]) (rest := [.long x2.toInt64]) cv_X1_303 ck6 (met_X8_firstWith (f_X1_land o c σ x1) σ y4 b13 b15) b13 (by decide) rfl rfl rfl dX1_often_79 (n := 82) rfl (fun r16 q => ?_)
            subst q
            exact x_sub [4, 5, 0] rfl (xj_X1_often_82 o c σ G hB x3 y4 (f_X1_land o c σ x1) (f_X8_firstWith (f_X1_land o c σ x1) σ y4) x2.toInt64 _ hv rq hk)
          · have hk := hk.2 c14
            have hv := hv.trans (if_neg c14)
            refine x_ldc2 dX1_often_69 (n := 72) rfl q1218 ?_
            refine x_goto (tgt := 82) dX1_often_72 rfl ?_
            exact x_sub [4, 5, 0] rfl (xj_X1_often_82 o c σ G hB x3 y4 (f_X1_land o c σ x1) 9223372036854775807 x2.toInt64 _ hv rq hk)
        · have hk := hk.2 c10
          have hv := hv.trans (if_neg c10)
          refine x_ldc2 dX1_often_40 (n := 43) rfl q1059 ?_
          exact x_lret rq ⟨rfl, hv.symm⟩ dX1_often_43
abbrev rm_X1_isBegun : Room := { frames := 4, cells := 0, slots := 0, locals := 85 }
def f_X1_isBegun (o c : Nat) (σ : Hp) (x1 : Int32) (y2 : Int64) : Int32 := if (f_X8_has (f_X1_land o c σ x1) σ y2) = 0 then 0 else if 1000000000 < y2 then 0 else if 1000000000000 < (f_X8_start (f_X1_land o c σ x1) σ y2) then 0 else 1
def ok_X1_isBegun (o c : Nat) (σ : Hp) (x1 : Int32) (y2 : Int64) : Prop := (ok_X1_land o c σ x1) ∧ ((OB 6 (f_X1_land o c σ x1) σ) ∧ ((ok_X8_has (f_X1_land o c σ x1) σ y2) ∧ (((f_X8_has (f_X1_land o c σ x1) σ y2) = 0 → True) ∧ (¬ (f_X8_has (f_X1_land o c σ x1) σ y2) = 0 → ((1000000000 < y2 → True) ∧ (¬ 1000000000 < y2 → (ok_X1_land o c σ x1)))))))
theorem met_X1_isBegun (o c : Nat) (σ : Hp) (x1 : Int32) (y2 : Int64) (hB : LB o c σ) (hk : ok_X1_isBegun o c σ x1 y2) : MetX yX1_isBegun cX1_isBegun 4 (some .boolean) rm_X1_isBegun σ [.ref o, .int x1, .long y2] (oI (fun r σ' => σ' = σ ∧ r = (f_X1_isBegun o c σ x1 y2))) 0 0 := by
  refine metX_of (own := RX1) (lvs := [(0, .ref o), (1, .int x1), (2, .long y2)]) (by decide) rfl (Nat.le_of_ble_eq_true rfl) rfl (fun G rq => ?_)
  have hv : (f_X1_isBegun o c σ x1 y2) = _ := f_X1_isBegun.eq_1 _ _ _ _ _
  unfold ok_X1_isBegun at hk
  refine x_aload_n dX1_isBegun_0 (n := 1) rfl rfl 0 rfl ?_
  refine x_iload_n dX1_isBegun_1 (n := 2) rfl rfl 1 rfl ?_
  obtain ⟨b1, hk⟩ := hk
  refine x_cVrp (As := [.int x1]) (rest := []) cv_X1_177 ck1 (met_X1_land o c σ x1 hB b1) hB.1 (by decide) rfl rfl rfl dX1_isBegun_2 (n := 5) rfl (fun r2 q => ?_)
  subst q
  refine x_lload_n dX1_isBegun_5 (n := 6) rfl rfl 2 rfl ?_
  obtain ⟨b3, hk⟩ := hk
  obtain ⟨b4, hk⟩ := hk
  refine x_cVip (As := [.long y2]) (rest := []) cv_X1_181 ck6 (met_X8_has (f_X1_land o c σ x1) σ y2 b3 b4) b3 (by decide) rfl rfl rfl dX1_isBegun_6 (n := 9) rfl (fun r5 q => ?_)
  subst q
  refine x_if_eq (tgt := 40) dX1_isBegun_9 rfl (n := 12) rfl (fun c6 => ?_) (fun c6 => ?_)
  · have hk := hk.1 c6
    have hv := hv.trans (if_pos c6)
    refine x_iconst dX1_isBegun_40 (n := 41) rfl ic_0 ?_
    exact x_zret rq ⟨rfl, hv.symm⟩ isB0 dX1_isBegun_41
  · have hk := hk.2 c6
    have hv := hv.trans (if_neg c6)
    refine x_lload_n dX1_isBegun_12 (n := 13) rfl rfl 2 rfl ?_
    refine x_ldc2 dX1_isBegun_13 (n := 16) rfl q1051 ?_
    refine x_lcmp_gt (tgt := 40) dX1_isBegun_16 (pc1 := 17) rfl dX1_isBegun_17 rfl (n := 20) rfl (fun c7 => ?_) (fun c7 => ?_)
    · have hk := hk.1 c7
      have hv := hv.trans (if_pos c7)
      refine x_iconst dX1_isBegun_40 (n := 41) rfl ic_0 ?_
      exact x_zret rq ⟨rfl, hv.symm⟩ isB0 dX1_isBegun_41
    · have hk := hk.2 c7
      have hv := hv.trans (if_neg c7)
      refine x_aload_n dX1_isBegun_20 (n := 21) rfl rfl 0 rfl ?_
      refine x_iload_n dX1_isBegun_21 (n := 22) rfl rfl 1 rfl ?_
      have b8 := hk
      refine x_cVrp (As := [.int x1]) (rest := []) cv_X1_177 ck1 (met_X1_land o c σ x1 hB b8) hB.1 (by decide) rfl rfl rfl dX1_isBegun_22 (n := 25) rfl (fun r9 q => ?_)
      subst q
      refine x_lload_n dX1_isBegun_25 (n := 26) rfl rfl 2 rfl ?_
      refine x_cVlp (As := [.long y2]) (rest := []) cv_X1_218 ck6 (met_X8_start (f_X1_land o c σ x1) σ y2 b3) b3 (by decide) rfl rfl rfl dX1_isBegun_26 (n := 29) rfl (fun r11 q => ?_)
      subst q
      refine x_ldc2 dX1_isBegun_29 (n := 32) rfl q1067 ?_
      refine x_lcmp_gt (tgt := 40) dX1_isBegun_32 (pc1 := 33) rfl dX1_isBegun_33 rfl (n := 36) rfl (fun c12 => ?_) (fun c12 => ?_)
      · have hv := hv.trans (if_pos c12)
        refine x_iconst dX1_isBegun_40 (n := 41) rfl ic_0 ?_
        exact x_zret rq ⟨rfl, hv.symm⟩ isB0 dX1_isBegun_41
      · have hv := hv.trans (if_neg c12)
        refine x_iconst dX1_isBegun_36 (n := 37) rfl ic_1 ?_
        refine x_goto (tgt := 41) dX1_isBegun_37 rfl ?_
        exact x_zret rq ⟨rfl, hv.symm⟩ isB1 dX1_isBegun_41
abbrev rm_X3_springs : Room := { frames := 1, cells := 0, slots := 0, locals := 25 }
def f_X3_springs (o : Nat) (σ : Hp) (y1 : Int64) : Int64 := (f_J7_floorDiv ((y1 - 1) * ((gI σ o 9).toInt64)) (gL σ o 13)) + 1
def ok_X3_springs (o : Nat) (σ : Hp) (y1 : Int64) : Prop := ok_J7_floorDiv ((y1 - 1) * ((gI σ o 9).toInt64)) (gL σ o 13)
theorem met_X3_springs (o : Nat) (σ : Hp) (y1 : Int64) (hB : RB o σ) (hk : ok_X3_springs o σ y1) : MetX yX3_springs cX3_springs 3 (some .long) rm_X3_springs σ [.ref o, .long y1] (oL (fun r σ' => σ' = σ ∧ r = (f_X3_springs o σ y1))) 0 0 := by
  refine metX_of (own := RX3) (lvs := [(0, .ref o), (1, .long y1)]) (by decide) rfl (Nat.le_of_ble_eq_true rfl) rfl (fun G rq => ?_)
  have hv : (f_X3_springs o σ y1) = _ := f_X3_springs.eq_1 _ _ _
  unfold ok_X3_springs at hk
  refine x_lload_n dX3_springs_0 (n := 1) rfl rfl 1 rfl ?_
  refine x_lconst dX3_springs_1 (n := 2) rfl lc_1 ?_
  refine x_lsub dX3_springs_2 (n := 3) rfl ?_
  refine x_aload_n dX3_springs_3 (n := 4) rfl rfl 0 rfl ?_
  refine x_geti fl_X3_39_3 rfl hB.1 rfl dX3_springs_4 (n := 7) rfl ?_
  refine x_i2l dX3_springs_7 (n := 8) rfl ?_
  refine x_lmul dX3_springs_8 (n := 9) rfl ?_
  refine x_aload_n dX3_springs_9 (n := 10) rfl rfl 0 rfl ?_
  refine x_getl fl_X3_50_3 rfl hB.1 rfl dX3_springs_10 (n := 13) rfl ?_
  have b1 := hk
  refine x_cSlp (As := [.long ((y1 - 1) * ((gI σ o 9).toInt64)), .long (gL σ o 13)]) (rest := []) cs_X3_63 (met_J7_floorDiv σ ((y1 - 1) * ((gI σ o 9).toInt64)) (gL σ o 13)  b1) (by decide) rfl rfl rfl dX3_springs_13 (n := 16) rfl (fun r2 q => ?_)
  subst q
  refine x_lconst dX3_springs_16 (n := 17) rfl lc_1 ?_
  refine x_ladd dX3_springs_17 (n := 18) rfl ?_
  exact x_lret rq ⟨rfl, hv.symm⟩ dX3_springs_18
abbrev rm_X1_springsIn : Room := { frames := 2, cells := 0, slots := 0, locals := 47 }
def f_X1_springsIn (o c : Nat) (σ : Hp) (a1 : Nat) (y2 : Int64) : Int64 := (f_X3_springs c σ ((f_X8_start a1 σ y2) + (f_X8_length a1 σ y2))) - (f_X3_springs c σ (f_X8_start a1 σ y2))
def ok_X1_springsIn (o c : Nat) (σ : Hp) (a1 : Nat) (y2 : Int64) : Prop := (ok_X3_springs c σ ((f_X8_start a1 σ y2) + (f_X8_length a1 σ y2))) ∧ (ok_X3_springs c σ (f_X8_start a1 σ y2))
theorem met_X1_springsIn (o c : Nat) (σ : Hp) (a1 : Nat) (y2 : Int64) (hB : LB o c σ) (ha1 : OB 6 a1 σ) (hk : ok_X1_springsIn o c σ a1 y2) : MetX yX1_springsIn cX1_springsIn 6 (some .long) rm_X1_springsIn σ [.ref o, .ref a1, .long y2] (oL (fun r σ' => σ' = σ ∧ r = (f_X1_springsIn o c σ a1 y2))) 0 0 := by
  refine metX_of (own := RX1) (lvs := [(0, .ref o), (1, .ref a1), (2, .long y2)]) (by decide) rfl (Nat.le_of_ble_eq_true rfl) rfl (fun G rq => ?_)
  have hv : (f_X1_springsIn o c σ a1 y2) = _ := f_X1_springsIn.eq_1 _ _ _ _ _
  unfold ok_X1_springsIn at hk
  refine x_aload_n dX1_springsIn_0 (n := 1) rfl rfl 1 rfl ?_
  refine x_lload_n dX1_springsIn_1 (n := 2) rfl rfl 2 rfl ?_
  refine x_cVlp (As := [.long y2]) (rest := []) cv_X1_218 ck6 (met_X8_start a1 σ y2 ha1) ha1 (by decide) rfl rfl rfl dX1_springsIn_2 (n := 5) rfl (fun r2 q => ?_)
  subst q
  refine x_lstore (lvs' := [(4, .long (f_X8_start a1 σ y2)), (0, .ref o), (1, .ref a1), (2, .long y2)]) dX1_springsIn_5 (n := 7) rfl (by decide) rfl ?_
  refine x_aload_n dX1_springsIn_7 (n := 8) rfl rfl 1 rfl ?_
  refine x_getr fl_X1_39_1 rfl hB.1 hB.r5 dX1_springsIn_8 (n := 11) rfl ?_
  refine x_lload dX1_springsIn_11 (n := 13) rfl 0 rfl ?_
  refine x_aload_n dX1_springsIn_13 (n := 14) rfl rfl 2 rfl ?_
  refine x_lload_n dX1_springsIn_14 (n := 15) rfl rfl 3 rfl ?_
  refine x_cVlp (As := [.long y2]) (rest := [.long (f_X8_start a1 σ y2), .ref c]) cv_X1_204 ck6 (met_X8_length a1 σ y2 ha1) ha1 (by decide) rfl rfl rfl dX1_springsIn_15 (n := 18) rfl (fun r4 q => ?_)
  subst q
  refine x_ladd dX1_springsIn_18 (n := 19) rfl ?_
  obtain ⟨b5, hk⟩ := hk
  refine x_cVlp (As := [.long ((f_X8_start a1 σ y2) + (f_X8_length a1 σ y2))]) (rest := []) cv_X1_306 ck3 (met_X3_springs c σ ((f_X8_start a1 σ y2) + (f_X8_length a1 σ y2)) hB.rb b5) hB.rb.1 (by decide) rfl rfl rfl dX1_springsIn_19 (n := 22) rfl (fun r6 q => ?_)
  subst q
  refine x_aload_n dX1_springsIn_22 (n := 23) rfl rfl 1 rfl ?_
  refine x_getr fl_X1_39_1 rfl hB.1 hB.r5 dX1_springsIn_23 (n := 26) rfl ?_
  refine x_lload dX1_springsIn_26 (n := 28) rfl 0 rfl ?_
  have b7 := hk
  refine x_cVlp (As := [.long (f_X8_start a1 σ y2)]) (rest := [.long (f_X3_springs c σ ((f_X8_start a1 σ y2) + (f_X8_length a1 σ y2)))]) cv_X1_306 ck3 (met_X3_springs c σ (f_X8_start a1 σ y2) hB.rb b7) hB.rb.1 (by decide) rfl rfl rfl dX1_springsIn_28 (n := 31) rfl (fun r8 q => ?_)
  subst q
  refine x_lsub dX1_springsIn_31 (n := 32) rfl ?_
  exact x_lret rq ⟨rfl, hv.symm⟩ dX1_springsIn_32
abbrev rm_X1_springs : Room := { frames := 5, cells := 0, slots := 0, locals := 108 }
def f_X1_springs (o c : Nat) (σ : Hp) (x1 : Int32) (x2 : Int32) : Int64 := if (f_X1_isYear o c σ x1 x2) = 0 then (-1) else if (f_X1_isBegun o c σ x1 x2.toInt64) = 0 then (-1) else f_X1_springsIn o c σ (f_X1_land o c σ x1) x2.toInt64
def ok_X1_springs (o c : Nat) (σ : Hp) (x1 : Int32) (x2 : Int32) : Prop := (ok_X1_isYear o c σ x1 x2) ∧ (((f_X1_isYear o c σ x1 x2) = 0 → True) ∧ (¬ (f_X1_isYear o c σ x1 x2) = 0 → ((ok_X1_isBegun o c σ x1 x2.toInt64) ∧ (((f_X1_isBegun o c σ x1 x2.toInt64) = 0 → True) ∧ (¬ (f_X1_isBegun o c σ x1 x2.toInt64) = 0 → ((ok_X1_land o c σ x1) ∧ ((OB 6 (f_X1_land o c σ x1) σ) ∧ (ok_X1_springsIn o c σ (f_X1_land o c σ x1) x2.toInt64))))))))
theorem met_X1_springs (o c : Nat) (σ : Hp) (x1 : Int32) (x2 : Int32) (hB : LB o c σ) (hk : ok_X1_springs o c σ x1 x2) : MetX yX1_springs cX1_springs 3 (some .long) rm_X1_springs σ [.ref o, .int x1, .int x2] (oL (fun r σ' => σ' = σ ∧ r = (f_X1_springs o c σ x1 x2))) 0 0 := by
  refine metX_of (own := RX1) (lvs := [(0, .ref o), (1, .int x1), (2, .int x2)]) (by decide) rfl (Nat.le_of_ble_eq_true rfl) rfl (fun G rq => ?_)
  have hv : (f_X1_springs o c σ x1 x2) = _ := f_X1_springs.eq_1 _ _ _ _ _
  unfold ok_X1_springs at hk
  refine x_aload_n dX1_springs_0 (n := 1) rfl rfl 0 rfl ?_
  refine x_iload_n dX1_springs_1 (n := 2) rfl rfl 1 rfl ?_
  refine x_iload_n dX1_springs_2 (n := 3) rfl rfl 2 rfl ?_
  obtain ⟨b1, hk⟩ := hk
  refine x_cVip (As := [.int x1, .int x2]) (rest := []) cv_X1_200 ck1 (met_X1_isYear o c σ x1 x2 hB b1) hB.1 (by decide) rfl rfl rfl dX1_springs_3 (n := 6) rfl (fun r2 q => ?_)
  subst q
  refine x_if_eq (tgt := 33) dX1_springs_6 rfl (n := 9) rfl (fun c3 => ?_) (fun c3 => ?_)
  · have hk := hk.1 c3
    have hv := hv.trans (if_pos c3)
    refine x_ldc2 dX1_springs_33 (n := 36) rfl q1059 ?_
    exact x_lret rq ⟨rfl, hv.symm⟩ dX1_springs_36
  · have hk := hk.2 c3
    have hv := hv.trans (if_neg c3)
    refine x_aload_n dX1_springs_9 (n := 10) rfl rfl 0 rfl ?_
    refine x_iload_n dX1_springs_10 (n := 11) rfl rfl 1 rfl ?_
    refine x_iload_n dX1_springs_11 (n := 12) rfl rfl 2 rfl ?_
    refine x_i2l dX1_springs_12 (n := 13) rfl ?_
    obtain ⟨b4, hk⟩ := hk
    refine x_cVip (As := [.int x1, .long x2.toInt64]) (rest := []) cv_X1_309 ck1 (met_X1_isBegun o c σ x1 x2.toInt64 hB b4) hB.1 (by decide) rfl rfl rfl dX1_springs_13 (n := 16) rfl (fun r5 q => ?_)
    subst q
    refine x_if_eq (tgt := 33) dX1_springs_16 rfl (n := 19) rfl (fun c6 => ?_) (fun c6 => ?_)
    · have hk := hk.1 c6
      have hv := hv.trans (if_pos c6)
      refine x_ldc2 dX1_springs_33 (n := 36) rfl q1059 ?_
      exact x_lret rq ⟨rfl, hv.symm⟩ dX1_springs_36
    · have hk := hk.2 c6
      have hv := hv.trans (if_neg c6)
      refine x_aload_n dX1_springs_19 (n := 20) rfl rfl 0 rfl ?_
      refine x_aload_n dX1_springs_20 (n := 21) rfl rfl 0 rfl ?_
      refine x_iload_n dX1_springs_21 (n := 22) rfl rfl 1 rfl ?_
      obtain ⟨b7, hk⟩ := hk
      refine x_cVrp (As := [.int x1]) (rest := [.ref o]) cv_X1_177 ck1 (met_X1_land o c σ x1 hB b7) hB.1 (by decide) rfl rfl rfl dX1_springs_22 (n := 25) rfl (fun r8 q => ?_)
      subst q
      refine x_iload_n dX1_springs_25 (n := 26) rfl rfl 2 rfl ?_
      refine x_i2l dX1_springs_26 (n := 27) rfl ?_
      obtain ⟨b9, hk⟩ := hk
      have b10 := hk
      refine x_cVlp (As := [.ref (f_X1_land o c σ x1), .long x2.toInt64]) (rest := []) cv_X1_312 ck1 (met_X1_springsIn o c σ (f_X1_land o c σ x1) x2.toInt64 hB b9 b10) hB.1 (by decide) rfl rfl rfl dX1_springs_27 (n := 30) rfl (fun r11 q => ?_)
      subst q
      refine x_goto (tgt := 36) dX1_springs_30 rfl ?_
      exact x_lret rq ⟨rfl, hv.symm⟩ dX1_springs_36
abbrev rm_X1_many : Room := { frames := 5, cells := 0, slots := 0, locals := 108 }
def lb_X1_many_37 (o c : Nat) (σ : Hp) (x1 : Int32) (x2 : Int32) (x3 : Int32) (Q : Int32 → Prop)  (K37 : Int64 → Prop) (y4 : Int64) : Prop := ((x2.toInt64 + 1000) ≤ y4 → Q (-2)) ∧ (¬ (x2.toInt64 + 1000) ≤ y4 → (ok_X1_isBegun o c σ x1 y4) ∧ (((f_X1_isBegun o c σ x1 y4) = 0 → Q (-2)) ∧ (¬ (f_X1_isBegun o c σ x1 y4) = 0 → (ok_X1_land o c σ x1) ∧ ((OB 6 (f_X1_land o c σ x1) σ) ∧ ((ok_X1_springsIn o c σ (f_X1_land o c σ x1) y4) ∧ (((f_X1_springsIn o c σ (f_X1_land o c σ x1) y4) = x3.toInt64 → Q y4.toInt32) ∧ (¬ (f_X1_springsIn o c σ (f_X1_land o c σ x1) y4) = x3.toInt64 → K37 (y4 + 1))))))))
def wp_X1_many (o c : Nat) (σ : Hp) (x1 : Int32) (x2 : Int32) (x3 : Int32) (Q : Int32 → Prop) : Prop := (ok_X1_isYear o c σ x1 x2) ∧ (((f_X1_isYear o c σ x1 x2) = 0 → Q (-1)) ∧ (¬ (f_X1_isYear o c σ x1 x2) = 0 → (ok_X1_isBegun o c σ x1 x2.toInt64) ∧ (((f_X1_isBegun o c σ x1 x2.toInt64) = 0 → Q (-1)) ∧ (¬ (f_X1_isBegun o c σ x1 x2.toInt64) = 0 → ((f_X1_in x3.toInt64 0 99) = 0 → Q (-1)) ∧ (¬ (f_X1_in x3.toInt64 0 99) = 0 → lp (lb_X1_many_37 o c σ x1 x2 x3 Q) x2.toInt64)))))
theorem xl_X1_many_37 (o c : Nat) (σ : Hp) (Q : Int32 → Prop) (G : XE) (hB : LB o c σ) (rq : RQ G 0 0 (oI (fun r σ' => σ' = σ ∧ Q r))) (x1 : Int32) (x2 : Int32) (x3 : Int32)    : ∀ z : Int64, lp (lb_X1_many_37 o c σ x1 x2 x3 Q ) z → X G rm_X1_many cX1_many RX1 6 (some .int) σ 0 0 37 [(0, .ref o), (1, .int x1), (2, .int x2), (3, .int x3), (4, .long z)] [] := by
  intro z
  refine fun h => lp_X (P := fun z => X G rm_X1_many cX1_many RX1 6 (some .int) σ 0 0 37 [(0, .ref o), (1, .int x1), (2, .int x2), (3, .int x3), (4, .long z)] []) ?_ h
  intro K37 hK37 y4 h
  simp only [lb_X1_many_37] at h
  show X G rm_X1_many cX1_many RX1 6 (some .int) σ 0 0 37 [(0, .ref o), (1, .int x1), (2, .int x2), (3, .int x3), (4, .long y4)] []
  have hK37 : ∀ z : (Int64), K37 z → X G rm_X1_many cX1_many RX1 6 (some .int) σ 0 0 37 [(0, .ref o), (1, .int x1), (2, .int x2), (3, .int x3), (4, .long z)] [] := fun z h => hK37 z h
  refine x_lload dX1_many_37 (n := 39) rfl 4 rfl ?_
  refine x_iload_n dX1_many_39 (n := 40) rfl rfl 2 rfl ?_
  refine x_i2l dX1_many_40 (n := 41) rfl ?_
  refine x_ldc2 dX1_many_41 (n := 44) rfl q1247 ?_
  refine x_ladd dX1_many_44 (n := 45) rfl ?_
  refine x_lcmp_ge (tgt := 89) dX1_many_45 (pc1 := 46) rfl dX1_many_46 rfl (n := 49) rfl (fun c10 => ?_) (fun c10 => ?_)
  · have h := h.1 c10
    refine x_bipush dX1_many_89 (n := 91) rfl bp_m2 ?_
    exact x_iret rq ⟨rfl, h⟩ dX1_many_91
  · have h := h.2 c10
    refine x_aload_n dX1_many_49 (n := 50) rfl rfl 0 rfl ?_
    refine x_iload_n dX1_many_50 (n := 51) rfl rfl 1 rfl ?_
    refine x_lload dX1_many_51 (n := 53) rfl 4 rfl ?_
    obtain ⟨b11, h⟩ := h
    refine x_cVip (As := [.int x1, .long y4]) (rest := []) cv_X1_309 ck1 (met_X1_isBegun o c σ x1 y4 hB b11) hB.1 (by decide) rfl rfl rfl dX1_many_53 (n := 56) rfl (fun r12 q => ?_)
    subst q
    refine x_if_eq (tgt := 89) dX1_many_56 rfl (n := 59) rfl (fun c13 => ?_) (fun c13 => ?_)
    · have h := h.1 c13
      refine x_bipush dX1_many_89 (n := 91) rfl bp_m2 ?_
      exact x_iret rq ⟨rfl, h⟩ dX1_many_91
    · have h := h.2 c13
      refine x_aload_n dX1_many_59 (n := 60) rfl rfl 0 rfl ?_
      refine x_aload_n dX1_many_60 (n := 61) rfl rfl 0 rfl ?_
      refine x_iload_n dX1_many_61 (n := 62) rfl rfl 1 rfl ?_
      obtain ⟨b14, h⟩ := h
      refine x_cVrp (As := [.int x1]) (rest := [.ref o]) cv_X1_177 ck1 (met_X1_land o c σ x1 hB b14) hB.1 (by decide) rfl rfl rfl dX1_many_62 (n := 65) rfl (fun r15 q => ?_)
      subst q
      refine x_lload dX1_many_65 (n := 67) rfl 4 rfl ?_
      obtain ⟨b16, h⟩ := h
      obtain ⟨b17, h⟩ := h
      refine x_cVlp (As := [.ref (f_X1_land o c σ x1), .long y4]) (rest := []) cv_X1_312 ck1 (met_X1_springsIn o c σ (f_X1_land o c σ x1) y4 hB b16 b17) hB.1 (by decide) rfl rfl rfl dX1_many_67 (n := 70) rfl (fun r18 q => ?_)
      subst q
      refine x_iload_n dX1_many_70 (n := 71) rfl rfl 3 rfl ?_
      refine x_i2l dX1_many_71 (n := 72) rfl ?_
      refine x_lcmp_ne (tgt := 80) dX1_many_72 (pc1 := 73) rfl dX1_many_73 rfl (n := 76) rfl (fun c19 => ?_) (fun c19 => ?_)
      · have h := h.2 c19
        refine x_lload dX1_many_80 (n := 82) rfl 4 rfl ?_
        refine x_lconst dX1_many_82 (n := 83) rfl lc_1 ?_
        refine x_ladd dX1_many_83 (n := 84) rfl ?_
        refine x_lstore (lvs' := [(4, .long (y4 + 1)), (0, .ref o), (1, .int x1), (2, .int x2), (3, .int x3)]) dX1_many_84 (n := 86) rfl (by decide) rfl ?_
        refine x_goto (tgt := 37) dX1_many_86 rfl ?_
        exact x_sub [1, 2, 3, 4, 0] rfl (hK37 (y4 + 1) h)
      · have h := h.1 c19
        refine x_lload dX1_many_76 (n := 78) rfl 4 rfl ?_
        refine x_l2i dX1_many_78 (n := 79) rfl ?_
        exact x_iret rq ⟨rfl, h⟩ dX1_many_79
theorem met_X1_many (o c : Nat) (σ : Hp) (x1 : Int32) (x2 : Int32) (x3 : Int32) (Q : Int32 → Prop) (hB : LB o c σ) (h : wp_X1_many o c σ x1 x2 x3 Q) : MetX yX1_many cX1_many 6 (some .int) rm_X1_many σ [.ref o, .int x1, .int x2, .int x3] (oI (fun r σ' => σ' = σ ∧ Q r)) 0 0 := by
  refine metX_of (own := RX1) (lvs := [(0, .ref o), (1, .int x1), (2, .int x2), (3, .int x3)]) (by decide) rfl (Nat.le_of_ble_eq_true rfl) rfl (fun G rq => ?_)
  unfold wp_X1_many at h
  refine x_aload_n dX1_many_0 (n := 1) rfl rfl 0 rfl ?_
  refine x_iload_n dX1_many_1 (n := 2) rfl rfl 1 rfl ?_
  refine x_iload_n dX1_many_2 (n := 3) rfl rfl 2 rfl ?_
  obtain ⟨b1, h⟩ := h
  refine x_cVip (As := [.int x1, .int x2]) (rest := []) cv_X1_200 ck1 (met_X1_isYear o c σ x1 x2 hB b1) hB.1 (by decide) rfl rfl rfl dX1_many_3 (n := 6) rfl (fun r2 q => ?_)
  subst q
  refine x_if_eq (tgt := 31) dX1_many_6 rfl (n := 9) rfl (fun c3 => ?_) (fun c3 => ?_)
  · have h := h.1 c3
    refine x_iconst dX1_many_31 (n := 32) rfl ic_m1 ?_
    exact x_iret rq ⟨rfl, h⟩ dX1_many_32
  · have h := h.2 c3
    refine x_aload_n dX1_many_9 (n := 10) rfl rfl 0 rfl ?_
    refine x_iload_n dX1_many_10 (n := 11) rfl rfl 1 rfl ?_
    refine x_iload_n dX1_many_11 (n := 12) rfl rfl 2 rfl ?_
    refine x_i2l dX1_many_12 (n := 13) rfl ?_
    obtain ⟨b4, h⟩ := h
    refine x_cVip (As := [.int x1, .long x2.toInt64]) (rest := []) cv_X1_309 ck1 (met_X1_isBegun o c σ x1 x2.toInt64 hB b4) hB.1 (by decide) rfl rfl rfl dX1_many_13 (n := 16) rfl (fun r5 q => ?_)
    subst q
    refine x_if_eq (tgt := 31) dX1_many_16 rfl (n := 19) rfl (fun c6 => ?_) (fun c6 => ?_)
    · have h := h.1 c6
      refine x_iconst dX1_many_31 (n := 32) rfl ic_m1 ?_
      exact x_iret rq ⟨rfl, h⟩ dX1_many_32
    · have h := h.2 c6
      refine x_iload_n dX1_many_19 (n := 20) rfl rfl 3 rfl ?_
      refine x_i2l dX1_many_20 (n := 21) rfl ?_
      refine x_lconst dX1_many_21 (n := 22) rfl lc_0 ?_
      refine x_ldc2 dX1_many_22 (n := 25) rfl q1246 ?_
      refine x_cSip (As := [.long x3.toInt64, .long 0, .long 99]) (rest := []) cs_X1_96 (met_X1_in σ x3.toInt64 0 99 ) (by decide) rfl rfl rfl dX1_many_25 (n := 28) rfl (fun r8 q => ?_)
      subst q
      refine x_if_ne (tgt := 33) dX1_many_28 rfl (n := 31) rfl (fun c9 => ?_) (fun c9 => ?_)
      · have h := h.2 c9
        refine x_iload_n dX1_many_33 (n := 34) rfl rfl 2 rfl ?_
        refine x_i2l dX1_many_34 (n := 35) rfl ?_
        refine x_lstore (lvs' := [(4, .long x2.toInt64), (0, .ref o), (1, .int x1), (2, .int x2), (3, .int x3)]) dX1_many_35 (n := 37) rfl (by decide) rfl ?_
        exact x_sub [1, 2, 3, 4, 0] rfl (xl_X1_many_37 o c σ Q G hB rq x1 x2 x3 x2.toInt64 h)
      · have h := h.1 c9
        refine x_iconst dX1_many_31 (n := 32) rfl ic_m1 ?_
        exact x_iret rq ⟨rfl, h⟩ dX1_many_32
abbrev rm_X3_year : Room := { frames := 3, cells := 0, slots := 0, locals := 75 }
def wp_X3_year (o : Nat) (σ : Hp) (y1 : Int64) (Q : Int64 → Prop) : Prop := ((f_J2_isEmpty (o + 1) 4 σ) = 0 → (ok_J2_get (o + 1) 4 σ 0) ∧ ((OB 6 (f_J2_get (o + 1) 4 σ 0) σ) ∧ (wp_X8_year (f_J2_get (o + 1) 4 σ 0) σ y1 (fun r7 => Q r7)))) ∧ (¬ (f_J2_isEmpty (o + 1) 4 σ) = 0 → Q (-1))
theorem met_X3_year (o : Nat) (σ : Hp) (y1 : Int64) (Q : Int64 → Prop) (hB : RB o σ) (h : wp_X3_year o σ y1 Q) : MetX yX3_year cX3_year 3 (some .long) rm_X3_year σ [.ref o, .long y1] (oL (fun r σ' => σ' = σ ∧ Q r)) 0 0 := by
  refine metX_of (own := RX3) (lvs := [(0, .ref o), (1, .long y1)]) (by decide) rfl (Nat.le_of_ble_eq_true rfl) rfl (fun G rq => ?_)
  unfold wp_X3_year at h
  refine x_aload_n dX3_year_0 (n := 1) rfl rfl 0 rfl ?_
  refine x_getr fl_X3_14_3 rfl hB.1 hB.r0 dX3_year_1 (n := 4) rfl ?_
  refine x_cVip (As := []) (rest := []) cv_X3_69 ck4 (met_J2_isEmpty (o + 1) 4 σ hB.b0) hB.b0.1 (by decide) rfl rfl rfl dX3_year_4 (n := 7) rfl (fun r2 q => ?_)
  subst q
  refine x_if_eq (tgt := 16) dX3_year_7 rfl (n := 10) rfl (fun c3 => ?_) (fun c3 => ?_)
  · have h := h.1 c3
    refine x_aload_n dX3_year_16 (n := 17) rfl rfl 0 rfl ?_
    refine x_getr fl_X3_14_3 rfl hB.1 hB.r0 dX3_year_17 (n := 20) rfl ?_
    refine x_iconst dX3_year_20 (n := 21) rfl ic_0 ?_
    obtain ⟨b4, h⟩ := h
    refine x_cVrp (As := [.int 0]) (rest := []) cv_X3_75 ck4 (met_J2_get (o + 1) 4 σ 0 hB.b0 b4) hB.b0.1 (by decide) rfl rfl rfl dX3_year_21 (n := 24) rfl (fun r5 q => ?_)
    subst q
    obtain ⟨b6, h⟩ := h
    refine x_cast cx_X3_79_6 b6 dX3_year_24 (n := 27) rfl ?_
    refine x_lload_n dX3_year_27 (n := 28) rfl rfl 1 rfl ?_
    refine x_cVlp (As := [.long y1]) (rest := []) cv_X3_81 ck6 (met_X8_year (f_J2_get (o + 1) 4 σ 0) σ y1 _ b6 h) b6 (by decide) rfl rfl rfl dX3_year_28 (n := 31) rfl (fun r7 h => ?_)
    exact x_lret rq ⟨rfl, h⟩ dX3_year_31
  · have h := h.2 c3
    refine x_ldc2 dX3_year_10 (n := 13) rfl q1129 ?_
    refine x_goto (tgt := 31) dX3_year_13 rfl ?_
    exact x_lret rq ⟨rfl, h⟩ dX3_year_31
abbrev rm_X1_next : Room := { frames := 4, cells := 0, slots := 0, locals := 97 }
def wj_X1_next_139 (o c : Nat) (σ : Hp)  (y1 : Int64) (x3 : Int32) (x4 : Int32) (x5 : Int32) (y6 : Int64) (Q : Int64 → Prop) (K76 : (Int64) → Prop) : Prop := wp_X3_year c σ y6 (fun r26 => (x3 = (-1) → Q y6) ∧ (¬ x3 = (-1) → (r26 = (-1) → K76 (y6 + 1)) ∧ (¬ r26 = (-1) → (ok_X1_land o c σ 0) ∧ ((OB 6 (f_X1_land o c σ 0) σ) ∧ ((((y6 - (f_X8_start (f_X1_land o c σ 0) σ r26)) + 1) = x3.toInt64 → Q y6) ∧ (¬ ((y6 - (f_X8_start (f_X1_land o c σ 0) σ r26)) + 1) = x3.toInt64 → K76 (y6 + 1)))))))
def wj_X1_next_116 (o c : Nat) (σ : Hp)  (y1 : Int64) (x3 : Int32) (x4 : Int32) (x5 : Int32) (y6 : Int64) (Q : Int64 → Prop) (K76 : (Int64) → Prop) : Prop := (x5 = (-1) → wj_X1_next_139 o c σ y1 x3 x4 x5 y6 Q K76) ∧ (¬ x5 = (-1) → (ok_X3_moon c σ y6) ∧ (((f_X3_moon c σ y6) = x5 → wj_X1_next_139 o c σ y1 x3 x4 x5 y6 Q K76) ∧ (¬ (f_X3_moon c σ y6) = x5 → K76 (y6 + 1))))
def lb_X1_next_76 (o c : Nat) (σ : Hp) (y1 : Int64) (x3 : Int32) (x4 : Int32) (x5 : Int32) (Q : Int64 → Prop)  (K76 : Int64 → Prop) (y6 : Int64) : Prop := ((y1 + 20000) ≤ y6 → Q (-2)) ∧ (¬ (y1 + 20000) ≤ y6 → (1000000000000 < y6 → Q (-2)) ∧ (¬ 1000000000000 < y6 → (x4 = (-1) → wj_X1_next_116 o c σ y1 x3 x4 x5 y6 Q K76) ∧ (¬ x4 = (-1) → (ok_X3_week c σ y6) ∧ (((f_X3_week c σ y6) = x4 → wj_X1_next_116 o c σ y1 x3 x4 x5 y6 Q K76) ∧ (¬ (f_X3_week c σ y6) = x4 → K76 (y6 + 1))))))
def wj_X1_next_50 (o c : Nat) (σ : Hp)  (y1 : Int64) (x3 : Int32) (x4 : Int32) (x5 : Int32) (Q : Int64 → Prop)  : Prop := (x5 = (-1) → lp (lb_X1_next_76 o c σ y1 x3 x4 x5 Q) y1) ∧ (¬ x5 = (-1) → ((f_X1_in x5.toInt64 0 7) = 0 → Q (-1)) ∧ (¬ (f_X1_in x5.toInt64 0 7) = 0 → lp (lb_X1_next_76 o c σ y1 x3 x4 x5 Q) y1))
def wj_X1_next_24 (o c : Nat) (σ : Hp)  (y1 : Int64) (x3 : Int32) (x4 : Int32) (x5 : Int32) (Q : Int64 → Prop)  : Prop := (x4 = (-1) → wj_X1_next_50 o c σ y1 x3 x4 x5 Q) ∧ (¬ x4 = (-1) → ((f_X1_in x4.toInt64 0 (((gI σ c 5) - 1).toInt64)) = 0 → Q (-1)) ∧ (¬ (f_X1_in x4.toInt64 0 (((gI σ c 5) - 1).toInt64)) = 0 → wj_X1_next_50 o c σ y1 x3 x4 x5 Q))
def wp_X1_next (o c : Nat) (σ : Hp) (y1 : Int64) (x3 : Int32) (x4 : Int32) (x5 : Int32) (Q : Int64 → Prop) : Prop := (ok_X1_isCount y1) ∧ (((f_X1_isCount y1) = 0 → Q (-1)) ∧ (¬ (f_X1_isCount y1) = 0 → (x3 = (-1) → wj_X1_next_24 o c σ y1 x3 x4 x5 Q) ∧ (¬ x3 = (-1) → ((f_X1_in x3.toInt64 1 99999) = 0 → Q (-1)) ∧ (¬ (f_X1_in x3.toInt64 1 99999) = 0 → wj_X1_next_24 o c σ y1 x3 x4 x5 Q))))
theorem xj_X1_next_139 (o c : Nat) (σ : Hp) (Q : Int64 → Prop) (G : XE) (hB : LB o c σ) (rq : RQ G 0 0 (oL (fun r σ' => σ' = σ ∧ Q r)))  (y1 : Int64) (x3 : Int32) (x4 : Int32) (x5 : Int32) (y6 : Int64)  (K76 : (Int64) → Prop) (hK76 : ∀ z : (Int64), K76 z → X G rm_X1_next cX1_next RX1 10 (some .long) σ 0 0 76 [(0, .ref o), (1, .long y1), (3, .int x3), (4, .int x4), (5, .int x5), (6, .long z)] [])  (h : wj_X1_next_139 o c σ y1 x3 x4 x5 y6 Q K76) : X G rm_X1_next cX1_next RX1 10 (some .long) σ 0 0 139 [(0, .ref o), (1, .long y1), (3, .int x3), (4, .int x4), (5, .int x5), (6, .long y6)] [] := by
  unfold wj_X1_next_139 at h
  refine x_aload_n dX1_next_139 (n := 140) rfl rfl 0 rfl ?_
  refine x_getr fl_X1_39_1 rfl hB.1 hB.r5 dX1_next_140 (n := 143) rfl ?_
  refine x_lload dX1_next_143 (n := 145) rfl 5 rfl ?_
  refine x_cVlp (As := [.long y6]) (rest := []) cv_X1_236 ck3 (met_X3_year c σ y6 _ hB.rb h) hB.rb.1 (by decide) rfl rfl rfl dX1_next_145 (n := 148) rfl (fun r26 h => ?_)
  refine x_lstore (lvs' := [(8, .long r26), (0, .ref o), (1, .long y1), (3, .int x3), (4, .int x4), (5, .int x5), (6, .long y6)]) dX1_next_148 (n := 150) rfl (by decide) rfl ?_
  refine x_iload_n dX1_next_150 (n := 151) rfl rfl 3 rfl ?_
  refine x_iconst dX1_next_151 (n := 152) rfl ic_m1 ?_
  refine x_icmp_eq (tgt := 185) dX1_next_152 rfl (n := 155) rfl (fun c27 => ?_) (fun c27 => ?_)
  · have h := h.1 c27
    refine x_lload dX1_next_185 (n := 187) rfl 6 rfl ?_
    exact x_lret rq ⟨rfl, h⟩ dX1_next_187
  · have h := h.2 c27
    refine x_lload dX1_next_155 (n := 157) rfl 0 rfl ?_
    refine x_ldc2 dX1_next_157 (n := 160) rfl q1059 ?_
    refine x_lcmp_eq (tgt := 188) dX1_next_160 (pc1 := 161) rfl dX1_next_161 rfl (n := 164) rfl (fun c28 => ?_) (fun c28 => ?_)
    · have h := h.1 c28
      refine x_lload dX1_next_188 (n := 190) rfl 6 rfl ?_
      refine x_lconst dX1_next_190 (n := 191) rfl lc_1 ?_
      refine x_ladd dX1_next_191 (n := 192) rfl ?_
      refine x_lstore (lvs' := [(6, .long (y6 + 1)), (8, .long r26), (0, .ref o), (1, .long y1), (3, .int x3), (4, .int x4), (5, .int x5)]) dX1_next_192 (n := 194) rfl (by decide) rfl ?_
      refine x_goto (tgt := 76) dX1_next_194 rfl ?_
      exact x_sub [2, 3, 4, 5, 6, 0] rfl (hK76 (y6 + 1) h)
    · have h := h.2 c28
      refine x_lload dX1_next_164 (n := 166) rfl 6 rfl ?_
      refine x_aload_n dX1_next_166 (n := 167) rfl rfl 1 rfl ?_
      refine x_iconst dX1_next_167 (n := 168) rfl ic_0 ?_
      obtain ⟨b29, h⟩ := h
      refine x_cVrp (As := [.int 0]) (rest := [.long y6]) cv_X1_177 ck1 (met_X1_land o c σ 0 hB b29) hB.1 (by decide) rfl rfl rfl dX1_next_168 (n := 171) rfl (fun r30 q => ?_)
      subst q
      refine x_lload dX1_next_171 (n := 173) rfl 0 rfl ?_
      obtain ⟨b31, h⟩ := h
      refine x_cVlp (As := [.long r26]) (rest := [.long y6]) cv_X1_218 ck6 (met_X8_start (f_X1_land o c σ 0) σ r26 b31) b31 (by decide) rfl rfl rfl dX1_next_173 (n := 176) rfl (fun r33 q => ?_)
      subst q
      refine x_lsub dX1_next_176 (n := 177) rfl ?_
      refine x_lconst dX1_next_177 (n := 178) rfl lc_1 ?_
      refine x_ladd dX1_next_178 (n := 179) rfl ?_
      refine x_iload_n dX1_next_179 (n := 180) rfl rfl 3 rfl ?_
      refine x_i2l dX1_next_180 (n := 181) rfl ?_
      refine x_lcmp_ne (tgt := 188) dX1_next_181 (pc1 := 182) rfl dX1_next_182 rfl (n := 185) rfl (fun c34 => ?_) (fun c34 => ?_)
      · have h := h.2 c34
        refine x_lload dX1_next_188 (n := 190) rfl 6 rfl ?_
        refine x_lconst dX1_next_190 (n := 191) rfl lc_1 ?_
        refine x_ladd dX1_next_191 (n := 192) rfl ?_
        refine x_lstore (lvs' := [(6, .long (y6 + 1)), (8, .long r26), (0, .ref o), (1, .long y1), (3, .int x3), (4, .int x4), (5, .int x5)]) dX1_next_192 (n := 194) rfl (by decide) rfl ?_
        refine x_goto (tgt := 76) dX1_next_194 rfl ?_
        exact x_sub [2, 3, 4, 5, 6, 0] rfl (hK76 (y6 + 1) h)
      · have h := h.1 c34
        refine x_lload dX1_next_185 (n := 187) rfl 6 rfl ?_
        exact x_lret rq ⟨rfl, h⟩ dX1_next_187
theorem xj_X1_next_116 (o c : Nat) (σ : Hp) (Q : Int64 → Prop) (G : XE) (hB : LB o c σ) (rq : RQ G 0 0 (oL (fun r σ' => σ' = σ ∧ Q r)))  (y1 : Int64) (x3 : Int32) (x4 : Int32) (x5 : Int32) (y6 : Int64)  (K76 : (Int64) → Prop) (hK76 : ∀ z : (Int64), K76 z → X G rm_X1_next cX1_next RX1 10 (some .long) σ 0 0 76 [(0, .ref o), (1, .long y1), (3, .int x3), (4, .int x4), (5, .int x5), (6, .long z)] [])  (h : wj_X1_next_116 o c σ y1 x3 x4 x5 y6 Q K76) : X G rm_X1_next cX1_next RX1 10 (some .long) σ 0 0 116 [(0, .ref o), (1, .long y1), (3, .int x3), (4, .int x4), (5, .int x5), (6, .long y6)] [] := by
  unfold wj_X1_next_116 at h
  refine x_iload dX1_next_116 (n := 118) rfl 4 rfl ?_
  refine x_iconst dX1_next_118 (n := 119) rfl ic_m1 ?_
  refine x_icmp_eq (tgt := 139) dX1_next_119 rfl (n := 122) rfl (fun c22 => ?_) (fun c22 => ?_)
  · have h := h.1 c22
    exact x_sub [0, 1, 2, 3, 4, 5] rfl (xj_X1_next_139 o c σ Q G hB rq y1 x3 x4 x5 y6 K76 hK76 h)
  · have h := h.2 c22
    refine x_aload_n dX1_next_122 (n := 123) rfl rfl 0 rfl ?_
    refine x_getr fl_X1_39_1 rfl hB.1 hB.r5 dX1_next_123 (n := 126) rfl ?_
    refine x_lload dX1_next_126 (n := 128) rfl 5 rfl ?_
    obtain ⟨b23, h⟩ := h
    refine x_cVip (As := [.long y6]) (rest := []) cv_X1_230 ck3 (met_X3_moon c σ y6 hB.rb b23) hB.rb.1 (by decide) rfl rfl rfl dX1_next_128 (n := 131) rfl (fun r24 q => ?_)
    subst q
    refine x_iload dX1_next_131 (n := 133) rfl 4 rfl ?_
    refine x_icmp_eq (tgt := 139) dX1_next_133 rfl (n := 136) rfl (fun c25 => ?_) (fun c25 => ?_)
    · have h := h.1 c25
      exact x_sub [0, 1, 2, 3, 4, 5] rfl (xj_X1_next_139 o c σ Q G hB rq y1 x3 x4 x5 y6 K76 hK76 h)
    · have h := h.2 c25
      refine x_goto (tgt := 188) dX1_next_136 rfl ?_
      refine x_lload dX1_next_188 (n := 190) rfl 5 rfl ?_
      refine x_lconst dX1_next_190 (n := 191) rfl lc_1 ?_
      refine x_ladd dX1_next_191 (n := 192) rfl ?_
      refine x_lstore (lvs' := [(6, .long (y6 + 1)), (0, .ref o), (1, .long y1), (3, .int x3), (4, .int x4), (5, .int x5)]) dX1_next_192 (n := 194) rfl (by decide) rfl ?_
      refine x_goto (tgt := 76) dX1_next_194 rfl ?_
      exact x_sub [1, 2, 3, 4, 5, 0] rfl (hK76 (y6 + 1) h)
theorem xl_X1_next_76 (o c : Nat) (σ : Hp) (Q : Int64 → Prop) (G : XE) (hB : LB o c σ) (rq : RQ G 0 0 (oL (fun r σ' => σ' = σ ∧ Q r))) (y1 : Int64) (x3 : Int32) (x4 : Int32) (x5 : Int32)    : ∀ z : Int64, lp (lb_X1_next_76 o c σ y1 x3 x4 x5 Q ) z → X G rm_X1_next cX1_next RX1 10 (some .long) σ 0 0 76 [(0, .ref o), (1, .long y1), (3, .int x3), (4, .int x4), (5, .int x5), (6, .long z)] [] := by
  intro z
  refine fun h => lp_X (P := fun z => X G rm_X1_next cX1_next RX1 10 (some .long) σ 0 0 76 [(0, .ref o), (1, .long y1), (3, .int x3), (4, .int x4), (5, .int x5), (6, .long z)] []) ?_ h
  intro K76 hK76 y6 h
  simp only [lb_X1_next_76] at h
  show X G rm_X1_next cX1_next RX1 10 (some .long) σ 0 0 76 [(0, .ref o), (1, .long y1), (3, .int x3), (4, .int x4), (5, .int x5), (6, .long y6)] []
  have hK76 : ∀ z : (Int64), K76 z → X G rm_X1_next cX1_next RX1 10 (some .long) σ 0 0 76 [(0, .ref o), (1, .long y1), (3, .int x3), (4, .int x4), (5, .int x5), (6, .long z)] [] := fun z h => hK76 z h
  refine x_lload dX1_next_76 (n := 78) rfl 5 rfl ?_
  refine x_lload_n dX1_next_78 (n := 79) rfl rfl 1 rfl ?_
  refine x_ldc2 dX1_next_79 (n := 82) rfl q1181 ?_
  refine x_ladd dX1_next_82 (n := 83) rfl ?_
  refine x_lcmp_ge (tgt := 197) dX1_next_83 (pc1 := 84) rfl dX1_next_84 rfl (n := 87) rfl (fun c16 => ?_) (fun c16 => ?_)
  · have h := h.1 c16
    refine x_ldc2 dX1_next_197 (n := 200) rfl q1182 ?_
    exact x_lret rq ⟨rfl, h⟩ dX1_next_200
  · have h := h.2 c16
    refine x_lload dX1_next_87 (n := 89) rfl 5 rfl ?_
    refine x_ldc2 dX1_next_89 (n := 92) rfl q1067 ?_
    refine x_lcmp_gt (tgt := 197) dX1_next_92 (pc1 := 93) rfl dX1_next_93 rfl (n := 96) rfl (fun c17 => ?_) (fun c17 => ?_)
    · have h := h.1 c17
      refine x_ldc2 dX1_next_197 (n := 200) rfl q1182 ?_
      exact x_lret rq ⟨rfl, h⟩ dX1_next_200
    · have h := h.2 c17
      refine x_iload dX1_next_96 (n := 98) rfl 3 rfl ?_
      refine x_iconst dX1_next_98 (n := 99) rfl ic_m1 ?_
      refine x_icmp_eq (tgt := 116) dX1_next_99 rfl (n := 102) rfl (fun c18 => ?_) (fun c18 => ?_)
      · have h := h.1 c18
        exact x_sub [0, 1, 2, 3, 4, 5] rfl (xj_X1_next_116 o c σ Q G hB rq y1 x3 x4 x5 y6 K76 hK76 h)
      · have h := h.2 c18
        refine x_aload_n dX1_next_102 (n := 103) rfl rfl 0 rfl ?_
        refine x_getr fl_X1_39_1 rfl hB.1 hB.r5 dX1_next_103 (n := 106) rfl ?_
        refine x_lload dX1_next_106 (n := 108) rfl 5 rfl ?_
        obtain ⟨b19, h⟩ := h
        refine x_cVip (As := [.long y6]) (rest := []) cv_X1_226 ck3 (met_X3_week c σ y6 hB.rb b19) hB.rb.1 (by decide) rfl rfl rfl dX1_next_108 (n := 111) rfl (fun r20 q => ?_)
        subst q
        refine x_iload dX1_next_111 (n := 113) rfl 3 rfl ?_
        refine x_icmp_ne (tgt := 188) dX1_next_113 rfl (n := 116) rfl (fun c21 => ?_) (fun c21 => ?_)
        · have h := h.2 c21
          refine x_lload dX1_next_188 (n := 190) rfl 5 rfl ?_
          refine x_lconst dX1_next_190 (n := 191) rfl lc_1 ?_
          refine x_ladd dX1_next_191 (n := 192) rfl ?_
          refine x_lstore (lvs' := [(6, .long (y6 + 1)), (0, .ref o), (1, .long y1), (3, .int x3), (4, .int x4), (5, .int x5)]) dX1_next_192 (n := 194) rfl (by decide) rfl ?_
          refine x_goto (tgt := 76) dX1_next_194 rfl ?_
          exact x_sub [1, 2, 3, 4, 5, 0] rfl (hK76 (y6 + 1) h)
        · have h := h.1 c21
          exact x_sub [0, 1, 2, 3, 4, 5] rfl (xj_X1_next_116 o c σ Q G hB rq y1 x3 x4 x5 y6 K76 hK76 h)
theorem xj_X1_next_50 (o c : Nat) (σ : Hp) (Q : Int64 → Prop) (G : XE) (hB : LB o c σ) (rq : RQ G 0 0 (oL (fun r σ' => σ' = σ ∧ Q r)))  (y1 : Int64) (x3 : Int32) (x4 : Int32) (x5 : Int32)     (h : wj_X1_next_50 o c σ y1 x3 x4 x5 Q ) : X G rm_X1_next cX1_next RX1 10 (some .long) σ 0 0 50 [(0, .ref o), (1, .long y1), (3, .int x3), (4, .int x4), (5, .int x5)] [] := by
  unfold wj_X1_next_50 at h
  refine x_iload dX1_next_50 (n := 52) rfl 4 rfl ?_
  refine x_iconst dX1_next_52 (n := 53) rfl ic_m1 ?_
  refine x_icmp_eq (tgt := 73) dX1_next_53 rfl (n := 56) rfl (fun c12 => ?_) (fun c12 => ?_)
  · have h := h.1 c12
    refine x_lload_n dX1_next_73 (n := 74) rfl rfl 1 rfl ?_
    refine x_lstore (lvs' := [(6, .long y1), (0, .ref o), (1, .long y1), (3, .int x3), (4, .int x4), (5, .int x5)]) dX1_next_74 (n := 76) rfl (by decide) rfl ?_
    exact x_sub [1, 2, 3, 4, 5, 0] rfl (xl_X1_next_76 o c σ Q G hB rq y1 x3 x4 x5 y1 h)
  · have h := h.2 c12
    refine x_iload dX1_next_56 (n := 58) rfl 4 rfl ?_
    refine x_i2l dX1_next_58 (n := 59) rfl ?_
    refine x_lconst dX1_next_59 (n := 60) rfl lc_0 ?_
    refine x_ldc2 dX1_next_60 (n := 63) rfl q1253 ?_
    refine x_cSip (As := [.long x5.toInt64, .long 0, .long 7]) (rest := []) cs_X1_96 (met_X1_in σ x5.toInt64 0 7 ) (by decide) rfl rfl rfl dX1_next_63 (n := 66) rfl (fun r14 q => ?_)
    subst q
    refine x_if_ne (tgt := 73) dX1_next_66 rfl (n := 69) rfl (fun c15 => ?_) (fun c15 => ?_)
    · have h := h.2 c15
      refine x_lload_n dX1_next_73 (n := 74) rfl rfl 1 rfl ?_
      refine x_lstore (lvs' := [(6, .long y1), (0, .ref o), (1, .long y1), (3, .int x3), (4, .int x4), (5, .int x5)]) dX1_next_74 (n := 76) rfl (by decide) rfl ?_
      exact x_sub [1, 2, 3, 4, 5, 0] rfl (xl_X1_next_76 o c σ Q G hB rq y1 x3 x4 x5 y1 h)
    · have h := h.1 c15
      refine x_ldc2 dX1_next_69 (n := 72) rfl q1059 ?_
      exact x_lret rq ⟨rfl, h⟩ dX1_next_72
theorem xj_X1_next_24 (o c : Nat) (σ : Hp) (Q : Int64 → Prop) (G : XE) (hB : LB o c σ) (rq : RQ G 0 0 (oL (fun r σ' => σ' = σ ∧ Q r)))  (y1 : Int64) (x3 : Int32) (x4 : Int32) (x5 : Int32)     (h : wj_X1_next_24 o c σ y1 x3 x4 x5 Q ) : X G rm_X1_next cX1_next RX1 10 (some .long) σ 0 0 24 [(0, .ref o), (1, .long y1), (3, .int x3), (4, .int x4), (5, .int x5)] [] := by
  unfold wj_X1_next_24 at h
  refine x_iload dX1_next_24 (n := 26) rfl 3 rfl ?_
  refine x_iconst dX1_next_26 (n := 27) rfl ic_m1 ?_
  refine x_icmp_eq (tgt := 50) dX1_next_27 rfl (n := 30) rfl (fun c8 => ?_) (fun c8 => ?_)
  · have h := h.1 c8
    exact x_sub [0, 1, 2, 3, 4] rfl (xj_X1_next_50 o c σ Q G hB rq y1 x3 x4 x5 h)
  · have h := h.2 c8
    refine x_iload dX1_next_30 (n := 32) rfl 3 rfl ?_
    refine x_i2l dX1_next_32 (n := 33) rfl ?_
    refine x_lconst dX1_next_33 (n := 34) rfl lc_0 ?_
    refine x_aload_n dX1_next_34 (n := 35) rfl rfl 0 rfl ?_
    refine x_getr fl_X1_39_1 rfl hB.1 hB.r5 dX1_next_35 (n := 38) rfl ?_
    refine x_geti fl_X1_322_3 rfl hB.rb.1 rfl dX1_next_38 (n := 41) rfl ?_
    refine x_iconst dX1_next_41 (n := 42) rfl ic_1 ?_
    refine x_isub dX1_next_42 (n := 43) rfl ?_
    refine x_i2l dX1_next_43 (n := 44) rfl ?_
    refine x_cSip (As := [.long x4.toInt64, .long 0, .long (((gI σ c 5) - 1).toInt64)]) (rest := []) cs_X1_96 (met_X1_in σ x4.toInt64 0 (((gI σ c 5) - 1).toInt64) ) (by decide) rfl rfl rfl dX1_next_44 (n := 47) rfl (fun r10 q => ?_)
    subst q
    refine x_if_eq (tgt := 69) dX1_next_47 rfl (n := 50) rfl (fun c11 => ?_) (fun c11 => ?_)
    · have h := h.1 c11
      refine x_ldc2 dX1_next_69 (n := 72) rfl q1059 ?_
      exact x_lret rq ⟨rfl, h⟩ dX1_next_72
    · have h := h.2 c11
      exact x_sub [0, 1, 2, 3, 4] rfl (xj_X1_next_50 o c σ Q G hB rq y1 x3 x4 x5 h)
theorem met_X1_next (o c : Nat) (σ : Hp) (y1 : Int64) (x3 : Int32) (x4 : Int32) (x5 : Int32) (Q : Int64 → Prop) (hB : LB o c σ) (h : wp_X1_next o c σ y1 x3 x4 x5 Q) : MetX yX1_next cX1_next 10 (some .long) rm_X1_next σ [.ref o, .long y1, .int x3, .int x4, .int x5] (oL (fun r σ' => σ' = σ ∧ Q r)) 0 0 := by
  refine metX_of (own := RX1) (lvs := [(0, .ref o), (1, .long y1), (3, .int x3), (4, .int x4), (5, .int x5)]) (by decide) rfl (Nat.le_of_ble_eq_true rfl) rfl (fun G rq => ?_)
  unfold wp_X1_next at h
  refine x_lload_n dX1_next_0 (n := 1) rfl rfl 1 rfl ?_
  obtain ⟨b1, h⟩ := h
  refine x_cSip (As := [.long y1]) (rest := []) cs_X1_209 (met_X1_isCount σ y1  b1) (by decide) rfl rfl rfl dX1_next_1 (n := 4) rfl (fun r2 q => ?_)
  subst q
  refine x_if_eq (tgt := 69) dX1_next_4 rfl (n := 7) rfl (fun c3 => ?_) (fun c3 => ?_)
  · have h := h.1 c3
    refine x_ldc2 dX1_next_69 (n := 72) rfl q1059 ?_
    exact x_lret rq ⟨rfl, h⟩ dX1_next_72
  · have h := h.2 c3
    refine x_iload_n dX1_next_7 (n := 8) rfl rfl 2 rfl ?_
    refine x_iconst dX1_next_8 (n := 9) rfl ic_m1 ?_
    refine x_icmp_eq (tgt := 24) dX1_next_9 rfl (n := 12) rfl (fun c4 => ?_) (fun c4 => ?_)
    · have h := h.1 c4
      exact x_sub [0, 1, 2, 3, 4] rfl (xj_X1_next_24 o c σ Q G hB rq y1 x3 x4 x5 h)
    · have h := h.2 c4
      refine x_iload_n dX1_next_12 (n := 13) rfl rfl 2 rfl ?_
      refine x_i2l dX1_next_13 (n := 14) rfl ?_
      refine x_lconst dX1_next_14 (n := 15) rfl lc_1 ?_
      refine x_ldc2 dX1_next_15 (n := 18) rfl q1252 ?_
      refine x_cSip (As := [.long x3.toInt64, .long 1, .long 99999]) (rest := []) cs_X1_96 (met_X1_in σ x3.toInt64 1 99999 ) (by decide) rfl rfl rfl dX1_next_18 (n := 21) rfl (fun r6 q => ?_)
      subst q
      refine x_if_eq (tgt := 69) dX1_next_21 rfl (n := 24) rfl (fun c7 => ?_) (fun c7 => ?_)
      · have h := h.1 c7
        refine x_ldc2 dX1_next_69 (n := 72) rfl q1059 ?_
        exact x_lret rq ⟨rfl, h⟩ dX1_next_72
      · have h := h.2 c7
        exact x_sub [0, 1, 2, 3, 4] rfl (xj_X1_next_24 o c σ Q G hB rq y1 x3 x4 x5 h)
abbrev rm_X1_alike : Room := { frames := 4, cells := 0, slots := 0, locals := 85 }
def wj_X1_alike_121 (o c : Nat) (σ : Hp)  (y3 : Int64) (x5 : Int32) (r6 : Nat) (r7 : Nat) (y8 : Int64) (y10 : Int64) (y12 : Int64) (Q : Int64 → Prop) (K49 : (Int64) → Prop) : Prop := (OB 6 r6 σ) ∧ ((OB 6 r7 σ) ∧ (((y8 - (f_X8_start r6 σ y10)) = (y8 - (f_X8_start r7 σ y12)) → Q y8) ∧ (¬ (y8 - (f_X8_start r6 σ y10)) = (y8 - (f_X8_start r7 σ y12)) → K49 (y8 + 1))))
def lb_X1_alike_49 (o c : Nat) (σ : Hp) (y3 : Int64) (x5 : Int32) (r6 : Nat) (r7 : Nat) (Q : Int64 → Prop)  (K49 : Int64 → Prop) (y8 : Int64) : Prop := ((y3 + 20000) ≤ y8 → Q (-2)) ∧ (¬ (y3 + 20000) ≤ y8 → (1000000000000 < y8 → Q (-2)) ∧ (¬ 1000000000000 < y8 → (OB 6 r6 σ) ∧ (wp_X8_year r6 σ y8 (fun r18 => (OB 6 r7 σ) ∧ (wp_X8_year r7 σ y8 (fun r20 => (r18 = (-1) → K49 (y8 + 1)) ∧ (¬ r18 = (-1) → (r20 = (-1) → K49 (y8 + 1)) ∧ (¬ r20 = (-1) → (x5 = 0 → wj_X1_alike_121 o c σ y3 x5 r6 r7 y8 r18 r20 Q K49) ∧ (¬ x5 = 0 → (r18 = r20 → wj_X1_alike_121 o c σ y3 x5 r6 r7 y8 r18 r20 Q K49) ∧ (¬ r18 = r20 → K49 (y8 + 1)))))))))))
def wp_X1_alike (o c : Nat) (σ : Hp) (x1 : Int32) (x2 : Int32) (y3 : Int64) (x5 : Int32) (Q : Int64 → Prop) : Prop := (ok_X1_isLand o c σ x1) ∧ (((f_X1_isLand o c σ x1) = 0 → Q (-1)) ∧ (¬ (f_X1_isLand o c σ x1) = 0 → (ok_X1_isLand o c σ x2) ∧ (((f_X1_isLand o c σ x2) = 0 → Q (-1)) ∧ (¬ (f_X1_isLand o c σ x2) = 0 → (x1 = x2 → Q (-1)) ∧ (¬ x1 = x2 → (ok_X1_isCount y3) ∧ (((f_X1_isCount y3) = 0 → Q (-1)) ∧ (¬ (f_X1_isCount y3) = 0 → (ok_X1_land o c σ x1) ∧ ((ok_X1_land o c σ x2) ∧ (lp (lb_X1_alike_49 o c σ y3 x5 (f_X1_land o c σ x1) (f_X1_land o c σ x2) Q) y3)))))))))
theorem xj_X1_alike_121 (o c : Nat) (σ : Hp) (Q : Int64 → Prop) (G : XE) (hB : LB o c σ) (rq : RQ G 0 0 (oL (fun r σ' => σ' = σ ∧ Q r)))  (y3 : Int64) (x5 : Int32) (r6 : Nat) (r7 : Nat) (y8 : Int64) (y10 : Int64) (y12 : Int64)  (K49 : (Int64) → Prop) (hK49 : ∀ z : (Int64), K49 z → X G rm_X1_alike cX1_alike RX1 14 (some .long) σ 0 0 49 [(3, .long y3), (5, .int x5), (6, .ref r6), (7, .ref r7), (8, .long z)] [])  (h : wj_X1_alike_121 o c σ y3 x5 r6 r7 y8 y10 y12 Q K49) : X G rm_X1_alike cX1_alike RX1 14 (some .long) σ 0 0 121 [(3, .long y3), (5, .int x5), (6, .ref r6), (7, .ref r7), (8, .long y8), (10, .long y10), (12, .long y12)] [] := by
  unfold wj_X1_alike_121 at h
  refine x_lload dX1_alike_121 (n := 123) rfl 4 rfl ?_
  refine x_aload dX1_alike_123 (n := 125) rfl 2 rfl ?_
  refine x_lload dX1_alike_125 (n := 127) rfl 5 rfl ?_
  obtain ⟨b25, h⟩ := h
  refine x_cVlp (As := [.long y10]) (rest := [.long y8]) cv_X1_218 ck6 (met_X8_start r6 σ y10 b25) b25 (by decide) rfl rfl rfl dX1_alike_127 (n := 130) rfl (fun r27 q => ?_)
  subst q
  refine x_lsub dX1_alike_130 (n := 131) rfl ?_
  refine x_lload dX1_alike_131 (n := 133) rfl 4 rfl ?_
  refine x_aload dX1_alike_133 (n := 135) rfl 3 rfl ?_
  refine x_lload dX1_alike_135 (n := 137) rfl 6 rfl ?_
  obtain ⟨b28, h⟩ := h
  refine x_cVlp (As := [.long y12]) (rest := [.long y8, .long (y8 - (f_X8_start r6 σ y10))]) cv_X1_218 ck6 (met_X8_start r7 σ y12 b28) b28 (by decide) rfl rfl rfl dX1_alike_137 (n := 140) rfl (fun r30 q => ?_)
  subst q
  refine x_lsub dX1_alike_140 (n := 141) rfl ?_
  refine x_lcmp_ne (tgt := 148) dX1_alike_141 (pc1 := 142) rfl dX1_alike_142 rfl (n := 145) rfl (fun c31 => ?_) (fun c31 => ?_)
  · have h := h.2 c31
    refine x_lload dX1_alike_148 (n := 150) rfl 4 rfl ?_
    refine x_lconst dX1_alike_150 (n := 151) rfl lc_1 ?_
    refine x_ladd dX1_alike_151 (n := 152) rfl ?_
    refine x_lstore (lvs' := [(8, .long (y8 + 1)), (3, .long y3), (5, .int x5), (6, .ref r6), (7, .ref r7), (10, .long y10), (12, .long y12)]) dX1_alike_152 (n := 154) rfl (by decide) rfl ?_
    refine x_goto (tgt := 49) dX1_alike_154 rfl ?_
    exact x_sub [1, 2, 3, 4, 0] rfl (hK49 (y8 + 1) h)
  · have h := h.1 c31
    refine x_lload dX1_alike_145 (n := 147) rfl 4 rfl ?_
    exact x_lret rq ⟨rfl, h⟩ dX1_alike_147
theorem xl_X1_alike_49 (o c : Nat) (σ : Hp) (Q : Int64 → Prop) (G : XE) (hB : LB o c σ) (rq : RQ G 0 0 (oL (fun r σ' => σ' = σ ∧ Q r))) (y3 : Int64) (x5 : Int32) (r6 : Nat) (r7 : Nat)    : ∀ z : Int64, lp (lb_X1_alike_49 o c σ y3 x5 r6 r7 Q ) z → X G rm_X1_alike cX1_alike RX1 14 (some .long) σ 0 0 49 [(3, .long y3), (5, .int x5), (6, .ref r6), (7, .ref r7), (8, .long z)] [] := by
  intro z
  refine fun h => lp_X (P := fun z => X G rm_X1_alike cX1_alike RX1 14 (some .long) σ 0 0 49 [(3, .long y3), (5, .int x5), (6, .ref r6), (7, .ref r7), (8, .long z)] []) ?_ h
  intro K49 hK49 y8 h
  simp only [lb_X1_alike_49] at h
  show X G rm_X1_alike cX1_alike RX1 14 (some .long) σ 0 0 49 [(3, .long y3), (5, .int x5), (6, .ref r6), (7, .ref r7), (8, .long y8)] []
  have hK49 : ∀ z : (Int64), K49 z → X G rm_X1_alike cX1_alike RX1 14 (some .long) σ 0 0 49 [(3, .long y3), (5, .int x5), (6, .ref r6), (7, .ref r7), (8, .long z)] [] := fun z h => hK49 z h
  refine x_lload dX1_alike_49 (n := 51) rfl 4 rfl ?_
  refine x_lload_n dX1_alike_51 (n := 52) rfl rfl 0 rfl ?_
  refine x_ldc2 dX1_alike_52 (n := 55) rfl q1181 ?_
  refine x_ladd dX1_alike_55 (n := 56) rfl ?_
  refine x_lcmp_ge (tgt := 157) dX1_alike_56 (pc1 := 57) rfl dX1_alike_57 rfl (n := 60) rfl (fun c15 => ?_) (fun c15 => ?_)
  · have h := h.1 c15
    refine x_ldc2 dX1_alike_157 (n := 160) rfl q1182 ?_
    exact x_lret rq ⟨rfl, h⟩ dX1_alike_160
  · have h := h.2 c15
    refine x_lload dX1_alike_60 (n := 62) rfl 4 rfl ?_
    refine x_ldc2 dX1_alike_62 (n := 65) rfl q1067 ?_
    refine x_lcmp_gt (tgt := 157) dX1_alike_65 (pc1 := 66) rfl dX1_alike_66 rfl (n := 69) rfl (fun c16 => ?_) (fun c16 => ?_)
    · have h := h.1 c16
      refine x_ldc2 dX1_alike_157 (n := 160) rfl q1182 ?_
      exact x_lret rq ⟨rfl, h⟩ dX1_alike_160
    · have h := h.2 c16
      refine x_aload dX1_alike_69 (n := 71) rfl 2 rfl ?_
      refine x_lload dX1_alike_71 (n := 73) rfl 4 rfl ?_
      obtain ⟨b17, h⟩ := h
      refine x_cVlp (As := [.long y8]) (rest := []) cv_X1_212 ck6 (met_X8_year r6 σ y8 _ b17 h) b17 (by decide) rfl rfl rfl dX1_alike_73 (n := 76) rfl (fun r18 h => ?_)
      refine x_lstore (lvs' := [(10, .long r18), (3, .long y3), (5, .int x5), (6, .ref r6), (7, .ref r7), (8, .long y8)]) dX1_alike_76 (n := 78) rfl (by decide) rfl ?_
      refine x_aload dX1_alike_78 (n := 80) rfl 4 rfl ?_
      refine x_lload dX1_alike_80 (n := 82) rfl 5 rfl ?_
      obtain ⟨b19, h⟩ := h
      refine x_cVlp (As := [.long y8]) (rest := []) cv_X1_212 ck6 (met_X8_year r7 σ y8 _ b19 h) b19 (by decide) rfl rfl rfl dX1_alike_82 (n := 85) rfl (fun r20 h => ?_)
      refine x_lstore (lvs' := [(12, .long r20), (10, .long r18), (3, .long y3), (5, .int x5), (6, .ref r6), (7, .ref r7), (8, .long y8)]) dX1_alike_85 (n := 87) rfl (by decide) rfl ?_
      refine x_lload dX1_alike_87 (n := 89) rfl 1 rfl ?_
      refine x_ldc2 dX1_alike_89 (n := 92) rfl q1059 ?_
      refine x_lcmp_eq (tgt := 148) dX1_alike_92 (pc1 := 93) rfl dX1_alike_93 rfl (n := 96) rfl (fun c21 => ?_) (fun c21 => ?_)
      · have h := h.1 c21
        refine x_lload dX1_alike_148 (n := 150) rfl 6 rfl ?_
        refine x_lconst dX1_alike_150 (n := 151) rfl lc_1 ?_
        refine x_ladd dX1_alike_151 (n := 152) rfl ?_
        refine x_lstore (lvs' := [(8, .long (y8 + 1)), (12, .long r20), (10, .long r18), (3, .long y3), (5, .int x5), (6, .ref r6), (7, .ref r7)]) dX1_alike_152 (n := 154) rfl (by decide) rfl ?_
        refine x_goto (tgt := 49) dX1_alike_154 rfl ?_
        exact x_sub [3, 4, 5, 6, 0] rfl (hK49 (y8 + 1) h)
      · have h := h.2 c21
        refine x_lload dX1_alike_96 (n := 98) rfl 0 rfl ?_
        refine x_ldc2 dX1_alike_98 (n := 101) rfl q1059 ?_
        refine x_lcmp_eq (tgt := 148) dX1_alike_101 (pc1 := 102) rfl dX1_alike_102 rfl (n := 105) rfl (fun c22 => ?_) (fun c22 => ?_)
        · have h := h.1 c22
          refine x_lload dX1_alike_148 (n := 150) rfl 6 rfl ?_
          refine x_lconst dX1_alike_150 (n := 151) rfl lc_1 ?_
          refine x_ladd dX1_alike_151 (n := 152) rfl ?_
          refine x_lstore (lvs' := [(8, .long (y8 + 1)), (12, .long r20), (10, .long r18), (3, .long y3), (5, .int x5), (6, .ref r6), (7, .ref r7)]) dX1_alike_152 (n := 154) rfl (by decide) rfl ?_
          refine x_goto (tgt := 49) dX1_alike_154 rfl ?_
          exact x_sub [3, 4, 5, 6, 0] rfl (hK49 (y8 + 1) h)
        · have h := h.2 c22
          refine x_iload dX1_alike_105 (n := 107) rfl 3 rfl ?_
          refine x_if_eq (tgt := 121) dX1_alike_107 rfl (n := 110) rfl (fun c23 => ?_) (fun c23 => ?_)
          · have h := h.1 c23
            exact x_sub [2, 3, 4, 5, 6, 1, 0] rfl (xj_X1_alike_121 o c σ Q G hB rq y3 x5 r6 r7 y8 r18 r20 K49 hK49 h)
          · have h := h.2 c23
            refine x_lload dX1_alike_110 (n := 112) rfl 1 rfl ?_
            refine x_lload dX1_alike_112 (n := 114) rfl 0 rfl ?_
            refine x_lcmp_eq (tgt := 121) dX1_alike_114 (pc1 := 115) rfl dX1_alike_115 rfl (n := 118) rfl (fun c24 => ?_) (fun c24 => ?_)
            · have h := h.1 c24
              exact x_sub [2, 3, 4, 5, 6, 1, 0] rfl (xj_X1_alike_121 o c σ Q G hB rq y3 x5 r6 r7 y8 r18 r20 K49 hK49 h)
            · have h := h.2 c24
              refine x_goto (tgt := 148) dX1_alike_118 rfl ?_
              refine x_lload dX1_alike_148 (n := 150) rfl 6 rfl ?_
              refine x_lconst dX1_alike_150 (n := 151) rfl lc_1 ?_
              refine x_ladd dX1_alike_151 (n := 152) rfl ?_
              refine x_lstore (lvs' := [(8, .long (y8 + 1)), (12, .long r20), (10, .long r18), (3, .long y3), (5, .int x5), (6, .ref r6), (7, .ref r7)]) dX1_alike_152 (n := 154) rfl (by decide) rfl ?_
              refine x_goto (tgt := 49) dX1_alike_154 rfl ?_
              exact x_sub [3, 4, 5, 6, 0] rfl (hK49 (y8 + 1) h)
theorem met_X1_alike (o c : Nat) (σ : Hp) (x1 : Int32) (x2 : Int32) (y3 : Int64) (x5 : Int32) (Q : Int64 → Prop) (hB : LB o c σ) (h : wp_X1_alike o c σ x1 x2 y3 x5 Q) : MetX yX1_alike cX1_alike 14 (some .long) rm_X1_alike σ [.ref o, .int x1, .int x2, .long y3, .int x5] (oL (fun r σ' => σ' = σ ∧ Q r)) 0 0 := by
  refine metX_of (own := RX1) (lvs := [(0, .ref o), (1, .int x1), (2, .int x2), (3, .long y3), (5, .int x5)]) (by decide) rfl (Nat.le_of_ble_eq_true rfl) rfl (fun G rq => ?_)
  unfold wp_X1_alike at h
  refine x_aload_n dX1_alike_0 (n := 1) rfl rfl 0 rfl ?_
  refine x_iload_n dX1_alike_1 (n := 2) rfl rfl 1 rfl ?_
  obtain ⟨b1, h⟩ := h
  refine x_cVip (As := [.int x1]) (rest := []) cv_X1_171 ck1 (met_X1_isLand o c σ x1 hB b1) hB.1 (by decide) rfl rfl rfl dX1_alike_2 (n := 5) rfl (fun r2 q => ?_)
  subst q
  refine x_if_eq (tgt := 28) dX1_alike_5 rfl (n := 8) rfl (fun c3 => ?_) (fun c3 => ?_)
  · have h := h.1 c3
    refine x_ldc2 dX1_alike_28 (n := 31) rfl q1059 ?_
    exact x_lret rq ⟨rfl, h⟩ dX1_alike_31
  · have h := h.2 c3
    refine x_aload_n dX1_alike_8 (n := 9) rfl rfl 0 rfl ?_
    refine x_iload_n dX1_alike_9 (n := 10) rfl rfl 2 rfl ?_
    obtain ⟨b4, h⟩ := h
    refine x_cVip (As := [.int x2]) (rest := []) cv_X1_171 ck1 (met_X1_isLand o c σ x2 hB b4) hB.1 (by decide) rfl rfl rfl dX1_alike_10 (n := 13) rfl (fun r5 q => ?_)
    subst q
    refine x_if_eq (tgt := 28) dX1_alike_13 rfl (n := 16) rfl (fun c6 => ?_) (fun c6 => ?_)
    · have h := h.1 c6
      refine x_ldc2 dX1_alike_28 (n := 31) rfl q1059 ?_
      exact x_lret rq ⟨rfl, h⟩ dX1_alike_31
    · have h := h.2 c6
      refine x_iload_n dX1_alike_16 (n := 17) rfl rfl 1 rfl ?_
      refine x_iload_n dX1_alike_17 (n := 18) rfl rfl 2 rfl ?_
      refine x_icmp_eq (tgt := 28) dX1_alike_18 rfl (n := 21) rfl (fun c7 => ?_) (fun c7 => ?_)
      · have h := h.1 c7
        refine x_ldc2 dX1_alike_28 (n := 31) rfl q1059 ?_
        exact x_lret rq ⟨rfl, h⟩ dX1_alike_31
      · have h := h.2 c7
        refine x_lload_n dX1_alike_21 (n := 22) rfl rfl 3 rfl ?_
        obtain ⟨b8, h⟩ := h
        refine x_cSip (As := [.long y3]) (rest := []) cs_X1_209 (met_X1_isCount σ y3  b8) (by decide) rfl rfl rfl dX1_alike_22 (n := 25) rfl (fun r9 q => ?_)
        subst q
        refine x_if_ne (tgt := 32) dX1_alike_25 rfl (n := 28) rfl (fun c10 => ?_) (fun c10 => ?_)
        · have h := h.2 c10
          refine x_aload_n dX1_alike_32 (n := 33) rfl rfl 0 rfl ?_
          refine x_iload_n dX1_alike_33 (n := 34) rfl rfl 1 rfl ?_
          obtain ⟨b11, h⟩ := h
          refine x_cVrp (As := [.int x1]) (rest := []) cv_X1_177 ck1 (met_X1_land o c σ x1 hB b11) hB.1 (by decide) rfl rfl rfl dX1_alike_34 (n := 37) rfl (fun r12 q => ?_)
          subst q
          refine x_astore (lvs' := [(6, .ref (f_X1_land o c σ x1)), (0, .ref o), (1, .int x1), (2, .int x2), (3, .long y3), (5, .int x5)]) dX1_alike_37 (n := 39) rfl (by decide) rfl ?_
          refine x_aload_n dX1_alike_39 (n := 40) rfl rfl 1 rfl ?_
          refine x_iload_n dX1_alike_40 (n := 41) rfl rfl 3 rfl ?_
          obtain ⟨b13, h⟩ := h
          refine x_cVrp (As := [.int x2]) (rest := []) cv_X1_177 ck1 (met_X1_land o c σ x2 hB b13) hB.1 (by decide) rfl rfl rfl dX1_alike_41 (n := 44) rfl (fun r14 q => ?_)
          subst q
          refine x_astore (lvs' := [(7, .ref (f_X1_land o c σ x2)), (6, .ref (f_X1_land o c σ x1)), (0, .ref o), (1, .int x1), (2, .int x2), (3, .long y3), (5, .int x5)]) dX1_alike_44 (n := 46) rfl (by decide) rfl ?_
          refine x_lload_n dX1_alike_46 (n := 47) rfl rfl 5 rfl ?_
          refine x_lstore (lvs' := [(8, .long y3), (7, .ref (f_X1_land o c σ x2)), (6, .ref (f_X1_land o c σ x1)), (0, .ref o), (1, .int x1), (2, .int x2), (3, .long y3), (5, .int x5)]) dX1_alike_47 (n := 49) rfl (by decide) rfl ?_
          exact x_sub [6, 7, 2, 1, 0] rfl (xl_X1_alike_49 o c σ Q G hB rq y3 x5 (f_X1_land o c σ x1) (f_X1_land o c σ x2) y3 h)
        · have h := h.1 c10
          refine x_ldc2 dX1_alike_28 (n := 31) rfl q1059 ?_
          exact x_lret rq ⟨rfl, h⟩ dX1_alike_31
abbrev rm_X8_ended : Room := { frames := 3, cells := 0, slots := 0, locals := 75 }
def wp_X8_ended (o : Nat) (σ : Hp) (y1 : Int64) (Q : Int64 → Prop) : Prop := (((gI σ o 3).toInt64) ≤ y1 → wp_X8_year o σ y1 (fun r2 => (r2 = (-1) → (ok_X8_last o σ) ∧ (Q (f_X8_last o σ))) ∧ (¬ r2 = (-1) → (y1 = (((f_X8_start o σ r2) + (f_X8_length o σ r2)) - 1) → Q r2) ∧ (¬ y1 = (((f_X8_start o σ r2) + (f_X8_length o σ r2)) - 1) → Q (r2 - 1))))) ∧ (¬ ((gI σ o 3).toInt64) ≤ y1 → Q 0)
theorem met_X8_ended (o : Nat) (σ : Hp) (y1 : Int64) (Q : Int64 → Prop) (hB : OB 6 o σ) (h : wp_X8_ended o σ y1 Q) : MetX yX8_ended cX8_ended 5 (some .long) rm_X8_ended σ [.ref o, .long y1] (oL (fun r σ' => σ' = σ ∧ Q r)) 0 0 := by
  refine metX_of (own := RX8) (lvs := [(0, .ref o), (1, .long y1)]) (by decide) rfl (Nat.le_of_ble_eq_true rfl) rfl (fun G rq => ?_)
  unfold wp_X8_ended at h
  refine x_lload_n dX8_ended_0 (n := 1) rfl rfl 1 rfl ?_
  refine x_aload_n dX8_ended_1 (n := 2) rfl rfl 0 rfl ?_
  refine x_geti fl_X8_32_6 rfl hB rfl dX8_ended_2 (n := 5) rfl ?_
  refine x_i2l dX8_ended_5 (n := 6) rfl ?_
  refine x_lcmp_ge (tgt := 12) dX8_ended_6 (pc1 := 7) rfl dX8_ended_7 rfl (n := 10) rfl (fun c1 => ?_) (fun c1 => ?_)
  · have h := h.1 c1
    refine x_aload_n dX8_ended_12 (n := 13) rfl rfl 0 rfl ?_
    refine x_lload_n dX8_ended_13 (n := 14) rfl rfl 1 rfl ?_
    refine x_cVlp (As := [.long y1]) (rest := []) cv_X8_49 ck6 (met_X8_year o σ y1 _ hB h) hB (by decide) rfl rfl rfl dX8_ended_14 (n := 17) rfl (fun r2 h => ?_)
    refine x_lstore_n (lvs' := [(3, .long r2), (0, .ref o), (1, .long y1)]) dX8_ended_17 (n := 18) rfl rfl (by decide) rfl ?_
    refine x_lload_n dX8_ended_18 (n := 19) rfl rfl 0 rfl ?_
    refine x_ldc2 dX8_ended_19 (n := 22) rfl q1073 ?_
    refine x_lcmp_ne (tgt := 33) dX8_ended_22 (pc1 := 23) rfl dX8_ended_23 rfl (n := 26) rfl (fun c3 => ?_) (fun c3 => ?_)
    · have h := h.2 c3
      refine x_lload_n dX8_ended_33 (n := 34) rfl rfl 2 rfl ?_
      refine x_aload_n dX8_ended_34 (n := 35) rfl rfl 1 rfl ?_
      refine x_lload_n dX8_ended_35 (n := 36) rfl rfl 0 rfl ?_
      refine x_cVlp (As := [.long r2]) (rest := [.long y1]) cv_X8_43 ck6 (met_X8_start o σ r2 hB) hB (by decide) rfl rfl rfl dX8_ended_36 (n := 39) rfl (fun r5 q => ?_)
      subst q
      refine x_aload_n dX8_ended_39 (n := 40) rfl rfl 1 rfl ?_
      refine x_lload_n dX8_ended_40 (n := 41) rfl rfl 0 rfl ?_
      refine x_cVlp (As := [.long r2]) (rest := [.long (f_X8_start o σ r2), .long y1]) cv_X8_52 ck6 (met_X8_length o σ r2 hB) hB (by decide) rfl rfl rfl dX8_ended_41 (n := 44) rfl (fun r7 q => ?_)
      subst q
      refine x_ladd dX8_ended_44 (n := 45) rfl ?_
      refine x_lconst dX8_ended_45 (n := 46) rfl lc_1 ?_
      refine x_lsub dX8_ended_46 (n := 47) rfl ?_
      refine x_lcmp_ne (tgt := 55) dX8_ended_47 (pc1 := 48) rfl dX8_ended_48 rfl (n := 51) rfl (fun c8 => ?_) (fun c8 => ?_)
      · have h := h.2 c8
        refine x_lload_n dX8_ended_55 (n := 56) rfl rfl 0 rfl ?_
        refine x_lconst dX8_ended_56 (n := 57) rfl lc_1 ?_
        refine x_lsub dX8_ended_57 (n := 58) rfl ?_
        exact x_lret rq ⟨rfl, h⟩ dX8_ended_58
      · have h := h.1 c8
        refine x_lload_n dX8_ended_51 (n := 52) rfl rfl 0 rfl ?_
        refine x_goto (tgt := 58) dX8_ended_52 rfl ?_
        exact x_lret rq ⟨rfl, h⟩ dX8_ended_58
    · have h := h.1 c3
      refine x_aload_n dX8_ended_26 (n := 27) rfl rfl 1 rfl ?_
      obtain ⟨b9, h⟩ := h
      refine x_cVlp (As := []) (rest := []) cv_X8_22 ck6 (met_X8_last o σ hB b9) hB (by decide) rfl rfl rfl dX8_ended_27 (n := 30) rfl (fun r10 q => ?_)
      subst q
      refine x_goto (tgt := 58) dX8_ended_30 rfl ?_
      exact x_lret rq ⟨rfl, h⟩ dX8_ended_58
  · have h := h.2 c1
    refine x_lconst dX8_ended_10 (n := 11) rfl lc_0 ?_
    exact x_lret rq ⟨rfl, h⟩ dX8_ended_11
abbrev rm_X1_ends : Room := { frames := 4, cells := 0, slots := 0, locals := 99 }
def wp_X1_ends (o c : Nat) (σ : Hp) (x1 : Int32) (y2 : Int64) (x4 : Int32) (Q : Int32 → Prop) : Prop := (ok_X1_isLand o c σ x1) ∧ (((f_X1_isLand o c σ x1) = 0 → Q (-1)) ∧ (¬ (f_X1_isLand o c σ x1) = 0 → (ok_X1_isCount y2) ∧ (((f_X1_isCount y2) = 0 → Q (-1)) ∧ (¬ (f_X1_isCount y2) = 0 → ((f_X1_in x4.toInt64 1 99999) = 0 → Q (-1)) ∧ (¬ (f_X1_in x4.toInt64 1 99999) = 0 → ((y2 + x4.toInt64) ≤ 1000000000000 → (ok_X1_land o c σ x1) ∧ ((OB 6 (f_X1_land o c σ x1) σ) ∧ (wp_X8_ended (f_X1_land o c σ x1) σ (y2 + x4.toInt64) (fun r14 => (ok_X1_land o c σ x1) ∧ (wp_X8_ended (f_X1_land o c σ x1) σ y2 (fun r17 => Q ((r14 - r17).toInt32))))))) ∧ (¬ (y2 + x4.toInt64) ≤ 1000000000000 → Q (-1)))))))
theorem met_X1_ends (o c : Nat) (σ : Hp) (x1 : Int32) (y2 : Int64) (x4 : Int32) (Q : Int32 → Prop) (hB : LB o c σ) (h : wp_X1_ends o c σ x1 y2 x4 Q) : MetX yX1_ends cX1_ends 5 (some .int) rm_X1_ends σ [.ref o, .int x1, .long y2, .int x4] (oI (fun r σ' => σ' = σ ∧ Q r)) 0 0 := by
  refine metX_of (own := RX1) (lvs := [(0, .ref o), (1, .int x1), (2, .long y2), (4, .int x4)]) (by decide) rfl (Nat.le_of_ble_eq_true rfl) rfl (fun G rq => ?_)
  unfold wp_X1_ends at h
  refine x_aload_n dX1_ends_0 (n := 1) rfl rfl 0 rfl ?_
  refine x_iload_n dX1_ends_1 (n := 2) rfl rfl 1 rfl ?_
  obtain ⟨b1, h⟩ := h
  refine x_cVip (As := [.int x1]) (rest := []) cv_X1_171 ck1 (met_X1_isLand o c σ x1 hB b1) hB.1 (by decide) rfl rfl rfl dX1_ends_2 (n := 5) rfl (fun r2 q => ?_)
  subst q
  refine x_if_eq (tgt := 40) dX1_ends_5 rfl (n := 8) rfl (fun c3 => ?_) (fun c3 => ?_)
  · have h := h.1 c3
    refine x_iconst dX1_ends_40 (n := 41) rfl ic_m1 ?_
    exact x_iret rq ⟨rfl, h⟩ dX1_ends_41
  · have h := h.2 c3
    refine x_lload_n dX1_ends_8 (n := 9) rfl rfl 2 rfl ?_
    obtain ⟨b4, h⟩ := h
    refine x_cSip (As := [.long y2]) (rest := []) cs_X1_209 (met_X1_isCount σ y2  b4) (by decide) rfl rfl rfl dX1_ends_9 (n := 12) rfl (fun r5 q => ?_)
    subst q
    refine x_if_eq (tgt := 40) dX1_ends_12 rfl (n := 15) rfl (fun c6 => ?_) (fun c6 => ?_)
    · have h := h.1 c6
      refine x_iconst dX1_ends_40 (n := 41) rfl ic_m1 ?_
      exact x_iret rq ⟨rfl, h⟩ dX1_ends_41
    · have h := h.2 c6
      refine x_iload dX1_ends_15 (n := 17) rfl 3 rfl ?_
      refine x_i2l dX1_ends_17 (n := 18) rfl ?_
      refine x_lconst dX1_ends_18 (n := 19) rfl lc_1 ?_
      refine x_ldc2 dX1_ends_19 (n := 22) rfl q1252 ?_
      refine x_cSip (As := [.long x4.toInt64, .long 1, .long 99999]) (rest := []) cs_X1_96 (met_X1_in σ x4.toInt64 1 99999 ) (by decide) rfl rfl rfl dX1_ends_22 (n := 25) rfl (fun r8 q => ?_)
      subst q
      refine x_if_eq (tgt := 40) dX1_ends_25 rfl (n := 28) rfl (fun c9 => ?_) (fun c9 => ?_)
      · have h := h.1 c9
        refine x_iconst dX1_ends_40 (n := 41) rfl ic_m1 ?_
        exact x_iret rq ⟨rfl, h⟩ dX1_ends_41
      · have h := h.2 c9
        refine x_lload_n dX1_ends_28 (n := 29) rfl rfl 2 rfl ?_
        refine x_iload dX1_ends_29 (n := 31) rfl 3 rfl ?_
        refine x_i2l dX1_ends_31 (n := 32) rfl ?_
        refine x_ladd dX1_ends_32 (n := 33) rfl ?_
        refine x_ldc2 dX1_ends_33 (n := 36) rfl q1067 ?_
        refine x_lcmp_le (tgt := 42) dX1_ends_36 (pc1 := 37) rfl dX1_ends_37 rfl (n := 40) rfl (fun c10 => ?_) (fun c10 => ?_)
        · have h := h.1 c10
          refine x_aload_n dX1_ends_42 (n := 43) rfl rfl 0 rfl ?_
          refine x_iload_n dX1_ends_43 (n := 44) rfl rfl 1 rfl ?_
          obtain ⟨b11, h⟩ := h
          refine x_cVrp (As := [.int x1]) (rest := []) cv_X1_177 ck1 (met_X1_land o c σ x1 hB b11) hB.1 (by decide) rfl rfl rfl dX1_ends_44 (n := 47) rfl (fun r12 q => ?_)
          subst q
          refine x_lload_n dX1_ends_47 (n := 48) rfl rfl 2 rfl ?_
          refine x_iload dX1_ends_48 (n := 50) rfl 3 rfl ?_
          refine x_i2l dX1_ends_50 (n := 51) rfl ?_
          refine x_ladd dX1_ends_51 (n := 52) rfl ?_
          obtain ⟨b13, h⟩ := h
          refine x_cVlp (As := [.long (y2 + x4.toInt64)]) (rest := []) cv_X1_338 ck6 (met_X8_ended (f_X1_land o c σ x1) σ (y2 + x4.toInt64) _ b13 h) b13 (by decide) rfl rfl rfl dX1_ends_52 (n := 55) rfl (fun r14 h => ?_)
          refine x_aload_n dX1_ends_55 (n := 56) rfl rfl 0 rfl ?_
          refine x_iload_n dX1_ends_56 (n := 57) rfl rfl 1 rfl ?_
          obtain ⟨b15, h⟩ := h
          refine x_cVrp (As := [.int x1]) (rest := [.long r14]) cv_X1_177 ck1 (met_X1_land o c σ x1 hB b15) hB.1 (by decide) rfl rfl rfl dX1_ends_57 (n := 60) rfl (fun r16 q => ?_)
          subst q
          refine x_lload_n dX1_ends_60 (n := 61) rfl rfl 2 rfl ?_
          refine x_cVlp (As := [.long y2]) (rest := [.long r14]) cv_X1_338 ck6 (met_X8_ended (f_X1_land o c σ x1) σ y2 _ b13 h) b13 (by decide) rfl rfl rfl dX1_ends_61 (n := 64) rfl (fun r17 h => ?_)
          refine x_lsub dX1_ends_64 (n := 65) rfl ?_
          refine x_l2i dX1_ends_65 (n := 66) rfl ?_
          exact x_iret rq ⟨rfl, h⟩ dX1_ends_66
        · have h := h.2 c10
          refine x_iconst dX1_ends_40 (n := 41) rfl ic_m1 ?_
          exact x_iret rq ⟨rfl, h⟩ dX1_ends_41
abbrev rm_X1_hire : Room := { frames := 5, cells := 0, slots := 0, locals := 123 }
def wj_X1_hire_113 (o c : Nat) (σ : Hp)  (x1 : Int32) (y2 : Int64) (x4 : Int32) (x5 : Int32) (y9 : Int64) (x11 : Int32) (Q : Int64 → Prop) (K72 : (Int64 × Int32 × Int64) → Prop) : Prop := K72 (y9, x11, y9 + 1)
def lb_X1_hire_72 (o c : Nat) (σ : Hp) (x1 : Int32) (y2 : Int64) (x4 : Int32) (x5 : Int32) (Q : Int64 → Prop)  (K72 : Int64 × Int32 × Int64 → Prop) (z : Int64 × Int32 × Int64) : Prop := match z with
  | (y6, x8, y9) => ((y2 + x4.toInt64) < y9 → Q y6) ∧ (¬ (y2 + x4.toInt64) < y9 → wp_X1_ends o c σ x1 y9 x5 (fun r15 => (y6 = (-1) → wj_X1_hire_113 o c σ x1 y2 x4 x5 y9 r15 Q K72) ∧ (¬ y6 = (-1) → (x8 < r15 → wj_X1_hire_113 o c σ x1 y2 x4 x5 y9 r15 Q K72) ∧ (¬ x8 < r15 → K72 (y6, x8, y9 + 1)))))
def wp_X1_hire (o c : Nat) (σ : Hp) (x1 : Int32) (y2 : Int64) (x4 : Int32) (x5 : Int32) (Q : Int64 → Prop) : Prop := (ok_X1_isLand o c σ x1) ∧ (((f_X1_isLand o c σ x1) = 0 → Q (-1)) ∧ (¬ (f_X1_isLand o c σ x1) = 0 → (ok_X1_isCount y2) ∧ (((f_X1_isCount y2) = 0 → Q (-1)) ∧ (¬ (f_X1_isCount y2) = 0 → ((f_X1_in x4.toInt64 0 999) = 0 → Q (-1)) ∧ (¬ (f_X1_in x4.toInt64 0 999) = 0 → ((f_X1_in x5.toInt64 1 99999) = 0 → Q (-1)) ∧ (¬ (f_X1_in x5.toInt64 1 99999) = 0 → (((y2 + x4.toInt64) + x5.toInt64) ≤ 1000000000000 → lp (lb_X1_hire_72 o c σ x1 y2 x4 x5 Q) ((-1), 0, y2)) ∧ (¬ ((y2 + x4.toInt64) + x5.toInt64) ≤ 1000000000000 → Q (-1))))))))
theorem xj_X1_hire_113 (o c : Nat) (σ : Hp) (Q : Int64 → Prop) (G : XE) (hB : LB o c σ) (rq : RQ G 0 0 (oL (fun r σ' => σ' = σ ∧ Q r)))  (x1 : Int32) (y2 : Int64) (x4 : Int32) (x5 : Int32) (y9 : Int64) (x11 : Int32)  (K72 : (Int64 × Int32 × Int64) → Prop) (hK72 : ∀ z : (Int64 × Int32 × Int64), K72 z → X G rm_X1_hire cX1_hire RX1 12 (some .long) σ 0 0 72 [(0, .ref o), (1, .int x1), (2, .long y2), (4, .int x4), (5, .int x5), (6, .long z.1), (8, .int z.2.1), (9, .long z.2.2)] [])  (h : wj_X1_hire_113 o c σ x1 y2 x4 x5 y9 x11 Q K72) : X G rm_X1_hire cX1_hire RX1 12 (some .long) σ 0 0 113 [(0, .ref o), (1, .int x1), (2, .long y2), (4, .int x4), (5, .int x5), (9, .long y9), (11, .int x11)] [] := by
  unfold wj_X1_hire_113 at h
  refine x_lload dX1_hire_113 (n := 115) rfl 5 rfl ?_
  refine x_lstore (lvs' := [(6, .long y9), (0, .ref o), (1, .int x1), (2, .long y2), (4, .int x4), (5, .int x5), (9, .long y9), (11, .int x11)]) dX1_hire_115 (n := 117) rfl (by decide) rfl ?_
  refine x_iload dX1_hire_117 (n := 119) rfl 7 rfl ?_
  refine x_istore (lvs' := [(8, .int x11), (6, .long y9), (0, .ref o), (1, .int x1), (2, .long y2), (4, .int x4), (5, .int x5), (9, .long y9), (11, .int x11)]) dX1_hire_119 (n := 121) rfl (by decide) rfl ?_
  refine x_lload dX1_hire_121 (n := 123) rfl 7 rfl ?_
  refine x_lconst dX1_hire_123 (n := 124) rfl lc_1 ?_
  refine x_ladd dX1_hire_124 (n := 125) rfl ?_
  refine x_lstore (lvs' := [(9, .long (y9 + 1)), (8, .int x11), (6, .long y9), (0, .ref o), (1, .int x1), (2, .long y2), (4, .int x4), (5, .int x5), (11, .int x11)]) dX1_hire_125 (n := 127) rfl (by decide) rfl ?_
  refine x_goto (tgt := 72) dX1_hire_127 rfl ?_
  exact x_sub [3, 4, 5, 6, 7, 2, 1, 0] rfl (hK72 (y9, x11, y9 + 1) h)
theorem xl_X1_hire_72 (o c : Nat) (σ : Hp) (Q : Int64 → Prop) (G : XE) (hB : LB o c σ) (rq : RQ G 0 0 (oL (fun r σ' => σ' = σ ∧ Q r))) (x1 : Int32) (y2 : Int64) (x4 : Int32) (x5 : Int32)    : ∀ z : Int64 × Int32 × Int64, lp (lb_X1_hire_72 o c σ x1 y2 x4 x5 Q ) z → X G rm_X1_hire cX1_hire RX1 12 (some .long) σ 0 0 72 [(0, .ref o), (1, .int x1), (2, .long y2), (4, .int x4), (5, .int x5), (6, .long z.1), (8, .int z.2.1), (9, .long z.2.2)] [] := by
  intro z
  refine fun h => lp_X (P := fun z => X G rm_X1_hire cX1_hire RX1 12 (some .long) σ 0 0 72 [(0, .ref o), (1, .int x1), (2, .long y2), (4, .int x4), (5, .int x5), (6, .long z.1), (8, .int z.2.1), (9, .long z.2.2)] []) ?_ h
  intro K72 hK72 z h
  obtain ⟨y6, x8, y9⟩ := z
  simp only [lb_X1_hire_72] at h
  show X G rm_X1_hire cX1_hire RX1 12 (some .long) σ 0 0 72 [(0, .ref o), (1, .int x1), (2, .long y2), (4, .int x4), (5, .int x5), (6, .long y6), (8, .int x8), (9, .long y9)] []
  have hK72 : ∀ z : (Int64 × Int32 × Int64), K72 z → X G rm_X1_hire cX1_hire RX1 12 (some .long) σ 0 0 72 [(0, .ref o), (1, .int x1), (2, .long y2), (4, .int x4), (5, .int x5), (6, .long z.1), (8, .int z.2.1), (9, .long z.2.2)] [] := fun z h => hK72 z h
  refine x_lload dX1_hire_72 (n := 74) rfl 7 rfl ?_
  refine x_lload_n dX1_hire_74 (n := 75) rfl rfl 2 rfl ?_
  refine x_iload dX1_hire_75 (n := 77) rfl 3 rfl ?_
  refine x_i2l dX1_hire_77 (n := 78) rfl ?_
  refine x_ladd dX1_hire_78 (n := 79) rfl ?_
  refine x_lcmp_gt (tgt := 130) dX1_hire_79 (pc1 := 80) rfl dX1_hire_80 rfl (n := 83) rfl (fun c14 => ?_) (fun c14 => ?_)
  · have h := h.1 c14
    refine x_lload dX1_hire_130 (n := 132) rfl 5 rfl ?_
    exact x_lret rq ⟨rfl, h⟩ dX1_hire_132
  · have h := h.2 c14
    refine x_aload_n dX1_hire_83 (n := 84) rfl rfl 0 rfl ?_
    refine x_iload_n dX1_hire_84 (n := 85) rfl rfl 1 rfl ?_
    refine x_lload dX1_hire_85 (n := 87) rfl 7 rfl ?_
    refine x_iload dX1_hire_87 (n := 89) rfl 4 rfl ?_
    refine x_cVip (As := [.int x1, .long y9, .int x5]) (rest := []) cv_X1_343 ck1 (met_X1_ends o c σ x1 y9 x5 _ hB h) hB.1 (by decide) rfl rfl rfl dX1_hire_89 (n := 92) rfl (fun r15 h => ?_)
    refine x_istore (lvs' := [(11, .int r15), (0, .ref o), (1, .int x1), (2, .long y2), (4, .int x4), (5, .int x5), (6, .long y6), (8, .int x8), (9, .long y9)]) dX1_hire_92 (n := 94) rfl (by decide) rfl ?_
    refine x_lload dX1_hire_94 (n := 96) rfl 6 rfl ?_
    refine x_ldc2 dX1_hire_96 (n := 99) rfl q1059 ?_
    refine x_lcmp_eq (tgt := 113) dX1_hire_99 (pc1 := 100) rfl dX1_hire_100 rfl (n := 103) rfl (fun c16 => ?_) (fun c16 => ?_)
    · have h := h.1 c16
      exact x_sub [1, 2, 3, 4, 5, 8, 0] rfl (xj_X1_hire_113 o c σ Q G hB rq x1 y2 x4 x5 y9 r15 K72 hK72 h)
    · have h := h.2 c16
      refine x_iload dX1_hire_103 (n := 105) rfl 0 rfl ?_
      refine x_iload dX1_hire_105 (n := 107) rfl 7 rfl ?_
      refine x_icmp_gt (tgt := 113) dX1_hire_107 rfl (n := 110) rfl (fun c17 => ?_) (fun c17 => ?_)
      · have h := h.1 c17
        exact x_sub [1, 2, 3, 4, 5, 8, 0] rfl (xj_X1_hire_113 o c σ Q G hB rq x1 y2 x4 x5 y9 r15 K72 hK72 h)
      · have h := h.2 c17
        refine x_goto (tgt := 121) dX1_hire_110 rfl ?_
        refine x_lload dX1_hire_121 (n := 123) rfl 8 rfl ?_
        refine x_lconst dX1_hire_123 (n := 124) rfl lc_1 ?_
        refine x_ladd dX1_hire_124 (n := 125) rfl ?_
        refine x_lstore (lvs' := [(9, .long (y9 + 1)), (11, .int r15), (0, .ref o), (1, .int x1), (2, .long y2), (4, .int x4), (5, .int x5), (6, .long y6), (8, .int x8)]) dX1_hire_125 (n := 127) rfl (by decide) rfl ?_
        refine x_goto (tgt := 72) dX1_hire_127 rfl ?_
        exact x_sub [2, 3, 4, 5, 6, 7, 8, 0] rfl (hK72 (y6, x8, y9 + 1) h)
theorem met_X1_hire (o c : Nat) (σ : Hp) (x1 : Int32) (y2 : Int64) (x4 : Int32) (x5 : Int32) (Q : Int64 → Prop) (hB : LB o c σ) (h : wp_X1_hire o c σ x1 y2 x4 x5 Q) : MetX yX1_hire cX1_hire 12 (some .long) rm_X1_hire σ [.ref o, .int x1, .long y2, .int x4, .int x5] (oL (fun r σ' => σ' = σ ∧ Q r)) 0 0 := by
  refine metX_of (own := RX1) (lvs := [(0, .ref o), (1, .int x1), (2, .long y2), (4, .int x4), (5, .int x5)]) (by decide) rfl (Nat.le_of_ble_eq_true rfl) rfl (fun G rq => ?_)
  unfold wp_X1_hire at h
  refine x_aload_n dX1_hire_0 (n := 1) rfl rfl 0 rfl ?_
  refine x_iload_n dX1_hire_1 (n := 2) rfl rfl 1 rfl ?_
  obtain ⟨b1, h⟩ := h
  refine x_cVip (As := [.int x1]) (rest := []) cv_X1_171 ck1 (met_X1_isLand o c σ x1 hB b1) hB.1 (by decide) rfl rfl rfl dX1_hire_2 (n := 5) rfl (fun r2 q => ?_)
  subst q
  refine x_if_eq (tgt := 57) dX1_hire_5 rfl (n := 8) rfl (fun c3 => ?_) (fun c3 => ?_)
  · have h := h.1 c3
    refine x_ldc2 dX1_hire_57 (n := 60) rfl q1059 ?_
    exact x_lret rq ⟨rfl, h⟩ dX1_hire_60
  · have h := h.2 c3
    refine x_lload_n dX1_hire_8 (n := 9) rfl rfl 2 rfl ?_
    obtain ⟨b4, h⟩ := h
    refine x_cSip (As := [.long y2]) (rest := []) cs_X1_209 (met_X1_isCount σ y2  b4) (by decide) rfl rfl rfl dX1_hire_9 (n := 12) rfl (fun r5 q => ?_)
    subst q
    refine x_if_eq (tgt := 57) dX1_hire_12 rfl (n := 15) rfl (fun c6 => ?_) (fun c6 => ?_)
    · have h := h.1 c6
      refine x_ldc2 dX1_hire_57 (n := 60) rfl q1059 ?_
      exact x_lret rq ⟨rfl, h⟩ dX1_hire_60
    · have h := h.2 c6
      refine x_iload dX1_hire_15 (n := 17) rfl 3 rfl ?_
      refine x_i2l dX1_hire_17 (n := 18) rfl ?_
      refine x_lconst dX1_hire_18 (n := 19) rfl lc_0 ?_
      refine x_ldc2 dX1_hire_19 (n := 22) rfl q1298 ?_
      refine x_cSip (As := [.long x4.toInt64, .long 0, .long 999]) (rest := []) cs_X1_96 (met_X1_in σ x4.toInt64 0 999 ) (by decide) rfl rfl rfl dX1_hire_22 (n := 25) rfl (fun r8 q => ?_)
      subst q
      refine x_if_eq (tgt := 57) dX1_hire_25 rfl (n := 28) rfl (fun c9 => ?_) (fun c9 => ?_)
      · have h := h.1 c9
        refine x_ldc2 dX1_hire_57 (n := 60) rfl q1059 ?_
        exact x_lret rq ⟨rfl, h⟩ dX1_hire_60
      · have h := h.2 c9
        refine x_iload dX1_hire_28 (n := 30) rfl 4 rfl ?_
        refine x_i2l dX1_hire_30 (n := 31) rfl ?_
        refine x_lconst dX1_hire_31 (n := 32) rfl lc_1 ?_
        refine x_ldc2 dX1_hire_32 (n := 35) rfl q1252 ?_
        refine x_cSip (As := [.long x5.toInt64, .long 1, .long 99999]) (rest := []) cs_X1_96 (met_X1_in σ x5.toInt64 1 99999 ) (by decide) rfl rfl rfl dX1_hire_35 (n := 38) rfl (fun r11 q => ?_)
        subst q
        refine x_if_eq (tgt := 57) dX1_hire_38 rfl (n := 41) rfl (fun c12 => ?_) (fun c12 => ?_)
        · have h := h.1 c12
          refine x_ldc2 dX1_hire_57 (n := 60) rfl q1059 ?_
          exact x_lret rq ⟨rfl, h⟩ dX1_hire_60
        · have h := h.2 c12
          refine x_lload_n dX1_hire_41 (n := 42) rfl rfl 2 rfl ?_
          refine x_iload dX1_hire_42 (n := 44) rfl 3 rfl ?_
          refine x_i2l dX1_hire_44 (n := 45) rfl ?_
          refine x_ladd dX1_hire_45 (n := 46) rfl ?_
          refine x_iload dX1_hire_46 (n := 48) rfl 4 rfl ?_
          refine x_i2l dX1_hire_48 (n := 49) rfl ?_
          refine x_ladd dX1_hire_49 (n := 50) rfl ?_
          refine x_ldc2 dX1_hire_50 (n := 53) rfl q1067 ?_
          refine x_lcmp_le (tgt := 61) dX1_hire_53 (pc1 := 54) rfl dX1_hire_54 rfl (n := 57) rfl (fun c13 => ?_) (fun c13 => ?_)
          · have h := h.1 c13
            refine x_ldc2 dX1_hire_61 (n := 64) rfl q1059 ?_
            refine x_lstore (lvs' := [(6, .long (-1)), (0, .ref o), (1, .int x1), (2, .long y2), (4, .int x4), (5, .int x5)]) dX1_hire_64 (n := 66) rfl (by decide) rfl ?_
            refine x_iconst dX1_hire_66 (n := 67) rfl ic_0 ?_
            refine x_istore (lvs' := [(8, .int 0), (6, .long (-1)), (0, .ref o), (1, .int x1), (2, .long y2), (4, .int x4), (5, .int x5)]) dX1_hire_67 (n := 69) rfl (by decide) rfl ?_
            refine x_lload_n dX1_hire_69 (n := 70) rfl rfl 4 rfl ?_
            refine x_lstore (lvs' := [(9, .long y2), (8, .int 0), (6, .long (-1)), (0, .ref o), (1, .int x1), (2, .long y2), (4, .int x4), (5, .int x5)]) dX1_hire_70 (n := 72) rfl (by decide) rfl ?_
            exact x_sub [3, 4, 5, 6, 7, 2, 1, 0] rfl (xl_X1_hire_72 o c σ Q G hB rq x1 y2 x4 x5 ((-1), 0, y2) h)
          · have h := h.2 c13
            refine x_ldc2 dX1_hire_57 (n := 60) rfl q1059 ?_
            exact x_lret rq ⟨rfl, h⟩ dX1_hire_60
