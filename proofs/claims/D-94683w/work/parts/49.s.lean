set_option maxRecDepth 100000
theorem nar_char (x : Int32) : narrow .char (.int ((x.toUInt32 % 65536).toInt32)) = .int ((x.toUInt32 % 65536).toInt32) := by
  show Value.int _ = Value.int _
  congr 1
  have h1 : ∀ y : UInt32, y.toInt32.toUInt32 = y := fun y => rfl
  rw [h1]
  congr 1
  apply UInt32.toNat_inj.mp
  simp
abbrev rm_J5_checkIndexR : Room := { frames := 0, cells := 0, slots := 0, locals := 0 }
def f_J5_checkIndexR (x0 : Int32) (x1 : Int32) (a2 : Nat) : Int32 := if x0 < 0 then 0 else if x0 < x1 then x0 else 0
def ok_J5_checkIndexR (x0 : Int32) (x1 : Int32) (a2 : Nat) : Prop := (x0 < 0 → False) ∧ (¬ x0 < 0 → ((x0 < x1 → True) ∧ (¬ x0 < x1 → False)))
theorem met_J5_checkIndexR (σ : Hp) (x0 : Int32) (x1 : Int32) (a2 : Nat) (hk : ok_J5_checkIndexR x0 x1 a2) : MetX yJ5_checkIndex cJ5_checkIndex 3 (some .int) rm_J5_checkIndexR σ [.int x0, .int x1, .ref a2] (oI (fun r σ' => σ' = σ ∧ r = (f_J5_checkIndexR x0 x1 a2))) 0 0 := by
  refine metX_of (own := RJ5) (lvs := [(0, .int x0), (1, .int x1), (2, .ref a2)]) (by decide) rfl (Nat.le_of_ble_eq_true rfl) rfl (fun G rq => ?_)
  have hv : (f_J5_checkIndexR x0 x1 a2) = _ := f_J5_checkIndexR.eq_1 _ _ _
  unfold ok_J5_checkIndexR at hk
  refine x_iload_n dJ5_checkIndex_0 (n := 1) rfl rfl 0 rfl ?_
  refine x_if_lt (tgt := 9) dJ5_checkIndex_1 rfl (n := 4) rfl (fun c1 => ?_) (fun c1 => ?_)
  · have hk := hk.1 c1
    have hv := hv.trans (if_pos c1)
    exact hk.elim
  · have hk := hk.2 c1
    have hv := hv.trans (if_neg c1)
    refine x_iload_n dJ5_checkIndex_4 (n := 5) rfl rfl 0 rfl ?_
    refine x_iload_n dJ5_checkIndex_5 (n := 6) rfl rfl 1 rfl ?_
    refine x_icmp_lt (tgt := 16) dJ5_checkIndex_6 rfl (n := 9) rfl (fun c2 => ?_) (fun c2 => ?_)
    · have hk := hk.1 c2
      have hv := hv.trans (if_pos c2)
      refine x_iload_n dJ5_checkIndex_16 (n := 17) rfl rfl 0 rfl ?_
      exact x_iret rq ⟨rfl, hv.symm⟩ dJ5_checkIndex_17
    · have hk := hk.2 c2
      have hv := hv.trans (if_neg c2)
      exact hk.elim
theorem met_J5_checkIndexQ (σ : Hp) (x0 : Int32) (x1 : Int32) (r0 : Option Nat) (hk : ok_J5_checkIndex x0 x1) : MetX yJ5_checkIndex cJ5_checkIndex 3 (some .int) rm_J5_checkIndex σ [.int x0, .int x1, va_rf r0] (oI (fun r σ' => σ' = σ ∧ r = (f_J5_checkIndex x0 x1))) 0 0 := by
  cases r0 with
  | none => exact met_J5_checkIndex σ x0 x1 hk
  | some a => exact met_J5_checkIndexR σ x0 x1 a hk
abbrev rm_J3_checkIndex : Room := { frames := 1, cells := 0, slots := 0, locals := 22 }
theorem met_J3_checkIndex (σ : Hp) (x0 : Int32) (x1 : Int32) (hk : ok_J5_checkIndex x0 x1) : MetX yJ3_checkIndex cJ3_checkIndex 2 none rm_J3_checkIndex σ [.int x0, .int x1] (oV (fun σ' => SH σ σ' ∧ σ' = σ)) 0 0 := by
  refine metX_of (own := RJ3) (lvs := [(0, .int x0), (1, .int x1)]) (by decide) rfl (Nat.le_of_ble_eq_true rfl) rfl (fun G rq => ?_)
  refine x_iload_n dJ3_checkIndex_0 (n := 1) rfl rfl 0 rfl ?_
  refine x_iload_n dJ3_checkIndex_1 (n := 2) rfl rfl 1 rfl ?_
  refine x_getsq q487 q488 q141 (by decide +kernel) dJ3_checkIndex_2 (n := 5) rfl (fun r0 => ?_)
  refine x_cSip (As := [.int x0, .int x1, va_rf r0]) (rest := []) cs_J3_1059 (met_J5_checkIndexQ σ x0 x1 r0 hk) (by decide) rfl rfl rfl dJ3_checkIndex_5 (n := 8) rfl (fun r2 q => ?_)
  subst q
  refine x_pop dJ3_checkIndex_8 (n := 9) rfl rfl ?_
  exact x_vret rq ⟨SH.rf, rfl⟩ dJ3_checkIndex_9

abbrev rm_J3_coder : Room := { frames := 0, cells := 0, slots := 0, locals := 0 }
def f_J3_coder (bs : List Int32) : Int32 := 0
theorem met_J3_coder (σ : Hp) (bs : List Int32)  (q : Nat) : MetZ yJ3_coder cJ3_coder 1 (some .byte) rm_J3_coder σ (STR bs q) [.ref q] (oI (fun r σ' => σ' = σ ∧ r = (f_J3_coder bs))) := by
  refine metZ_of (own := RJ3) (lvs := [(0, .ref q)]) (by decide +kernel) rfl (Nat.le_of_ble_eq_true rfl) rfl (fun G rq hZ => ?_)
  have hv : (f_J3_coder bs) = _ := f_J3_coder.eq_1 _
  refine x_compact q471 dJ3_coder_0 (n := 3) rfl ?_
  refine x_if_eq (tgt := 13) dJ3_coder_3 rfl (n := 6) rfl (fun q => absurd q (by decide)) (fun _ => ?_)
  refine x_aload_n dJ3_coder_6 (n := 7) rfl rfl 0 rfl ?_
  obtain ⟨v1, k1, k2, k3, k4⟩ := hZ
  refine x_getK k2 q2277 dJ3_coder_7 (n := 10) rfl ?_
  have hZ : STR bs q G.2.2.2.2.2.2.2.2.2.1 G.2.2.2.1 := ⟨v1, k1, k2, k3, k4⟩
  refine x_goto (tgt := 14) dJ3_coder_10 rfl ?_
  exact x_cret rq ⟨rfl, hv.symm⟩ (by decide) dJ3_coder_14
abbrev rm_J3_isLatin1 : Room := { frames := 0, cells := 0, slots := 0, locals := 0 }
def f_J3_isLatin1 (bs : List Int32) : Int32 := 1
theorem met_J3_isLatin1 (σ : Hp) (bs : List Int32)  (q : Nat) : MetZ yJ3_isLatin1 cJ3_isLatin1 1 (some .boolean) rm_J3_isLatin1 σ (STR bs q) [.ref q] (oI (fun r σ' => σ' = σ ∧ r = (f_J3_isLatin1 bs))) := by
  refine metZ_of (own := RJ3) (lvs := [(0, .ref q)]) (by decide +kernel) rfl (Nat.le_of_ble_eq_true rfl) rfl (fun G rq hZ => ?_)
  have hv : (f_J3_isLatin1 bs) = _ := f_J3_isLatin1.eq_1 _
  refine x_compact q471 dJ3_isLatin1_0 (n := 3) rfl ?_
  refine x_if_eq (tgt := 17) dJ3_isLatin1_3 rfl (n := 6) rfl (fun q => absurd q (by decide)) (fun _ => ?_)
  refine x_aload_n dJ3_isLatin1_6 (n := 7) rfl rfl 0 rfl ?_
  obtain ⟨v1, k1, k2, k3, k4⟩ := hZ
  refine x_getK k2 q2277 dJ3_isLatin1_7 (n := 10) rfl ?_
  have hZ : STR bs q G.2.2.2.2.2.2.2.2.2.1 G.2.2.2.1 := ⟨v1, k1, k2, k3, k4⟩
  refine x_if_ne (tgt := 17) dJ3_isLatin1_10 rfl (n := 13) rfl (fun q => absurd q (by decide)) (fun _ => ?_)
  refine x_iconst dJ3_isLatin1_13 (n := 14) rfl ic_1 ?_
  refine x_goto (tgt := 18) dJ3_isLatin1_14 rfl ?_
  exact x_zret rq ⟨rfl, hv.symm⟩ isB1 dJ3_isLatin1_18
abbrev rm_J3_length : Room := { frames := 1, cells := 0, slots := 0, locals := 20 }
def f_J3_length (bs : List Int32) : Int32 := (Int32.ofNat bs.length) >>> ((f_J3_coder bs) &&& 31)
theorem met_J3_length (σ : Hp) (bs : List Int32)  (q : Nat) : MetZ yJ3_length cJ3_length 1 (some .int) rm_J3_length σ (STR bs q) [.ref q] (oI (fun r σ' => σ' = σ ∧ r = (f_J3_length bs))) := by
  refine metZ_of (own := RJ3) (lvs := [(0, .ref q)]) (by decide +kernel) rfl (Nat.le_of_ble_eq_true rfl) rfl (fun G rq hZ => ?_)
  have hv : (f_J3_length bs) = _ := f_J3_length.eq_1 _
  refine x_aload_n dJ3_length_0 (n := 1) rfl rfl 0 rfl ?_
  obtain ⟨v1, k1, k2, k3, hv1⟩ := hZ
  refine x_getK k3 q2276 dJ3_length_1 (n := 4) rfl ?_
  have hZ : STR bs q G.2.2.2.2.2.2.2.2.2.1 G.2.2.2.1 := ⟨v1, k1, k2, k3, hv1⟩
  refine x_tlen hv1 rfl dJ3_length_4 (n := 5) rfl ?_
  refine x_aload_n dJ3_length_5 (n := 6) rfl rfl 0 rfl ?_
  refine x_cVZ (As := []) (rest := [.int (Int32.ofNat bs.length)]) cv_J3_335 (met_J3_coder σ bs q ) STR.zs hZ (by obtain ⟨_, k1, -⟩ := hZ; exact k1) (by decide) rfl rfl rfl dJ3_length_6 (n := 9) rfl (fun r3 q => ?_)
  subst q
  refine x_ishr dJ3_length_9 (n := 10) rfl ?_
  exact x_iret rq ⟨rfl, hv.symm⟩ dJ3_length_10
abbrev rm_J4_charAt : Room := { frames := 2, cells := 0, slots := 0, locals := 43 }
def f_J4_charAt (bs : List Int32) (x1 : Int32) : Int32 := (((bs.getD x1.toNatClampNeg 0) &&& 255).toUInt32 % 65536).toInt32
def ok_J4_charAt (bs : List Int32) (x1 : Int32) : Prop := (ok_J5_checkIndex x1 (Int32.ofNat bs.length)) ∧ (vp_in x1 bs.length)
theorem met_J4_charAt (σ : Hp) (bs : List Int32) (x1 : Int32) (q : Nat) (hk : ok_J4_charAt bs x1) : MetZ yJ4_charAt cJ4_charAt 2 (some .char) rm_J4_charAt σ (BYT bs q) [.ref q, .int x1] (oI (fun r σ' => σ' = σ ∧ r = (f_J4_charAt bs x1))) := by
  refine metZ_of (own := RJ4) (lvs := [(0, .ref q), (1, .int x1)]) (by decide +kernel) rfl (Nat.le_of_ble_eq_true rfl) rfl (fun G rq hZ => ?_)
  have hv : (f_J4_charAt bs x1) = _ := f_J4_charAt.eq_1 _ _
  unfold ok_J4_charAt at hk
  refine x_iload_n dJ4_charAt_0 (n := 1) rfl rfl 1 rfl ?_
  refine x_aload_n dJ4_charAt_1 (n := 2) rfl rfl 0 rfl ?_
  refine x_tlen hZ rfl dJ4_charAt_2 (n := 3) rfl ?_
  obtain ⟨b1, hk⟩ := hk
  refine x_cSvm (As := [.int x1, .int (Int32.ofNat bs.length)]) (rest := []) cs_J4_9 (met_J3_checkIndex σ x1 (Int32.ofNat bs.length) b1) (by decide) rfl rfl rfl dJ4_charAt_3 (n := 6) rfl (fun s1 _ e => ?_)
  have e := e.symm
  subst e
  refine x_aload_n dJ4_charAt_6 (n := 7) rfl rfl 0 rfl ?_
  refine x_iload_n dJ4_charAt_7 (n := 8) rfl rfl 1 rfl ?_
  have b3 := hk
  refine x_tb hZ b3 rfl dJ4_charAt_8 (n := 9) rfl ?_
  refine x_sipush dJ4_charAt_9 (n := 12) rfl sp_255 ?_
  refine x_iand dJ4_charAt_12 (n := 13) rfl ?_
  refine x_i2c dJ4_charAt_13 (n := 14) rfl ?_
  exact x_cret rq ⟨rfl, hv.symm⟩ (nar_char _) dJ4_charAt_14
abbrev rm_J3_charAt : Room := { frames := 3, cells := 0, slots := 0, locals := 64 }
def f_J3_charAt (bs : List Int32) (x1 : Int32) : Int32 := if (f_J3_isLatin1 bs) = 0 then 0 else f_J4_charAt bs x1
def ok_J3_charAt (bs : List Int32) (x1 : Int32) : Prop := ((f_J3_isLatin1 bs) = 0 → False) ∧ (¬ (f_J3_isLatin1 bs) = 0 → (ok_J4_charAt bs x1))
theorem met_J3_charAt (σ : Hp) (bs : List Int32) (x1 : Int32) (q : Nat) (hk : ok_J3_charAt bs x1) : MetZ yJ3_charAt cJ3_charAt 2 (some .char) rm_J3_charAt σ (STR bs q) [.ref q, .int x1] (oI (fun r σ' => σ' = σ ∧ r = (f_J3_charAt bs x1))) := by
  refine metZ_of (own := RJ3) (lvs := [(0, .ref q), (1, .int x1)]) (by decide +kernel) rfl (Nat.le_of_ble_eq_true rfl) rfl (fun G rq hZ => ?_)
  have hv : (f_J3_charAt bs x1) = _ := f_J3_charAt.eq_1 _ _
  unfold ok_J3_charAt at hk
  refine x_aload_n dJ3_charAt_0 (n := 1) rfl rfl 0 rfl ?_
  refine x_cVZ (As := []) (rest := []) cv_J3_492 (met_J3_isLatin1 σ bs q ) STR.zs hZ (by obtain ⟨_, k1, -⟩ := hZ; exact k1) (by decide) rfl rfl rfl dJ3_charAt_1 (n := 4) rfl (fun r2 q => ?_)
  subst q
  refine x_if_eq (tgt := 16) dJ3_charAt_4 rfl (n := 7) rfl (fun c3 => ?_) (fun c3 => ?_)
  · have hk := hk.1 c3
    have hv := hv.trans (if_pos c3)
    exact hk.elim
  · have hk := hk.2 c3
    have hv := hv.trans (if_neg c3)
    refine x_aload_n dJ3_charAt_7 (n := 8) rfl rfl 0 rfl ?_
    obtain ⟨v4, k1, k2, k3, hv4⟩ := hZ
    refine x_getK k3 q2276 dJ3_charAt_8 (n := 11) rfl ?_
    have hZ : STR bs q G.2.2.2.2.2.2.2.2.2.1 G.2.2.2.1 := ⟨v4, k1, k2, k3, hv4⟩
    refine x_iload_n dJ3_charAt_11 (n := 12) rfl rfl 1 rfl ?_
    have b5 := hk
    refine x_cSZ (As := [.ref v4, .int x1]) (rest := []) cs_J3_495 (met_J4_charAt σ bs x1 v4 b5) BYT.zs hv4 (by decide) rfl rfl rfl dJ3_charAt_12 (n := 15) rfl (fun r6 q => ?_)
    subst q
    exact x_cret rq ⟨rfl, hv.symm⟩ (nar_char _) dJ3_charAt_15
abbrev rm_J4_canEncode : Room := { frames := 0, cells := 0, slots := 0, locals := 0 }
def f_J4_canEncode (x0 : Int32) : Int32 := if x0 < 0 then 0 else if 255 < x0 then 0 else 1
theorem met_J4_canEncode (σ : Hp) (x0 : Int32)  : MetX yJ4_canEncode cJ4_canEncode 1 (some .boolean) rm_J4_canEncode σ [.int x0] (oI (fun r σ' => σ' = σ ∧ r = (f_J4_canEncode x0))) 0 0 := by
  refine metX_of (own := RJ4) (lvs := [(0, .int x0)]) (by decide) rfl (Nat.le_of_ble_eq_true rfl) rfl (fun G rq => ?_)
  have hv : (f_J4_canEncode x0) = _ := f_J4_canEncode.eq_1 _
  refine x_iload_n dJ4_canEncode_0 (n := 1) rfl rfl 0 rfl ?_
  refine x_if_lt (tgt := 15) dJ4_canEncode_1 rfl (n := 4) rfl (fun c1 => ?_) (fun c1 => ?_)
  · have hv := hv.trans (if_pos c1)
    refine x_iconst dJ4_canEncode_15 (n := 16) rfl ic_0 ?_
    exact x_zret rq ⟨rfl, hv.symm⟩ isB0 dJ4_canEncode_16
  · have hv := hv.trans (if_neg c1)
    refine x_iload_n dJ4_canEncode_4 (n := 5) rfl rfl 0 rfl ?_
    refine x_sipush dJ4_canEncode_5 (n := 8) rfl sp_255 ?_
    refine x_icmp_gt (tgt := 15) dJ4_canEncode_8 rfl (n := 11) rfl (fun c2 => ?_) (fun c2 => ?_)
    · have hv := hv.trans (if_pos c2)
      refine x_iconst dJ4_canEncode_15 (n := 16) rfl ic_0 ?_
      exact x_zret rq ⟨rfl, hv.symm⟩ isB0 dJ4_canEncode_16
    · have hv := hv.trans (if_neg c2)
      refine x_iconst dJ4_canEncode_11 (n := 12) rfl ic_1 ?_
      refine x_goto (tgt := 16) dJ4_canEncode_12 rfl ?_
      exact x_zret rq ⟨rfl, hv.symm⟩ isB1 dJ4_canEncode_16
abbrev rm_J4_indexOfChar : Room := { frames := 0, cells := 0, slots := 0, locals := 0 }
def lb_J4_indexOfChar_7 (bs : List Int32) (x3 : Int32) (x4 : Int32) (Q : Int32 → Prop)  (K7 : Int32 → Prop) (x5 : Int32) : Prop := (x3 ≤ x5 → Q (-1)) ∧ (¬ x3 ≤ x5 → (vp_in x5 bs.length) ∧ (((bs.getD x5.toNatClampNeg 0) = x4 → Q x5) ∧ (¬ (bs.getD x5.toNatClampNeg 0) = x4 → K7 (x5 + 1))))
def wp_J4_indexOfChar (bs : List Int32) (x1 : Int32) (x2 : Int32) (x3 : Int32) (Q : Int32 → Prop) : Prop := lp (lb_J4_indexOfChar_7 bs x3 x1.toInt8.toInt32 Q) x2
theorem xl_J4_indexOfChar_7 (σ : Hp) (bs : List Int32) (q : Nat) (Q : Int32 → Prop) (G : XE) (hZ : BYT bs q G.2.2.2.2.2.2.2.2.2.1 G.2.2.2.1) (rq : RQ G 0 0 (oI (fun r σ' => σ' = σ ∧ Q r))) (x3 : Int32) (x4 : Int32)    : ∀ z : Int32, lp (lb_J4_indexOfChar_7 bs x3 x4 Q ) z → X G rm_J4_indexOfChar cJ4_indexOfChar RJ4 6 (some .int) σ 0 0 7 [(0, .ref q), (3, .int x3), (4, .int x4), (5, .int z)] [] := by
  intro z
  refine fun h => lp_X (P := fun z => X G rm_J4_indexOfChar cJ4_indexOfChar RJ4 6 (some .int) σ 0 0 7 [(0, .ref q), (3, .int x3), (4, .int x4), (5, .int z)] []) ?_ h
  intro K7 hK7 x5 h
  simp only [lb_J4_indexOfChar_7] at h
  show X G rm_J4_indexOfChar cJ4_indexOfChar RJ4 6 (some .int) σ 0 0 7 [(0, .ref q), (3, .int x3), (4, .int x4), (5, .int x5)] []
  have hK7 : ∀ z : (Int32), K7 z → X G rm_J4_indexOfChar cJ4_indexOfChar RJ4 6 (some .int) σ 0 0 7 [(0, .ref q), (3, .int x3), (4, .int x4), (5, .int z)] [] := fun z h => hK7 z h
  refine x_iload dJ4_indexOfChar_7 (n := 9) rfl 3 rfl ?_
  refine x_iload_n dJ4_indexOfChar_9 (n := 10) rfl rfl 1 rfl ?_
  refine x_icmp_ge (tgt := 31) dJ4_indexOfChar_10 rfl (n := 13) rfl (fun c1 => ?_) (fun c1 => ?_)
  · have h := h.1 c1
    refine x_iconst dJ4_indexOfChar_31 (n := 32) rfl ic_m1 ?_
    exact x_iret rq ⟨rfl, h⟩ dJ4_indexOfChar_32
  · have h := h.2 c1
    refine x_aload_n dJ4_indexOfChar_13 (n := 14) rfl rfl 0 rfl ?_
    refine x_iload dJ4_indexOfChar_14 (n := 16) rfl 3 rfl ?_
    obtain ⟨b2, h⟩ := h
    refine x_tb hZ b2 rfl dJ4_indexOfChar_16 (n := 17) rfl ?_
    refine x_iload dJ4_indexOfChar_17 (n := 19) rfl 2 rfl ?_
    refine x_icmp_ne (tgt := 25) dJ4_indexOfChar_19 rfl (n := 22) rfl (fun c3 => ?_) (fun c3 => ?_)
    · have h := h.2 c3
      refine x_iinc (v := x5 + 1) (lvs' := [(5, .int (x5 + 1)), (0, .ref q), (3, .int x3), (4, .int x4)]) dJ4_indexOfChar_25 (n := 28) rfl 3 rfl rfl (by decide) rfl ?_
      refine x_goto (tgt := 7) dJ4_indexOfChar_28 rfl ?_
      exact x_sub [1, 2, 3, 0] rfl (hK7 (x5 + 1) h)
    · have h := h.1 c3
      refine x_iload dJ4_indexOfChar_22 (n := 24) rfl 3 rfl ?_
      exact x_iret rq ⟨rfl, h⟩ dJ4_indexOfChar_24
theorem met_J4_indexOfChar (σ : Hp) (bs : List Int32) (x1 : Int32) (x2 : Int32) (x3 : Int32) (q : Nat) (Q : Int32 → Prop)  (h : wp_J4_indexOfChar bs x1 x2 x3 Q) : MetZ yJ4_indexOfChar cJ4_indexOfChar 6 (some .int) rm_J4_indexOfChar σ (BYT bs q) [.ref q, .int x1, .int x2, .int x3] (oI (fun r σ' => σ' = σ ∧ Q r)) := by
  refine metZ_of (own := RJ4) (lvs := [(0, .ref q), (1, .int x1), (2, .int x2), (3, .int x3)]) (by decide +kernel) rfl (Nat.le_of_ble_eq_true rfl) rfl (fun G rq hZ => ?_)
  unfold wp_J4_indexOfChar at h
  refine x_iload_n dJ4_indexOfChar_0 (n := 1) rfl rfl 1 rfl ?_
  refine x_i2b dJ4_indexOfChar_1 (n := 2) rfl ?_
  refine x_istore (lvs' := [(4, .int x1.toInt8.toInt32), (0, .ref q), (1, .int x1), (2, .int x2), (3, .int x3)]) dJ4_indexOfChar_2 (n := 4) rfl (by decide) rfl ?_
  refine x_iload_n dJ4_indexOfChar_4 (n := 5) rfl rfl 3 rfl ?_
  refine x_istore (lvs' := [(5, .int x2), (4, .int x1.toInt8.toInt32), (0, .ref q), (1, .int x1), (2, .int x2), (3, .int x3)]) dJ4_indexOfChar_5 (n := 7) rfl (by decide) rfl ?_
  exact x_sub [2, 5, 1, 0] rfl (xl_J4_indexOfChar_7 σ bs q Q G hZ rq x3 x1.toInt8.toInt32 x2 h)
abbrev rm_J4_indexOf : Room := { frames := 1, cells := 0, slots := 0, locals := 25 }
def wp_J4_indexOf (bs : List Int32) (x1 : Int32) (x2 : Int32) (x3 : Int32) (Q : Int32 → Prop) : Prop := ((f_J4_canEncode x1) = 0 → Q (-1)) ∧ (¬ (f_J4_canEncode x1) = 0 → ∀ v8 : Int32, v8 = f_J7_min x3 (Int32.ofNat bs.length) → ((f_J7_max x2 0) < v8 → wp_J4_indexOfChar bs x1 (f_J7_max x2 0) v8 (fun r12 => Q r12)) ∧ (¬ (f_J7_max x2 0) < v8 → Q (-1)))
theorem met_J4_indexOf (σ : Hp) (bs : List Int32) (x1 : Int32) (x2 : Int32) (x3 : Int32) (q : Nat) (Q : Int32 → Prop)  (h : wp_J4_indexOf bs x1 x2 x3 Q) : MetZ yJ4_indexOf cJ4_indexOf 4 (some .int) rm_J4_indexOf σ (BYT bs q) [.ref q, .int x1, .int x2, .int x3] (oI (fun r σ' => σ' = σ ∧ Q r)) := by
  refine metZ_of (own := RJ4) (lvs := [(0, .ref q), (1, .int x1), (2, .int x2), (3, .int x3)]) (by decide +kernel) rfl (Nat.le_of_ble_eq_true rfl) rfl (fun G rq hZ => ?_)
  unfold wp_J4_indexOf at h
  refine x_iload_n dJ4_indexOf_0 (n := 1) rfl rfl 1 rfl ?_
  refine x_cSip (As := [.int x1]) (rest := []) cs_J4_88 (met_J4_canEncode σ x1 ) (by decide) rfl rfl rfl dJ4_indexOf_1 (n := 4) rfl (fun r2 q => ?_)
  subst q
  refine x_if_ne (tgt := 9) dJ4_indexOf_4 rfl (n := 7) rfl (fun c3 => ?_) (fun c3 => ?_)
  · have h := h.2 c3
    refine x_iload_n dJ4_indexOf_9 (n := 10) rfl rfl 2 rfl ?_
    refine x_iconst dJ4_indexOf_10 (n := 11) rfl ic_0 ?_
    refine x_cSip (As := [.int x2, .int 0]) (rest := []) cs_J4_92 (met_J7_max σ x2 0 ) (by decide) rfl rfl rfl dJ4_indexOf_11 (n := 14) rfl (fun r5 q => ?_)
    subst q
    refine x_istore_n (lvs' := [(2, .int (f_J7_max x2 0)), (0, .ref q), (1, .int x1), (3, .int x3)]) dJ4_indexOf_14 (n := 15) rfl rfl (by decide) rfl ?_
    refine x_iload_n dJ4_indexOf_15 (n := 16) rfl rfl 3 rfl ?_
    refine x_aload_n dJ4_indexOf_16 (n := 17) rfl rfl 1 rfl ?_
    refine x_tlen hZ rfl dJ4_indexOf_17 (n := 18) rfl ?_
    refine x_cSip (As := [.int x3, .int (Int32.ofNat bs.length)]) (rest := []) cs_J4_38 (met_J7_min σ x3 (Int32.ofNat bs.length) ) (by decide) rfl rfl rfl dJ4_indexOf_18 (n := 21) rfl (fun r7 q => ?_)
    subst q
    refine x_topi (fun v8 e9 => ?_)
    have h := h v8 e9
    refine x_istore_n (lvs' := [(3, .int v8), (2, .int (f_J7_max x2 0)), (0, .ref q), (1, .int x1)]) dJ4_indexOf_21 (n := 22) rfl rfl (by decide) rfl ?_
    refine x_iload_n dJ4_indexOf_22 (n := 23) rfl rfl 1 rfl ?_
    refine x_iload_n dJ4_indexOf_23 (n := 24) rfl rfl 0 rfl ?_
    refine x_icmp_lt (tgt := 29) dJ4_indexOf_24 rfl (n := 27) rfl (fun c10 => ?_) (fun c10 => ?_)
    · have h := h.1 c10
      refine x_aload_n dJ4_indexOf_29 (n := 30) rfl rfl 2 rfl ?_
      refine x_iload_n dJ4_indexOf_30 (n := 31) rfl rfl 3 rfl ?_
      refine x_iload_n dJ4_indexOf_31 (n := 32) rfl rfl 1 rfl ?_
      refine x_iload_n dJ4_indexOf_32 (n := 33) rfl rfl 0 rfl ?_
      refine x_cSZ (As := [.ref q, .int x1, .int (f_J7_max x2 0), .int v8]) (rest := []) cs_J4_95 (met_J4_indexOfChar σ bs x1 (f_J7_max x2 0) v8 q _ h) BYT.zs hZ (by decide) rfl rfl rfl dJ4_indexOf_33 (n := 36) rfl (fun r12 h => ?_)
      exact x_iret rq ⟨rfl, h⟩ dJ4_indexOf_36
    · have h := h.2 c10
      refine x_iconst dJ4_indexOf_27 (n := 28) rfl ic_m1 ?_
      exact x_iret rq ⟨rfl, h⟩ dJ4_indexOf_28
  · have h := h.1 c3
    refine x_iconst dJ4_indexOf_7 (n := 8) rfl ic_m1 ?_
    exact x_iret rq ⟨rfl, h⟩ dJ4_indexOf_8
abbrev rm_J3_indexOf_2 : Room := { frames := 2, cells := 0, slots := 0, locals := 48 }
def wp_J3_indexOf_2 (bs : List Int32) (x1 : Int32) (x2 : Int32) (Q : Int32 → Prop) : Prop := ((f_J3_isLatin1 bs) = 0 → False) ∧ (¬ (f_J3_isLatin1 bs) = 0 → wp_J4_indexOf bs x1 x2 (f_J3_length bs) (fun r8 => Q r8))
theorem met_J3_indexOf_2 (σ : Hp) (bs : List Int32) (x1 : Int32) (x2 : Int32) (q : Nat) (Q : Int32 → Prop)  (h : wp_J3_indexOf_2 bs x1 x2 Q) : MetZ yJ3_indexOf_2 cJ3_indexOf_2 3 (some .int) rm_J3_indexOf_2 σ (STR bs q) [.ref q, .int x1, .int x2] (oI (fun r σ' => σ' = σ ∧ Q r)) := by
  refine metZ_of (own := RJ3) (lvs := [(0, .ref q), (1, .int x1), (2, .int x2)]) (by decide +kernel) rfl (Nat.le_of_ble_eq_true rfl) rfl (fun G rq hZ => ?_)
  unfold wp_J3_indexOf_2 at h
  refine x_aload_n dJ3_indexOf_2_0 (n := 1) rfl rfl 0 rfl ?_
  refine x_cVZ (As := []) (rest := []) cv_J3_492 (met_J3_isLatin1 σ bs q ) STR.zs hZ (by obtain ⟨_, k1, -⟩ := hZ; exact k1) (by decide) rfl rfl rfl dJ3_indexOf_2_1 (n := 4) rfl (fun r2 q => ?_)
  subst q
  refine x_if_eq (tgt := 23) dJ3_indexOf_2_4 rfl (n := 7) rfl (fun c3 => ?_) (fun c3 => ?_)
  · have h := h.1 c3
    exact h.elim
  · have h := h.2 c3
    refine x_aload_n dJ3_indexOf_2_7 (n := 8) rfl rfl 0 rfl ?_
    obtain ⟨v4, k1, k2, k3, hv4⟩ := hZ
    refine x_getK k3 q2276 dJ3_indexOf_2_8 (n := 11) rfl ?_
    have hZ : STR bs q G.2.2.2.2.2.2.2.2.2.1 G.2.2.2.1 := ⟨v4, k1, k2, k3, hv4⟩
    refine x_iload_n dJ3_indexOf_2_11 (n := 12) rfl rfl 1 rfl ?_
    refine x_iload_n dJ3_indexOf_2_12 (n := 13) rfl rfl 2 rfl ?_
    refine x_aload_n dJ3_indexOf_2_13 (n := 14) rfl rfl 0 rfl ?_
    refine x_cVZ (As := []) (rest := [.int x2, .int x1, .ref v4]) cv_J3_505 (met_J3_length σ bs q ) STR.zs hZ (by obtain ⟨_, k1, -⟩ := hZ; exact k1) (by decide) rfl rfl rfl dJ3_indexOf_2_14 (n := 17) rfl (fun r6 q => ?_)
    subst q
    refine x_cSZ (As := [.ref v4, .int x1, .int x2, .int (f_J3_length bs)]) (rest := []) cs_J3_637 (met_J4_indexOf σ bs x1 x2 (f_J3_length bs) v4 _ h) BYT.zs hv4 (by decide) rfl rfl rfl dJ3_indexOf_2_17 (n := 20) rfl (fun r8 h => ?_)
    refine x_goto (tgt := 36) dJ3_indexOf_2_20 rfl ?_
    exact x_iret rq ⟨rfl, h⟩ dJ3_indexOf_2_36
abbrev rm_J3_indexOf : Room := { frames := 3, cells := 0, slots := 0, locals := 70 }
def wp_J3_indexOf (bs : List Int32) (x1 : Int32) (Q : Int32 → Prop) : Prop := wp_J3_indexOf_2 bs x1 0 (fun r2 => Q r2)
theorem met_J3_indexOf (σ : Hp) (bs : List Int32) (x1 : Int32) (q : Nat) (Q : Int32 → Prop)  (h : wp_J3_indexOf bs x1 Q) : MetZ yJ3_indexOf cJ3_indexOf 2 (some .int) rm_J3_indexOf σ (STR bs q) [.ref q, .int x1] (oI (fun r σ' => σ' = σ ∧ Q r)) := by
  refine metZ_of (own := RJ3) (lvs := [(0, .ref q), (1, .int x1)]) (by decide +kernel) rfl (Nat.le_of_ble_eq_true rfl) rfl (fun G rq hZ => ?_)
  unfold wp_J3_indexOf at h
  refine x_aload_n dJ3_indexOf_0 (n := 1) rfl rfl 0 rfl ?_
  refine x_iload_n dJ3_indexOf_1 (n := 2) rfl rfl 1 rfl ?_
  refine x_iconst dJ3_indexOf_2 (n := 3) rfl ic_0 ?_
  refine x_cVZ (As := [.int x1, .int 0]) (rest := []) cv_J3_633 (met_J3_indexOf_2 σ bs x1 0 q _ h) STR.zs hZ (by obtain ⟨_, k1, -⟩ := hZ; exact k1) (by decide) rfl rfl rfl dJ3_indexOf_3 (n := 6) rfl (fun r2 h => ?_)
  exact x_iret rq ⟨rfl, h⟩ dJ3_indexOf_6
