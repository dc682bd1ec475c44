set_option maxRecDepth 100000
section XN
variable {G : XE} {rm : Room} {cc : ByteArray} {own : String} {nL : Nat} {ret : Option FieldType} {σ : Hp} {cells slots pc n : Nat} {lvs : List (Nat × Value)} {st : List Value}
theorem x_ifnull {x : Nat} {off : Int} (hd : decode cc pc = .ok (.ifnull off, 3)) (hn : pc + 3 = n) (kk : X G rm cc own nL ret σ cells slots n lvs st) : X G rm cc own nL ret σ cells slots pc lvs (.ref x :: st) := by
  subst hn
  exact fun hF H locs ls hB hl => lv_ifnull hF.1 hF.2.1 hd (kk hF H locs ls hB hl)
theorem x_ifnullN {off : Int} {tgt : Nat} (hd : decode cc pc = .ok (.ifnull off, 3)) (ht : (pc : Int) + off = (tgt : Int)) (kk : X G rm cc own nL ret σ cells slots tgt lvs st) : X G rm cc own nL ret σ cells slots pc lvs (.null :: st) :=
  fun hF H locs ls hB hl => lv_ifnullN hF.1 hF.2.1 hd ht (kk hF H locs ls hB hl)
theorem x_aloadN {i : Nat} (hd : decode cc pc = .ok (.aload i, 2)) (hn : pc + 2 = n) (j : Nat) (hj : lvs[j]? = some (i, .null)) (kk : X G rm cc own nL ret σ cells slots n lvs (.null :: st)) : X G rm cc own nL ret σ cells slots pc lvs st := by
  subst hn
  intro hF H locs ls hB hl' T hT X0
  have hl := lv_at hl' j hj
  have hexec := hF.1
  have hb := hF.2.1
  obtain ⟨t, a, b⟩ := kk hF H locs ls hB hl' T hT X0
  refine ⟨t, ?_, b⟩
  jvm_step X0.here [X0.here.top, hexec, hb, hd, hl, Value.isRef]
  exact a
theorem x_astoreN {i : Nat} {lvs' : List (Nat × Value)} (hd : decode cc pc = .ok (.astore i, 2)) (hn : pc + 2 = n) (hb' : i < nL) (hl' : (i, Value.null) :: lvs.filter (fun q => !(q.1 == i) && !(q.1 + 1 == i && q.2.category == 2)) = lvs') (kk : X G rm cc own nL ret σ cells slots n lvs' st) : X G rm cc own nL ret σ cells slots pc lvs (.null :: st) := by
  subst hn
  intro hF H locs ls hB h T hT X0
  have hexec := hF.1
  have hb := hF.2.1
  obtain ⟨ls', e', h'⟩ := lv_store1 (v := .null) h hb' rfl
  obtain ⟨t, a, b⟩ := kk hF H locs ls' hB (hl' ▸ h') T hT X0
  refine ⟨t, ?_, b⟩
  jvm_step X0.here [X0.here.top, ↓top_set X0.here.top, hexec, hb, hd, e', Value.isRef]
  exact a
end XN
abbrev rm_X2_number (Mx : Nat) (σ0 : Hp) : Room := rmG 6 132 Mx σ0
def wp_X2_number (o c d : Nat) (σ0 : Hp) (x1 : Int32) (x2 : Int32) (Mx : Nat) (Q : Int32 → Hp → Prop) (E : Nat → Hp → Prop) : Prop := ((gI σ0 o 3) = 2 → ((f_X1_in ((gI σ0 o 4).toInt64) x1.toInt64 x2.toInt64) = 0 → wp_X2_wrong o c d σ0 2 Mx (fun r10 s7 => GX σ0 s7 → (OB 16 r10 s7) ∧ (E r10 s7)) E) ∧ (¬ (f_X1_in ((gI σ0 o 4).toInt64) x1.toInt64 x2.toInt64) = 0 → wp_X2_next o c d σ0 (fun  s5 => SH σ0 s5 → Q (gI σ0 o 4) s5))) ∧ (¬ (gI σ0 o 3) = 2 → wp_X2_wrong o c d σ0 1 Mx (fun r15 s12 => GX σ0 s12 → (OB 16 r15 s12) ∧ (E r15 s12)) E)
theorem met_X2_number (o c d : Nat) (σ0 : Hp) (x1 : Int32) (x2 : Int32) (Mx : Nat) (Q : Int32 → Hp → Prop) (E : Nat → Hp → Prop) (hB0 : EB o c d σ0) (hM0 : gS σ0 ≤ Mx) (h : wp_X2_number o c d σ0 x1 x2 Mx Q E) : MetY yX2_number cX2_number 4 (some .int) (rm_X2_number Mx σ0) σ0 [.ref o, .int x1, .int x2] (oI (fun r σ' => gP Mx σ0 (Q r) σ')) (pxF Mx σ0 E) (Mx - gS σ0) (16 * (Mx - gS σ0)) := by
  refine metG_of (own := RX2) (lvs := [(0, .ref o), (1, .int x1), (2, .int x2)]) (by decide) rfl (Nat.le_of_ble_eq_true rfl) rfl (fun G rq hz w0 => ?_)
  unfold wp_X2_number at h
  refine x_aload_n dX2_number_0 (n := 1) rfl rfl 0 rfl ?_
  refine x_geti fl_X2_33_2 rfl hB0.1 rfl dX2_number_1 (n := 4) rfl ?_
  refine x_iconst dX2_number_4 (n := 5) rfl ic_2 ?_
  refine x_icmp_eq (tgt := 14) dX2_number_5 rfl (n := 8) rfl (fun cc1 => ?_) (fun cc1 => ?_)
  · have h := h.1 cc1
    refine x_aload_n dX2_number_14 (n := 15) rfl rfl 0 rfl ?_
    refine x_geti fl_X2_47_2 rfl hB0.1 rfl dX2_number_15 (n := 18) rfl ?_
    refine x_i2l dX2_number_18 (n := 19) rfl ?_
    refine x_iload_n dX2_number_19 (n := 20) rfl rfl 1 rfl ?_
    refine x_i2l dX2_number_20 (n := 21) rfl ?_
    refine x_iload_n dX2_number_21 (n := 22) rfl rfl 2 rfl ?_
    refine x_i2l dX2_number_22 (n := 23) rfl ?_
    refine x_cSip (As := [.long ((gI σ0 o 4).toInt64), .long x1.toInt64, .long x2.toInt64]) (rest := []) cs_X2_40 (met_X1_in σ0 ((gI σ0 o 4).toInt64) x1.toInt64 x2.toInt64 ) (hRg (fr := 6) (lo := 132) (by decide) hM0) rfl rfl rfl dX2_number_23 (n := 26) rfl (fun r3 q => ?_)
    subst q
    refine x_if_ne (tgt := 35) dX2_number_26 rfl (n := 29) rfl (fun cc4 => ?_) (fun cc4 => ?_)
    · have h := h.2 cc4
      refine x_aload_n dX2_number_35 (n := 36) rfl rfl 0 rfl ?_
      refine x_geti fl_X2_47_2 rfl hB0.1 rfl dX2_number_36 (n := 39) rfl ?_
      refine x_istore_n (lvs' := [(3, .int (gI σ0 o 4)), (0, .ref o), (1, .int x1), (2, .int x2)]) dX2_number_39 (n := 40) rfl rfl (by decide) rfl ?_
      refine x_aload_n dX2_number_40 (n := 41) rfl rfl 1 rfl ?_
      refine x_cVvm (As := []) (rest := []) cv_X2_89 ck2 (met_X2_next o c d σ0 _ hB0 h) hB0.1 (hRg (fr := 6) (lo := 132) (by decide) hM0) rfl rfl rfl dX2_number_41 (n := 44) rfl (fun  s5 hs6 h => ?_)
      have hs6t := (GX.rf (σ := σ0)).s hs6
      have hBs5 := hB0.gx hs6t
      have hls5 : gS s5 ≤ Mx := Nat.le_trans (Nat.le_of_eq hs6.1) hM0
      refine x_tight hz hs6t ?_
      have h := h hs6
      refine x_iload_n dX2_number_44 (n := 45) rfl rfl 0 rfl ?_
      exact g_iret rq hs6t hls5 h dX2_number_45
    · have h := h.1 cc4
      refine x_aload_n dX2_number_29 (n := 30) rfl rfl 0 rfl ?_
      refine x_iconst dX2_number_30 (n := 31) rfl ic_2 ?_
      refine g_cVr (fr := 6) (lo := 132) (As := [.int 2]) (rest := []) hz (GX.rf (σ := σ0)) cv_X2_85 ck2 (met_X2_wrong o c d σ0 2 Mx _ _  hB0 hM0  h) hB0.1 (by decide) hM0 rfl rfl rfl dX2_number_31 (n := 34) rfl (fun q s7 hs8 hls7 h => g_out rq ((GX.rf (σ := σ0)).tr hs8) hls7 h) (fun r10 s7 hs8 hls7 h => ?_)
      have hs8t := (GX.rf (σ := σ0)).tr hs8
      have hBs7 := hB0.gx hs8t
      have h := h hs8
      obtain ⟨b11, h⟩ := h
      exact g_athrow rq hs8t hls7 b11 h dX2_number_34
  · have h := h.2 cc1
    refine x_aload_n dX2_number_8 (n := 9) rfl rfl 0 rfl ?_
    refine x_iconst dX2_number_9 (n := 10) rfl ic_1 ?_
    refine g_cVr (fr := 6) (lo := 132) (As := [.int 1]) (rest := []) hz (GX.rf (σ := σ0)) cv_X2_85 ck2 (met_X2_wrong o c d σ0 1 Mx _ _  hB0 hM0  h) hB0.1 (by decide) hM0 rfl rfl rfl dX2_number_10 (n := 13) rfl (fun q s12 hs13 hls12 h => g_out rq ((GX.rf (σ := σ0)).tr hs13) hls12 h) (fun r15 s12 hs13 hls12 h => ?_)
    have hs13t := (GX.rf (σ := σ0)).tr hs13
    have hBs12 := hB0.gx hs13t
    have h := h hs13
    obtain ⟨b16, h⟩ := h
    exact g_athrow rq hs13t hls12 b16 h dX2_number_13
abbrev rm_X2_signed (Mx : Nat) (σ0 : Hp) : Room := rmG 7 155 Mx σ0
def wj_X2_signed_15 (o c d : Nat) (σ : Hp) (x1 : Int32) (x2 : Int32) (Mx : Nat) (Q : Int32 → Hp → Prop) (E : Nat → Hp → Prop)  : Prop := wp_X2_number o c d σ 0 x1 Mx (fun r9 s6 => GX σ s6 → (x2 = 0 → Q r9 s6) ∧ (¬ x2 = 0 → Q (-r9) s6)) E
def wp_X2_signed (o c d : Nat) (σ0 : Hp) (x1 : Int32) (Mx : Nat) (Q : Int32 → Hp → Prop) (E : Nat → Hp → Prop) : Prop := ((f_X2_isSign o c d σ0 45) = 0 → wj_X2_signed_15 o c d σ0 x1 (f_X2_isSign o c d σ0 45) Mx Q E) ∧ (¬ (f_X2_isSign o c d σ0 45) = 0 → wp_X2_next o c d σ0 (fun  s4 => SH σ0 s4 → wj_X2_signed_15 o c d s4 x1 (f_X2_isSign o c d σ0 45) Mx Q E))
theorem xj_X2_signed_15 (o c d : Nat) (σ0 : Hp) (Mx : Nat) (Q : Int32 → Hp → Prop) (E : Nat → Hp → Prop) (G : XE) (hB0 : EB o c d σ0) (rq : RQx G [] (Mx - gS σ0) (16 * (Mx - gS σ0)) (oI (fun r σ' => gP Mx σ0 (Q r) σ')) (pxF Mx σ0 E)) (hz : G.2.2.2.1.heap.size = gS σ0) (w0 : WF σ0) (hM0 : gS σ0 ≤ Mx) (σ : Hp) (x1 : Int32) (x2 : Int32)    (hs : (GX σ0 σ ∧ gS σ ≤ Mx)) (h : wj_X2_signed_15 o c d σ x1 x2 Mx Q E ) : X G (rm_X2_signed Mx σ0) cX2_signed RX2 4 (some .int) σ (gS σ - gS σ0) (16 * (gS σ - gS σ0)) 15 [(0, .ref o), (1, .int x1), (2, .int x2)] [] := by
  have hle : gS σ ≤ Mx := hs.2
  have hs : GX σ0 σ := hs.1
  have hB := hB0.gx hs
  unfold wj_X2_signed_15 at h
  refine x_aload_n dX2_signed_15 (n := 16) rfl rfl 0 rfl ?_
  refine x_iconst dX2_signed_16 (n := 17) rfl ic_0 ?_
  refine x_iload_n dX2_signed_17 (n := 18) rfl rfl 1 rfl ?_
  refine g_cVi (fr := 7) (lo := 155) (As := [.int 0, .int x1]) (rest := []) hz hs cv_X2_96 ck2 (met_X2_number o c d σ 0 x1 Mx _ _  hB hle  h) hB.1 (by decide) hle rfl rfl rfl dX2_signed_18 (n := 21) rfl (fun q s6 hs7 hls6 h => g_out rq (hs.tr hs7) hls6 h) (fun r9 s6 hs7 hls6 h => ?_)
  have hs7t := hs.tr hs7
  have hBs6 := hB0.gx hs7t
  have h := h hs7
  refine x_istore_n (lvs' := [(3, .int r9), (0, .ref o), (1, .int x1), (2, .int x2)]) dX2_signed_21 (n := 22) rfl rfl (by decide) rfl ?_
  refine x_iload_n dX2_signed_22 (n := 23) rfl rfl 3 rfl ?_
  refine x_if_eq (tgt := 31) dX2_signed_23 rfl (n := 26) rfl (fun cc10 => ?_) (fun cc10 => ?_)
  · have h := h.1 cc10
    refine x_iload_n dX2_signed_31 (n := 32) rfl rfl 0 rfl ?_
    exact g_iret rq hs7t hls6 h dX2_signed_32
  · have h := h.2 cc10
    refine x_iload_n dX2_signed_26 (n := 27) rfl rfl 0 rfl ?_
    refine x_ineg dX2_signed_27 (n := 28) rfl ?_
    refine x_goto (tgt := 32) dX2_signed_28 rfl ?_
    exact g_iret rq hs7t hls6 h dX2_signed_32
theorem met_X2_signed (o c d : Nat) (σ0 : Hp) (x1 : Int32) (Mx : Nat) (Q : Int32 → Hp → Prop) (E : Nat → Hp → Prop) (hB0 : EB o c d σ0) (hM0 : gS σ0 ≤ Mx) (h : wp_X2_signed o c d σ0 x1 Mx Q E) : MetY yX2_signed cX2_signed 4 (some .int) (rm_X2_signed Mx σ0) σ0 [.ref o, .int x1] (oI (fun r σ' => gP Mx σ0 (Q r) σ')) (pxF Mx σ0 E) (Mx - gS σ0) (16 * (Mx - gS σ0)) := by
  refine metG_of (own := RX2) (lvs := [(0, .ref o), (1, .int x1)]) (by decide) rfl (Nat.le_of_ble_eq_true rfl) rfl (fun G rq hz w0 => ?_)
  unfold wp_X2_signed at h
  refine x_aload_n dX2_signed_0 (n := 1) rfl rfl 0 rfl ?_
  refine x_bipush dX2_signed_1 (n := 3) rfl bp_45 ?_
  refine x_cVip (As := [.int 45]) (rest := []) cv_X2_92 ck2 (met_X2_isSign o c d σ0 45 hB0) hB0.1 (hRg (fr := 7) (lo := 155) (by decide) hM0) rfl rfl rfl dX2_signed_3 (n := 6) rfl (fun r2 q => ?_)
  subst q
  refine x_istore_n (lvs' := [(2, .int (f_X2_isSign o c d σ0 45)), (0, .ref o), (1, .int x1)]) dX2_signed_6 (n := 7) rfl rfl (by decide) rfl ?_
  refine x_iload_n dX2_signed_7 (n := 8) rfl rfl 0 rfl ?_
  refine x_if_eq (tgt := 15) dX2_signed_8 rfl (n := 11) rfl (fun cc3 => ?_) (fun cc3 => ?_)
  · have h := h.1 cc3
    exact x_sub [1, 2, 0] rfl (xj_X2_signed_15 o c d σ0 Mx Q E G hB0 rq hz w0 hM0 σ0 x1 (f_X2_isSign o c d σ0 45) ⟨(GX.rf (σ := σ0)), hM0⟩ h)
  · have h := h.2 cc3
    refine x_aload_n dX2_signed_11 (n := 12) rfl rfl 1 rfl ?_
    refine x_cVvm (As := []) (rest := []) cv_X2_89 ck2 (met_X2_next o c d σ0 _ hB0 h) hB0.1 (hRg (fr := 7) (lo := 155) (by decide) hM0) rfl rfl rfl dX2_signed_12 (n := 15) rfl (fun  s4 hs5 h => ?_)
    have hs5t := (GX.rf (σ := σ0)).s hs5
    have hBs4 := hB0.gx hs5t
    have hls4 : gS s4 ≤ Mx := Nat.le_trans (Nat.le_of_eq hs5.1) hM0
    refine x_tight hz hs5t ?_
    have h := h hs5
    exact x_sub [1, 2, 0] rfl (xj_X2_signed_15 o c d σ0 Mx Q E G hB0 rq hz w0 hM0 s4 x1 (f_X2_isSign o c d σ0 45) ⟨hs5t, hls4⟩ h)
abbrev rm_X2_fresh (Mx : Nat) (σ0 : Hp) : Room := rmG 6 132 Mx σ0
def wp_X2_fresh (o c d : Nat) (σ0 : Hp) (a1 c1 : Nat) (Mx : Nat) (Q : Int32 → Hp → Prop) (E : Nat → Hp → Prop) : Prop := ((gI σ0 o 3) = 1 → wp_X4_find σ0 a1 c1 (gI σ0 o 4) (fun r2 => (r2 = (-1) → wp_X2_next o c d σ0 (fun  s4 => SH σ0 s4 → Q (gI σ0 o 4) s4)) ∧ (¬ r2 = (-1) → wp_X2_wrong o c d σ0 3 Mx (fun r9 s6 => GX σ0 s6 → (OB 16 r9 s6) ∧ (E r9 s6)) E))) ∧ (¬ (gI σ0 o 3) = 1 → wp_X2_wrong o c d σ0 1 Mx (fun r14 s11 => GX σ0 s11 → (OB 16 r14 s11) ∧ (E r14 s11)) E)
theorem met_X2_fresh (o c d : Nat) (σ0 : Hp) (a1 c1 : Nat) (Mx : Nat) (Q : Int32 → Hp → Prop) (E : Nat → Hp → Prop) (hB0 : EB o c d σ0) (ha1 : AB a1 c1 σ0) (hM0 : gS σ0 ≤ Mx) (h : wp_X2_fresh o c d σ0 a1 c1 Mx Q E) : MetY yX2_fresh cX2_fresh 3 (some .int) (rm_X2_fresh Mx σ0) σ0 [.ref o, .ref a1] (oI (fun r σ' => gP Mx σ0 (Q r) σ')) (pxF Mx σ0 E) (Mx - gS σ0) (16 * (Mx - gS σ0)) := by
  refine metG_of (own := RX2) (lvs := [(0, .ref o), (1, .ref a1)]) (by decide) rfl (Nat.le_of_ble_eq_true rfl) rfl (fun G rq hz w0 => ?_)
  unfold wp_X2_fresh at h
  refine x_aload_n dX2_fresh_0 (n := 1) rfl rfl 0 rfl ?_
  refine x_geti fl_X2_33_2 rfl hB0.1 rfl dX2_fresh_1 (n := 4) rfl ?_
  refine x_iconst dX2_fresh_4 (n := 5) rfl ic_1 ?_
  refine x_icmp_eq (tgt := 14) dX2_fresh_5 rfl (n := 8) rfl (fun cc1 => ?_) (fun cc1 => ?_)
  · have h := h.1 cc1
    refine x_aload_n dX2_fresh_14 (n := 15) rfl rfl 1 rfl ?_
    refine x_aload_n dX2_fresh_15 (n := 16) rfl rfl 0 rfl ?_
    refine x_geti fl_X2_47_2 rfl hB0.1 rfl dX2_fresh_16 (n := 19) rfl ?_
    refine x_cSip (As := [.ref a1, .int (gI σ0 o 4)]) (rest := []) cs_X2_100 (met_X4_find σ0 a1 c1 (gI σ0 o 4) _ (ha1.gx (GX.rf (σ := σ0))) h) (hRg (fr := 6) (lo := 132) (by decide) hM0) rfl rfl rfl dX2_fresh_19 (n := 22) rfl (fun r2 h => ?_)
    refine x_iconst dX2_fresh_22 (n := 23) rfl ic_m1 ?_
    refine x_icmp_eq (tgt := 32) dX2_fresh_23 rfl (n := 26) rfl (fun cc3 => ?_) (fun cc3 => ?_)
    · have h := h.1 cc3
      refine x_aload_n dX2_fresh_32 (n := 33) rfl rfl 0 rfl ?_
      refine x_geti fl_X2_47_2 rfl hB0.1 rfl dX2_fresh_33 (n := 36) rfl ?_
      refine x_istore_n (lvs' := [(2, .int (gI σ0 o 4)), (0, .ref o), (1, .ref a1)]) dX2_fresh_36 (n := 37) rfl rfl (by decide) rfl ?_
      refine x_aload_n dX2_fresh_37 (n := 38) rfl rfl 1 rfl ?_
      refine x_cVvm (As := []) (rest := []) cv_X2_89 ck2 (met_X2_next o c d σ0 _ hB0 h) hB0.1 (hRg (fr := 6) (lo := 132) (by decide) hM0) rfl rfl rfl dX2_fresh_38 (n := 41) rfl (fun  s4 hs5 h => ?_)
      have hs5t := (GX.rf (σ := σ0)).s hs5
      have hBs4 := hB0.gx hs5t
      have hls4 : gS s4 ≤ Mx := Nat.le_trans (Nat.le_of_eq hs5.1) hM0
      refine x_tight hz hs5t ?_
      have h := h hs5
      refine x_iload_n dX2_fresh_41 (n := 42) rfl rfl 0 rfl ?_
      exact g_iret rq hs5t hls4 h dX2_fresh_42
    · have h := h.2 cc3
      refine x_aload_n dX2_fresh_26 (n := 27) rfl rfl 0 rfl ?_
      refine x_iconst dX2_fresh_27 (n := 28) rfl ic_3 ?_
      refine g_cVr (fr := 6) (lo := 132) (As := [.int 3]) (rest := []) hz (GX.rf (σ := σ0)) cv_X2_85 ck2 (met_X2_wrong o c d σ0 3 Mx _ _  hB0 hM0  h) hB0.1 (by decide) hM0 rfl rfl rfl dX2_fresh_28 (n := 31) rfl (fun q s6 hs7 hls6 h => g_out rq ((GX.rf (σ := σ0)).tr hs7) hls6 h) (fun r9 s6 hs7 hls6 h => ?_)
      have hs7t := (GX.rf (σ := σ0)).tr hs7
      have hBs6 := hB0.gx hs7t
      have h := h hs7
      obtain ⟨b10, h⟩ := h
      exact g_athrow rq hs7t hls6 b10 h dX2_fresh_31
  · have h := h.2 cc1
    refine x_aload_n dX2_fresh_8 (n := 9) rfl rfl 0 rfl ?_
    refine x_iconst dX2_fresh_9 (n := 10) rfl ic_1 ?_
    refine g_cVr (fr := 6) (lo := 132) (As := [.int 1]) (rest := []) hz (GX.rf (σ := σ0)) cv_X2_85 ck2 (met_X2_wrong o c d σ0 1 Mx _ _  hB0 hM0  h) hB0.1 (by decide) hM0 rfl rfl rfl dX2_fresh_10 (n := 13) rfl (fun q s11 hs12 hls11 h => g_out rq ((GX.rf (σ := σ0)).tr hs12) hls11 h) (fun r14 s11 hs12 hls11 h => ?_)
    have hs12t := (GX.rf (σ := σ0)).tr hs12
    have hBs11 := hB0.gx hs12t
    have h := h hs12
    obtain ⟨b15, h⟩ := h
    exact g_athrow rq hs12t hls11 b15 h dX2_fresh_13
abbrev rm_X2_ahead (Mx : Nat) (σ0 : Hp) : Room := rmG 6 132 Mx σ0
def wp_X2_ahead (o c d : Nat) (σ0 : Hp) (a1 c1 : Nat) (Mx : Nat) (Q : Int32 → Hp → Prop) (E : Nat → Hp → Prop) : Prop := ((gI σ0 o 3) = 1 → wp_X4_find σ0 a1 c1 (gI σ0 o 4) (fun r2 => (r2 = (-1) → wp_X2_wrong o c d σ0 4 Mx (fun r9 s6 => GX σ0 s6 → (OB 16 r9 s6) ∧ (E r9 s6)) E) ∧ (¬ r2 = (-1) → wp_X2_next o c d σ0 (fun  s4 => SH σ0 s4 → Q r2 s4)))) ∧ (¬ (gI σ0 o 3) = 1 → wp_X2_wrong o c d σ0 1 Mx (fun r14 s11 => GX σ0 s11 → (OB 16 r14 s11) ∧ (E r14 s11)) E)
theorem met_X2_ahead (o c d : Nat) (σ0 : Hp) (a1 c1 : Nat) (Mx : Nat) (Q : Int32 → Hp → Prop) (E : Nat → Hp → Prop) (hB0 : EB o c d σ0) (ha1 : AB a1 c1 σ0) (hM0 : gS σ0 ≤ Mx) (h : wp_X2_ahead o c d σ0 a1 c1 Mx Q E) : MetY yX2_ahead cX2_ahead 3 (some .int) (rm_X2_ahead Mx σ0) σ0 [.ref o, .ref a1] (oI (fun r σ' => gP Mx σ0 (Q r) σ')) (pxF Mx σ0 E) (Mx - gS σ0) (16 * (Mx - gS σ0)) := by
  refine metG_of (own := RX2) (lvs := [(0, .ref o), (1, .ref a1)]) (by decide) rfl (Nat.le_of_ble_eq_true rfl) rfl (fun G rq hz w0 => ?_)
  unfold wp_X2_ahead at h
  refine x_aload_n dX2_ahead_0 (n := 1) rfl rfl 0 rfl ?_
  refine x_geti fl_X2_33_2 rfl hB0.1 rfl dX2_ahead_1 (n := 4) rfl ?_
  refine x_iconst dX2_ahead_4 (n := 5) rfl ic_1 ?_
  refine x_icmp_eq (tgt := 14) dX2_ahead_5 rfl (n := 8) rfl (fun cc1 => ?_) (fun cc1 => ?_)
  · have h := h.1 cc1
    refine x_aload_n dX2_ahead_14 (n := 15) rfl rfl 1 rfl ?_
    refine x_aload_n dX2_ahead_15 (n := 16) rfl rfl 0 rfl ?_
    refine x_geti fl_X2_47_2 rfl hB0.1 rfl dX2_ahead_16 (n := 19) rfl ?_
    refine x_cSip (As := [.ref a1, .int (gI σ0 o 4)]) (rest := []) cs_X2_100 (met_X4_find σ0 a1 c1 (gI σ0 o 4) _ (ha1.gx (GX.rf (σ := σ0))) h) (hRg (fr := 6) (lo := 132) (by decide) hM0) rfl rfl rfl dX2_ahead_19 (n := 22) rfl (fun r2 h => ?_)
    refine x_istore_n (lvs' := [(2, .int r2), (0, .ref o), (1, .ref a1)]) dX2_ahead_22 (n := 23) rfl rfl (by decide) rfl ?_
    refine x_iload_n dX2_ahead_23 (n := 24) rfl rfl 0 rfl ?_
    refine x_iconst dX2_ahead_24 (n := 25) rfl ic_m1 ?_
    refine x_icmp_ne (tgt := 34) dX2_ahead_25 rfl (n := 28) rfl (fun cc3 => ?_) (fun cc3 => ?_)
    · have h := h.2 cc3
      refine x_aload_n dX2_ahead_34 (n := 35) rfl rfl 1 rfl ?_
      refine x_cVvm (As := []) (rest := []) cv_X2_89 ck2 (met_X2_next o c d σ0 _ hB0 h) hB0.1 (hRg (fr := 6) (lo := 132) (by decide) hM0) rfl rfl rfl dX2_ahead_35 (n := 38) rfl (fun  s4 hs5 h => ?_)
      have hs5t := (GX.rf (σ := σ0)).s hs5
      have hBs4 := hB0.gx hs5t
      have hls4 : gS s4 ≤ Mx := Nat.le_trans (Nat.le_of_eq hs5.1) hM0
      refine x_tight hz hs5t ?_
      have h := h hs5
      refine x_iload_n dX2_ahead_38 (n := 39) rfl rfl 0 rfl ?_
      exact g_iret rq hs5t hls4 h dX2_ahead_39
    · have h := h.1 cc3
      refine x_aload_n dX2_ahead_28 (n := 29) rfl rfl 1 rfl ?_
      refine x_iconst dX2_ahead_29 (n := 30) rfl ic_4 ?_
      refine g_cVr (fr := 6) (lo := 132) (As := [.int 4]) (rest := []) hz (GX.rf (σ := σ0)) cv_X2_85 ck2 (met_X2_wrong o c d σ0 4 Mx _ _  hB0 hM0  h) hB0.1 (by decide) hM0 rfl rfl rfl dX2_ahead_30 (n := 33) rfl (fun q s6 hs7 hls6 h => g_out rq ((GX.rf (σ := σ0)).tr hs7) hls6 h) (fun r9 s6 hs7 hls6 h => ?_)
      have hs7t := (GX.rf (σ := σ0)).tr hs7
      have hBs6 := hB0.gx hs7t
      have h := h hs7
      obtain ⟨b10, h⟩ := h
      exact g_athrow rq hs7t hls6 b10 h dX2_ahead_33
  · have h := h.2 cc1
    refine x_aload_n dX2_ahead_8 (n := 9) rfl rfl 0 rfl ?_
    refine x_iconst dX2_ahead_9 (n := 10) rfl ic_1 ?_
    refine g_cVr (fr := 6) (lo := 132) (As := [.int 1]) (rest := []) hz (GX.rf (σ := σ0)) cv_X2_85 ck2 (met_X2_wrong o c d σ0 1 Mx _ _  hB0 hM0  h) hB0.1 (by decide) hM0 rfl rfl rfl dX2_ahead_10 (n := 13) rfl (fun q s11 hs12 hls11 h => g_out rq ((GX.rf (σ := σ0)).tr hs12) hls11 h) (fun r14 s11 hs12 hls11 h => ?_)
    have hs12t := (GX.rf (σ := σ0)).tr hs12
    have hBs11 := hB0.gx hs12t
    have h := h hs12
    obtain ⟨b15, h⟩ := h
    exact g_athrow rq hs12t hls11 b15 h dX2_ahead_13
abbrev rm_X2_knot (Mx : Nat) (σ0 : Hp) : Room := rmG 6 132 Mx σ0
def wp_X2_knot (o c d : Nat) (σ0 : Hp) (Mx : Nat) (Q : Int32 → Hp → Prop) (E : Nat → Hp → Prop) : Prop := ((gI σ0 d 10) = 64 → wp_X2_wrong o c d σ0 2 Mx (fun r9 s6 => GX σ0 s6 → (OB 16 r9 s6) ∧ (E r9 s6)) E) ∧ (¬ (gI σ0 d 10) = 64 → ∀ v2 : Int32, v2 = gI (pI σ0 d 10 ((gI σ0 d 10) + 1)) o 4 → wp_X2_next o c d (pI σ0 d 10 ((gI σ0 d 10) + 1)) (fun  s4 => SH (pI σ0 d 10 ((gI σ0 d 10) + 1)) s4 → Q v2 s4))
theorem met_X2_knot (o c d : Nat) (σ0 : Hp) (Mx : Nat) (Q : Int32 → Hp → Prop) (E : Nat → Hp → Prop) (hB0 : EB o c d σ0) (hM0 : gS σ0 ≤ Mx) (h : wp_X2_knot o c d σ0 Mx Q E) : MetY yX2_knot cX2_knot 2 (some .int) (rm_X2_knot Mx σ0) σ0 [.ref o] (oI (fun r σ' => gP Mx σ0 (Q r) σ')) (pxF Mx σ0 E) (Mx - gS σ0) (16 * (Mx - gS σ0)) := by
  refine metG_of (own := RX2) (lvs := [(0, .ref o)]) (by decide) rfl (Nat.le_of_ble_eq_true rfl) rfl (fun G rq hz w0 => ?_)
  unfold wp_X2_knot at h
  refine x_aload_n dX2_knot_0 (n := 1) rfl rfl 0 rfl ?_
  refine x_getr fl_X2_115_2 rfl hB0.1 hB0.2.2.2.2.2.1 dX2_knot_1 (n := 4) rfl ?_
  refine x_geti fl_X2_278_3 rfl hB0.2.2.2.2.2.2.1 rfl dX2_knot_4 (n := 7) rfl ?_
  refine x_bipush dX2_knot_7 (n := 9) rfl bp_64 ?_
  refine x_icmp_ne (tgt := 18) dX2_knot_9 rfl (n := 12) rfl (fun cc1 => ?_) (fun cc1 => ?_)
  · have h := h.2 cc1
    refine x_aload_n dX2_knot_18 (n := 19) rfl rfl 0 rfl ?_
    refine x_getr fl_X2_115_2 rfl hB0.1 hB0.2.2.2.2.2.1 dX2_knot_19 (n := 22) rfl ?_
    refine x_dup dX2_knot_22 (n := 23) rfl rfl ?_
    refine x_geti fl_X2_278_3 rfl hB0.2.2.2.2.2.2.1 rfl dX2_knot_23 (n := 26) rfl ?_
    refine x_iconst dX2_knot_26 (n := 27) rfl ic_1 ?_
    refine x_iadd dX2_knot_27 (n := 28) rfl ?_
    refine x_puti fp_X2_278_3 rfl hB0.2.2.2.2.2.2.1 dX2_knot_28 (n := 31) rfl ?_
    refine x_aload_n dX2_knot_31 (n := 32) rfl rfl 0 rfl ?_
    refine x_geti fl_X2_47_2 rfl hB0.i.1 rfl dX2_knot_32 (n := 35) rfl ?_
    refine x_topi (fun v2 e3 => ?_)
    have h := h v2 e3
    refine x_istore_n (lvs' := [(1, .int v2), (0, .ref o)]) dX2_knot_35 (n := 36) rfl rfl (by decide) rfl ?_
    refine x_aload_n dX2_knot_36 (n := 37) rfl rfl 1 rfl ?_
    refine x_cVvm (As := []) (rest := []) cv_X2_89 ck2 (met_X2_next o c d (pI σ0 d 10 ((gI σ0 d 10) + 1)) _ hB0.i h) hB0.i.1 (hRg (fr := 6) (lo := 132) (by decide) hM0) rfl rfl rfl dX2_knot_37 (n := 40) rfl (fun  s4 hs5 h => ?_)
    have hs5t := (GX.rf (σ := σ0)).i.s hs5
    have hBs4 := hB0.gx hs5t
    have hls4 : gS s4 ≤ Mx := Nat.le_trans (Nat.le_of_eq hs5.1) hM0
    refine x_tight hz hs5t ?_
    have h := h hs5
    refine x_iload_n dX2_knot_40 (n := 41) rfl rfl 0 rfl ?_
    exact g_iret rq hs5t hls4 h dX2_knot_41
  · have h := h.1 cc1
    refine x_aload_n dX2_knot_12 (n := 13) rfl rfl 0 rfl ?_
    refine x_iconst dX2_knot_13 (n := 14) rfl ic_2 ?_
    refine g_cVr (fr := 6) (lo := 132) (As := [.int 2]) (rest := []) hz (GX.rf (σ := σ0)) cv_X2_85 ck2 (met_X2_wrong o c d σ0 2 Mx _ _  hB0 hM0  h) hB0.1 (by decide) hM0 rfl rfl rfl dX2_knot_14 (n := 17) rfl (fun q s6 hs7 hls6 h => g_out rq ((GX.rf (σ := σ0)).tr hs7) hls6 h) (fun r9 s6 hs7 hls6 h => ?_)
    have hs7t := (GX.rf (σ := σ0)).tr hs7
    have hBs6 := hB0.gx hs7t
    have h := h hs7
    obtain ⟨b10, h⟩ := h
    exact g_athrow rq hs7t hls6 b10 h dX2_knot_17
abbrev rm_X2_date (Mx : Nat) (σ0 : Hp) : Room := rmG 7 155 Mx σ0
def wp_X2_date (o c d : Nat) (σ0 : Hp) (y1 : Int64) (Mx : Nat) (Q : Int64 → Hp → Prop) (E : Nat → Hp → Prop) : Prop := wp_X2_number o c d σ0 0 99999 Mx (fun r4 s1 => GX σ0 s1 → ((gI s1 o 3) = 2 → ((gI s1 o 4) ≤ 99999 → ((f_J2_isEmpty (d + 1) 4 s1) = 0 → (ok_J2_get (d + 1) 4 s1 0) ∧ ((OB 6 (f_J2_get (d + 1) 4 s1 0) s1) ∧ ((ok_X8_has (f_J2_get (d + 1) 4 s1 0) s1 r4.toInt64) ∧ (((f_X8_has (f_J2_get (d + 1) 4 s1 0) s1 r4.toInt64) = 0 → wp_X2_wrong o c d s1 5 Mx (fun r19 s16 => GX s1 s16 → (OB 16 r19 s16) ∧ (E r19 s16)) E) ∧ (¬ (f_X8_has (f_J2_get (d + 1) 4 s1 0) s1 r4.toInt64) = 0 → ((f_X1_in ((gI s1 o 4).toInt64) 1 (f_X8_length (f_J2_get (d + 1) 4 s1 0) s1 r4.toInt64)) = 0 → wp_X2_wrong o c d s1 5 Mx (fun r29 s26 => GX s1 s26 → (OB 16 r29 s26) ∧ (E r29 s26)) E) ∧ (¬ (f_X1_in ((gI s1 o 4).toInt64) 1 (f_X8_length (f_J2_get (d + 1) 4 s1 0) s1 r4.toInt64)) = 0 → (y1 ≤ (((f_X8_start (f_J2_get (d + 1) 4 s1 0) s1 r4.toInt64) + ((gI s1 o 4).toInt64)) - 1) → ∀ v36 : Int64, v36 = ((f_X8_start (f_J2_get (d + 1) 4 s1 0) s1 r4.toInt64) + ((gI s1 o 4).toInt64)) - 1 → wp_X2_next o c d s1 (fun  s38 => SH s1 s38 → Q v36 s38)) ∧ (¬ y1 ≤ (((f_X8_start (f_J2_get (d + 1) 4 s1 0) s1 r4.toInt64) + ((gI s1 o 4).toInt64)) - 1) → wp_X2_wrong o c d s1 5 Mx (fun r43 s40 => GX s1 s40 → (OB 16 r43 s40) ∧ (E r43 s40)) E))))))) ∧ (¬ (f_J2_isEmpty (d + 1) 4 s1) = 0 → wp_X2_wrong o c d s1 5 Mx (fun r48 s45 => GX s1 s45 → (OB 16 r48 s45) ∧ (E r48 s45)) E)) ∧ (¬ (gI s1 o 4) ≤ 99999 → wp_X2_wrong o c d s1 2 Mx (fun r53 s50 => GX s1 s50 → (OB 16 r53 s50) ∧ (E r53 s50)) E)) ∧ (¬ (gI s1 o 3) = 2 → wp_X2_wrong o c d s1 1 Mx (fun r58 s55 => GX s1 s55 → (OB 16 r58 s55) ∧ (E r58 s55)) E)) E
theorem met_X2_date (o c d : Nat) (σ0 : Hp) (y1 : Int64) (Mx : Nat) (Q : Int64 → Hp → Prop) (E : Nat → Hp → Prop) (hB0 : EB o c d σ0) (hM0 : gS σ0 ≤ Mx) (h : wp_X2_date o c d σ0 y1 Mx Q E) : MetY yX2_date cX2_date 7 (some .long) (rm_X2_date Mx σ0) σ0 [.ref o, .long y1] (oL (fun r σ' => gP Mx σ0 (Q r) σ')) (pxF Mx σ0 E) (Mx - gS σ0) (16 * (Mx - gS σ0)) := by
  refine metG_of (own := RX2) (lvs := [(0, .ref o), (1, .long y1)]) (by decide) rfl (Nat.le_of_ble_eq_true rfl) rfl (fun G rq hz w0 => ?_)
  unfold wp_X2_date at h
  refine x_aload_n dX2_date_0 (n := 1) rfl rfl 0 rfl ?_
  refine x_iconst dX2_date_1 (n := 2) rfl ic_0 ?_
  refine x_ldc dX2_date_2 (n := 4) rfl q517 ?_
  refine g_cVi (fr := 7) (lo := 155) (As := [.int 0, .int 99999]) (rest := []) hz (GX.rf (σ := σ0)) cv_X2_96 ck2 (met_X2_number o c d σ0 0 99999 Mx _ _  hB0 hM0  h) hB0.1 (by decide) hM0 rfl rfl rfl dX2_date_4 (n := 7) rfl (fun q s1 hs2 hls1 h => g_out rq ((GX.rf (σ := σ0)).tr hs2) hls1 h) (fun r4 s1 hs2 hls1 h => ?_)
  have hs2t := (GX.rf (σ := σ0)).tr hs2
  have hBs1 := hB0.gx hs2t
  have h := h hs2
  refine x_istore_n (lvs' := [(3, .int r4), (0, .ref o), (1, .long y1)]) dX2_date_7 (n := 8) rfl rfl (by decide) rfl ?_
  refine x_aload_n dX2_date_8 (n := 9) rfl rfl 1 rfl ?_
  refine x_geti fl_X2_33_2 rfl hBs1.1 rfl dX2_date_9 (n := 12) rfl ?_
  refine x_iconst dX2_date_12 (n := 13) rfl ic_2 ?_
  refine x_icmp_eq (tgt := 22) dX2_date_13 rfl (n := 16) rfl (fun cc5 => ?_) (fun cc5 => ?_)
  · have h := h.1 cc5
    refine x_aload_n dX2_date_22 (n := 23) rfl rfl 1 rfl ?_
    refine x_geti fl_X2_47_2 rfl hBs1.1 rfl dX2_date_23 (n := 26) rfl ?_
    refine x_ldc dX2_date_26 (n := 28) rfl q517 ?_
    refine x_icmp_le (tgt := 37) dX2_date_28 rfl (n := 31) rfl (fun cc6 => ?_) (fun cc6 => ?_)
    · have h := h.1 cc6
      refine x_aload_n dX2_date_37 (n := 38) rfl rfl 1 rfl ?_
      refine x_getr fl_X2_115_2 rfl hBs1.1 hBs1.2.2.2.2.2.1 dX2_date_38 (n := 41) rfl ?_
      refine x_getr fl_X2_126_3 rfl hBs1.2.2.2.2.2.2.1 hBs1.2.2.2.2.2.2.r0 dX2_date_41 (n := 44) rfl ?_
      refine x_cVip (As := []) (rest := []) cv_X2_216 ck4 (met_J2_isEmpty (d + 1) 4 s1 hBs1.2.2.2.2.2.2.b0) hBs1.2.2.2.2.2.2.b0.1 (hRg (fr := 7) (lo := 155) (by decide) hls1) rfl rfl rfl dX2_date_44 (n := 47) rfl (fun r8 q => ?_)
      subst q
      refine x_if_eq (tgt := 54) dX2_date_47 rfl (n := 50) rfl (fun cc9 => ?_) (fun cc9 => ?_)
      · have h := h.1 cc9
        refine x_aload_n dX2_date_54 (n := 55) rfl rfl 1 rfl ?_
        refine x_getr fl_X2_115_2 rfl hBs1.1 hBs1.2.2.2.2.2.1 dX2_date_55 (n := 58) rfl ?_
        refine x_getr fl_X2_126_3 rfl hBs1.2.2.2.2.2.2.1 hBs1.2.2.2.2.2.2.r0 dX2_date_58 (n := 61) rfl ?_
        refine x_iconst dX2_date_61 (n := 62) rfl ic_0 ?_
        obtain ⟨b10, h⟩ := h
        refine x_cVrp (As := [.int 0]) (rest := []) cv_X2_220 ck4 (met_J2_get (d + 1) 4 s1 0 hBs1.2.2.2.2.2.2.b0 b10) hBs1.2.2.2.2.2.2.b0.1 (hRg (fr := 7) (lo := 155) (by decide) hls1) rfl rfl rfl dX2_date_62 (n := 65) rfl (fun r11 q => ?_)
        subst q
        obtain ⟨b12, h⟩ := h
        refine x_cast cx_X2_205_6 b12 dX2_date_65 (n := 68) rfl ?_
        refine x_astore (lvs' := [(4, .ref (f_J2_get (d + 1) 4 s1 0)), (3, .int r4), (0, .ref o), (1, .long y1)]) dX2_date_68 (n := 70) rfl (by decide) rfl ?_
        refine x_aload dX2_date_70 (n := 72) rfl 0 rfl ?_
        refine x_ifnull dX2_date_72 (n := 75) rfl ?_
        refine x_aload dX2_date_75 (n := 77) rfl 0 rfl ?_
        refine x_iload_n dX2_date_77 (n := 78) rfl rfl 1 rfl ?_
        refine x_i2l dX2_date_78 (n := 79) rfl ?_
        obtain ⟨b13, h⟩ := h
        refine x_cVip (As := [.long r4.toInt64]) (rest := []) cv_X2_224 ck6 (met_X8_has (f_J2_get (d + 1) 4 s1 0) s1 r4.toInt64 b12 b13) b12 (hRg (fr := 7) (lo := 155) (by decide) hls1) rfl rfl rfl dX2_date_79 (n := 82) rfl (fun r14 q => ?_)
        subst q
        refine x_if_eq (tgt := 124) dX2_date_82 rfl (n := 85) rfl (fun cc15 => ?_) (fun cc15 => ?_)
        · have h := h.1 cc15
          refine x_aload_n dX2_date_124 (n := 125) rfl rfl 2 rfl ?_
          refine x_iconst dX2_date_125 (n := 126) rfl ic_5 ?_
          refine g_cVr (fr := 7) (lo := 155) (As := [.int 5]) (rest := []) hz hs2t cv_X2_85 ck2 (met_X2_wrong o c d s1 5 Mx _ _  hBs1 hls1  h) hBs1.1 (by decide) hls1 rfl rfl rfl dX2_date_126 (n := 129) rfl (fun q s16 hs17 hls16 h => g_out rq (hs2t.tr hs17) hls16 h) (fun r19 s16 hs17 hls16 h => ?_)
          have hs17t := hs2t.tr hs17
          have hBs16 := hB0.gx hs17t
          have h := h hs17
          obtain ⟨b20, h⟩ := h
          exact g_athrow rq hs17t hls16 b20 h dX2_date_129
        · have h := h.2 cc15
          refine x_aload_n dX2_date_85 (n := 86) rfl rfl 2 rfl ?_
          refine x_geti fl_X2_47_2 rfl hBs1.1 rfl dX2_date_86 (n := 89) rfl ?_
          refine x_i2l dX2_date_89 (n := 90) rfl ?_
          refine x_lconst dX2_date_90 (n := 91) rfl lc_1 ?_
          refine x_aload dX2_date_91 (n := 93) rfl 0 rfl ?_
          refine x_iload_n dX2_date_93 (n := 94) rfl rfl 1 rfl ?_
          refine x_i2l dX2_date_94 (n := 95) rfl ?_
          refine x_cVlp (As := [.long r4.toInt64]) (rest := [.long 1, .long ((gI s1 o 4).toInt64)]) cv_X2_228 ck6 (met_X8_length (f_J2_get (d + 1) 4 s1 0) s1 r4.toInt64 b12) b12 (hRg (fr := 7) (lo := 155) (by decide) hls1) rfl rfl rfl dX2_date_95 (n := 98) rfl (fun r22 q => ?_)
          subst q
          refine x_cSip (As := [.long ((gI s1 o 4).toInt64), .long 1, .long (f_X8_length (f_J2_get (d + 1) 4 s1 0) s1 r4.toInt64)]) (rest := []) cs_X2_40 (met_X1_in s1 ((gI s1 o 4).toInt64) 1 (f_X8_length (f_J2_get (d + 1) 4 s1 0) s1 r4.toInt64) ) (hRg (fr := 7) (lo := 155) (by decide) hls1) rfl rfl rfl dX2_date_98 (n := 101) rfl (fun r24 q => ?_)
          subst q
          refine x_if_eq (tgt := 124) dX2_date_101 rfl (n := 104) rfl (fun cc25 => ?_) (fun cc25 => ?_)
          · have h := h.1 cc25
            refine x_aload_n dX2_date_124 (n := 125) rfl rfl 2 rfl ?_
            refine x_iconst dX2_date_125 (n := 126) rfl ic_5 ?_
            refine g_cVr (fr := 7) (lo := 155) (As := [.int 5]) (rest := []) hz hs2t cv_X2_85 ck2 (met_X2_wrong o c d s1 5 Mx _ _  hBs1 hls1  h) hBs1.1 (by decide) hls1 rfl rfl rfl dX2_date_126 (n := 129) rfl (fun q s26 hs27 hls26 h => g_out rq (hs2t.tr hs27) hls26 h) (fun r29 s26 hs27 hls26 h => ?_)
            have hs27t := hs2t.tr hs27
            have hBs26 := hB0.gx hs27t
            have h := h hs27
            obtain ⟨b30, h⟩ := h
            exact g_athrow rq hs27t hls26 b30 h dX2_date_129
          · have h := h.2 cc25
            refine x_aload dX2_date_104 (n := 106) rfl 0 rfl ?_
            refine x_iload_n dX2_date_106 (n := 107) rfl rfl 1 rfl ?_
            refine x_i2l dX2_date_107 (n := 108) rfl ?_
            refine x_cVlp (As := [.long r4.toInt64]) (rest := []) cv_X2_231 ck6 (met_X8_start (f_J2_get (d + 1) 4 s1 0) s1 r4.toInt64 b12) b12 (hRg (fr := 7) (lo := 155) (by decide) hls1) rfl rfl rfl dX2_date_108 (n := 111) rfl (fun r32 q => ?_)
            subst q
            refine x_aload_n dX2_date_111 (n := 112) rfl rfl 2 rfl ?_
            refine x_geti fl_X2_47_2 rfl hBs1.1 rfl dX2_date_112 (n := 115) rfl ?_
            refine x_i2l dX2_date_115 (n := 116) rfl ?_
            refine x_ladd dX2_date_116 (n := 117) rfl ?_
            refine x_lconst dX2_date_117 (n := 118) rfl lc_1 ?_
            refine x_lsub dX2_date_118 (n := 119) rfl ?_
            refine x_lload_n dX2_date_119 (n := 120) rfl rfl 3 rfl ?_
            refine x_lcmp_ge (tgt := 130) dX2_date_120 (pc1 := 121) rfl dX2_date_121 rfl (n := 124) rfl (fun cc33 => ?_) (fun cc33 => ?_)
            · have h := h.1 cc33
              refine x_aload dX2_date_130 (n := 132) rfl 0 rfl ?_
              refine x_iload_n dX2_date_132 (n := 133) rfl rfl 1 rfl ?_
              refine x_i2l dX2_date_133 (n := 134) rfl ?_
              refine x_cVlp (As := [.long r4.toInt64]) (rest := []) cv_X2_231 ck6 (met_X8_start (f_J2_get (d + 1) 4 s1 0) s1 r4.toInt64 b12) b12 (hRg (fr := 7) (lo := 155) (by decide) hls1) rfl rfl rfl dX2_date_134 (n := 137) rfl (fun r35 q => ?_)
              subst q
              refine x_aload_n dX2_date_137 (n := 138) rfl rfl 2 rfl ?_
              refine x_geti fl_X2_47_2 rfl hBs1.1 rfl dX2_date_138 (n := 141) rfl ?_
              refine x_i2l dX2_date_141 (n := 142) rfl ?_
              refine x_ladd dX2_date_142 (n := 143) rfl ?_
              refine x_lconst dX2_date_143 (n := 144) rfl lc_1 ?_
              refine x_lsub dX2_date_144 (n := 145) rfl ?_
              refine x_topl (fun v36 e37 => ?_)
              have h := h v36 e37
              refine x_lstore (lvs' := [(5, .long v36), (4, .ref (f_J2_get (d + 1) 4 s1 0)), (3, .int r4), (0, .ref o), (1, .long y1)]) dX2_date_145 (n := 147) rfl (by decide) rfl ?_
              refine x_aload_n dX2_date_147 (n := 148) rfl rfl 3 rfl ?_
              refine x_cVvm (As := []) (rest := []) cv_X2_89 ck2 (met_X2_next o c d s1 _ hBs1 h) hBs1.1 (hRg (fr := 7) (lo := 155) (by decide) hls1) rfl rfl rfl dX2_date_148 (n := 151) rfl (fun  s38 hs39 h => ?_)
              have hs39t := hs2t.s hs39
              have hBs38 := hB0.gx hs39t
              have hls38 : gS s38 ≤ Mx := Nat.le_trans (Nat.le_of_eq hs39.1) hls1
              refine x_tight hz hs39t ?_
              have h := h hs39
              refine x_lload dX2_date_151 (n := 153) rfl 0 rfl ?_
              exact g_lret rq hs39t hls38 h dX2_date_153
            · have h := h.2 cc33
              refine x_aload_n dX2_date_124 (n := 125) rfl rfl 2 rfl ?_
              refine x_iconst dX2_date_125 (n := 126) rfl ic_5 ?_
              refine g_cVr (fr := 7) (lo := 155) (As := [.int 5]) (rest := []) hz hs2t cv_X2_85 ck2 (met_X2_wrong o c d s1 5 Mx _ _  hBs1 hls1  h) hBs1.1 (by decide) hls1 rfl rfl rfl dX2_date_126 (n := 129) rfl (fun q s40 hs41 hls40 h => g_out rq (hs2t.tr hs41) hls40 h) (fun r43 s40 hs41 hls40 h => ?_)
              have hs41t := hs2t.tr hs41
              have hBs40 := hB0.gx hs41t
              have h := h hs41
              obtain ⟨b44, h⟩ := h
              exact g_athrow rq hs41t hls40 b44 h dX2_date_129
      · have h := h.2 cc9
        refine x_null dX2_date_50 (n := 51) rfl ?_
        refine x_goto (tgt := 68) dX2_date_51 rfl ?_
        refine x_astoreN (lvs' := [(4, .null), (3, .int r4), (0, .ref o), (1, .long y1)]) dX2_date_68 (n := 70) rfl (by decide) rfl ?_
        refine x_aloadN dX2_date_70 (n := 72) rfl 0 rfl ?_
        refine x_ifnullN (tgt := 124) dX2_date_72 rfl ?_
        refine x_aload_n dX2_date_124 (n := 125) rfl rfl 2 rfl ?_
        refine x_iconst dX2_date_125 (n := 126) rfl ic_5 ?_
        refine g_cVr (fr := 7) (lo := 155) (As := [.int 5]) (rest := []) hz hs2t cv_X2_85 ck2 (met_X2_wrong o c d s1 5 Mx _ _  hBs1 hls1  h) hBs1.1 (by decide) hls1 rfl rfl rfl dX2_date_126 (n := 129) rfl (fun q s45 hs46 hls45 h => g_out rq (hs2t.tr hs46) hls45 h) (fun r48 s45 hs46 hls45 h => ?_)
        have hs46t := hs2t.tr hs46
        have hBs45 := hB0.gx hs46t
        have h := h hs46
        obtain ⟨b49, h⟩ := h
        exact g_athrow rq hs46t hls45 b49 h dX2_date_129
    · have h := h.2 cc6
      refine x_aload_n dX2_date_31 (n := 32) rfl rfl 1 rfl ?_
      refine x_iconst dX2_date_32 (n := 33) rfl ic_2 ?_
      refine g_cVr (fr := 7) (lo := 155) (As := [.int 2]) (rest := []) hz hs2t cv_X2_85 ck2 (met_X2_wrong o c d s1 2 Mx _ _  hBs1 hls1  h) hBs1.1 (by decide) hls1 rfl rfl rfl dX2_date_33 (n := 36) rfl (fun q s50 hs51 hls50 h => g_out rq (hs2t.tr hs51) hls50 h) (fun r53 s50 hs51 hls50 h => ?_)
      have hs51t := hs2t.tr hs51
      have hBs50 := hB0.gx hs51t
      have h := h hs51
      obtain ⟨b54, h⟩ := h
      exact g_athrow rq hs51t hls50 b54 h dX2_date_36
  · have h := h.2 cc5
    refine x_aload_n dX2_date_16 (n := 17) rfl rfl 1 rfl ?_
    refine x_iconst dX2_date_17 (n := 18) rfl ic_1 ?_
    refine g_cVr (fr := 7) (lo := 155) (As := [.int 1]) (rest := []) hz hs2t cv_X2_85 ck2 (met_X2_wrong o c d s1 1 Mx _ _  hBs1 hls1  h) hBs1.1 (by decide) hls1 rfl rfl rfl dX2_date_18 (n := 21) rfl (fun q s55 hs56 hls55 h => g_out rq (hs2t.tr hs56) hls55 h) (fun r58 s55 hs56 hls55 h => ?_)
    have hs56t := hs2t.tr hs56
    have hBs55 := hB0.gx hs56t
    have h := h hs56
    obtain ⟨b59, h⟩ := h
    exact g_athrow rq hs56t hls55 b59 h dX2_date_21
abbrev rm_X2_land (Mx : Nat) (σ0 : Hp) : Room := rmG 8 178 Mx σ0
def wp_X2_land (o c d : Nat) (σ0 : Hp) (Mx : Nat) (Q : Hp → Prop) (E : Nat → Hp → Prop) : Prop := (gS σ0 + 1 ≤ Mx) ∧ (wp_X2_fresh o c d (pN σ0 (.inl 6)) (d + 1) 4 Mx (fun r7 s4 => GX (pN σ0 (.inl 6)) s4 → wp_X2_number o c d s4 1 9999 Mx (fun r11 s8 => GX s4 s8 → wp_X2_signed o c d s8 99 Mx (fun r15 s12 => GX s8 s12 → ∀ s18 : Hp, s18 = f_X8_init (gS σ0) s12 r7 r11 r15 → ((f_X2_isWord o c d s18 8 8) = 0 → wp_J2_add (d + 1) 4 s18 (gS σ0) Mx (fun r27 s24 => GX s18 s24 → Q s24) E) ∧ (¬ (f_X2_isWord o c d s18 8 8) = 0 → wp_X2_next o c d s18 (fun  s28 => SH s18 s28 → wp_X2_number o c d s28 0 99999 Mx (fun r33 s30 => GX s28 s30 → (OB 6 (gS σ0) s30) ∧ (wp_J2_add (d + 1) 4 (pI s30 (gS σ0) 3 r33) (gS σ0) Mx (fun r38 s35 => GX (pI s30 (gS σ0) 3 r33) s35 → Q s35) E)) E))) E) E) E)
theorem met_X2_land (o c d : Nat) (σ0 : Hp) (Mx : Nat) (Q : Hp → Prop) (E : Nat → Hp → Prop) (hB0 : EB o c d σ0) (hM0 : gS σ0 ≤ Mx) (h : wp_X2_land o c d σ0 Mx Q E) : MetY yX2_land cX2_land 2 none (rm_X2_land Mx σ0) σ0 [.ref o] (oV (fun σ' => gP Mx σ0 Q σ')) (pxF Mx σ0 E) (Mx - gS σ0) (16 * (Mx - gS σ0)) := by
  refine metG_of (own := RX2) (lvs := [(0, .ref o)]) (by decide) rfl (Nat.le_of_ble_eq_true rfl) rfl (fun G rq hz w0 => ?_)
  unfold wp_X2_land at h
  obtain ⟨b1, h⟩ := h
  refine g_new hz (GX.rf (σ := σ0)) nx_X2_205 (by decide) b1 dX2_land_0 (n := 3) rfl (fun w3 hn2 => ?_)
  refine x_dup dX2_land_3 (n := 4) rfl rfl ?_
  refine x_aload_n dX2_land_4 (n := 5) rfl rfl 0 rfl ?_
  refine x_aload_n dX2_land_5 (n := 6) rfl rfl 0 rfl ?_
  refine x_getr fl_X2_115_2 rfl (hB0.gx hn2).1 (hB0.gx hn2).2.2.2.2.2.1 dX2_land_6 (n := 9) rfl ?_
  refine x_getr fl_X2_126_3 rfl (hB0.gx hn2).2.2.2.2.2.2.1 (hB0.gx hn2).2.2.2.2.2.2.r0 dX2_land_9 (n := 12) rfl ?_
  refine g_cVi (fr := 8) (lo := 178) (As := [.ref (d + 1)]) (rest := [.ref (gS σ0), .ref (gS σ0)]) hz hn2 cv_X2_172 ck2 (met_X2_fresh o c d (pN σ0 (.inl 6)) (d + 1) 4 Mx _ _  (hB0.gx hn2) (hB0.gx hn2).2.2.2.2.2.2.b0 b1  h) (hB0.gx hn2).1 (by decide) b1 rfl rfl rfl dX2_land_12 (n := 15) rfl (fun q s4 hs5 hls4 h => g_out rq (hn2.tr hs5) hls4 h) (fun r7 s4 hs5 hls4 h => ?_)
  have hs5t := hn2.tr hs5
  have hBs4 := hB0.gx hs5t
  have h := h hs5
  refine x_aload_n dX2_land_15 (n := 16) rfl rfl 0 rfl ?_
  refine x_iconst dX2_land_16 (n := 17) rfl ic_1 ?_
  refine x_sipush dX2_land_17 (n := 20) rfl sp_9999 ?_
  refine g_cVi (fr := 8) (lo := 178) (As := [.int 1, .int 9999]) (rest := [.int r7, .ref (gS σ0), .ref (gS σ0)]) hz hs5t cv_X2_96 ck2 (met_X2_number o c d s4 1 9999 Mx _ _  hBs4 hls4  h) hBs4.1 (by decide) hls4 rfl rfl rfl dX2_land_20 (n := 23) rfl (fun q s8 hs9 hls8 h => g_out rq (hs5t.tr hs9) hls8 h) (fun r11 s8 hs9 hls8 h => ?_)
  have hs9t := hs5t.tr hs9
  have hBs8 := hB0.gx hs9t
  have h := h hs9
  refine x_aload_n dX2_land_23 (n := 24) rfl rfl 0 rfl ?_
  refine x_bipush dX2_land_24 (n := 26) rfl bp_99 ?_
  refine g_cVi (fr := 8) (lo := 178) (As := [.int 99]) (rest := [.int r11, .int r7, .ref (gS σ0), .ref (gS σ0)]) hz hs9t cv_X2_207 ck2 (met_X2_signed o c d s8 99 Mx _ _  hBs8 hls8  h) hBs8.1 (by decide) hls8 rfl rfl rfl dX2_land_26 (n := 29) rfl (fun q s12 hs13 hls12 h => g_out rq (hs9t.tr hs13) hls12 h) (fun r15 s12 hs13 hls12 h => ?_)
  have hs13t := hs9t.tr hs13
  have hBs12 := hB0.gx hs13t
  have h := h hs13
  refine x_wf (fun w16 => ?_)
  refine x_callI (mc := 0) (ms := 0) (As := [.int r7, .int r11, .int r15]) (rest := [.ref (gS σ0)]) ci_X2_210 (met_X8_init (gS σ0) s12 r7 r11 r15 (hs13.t (hs9.t (hs5.t (gT_new (σ := σ0)))))) (hRi (fr := 8) (lo := 178) (mc := 0) (ms := 0) hs13t rfl rfl (by decide) (by decide) hls12) rfl rfl rfl dX2_land_29 (n := 32) rfl (fun s18 hp => ?_)
  obtain ⟨hk17, e20⟩ := hp
  have hn19 : GX σ0 s18 := hk17.2 σ0 w0 hs13t ((GX.rf (σ := σ0)).fresh w0) w16
  have hls18 : gS s18 ≤ Mx := by rw [e20]; exact hls12
  refine x_tight hz hn19 ?_
  have hBs18 := hB0.gx hn19
  have h := h s18 e20
  refine x_astore_n (lvs' := [(1, .ref (gS σ0)), (0, .ref o)]) dX2_land_32 (n := 33) rfl rfl (by decide) rfl ?_
  refine x_aload_n dX2_land_33 (n := 34) rfl rfl 1 rfl ?_
  refine x_bipush dX2_land_34 (n := 36) rfl bp_8 ?_
  refine x_bipush dX2_land_36 (n := 38) rfl bp_8 ?_
  refine x_cVip (As := [.int 8, .int 8]) (rest := []) cv_X2_122 ck2 (met_X2_isWord o c d s18 8 8 hBs18) hBs18.1 (hRg (fr := 8) (lo := 178) (by decide) hls18) rfl rfl rfl dX2_land_38 (n := 41) rfl (fun r22 q => ?_)
  subst q
  refine x_if_eq (tgt := 59) dX2_land_41 rfl (n := 44) rfl (fun cc23 => ?_) (fun cc23 => ?_)
  · have h := h.1 cc23
    refine x_aload_n dX2_land_59 (n := 60) rfl rfl 1 rfl ?_
    refine x_getr fl_X2_115_2 rfl hBs18.1 hBs18.2.2.2.2.2.1 dX2_land_60 (n := 63) rfl ?_
    refine x_getr fl_X2_126_3 rfl hBs18.2.2.2.2.2.2.1 hBs18.2.2.2.2.2.2.r0 dX2_land_63 (n := 66) rfl ?_
    refine x_aload_n dX2_land_66 (n := 67) rfl rfl 0 rfl ?_
    refine g_cVi (fr := 8) (lo := 178) (As := [.ref (gS σ0)]) (rest := []) hz hn19 cv_X2_183 ck4 (met_J2_add (d + 1) 4 s18 (gS σ0) Mx _ _  hBs18.2.2.2.2.2.2.b0 hls18  h) hBs18.2.2.2.2.2.2.b0.1 (by decide) hls18 rfl rfl rfl dX2_land_67 (n := 70) rfl (fun q s24 hs25 hls24 h => g_out rq (hn19.tr hs25) hls24 h) (fun r27 s24 hs25 hls24 h => ?_)
    have hs25t := hn19.tr hs25
    have hBs24 := hB0.gx hs25t
    have h := h hs25
    refine x_pop dX2_land_70 (n := 71) rfl rfl ?_
    exact g_vret rq hs25t hls24 h dX2_land_71
  · have h := h.2 cc23
    refine x_aload_n dX2_land_44 (n := 45) rfl rfl 1 rfl ?_
    refine x_cVvm (As := []) (rest := []) cv_X2_89 ck2 (met_X2_next o c d s18 _ hBs18 h) hBs18.1 (hRg (fr := 8) (lo := 178) (by decide) hls18) rfl rfl rfl dX2_land_45 (n := 48) rfl (fun  s28 hs29 h => ?_)
    have hs29t := hn19.s hs29
    have hBs28 := hB0.gx hs29t
    have hls28 : gS s28 ≤ Mx := Nat.le_trans (Nat.le_of_eq hs29.1) hls18
    refine x_tight hz hs29t ?_
    have h := h hs29
    refine x_aload_n dX2_land_48 (n := 49) rfl rfl 0 rfl ?_
    refine x_aload_n dX2_land_49 (n := 50) rfl rfl 1 rfl ?_
    refine x_iconst dX2_land_50 (n := 51) rfl ic_0 ?_
    refine x_ldc dX2_land_51 (n := 53) rfl q517 ?_
    refine g_cVi (fr := 8) (lo := 178) (As := [.int 0, .int 99999]) (rest := [.ref (gS σ0)]) hz hs29t cv_X2_96 ck2 (met_X2_number o c d s28 0 99999 Mx _ _  hBs28 hls28  h) hBs28.1 (by decide) hls28 rfl rfl rfl dX2_land_53 (n := 56) rfl (fun q s30 hs31 hls30 h => g_out rq (hs29t.tr hs31) hls30 h) (fun r33 s30 hs31 hls30 h => ?_)
    have hs31t := hs29t.tr hs31
    have hBs30 := hB0.gx hs31t
    have h := h hs31
    obtain ⟨b34, h⟩ := h
    refine x_puti fp_X2_213_6 rfl b34 dX2_land_56 (n := 59) rfl ?_
    refine x_aload_n dX2_land_59 (n := 60) rfl rfl 1 rfl ?_
    refine x_getr fl_X2_115_2 rfl hBs30.i.1 hBs30.i.2.2.2.2.2.1 dX2_land_60 (n := 63) rfl ?_
    refine x_getr fl_X2_126_3 rfl hBs30.i.2.2.2.2.2.2.1 hBs30.i.2.2.2.2.2.2.r0 dX2_land_63 (n := 66) rfl ?_
    refine x_aload_n dX2_land_66 (n := 67) rfl rfl 0 rfl ?_
    refine g_cVi (fr := 8) (lo := 178) (As := [.ref (gS σ0)]) (rest := []) hz hs31t.i cv_X2_183 ck4 (met_J2_add (d + 1) 4 (pI s30 (gS σ0) 3 r33) (gS σ0) Mx _ _  hBs30.i.2.2.2.2.2.2.b0 hls30  h) hBs30.i.2.2.2.2.2.2.b0.1 (by decide) hls30 rfl rfl rfl dX2_land_67 (n := 70) rfl (fun q s35 hs36 hls35 h => g_out rq (hs31t.i.tr hs36) hls35 h) (fun r38 s35 hs36 hls35 h => ?_)
    have hs36t := hs31t.i.tr hs36
    have hBs35 := hB0.gx hs36t
    have h := h hs36
    refine x_pop dX2_land_70 (n := 71) rfl rfl ?_
    exact g_vret rq hs36t hls35 h dX2_land_71
abbrev rm_X2_person (Mx : Nat) (σ0 : Hp) : Room := rmG 8 181 Mx σ0
def wp_X2_person (o c d : Nat) (σ0 : Hp) (Mx : Nat) (Q : Hp → Prop) (E : Nat → Hp → Prop) : Prop := wp_X2_fresh o c d σ0 (d + 5) 6 Mx (fun r4 s1 => GX σ0 s1 → (gS s1 + 1 ≤ Mx) ∧ (wp_X2_date o c d (pN s1 (.inl 8)) 0 Mx (fun r11 s8 => GX (pN s1 (.inl 8)) s8 → ∀ s14 : Hp, s14 = f_X9_init (gS s1) s8 r4 r11 → ((f_X2_isWord o c d s14 9 9) = 0 → wp_J2_add (d + 5) 6 s14 (gS s1) Mx (fun r23 s20 => GX s14 s20 → Q s20) E) ∧ (¬ (f_X2_isWord o c d s14 9 9) = 0 → wp_X2_next o c d s14 (fun  s24 => SH s14 s24 → (OB 8 (gS s1) s24) ∧ (wp_X2_date o c d s24 (gL s24 (gS s1) 1) Mx (fun r30 s27 => GX s24 s27 → (OB 8 (gS s1) s27) ∧ (wp_J2_add (d + 5) 6 (pL s27 (gS s1) 2 r30) (gS s1) Mx (fun r35 s32 => GX (pL s27 (gS s1) 2 r30) s32 → Q s32) E)) E)))) E)) E
theorem met_X2_person (o c d : Nat) (σ0 : Hp) (Mx : Nat) (Q : Hp → Prop) (E : Nat → Hp → Prop) (hB0 : EB o c d σ0) (hM0 : gS σ0 ≤ Mx) (h : wp_X2_person o c d σ0 Mx Q E) : MetY yX2_person cX2_person 3 none (rm_X2_person Mx σ0) σ0 [.ref o] (oV (fun σ' => gP Mx σ0 Q σ')) (pxF Mx σ0 E) (Mx - gS σ0) (16 * (Mx - gS σ0)) := by
  refine metG_of (own := RX2) (lvs := [(0, .ref o)]) (by decide) rfl (Nat.le_of_ble_eq_true rfl) rfl (fun G rq hz w0 => ?_)
  unfold wp_X2_person at h
  refine x_aload_n dX2_person_0 (n := 1) rfl rfl 0 rfl ?_
  refine x_aload_n dX2_person_1 (n := 2) rfl rfl 0 rfl ?_
  refine x_getr fl_X2_115_2 rfl hB0.1 hB0.2.2.2.2.2.1 dX2_person_2 (n := 5) rfl ?_
  refine x_getr fl_X2_134_3 rfl hB0.2.2.2.2.2.2.1 hB0.2.2.2.2.2.2.r2 dX2_person_5 (n := 8) rfl ?_
  refine g_cVi (fr := 8) (lo := 181) (As := [.ref (d + 5)]) (rest := []) hz (GX.rf (σ := σ0)) cv_X2_172 ck2 (met_X2_fresh o c d σ0 (d + 5) 6 Mx _ _  hB0 hB0.2.2.2.2.2.2.b2 hM0  h) hB0.1 (by decide) hM0 rfl rfl rfl dX2_person_8 (n := 11) rfl (fun q s1 hs2 hls1 h => g_out rq ((GX.rf (σ := σ0)).tr hs2) hls1 h) (fun r4 s1 hs2 hls1 h => ?_)
  have hs2t := (GX.rf (σ := σ0)).tr hs2
  have hBs1 := hB0.gx hs2t
  have h := h hs2
  refine x_istore_n (lvs' := [(1, .int r4), (0, .ref o)]) dX2_person_11 (n := 12) rfl rfl (by decide) rfl ?_
  obtain ⟨b5, h⟩ := h
  refine g_new hz hs2t nx_X2_234 (by decide) b5 dX2_person_12 (n := 15) rfl (fun w7 hn6 => ?_)
  refine x_dup dX2_person_15 (n := 16) rfl rfl ?_
  refine x_iload_n dX2_person_16 (n := 17) rfl rfl 0 rfl ?_
  refine x_aload_n dX2_person_17 (n := 18) rfl rfl 1 rfl ?_
  refine x_lconst dX2_person_18 (n := 19) rfl lc_0 ?_
  refine g_cVl (fr := 8) (lo := 181) (As := [.long 0]) (rest := [.int r4, .ref (gS s1), .ref (gS s1)]) hz hn6 cv_X2_236 ck2 (met_X2_date o c d (pN s1 (.inl 8)) 0 Mx _ _  (hB0.gx hn6) b5  h) (hB0.gx hn6).1 (by decide) b5 rfl rfl rfl dX2_person_19 (n := 22) rfl (fun q s8 hs9 hls8 h => g_out rq (hn6.tr hs9) hls8 h) (fun r11 s8 hs9 hls8 h => ?_)
  have hs9t := hn6.tr hs9
  have hBs8 := hB0.gx hs9t
  have h := h hs9
  refine x_wf (fun w12 => ?_)
  refine x_callI (mc := 0) (ms := 0) (As := [.int r4, .long r11]) (rest := [.ref (gS s1)]) ci_X2_239 (met_X9_init (gS s1) s8 r4 r11 (hs9.t (gT_new (σ := s1)))) (hRi (fr := 8) (lo := 181) (mc := 0) (ms := 0) hs9t rfl rfl (by decide) (by decide) hls8) rfl rfl rfl dX2_person_22 (n := 25) rfl (fun s14 hp => ?_)
  obtain ⟨hk13, e16⟩ := hp
  have hn15 : GX σ0 s14 := hk13.2 σ0 w0 hs9t (hs2t.fresh w0) w12
  have hls14 : gS s14 ≤ Mx := by rw [e16]; exact hls8
  refine x_tight hz hn15 ?_
  have hBs14 := hB0.gx hn15
  have h := h s14 e16
  refine x_astore_n (lvs' := [(2, .ref (gS s1)), (1, .int r4), (0, .ref o)]) dX2_person_25 (n := 26) rfl rfl (by decide) rfl ?_
  refine x_aload_n dX2_person_26 (n := 27) rfl rfl 2 rfl ?_
  refine x_bipush dX2_person_27 (n := 29) rfl bp_9 ?_
  refine x_bipush dX2_person_29 (n := 31) rfl bp_9 ?_
  refine x_cVip (As := [.int 9, .int 9]) (rest := []) cv_X2_122 ck2 (met_X2_isWord o c d s14 9 9 hBs14) hBs14.1 (hRg (fr := 8) (lo := 181) (by decide) hls14) rfl rfl rfl dX2_person_31 (n := 34) rfl (fun r18 q => ?_)
  subst q
  refine x_if_eq (tgt := 53) dX2_person_34 rfl (n := 37) rfl (fun cc19 => ?_) (fun cc19 => ?_)
  · have h := h.1 cc19
    refine x_aload_n dX2_person_53 (n := 54) rfl rfl 2 rfl ?_
    refine x_getr fl_X2_115_2 rfl hBs14.1 hBs14.2.2.2.2.2.1 dX2_person_54 (n := 57) rfl ?_
    refine x_getr fl_X2_134_3 rfl hBs14.2.2.2.2.2.2.1 hBs14.2.2.2.2.2.2.r2 dX2_person_57 (n := 60) rfl ?_
    refine x_aload_n dX2_person_60 (n := 61) rfl rfl 0 rfl ?_
    refine g_cVi (fr := 8) (lo := 181) (As := [.ref (gS s1)]) (rest := []) hz hn15 cv_X2_183 ck4 (met_J2_add (d + 5) 6 s14 (gS s1) Mx _ _  hBs14.2.2.2.2.2.2.b2 hls14  h) hBs14.2.2.2.2.2.2.b2.1 (by decide) hls14 rfl rfl rfl dX2_person_61 (n := 64) rfl (fun q s20 hs21 hls20 h => g_out rq (hn15.tr hs21) hls20 h) (fun r23 s20 hs21 hls20 h => ?_)
    have hs21t := hn15.tr hs21
    have hBs20 := hB0.gx hs21t
    have h := h hs21
    refine x_pop dX2_person_64 (n := 65) rfl rfl ?_
    exact g_vret rq hs21t hls20 h dX2_person_65
  · have h := h.2 cc19
    refine x_aload_n dX2_person_37 (n := 38) rfl rfl 2 rfl ?_
    refine x_cVvm (As := []) (rest := []) cv_X2_89 ck2 (met_X2_next o c d s14 _ hBs14 h) hBs14.1 (hRg (fr := 8) (lo := 181) (by decide) hls14) rfl rfl rfl dX2_person_38 (n := 41) rfl (fun  s24 hs25 h => ?_)
    have hs25t := hn15.s hs25
    have hBs24 := hB0.gx hs25t
    have hls24 : gS s24 ≤ Mx := Nat.le_trans (Nat.le_of_eq hs25.1) hls14
    refine x_tight hz hs25t ?_
    have h := h hs25
    refine x_aload_n dX2_person_41 (n := 42) rfl rfl 0 rfl ?_
    refine x_aload_n dX2_person_42 (n := 43) rfl rfl 2 rfl ?_
    refine x_aload_n dX2_person_43 (n := 44) rfl rfl 0 rfl ?_
    obtain ⟨b26, h⟩ := h
    refine x_getl fl_X2_242_8 rfl b26 rfl dX2_person_44 (n := 47) rfl ?_
    refine g_cVl (fr := 8) (lo := 181) (As := [.long (gL s24 (gS s1) 1)]) (rest := [.ref (gS s1)]) hz hs25t cv_X2_236 ck2 (met_X2_date o c d s24 (gL s24 (gS s1) 1) Mx _ _  hBs24 hls24  h) hBs24.1 (by decide) hls24 rfl rfl rfl dX2_person_47 (n := 50) rfl (fun q s27 hs28 hls27 h => g_out rq (hs25t.tr hs28) hls27 h) (fun r30 s27 hs28 hls27 h => ?_)
    have hs28t := hs25t.tr hs28
    have hBs27 := hB0.gx hs28t
    have h := h hs28
    obtain ⟨b31, h⟩ := h
    refine x_putl fp_X2_245_8 rfl b31 dX2_person_50 (n := 53) rfl ?_
    refine x_aload_n dX2_person_53 (n := 54) rfl rfl 2 rfl ?_
    refine x_getr fl_X2_115_2 rfl hBs27.l.1 hBs27.l.2.2.2.2.2.1 dX2_person_54 (n := 57) rfl ?_
    refine x_getr fl_X2_134_3 rfl hBs27.l.2.2.2.2.2.2.1 hBs27.l.2.2.2.2.2.2.r2 dX2_person_57 (n := 60) rfl ?_
    refine x_aload_n dX2_person_60 (n := 61) rfl rfl 0 rfl ?_
    refine g_cVi (fr := 8) (lo := 181) (As := [.ref (gS s1)]) (rest := []) hz hs28t.l cv_X2_183 ck4 (met_J2_add (d + 5) 6 (pL s27 (gS s1) 2 r30) (gS s1) Mx _ _  hBs27.l.2.2.2.2.2.2.b2 hls27  h) hBs27.l.2.2.2.2.2.2.b2.1 (by decide) hls27 rfl rfl rfl dX2_person_61 (n := 64) rfl (fun q s32 hs33 hls32 h => g_out rq (hs28t.l.tr hs33) hls32 h) (fun r35 s32 hs33 hls32 h => ?_)
    have hs33t := hs28t.l.tr hs33
    have hBs32 := hB0.gx hs33t
    have h := h hs33
    refine x_pop dX2_person_64 (n := 65) rfl rfl ?_
    exact g_vret rq hs33t hls32 h dX2_person_65
abbrev rm_X2_deed (Mx : Nat) (σ0 : Hp) : Room := rmG 8 181 Mx σ0
def wj_X2_deed_118 (o c d : Nat) (σ : Hp) (w0 : Nat) (Mx : Nat) (Q : Hp → Prop) (E : Nat → Hp → Prop)  : Prop := ((f_X2_isWord o c d σ 13 13) = 0 → wp_X2_wrong o c d σ 1 Mx (fun r74 s71 => GX σ s71 → (OB 16 r74 s71) ∧ (E r74 s71)) E) ∧ (¬ (f_X2_isWord o c d σ 13 13) = 0 → wp_X2_next o c d σ (fun  s60 => SH σ s60 → wp_X2_number o c d s60 0 999 Mx (fun r65 s62 => GX s60 s62 → (isDd s62 w0) ∧ (wp_J2_add (d + 7) 4 (pI s62 w0 3 r65) w0 Mx (fun r70 s67 => GX (pI s62 w0 3 r65) s67 → Q s67) E)) E))
def wp_X2_deed (o c d : Nat) (σ0 : Hp) (Mx : Nat) (Q : Hp → Prop) (E : Nat → Hp → Prop) : Prop := wp_X2_fresh o c d σ0 (d + 7) 4 Mx (fun r4 s1 => GX σ0 s1 → wp_X2_date o c d s1 0 Mx (fun r8 s5 => GX s1 s5 → ((f_X2_isWord o c d s5 10 12) = 0 → wp_X2_wrong o c d s5 1 Mx (fun r55 s52 => GX s5 s52 → (OB 16 r55 s52) ∧ (E r55 s52)) E) ∧ (¬ (f_X2_isWord o c d s5 10 12) = 0 → wp_X2_next o c d s5 (fun  s12 => SH s5 s12 → ((gI s5 o 4) = 10 → (gS s12 + 1 ≤ Mx) ∧ (wp_X2_number o c d (pN s12 (.inl 10)) 0 999 Mx (fun r46 s43 => GX (pN s12 (.inl 10)) s43 → ∀ s49 : Hp, s49 = f_X11_init (gS s12) s43 r4 r8 r46 → wj_X2_deed_118 o c d s49 (gS s12) Mx Q E) E)) ∧ (¬ (gI s5 o 4) = 10 → ((gI s5 o 4) = 11 → (gS s12 + 1 ≤ Mx) ∧ (wp_X2_number o c d (pN s12 (.inl 9)) 0 99999 Mx (fun r34 s31 => GX (pN s12 (.inl 9)) s31 → ∀ s37 : Hp, s37 = f_X10_init (gS s12) s31 r4 r8 r34 → wj_X2_deed_118 o c d s37 (gS s12) Mx Q E) E)) ∧ (¬ (gI s5 o 4) = 11 → (gS s12 + 1 ≤ Mx) ∧ (wp_X2_ahead o c d (pN s12 (.inl 11)) (d + 3) 4 Mx (fun r22 s19 => GX (pN s12 (.inl 11)) s19 → ∀ s25 : Hp, s25 = f_X12_init (gS s12) s19 r4 r8 r22 → wj_X2_deed_118 o c d s25 (gS s12) Mx Q E) E)))))) E) E
theorem xj_X2_deed_118 (o c d : Nat) (σ0 : Hp) (Mx : Nat) (Q : Hp → Prop) (E : Nat → Hp → Prop) (G : XE) (hB0 : EB o c d σ0) (rq : RQx G [] (Mx - gS σ0) (16 * (Mx - gS σ0)) (oV (fun σ' => gP Mx σ0 Q σ')) (pxF Mx σ0 E)) (hz : G.2.2.2.1.heap.size = gS σ0) (w0 : WF σ0) (hM0 : gS σ0 ≤ Mx) (σ : Hp) (w0 : Nat)    (hs : (GX σ0 σ ∧ gS σ ≤ Mx)) (h : wj_X2_deed_118 o c d σ w0 Mx Q E ) : X G (rm_X2_deed Mx σ0) cX2_deed RX2 6 none σ (gS σ - gS σ0) (16 * (gS σ - gS σ0)) 118 [(0, .ref o)] [.ref w0] := by
  have hle : gS σ ≤ Mx := hs.2
  have hs : GX σ0 σ := hs.1
  have hB := hB0.gx hs
  unfold wj_X2_deed_118 at h
  refine x_astore (lvs' := [(5, .ref w0), (0, .ref o)]) dX2_deed_118 (n := 120) rfl (by decide) rfl ?_
  refine x_aload_n dX2_deed_120 (n := 121) rfl rfl 1 rfl ?_
  refine x_bipush dX2_deed_121 (n := 123) rfl bp_13 ?_
  refine x_bipush dX2_deed_123 (n := 125) rfl bp_13 ?_
  refine x_cVip (As := [.int 13, .int 13]) (rest := []) cv_X2_122 ck2 (met_X2_isWord o c d σ 13 13 hB) hB.1 (hRg (fr := 8) (lo := 181) (by decide) hle) rfl rfl rfl dX2_deed_125 (n := 128) rfl (fun r58 q => ?_)
  subst q
  refine x_if_ne (tgt := 137) dX2_deed_128 rfl (n := 131) rfl (fun cc59 => ?_) (fun cc59 => ?_)
  · have h := h.2 cc59
    refine x_aload_n dX2_deed_137 (n := 138) rfl rfl 1 rfl ?_
    refine x_cVvm (As := []) (rest := []) cv_X2_89 ck2 (met_X2_next o c d σ _ hB h) hB.1 (hRg (fr := 8) (lo := 181) (by decide) hle) rfl rfl rfl dX2_deed_138 (n := 141) rfl (fun  s60 hs61 h => ?_)
    have hs61t := hs.s hs61
    have hBs60 := hB0.gx hs61t
    have hls60 : gS s60 ≤ Mx := Nat.le_trans (Nat.le_of_eq hs61.1) hle
    refine x_tight hz hs61t ?_
    have h := h hs61
    refine x_aload dX2_deed_141 (n := 143) rfl 0 rfl ?_
    refine x_aload_n dX2_deed_143 (n := 144) rfl rfl 1 rfl ?_
    refine x_iconst dX2_deed_144 (n := 145) rfl ic_0 ?_
    refine x_sipush dX2_deed_145 (n := 148) rfl sp_999 ?_
    refine g_cVi (fr := 8) (lo := 181) (As := [.int 0, .int 999]) (rest := [.ref w0]) hz hs61t cv_X2_96 ck2 (met_X2_number o c d s60 0 999 Mx _ _  hBs60 hls60  h) hBs60.1 (by decide) hls60 rfl rfl rfl dX2_deed_148 (n := 151) rfl (fun q s62 hs63 hls62 h => g_out rq (hs61t.tr hs63) hls62 h) (fun r65 s62 hs63 hls62 h => ?_)
    have hs63t := hs61t.tr hs63
    have hBs62 := hB0.gx hs63t
    have h := h hs63
    obtain ⟨b66, h⟩ := h
    refine x_putMi dds fpd_X2_262 b66 dX2_deed_151 (n := 154) rfl ?_
    refine x_aload_n dX2_deed_154 (n := 155) rfl rfl 1 rfl ?_
    refine x_getr fl_X2_115_2 rfl hBs62.i.1 hBs62.i.2.2.2.2.2.1 dX2_deed_155 (n := 158) rfl ?_
    refine x_getr fl_X2_137_3 rfl hBs62.i.2.2.2.2.2.2.1 hBs62.i.2.2.2.2.2.2.r3 dX2_deed_158 (n := 161) rfl ?_
    refine x_aload dX2_deed_161 (n := 163) rfl 0 rfl ?_
    refine g_cVi (fr := 8) (lo := 181) (As := [.ref w0]) (rest := []) hz hs63t.i cv_X2_183 ck4 (met_J2_add (d + 7) 4 (pI s62 w0 3 r65) w0 Mx _ _  hBs62.i.2.2.2.2.2.2.b3 hls62  h) hBs62.i.2.2.2.2.2.2.b3.1 (by decide) hls62 rfl rfl rfl dX2_deed_163 (n := 166) rfl (fun q s67 hs68 hls67 h => g_out rq (hs63t.i.tr hs68) hls67 h) (fun r70 s67 hs68 hls67 h => ?_)
    have hs68t := hs63t.i.tr hs68
    have hBs67 := hB0.gx hs68t
    have h := h hs68
    refine x_pop dX2_deed_166 (n := 167) rfl rfl ?_
    exact g_vret rq hs68t hls67 h dX2_deed_167
  · have h := h.1 cc59
    refine x_aload_n dX2_deed_131 (n := 132) rfl rfl 1 rfl ?_
    refine x_iconst dX2_deed_132 (n := 133) rfl ic_1 ?_
    refine g_cVr (fr := 8) (lo := 181) (As := [.int 1]) (rest := []) hz hs cv_X2_85 ck2 (met_X2_wrong o c d σ 1 Mx _ _  hB hle  h) hB.1 (by decide) hle rfl rfl rfl dX2_deed_133 (n := 136) rfl (fun q s71 hs72 hls71 h => g_out rq (hs.tr hs72) hls71 h) (fun r74 s71 hs72 hls71 h => ?_)
    have hs72t := hs.tr hs72
    have hBs71 := hB0.gx hs72t
    have h := h hs72
    obtain ⟨b75, h⟩ := h
    exact g_athrow rq hs72t hls71 b75 h dX2_deed_136
theorem met_X2_deed (o c d : Nat) (σ0 : Hp) (Mx : Nat) (Q : Hp → Prop) (E : Nat → Hp → Prop) (hB0 : EB o c d σ0) (hM0 : gS σ0 ≤ Mx) (h : wp_X2_deed o c d σ0 Mx Q E) : MetY yX2_deed cX2_deed 6 none (rm_X2_deed Mx σ0) σ0 [.ref o] (oV (fun σ' => gP Mx σ0 Q σ')) (pxF Mx σ0 E) (Mx - gS σ0) (16 * (Mx - gS σ0)) := by
  refine metG_of (own := RX2) (lvs := [(0, .ref o)]) (by decide) rfl (Nat.le_of_ble_eq_true rfl) rfl (fun G rq hz w0 => ?_)
  unfold wp_X2_deed at h
  refine x_aload_n dX2_deed_0 (n := 1) rfl rfl 0 rfl ?_
  refine x_aload_n dX2_deed_1 (n := 2) rfl rfl 0 rfl ?_
  refine x_getr fl_X2_115_2 rfl hB0.1 hB0.2.2.2.2.2.1 dX2_deed_2 (n := 5) rfl ?_
  refine x_getr fl_X2_137_3 rfl hB0.2.2.2.2.2.2.1 hB0.2.2.2.2.2.2.r3 dX2_deed_5 (n := 8) rfl ?_
  refine g_cVi (fr := 8) (lo := 181) (As := [.ref (d + 7)]) (rest := []) hz (GX.rf (σ := σ0)) cv_X2_172 ck2 (met_X2_fresh o c d σ0 (d + 7) 4 Mx _ _  hB0 hB0.2.2.2.2.2.2.b3 hM0  h) hB0.1 (by decide) hM0 rfl rfl rfl dX2_deed_8 (n := 11) rfl (fun q s1 hs2 hls1 h => g_out rq ((GX.rf (σ := σ0)).tr hs2) hls1 h) (fun r4 s1 hs2 hls1 h => ?_)
  have hs2t := (GX.rf (σ := σ0)).tr hs2
  have hBs1 := hB0.gx hs2t
  have h := h hs2
  refine x_istore_n (lvs' := [(1, .int r4), (0, .ref o)]) dX2_deed_11 (n := 12) rfl rfl (by decide) rfl ?_
  refine x_aload_n dX2_deed_12 (n := 13) rfl rfl 1 rfl ?_
  refine x_lconst dX2_deed_13 (n := 14) rfl lc_0 ?_
  refine g_cVl (fr := 8) (lo := 181) (As := [.long 0]) (rest := []) hz hs2t cv_X2_236 ck2 (met_X2_date o c d s1 0 Mx _ _  hBs1 hls1  h) hBs1.1 (by decide) hls1 rfl rfl rfl dX2_deed_14 (n := 17) rfl (fun q s5 hs6 hls5 h => g_out rq (hs2t.tr hs6) hls5 h) (fun r8 s5 hs6 hls5 h => ?_)
  have hs6t := hs2t.tr hs6
  have hBs5 := hB0.gx hs6t
  have h := h hs6
  refine x_lstore_n (lvs' := [(2, .long r8), (1, .int r4), (0, .ref o)]) dX2_deed_17 (n := 18) rfl rfl (by decide) rfl ?_
  refine x_aload_n dX2_deed_18 (n := 19) rfl rfl 2 rfl ?_
  refine x_bipush dX2_deed_19 (n := 21) rfl bp_10 ?_
  refine x_bipush dX2_deed_21 (n := 23) rfl bp_12 ?_
  refine x_cVip (As := [.int 10, .int 12]) (rest := []) cv_X2_122 ck2 (met_X2_isWord o c d s5 10 12 hBs5) hBs5.1 (hRg (fr := 8) (lo := 181) (by decide) hls5) rfl rfl rfl dX2_deed_23 (n := 26) rfl (fun r10 q => ?_)
  subst q
  refine x_if_ne (tgt := 35) dX2_deed_26 rfl (n := 29) rfl (fun cc11 => ?_) (fun cc11 => ?_)
  · have h := h.2 cc11
    refine x_aload_n dX2_deed_35 (n := 36) rfl rfl 2 rfl ?_
    refine x_geti fl_X2_47_2 rfl hBs5.1 rfl dX2_deed_36 (n := 39) rfl ?_
    refine x_istore (lvs' := [(4, .int (gI s5 o 4)), (2, .long r8), (1, .int r4), (0, .ref o)]) dX2_deed_39 (n := 41) rfl (by decide) rfl ?_
    refine x_aload_n dX2_deed_41 (n := 42) rfl rfl 3 rfl ?_
    refine x_cVvm (As := []) (rest := []) cv_X2_89 ck2 (met_X2_next o c d s5 _ hBs5 h) hBs5.1 (hRg (fr := 8) (lo := 181) (by decide) hls5) rfl rfl rfl dX2_deed_42 (n := 45) rfl (fun  s12 hs13 h => ?_)
    have hs13t := hs6t.s hs13
    have hBs12 := hB0.gx hs13t
    have hls12 : gS s12 ≤ Mx := Nat.le_trans (Nat.le_of_eq hs13.1) hls5
    refine x_tight hz hs13t ?_
    have h := h hs13
    refine x_iload dX2_deed_45 (n := 47) rfl 0 rfl ?_
    refine x_bipush dX2_deed_47 (n := 49) rfl bp_10 ?_
    refine x_icmp_ne (tgt := 72) dX2_deed_49 rfl (n := 52) rfl (fun cc14 => ?_) (fun cc14 => ?_)
    · have h := h.2 cc14
      refine x_iload dX2_deed_72 (n := 74) rfl 0 rfl ?_
      refine x_bipush dX2_deed_74 (n := 76) rfl bp_11 ?_
      refine x_icmp_ne (tgt := 98) dX2_deed_76 rfl (n := 79) rfl (fun cc15 => ?_) (fun cc15 => ?_)
      · have h := h.2 cc15
        obtain ⟨b16, h⟩ := h
        refine g_new hz hs13t nx_X2_256 (by decide) b16 dX2_deed_98 (n := 101) rfl (fun w18 hn17 => ?_)
        refine x_dup dX2_deed_101 (n := 102) rfl rfl ?_
        refine x_iload_n dX2_deed_102 (n := 103) rfl rfl 2 rfl ?_
        refine x_lload_n dX2_deed_103 (n := 104) rfl rfl 1 rfl ?_
        refine x_aload_n dX2_deed_104 (n := 105) rfl rfl 3 rfl ?_
        refine x_aload_n dX2_deed_105 (n := 106) rfl rfl 3 rfl ?_
        refine x_getr fl_X2_115_2 rfl (hB0.gx hn17).1 (hB0.gx hn17).2.2.2.2.2.1 dX2_deed_106 (n := 109) rfl ?_
        refine x_getr fl_X2_143_3 rfl (hB0.gx hn17).2.2.2.2.2.2.1 (hB0.gx hn17).2.2.2.2.2.2.r1 dX2_deed_109 (n := 112) rfl ?_
        refine g_cVi (fr := 8) (lo := 181) (As := [.ref (d + 3)]) (rest := [.long r8, .int r4, .ref (gS s12), .ref (gS s12)]) hz hn17 cv_X2_258 ck2 (met_X2_ahead o c d (pN s12 (.inl 11)) (d + 3) 4 Mx _ _  (hB0.gx hn17) (hB0.gx hn17).2.2.2.2.2.2.b1 b16  h) (hB0.gx hn17).1 (by decide) b16 rfl rfl rfl dX2_deed_112 (n := 115) rfl (fun q s19 hs20 hls19 h => g_out rq (hn17.tr hs20) hls19 h) (fun r22 s19 hs20 hls19 h => ?_)
        have hs20t := hn17.tr hs20
        have hBs19 := hB0.gx hs20t
        have h := h hs20
        refine x_wf (fun w23 => ?_)
        refine x_callI (mc := 0) (ms := 0) (As := [.int r4, .long r8, .int r22]) (rest := [.ref (gS s12)]) ci_X2_261 (met_X12_init (gS s12) s19 r4 r8 r22 (hs20.t (gT_new (σ := s12)))) (hRi (fr := 8) (lo := 181) (mc := 0) (ms := 0) hs20t rfl rfl (by decide) (by decide) hls19) rfl rfl rfl dX2_deed_115 (n := 118) rfl (fun s25 hp => ?_)
        obtain ⟨hk24, e27⟩ := hp
        have hn26 : GX σ0 s25 := hk24.2 σ0 w0 hs20t (hs13t.fresh w0) w23
        have hls25 : gS s25 ≤ Mx := by rw [e27]; exact hls19
        refine x_tight hz hn26 ?_
        have hBs25 := hB0.gx hn26
        have h := h s25 e27
        exact x_sub [3] rfl (xj_X2_deed_118 o c d σ0 Mx Q E G hB0 rq hz w0 hM0 s25 (gS s12) ⟨hn26, hls25⟩ h)
      · have h := h.1 cc15
        obtain ⟨b28, h⟩ := h
        refine g_new hz hs13t nx_X2_253 (by decide) b28 dX2_deed_79 (n := 82) rfl (fun w30 hn29 => ?_)
        refine x_dup dX2_deed_82 (n := 83) rfl rfl ?_
        refine x_iload_n dX2_deed_83 (n := 84) rfl rfl 2 rfl ?_
        refine x_lload_n dX2_deed_84 (n := 85) rfl rfl 1 rfl ?_
        refine x_aload_n dX2_deed_85 (n := 86) rfl rfl 3 rfl ?_
        refine x_iconst dX2_deed_86 (n := 87) rfl ic_0 ?_
        refine x_ldc dX2_deed_87 (n := 89) rfl q517 ?_
        refine g_cVi (fr := 8) (lo := 181) (As := [.int 0, .int 99999]) (rest := [.long r8, .int r4, .ref (gS s12), .ref (gS s12)]) hz hn29 cv_X2_96 ck2 (met_X2_number o c d (pN s12 (.inl 9)) 0 99999 Mx _ _  (hB0.gx hn29) b28  h) (hB0.gx hn29).1 (by decide) b28 rfl rfl rfl dX2_deed_89 (n := 92) rfl (fun q s31 hs32 hls31 h => g_out rq (hn29.tr hs32) hls31 h) (fun r34 s31 hs32 hls31 h => ?_)
        have hs32t := hn29.tr hs32
        have hBs31 := hB0.gx hs32t
        have h := h hs32
        refine x_wf (fun w35 => ?_)
        refine x_callI (mc := 0) (ms := 0) (As := [.int r4, .long r8, .int r34]) (rest := [.ref (gS s12)]) ci_X2_255 (met_X10_init (gS s12) s31 r4 r8 r34 9 (by decide) (hs32.t (gT_new (σ := s12)))) (hRi (fr := 8) (lo := 181) (mc := 0) (ms := 0) hs32t rfl rfl (by decide) (by decide) hls31) rfl rfl rfl dX2_deed_92 (n := 95) rfl (fun s37 hp => ?_)
        obtain ⟨hk36, e39⟩ := hp
        have hn38 : GX σ0 s37 := hk36.2 σ0 w0 hs32t (hs13t.fresh w0) w35
        have hls37 : gS s37 ≤ Mx := by rw [e39]; exact hls31
        refine x_tight hz hn38 ?_
        have hBs37 := hB0.gx hn38
        have h := h s37 e39
        refine x_goto (tgt := 118) dX2_deed_95 rfl ?_
        exact x_sub [3] rfl (xj_X2_deed_118 o c d σ0 Mx Q E G hB0 rq hz w0 hM0 s37 (gS s12) ⟨hn38, hls37⟩ h)
    · have h := h.1 cc14
      obtain ⟨b40, h⟩ := h
      refine g_new hz hs13t nx_X2_248 (by decide) b40 dX2_deed_52 (n := 55) rfl (fun w42 hn41 => ?_)
      refine x_dup dX2_deed_55 (n := 56) rfl rfl ?_
      refine x_iload_n dX2_deed_56 (n := 57) rfl rfl 2 rfl ?_
      refine x_lload_n dX2_deed_57 (n := 58) rfl rfl 1 rfl ?_
      refine x_aload_n dX2_deed_58 (n := 59) rfl rfl 3 rfl ?_
      refine x_iconst dX2_deed_59 (n := 60) rfl ic_0 ?_
      refine x_sipush dX2_deed_60 (n := 63) rfl sp_999 ?_
      refine g_cVi (fr := 8) (lo := 181) (As := [.int 0, .int 999]) (rest := [.long r8, .int r4, .ref (gS s12), .ref (gS s12)]) hz hn41 cv_X2_96 ck2 (met_X2_number o c d (pN s12 (.inl 10)) 0 999 Mx _ _  (hB0.gx hn41) b40  h) (hB0.gx hn41).1 (by decide) b40 rfl rfl rfl dX2_deed_63 (n := 66) rfl (fun q s43 hs44 hls43 h => g_out rq (hn41.tr hs44) hls43 h) (fun r46 s43 hs44 hls43 h => ?_)
      have hs44t := hn41.tr hs44
      have hBs43 := hB0.gx hs44t
      have h := h hs44
      refine x_wf (fun w47 => ?_)
      refine x_callI (mc := 0) (ms := 0) (As := [.int r4, .long r8, .int r46]) (rest := [.ref (gS s12)]) ci_X2_250 (met_X11_init (gS s12) s43 r4 r8 r46 (hs44.t (gT_new (σ := s12)))) (hRi (fr := 8) (lo := 181) (mc := 0) (ms := 0) hs44t rfl rfl (by decide) (by decide) hls43) rfl rfl rfl dX2_deed_66 (n := 69) rfl (fun s49 hp => ?_)
      obtain ⟨hk48, e51⟩ := hp
      have hn50 : GX σ0 s49 := hk48.2 σ0 w0 hs44t (hs13t.fresh w0) w47
      have hls49 : gS s49 ≤ Mx := by rw [e51]; exact hls43
      refine x_tight hz hn50 ?_
      have hBs49 := hB0.gx hn50
      have h := h s49 e51
      refine x_goto (tgt := 118) dX2_deed_69 rfl ?_
      exact x_sub [3] rfl (xj_X2_deed_118 o c d σ0 Mx Q E G hB0 rq hz w0 hM0 s49 (gS s12) ⟨hn50, hls49⟩ h)
  · have h := h.1 cc11
    refine x_aload_n dX2_deed_29 (n := 30) rfl rfl 2 rfl ?_
    refine x_iconst dX2_deed_30 (n := 31) rfl ic_1 ?_
    refine g_cVr (fr := 8) (lo := 181) (As := [.int 1]) (rest := []) hz hs6t cv_X2_85 ck2 (met_X2_wrong o c d s5 1 Mx _ _  hBs5 hls5  h) hBs5.1 (by decide) hls5 rfl rfl rfl dX2_deed_31 (n := 34) rfl (fun q s52 hs53 hls52 h => g_out rq (hs6t.tr hs53) hls52 h) (fun r55 s52 hs53 hls52 h => ?_)
    have hs53t := hs6t.tr hs53
    have hBs52 := hB0.gx hs53t
    have h := h hs53
    obtain ⟨b56, h⟩ := h
    exact g_athrow rq hs53t hls52 b56 h dX2_deed_34
abbrev rm_X2_note (Mx : Nat) (σ0 : Hp) : Room := rmG 8 178 Mx σ0
def lb_X2_note_24 (o c d : Nat) (r1 : Nat) (Mx : Nat) (Q : Hp → Prop) (E : Nat → Hp → Prop)  (K24 : Int32 × Hp → Prop) (z : Int32 × Hp) : Prop := match z with
  | (x2, σ) => (x2 = (-1) → wp_J2_add (d + 9) 6 σ r1 Mx (fun r20 s17 => GX σ s17 → Q s17) E) ∧ (¬ x2 = (-1) → (NB r1 σ) ∧ (((f_X5_has r1 σ x2) = 0 → wp_X2_next o c d σ (fun  s25 => SH σ s25 → (x2 = 0 → wp_X2_number o c d s25 1 9999 Mx (fun r31 s28 => GX s25 s28 → wp_X2_number o c d s28 r31 9999 Mx (fun r35 s32 => GX s28 s32 → (NB r1 s32) ∧ ((ok_X5_say r1 s32 x2 r31 r35) ∧ (∀ s37 : Hp, s37 = f_X5_say r1 s32 x2 r31 r35 → K24 (f_X2_sayingAtHand o c d s37, s37)))) E) E) ∧ (¬ x2 = 0 → (x2 = 1 → wp_X2_number o c d s25 1 99999 Mx (fun r47 s44 => GX s25 s44 → (NB r1 s44) ∧ ((ok_X5_say r1 s44 x2 r47 0) ∧ (∀ s49 : Hp, s49 = f_X5_say r1 s44 x2 r47 0 → K24 (f_X2_sayingAtHand o c d s49, s49)))) E) ∧ (¬ x2 = 1 → (x2 = 2 → wp_X2_number o c d s25 0 99999 Mx (fun r59 s56 => GX s25 s56 → (NB r1 s56) ∧ ((ok_X5_say r1 s56 x2 r59 0) ∧ (∀ s61 : Hp, s61 = f_X5_say r1 s56 x2 r59 0 → K24 (f_X2_sayingAtHand o c d s61, s61)))) E) ∧ (¬ x2 = 2 → (x2 = 3 → wp_X2_number o c d s25 0 7 Mx (fun r71 s68 => GX s25 s68 → (NB r1 s68) ∧ ((ok_X5_say r1 s68 x2 r71 0) ∧ (∀ s73 : Hp, s73 = f_X5_say r1 s68 x2 r71 0 → K24 (f_X2_sayingAtHand o c d s73, s73)))) E) ∧ (¬ x2 = 3 → (x2 = 4 → wp_X2_number o c d s25 0 3 Mx (fun r83 s80 => GX s25 s80 → (NB r1 s80) ∧ ((ok_X5_say r1 s80 x2 r83 0) ∧ (∀ s85 : Hp, s85 = f_X5_say r1 s80 x2 r83 0 → K24 (f_X2_sayingAtHand o c d s85, s85)))) E) ∧ (¬ x2 = 4 → (x2 = 5 → wp_X2_ahead o c d s25 (d + 5) 6 Mx (fun r95 s92 => GX s25 s92 → (NB r1 s92) ∧ ((ok_X5_say r1 s92 x2 r95 0) ∧ (∀ s97 : Hp, s97 = f_X5_say r1 s92 x2 r95 0 → K24 (f_X2_sayingAtHand o c d s97, s97)))) E) ∧ (¬ x2 = 5 → (x2 = 6 → wp_X2_ahead o c d s25 (d + 3) 4 Mx (fun r107 s104 => GX s25 s104 → (NB r1 s104) ∧ ((ok_X5_say r1 s104 x2 r107 0) ∧ (∀ s109 : Hp, s109 = f_X5_say r1 s104 x2 r107 0 → K24 (f_X2_sayingAtHand o c d s109, s109)))) E) ∧ (¬ x2 = 6 → wp_X2_ahead o c d s25 (d + 9) 6 Mx (fun r118 s115 => GX s25 s115 → wp_X2_signed o c d s115 9999 Mx (fun r122 s119 => GX s115 s119 → (NB r1 s119) ∧ ((ok_X5_say r1 s119 x2 r118 r122) ∧ (∀ s124 : Hp, s124 = f_X5_say r1 s119 x2 r118 r122 → K24 (f_X2_sayingAtHand o c d s124, s124)))) E) E))))))))) ∧ (¬ (f_X5_has r1 σ x2) = 0 → wp_X2_wrong o c d σ 3 Mx (fun r133 s130 => GX σ s130 → (OB 16 r133 s130) ∧ (E r133 s130)) E)))
def wp_X2_note (o c d : Nat) (σ0 : Hp) (Mx : Nat) (Q : Hp → Prop) (E : Nat → Hp → Prop) : Prop := (gS σ0 + 1 ≤ Mx) ∧ (wp_X2_fresh o c d (pN σ0 (.inl 5)) (d + 9) 6 Mx (fun r7 s4 => GX (pN σ0 (.inl 5)) s4 → (gS s4 + 2 ≤ Mx) ∧ (∀ s10 : Hp, s10 = f_X5_init (gS σ0) s4 r7 → lp (lb_X2_note_24 o c d (gS σ0) Mx Q E) (f_X2_sayingAtHand o c d s10, s10))) E)
theorem xl_X2_note_24 (o c d : Nat) (σ0 : Hp) (Mx : Nat) (Q : Hp → Prop) (E : Nat → Hp → Prop) (G : XE) (hB0 : EB o c d σ0) (rq : RQx G [] (Mx - gS σ0) (16 * (Mx - gS σ0)) (oV (fun σ' => gP Mx σ0 Q σ')) (pxF Mx σ0 E)) (hz : G.2.2.2.1.heap.size = gS σ0) (w0 : WF σ0) (hM0 : gS σ0 ≤ Mx) (r1 : Nat)    : ∀ z : Int32 × Hp, (GX σ0 z.2 ∧ gS z.2 ≤ Mx) → lp (lb_X2_note_24 o c d r1 Mx Q E ) z → X G (rm_X2_note Mx σ0) cX2_note RX2 5 none z.2 (gS z.2 - gS σ0) (16 * (gS z.2 - gS σ0)) 24 [(0, .ref o), (1, .ref r1), (2, .int z.1)] [] := by
  intro z
  refine fun hs h => lp_X (P := fun z => (GX σ0 z.2 ∧ gS z.2 ≤ Mx) → X G (rm_X2_note Mx σ0) cX2_note RX2 5 none z.2 (gS z.2 - gS σ0) (16 * (gS z.2 - gS σ0)) 24 [(0, .ref o), (1, .ref r1), (2, .int z.1)] []) ?_ h hs
  intro K24 hK24 z h hs
  obtain ⟨x2, σ⟩ := z
  have hle : gS σ ≤ Mx := hs.2
  have hs : GX σ0 σ := hs.1
  have hB := hB0.gx hs
  simp only [lb_X2_note_24] at h
  show X G (rm_X2_note Mx σ0) cX2_note RX2 5 none σ (gS σ - gS σ0) (16 * (gS σ - gS σ0)) 24 [(0, .ref o), (1, .ref r1), (2, .int x2)] []
  have hK24 : ∀ z : (Int32 × Hp), (GX σ0 z.2 ∧ gS z.2 ≤ Mx) → K24 z → X G (rm_X2_note Mx σ0) cX2_note RX2 5 none z.2 (gS z.2 - gS σ0) (16 * (gS z.2 - gS σ0)) 24 [(0, .ref o), (1, .ref r1), (2, .int z.1)] [] := fun z hs h => hK24 z h hs
  refine x_iload_n dX2_note_24 (n := 25) rfl rfl 2 rfl ?_
  refine x_iconst dX2_note_25 (n := 26) rfl ic_m1 ?_
  refine x_icmp_eq (tgt := 256) dX2_note_26 rfl (n := 29) rfl (fun cc16 => ?_) (fun cc16 => ?_)
  · have h := h.1 cc16
    refine x_aload_n dX2_note_256 (n := 257) rfl rfl 0 rfl ?_
    refine x_getr fl_X2_115_2 rfl hB.1 hB.2.2.2.2.2.1 dX2_note_257 (n := 260) rfl ?_
    refine x_getr fl_X2_140_3 rfl hB.2.2.2.2.2.2.1 hB.2.2.2.2.2.2.r4 dX2_note_260 (n := 263) rfl ?_
    refine x_aload_n dX2_note_263 (n := 264) rfl rfl 1 rfl ?_
    refine g_cVi (fr := 8) (lo := 178) (As := [.ref r1]) (rest := []) hz hs cv_X2_183 ck4 (met_J2_add (d + 9) 6 σ r1 Mx _ _  hB.2.2.2.2.2.2.b4 hle  h) hB.2.2.2.2.2.2.b4.1 (by decide) hle rfl rfl rfl dX2_note_264 (n := 267) rfl (fun q s17 hs18 hls17 h => g_out rq (hs.tr hs18) hls17 h) (fun r20 s17 hs18 hls17 h => ?_)
    have hs18t := hs.tr hs18
    have hBs17 := hB0.gx hs18t
    have h := h hs18
    refine x_pop dX2_note_267 (n := 268) rfl rfl ?_
    exact g_vret rq hs18t hls17 h dX2_note_268
  · have h := h.2 cc16
    refine x_aload_n dX2_note_29 (n := 30) rfl rfl 1 rfl ?_
    refine x_iload_n dX2_note_30 (n := 31) rfl rfl 2 rfl ?_
    obtain ⟨b21, h⟩ := h
    refine x_cVip (As := [.int x2]) (rest := []) cv_X2_273 ck5 (met_X5_has r1 σ x2 b21) b21.1 (hRg (fr := 8) (lo := 178) (by decide) hle) rfl rfl rfl dX2_note_31 (n := 34) rfl (fun r23 q => ?_)
    subst q
    refine x_if_eq (tgt := 43) dX2_note_34 rfl (n := 37) rfl (fun cc24 => ?_) (fun cc24 => ?_)
    · have h := h.1 cc24
      refine x_aload_n dX2_note_43 (n := 44) rfl rfl 0 rfl ?_
      refine x_cVvm (As := []) (rest := []) cv_X2_89 ck2 (met_X2_next o c d σ _ hB h) hB.1 (hRg (fr := 8) (lo := 178) (by decide) hle) rfl rfl rfl dX2_note_44 (n := 47) rfl (fun  s25 hs26 h => ?_)
      have hs26t := hs.s hs26
      have hBs25 := hB0.gx hs26t
      have hls25 : gS s25 ≤ Mx := Nat.le_trans (Nat.le_of_eq hs26.1) hle
      refine x_tight hz hs26t ?_
      have h := h hs26
      refine x_iload_n dX2_note_47 (n := 48) rfl rfl 2 rfl ?_
      refine x_by (x2 = 0) (fun cc27 => ?_) (fun cc27 => ?_)
      · have h := h.1 cc27
        have zc27 := tsw_in cc27 ti_0
        refine x_tswIn (tgt := 92) dX2_note_48 (by rw [zc27]; decide) (by rw [zc27]; decide) (by rw [zc27]; rfl) rfl ?_
        refine x_aload_n dX2_note_92 (n := 93) rfl rfl 0 rfl ?_
        refine x_iconst dX2_note_93 (n := 94) rfl ic_1 ?_
        refine x_sipush dX2_note_94 (n := 97) rfl sp_9999 ?_
        refine g_cVi (fr := 8) (lo := 178) (As := [.int 1, .int 9999]) (rest := []) hz hs26t cv_X2_96 ck2 (met_X2_number o c d s25 1 9999 Mx _ _  hBs25 hls25  h) hBs25.1 (by decide) hls25 rfl rfl rfl dX2_note_97 (n := 100) rfl (fun q s28 hs29 hls28 h => g_out rq (hs26t.tr hs29) hls28 h) (fun r31 s28 hs29 hls28 h => ?_)
        have hs29t := hs26t.tr hs29
        have hBs28 := hB0.gx hs29t
        have h := h hs29
        refine x_istore_n (lvs' := [(3, .int r31), (0, .ref o), (1, .ref r1), (2, .int x2)]) dX2_note_100 (n := 101) rfl rfl (by decide) rfl ?_
        refine x_aload_n dX2_note_101 (n := 102) rfl rfl 2 rfl ?_
        refine x_iload_n dX2_note_102 (n := 103) rfl rfl 3 rfl ?_
        refine x_iload_n dX2_note_103 (n := 104) rfl rfl 0 rfl ?_
        refine x_aload_n dX2_note_104 (n := 105) rfl rfl 1 rfl ?_
        refine x_iload_n dX2_note_105 (n := 106) rfl rfl 0 rfl ?_
        refine x_sipush dX2_note_106 (n := 109) rfl sp_9999 ?_
        refine g_cVi (fr := 8) (lo := 178) (As := [.int r31, .int 9999]) (rest := [.int r31, .int x2, .ref r1]) hz hs29t cv_X2_96 ck2 (met_X2_number o c d s28 r31 9999 Mx _ _  hBs28 hls28  h) hBs28.1 (by decide) hls28 rfl rfl rfl dX2_note_109 (n := 112) rfl (fun q s32 hs33 hls32 h => g_out rq (hs29t.tr hs33) hls32 h) (fun r35 s32 hs33 hls32 h => ?_)
        have hs33t := hs29t.tr hs33
        have hBs32 := hB0.gx hs33t
        have h := h hs33
        obtain ⟨b36, h⟩ := h
        obtain ⟨b41, h⟩ := h
        refine x_cVvm (As := [.int x2, .int r31, .int r35]) (rest := []) cv_X2_275 ck5 (met_X5_say r1 s32 x2 r31 r35 b36 b41) b36.1 (hRg (fr := 8) (lo := 178) (by decide) hls32) rfl rfl rfl dX2_note_112 (n := 115) rfl (fun  s37 hs38 e42 => ?_)
        have hs38t := hs33t.s hs38
        have hBs37 := hB0.gx hs38t
        have hls37 : gS s37 ≤ Mx := Nat.le_trans (Nat.le_of_eq hs38.1) hls32
        refine x_tight hz hs38t ?_
        have h := h s37 e42
        refine x_goto (tgt := 248) dX2_note_115 rfl ?_
        refine x_aload_n dX2_note_248 (n := 249) rfl rfl 1 rfl ?_
        refine x_cVip (As := []) (rest := []) cv_X2_270 ck2 (met_X2_sayingAtHand o c d s37 hBs37) hBs37.1 (hRg (fr := 8) (lo := 178) (by decide) hls37) rfl rfl rfl dX2_note_249 (n := 252) rfl (fun r40 q => ?_)
        subst q
        refine x_istore_n (lvs' := [(2, .int (f_X2_sayingAtHand o c d s37)), (3, .int r31), (0, .ref o), (1, .ref r1)]) dX2_note_252 (n := 253) rfl rfl (by decide) rfl ?_
        refine x_goto (tgt := 24) dX2_note_253 rfl ?_
        exact x_sub [2, 3, 0] rfl (hK24 (f_X2_sayingAtHand o c d s37, s37) ⟨hs38t, hls37⟩ h)
      · have h := h.2 cc27
        refine x_by (x2 = 1) (fun cc43 => ?_) (fun cc43 => ?_)
        · have h := h.1 cc43
          have zc43 := tsw_in cc43 ti_1
          refine x_tswIn (tgt := 118) dX2_note_48 (by rw [zc43]; decide) (by rw [zc43]; decide) (by rw [zc43]; rfl) rfl ?_
          refine x_aload_n dX2_note_118 (n := 119) rfl rfl 1 rfl ?_
          refine x_iload_n dX2_note_119 (n := 120) rfl rfl 2 rfl ?_
          refine x_aload_n dX2_note_120 (n := 121) rfl rfl 0 rfl ?_
          refine x_iconst dX2_note_121 (n := 122) rfl ic_1 ?_
          refine x_ldc dX2_note_122 (n := 124) rfl q517 ?_
          refine g_cVi (fr := 8) (lo := 178) (As := [.int 1, .int 99999]) (rest := [.int x2, .ref r1]) hz hs26t cv_X2_96 ck2 (met_X2_number o c d s25 1 99999 Mx _ _  hBs25 hls25  h) hBs25.1 (by decide) hls25 rfl rfl rfl dX2_note_124 (n := 127) rfl (fun q s44 hs45 hls44 h => g_out rq (hs26t.tr hs45) hls44 h) (fun r47 s44 hs45 hls44 h => ?_)
          have hs45t := hs26t.tr hs45
          have hBs44 := hB0.gx hs45t
          have h := h hs45
          refine x_iconst dX2_note_127 (n := 128) rfl ic_0 ?_
          obtain ⟨b48, h⟩ := h
          obtain ⟨b53, h⟩ := h
          refine x_cVvm (As := [.int x2, .int r47, .int 0]) (rest := []) cv_X2_275 ck5 (met_X5_say r1 s44 x2 r47 0 b48 b53) b48.1 (hRg (fr := 8) (lo := 178) (by decide) hls44) rfl rfl rfl dX2_note_128 (n := 131) rfl (fun  s49 hs50 e54 => ?_)
          have hs50t := hs45t.s hs50
          have hBs49 := hB0.gx hs50t
          have hls49 : gS s49 ≤ Mx := Nat.le_trans (Nat.le_of_eq hs50.1) hls44
          refine x_tight hz hs50t ?_
          have h := h s49 e54
          refine x_goto (tgt := 248) dX2_note_131 rfl ?_
          refine x_aload_n dX2_note_248 (n := 249) rfl rfl 0 rfl ?_
          refine x_cVip (As := []) (rest := []) cv_X2_270 ck2 (met_X2_sayingAtHand o c d s49 hBs49) hBs49.1 (hRg (fr := 8) (lo := 178) (by decide) hls49) rfl rfl rfl dX2_note_249 (n := 252) rfl (fun r52 q => ?_)
          subst q
          refine x_istore_n (lvs' := [(2, .int (f_X2_sayingAtHand o c d s49)), (0, .ref o), (1, .ref r1)]) dX2_note_252 (n := 253) rfl rfl (by decide) rfl ?_
          refine x_goto (tgt := 24) dX2_note_253 rfl ?_
          exact x_sub [1, 2, 0] rfl (hK24 (f_X2_sayingAtHand o c d s49, s49) ⟨hs50t, hls49⟩ h)
        · have h := h.2 cc43
          refine x_by (x2 = 2) (fun cc55 => ?_) (fun cc55 => ?_)
          · have h := h.1 cc55
            have zc55 := tsw_in cc55 ti_2
            refine x_tswIn (tgt := 134) dX2_note_48 (by rw [zc55]; decide) (by rw [zc55]; decide) (by rw [zc55]; rfl) rfl ?_
            refine x_aload_n dX2_note_134 (n := 135) rfl rfl 1 rfl ?_
            refine x_iload_n dX2_note_135 (n := 136) rfl rfl 2 rfl ?_
            refine x_aload_n dX2_note_136 (n := 137) rfl rfl 0 rfl ?_
            refine x_iconst dX2_note_137 (n := 138) rfl ic_0 ?_
            refine x_ldc dX2_note_138 (n := 140) rfl q517 ?_
            refine g_cVi (fr := 8) (lo := 178) (As := [.int 0, .int 99999]) (rest := [.int x2, .ref r1]) hz hs26t cv_X2_96 ck2 (met_X2_number o c d s25 0 99999 Mx _ _  hBs25 hls25  h) hBs25.1 (by decide) hls25 rfl rfl rfl dX2_note_140 (n := 143) rfl (fun q s56 hs57 hls56 h => g_out rq (hs26t.tr hs57) hls56 h) (fun r59 s56 hs57 hls56 h => ?_)
            have hs57t := hs26t.tr hs57
            have hBs56 := hB0.gx hs57t
            have h := h hs57
            refine x_iconst dX2_note_143 (n := 144) rfl ic_0 ?_
            obtain ⟨b60, h⟩ := h
            obtain ⟨b65, h⟩ := h
            refine x_cVvm (As := [.int x2, .int r59, .int 0]) (rest := []) cv_X2_275 ck5 (met_X5_say r1 s56 x2 r59 0 b60 b65) b60.1 (hRg (fr := 8) (lo := 178) (by decide) hls56) rfl rfl rfl dX2_note_144 (n := 147) rfl (fun  s61 hs62 e66 => ?_)
            have hs62t := hs57t.s hs62
            have hBs61 := hB0.gx hs62t
            have hls61 : gS s61 ≤ Mx := Nat.le_trans (Nat.le_of_eq hs62.1) hls56
            refine x_tight hz hs62t ?_
            have h := h s61 e66
            refine x_goto (tgt := 248) dX2_note_147 rfl ?_
            refine x_aload_n dX2_note_248 (n := 249) rfl rfl 0 rfl ?_
            refine x_cVip (As := []) (rest := []) cv_X2_270 ck2 (met_X2_sayingAtHand o c d s61 hBs61) hBs61.1 (hRg (fr := 8) (lo := 178) (by decide) hls61) rfl rfl rfl dX2_note_249 (n := 252) rfl (fun r64 q => ?_)
            subst q
            refine x_istore_n (lvs' := [(2, .int (f_X2_sayingAtHand o c d s61)), (0, .ref o), (1, .ref r1)]) dX2_note_252 (n := 253) rfl rfl (by decide) rfl ?_
            refine x_goto (tgt := 24) dX2_note_253 rfl ?_
            exact x_sub [1, 2, 0] rfl (hK24 (f_X2_sayingAtHand o c d s61, s61) ⟨hs62t, hls61⟩ h)
          · have h := h.2 cc55
            refine x_by (x2 = 3) (fun cc67 => ?_) (fun cc67 => ?_)
            · have h := h.1 cc67
              have zc67 := tsw_in cc67 ti_3
              refine x_tswIn (tgt := 150) dX2_note_48 (by rw [zc67]; decide) (by rw [zc67]; decide) (by rw [zc67]; rfl) rfl ?_
              refine x_aload_n dX2_note_150 (n := 151) rfl rfl 1 rfl ?_
              refine x_iload_n dX2_note_151 (n := 152) rfl rfl 2 rfl ?_
              refine x_aload_n dX2_note_152 (n := 153) rfl rfl 0 rfl ?_
              refine x_iconst dX2_note_153 (n := 154) rfl ic_0 ?_
              refine x_bipush dX2_note_154 (n := 156) rfl bp_7 ?_
              refine g_cVi (fr := 8) (lo := 178) (As := [.int 0, .int 7]) (rest := [.int x2, .ref r1]) hz hs26t cv_X2_96 ck2 (met_X2_number o c d s25 0 7 Mx _ _  hBs25 hls25  h) hBs25.1 (by decide) hls25 rfl rfl rfl dX2_note_156 (n := 159) rfl (fun q s68 hs69 hls68 h => g_out rq (hs26t.tr hs69) hls68 h) (fun r71 s68 hs69 hls68 h => ?_)
              have hs69t := hs26t.tr hs69
              have hBs68 := hB0.gx hs69t
              have h := h hs69
              refine x_iconst dX2_note_159 (n := 160) rfl ic_0 ?_
              obtain ⟨b72, h⟩ := h
              obtain ⟨b77, h⟩ := h
              refine x_cVvm (As := [.int x2, .int r71, .int 0]) (rest := []) cv_X2_275 ck5 (met_X5_say r1 s68 x2 r71 0 b72 b77) b72.1 (hRg (fr := 8) (lo := 178) (by decide) hls68) rfl rfl rfl dX2_note_160 (n := 163) rfl (fun  s73 hs74 e78 => ?_)
              have hs74t := hs69t.s hs74
              have hBs73 := hB0.gx hs74t
              have hls73 : gS s73 ≤ Mx := Nat.le_trans (Nat.le_of_eq hs74.1) hls68
              refine x_tight hz hs74t ?_
              have h := h s73 e78
              refine x_goto (tgt := 248) dX2_note_163 rfl ?_
              refine x_aload_n dX2_note_248 (n := 249) rfl rfl 0 rfl ?_
              refine x_cVip (As := []) (rest := []) cv_X2_270 ck2 (met_X2_sayingAtHand o c d s73 hBs73) hBs73.1 (hRg (fr := 8) (lo := 178) (by decide) hls73) rfl rfl rfl dX2_note_249 (n := 252) rfl (fun r76 q => ?_)
              subst q
              refine x_istore_n (lvs' := [(2, .int (f_X2_sayingAtHand o c d s73)), (0, .ref o), (1, .ref r1)]) dX2_note_252 (n := 253) rfl rfl (by decide) rfl ?_
              refine x_goto (tgt := 24) dX2_note_253 rfl ?_
              exact x_sub [1, 2, 0] rfl (hK24 (f_X2_sayingAtHand o c d s73, s73) ⟨hs74t, hls73⟩ h)
            · have h := h.2 cc67
              refine x_by (x2 = 4) (fun cc79 => ?_) (fun cc79 => ?_)
              · have h := h.1 cc79
                have zc79 := tsw_in cc79 ti_4
                refine x_tswIn (tgt := 166) dX2_note_48 (by rw [zc79]; decide) (by rw [zc79]; decide) (by rw [zc79]; rfl) rfl ?_
                refine x_aload_n dX2_note_166 (n := 167) rfl rfl 1 rfl ?_
                refine x_iload_n dX2_note_167 (n := 168) rfl rfl 2 rfl ?_
                refine x_aload_n dX2_note_168 (n := 169) rfl rfl 0 rfl ?_
                refine x_iconst dX2_note_169 (n := 170) rfl ic_0 ?_
                refine x_iconst dX2_note_170 (n := 171) rfl ic_3 ?_
                refine g_cVi (fr := 8) (lo := 178) (As := [.int 0, .int 3]) (rest := [.int x2, .ref r1]) hz hs26t cv_X2_96 ck2 (met_X2_number o c d s25 0 3 Mx _ _  hBs25 hls25  h) hBs25.1 (by decide) hls25 rfl rfl rfl dX2_note_171 (n := 174) rfl (fun q s80 hs81 hls80 h => g_out rq (hs26t.tr hs81) hls80 h) (fun r83 s80 hs81 hls80 h => ?_)
                have hs81t := hs26t.tr hs81
                have hBs80 := hB0.gx hs81t
                have h := h hs81
                refine x_iconst dX2_note_174 (n := 175) rfl ic_0 ?_
                obtain ⟨b84, h⟩ := h
                obtain ⟨b89, h⟩ := h
                refine x_cVvm (As := [.int x2, .int r83, .int 0]) (rest := []) cv_X2_275 ck5 (met_X5_say r1 s80 x2 r83 0 b84 b89) b84.1 (hRg (fr := 8) (lo := 178) (by decide) hls80) rfl rfl rfl dX2_note_175 (n := 178) rfl (fun  s85 hs86 e90 => ?_)
                have hs86t := hs81t.s hs86
                have hBs85 := hB0.gx hs86t
                have hls85 : gS s85 ≤ Mx := Nat.le_trans (Nat.le_of_eq hs86.1) hls80
                refine x_tight hz hs86t ?_
                have h := h s85 e90
                refine x_goto (tgt := 248) dX2_note_178 rfl ?_
                refine x_aload_n dX2_note_248 (n := 249) rfl rfl 0 rfl ?_
                refine x_cVip (As := []) (rest := []) cv_X2_270 ck2 (met_X2_sayingAtHand o c d s85 hBs85) hBs85.1 (hRg (fr := 8) (lo := 178) (by decide) hls85) rfl rfl rfl dX2_note_249 (n := 252) rfl (fun r88 q => ?_)
                subst q
                refine x_istore_n (lvs' := [(2, .int (f_X2_sayingAtHand o c d s85)), (0, .ref o), (1, .ref r1)]) dX2_note_252 (n := 253) rfl rfl (by decide) rfl ?_
                refine x_goto (tgt := 24) dX2_note_253 rfl ?_
                exact x_sub [1, 2, 0] rfl (hK24 (f_X2_sayingAtHand o c d s85, s85) ⟨hs86t, hls85⟩ h)
              · have h := h.2 cc79
                refine x_by (x2 = 5) (fun cc91 => ?_) (fun cc91 => ?_)
                · have h := h.1 cc91
                  have zc91 := tsw_in cc91 ti_5
                  refine x_tswIn (tgt := 181) dX2_note_48 (by rw [zc91]; decide) (by rw [zc91]; decide) (by rw [zc91]; rfl) rfl ?_
                  refine x_aload_n dX2_note_181 (n := 182) rfl rfl 1 rfl ?_
                  refine x_iload_n dX2_note_182 (n := 183) rfl rfl 2 rfl ?_
                  refine x_aload_n dX2_note_183 (n := 184) rfl rfl 0 rfl ?_
                  refine x_aload_n dX2_note_184 (n := 185) rfl rfl 0 rfl ?_
                  refine x_getr fl_X2_115_2 rfl hBs25.1 hBs25.2.2.2.2.2.1 dX2_note_185 (n := 188) rfl ?_
                  refine x_getr fl_X2_134_3 rfl hBs25.2.2.2.2.2.2.1 hBs25.2.2.2.2.2.2.r2 dX2_note_188 (n := 191) rfl ?_
                  refine g_cVi (fr := 8) (lo := 178) (As := [.ref (d + 5)]) (rest := [.int x2, .ref r1]) hz hs26t cv_X2_258 ck2 (met_X2_ahead o c d s25 (d + 5) 6 Mx _ _  hBs25 hBs25.2.2.2.2.2.2.b2 hls25  h) hBs25.1 (by decide) hls25 rfl rfl rfl dX2_note_191 (n := 194) rfl (fun q s92 hs93 hls92 h => g_out rq (hs26t.tr hs93) hls92 h) (fun r95 s92 hs93 hls92 h => ?_)
                  have hs93t := hs26t.tr hs93
                  have hBs92 := hB0.gx hs93t
                  have h := h hs93
                  refine x_iconst dX2_note_194 (n := 195) rfl ic_0 ?_
                  obtain ⟨b96, h⟩ := h
                  obtain ⟨b101, h⟩ := h
                  refine x_cVvm (As := [.int x2, .int r95, .int 0]) (rest := []) cv_X2_275 ck5 (met_X5_say r1 s92 x2 r95 0 b96 b101) b96.1 (hRg (fr := 8) (lo := 178) (by decide) hls92) rfl rfl rfl dX2_note_195 (n := 198) rfl (fun  s97 hs98 e102 => ?_)
                  have hs98t := hs93t.s hs98
                  have hBs97 := hB0.gx hs98t
                  have hls97 : gS s97 ≤ Mx := Nat.le_trans (Nat.le_of_eq hs98.1) hls92
                  refine x_tight hz hs98t ?_
                  have h := h s97 e102
                  refine x_goto (tgt := 248) dX2_note_198 rfl ?_
                  refine x_aload_n dX2_note_248 (n := 249) rfl rfl 0 rfl ?_
                  refine x_cVip (As := []) (rest := []) cv_X2_270 ck2 (met_X2_sayingAtHand o c d s97 hBs97) hBs97.1 (hRg (fr := 8) (lo := 178) (by decide) hls97) rfl rfl rfl dX2_note_249 (n := 252) rfl (fun r100 q => ?_)
                  subst q
                  refine x_istore_n (lvs' := [(2, .int (f_X2_sayingAtHand o c d s97)), (0, .ref o), (1, .ref r1)]) dX2_note_252 (n := 253) rfl rfl (by decide) rfl ?_
                  refine x_goto (tgt := 24) dX2_note_253 rfl ?_
                  exact x_sub [1, 2, 0] rfl (hK24 (f_X2_sayingAtHand o c d s97, s97) ⟨hs98t, hls97⟩ h)
                · have h := h.2 cc91
                  refine x_by (x2 = 6) (fun cc103 => ?_) (fun cc103 => ?_)
                  · have h := h.1 cc103
                    have zc103 := tsw_in cc103 ti_6
                    refine x_tswIn (tgt := 201) dX2_note_48 (by rw [zc103]; decide) (by rw [zc103]; decide) (by rw [zc103]; rfl) rfl ?_
                    refine x_aload_n dX2_note_201 (n := 202) rfl rfl 1 rfl ?_
                    refine x_iload_n dX2_note_202 (n := 203) rfl rfl 2 rfl ?_
                    refine x_aload_n dX2_note_203 (n := 204) rfl rfl 0 rfl ?_
                    refine x_aload_n dX2_note_204 (n := 205) rfl rfl 0 rfl ?_
                    refine x_getr fl_X2_115_2 rfl hBs25.1 hBs25.2.2.2.2.2.1 dX2_note_205 (n := 208) rfl ?_
                    refine x_getr fl_X2_143_3 rfl hBs25.2.2.2.2.2.2.1 hBs25.2.2.2.2.2.2.r1 dX2_note_208 (n := 211) rfl ?_
                    refine g_cVi (fr := 8) (lo := 178) (As := [.ref (d + 3)]) (rest := [.int x2, .ref r1]) hz hs26t cv_X2_258 ck2 (met_X2_ahead o c d s25 (d + 3) 4 Mx _ _  hBs25 hBs25.2.2.2.2.2.2.b1 hls25  h) hBs25.1 (by decide) hls25 rfl rfl rfl dX2_note_211 (n := 214) rfl (fun q s104 hs105 hls104 h => g_out rq (hs26t.tr hs105) hls104 h) (fun r107 s104 hs105 hls104 h => ?_)
                    have hs105t := hs26t.tr hs105
                    have hBs104 := hB0.gx hs105t
                    have h := h hs105
                    refine x_iconst dX2_note_214 (n := 215) rfl ic_0 ?_
                    obtain ⟨b108, h⟩ := h
                    obtain ⟨b113, h⟩ := h
                    refine x_cVvm (As := [.int x2, .int r107, .int 0]) (rest := []) cv_X2_275 ck5 (met_X5_say r1 s104 x2 r107 0 b108 b113) b108.1 (hRg (fr := 8) (lo := 178) (by decide) hls104) rfl rfl rfl dX2_note_215 (n := 218) rfl (fun  s109 hs110 e114 => ?_)
                    have hs110t := hs105t.s hs110
                    have hBs109 := hB0.gx hs110t
                    have hls109 : gS s109 ≤ Mx := Nat.le_trans (Nat.le_of_eq hs110.1) hls104
                    refine x_tight hz hs110t ?_
                    have h := h s109 e114
                    refine x_goto (tgt := 248) dX2_note_218 rfl ?_
                    refine x_aload_n dX2_note_248 (n := 249) rfl rfl 0 rfl ?_
                    refine x_cVip (As := []) (rest := []) cv_X2_270 ck2 (met_X2_sayingAtHand o c d s109 hBs109) hBs109.1 (hRg (fr := 8) (lo := 178) (by decide) hls109) rfl rfl rfl dX2_note_249 (n := 252) rfl (fun r112 q => ?_)
                    subst q
                    refine x_istore_n (lvs' := [(2, .int (f_X2_sayingAtHand o c d s109)), (0, .ref o), (1, .ref r1)]) dX2_note_252 (n := 253) rfl rfl (by decide) rfl ?_
                    refine x_goto (tgt := 24) dX2_note_253 rfl ?_
                    exact x_sub [1, 2, 0] rfl (hK24 (f_X2_sayingAtHand o c d s109, s109) ⟨hs110t, hls109⟩ h)
                  · have h := h.2 cc103
                    have zc27 := ne_int cc27 ti_0
                    have zc43 := ne_int cc43 ti_1
                    have zc55 := ne_int cc55 ti_2
                    have zc67 := ne_int cc67 ti_3
                    have zc79 := ne_int cc79 ti_4
                    have zc91 := ne_int cc91 ti_5
                    have zc103 := ne_int cc103 ti_6
                    refine x_tswOut (tgt := 221) dX2_note_48 (by omega) rfl ?_
                    refine x_aload_n dX2_note_221 (n := 222) rfl rfl 0 rfl ?_
                    refine x_aload_n dX2_note_222 (n := 223) rfl rfl 0 rfl ?_
                    refine x_getr fl_X2_115_2 rfl hBs25.1 hBs25.2.2.2.2.2.1 dX2_note_223 (n := 226) rfl ?_
                    refine x_getr fl_X2_140_3 rfl hBs25.2.2.2.2.2.2.1 hBs25.2.2.2.2.2.2.r4 dX2_note_226 (n := 229) rfl ?_
                    refine g_cVi (fr := 8) (lo := 178) (As := [.ref (d + 9)]) (rest := []) hz hs26t cv_X2_258 ck2 (met_X2_ahead o c d s25 (d + 9) 6 Mx _ _  hBs25 hBs25.2.2.2.2.2.2.b4 hls25  h) hBs25.1 (by decide) hls25 rfl rfl rfl dX2_note_229 (n := 232) rfl (fun q s115 hs116 hls115 h => g_out rq (hs26t.tr hs116) hls115 h) (fun r118 s115 hs116 hls115 h => ?_)
                    have hs116t := hs26t.tr hs116
                    have hBs115 := hB0.gx hs116t
                    have h := h hs116
                    refine x_istore (lvs' := [(4, .int r118), (0, .ref o), (1, .ref r1), (2, .int x2)]) dX2_note_232 (n := 234) rfl (by decide) rfl ?_
                    refine x_aload_n dX2_note_234 (n := 235) rfl rfl 2 rfl ?_
                    refine x_iload_n dX2_note_235 (n := 236) rfl rfl 3 rfl ?_
                    refine x_iload dX2_note_236 (n := 238) rfl 0 rfl ?_
                    refine x_aload_n dX2_note_238 (n := 239) rfl rfl 1 rfl ?_
                    refine x_sipush dX2_note_239 (n := 242) rfl sp_9999 ?_
                    refine g_cVi (fr := 8) (lo := 178) (As := [.int 9999]) (rest := [.int r118, .int x2, .ref r1]) hz hs116t cv_X2_207 ck2 (met_X2_signed o c d s115 9999 Mx _ _  hBs115 hls115  h) hBs115.1 (by decide) hls115 rfl rfl rfl dX2_note_242 (n := 245) rfl (fun q s119 hs120 hls119 h => g_out rq (hs116t.tr hs120) hls119 h) (fun r122 s119 hs120 hls119 h => ?_)
                    have hs120t := hs116t.tr hs120
                    have hBs119 := hB0.gx hs120t
                    have h := h hs120
                    obtain ⟨b123, h⟩ := h
                    obtain ⟨b128, h⟩ := h
                    refine x_cVvm (As := [.int x2, .int r118, .int r122]) (rest := []) cv_X2_275 ck5 (met_X5_say r1 s119 x2 r118 r122 b123 b128) b123.1 (hRg (fr := 8) (lo := 178) (by decide) hls119) rfl rfl rfl dX2_note_245 (n := 248) rfl (fun  s124 hs125 e129 => ?_)
                    have hs125t := hs120t.s hs125
                    have hBs124 := hB0.gx hs125t
                    have hls124 : gS s124 ≤ Mx := Nat.le_trans (Nat.le_of_eq hs125.1) hls119
                    refine x_tight hz hs125t ?_
                    have h := h s124 e129
                    refine x_aload_n dX2_note_248 (n := 249) rfl rfl 1 rfl ?_
                    refine x_cVip (As := []) (rest := []) cv_X2_270 ck2 (met_X2_sayingAtHand o c d s124 hBs124) hBs124.1 (hRg (fr := 8) (lo := 178) (by decide) hls124) rfl rfl rfl dX2_note_249 (n := 252) rfl (fun r127 q => ?_)
                    subst q
                    refine x_istore_n (lvs' := [(2, .int (f_X2_sayingAtHand o c d s124)), (4, .int r118), (0, .ref o), (1, .ref r1)]) dX2_note_252 (n := 253) rfl rfl (by decide) rfl ?_
                    refine x_goto (tgt := 24) dX2_note_253 rfl ?_
                    exact x_sub [2, 3, 0] rfl (hK24 (f_X2_sayingAtHand o c d s124, s124) ⟨hs125t, hls124⟩ h)
    · have h := h.2 cc24
      refine x_aload_n dX2_note_37 (n := 38) rfl rfl 0 rfl ?_
      refine x_iconst dX2_note_38 (n := 39) rfl ic_3 ?_
      refine g_cVr (fr := 8) (lo := 178) (As := [.int 3]) (rest := []) hz hs cv_X2_85 ck2 (met_X2_wrong o c d σ 3 Mx _ _  hB hle  h) hB.1 (by decide) hle rfl rfl rfl dX2_note_39 (n := 42) rfl (fun q s130 hs131 hls130 h => g_out rq (hs.tr hs131) hls130 h) (fun r133 s130 hs131 hls130 h => ?_)
      have hs131t := hs.tr hs131
      have hBs130 := hB0.gx hs131t
      have h := h hs131
      obtain ⟨b134, h⟩ := h
      exact g_athrow rq hs131t hls130 b134 h dX2_note_42
theorem met_X2_note (o c d : Nat) (σ0 : Hp) (Mx : Nat) (Q : Hp → Prop) (E : Nat → Hp → Prop) (hB0 : EB o c d σ0) (hM0 : gS σ0 ≤ Mx) (h : wp_X2_note o c d σ0 Mx Q E) : MetY yX2_note cX2_note 5 none (rm_X2_note Mx σ0) σ0 [.ref o] (oV (fun σ' => gP Mx σ0 Q σ')) (pxF Mx σ0 E) (Mx - gS σ0) (16 * (Mx - gS σ0)) := by
  refine metG_of (own := RX2) (lvs := [(0, .ref o)]) (by decide) rfl (Nat.le_of_ble_eq_true rfl) rfl (fun G rq hz w0 => ?_)
  unfold wp_X2_note at h
  obtain ⟨b1, h⟩ := h
  refine g_new hz (GX.rf (σ := σ0)) nx_X2_265 (by decide) b1 dX2_note_0 (n := 3) rfl (fun w3 hn2 => ?_)
  refine x_dup dX2_note_3 (n := 4) rfl rfl ?_
  refine x_aload_n dX2_note_4 (n := 5) rfl rfl 0 rfl ?_
  refine x_aload_n dX2_note_5 (n := 6) rfl rfl 0 rfl ?_
  refine x_getr fl_X2_115_2 rfl (hB0.gx hn2).1 (hB0.gx hn2).2.2.2.2.2.1 dX2_note_6 (n := 9) rfl ?_
  refine x_getr fl_X2_140_3 rfl (hB0.gx hn2).2.2.2.2.2.2.1 (hB0.gx hn2).2.2.2.2.2.2.r4 dX2_note_9 (n := 12) rfl ?_
  refine g_cVi (fr := 8) (lo := 178) (As := [.ref (d + 9)]) (rest := [.ref (gS σ0), .ref (gS σ0)]) hz hn2 cv_X2_172 ck2 (met_X2_fresh o c d (pN σ0 (.inl 5)) (d + 9) 6 Mx _ _  (hB0.gx hn2) (hB0.gx hn2).2.2.2.2.2.2.b4 b1  h) (hB0.gx hn2).1 (by decide) b1 rfl rfl rfl dX2_note_12 (n := 15) rfl (fun q s4 hs5 hls4 h => g_out rq (hn2.tr hs5) hls4 h) (fun r7 s4 hs5 hls4 h => ?_)
  have hs5t := hn2.tr hs5
  have hBs4 := hB0.gx hs5t
  have h := h hs5
  obtain ⟨b15, h⟩ := h
  refine x_wf (fun w8 => ?_)
  refine x_callI (mc := 2) (ms := 16) (As := [.int r7]) (rest := [.ref (gS σ0)]) ci_X2_267 (met_X5_init (gS σ0) s4 r7 (hs5.t (gT_new (σ := σ0)))) (hRi (fr := 8) (lo := 178) (mc := 2) (ms := 16) hs5t rfl rfl (by decide) (by decide) b15) rfl rfl rfl dX2_note_15 (n := 18) rfl (fun s10 hp => ?_)
  obtain ⟨hk9, e12⟩ := hp
  have hn11 : GX σ0 s10 := hk9.2 σ0 w0 hs5t ((GX.rf (σ := σ0)).fresh w0) w8
  have hls10 : gS s10 ≤ Mx := by rw [e12]; exact b15
  refine x_tight hz hn11 ?_
  have hBs10 := hB0.gx hn11
  have h := h s10 e12
  refine x_astore_n (lvs' := [(1, .ref (gS σ0)), (0, .ref o)]) dX2_note_18 (n := 19) rfl rfl (by decide) rfl ?_
  refine x_aload_n dX2_note_19 (n := 20) rfl rfl 1 rfl ?_
  refine x_cVip (As := []) (rest := []) cv_X2_270 ck2 (met_X2_sayingAtHand o c d s10 hBs10) hBs10.1 (hRg (fr := 8) (lo := 178) (by decide) hls10) rfl rfl rfl dX2_note_20 (n := 23) rfl (fun r14 q => ?_)
  subst q
  refine x_istore_n (lvs' := [(2, .int (f_X2_sayingAtHand o c d s10)), (1, .ref (gS σ0)), (0, .ref o)]) dX2_note_23 (n := 24) rfl rfl (by decide) rfl ?_
  exact x_sub [2, 1, 0] rfl (xl_X2_note_24 o c d σ0 Mx Q E G hB0 rq hz w0 hM0 (gS σ0) (f_X2_sayingAtHand o c d s10, s10) ⟨hn11, hls10⟩ h)
