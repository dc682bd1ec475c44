set_option maxRecDepth 100000
section XG2
variable {G : XE} {rm : Room} {cc : ByteArray} {own : String} {nL : Nat} {ret : Option FieldType} {σ σ0 : Hp} {cells slots pc n Mx : Nat} {lvs : List (Nat × Value)} {st : List Value}
theorem hRi {rmc : Room} {fr lo maxL mc ms : Nat} (hg : GX σ0 σ) (hc : rmc.cells = mc) (hs : rmc.slots = ms) (h1 : rmc.frames + 1 ≤ fr ∧ 8 + (maxL + 11) + rmc.locals ≤ lo) (h16 : ms ≤ 16 * mc) (h2 : gS σ + mc ≤ Mx) : rmc.cells = mc ∧ rmc.slots = ms ∧ rmc.frames + 1 ≤ (rmG fr lo Mx σ0).frames ∧ 8 + (maxL + 11) + rmc.locals ≤ (rmG fr lo Mx σ0).locals ∧ gS σ - gS σ0 + mc ≤ (rmG fr lo Mx σ0).cells ∧ 16 * (gS σ - gS σ0) + ms ≤ (rmG fr lo Mx σ0).slots := by
  have := hg.1
  refine ⟨hc, hs, h1.1, h1.2, ?_, ?_⟩
  · show _ ≤ Mx - gS σ0; omega
  · show _ ≤ 16 * (Mx - gS σ0); omega
/-- a field that several classes have from above, written -/
theorem x_putMi {index k a : Nat} {x : Int32} (cis : List Nat) (fp : ∀ ci ∈ cis, FP own index ci k ∧ clTy ci k = .int) (ht : ∃ ci ∈ cis, gT σ a = some (.inl ci)) (hd : decode cc pc = .ok (.putfield index, 3)) (hn : pc + 3 = n) (kk : X G rm cc own nL ret (pI σ a k x) cells slots n lvs st) : X G rm cc own nL ret σ cells slots pc lvs (.int x :: .ref a :: st) := by
  obtain ⟨ci, h1, h2⟩ := ht
  exact x_puti (fp ci h1).1 (fp ci h1).2 h2 hd hn kk
end XG2
theorem fpd_X2_262 : ∀ ci ∈ dds, FP RX2 262 ci 3 ∧ clTy ci 3 = .int := List.forall_mem_cons.mpr ⟨⟨fp_X2_262_9, rfl⟩, List.forall_mem_cons.mpr ⟨⟨fp_X2_262_10, rfl⟩, List.forall_mem_cons.mpr ⟨⟨fp_X2_262_11, rfl⟩, fun _ h => (List.not_mem_nil h).elim⟩⟩⟩
abbrev rm_X2_here : Room := { frames := 0, cells := 0, slots := 0, locals := 0 }
def f_X2_here (o c d : Nat) (σ : Hp) : Int32 := if (gI σ o 1) ≤ (gI σ o 0) then (-1) else (gI σ (c + 1) (gI σ o 0).toNatClampNeg) &&& 255
def ok_X2_here (o c d : Nat) (σ : Hp) : Prop := ((gI σ o 1) ≤ (gI σ o 0) → True) ∧ (¬ (gI σ o 1) ≤ (gI σ o 0) → (vp_in (gI σ o 0) 900))
theorem met_X2_here (o c d : Nat) (σ : Hp) (hB : EB o c d σ) (hk : ok_X2_here o c d σ) : MetX yX2_here cX2_here 1 (some .int) rm_X2_here σ [.ref o] (oI (fun r σ' => σ' = σ ∧ r = (f_X2_here o c d σ))) 0 0 := by
  refine metX_of (own := RX2) (lvs := [(0, .ref o)]) (by decide) rfl (Nat.le_of_ble_eq_true rfl) rfl (fun G rq => ?_)
  have hv : (f_X2_here o c d σ) = _ := f_X2_here.eq_1 _ _ _ _
  unfold ok_X2_here at hk
  refine x_aload_n dX2_here_0 (n := 1) rfl rfl 0 rfl ?_
  refine x_geti fl_X2_15_2 rfl hB.1 rfl dX2_here_1 (n := 4) rfl ?_
  refine x_aload_n dX2_here_4 (n := 5) rfl rfl 0 rfl ?_
  refine x_geti fl_X2_19_2 rfl hB.1 rfl dX2_here_5 (n := 8) rfl ?_
  refine x_icmp_ge (tgt := 30) dX2_here_8 rfl (n := 11) rfl (fun c1 => ?_) (fun c1 => ?_)
  · have hk := hk.1 c1
    have hv := hv.trans (if_pos c1)
    refine x_iconst dX2_here_30 (n := 31) rfl ic_m1 ?_
    exact x_iret rq ⟨rfl, hv.symm⟩ dX2_here_31
  · have hk := hk.2 c1
    have hv := hv.trans (if_neg c1)
    refine x_aload_n dX2_here_11 (n := 12) rfl rfl 0 rfl ?_
    refine x_getr fl_X2_3_2 rfl hB.1 hB.2.1 dX2_here_12 (n := 15) rfl ?_
    refine x_getr fl_X2_22_1 rfl hB.2.2.1 hB.2.2.2.1 dX2_here_15 (n := 18) rfl ?_
    refine x_aload_n dX2_here_18 (n := 19) rfl rfl 0 rfl ?_
    refine x_geti fl_X2_15_2 rfl hB.1 rfl dX2_here_19 (n := 22) rfl ?_
    have b2 := hk
    refine x_bald hB.2.2.2.2.1 b2 rfl dX2_here_22 (n := 23) rfl ?_
    refine x_sipush dX2_here_23 (n := 26) rfl sp_255 ?_
    refine x_iand dX2_here_26 (n := 27) rfl ?_
    refine x_goto (tgt := 31) dX2_here_27 rfl ?_
    exact x_iret rq ⟨rfl, hv.symm⟩ dX2_here_31
abbrev rm_X2_isWord : Room := { frames := 1, cells := 0, slots := 0, locals := 25 }
def f_X2_isWord (o c d : Nat) (σ : Hp) (x1 : Int32) (x2 : Int32) : Int32 := if (gI σ o 3) = 0 then if (f_X1_in ((gI σ o 4).toInt64) x1.toInt64 x2.toInt64) = 0 then 0 else 1 else 0
theorem met_X2_isWord (o c d : Nat) (σ : Hp) (x1 : Int32) (x2 : Int32) (hB : EB o c d σ) : MetX yX2_isWord cX2_isWord 3 (some .boolean) rm_X2_isWord σ [.ref o, .int x1, .int x2] (oI (fun r σ' => σ' = σ ∧ r = (f_X2_isWord o c d σ x1 x2))) 0 0 := by
  refine metX_of (own := RX2) (lvs := [(0, .ref o), (1, .int x1), (2, .int x2)]) (by decide) rfl (Nat.le_of_ble_eq_true rfl) rfl (fun G rq => ?_)
  have hv : (f_X2_isWord o c d σ x1 x2) = _ := f_X2_isWord.eq_1 _ _ _ _ _ _
  refine x_aload_n dX2_isWord_0 (n := 1) rfl rfl 0 rfl ?_
  refine x_geti fl_X2_33_2 rfl hB.1 rfl dX2_isWord_1 (n := 4) rfl ?_
  refine x_if_ne (tgt := 26) dX2_isWord_4 rfl (n := 7) rfl (fun c1 => ?_) (fun c1 => ?_)
  · have hv := hv.trans (if_neg c1)
    refine x_iconst dX2_isWord_26 (n := 27) rfl ic_0 ?_
    exact x_zret rq ⟨rfl, hv.symm⟩ isB0 dX2_isWord_27
  · have hv := hv.trans (if_pos c1)
    refine x_aload_n dX2_isWord_7 (n := 8) rfl rfl 0 rfl ?_
    refine x_geti fl_X2_47_2 rfl hB.1 rfl dX2_isWord_8 (n := 11) rfl ?_
    refine x_i2l dX2_isWord_11 (n := 12) rfl ?_
    refine x_iload_n dX2_isWord_12 (n := 13) rfl rfl 1 rfl ?_
    refine x_i2l dX2_isWord_13 (n := 14) rfl ?_
    refine x_iload_n dX2_isWord_14 (n := 15) rfl rfl 2 rfl ?_
    refine x_i2l dX2_isWord_15 (n := 16) rfl ?_
    refine x_cSip (As := [.long ((gI σ o 4).toInt64), .long x1.toInt64, .long x2.toInt64]) (rest := []) cs_X2_40 (met_X1_in σ ((gI σ o 4).toInt64) x1.toInt64 x2.toInt64 ) (by decide) rfl rfl rfl dX2_isWord_16 (n := 19) rfl (fun r3 q => ?_)
    subst q
    refine x_if_eq (tgt := 26) dX2_isWord_19 rfl (n := 22) rfl (fun c4 => ?_) (fun c4 => ?_)
    · have hv := hv.trans (if_pos c4)
      refine x_iconst dX2_isWord_26 (n := 27) rfl ic_0 ?_
      exact x_zret rq ⟨rfl, hv.symm⟩ isB0 dX2_isWord_27
    · have hv := hv.trans (if_neg c4)
      refine x_iconst dX2_isWord_22 (n := 23) rfl ic_1 ?_
      refine x_goto (tgt := 27) dX2_isWord_23 rfl ?_
      exact x_zret rq ⟨rfl, hv.symm⟩ isB1 dX2_isWord_27
abbrev rm_X2_isSign : Room := { frames := 0, cells := 0, slots := 0, locals := 0 }
def f_X2_isSign (o c d : Nat) (σ : Hp) (x1 : Int32) : Int32 := if (gI σ o 3) = 3 then if (gI σ o 4) = x1 then 1 else 0 else 0
theorem met_X2_isSign (o c d : Nat) (σ : Hp) (x1 : Int32) (hB : EB o c d σ) : MetX yX2_isSign cX2_isSign 2 (some .boolean) rm_X2_isSign σ [.ref o, .int x1] (oI (fun r σ' => σ' = σ ∧ r = (f_X2_isSign o c d σ x1))) 0 0 := by
  refine metX_of (own := RX2) (lvs := [(0, .ref o), (1, .int x1)]) (by decide) rfl (Nat.le_of_ble_eq_true rfl) rfl (fun G rq => ?_)
  have hv : (f_X2_isSign o c d σ x1) = _ := f_X2_isSign.eq_1 _ _ _ _ _
  refine x_aload_n dX2_isSign_0 (n := 1) rfl rfl 0 rfl ?_
  refine x_geti fl_X2_33_2 rfl hB.1 rfl dX2_isSign_1 (n := 4) rfl ?_
  refine x_iconst dX2_isSign_4 (n := 5) rfl ic_3 ?_
  refine x_icmp_ne (tgt := 20) dX2_isSign_5 rfl (n := 8) rfl (fun c1 => ?_) (fun c1 => ?_)
  · have hv := hv.trans (if_neg c1)
    refine x_iconst dX2_isSign_20 (n := 21) rfl ic_0 ?_
    exact x_zret rq ⟨rfl, hv.symm⟩ isB0 dX2_isSign_21
  · have hv := hv.trans (if_pos c1)
    refine x_aload_n dX2_isSign_8 (n := 9) rfl rfl 0 rfl ?_
    refine x_geti fl_X2_47_2 rfl hB.1 rfl dX2_isSign_9 (n := 12) rfl ?_
    refine x_iload_n dX2_isSign_12 (n := 13) rfl rfl 1 rfl ?_
    refine x_icmp_ne (tgt := 20) dX2_isSign_13 rfl (n := 16) rfl (fun c2 => ?_) (fun c2 => ?_)
    · have hv := hv.trans (if_neg c2)
      refine x_iconst dX2_isSign_20 (n := 21) rfl ic_0 ?_
      exact x_zret rq ⟨rfl, hv.symm⟩ isB0 dX2_isSign_21
    · have hv := hv.trans (if_pos c2)
      refine x_iconst dX2_isSign_16 (n := 17) rfl ic_1 ?_
      refine x_goto (tgt := 21) dX2_isSign_17 rfl ?_
      exact x_zret rq ⟨rfl, hv.symm⟩ isB1 dX2_isSign_21
abbrev rm_X2_sayingAtHand : Room := { frames := 0, cells := 0, slots := 0, locals := 0 }
def f_X2_sayingAtHand (o c d : Nat) (σ : Hp) : Int32 := if (gI σ o 3) = 0 then if (gI σ o 4) = 5 then 6 else if (gI σ o 4) = 6 then 2 else if (gI σ o 4) = 7 then 3 else if (gI σ o 4) = 8 then (-1) else if (gI σ o 4) = 9 then (-1) else if (gI σ o 4) = 10 then (-1) else if (gI σ o 4) = 11 then (-1) else if (gI σ o 4) = 12 then (-1) else if (gI σ o 4) = 13 then (-1) else if (gI σ o 4) = 14 then 5 else if (gI σ o 4) = 15 then 7 else if (gI σ o 4) = 16 then (-1) else if (gI σ o 4) = 17 then (-1) else if (gI σ o 4) = 18 then (-1) else if (gI σ o 4) = 19 then 1 else if (gI σ o 4) = 20 then 0 else if (gI σ o 4) = 21 then 4 else (-1) else (-1)
theorem met_X2_sayingAtHand (o c d : Nat) (σ : Hp) (hB : EB o c d σ) : MetX yX2_sayingAtHand cX2_sayingAtHand 1 (some .int) rm_X2_sayingAtHand σ [.ref o] (oI (fun r σ' => σ' = σ ∧ r = (f_X2_sayingAtHand o c d σ))) 0 0 := by
  refine metX_of (own := RX2) (lvs := [(0, .ref o)]) (by decide) rfl (Nat.le_of_ble_eq_true rfl) rfl (fun G rq => ?_)
  have hv : (f_X2_sayingAtHand o c d σ) = _ := f_X2_sayingAtHand.eq_1 _ _ _ _
  refine x_aload_n dX2_sayingAtHand_0 (n := 1) rfl rfl 0 rfl ?_
  refine x_geti fl_X2_33_2 rfl hB.1 rfl dX2_sayingAtHand_1 (n := 4) rfl ?_
  refine x_if_eq (tgt := 9) dX2_sayingAtHand_4 rfl (n := 7) rfl (fun c1 => ?_) (fun c1 => ?_)
  · have hv := hv.trans (if_pos c1)
    refine x_aload_n dX2_sayingAtHand_9 (n := 10) rfl rfl 0 rfl ?_
    refine x_geti fl_X2_47_2 rfl hB.1 rfl dX2_sayingAtHand_10 (n := 13) rfl ?_
    refine x_by ((gI σ o 4) = 5) (fun c2 => ?_) (fun c2 => ?_)
    · have hv := hv.trans (if_pos c2)
      have z2 := tsw_in c2 ti_5
      refine x_tswIn (tgt := 108) dX2_sayingAtHand_13 (by rw [z2]; decide) (by rw [z2]; decide) (by rw [z2]; rfl) rfl ?_
      refine x_bipush dX2_sayingAtHand_108 (n := 110) rfl bp_6 ?_
      exact x_iret rq ⟨rfl, hv.symm⟩ dX2_sayingAtHand_110
    · have hv := hv.trans (if_neg c2)
      refine x_by ((gI σ o 4) = 6) (fun c3 => ?_) (fun c3 => ?_)
      · have hv := hv.trans (if_pos c3)
        have z3 := tsw_in c3 ti_6
        refine x_tswIn (tgt := 100) dX2_sayingAtHand_13 (by rw [z3]; decide) (by rw [z3]; decide) (by rw [z3]; rfl) rfl ?_
        refine x_iconst dX2_sayingAtHand_100 (n := 101) rfl ic_2 ?_
        exact x_iret rq ⟨rfl, hv.symm⟩ dX2_sayingAtHand_101
      · have hv := hv.trans (if_neg c3)
        refine x_by ((gI σ o 4) = 7) (fun c4 => ?_) (fun c4 => ?_)
        · have hv := hv.trans (if_pos c4)
          have z4 := tsw_in c4 ti_7
          refine x_tswIn (tgt := 102) dX2_sayingAtHand_13 (by rw [z4]; decide) (by rw [z4]; decide) (by rw [z4]; rfl) rfl ?_
          refine x_iconst dX2_sayingAtHand_102 (n := 103) rfl ic_3 ?_
          exact x_iret rq ⟨rfl, hv.symm⟩ dX2_sayingAtHand_103
        · have hv := hv.trans (if_neg c4)
          refine x_by ((gI σ o 4) = 8) (fun c5 => ?_) (fun c5 => ?_)
          · have hv := hv.trans (if_pos c5)
            have z5 := tsw_in c5 ti_8
            refine x_tswIn (tgt := 114) dX2_sayingAtHand_13 (by rw [z5]; decide) (by rw [z5]; decide) (by rw [z5]; rfl) rfl ?_
            refine x_iconst dX2_sayingAtHand_114 (n := 115) rfl ic_m1 ?_
            exact x_iret rq ⟨rfl, hv.symm⟩ dX2_sayingAtHand_115
          · have hv := hv.trans (if_neg c5)
            refine x_by ((gI σ o 4) = 9) (fun c6 => ?_) (fun c6 => ?_)
            · have hv := hv.trans (if_pos c6)
              have z6 := tsw_in c6 ti_9
              refine x_tswIn (tgt := 114) dX2_sayingAtHand_13 (by rw [z6]; decide) (by rw [z6]; decide) (by rw [z6]; rfl) rfl ?_
              refine x_iconst dX2_sayingAtHand_114 (n := 115) rfl ic_m1 ?_
              exact x_iret rq ⟨rfl, hv.symm⟩ dX2_sayingAtHand_115
            · have hv := hv.trans (if_neg c6)
              refine x_by ((gI σ o 4) = 10) (fun c7 => ?_) (fun c7 => ?_)
              · have hv := hv.trans (if_pos c7)
                have z7 := tsw_in c7 ti_10
                refine x_tswIn (tgt := 114) dX2_sayingAtHand_13 (by rw [z7]; decide) (by rw [z7]; decide) (by rw [z7]; rfl) rfl ?_
                refine x_iconst dX2_sayingAtHand_114 (n := 115) rfl ic_m1 ?_
                exact x_iret rq ⟨rfl, hv.symm⟩ dX2_sayingAtHand_115
              · have hv := hv.trans (if_neg c7)
                refine x_by ((gI σ o 4) = 11) (fun c8 => ?_) (fun c8 => ?_)
                · have hv := hv.trans (if_pos c8)
                  have z8 := tsw_in c8 ti_11
                  refine x_tswIn (tgt := 114) dX2_sayingAtHand_13 (by rw [z8]; decide) (by rw [z8]; decide) (by rw [z8]; rfl) rfl ?_
                  refine x_iconst dX2_sayingAtHand_114 (n := 115) rfl ic_m1 ?_
                  exact x_iret rq ⟨rfl, hv.symm⟩ dX2_sayingAtHand_115
                · have hv := hv.trans (if_neg c8)
                  refine x_by ((gI σ o 4) = 12) (fun c9 => ?_) (fun c9 => ?_)
                  · have hv := hv.trans (if_pos c9)
                    have z9 := tsw_in c9 ti_12
                    refine x_tswIn (tgt := 114) dX2_sayingAtHand_13 (by rw [z9]; decide) (by rw [z9]; decide) (by rw [z9]; rfl) rfl ?_
                    refine x_iconst dX2_sayingAtHand_114 (n := 115) rfl ic_m1 ?_
                    exact x_iret rq ⟨rfl, hv.symm⟩ dX2_sayingAtHand_115
                  · have hv := hv.trans (if_neg c9)
                    refine x_by ((gI σ o 4) = 13) (fun c10 => ?_) (fun c10 => ?_)
                    · have hv := hv.trans (if_pos c10)
                      have z10 := tsw_in c10 ti_13
                      refine x_tswIn (tgt := 114) dX2_sayingAtHand_13 (by rw [z10]; decide) (by rw [z10]; decide) (by rw [z10]; rfl) rfl ?_
                      refine x_iconst dX2_sayingAtHand_114 (n := 115) rfl ic_m1 ?_
                      exact x_iret rq ⟨rfl, hv.symm⟩ dX2_sayingAtHand_115
                    · have hv := hv.trans (if_neg c10)
                      refine x_by ((gI σ o 4) = 14) (fun c11 => ?_) (fun c11 => ?_)
                      · have hv := hv.trans (if_pos c11)
                        have z11 := tsw_in c11 ti_14
                        refine x_tswIn (tgt := 106) dX2_sayingAtHand_13 (by rw [z11]; decide) (by rw [z11]; decide) (by rw [z11]; rfl) rfl ?_
                        refine x_iconst dX2_sayingAtHand_106 (n := 107) rfl ic_5 ?_
                        exact x_iret rq ⟨rfl, hv.symm⟩ dX2_sayingAtHand_107
                      · have hv := hv.trans (if_neg c11)
                        refine x_by ((gI σ o 4) = 15) (fun c12 => ?_) (fun c12 => ?_)
                        · have hv := hv.trans (if_pos c12)
                          have z12 := tsw_in c12 ti_15
                          refine x_tswIn (tgt := 111) dX2_sayingAtHand_13 (by rw [z12]; decide) (by rw [z12]; decide) (by rw [z12]; rfl) rfl ?_
                          refine x_bipush dX2_sayingAtHand_111 (n := 113) rfl bp_7 ?_
                          exact x_iret rq ⟨rfl, hv.symm⟩ dX2_sayingAtHand_113
                        · have hv := hv.trans (if_neg c12)
                          refine x_by ((gI σ o 4) = 16) (fun c13 => ?_) (fun c13 => ?_)
                          · have hv := hv.trans (if_pos c13)
                            have z13 := tsw_in c13 ti_16
                            refine x_tswIn (tgt := 114) dX2_sayingAtHand_13 (by rw [z13]; decide) (by rw [z13]; decide) (by rw [z13]; rfl) rfl ?_
                            refine x_iconst dX2_sayingAtHand_114 (n := 115) rfl ic_m1 ?_
                            exact x_iret rq ⟨rfl, hv.symm⟩ dX2_sayingAtHand_115
                          · have hv := hv.trans (if_neg c13)
                            refine x_by ((gI σ o 4) = 17) (fun c14 => ?_) (fun c14 => ?_)
                            · have hv := hv.trans (if_pos c14)
                              have z14 := tsw_in c14 ti_17
                              refine x_tswIn (tgt := 114) dX2_sayingAtHand_13 (by rw [z14]; decide) (by rw [z14]; decide) (by rw [z14]; rfl) rfl ?_
                              refine x_iconst dX2_sayingAtHand_114 (n := 115) rfl ic_m1 ?_
                              exact x_iret rq ⟨rfl, hv.symm⟩ dX2_sayingAtHand_115
                            · have hv := hv.trans (if_neg c14)
                              refine x_by ((gI σ o 4) = 18) (fun c15 => ?_) (fun c15 => ?_)
                              · have hv := hv.trans (if_pos c15)
                                have z15 := tsw_in c15 ti_18
                                refine x_tswIn (tgt := 114) dX2_sayingAtHand_13 (by rw [z15]; decide) (by rw [z15]; decide) (by rw [z15]; rfl) rfl ?_
                                refine x_iconst dX2_sayingAtHand_114 (n := 115) rfl ic_m1 ?_
                                exact x_iret rq ⟨rfl, hv.symm⟩ dX2_sayingAtHand_115
                              · have hv := hv.trans (if_neg c15)
                                refine x_by ((gI σ o 4) = 19) (fun c16 => ?_) (fun c16 => ?_)
                                · have hv := hv.trans (if_pos c16)
                                  have z16 := tsw_in c16 ti_19
                                  refine x_tswIn (tgt := 98) dX2_sayingAtHand_13 (by rw [z16]; decide) (by rw [z16]; decide) (by rw [z16]; rfl) rfl ?_
                                  refine x_iconst dX2_sayingAtHand_98 (n := 99) rfl ic_1 ?_
                                  exact x_iret rq ⟨rfl, hv.symm⟩ dX2_sayingAtHand_99
                                · have hv := hv.trans (if_neg c16)
                                  refine x_by ((gI σ o 4) = 20) (fun c17 => ?_) (fun c17 => ?_)
                                  · have hv := hv.trans (if_pos c17)
                                    have z17 := tsw_in c17 ti_20
                                    refine x_tswIn (tgt := 96) dX2_sayingAtHand_13 (by rw [z17]; decide) (by rw [z17]; decide) (by rw [z17]; rfl) rfl ?_
                                    refine x_iconst dX2_sayingAtHand_96 (n := 97) rfl ic_0 ?_
                                    exact x_iret rq ⟨rfl, hv.symm⟩ dX2_sayingAtHand_97
                                  · have hv := hv.trans (if_neg c17)
                                    refine x_by ((gI σ o 4) = 21) (fun c18 => ?_) (fun c18 => ?_)
                                    · have hv := hv.trans (if_pos c18)
                                      have z18 := tsw_in c18 ti_21
                                      refine x_tswIn (tgt := 104) dX2_sayingAtHand_13 (by rw [z18]; decide) (by rw [z18]; decide) (by rw [z18]; rfl) rfl ?_
                                      refine x_iconst dX2_sayingAtHand_104 (n := 105) rfl ic_4 ?_
                                      exact x_iret rq ⟨rfl, hv.symm⟩ dX2_sayingAtHand_105
                                    · have hv := hv.trans (if_neg c18)
                                      have z2 := ne_int c2 ti_5
                                      have z3 := ne_int c3 ti_6
                                      have z4 := ne_int c4 ti_7
                                      have z5 := ne_int c5 ti_8
                                      have z6 := ne_int c6 ti_9
                                      have z7 := ne_int c7 ti_10
                                      have z8 := ne_int c8 ti_11
                                      have z9 := ne_int c9 ti_12
                                      have z10 := ne_int c10 ti_13
                                      have z11 := ne_int c11 ti_14
                                      have z12 := ne_int c12 ti_15
                                      have z13 := ne_int c13 ti_16
                                      have z14 := ne_int c14 ti_17
                                      have z15 := ne_int c15 ti_18
                                      have z16 := ne_int c16 ti_19
                                      have z17 := ne_int c17 ti_20
                                      have z18 := ne_int c18 ti_21
                                      refine x_tswOut (tgt := 114) dX2_sayingAtHand_13 (by omega) rfl ?_
                                      refine x_iconst dX2_sayingAtHand_114 (n := 115) rfl ic_m1 ?_
                                      exact x_iret rq ⟨rfl, hv.symm⟩ dX2_sayingAtHand_115
  · have hv := hv.trans (if_neg c1)
    refine x_iconst dX2_sayingAtHand_7 (n := 8) rfl ic_m1 ?_
    exact x_iret rq ⟨rfl, hv.symm⟩ dX2_sayingAtHand_8
abbrev rm_X2_nameAtHand : Room := { frames := 0, cells := 0, slots := 0, locals := 0 }
def f_X2_nameAtHand (o c d : Nat) (σ : Hp) : Int32 := if (gI σ o 3) = 0 then if (gI σ o 4) = 6 then 0 else if (gI σ o 4) = 7 then 1 else if (gI σ o 4) = 19 then 2 else if (gI σ o 4) = 20 then 3 else if (gI σ o 4) = 21 then 4 else if (gI σ o 4) = 22 then 5 else (-1) else (-1)
theorem met_X2_nameAtHand (o c d : Nat) (σ : Hp) (hB : EB o c d σ) : MetX yX2_nameAtHand cX2_nameAtHand 1 (some .int) rm_X2_nameAtHand σ [.ref o] (oI (fun r σ' => σ' = σ ∧ r = (f_X2_nameAtHand o c d σ))) 0 0 := by
  refine metX_of (own := RX2) (lvs := [(0, .ref o)]) (by decide) rfl (Nat.le_of_ble_eq_true rfl) rfl (fun G rq => ?_)
  have hv : (f_X2_nameAtHand o c d σ) = _ := f_X2_nameAtHand.eq_1 _ _ _ _
  refine x_aload_n dX2_nameAtHand_0 (n := 1) rfl rfl 0 rfl ?_
  refine x_geti fl_X2_33_2 rfl hB.1 rfl dX2_nameAtHand_1 (n := 4) rfl ?_
  refine x_if_eq (tgt := 9) dX2_nameAtHand_4 rfl (n := 7) rfl (fun c1 => ?_) (fun c1 => ?_)
  · have hv := hv.trans (if_pos c1)
    refine x_aload_n dX2_nameAtHand_9 (n := 10) rfl rfl 0 rfl ?_
    refine x_geti fl_X2_47_2 rfl hB.1 rfl dX2_nameAtHand_10 (n := 13) rfl ?_
    refine x_bipush dX2_nameAtHand_13 (n := 15) rfl bp_6 ?_
    refine x_icmp_ne (tgt := 22) dX2_nameAtHand_15 rfl (n := 18) rfl (fun c2 => ?_) (fun c2 => ?_)
    · have hv := hv.trans (if_neg c2)
      refine x_aload_n dX2_nameAtHand_22 (n := 23) rfl rfl 0 rfl ?_
      refine x_geti fl_X2_47_2 rfl hB.1 rfl dX2_nameAtHand_23 (n := 26) rfl ?_
      refine x_bipush dX2_nameAtHand_26 (n := 28) rfl bp_7 ?_
      refine x_icmp_ne (tgt := 35) dX2_nameAtHand_28 rfl (n := 31) rfl (fun c3 => ?_) (fun c3 => ?_)
      · have hv := hv.trans (if_neg c3)
        refine x_aload_n dX2_nameAtHand_35 (n := 36) rfl rfl 0 rfl ?_
        refine x_geti fl_X2_47_2 rfl hB.1 rfl dX2_nameAtHand_36 (n := 39) rfl ?_
        refine x_bipush dX2_nameAtHand_39 (n := 41) rfl bp_19 ?_
        refine x_icmp_ne (tgt := 48) dX2_nameAtHand_41 rfl (n := 44) rfl (fun c4 => ?_) (fun c4 => ?_)
        · have hv := hv.trans (if_neg c4)
          refine x_aload_n dX2_nameAtHand_48 (n := 49) rfl rfl 0 rfl ?_
          refine x_geti fl_X2_47_2 rfl hB.1 rfl dX2_nameAtHand_49 (n := 52) rfl ?_
          refine x_bipush dX2_nameAtHand_52 (n := 54) rfl bp_20 ?_
          refine x_icmp_ne (tgt := 61) dX2_nameAtHand_54 rfl (n := 57) rfl (fun c5 => ?_) (fun c5 => ?_)
          · have hv := hv.trans (if_neg c5)
            refine x_aload_n dX2_nameAtHand_61 (n := 62) rfl rfl 0 rfl ?_
            refine x_geti fl_X2_47_2 rfl hB.1 rfl dX2_nameAtHand_62 (n := 65) rfl ?_
            refine x_bipush dX2_nameAtHand_65 (n := 67) rfl bp_21 ?_
            refine x_icmp_ne (tgt := 74) dX2_nameAtHand_67 rfl (n := 70) rfl (fun c6 => ?_) (fun c6 => ?_)
            · have hv := hv.trans (if_neg c6)
              refine x_aload_n dX2_nameAtHand_74 (n := 75) rfl rfl 0 rfl ?_
              refine x_geti fl_X2_47_2 rfl hB.1 rfl dX2_nameAtHand_75 (n := 78) rfl ?_
              refine x_bipush dX2_nameAtHand_78 (n := 80) rfl bp_22 ?_
              refine x_icmp_ne (tgt := 87) dX2_nameAtHand_80 rfl (n := 83) rfl (fun c7 => ?_) (fun c7 => ?_)
              · have hv := hv.trans (if_neg c7)
                refine x_iconst dX2_nameAtHand_87 (n := 88) rfl ic_m1 ?_
                exact x_iret rq ⟨rfl, hv.symm⟩ dX2_nameAtHand_88
              · have hv := hv.trans (if_pos c7)
                refine x_iconst dX2_nameAtHand_83 (n := 84) rfl ic_5 ?_
                refine x_goto (tgt := 88) dX2_nameAtHand_84 rfl ?_
                exact x_iret rq ⟨rfl, hv.symm⟩ dX2_nameAtHand_88
            · have hv := hv.trans (if_pos c6)
              refine x_iconst dX2_nameAtHand_70 (n := 71) rfl ic_4 ?_
              refine x_goto (tgt := 88) dX2_nameAtHand_71 rfl ?_
              exact x_iret rq ⟨rfl, hv.symm⟩ dX2_nameAtHand_88
          · have hv := hv.trans (if_pos c5)
            refine x_iconst dX2_nameAtHand_57 (n := 58) rfl ic_3 ?_
            refine x_goto (tgt := 88) dX2_nameAtHand_58 rfl ?_
            exact x_iret rq ⟨rfl, hv.symm⟩ dX2_nameAtHand_88
        · have hv := hv.trans (if_pos c4)
          refine x_iconst dX2_nameAtHand_44 (n := 45) rfl ic_2 ?_
          refine x_goto (tgt := 88) dX2_nameAtHand_45 rfl ?_
          exact x_iret rq ⟨rfl, hv.symm⟩ dX2_nameAtHand_88
      · have hv := hv.trans (if_pos c3)
        refine x_iconst dX2_nameAtHand_31 (n := 32) rfl ic_1 ?_
        refine x_goto (tgt := 88) dX2_nameAtHand_32 rfl ?_
        exact x_iret rq ⟨rfl, hv.symm⟩ dX2_nameAtHand_88
    · have hv := hv.trans (if_pos c2)
      refine x_iconst dX2_nameAtHand_18 (n := 19) rfl ic_0 ?_
      refine x_goto (tgt := 88) dX2_nameAtHand_19 rfl ?_
      exact x_iret rq ⟨rfl, hv.symm⟩ dX2_nameAtHand_88
  · have hv := hv.trans (if_neg c1)
    refine x_iconst dX2_nameAtHand_7 (n := 8) rfl ic_m1 ?_
    exact x_iret rq ⟨rfl, hv.symm⟩ dX2_nameAtHand_8
abbrev rm_X2_name : Room := { frames := 0, cells := 0, slots := 0, locals := 0 }
def lb_X2_name_7 (o c d : Nat)  (Q : Hp → Prop)  (K7 : Int32 × Hp → Prop) (z : Int32 × Hp) : Prop := match z with
  | (x1, σ) => (6 ≤ x1 → Q σ) ∧ (¬ 6 ≤ x1 → ((gI σ o 0) ≤ ((gI σ o 2) + x1) → K7 (x1 + 1, pI σ o 4 (((gI σ o 4) <<< (5 &&& 31)) ||| 0))) ∧ (¬ (gI σ o 0) ≤ ((gI σ o 2) + x1) → (vp_in ((gI σ o 2) + x1) 900) ∧ (K7 (x1 + 1, pI σ o 4 (((gI σ o 4) <<< (5 &&& 31)) ||| (((gI σ (c + 1) ((gI σ o 2) + x1).toNatClampNeg) - 97) + 1))))))
def wp_X2_name (o c d : Nat) (σ0 : Hp) (Q : Hp → Prop) : Prop := lp (lb_X2_name_7 o c d Q) (0, pI σ0 o 4 0)
theorem xl_X2_name_7 (o c d : Nat) (σ0 : Hp) (Q : Hp → Prop) (G : XE) (hB0 : EB o c d σ0) (rq : RQ G 0 0 (oV (fun σ' => SH σ0 σ' ∧ Q σ')))     : ∀ z : Int32 × Hp, SH σ0 z.2 → lp (lb_X2_name_7 o c d  Q ) z → X G rm_X2_name cX2_name RX2 2 none z.2 0 0 7 [(0, .ref o), (1, .int z.1)] [] := by
  intro z
  refine fun hs h => lp_X (P := fun z => SH σ0 z.2 → X G rm_X2_name cX2_name RX2 2 none z.2 0 0 7 [(0, .ref o), (1, .int z.1)] []) ?_ h hs
  intro K7 hK7 z h hs
  obtain ⟨x1, σ⟩ := z
  have hs : SH σ0 σ := hs
  have hB := hB0.sh hs
  simp only [lb_X2_name_7] at h
  show X G rm_X2_name cX2_name RX2 2 none σ 0 0 7 [(0, .ref o), (1, .int x1)] []
  have hK7 : ∀ z : (Int32 × Hp), SH σ0 z.2 → K7 z → X G rm_X2_name cX2_name RX2 2 none z.2 0 0 7 [(0, .ref o), (1, .int z.1)] [] := fun z hs h => hK7 z h hs
  refine x_iload_n dX2_name_7 (n := 8) rfl rfl 1 rfl ?_
  refine x_bipush dX2_name_8 (n := 10) rfl bp_6 ?_
  refine x_icmp_ge (tgt := 66) dX2_name_10 rfl (n := 13) rfl (fun c1 => ?_) (fun c1 => ?_)
  · have h := h.1 c1
    exact x_vret rq ⟨hs, h⟩ dX2_name_66
  · have h := h.2 c1
    refine x_aload_n dX2_name_13 (n := 14) rfl rfl 0 rfl ?_
    refine x_aload_n dX2_name_14 (n := 15) rfl rfl 0 rfl ?_
    refine x_geti fl_X2_47_2 rfl hB.1 rfl dX2_name_15 (n := 18) rfl ?_
    refine x_iconst dX2_name_18 (n := 19) rfl ic_5 ?_
    refine x_ishl dX2_name_19 (n := 20) rfl ?_
    refine x_aload_n dX2_name_20 (n := 21) rfl rfl 0 rfl ?_
    refine x_geti fl_X2_30_2 rfl hB.1 rfl dX2_name_21 (n := 24) rfl ?_
    refine x_iload_n dX2_name_24 (n := 25) rfl rfl 1 rfl ?_
    refine x_iadd dX2_name_25 (n := 26) rfl ?_
    refine x_aload_n dX2_name_26 (n := 27) rfl rfl 0 rfl ?_
    refine x_geti fl_X2_15_2 rfl hB.1 rfl dX2_name_27 (n := 30) rfl ?_
    refine x_icmp_ge (tgt := 55) dX2_name_30 rfl (n := 33) rfl (fun c2 => ?_) (fun c2 => ?_)
    · have h := h.1 c2
      refine x_iconst dX2_name_55 (n := 56) rfl ic_0 ?_
      refine x_ior dX2_name_56 (n := 57) rfl ?_
      refine x_puti fp_X2_47_2 rfl hB.1 dX2_name_57 (n := 60) rfl ?_
      refine x_iinc (v := x1 + 1) (lvs' := [(1, .int (x1 + 1)), (0, .ref o)]) dX2_name_60 (n := 63) rfl 1 rfl rfl (by decide) rfl ?_
      refine x_goto (tgt := 7) dX2_name_63 rfl ?_
      exact x_sub [1, 0] rfl (hK7 (x1 + 1, pI σ o 4 (((gI σ o 4) <<< (5 &&& 31)) ||| 0)) hs.i h)
    · have h := h.2 c2
      refine x_aload_n dX2_name_33 (n := 34) rfl rfl 0 rfl ?_
      refine x_getr fl_X2_3_2 rfl hB.1 hB.2.1 dX2_name_34 (n := 37) rfl ?_
      refine x_getr fl_X2_22_1 rfl hB.2.2.1 hB.2.2.2.1 dX2_name_37 (n := 40) rfl ?_
      refine x_aload_n dX2_name_40 (n := 41) rfl rfl 0 rfl ?_
      refine x_geti fl_X2_30_2 rfl hB.1 rfl dX2_name_41 (n := 44) rfl ?_
      refine x_iload_n dX2_name_44 (n := 45) rfl rfl 1 rfl ?_
      refine x_iadd dX2_name_45 (n := 46) rfl ?_
      obtain ⟨b3, h⟩ := h
      refine x_bald hB.2.2.2.2.1 b3 rfl dX2_name_46 (n := 47) rfl ?_
      refine x_bipush dX2_name_47 (n := 49) rfl bp_97 ?_
      refine x_isub dX2_name_49 (n := 50) rfl ?_
      refine x_iconst dX2_name_50 (n := 51) rfl ic_1 ?_
      refine x_iadd dX2_name_51 (n := 52) rfl ?_
      refine x_goto (tgt := 56) dX2_name_52 rfl ?_
      refine x_ior dX2_name_56 (n := 57) rfl ?_
      refine x_puti fp_X2_47_2 rfl hB.1 dX2_name_57 (n := 60) rfl ?_
      refine x_iinc (v := x1 + 1) (lvs' := [(1, .int (x1 + 1)), (0, .ref o)]) dX2_name_60 (n := 63) rfl 1 rfl rfl (by decide) rfl ?_
      refine x_goto (tgt := 7) dX2_name_63 rfl ?_
      exact x_sub [1, 0] rfl (hK7 (x1 + 1, pI σ o 4 (((gI σ o 4) <<< (5 &&& 31)) ||| (((gI σ (c + 1) ((gI σ o 2) + x1).toNatClampNeg) - 97) + 1))) hs.i h)
theorem met_X2_name (o c d : Nat) (σ0 : Hp) (Q : Hp → Prop) (hB0 : EB o c d σ0) (h : wp_X2_name o c d σ0 Q) : MetX yX2_name cX2_name 2 none rm_X2_name σ0 [.ref o] (oV (fun σ' => SH σ0 σ' ∧ Q σ')) 0 0 := by
  refine metX_of (own := RX2) (lvs := [(0, .ref o)]) (by decide) rfl (Nat.le_of_ble_eq_true rfl) rfl (fun G rq => ?_)
  unfold wp_X2_name at h
  refine x_aload_n dX2_name_0 (n := 1) rfl rfl 0 rfl ?_
  refine x_iconst dX2_name_1 (n := 2) rfl ic_0 ?_
  refine x_puti fp_X2_47_2 rfl hB0.1 dX2_name_2 (n := 5) rfl ?_
  refine x_iconst dX2_name_5 (n := 6) rfl ic_0 ?_
  refine x_istore_n (lvs' := [(1, .int 0), (0, .ref o)]) dX2_name_6 (n := 7) rfl rfl (by decide) rfl ?_
  exact x_sub [1, 0] rfl (xl_X2_name_7 o c d σ0 Q G hB0 rq (0, pI σ0 o 4 0) (SH.rf (σ := σ0)).i h)
abbrev rm_X2_wrong (Mx : Nat) (σ0 : Hp) : Room := rmG 4 90 Mx σ0
def wp_X2_wrong (o c d : Nat) (σ0 : Hp) (x1 : Int32) (Mx : Nat) (Q : Nat → Hp → Prop) (E : Nat → Hp → Prop) : Prop := (gS σ0 + 1 ≤ Mx) ∧ (∀ s6 : Hp, s6 = f_X7_init (gS σ0) (pN σ0 (.inl 16)) x1 (gI (pN σ0 (.inl 16)) o 2) → Q (gS σ0) s6)
theorem met_X2_wrong (o c d : Nat) (σ0 : Hp) (x1 : Int32) (Mx : Nat) (Q : Nat → Hp → Prop) (E : Nat → Hp → Prop) (hB0 : EB o c d σ0) (hM0 : gS σ0 ≤ Mx) (h : wp_X2_wrong o c d σ0 x1 Mx Q E) : MetY yX2_wrong cX2_wrong 2 (some (.object "LongYears$Fault")) (rm_X2_wrong Mx σ0) σ0 [.ref o, .int x1] (oR (fun r σ' => gP Mx σ0 (Q r) σ')) (pxF Mx σ0 E) (Mx - gS σ0) (16 * (Mx - gS σ0)) := by
  refine metG_of (own := RX2) (lvs := [(0, .ref o), (1, .int x1)]) (by decide) rfl (Nat.le_of_ble_eq_true rfl) rfl (fun G rq hz w0 => ?_)
  unfold wp_X2_wrong at h
  obtain ⟨b1, h⟩ := h
  refine g_new hz (GX.rf (σ := σ0)) nx_X2_80 (by decide) b1 dX2_wrong_0 (n := 3) rfl (fun w3 hn2 => ?_)
  refine x_dup dX2_wrong_3 (n := 4) rfl rfl ?_
  refine x_iload_n dX2_wrong_4 (n := 5) rfl rfl 1 rfl ?_
  refine x_aload_n dX2_wrong_5 (n := 6) rfl rfl 0 rfl ?_
  refine x_geti fl_X2_30_2 rfl (hB0.gx hn2).1 rfl dX2_wrong_6 (n := 9) rfl ?_
  refine x_wf (fun w4 => ?_)
  refine x_callI (mc := 0) (ms := 0) (As := [.int x1, .int (gI (pN σ0 (.inl 16)) o 2)]) (rest := [.ref (gS σ0)]) ci_X2_82 (met_X7_init (gS σ0) (pN σ0 (.inl 16)) x1 (gI (pN σ0 (.inl 16)) o 2) (gT_new (σ := σ0))) (hRi (fr := 4) (lo := 90) (mc := 0) (ms := 0) hn2 rfl rfl (by decide) (by decide) b1) rfl rfl rfl dX2_wrong_9 (n := 12) rfl (fun s6 hp => ?_)
  obtain ⟨hk5, e8⟩ := hp
  have hn7 : GX σ0 s6 := hk5.2 σ0 w0 hn2 ((GX.rf (σ := σ0)).fresh w0) w4
  have hls6 : gS s6 ≤ Mx := by rw [e8]; exact b1
  refine x_tight hz hn7 ?_
  have hBs6 := hB0.gx hn7
  have h := h s6 e8
  exact g_aret rfl rq hn7 hls6 h dX2_wrong_12
abbrev rm_J2_add_2 (Mx : Nat) (σ0 : Hp) : Room := rmG 0 0 Mx σ0
def wp_J2_add_2 (o c : Nat) (σ0 : Hp) (a1 : Nat) (a2 n2 : Nat) (x3 : Int32) (Mx : Nat) (Q : Hp → Prop) (E : Nat → Hp → Prop) : Prop := (x3 = (Int32.ofNat n2) → False) ∧ (¬ x3 = (Int32.ofNat n2) → (vp_in x3 n2) ∧ ((isNm σ0 a1) ∧ (Q (pI (pR σ0 a2 x3.toNatClampNeg (some a1)) o 2 (x3 + 1)))))
theorem met_J2_add_2 (o c : Nat) (σ0 : Hp) (a1 : Nat) (a2 n2 : Nat) (x3 : Int32) (Mx : Nat) (Q : Hp → Prop) (E : Nat → Hp → Prop) (hB0 : AB o c σ0) (ha2 : gT σ0 a2 = some (.inr (.object "java/lang/Object", n2))) (hM0 : gS σ0 ≤ Mx) (h : wp_J2_add_2 o c σ0 a1 a2 n2 x3 Mx Q E) : MetY yJ2_add_2 cJ2_add_2 4 none (rm_J2_add_2 Mx σ0) σ0 [.ref o, .ref a1, .ref a2, .int x3] (oV (fun σ' => gP Mx σ0 Q σ')) (pxF Mx σ0 E) (Mx - gS σ0) (16 * (Mx - gS σ0)) := by
  refine metG_of (own := RJ2) (lvs := [(0, .ref o), (1, .ref a1), (2, .ref a2), (3, .int x3)]) (by decide) rfl (Nat.le_of_ble_eq_true rfl) rfl (fun G rq hz w0 => ?_)
  unfold wp_J2_add_2 at h
  refine x_iload_n dJ2_add_2_0 (n := 1) rfl rfl 3 rfl ?_
  refine x_aload_n dJ2_add_2_1 (n := 2) rfl rfl 2 rfl ?_
  refine x_alen at_obj ((GX.rf (σ := σ0)).t ha2) dJ2_add_2_2 (n := 3) rfl ?_
  refine x_icmp_ne (tgt := 11) dJ2_add_2_3 rfl (n := 6) rfl (fun cc1 => ?_) (fun cc1 => ?_)
  · have h := h.2 cc1
    refine x_aload_n dJ2_add_2_11 (n := 12) rfl rfl 2 rfl ?_
    refine x_iload_n dJ2_add_2_12 (n := 13) rfl rfl 3 rfl ?_
    refine x_aload_n dJ2_add_2_13 (n := 14) rfl rfl 1 rfl ?_
    obtain ⟨b2, h⟩ := h
    obtain ⟨b3, h⟩ := h
    refine x_aastM nmd at_obj axm b3 ((GX.rf (σ := σ0)).t ha2) b2 rfl dJ2_add_2_14 (n := 15) rfl ?_
    refine x_aload_n dJ2_add_2_15 (n := 16) rfl rfl 0 rfl ?_
    refine x_iload_n dJ2_add_2_16 (n := 17) rfl rfl 3 rfl ?_
    refine x_iconst dJ2_add_2_17 (n := 18) rfl ic_1 ?_
    refine x_iadd dJ2_add_2_18 (n := 19) rfl ?_
    refine x_puti fp_J2_48_4 rfl (hB0.gx ((GX.rf (σ := σ0)).r (Or.inr ⟨_, ha2⟩))).1 dJ2_add_2_19 (n := 22) rfl ?_
    exact g_vret rq ((GX.rf (σ := σ0)).r (Or.inr ⟨_, ha2⟩)).i hM0 h dJ2_add_2_22
  · have h := h.1 cc1
    exact h.elim
abbrev rm_J2_add (Mx : Nat) (σ0 : Hp) : Room := rmG 1 23 Mx σ0
def wp_J2_add (o c : Nat) (σ0 : Hp) (a1 : Nat) (Mx : Nat) (Q : Int32 → Hp → Prop) (E : Nat → Hp → Prop) : Prop := wp_J2_add_2 o c (pI σ0 o 0 ((gI σ0 o 0) + 1)) a1 (o + 1) c (gI σ0 o 2) Mx (fun  s1 => GX (pI σ0 o 0 ((gI σ0 o 0) + 1)) s1 → Q 1 s1) E
theorem met_J2_add (o c : Nat) (σ0 : Hp) (a1 : Nat) (Mx : Nat) (Q : Int32 → Hp → Prop) (E : Nat → Hp → Prop) (hB0 : AB o c σ0) (hM0 : gS σ0 ≤ Mx) (h : wp_J2_add o c σ0 a1 Mx Q E) : MetY yJ2_add cJ2_add 2 (some .boolean) (rm_J2_add Mx σ0) σ0 [.ref o, .ref a1] (oI (fun r σ' => gP Mx σ0 (Q r) σ')) (pxF Mx σ0 E) (Mx - gS σ0) (16 * (Mx - gS σ0)) := by
  refine metG_of (own := RJ2) (lvs := [(0, .ref o), (1, .ref a1)]) (by decide) rfl (Nat.le_of_ble_eq_true rfl) rfl (fun G rq hz w0 => ?_)
  unfold wp_J2_add at h
  refine x_aload_n dJ2_add_0 (n := 1) rfl rfl 0 rfl ?_
  refine x_dup dJ2_add_1 (n := 2) rfl rfl ?_
  refine x_geti fl_J2_63_4 rfl hB0.1 rfl dJ2_add_2 (n := 5) rfl ?_
  refine x_iconst dJ2_add_5 (n := 6) rfl ic_1 ?_
  refine x_iadd dJ2_add_6 (n := 7) rfl ?_
  refine x_puti fp_J2_63_4 rfl hB0.1 dJ2_add_7 (n := 10) rfl ?_
  refine x_aload_n dJ2_add_10 (n := 11) rfl rfl 0 rfl ?_
  refine x_aload_n dJ2_add_11 (n := 12) rfl rfl 1 rfl ?_
  refine x_aload_n dJ2_add_12 (n := 13) rfl rfl 0 rfl ?_
  refine x_getr fl_J2_9_4 rfl hB0.i.1 hB0.i.2.1 dJ2_add_13 (n := 16) rfl ?_
  refine x_aload_n dJ2_add_16 (n := 17) rfl rfl 0 rfl ?_
  refine x_geti fl_J2_48_4 rfl hB0.i.1 (gIn (by decide)) dJ2_add_17 (n := 20) rfl ?_
  refine g_cVv (fr := 1) (lo := 23) (As := [.ref a1, .ref (o + 1), .int (gI σ0 o 2)]) (rest := []) hz (GX.rf (σ := σ0)).i cv_J2_131 ck4 (met_J2_add_2 o c (pI σ0 o 0 ((gI σ0 o 0) + 1)) a1 (o + 1) c (gI σ0 o 2) Mx _ _  hB0.i hB0.i.2.2 hM0  h) hB0.i.1 (by decide) hM0 rfl rfl rfl dJ2_add_20 (n := 23) rfl (fun q s1 hs2 hls1 h => g_out rq ((GX.rf (σ := σ0)).i.tr hs2) hls1 h) (fun  s1 hs2 hls1 h => ?_)
  have hs2t := (GX.rf (σ := σ0)).i.tr hs2
  have hBs1 := hB0.gx hs2t
  have h := h hs2
  refine x_iconst dJ2_add_23 (n := 24) rfl ic_1 ?_
  exact g_zret rq hs2t hls1 h isB1 dJ2_add_24
