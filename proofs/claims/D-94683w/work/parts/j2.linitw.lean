set_option maxRecDepth 100000
theorem NI.oT {o j p : Nat} {σ0 σ : Hp} (h : NI o j p σ0 σ) (hp : 0 < p) {t : Nat ⊕ (FieldType × Nat)} : gT (pN σ t) o = some (.inl 1) := (gT_old (by have := h.1; omega)).trans h.2.1
abbrev rm_X1_init : Room := { frames := 5, cells := 109, slots := 5520, locals := 101 }
theorem x1_loop {G : XE} {o : Nat} {σ0 : Hp} (rq : RQ G 109 5520 (oV (fun σ' => NL o 12 0 σ0 σ'))) : ∀ (n k : Nat) (s : Hp), 12 - k = n → k ≤ 12 → NL o k 0 σ0 s → X G rm_X1_init cX1_init RX1 2 none s (37 + 6 * k) (5040 + 40 * k) 146 [(0, .ref o), (1, .int (Int32.ofNat k))] [] := by
  intro n
  induction n with
  | zero =>
    intro k s e hk h
    have e : k = 12 := by omega
    subst e
    refine x_iload_n dX1_init_146 (n := 147) rfl rfl 1 rfl ?_
    refine x_bipush dX1_init_147 (n := 149) rfl bp_12 ?_
    refine x_icmp_ge (tgt := 186) dX1_init_149 rfl (n := 152) rfl (fun _ => ?_) (fun c => absurd (show (12 : Int32) ≤ Int32.ofNat 12 from Int32.le_refl _) c)
    exact x_vret rq h dX1_init_186
  | succ n ih =>
    intro k s e hk h
    have hk : k < 12 := by omega
    have z := h.1.1
    have vk : vp_in (Int32.ofNat k) 12 := nat_v (by omega) (by omega)
    have ck : (Int32.ofNat k).toNatClampNeg = k := nat_c (by omega)
    refine x_iload_n dX1_init_146 (n := 147) rfl rfl 1 rfl ?_
    refine x_bipush dX1_init_147 (n := 149) rfl bp_12 ?_
    refine x_icmp_ge (tgt := 186) dX1_init_149 rfl (n := 152) rfl (fun c => absurd ((nat_le (p := 12) (by omega) (by omega)).mp c) (by omega)) (fun _ => ?_)

    have w0 := h.1
    have t0 : gT s o = some (.inl 1) := w0.2.1
    have r0 : gR s o 7 = some (o + 15) := (w0.2.2.1 (7, 15, .object "LongYears$Note", 12) (List.mem_of_getElem? (i := 2) rfl)).1
    have a0 : gT s (o + 15) = some (.inr (.object "LongYears$Note", 12)) := (w0.2.2.1 (7, 15, .object "LongYears$Note", 12) (List.mem_of_getElem? (i := 2) rfl)).2
    have z0 := w0.1
    refine x_aload_n dX1_init_152 (n := 153) rfl rfl 0 rfl ?_
    refine x_getr fl_X1_49_1 rfl t0 r0 dX1_init_153 (n := 156) rfl ?_
    refine x_iload_n dX1_init_156 (n := 157) rfl rfl 1 rfl ?_
    refine x_new nx_X1_47 ⟨by show 37 + 6 * k + 1 ≤ 109; omega, by show 5040 + 40 * k + 4 ≤ 5520; omega⟩ dX1_init_157 (n := 160) rfl ?_
    refine x_dup dX1_init_160 (n := 161) rfl rfl ?_
    refine x_iconst dX1_init_161 (n := 162) rfl ic_m1 ?_
    refine x_callI (mc := 2) (ms := 16) (As := [.int (-1)]) (rest := [.ref (gS s), .int (Int32.ofNat k), .ref (o + 15)]) ci_X1_87 (met_X5_init (gS s) (pN s (.inl 5)) (-1) gT_new) ⟨rfl, rfl, by decide, by decide, by show 37 + 6 * k + 1 + 2 ≤ 109; omega, by show 5040 + 40 * k + 4 + 16 ≤ 5520; omega⟩ rfl rfl rfl dX1_init_162 (n := 165) rfl (fun u0 hu0 => ?_)
    obtain ⟨-, eu0⟩ := hu0
    have nt0 := note0 (q := gS s) (σ := pN s (.inl 5)) (x := -1) rfl gT_new
    rw [← eu0] at nt0
    refine x_aast at_note ax_note nt0.2.1.1 (by rw [(nt0.2.2.1 (o + 15) (by omega)).1]; exact (gT_old (by omega)).trans a0) vk ck dX1_init_165 (n := 166) rfl ?_
    rw [eu0]
    refine x_tops (fun s1 es1 => ?_)
    have g1 : NL o k 1 σ0 s1 := by rw [es1]; exact h.put (x := -1) (r := o + 15) hk (by omega) rfl
    clear es1 eu0 nt0
    have w1 := g1.1
    have t1 : gT s1 o = some (.inl 1) := w1.2.1
    have r1 : gR s1 o 8 = some (o + 16) := (w1.2.2.1 (8, 16, .object "LongYears$Note", 12) (List.mem_of_getElem? (i := 3) rfl)).1
    have a1 : gT s1 (o + 16) = some (.inr (.object "LongYears$Note", 12)) := (w1.2.2.1 (8, 16, .object "LongYears$Note", 12) (List.mem_of_getElem? (i := 3) rfl)).2
    have z1 := w1.1
    refine x_aload_n dX1_init_166 (n := 167) rfl rfl 0 rfl ?_
    refine x_getr fl_X1_53_1 rfl t1 r1 dX1_init_167 (n := 170) rfl ?_
    refine x_iload_n dX1_init_170 (n := 171) rfl rfl 1 rfl ?_
    refine x_new nx_X1_47 ⟨by show 37 + 6 * k + 1 + 2 + 1 ≤ 109; omega, by show 5040 + 40 * k + 4 + 16 + 4 ≤ 5520; omega⟩ dX1_init_171 (n := 174) rfl ?_
    refine x_dup dX1_init_174 (n := 175) rfl rfl ?_
    refine x_iconst dX1_init_175 (n := 176) rfl ic_m1 ?_
    refine x_callI (mc := 2) (ms := 16) (As := [.int (-1)]) (rest := [.ref (gS s1), .int (Int32.ofNat k), .ref (o + 16)]) ci_X1_87 (met_X5_init (gS s1) (pN s1 (.inl 5)) (-1) gT_new) ⟨rfl, rfl, by decide, by decide, by show 37 + 6 * k + 1 + 2 + 1 + 2 ≤ 109; omega, by show 5040 + 40 * k + 4 + 16 + 4 + 16 ≤ 5520; omega⟩ rfl rfl rfl dX1_init_176 (n := 179) rfl (fun u1 hu1 => ?_)
    obtain ⟨-, eu1⟩ := hu1
    have nt1 := note0 (q := gS s1) (σ := pN s1 (.inl 5)) (x := -1) rfl gT_new
    rw [← eu1] at nt1
    refine x_aast at_note ax_note nt1.2.1.1 (by rw [(nt1.2.2.1 (o + 16) (by omega)).1]; exact (gT_old (by omega)).trans a1) vk ck dX1_init_179 (n := 180) rfl ?_
    rw [eu1]
    refine x_tops (fun s2 es2 => ?_)
    have g2 : NL o (k + 1) 0 σ0 s2 := by rw [es2]; exact g1.put (x := -1) (r := o + 16) hk (by omega) rfl
    clear es2 eu1 nt1
    refine x_iinc (v := Int32.ofNat (k + 1)) (lvs' := [(1, .int (Int32.ofNat (k + 1))), (0, .ref o)]) dX1_init_180 (n := 183) rfl 1 rfl (nat_s (by omega)) (by decide) rfl ?_
    refine x_goto (tgt := 146) dX1_init_183 rfl ?_
    have := ih (k + 1) s2 (by omega) (by omega) g2
    rw [show 37 + 6 * (k + 1) = 37 + 6 * k + 1 + 2 + 1 + 2 by omega, show 5040 + 40 * (k + 1) = 5040 + 40 * k + 4 + 16 + 4 + 16 by omega] at this
    exact x_sub [1, 0] rfl this
theorem met_X1_init (o : Nat) (σ0 σ : Hp) (hz : gS σ = o + 1) (ht : gT σ o = some (.inl 1)) (hi : ∀ i, gI σ o i = 0) (nf : NF o σ0 σ) : MetX yX1_init cX1_init 2 none rm_X1_init σ [.ref o] (oV (fun σ' => NL o 12 0 σ0 σ')) 109 5520 := by
  refine metI_of (own := RX1) (lvs := [(0, .ref o)]) (by decide) rfl rfl (Nat.le_of_ble_eq_true rfl) rfl (fun G rq hin => ?_)
  obtain ⟨s3, e3, z3, t3, n1⟩ := NI.begin hz ht hi nf
  refine x_aload_n dX1_init_0 (n := 1) rfl rfl 0 rfl ?_
  refine x_oinit q173 q174 q175 (by decide) dX1_init_1 (n := 4) rfl ?_
  refine x_aload_n dX1_init_4 (n := 5) rfl rfl 0 rfl ?_
  refine x_sipush dX1_init_5 (n := 8) rfl sp_900 ?_
  refine x_newa (atype := .byte) (N := 900) q210 rfl at_byte ⟨rfl, by decide, by decide⟩ (by decide) (by decide) (by decide) (by decide) dX1_init_8 (n := 10) rfl ?_
  have o1 : gT (pN σ (.inr (.byte, 900))) o = some (.inl 1) := (gT_old (by omega)).trans ht
  refine x_putFr hin ff_X1_19_1 rfl o1 dX1_init_10 (n := 13) rfl ?_
  refine x_aload_n dX1_init_13 (n := 14) rfl rfl 0 rfl ?_
  refine x_iconst dX1_init_14 (n := 15) rfl ic_m1 ?_
  refine x_puti fp_X1_23_1 rfl o1 dX1_init_15 (n := 18) rfl ?_
  refine x_aload_n dX1_init_18 (n := 19) rfl rfl 0 rfl ?_
  refine x_new nx_X1_27 (by decide) dX1_init_19 (n := 22) rfl ?_
  refine x_dup dX1_init_22 (n := 23) rfl rfl ?_
  refine x_aload_n dX1_init_23 (n := 24) rfl rfl 0 rfl ?_
  refine x_callI (mc := 0) (ms := 0) (As := [.ref o]) (rest := [.ref (gS (pI (pR (pN σ (.inr (.byte, 900))) o 0 (some (gS σ))) o 3 (-1))), .ref o]) ci_X1_29 (met_X2_init (gS (pI (pR (pN σ (.inr (.byte, 900))) o 0 (some (gS σ))) o 3 (-1))) (pN (pI (pR (pN σ (.inr (.byte, 900))) o 0 (some (gS σ))) o 3 (-1)) (.inl 2)) o gT_new) (by decide) rfl rfl rfl dX1_init_24 (n := 27) rfl (fun u hu => ?_)
  obtain ⟨-, eu⟩ := hu
  have ou : gT u o = some (.inl 1) := by rw [eu]; exact (gT_old (show o ≠ gS σ + 1 by omega)).trans o1
  refine x_putFr hin ff_X1_32_1 rfl ou dX1_init_27 (n := 30) rfl ?_
  rw [eu, ← e3]
  clear e3 eu ou
  refine x_aload_n dX1_init_30 (n := 31) rfl rfl 0 rfl ?_
  refine x_new nx_X1_36 (by decide) dX1_init_31 (n := 34) rfl ?_
  refine x_dup dX1_init_34 (n := 35) rfl rfl ?_
  refine x_callI (mc := 10) (ms := 95) (As := []) (rest := [.ref (gS s3), .ref o]) ci_X1_38 (met_X3_init (gS s3) (pN s3 (.inl 3)) gT_new) (by decide) rfl rfl rfl dX1_init_35 (n := 38) rfl (fun v hv => ?_)
  obtain ⟨-, ev⟩ := hv
  have ov : gT v o = some (.inl 1) := by rw [ev]; exact n1.2.1
  refine x_putr fp_X1_39_1 rfl ov dX1_init_38 (n := 41) rfl ?_
  rw [ev]
  refine x_tops (fun w1 ew1 => ?_)
  rw [← ew1] at n1
  clear ew1 ev ov
  refine x_aload_n dX1_init_41 (n := 42) rfl rfl 0 rfl ?_
  refine x_bipush dX1_init_42 (n := 44) rfl bp_6 ?_
  refine x_newa (atype := .long) (N := 6) q338 rfl at_long ⟨rfl, by decide, by decide⟩ (by decide) (by decide) (by decide) (by decide) dX1_init_44 (n := 46) rfl ?_
  refine x_putFr hin ff_X1_43_1 rfl (n1.oT (by omega)) dX1_init_46 (n := 49) rfl ?_
  refine x_tops (fun w2 ew2 => ?_)
  have n2 : NI o 2 15 σ0 w2 := by rw [ew2]; exact n1.step (f := 6) (ty := .long) (N := 6) rfl (by omega) (by omega) (by omega) (by decide) (by decide)
  clear ew2 n1
  refine x_aload_n dX1_init_49 (n := 50) rfl rfl 0 rfl ?_
  refine x_bipush dX1_init_50 (n := 52) rfl bp_12 ?_
  refine x_anew (N := 12) q310 q311 at_note (by decide) (by decide) (by decide) (by decide) dX1_init_52 (n := 55) rfl ?_
  refine x_putFr hin ff_X1_49_1 rfl (n2.oT (by omega)) dX1_init_55 (n := 58) rfl ?_
  refine x_tops (fun w3 ew3 => ?_)
  have n3 : NI o 3 16 σ0 w3 := by rw [ew3]; exact n2.step (f := 7) (ty := .object "LongYears$Note") (N := 12) rfl (by omega) (by omega) (by omega) (by decide) (by decide)
  clear ew3 n2
  refine x_aload_n dX1_init_58 (n := 59) rfl rfl 0 rfl ?_
  refine x_bipush dX1_init_59 (n := 61) rfl bp_12 ?_
  refine x_anew (N := 12) q310 q311 at_note (by decide) (by decide) (by decide) (by decide) dX1_init_61 (n := 64) rfl ?_
  refine x_putFr hin ff_X1_53_1 rfl (n3.oT (by omega)) dX1_init_64 (n := 67) rfl ?_
  refine x_tops (fun w4 ew4 => ?_)
  have n4 : NI o 4 17 σ0 w4 := by rw [ew4]; exact n3.step (f := 8) (ty := .object "LongYears$Note") (N := 12) rfl (by omega) (by omega) (by omega) (by decide) (by decide)
  clear ew4 n3
  refine x_aload_n dX1_init_67 (n := 68) rfl rfl 0 rfl ?_
  refine x_bipush dX1_init_68 (n := 70) rfl bp_108 ?_
  refine x_newa (atype := .int) (N := 108) q339 rfl at_int ⟨rfl, by decide, by decide⟩ (by decide) (by decide) (by decide) (by decide) dX1_init_70 (n := 72) rfl ?_
  refine x_putFr hin ff_X1_56_1 rfl (n4.oT (by omega)) dX1_init_72 (n := 75) rfl ?_
  refine x_tops (fun w5 ew5 => ?_)
  have n5 : NI o 5 18 σ0 w5 := by rw [ew5]; exact n4.step (f := 13) (ty := .int) (N := 108) rfl (by omega) (by omega) (by omega) (by decide) (by decide)
  clear ew5 n4
  refine x_aload_n dX1_init_75 (n := 76) rfl rfl 0 rfl ?_
  refine x_bipush dX1_init_76 (n := 78) rfl bp_20 ?_
  refine x_newa (atype := .int) (N := 20) q339 rfl at_int ⟨rfl, by decide, by decide⟩ (by decide) (by decide) (by decide) (by decide) dX1_init_78 (n := 80) rfl ?_
  refine x_putFr hin ff_X1_60_1 rfl (n5.oT (by omega)) dX1_init_80 (n := 83) rfl ?_
  refine x_tops (fun w6 ew6 => ?_)
  have n6 : NI o 6 19 σ0 w6 := by rw [ew6]; exact n5.step (f := 16) (ty := .int) (N := 20) rfl (by omega) (by omega) (by omega) (by decide) (by decide)
  clear ew6 n5
  refine x_aload_n dX1_init_83 (n := 84) rfl rfl 0 rfl ?_
  refine x_bipush dX1_init_84 (n := 86) rfl bp_20 ?_
  refine x_newa (atype := .int) (N := 20) q339 rfl at_int ⟨rfl, by decide, by decide⟩ (by decide) (by decide) (by decide) (by decide) dX1_init_86 (n := 88) rfl ?_
  refine x_putFr hin ff_X1_63_1 rfl (n6.oT (by omega)) dX1_init_88 (n := 91) rfl ?_
  refine x_tops (fun w7 ew7 => ?_)
  have n7 : NI o 7 20 σ0 w7 := by rw [ew7]; exact n6.step (f := 17) (ty := .int) (N := 20) rfl (by omega) (by omega) (by omega) (by decide) (by decide)
  clear ew7 n6
  refine x_aload_n dX1_init_91 (n := 92) rfl rfl 0 rfl ?_
  refine x_bipush dX1_init_92 (n := 94) rfl bp_20 ?_
  refine x_newa (atype := .int) (N := 20) q339 rfl at_int ⟨rfl, by decide, by decide⟩ (by decide) (by decide) (by decide) (by decide) dX1_init_94 (n := 96) rfl ?_
  refine x_putFr hin ff_X1_66_1 rfl (n7.oT (by omega)) dX1_init_96 (n := 99) rfl ?_
  refine x_tops (fun w8 ew8 => ?_)
  have n8 : NI o 8 21 σ0 w8 := by rw [ew8]; exact n7.step (f := 18) (ty := .int) (N := 20) rfl (by omega) (by omega) (by omega) (by decide) (by decide)
  clear ew8 n7
  refine x_aload_n dX1_init_99 (n := 100) rfl rfl 0 rfl ?_
  refine x_bipush dX1_init_100 (n := 102) rfl bp_20 ?_
  refine x_newa (atype := .int) (N := 20) q339 rfl at_int ⟨rfl, by decide, by decide⟩ (by decide) (by decide) (by decide) (by decide) dX1_init_102 (n := 104) rfl ?_
  refine x_putFr hin ff_X1_69_1 rfl (n8.oT (by omega)) dX1_init_104 (n := 107) rfl ?_
  refine x_tops (fun w9 ew9 => ?_)
  have n9 : NI o 9 22 σ0 w9 := by rw [ew9]; exact n8.step (f := 19) (ty := .int) (N := 20) rfl (by omega) (by omega) (by omega) (by decide) (by decide)
  clear ew9 n8
  refine x_aload_n dX1_init_107 (n := 108) rfl rfl 0 rfl ?_
  refine x_bipush dX1_init_108 (n := 110) rfl bp_12 ?_
  refine x_sipush dX1_init_110 (n := 113) rfl sp_313 ?_
  refine x_manew (N := 12) (M := 313) q312 q313 q338 (by decide) (by decide) (by decide) (by decide) (by decide) (by decide) dX1_init_113 (n := 117) rfl ?_
  refine x_putFr hin ff_X1_74_1 rfl (by rw [pM_T (Or.inl (by have := n9.1; omega))]; exact n9.2.1) dX1_init_117 (n := 120) rfl ?_
  refine x_tops (fun w10 ew10 => ?_)
  have n10 : NI o 10 35 σ0 w10 := by rw [ew10]; exact n9.rows
  clear ew10 n9
  refine x_aload_n dX1_init_120 (n := 121) rfl rfl 0 rfl ?_
  refine x_bipush dX1_init_121 (n := 123) rfl bp_12 ?_
  refine x_newa (atype := .boolean) (N := 12) q340 rfl at_bool ⟨rfl, by decide, by decide⟩ (by decide) (by decide) (by decide) (by decide) dX1_init_123 (n := 125) rfl ?_
  refine x_putFr hin ff_X1_77_1 rfl (n10.oT (by omega)) dX1_init_125 (n := 128) rfl ?_
  refine x_tops (fun w11 ew11 => ?_)
  have n11 : NI o 11 36 σ0 w11 := by rw [ew11]; exact n10.step (f := 21) (ty := .boolean) (N := 12) rfl (by omega) (by omega) (by omega) (by decide) (by decide)
  clear ew11 n10
  refine x_aload_n dX1_init_128 (n := 129) rfl rfl 0 rfl ?_
  refine x_bipush dX1_init_129 (n := 131) rfl bp_12 ?_
  refine x_newa (atype := .int) (N := 12) q339 rfl at_int ⟨rfl, by decide, by decide⟩ (by decide) (by decide) (by decide) (by decide) dX1_init_131 (n := 133) rfl ?_
  refine x_putFr hin ff_X1_81_1 rfl (n11.oT (by omega)) dX1_init_133 (n := 136) rfl ?_
  refine x_tops (fun w12 ew12 => ?_)
  have n12 : NI o 12 37 σ0 w12 := by rw [ew12]; exact n11.step (f := 22) (ty := .int) (N := 12) rfl (by omega) (by omega) (by omega) (by decide) (by decide)
  clear ew12 n11
  refine x_aload_n dX1_init_136 (n := 137) rfl rfl 0 rfl ?_
  refine x_bipush dX1_init_137 (n := 139) rfl bp_12 ?_
  refine x_newa (atype := .int) (N := 12) q339 rfl at_int ⟨rfl, by decide, by decide⟩ (by decide) (by decide) (by decide) (by decide) dX1_init_139 (n := 141) rfl ?_
  refine x_putFr hin ff_X1_84_1 rfl (n12.oT (by omega)) dX1_init_141 (n := 144) rfl ?_
  refine x_tops (fun w13 ew13 => ?_)
  have n13 : NI o 13 38 σ0 w13 := by rw [ew13]; exact n12.step (f := 23) (ty := .int) (N := 12) rfl (by omega) (by omega) (by omega) (by decide) (by decide)
  clear ew13 n12
  refine x_iconst dX1_init_144 (n := 145) rfl ic_0 ?_
  refine x_istore_n (lvs' := [(1, .int 0), (0, .ref o)]) dX1_init_145 (n := 146) rfl rfl (by decide) rfl ?_
  exact x_sub [1, 0] rfl (x1_loop rq 12 0 w13 rfl (by omega) ⟨n13, fun i hi => absurd hi (by omega), fun i hi => absurd hi (by omega)⟩)
