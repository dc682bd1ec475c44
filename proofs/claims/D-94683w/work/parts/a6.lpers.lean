set_option maxRecDepth 100000
theorem rd_person {o c d : Nat} {b : Nat → Int32} {n B0 Mx cnt : Nat} {σ : Hp} {t : Tok} {R : RlA} {Q : Hp → Prop} {E : Nat → Hp → Prop} (hM : B0 + 4 * n + 8 ≤ Mx) (hR : RDR o c d b n σ t 0 cnt) (hL : LRl d σ R) (hk : LsOk (aL R)) (hl : (aP R).length ≠ 6) (hg : gS σ ≤ B0 + 4 * tPl t) (hx : LN o c d b n B0 cnt σ (persS b n (aL R) (nms3 R) t) (putP R) Q E) : wp_X2_person o c d σ Mx Q E := by
  obtain ⟨hok, hbad⟩ := hx
  have ho : o < d := hR.2.2.2.2.2.2.2.1
  have hd : d + 11 ≤ gS σ := hR.2.2.2.2.2.2.2.2.2
  have hpl := (pl_i hR).2
  refine rd_fresh hR hL.n3 (by omega) ⟨fun nm t1 s1 e1 f1 z1 R1 _ => ⟨by omega, ?_⟩, fun k pl q s' e f g => hbad k pl q s' (by unfold persS; rw [e]; rfl) f.fx g⟩
  have p1 := (pg_fr hR.2.2.1 _ _ e1).2
  have fp : FR (S5 o d) σ (pN s1 (.inl 8)) := f1.tr FR.n
  refine rd_date (R1.fr FR.n) (hL.fr fp ho hd) hk (by rw [gS_pN]; omega) ⟨fun cn t2 s8 e2 f2 z2 R2 _ s14 hs => ?_, fun k pl q s' e f g => hbad k pl q s' (by unfold persS; rw [e1, pb_inl, e]; rfl) (fp.tr f).fx g⟩
  subst hs
  have z2 : gS s8 = gS σ + 1 := by rw [z2, gS_pN, z1]
  have p2 := (pg_date R1.2.2.1 _ _ e2).2
  have f14 : FR (S5 o d) σ (f_X9_init (gS s1) s8 nm cn) := by
    unfold f_X9_init f_X4_init
    exact (((fp.tr f2).i (Or.inl (by omega))).l (Or.inl (by omega))).l (Or.inl (by omega))
  have R14 : RDR o c d b n (f_X9_init (gS s1) s8 nm cn) t2 0 cnt := R2.wr (Nat.le_refl _) (fun a k ha => by
    unfold f_X9_init f_X4_init
    rw [gI_pL, gI_pL, pIo (by omega)])
  have z14 : gS (f_X9_init (gS s1) s8 nm cn) = gS σ + 1 := z2
  have T14 : gT (f_X9_init (gS s1) s8 nm cn) (gS s1) = some (.inl 8) := by
    show gT s8 (gS s1) = _
    rw [f2.gt (by rw [gS_pN]; omega)]
    exact gT_new
  have pp14 : pPers (f_X9_init (gS s1) s8 nm cn) (gS s1) (nm, cn, -1) := ⟨by omega, T14, by unfold f_X9_init f_X4_init; simp [gI_pL, gI_pI], by unfold f_X9_init f_X4_init; simp [gL_pL], by unfold f_X9_init f_X4_init; simp [gL_pL]⟩
  rw [lword1 R14.2.1 R14.2.2.1 (k := 9) (fun w hw => (pi_8 w hw).2.1) (by omega), show Int32.ofNat 9 = 9 from rfl]
  refine ⟨fun q => ?_, fun q => ?_⟩
  · have L14 := hL.fr f14 ho hd
    refine rd_add L14.2.2.1 (by omega) hl ⟨8, by decide, T14⟩ (fun _ => hok (nm, cn, -1) t2 _ ?_ (f14.fx.add (by omega) (by omega)) (R14.addH (by omega)) (addP L14 hl (by omega) pp14) (by show gS s8 ≤ _; omega))
    unfold persS
    rw [e1, pb_inl, e2, pb_inl, if_neg (by rw [q]; exact Bool.false_ne_true)]
  · have q := bt q
    refine R14.nx (fun s24 f4 z4 R4 _ => ?_)
    have p4 := (adv_pl (b := b) R14.2.2.1 (by rw [(key_kd q).1]; decide)).1
    have T24 : gT s24 (gS s1) = some (.inl 8) := by rw [f4.gt (by omega)]; exact T14
    have b24 : gL s24 (gS s1) 1 = cn := by rw [f4.gl (by omega) (S5_lo ho (by omega))]; exact pp14.2.2.2.1
    refine ⟨T24, ?_⟩
    rw [b24]
    refine rd_date R4 (hL.fr (f14.tr f4) ho hd) hk (by omega) ⟨fun di t5 s27 e5 f5 z5 R5 _ => ⟨?_, ?_⟩, fun k pl qq s' e ff gg => hbad k pl qq s' (by unfold persS; rw [e1, pb_inl, e2, pb_inl, if_pos q, e]; rfl) ((f14.tr f4).tr ff).fx gg⟩
    · show gT s27 (gS s1) = _
      rw [f5.gt (by omega)]; exact T24
    · have p5 := (pg_date R4.2.2.1 _ _ e5).2
      have f27 : FR (S5 o d) σ (pL s27 (gS s1) 2 di) := ((f14.tr f4).tr f5).l (Or.inl (by omega))
      have R27 : RDR o c d b n (pL s27 (gS s1) 2 di) t5 0 cnt := R5.wr (Nat.le_refl _) (fun a k ha => rfl)
      have L27 := hL.fr f27 ho hd
      have T27 : gT (pL s27 (gS s1) 2 di) (gS s1) = some (.inl 8) := by
        show gT s27 (gS s1) = _
        rw [f5.gt (by omega)]; exact T24
      refine rd_add L27.2.2.1 (by omega) hl ⟨8, by decide, T27⟩ (fun _ => hok (nm, cn, di) t5 _ ?_ (f27.fx.add (by omega) (by omega)) (R27.addH (by omega)) (addP L27 hl (by omega) ⟨by show gS s1 < gS s27; omega, T27, ?_, ?_, ?_⟩) (by show gS s27 ≤ _; omega))
      · unfold persS
        rw [e1, pb_inl, e2, pb_inl, if_pos q, e5, pb_inl]
      · rw [gI_pL, f5.gi (by omega) (S5_lo ho (by omega)), f4.gi (by omega) (S5_lo ho (by omega))]; exact pp14.2.2.1
      · rw [gL_pL, if_neg (by omega), f5.gl (by omega) (S5_lo ho (by omega))]; exact b24
      · simp [gL_pL]
theorem pi_12 : ∀ w, w < 23 → ((10 ≤ (piL (Int32.ofNat w)).toInt ∧ (piL (Int32.ofNat w)).toInt ≤ 12) ↔ (10 ≤ w ∧ w ≤ 12)) ∧ (10 ≤ w ∧ w ≤ 12 → piL (Int32.ofNat w) = Int32.ofNat w) := by decide +kernel
theorem rd_deed {o c d : Nat} {b : Nat → Int32} {n B0 Mx cnt : Nat} {σ : Hp} {t : Tok} {R : RlA} {Q : Hp → Prop} {E : Nat → Hp → Prop} (hM : B0 + 4 * n + 8 ≤ Mx) (hR : RDR o c d b n σ t 0 cnt) (hL : LRl d σ R) (hk : LsOk (aL R)) (hl : (aD R).length ≠ 4) (hg : gS σ ≤ B0 + 4 * tPl t) (hx : LN o c d b n B0 cnt σ (deedS b n (aL R) (nms2 R) (nms4 R) t) (putD R) Q E) : wp_X2_deed o c d σ Mx Q E := by
  obtain ⟨hok, hbad⟩ := hx
  have ho : o < d := hR.2.2.2.2.2.2.2.1
  have hd : d + 11 ≤ gS σ := hR.2.2.2.2.2.2.2.2.2
  have hpl := (pl_i hR).2
  refine rd_fresh hR hL.n4 (by omega) ⟨fun nm t1 s1 e1 f1 z1 R1 _ => ?_, fun k pl q s' e f g => hbad k pl q s' (by unfold deedS; rw [e]; rfl) f.fx g⟩
  have p1 := (pg_fr hR.2.2.1 _ _ e1).2
  refine rd_date R1 (hL.fr f1 ho hd) hk (by omega) ⟨fun cn t2 s5 e2 f2 z2 R2 _ => ?_, fun k pl q s' e f g => hbad k pl q s' (by unfold deedS; rw [e1, pb_inl, e]; rfl) (f1.tr f).fx g⟩
  have p2 := (pg_date R1.2.2.1 _ _ e2).2
  have hv2 := R2.2.2.1
  have pl2 := (pl_i R2).2
  have f5 : FR (S5 o d) σ s5 := f1.tr f2
  have ex : deedS b n (aL R) (nms2 R) (nms4 R) t = if tKd t2 = 1 ∧ 10 ≤ (tWh t2).toInt ∧ (tWh t2).toInt ≤ 12 then pb (if tWh t2 = 10 then numS b n 0 999 (adv b n t2) else if tWh t2 = 11 then numS b n 0 99999 (adv b n t2) else ahS b n (nms2 R) (adv b n t2)) fun x t' => pb (keyS b n 13 t') fun _ t' => pb (numS b n 0 999 t') fun p t' => .inl ((nm, cn, tWh t2 - 10, x, p), t') else .inr (1, tPl t2) := by
    unfold deedS
    rw [e1, pb_inl, e2]
    rfl
  generalize deedS b n (aL R) (nms2 R) (nms4 R) t = X at *
  have hw : f_X2_isWord o c d s5 10 12 = 0 ↔ ¬ (tKd t2 = 1 ∧ 10 ≤ (tWh t2).toInt ∧ (tWh t2).toInt ≤ 12) := by
    rw [lword R2.2.1 hv2]
    by_cases k : tKd t2 = 1
    · obtain ⟨w, hw, e⟩ := wh_nat hv2 k
      have := (pi_12 w hw).1
      rw [e, nat_i (by omega)]
      constructor
      · exact fun q z => q ⟨k, this.mpr ⟨by omega, by omega⟩⟩
      · exact fun q z => q ⟨k, by have := this.mp z.2; omega, by have := this.mp z.2; omega⟩
    · exact ⟨fun _ q => k q.1, fun _ q => k q.1⟩
  rw [hw]
  refine ⟨fun q => rd_throw R2.2.1 (by omega) (by omega) (fun q' σ' f g => hbad _ _ q' σ' (by rw [ex, if_neg q]) (f5.tr f).fx g), fun q => ?_⟩
  have q := Classical.byContradiction q
  rw [if_pos q] at ex
  obtain ⟨w, hw23, ew⟩ := wh_nat hv2 q.1
  have hw12 : 10 ≤ w ∧ w ≤ 12 := by rw [ew, nat_i (by omega)] at q; omega
  have ev : gI s5 o 4 = Int32.ofNat w := by
    rw [R2.2.1.2.2.2 (by rw [q.1]; decide) (by rw [q.1]; decide)]
    simp only [valL, q.1, if_true, ew]
    exact (pi_12 w hw23).2 hw12
  rw [ev]
  have p3 := (adv_pl (b := b) hv2 (by rw [q.1]; decide))
  refine R2.nx (fun s12 f3 z3 R3 _ => ?_)
  have f12 : FR (S5 o d) σ s12 := f5.tr f3
  -- the pay, then the deed is told
  have tail : ∀ (τ : Hp) (t4 : Tok) (x : Int32) (cl : Nat), RDR o c d b n τ t4 0 cnt → FR (S5 o d) σ τ → gS τ = gS σ + 1 → tPl (adv b n t2) < tPl t4 → cl = dCl (tWh t2 - 10) → gT τ (gS σ) = some (.inl cl) → gI τ (gS σ) 0 = nm → gL τ (gS σ) 1 = cn → gI τ (gS σ) 2 = x → X = (pb (keyS b n 13 t4) fun _ t' => pb (numS b n 0 999 t') fun p t' => .inl ((nm, cn, tWh t2 - 10, x, p), t')) → wj_X2_deed_118 o c d τ (gS σ) Mx Q E := by
    intro τ t4 x cl R4 f4 z4 p4 hcl T4 i0 l1 i2 ex
    have pl4 := (pl_i R4).2
    unfold wj_X2_deed_118
    rw [lword1 R4.2.1 R4.2.2.1 (k := 13) (fun w hw => (pi_8 w hw).2.2) (by omega), show Int32.ofNat 13 = 13 from rfl]
    unfold keyS at ex
    refine ⟨fun q => ?_, fun q => ?_⟩
    · rw [if_neg (by rw [q]; exact Bool.false_ne_true)] at ex
      exact rd_throw R4.2.1 (by omega) (by omega) (fun q' σ' f g => hbad _ _ q' σ' ex (f4.tr f).fx g)
    · have q := bt q
      rw [if_pos q] at ex
      have p5 := (adv_pl (b := b) R4.2.2.1 (by rw [(key_kd q).1]; decide)).1
      refine R4.nx (fun s60 f6 z6 R6 _ => ?_)
      refine rd_number R6 (by omega) ⟨fun py t7 s62 e7 f7 z7 R7 _ => ⟨?_, ?_⟩, fun k pl qq s' e ff gg => hbad k pl qq s' (by rw [ex, pb_inl, e]; rfl) ((f4.tr f6).tr ff).fx gg⟩
      · refine ⟨cl, by rw [hcl]; exact (dCl_m _).2, ?_⟩
        rw [f7.gt (by omega), f6.gt (by omega)]
        exact T4
      · have p7 := (pg_num R6.2.2.1 _ _ e7).2
        have f8 : FR (S5 o d) σ (pI s62 (gS σ) 3 py) := ((f4.tr f6).tr f7).i (Or.inl (Nat.le_refl _))
        have R8 : RDR o c d b n (pI s62 (gS σ) 3 py) t7 0 cnt := R7.wr (Nat.le_refl _) (fun a k ha => pIo (by omega))
        have L8 := hL.fr f8 ho hd
        have T8 : gT (pI s62 (gS σ) 3 py) (gS σ) = some (.inl cl) := by
          show gT s62 (gS σ) = _
          rw [f7.gt (by omega), f6.gt (by omega)]; exact T4
        refine rd_add L8.2.2.2.1 (by omega) hl ⟨cl, by rw [hcl]; exact (dCl_m _).1, T8⟩ (fun _ => hok (nm, cn, tWh t2 - 10, x, py) t7 _ ?_ (f8.fx.add (by omega) (by omega)) (R8.addH (by omega)) (addD L8 hl hd ⟨by show gS σ < gS s62; omega, by rw [T8, hcl], ?_, ?_, ?_, ?_⟩) (by show gS s62 ≤ _; omega))
        · rw [ex, pb_inl, e7, pb_inl]
        · rw [pIo (by omega), f7.gi (by omega) (S5_lo ho hd), f6.gi (by omega) (S5_lo ho hd)]; exact i0
        · rw [gL_pI, f7.gl (by omega) (S5_lo ho hd), f6.gl (by omega) (S5_lo ho hd)]; exact l1
        · rw [pIo (by omega), f7.gi (by omega) (S5_lo ho hd), f6.gi (by omega) (S5_lo ho hd)]; exact i2
        · simp [gI_pI]
  have e10 : Int32.ofNat w = 10 ↔ w = 10 := nat_e (q := 10) (by omega) (by omega)
  have e11 : Int32.ofNat w = 11 ↔ w = 11 := nat_e (q := 11) (by omega) (by omega)
  have z12 : gS s12 = gS σ := by omega
  rw [e10, e11, z12]
  have init : ∀ (s43 : Hp) (cl : Nat) (t4 : Tok) (x : Int32), FR (S5 o d) (pN s12 (.inl cl)) s43 → gS s43 = gS σ + 1 → RDR o c d b n s43 t4 0 cnt → tPl (adv b n t2) < tPl t4 → cl = dCl (tWh t2 - 10) → X = (pb (keyS b n 13 t4) fun _ t' => pb (numS b n 0 999 t') fun p t' => .inl ((nm, cn, tWh t2 - 10, x, p), t')) → wj_X2_deed_118 o c d (f_X10_init (gS σ) s43 nm cn x) (gS σ) Mx Q E := by
    intro s43 cl t4 x f4 z4 R4 p4 hcl ex
    have fA : FR (S5 o d) σ s43 := (f12.tr FR.n).tr f4
    refine tail _ t4 x cl (R4.wr (Nat.le_refl _) (fun a k ha => ?_)) ?_ z4 p4 hcl ?_ ?_ ?_ ?_ ex
    · unfold f_X10_init f_X4_init
      rw [pIo (by omega), gI_pL, pIo (by omega)]
    · unfold f_X10_init f_X4_init
      exact ((fA.i (Or.inl (Nat.le_refl _))).l (Or.inl (Nat.le_refl _))).i (Or.inl (Nat.le_refl _))
    · show gT s43 (gS σ) = _
      rw [f4.gt (by rw [gS_pN]; omega), ← z12]
      exact gT_new
    · unfold f_X10_init f_X4_init; simp [gI_pI, gI_pL]
    · unfold f_X10_init f_X4_init; simp [gL_pL, gL_pI]
    · unfold f_X10_init f_X4_init; simp [gI_pI]
  have pl3 := (pl_i R3).2
  refine ⟨fun q10 => ⟨by omega, ?_⟩, fun q10 => ⟨fun q11 => ⟨by omega, ?_⟩, fun q11 => ⟨by omega, ?_⟩⟩⟩
  · subst q10
    rw [ew, if_pos (by decide)] at ex
    rw [ew] at init
    refine rd_number (R3.fr FR.n) (by rw [gS_pN]; omega) ⟨fun x t4 s43 e4 f4 z4 R4 _ s49 hs => ?_, fun k pl qq s' e ff gg => hbad k pl qq s' (by rw [ex, e]; rfl) ((f12.tr FR.n).tr ff).fx gg⟩
    subst hs
    exact init s43 10 t4 x f4 (by rw [z4, gS_pN]; omega) R4 (pg_num R3.2.2.1 _ _ e4).2 (by decide) (by rw [ex, e4]; rfl)
  · subst q11
    rw [ew, if_neg (by decide), if_pos (by decide)] at ex
    rw [ew] at init
    refine rd_number (R3.fr FR.n) (by rw [gS_pN]; omega) ⟨fun x t4 s43 e4 f4 z4 R4 _ s49 hs => ?_, fun k pl qq s' e ff gg => hbad k pl qq s' (by rw [ex, e]; rfl) ((f12.tr FR.n).tr ff).fx gg⟩
    subst hs
    exact init s43 9 t4 x f4 (by rw [z4, gS_pN]; omega) R4 (pg_num R3.2.2.1 _ _ e4).2 (by decide) (by rw [ex, e4]; rfl)
  · have q12 : w = 12 := by omega
    subst q12
    rw [ew, if_neg (by decide), if_neg (by decide)] at ex
    rw [ew] at init
    refine rd_ahead (R3.fr FR.n) (hL.fr (f12.tr FR.n) ho hd).n2 (by rw [gS_pN]; omega) ⟨fun x t4 s43 e4 f4 z4 R4 _ s49 hs => ?_, fun k pl qq s' e ff gg => hbad k pl qq s' (by rw [ex, e]; rfl) ((f12.tr FR.n).tr ff).fx gg⟩
    subst hs
    exact init s43 11 t4 x f4 (by rw [z4, gS_pN]; omega) R4 (pg_ah R3.2.2.1 _ _ e4).2 (by decide) (by rw [ex, e4]; rfl)
