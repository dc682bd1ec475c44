set_option maxRecDepth 100000
theorem rk_n3 {n : Nat} {t : Tok} (hv : TV n t) : rk (opOf t) ≠ 3 := by
  rcases op_cases hv with ⟨k, w, e⟩ | ⟨k, w, e⟩ | ⟨k, e, e2⟩ | ⟨k, w, e⟩ | ⟨k, w, e⟩ | ⟨k, w, e⟩ | ⟨k, w, e⟩ | ⟨k, w, e⟩ | ⟨e, k5, k1, k4⟩
  all_goals first | rw [e]; decide | rw [rk_cmp e e2]; decide
/-- the reader's own stand where another's cells are written -/
theorem RDR.wr {o c d : Nat} {b : Nat → Int32} {n : Nat} {σ σ' : Hp} {t : Tok} {brk cnt : Nat} (h : RDR o c d b n σ t brk cnt) (hz : gS σ ≤ gS σ') (hf : ∀ a k, a < d + 11 → gI σ' a k = gI σ a k) : RDR o c d b n σ' t brk cnt := by
  obtain ⟨h1, h2, h3, h4, h5, h6, h7, h8, h9, h10⟩ := h
  refine ⟨⟨?_, h1.2.1, h1.2.2.1, fun i hi => ?_⟩, ⟨?_, ?_, ?_, fun q1 q2 => ?_⟩, h3, ?_, ?_, h6, h7, h8, h9, by omega⟩
  · rw [hf _ _ (by omega)]; exact h1.1
  · rw [hf _ _ (by omega)]; exact h1.2.2.2 i hi
  · rw [hf _ _ (by omega)]; exact h2.1
  · rw [hf _ _ (by omega)]; exact h2.2.1
  · rw [hf _ _ (by omega)]; exact h2.2.2.1
  · rw [hf _ _ (by omega)]; exact h2.2.2.2 q1 q2
  · rw [hf _ _ (by omega)]; exact h4
  · rw [hf _ _ (by omega)]; exact h5
theorem key_kd {t : Tok} {k : Int32} (h : tIsKey t k = true) : tKd t = 1 ∧ tWh t = k := by unfold tIsKey at h; simpa using h
theorem sgn_kd {t : Tok} {k : Int32} (h : tIsSign t k = true) : tKd t = 4 ∧ tWh t = k := by unfold tIsSign at h; simpa using h
theorem rd_not {o c d : Nat} {b : Nat → Int32} {n B0 brk c0 Mx : Nat} {OR NOT : Hp → (Nat → Hp → Prop) → (Nat → Hp → Prop) → Prop} (hM : B0 + 4 * n + 8 ≤ Mx) (hcmp : LvS o c d b n B0 4 4 brk c0 pmA (fun σ Q E => wp_X2_compare o c d σ Mx Q E OR)) (hnot : LvS o c d b n B0 3 4 brk (c0 + 1) pmB NOT) : LvS o c d b n B0 3 4 brk c0 pmB (fun σ Q E => wp_X2_not o c d σ Mx Q E OR NOT) := by
  intro σ t cnt w h mn Q E hc0 hR hpm htr hg hok hbad
  have hv := hR.2.2.1
  have hpl := pl_i hR
  have hd := hR.2.2.2.2.2.2.2.2.2
  have hod := hR.2.2.2.2.2.2.2.1
  show (_ → _) ∧ (_ → _)
  rw [lword1 hR.2.1 hv (k := 18) (fun w hw => (pi_inj w hw).1) (by omega), show Int32.ofNat 18 = 18 from rfl]
  refine ⟨fun q => ?_, fun q => ?_⟩
  · refine hcmp σ t cnt w h mn _ E hc0 hR (fun w => absurd (w.symm.trans q) (by decide)) htr hg ?_ hbad
    intro p σ1 t' cnt' w' h' v mn' g1 g2 g3 g4 g5 g6 g7 g8 g9 _
    refine hok p σ1 t' cnt' w' h' v mn' g1 g2 g3 g4 g5 g6 (bnd_eqv (by omega) g7) ?_ g9
    have n3 := rk_n3 g1.2.2.1
    rcases g8 with q | q | q
    · exact Or.inl q
    · exact Or.inr (Or.inl (by omega))
    · exact Or.inr (Or.inr q)
  · have q := bt q
    obtain ⟨kd, wh⟩ := key_kd q
    have hpm : mn = true := hpm
    have hsy : syStep (adv b n) (w, h, brk, cnt, true, mn, t) = if cnt = 64 then .inr (.inr (2, tPl t)) else .inl (2 :: w, h, brk, cnt + 1, true, mn, adv b n t) := by
      rw [syStep_eq, if_neg (by simp), if_pos rfl]
      unfold syLeaf
      rw [if_neg (by unfold tIsSign; rw [kd]; simp), if_pos (by rw [q, hpm]; rfl)]
    refine rd_knot hR (by omega) (fun q64 q σ' f1 f2 => ?_) (fun q64 s4 f1 f2 f3 _ => ⟨by omega, ?_⟩)
    · rw [if_pos q64] at hsy
      exact hbad q σ' 2 _ f1 f2 (Rn.en hsy)
    · rw [if_neg q64] at hsy
      have hadv := adv_pl (b := b) hv (by rw [kd]; decide)
      have fn : FR (S5 o d) σ (pN s4 (.inl 14)) := f1.tr FR.n
      refine hnot (pN s4 (.inl 14)) (adv b n t) (cnt + 1) (2 :: w) h mn _ E (by omega) (f3.fr FR.n) hpm (by show 3 < 4; omega) (by rw [gS_pN, f2]; omega) ?_ ?_
      · intro p2 σ2 t2 cnt2 w2 h2 v2 mn2 g1 g2 g3 g4 g5 g6 g7 g8 g9 _ s17 hs
        subst hs
        have hz2 := g2.1
        rw [gS_pN] at hz2
        have tb3 := g3.bd
        rw [gS_pN] at tb3
        refine hok (gS s4) (f_X17_init (gS s4) σ2 p2) t2 cnt2 w2 h2 (eNot v2) mn2 (g1.wr (Nat.le_refl _) (fun a k ha => rfl)) ((fn.tr g2).r (by omega)) ?_ (by omega) g5 ((Rc.one hsy).tr g6) ?_ g8 (by omega)
        · have ek : cnt2 - cnt = (cnt2 - cnt - 1) + 1 := by omega
          rw [ek]
          refine ⟨by omega, by show gS s4 < gS σ2; omega, Or.inr (Or.inr (Or.inl ⟨?_, p2, v2, ?_, ?_, rfl⟩))⟩
          · show gT σ2 (gS s4) = _
            rw [g2.gt (by rw [gS_pN]; omega)]
            exact gT_new
          · unfold f_X17_init; simp [gR_pR]
          · refine ((TR.cg (σ := σ2) (σ' := f_X17_init (gS s4) σ2 p2) (lo := gS s4 + 1) (Nat.le_refl _) (fun x hx1 hx2 => ⟨rfl, fun i => ?_⟩) g3).lo (by omega)).up (by omega)
            unfold f_X17_init
            rw [gR_pR, if_neg (by omega)]
            exact ⟨rfl, rfl⟩
        · rw [g7, bnd_not (by omega)]
      · intro q σ' k pl g1 g2 g3
        exact hbad q σ' k pl (fn.tr g1) g2 ((Rc.one hsy) _ g3)
theorem rd_one {o c d : Nat} {b : Nat → Int32} {n B0 brk c0 Mx : Nat} {OR : Hp → (Nat → Hp → Prop) → (Nat → Hp → Prop) → Prop} (hM : B0 + 4 * n + 8 ≤ Mx) (hor : brk < 8 → LvS o c d b n B0 1 1 (brk + 1) c0 pmB OR) : LvS o c d b n B0 7 7 brk c0 pmA (fun σ Q E => wp_X2_one o c d σ Mx Q E OR) := by
  intro σ t cnt w h mn Q E hc0 hR hpm htr hg hok hbad
  have hv := hR.2.2.1
  have hpl := pl_i hR
  obtain ⟨r1, r2, r3, r4, r5, r6, r7, r8, r9, r10⟩ := hR
  have hR : RDR o c d b n σ t brk cnt := ⟨r1, r2, r3, r4, r5, r6, r7, r8, r9, r10⟩
  have s := fun x hx => lsign (c := c) (d := d) r2 hv (x := x) hx
  have hleaf : syStep (adv b n) (w, h, brk, cnt, true, mn, t) = syLeaf (adv b n) w h brk cnt mn t := by
    rw [syStep_eq, if_neg (by simp), if_pos rfl]
  have hnk : (tIsKey t 18 && mn) = false := by
    cases hk : tIsKey t 18 with
    | false => rfl
    | true => rw [hpm hk]; rfl
  show (_ → _) ∧ (_ → _)
  rw [s 40 (by decide)]
  refine ⟨fun q => ?_, fun q => ?_⟩
  · -- a number or a name
    have base : syStep (adv b n) (w, h, brk, cnt, true, mn, t) = match nmOf t with
      | some i => if cnt = 64 then .inr (.inr (2, tPl t)) else .inl (w, eName i :: h, brk, cnt + 1, false, mn, adv b n t)
      | none => if tKd t = 3 then (if tWh t ≤ 9999 then (if cnt = 64 then .inr (.inr (2, tPl t)) else .inl (w, eNum (tWh t) :: h, brk, cnt + 1, false, mn, adv b n t)) else .inr (.inr (2, tPl t))) else .inr (.inr (1, tPl t)) := by
      rw [hleaf]
      unfold syLeaf
      rw [if_neg (by rw [q]; exact Bool.false_ne_true), if_neg (by rw [hnk]; exact Bool.false_ne_true)]
      cases nmOf t <;> rfl
    have so : gI σ o 3 = 2 ↔ tKd t = 3 := by
      rw [r2.2.2.1]
      rcases hv.2.2.2.2.2.2.1 with k | k | k | k | k | k | k
      all_goals rw [k]; decide
    rw [so, lname r2 hv]
    refine ⟨fun k3 => ?_, fun k3 => ?_⟩
    · have hno : nmOf t = none := by unfold nmOf; rw [k3]; rfl
      rw [hno] at base
      simp only [if_pos k3] at base
      have e4 : gI σ o 4 = tWh t := by
        rw [r2.2.2.2 (by rw [k3]; decide) (by rw [k3]; decide)]
        simp [valL, k3]
      rw [e4]
      refine ⟨fun k9 => ⟨by omega, ?_⟩, fun k9 => ?_⟩
      · simp only [if_pos k9] at base
        refine rd_knot (hR.fr FR.n) (by rw [gS_pN]; omega) (fun q64 q σ' f1 f2 => ?_) (fun q64 s29 f1 f2 f3 _ s35 hs => ?_)
        · rw [if_pos q64] at base
          exact hbad q σ' 2 _ ((FR.n).tr f1) f2 (Rn.en base)
        · rw [if_neg q64] at base
          have hadv := adv_pl (b := b) hv (by rw [k3]; decide)
          rw [gI_pN, if_neg (by omega), e4] at hs
          subst hs
          rw [gS_pN] at f2
          refine hok (gS σ) (f_X15_init (gS σ) s29 (tWh t)) (adv b n t) (cnt + 1) w (eNum (tWh t) :: h) (eNum (tWh t)) mn (f3.wr (Nat.le_refl _) (fun a k ha => ?_)) ((FR.n.tr f1).i (Or.inl (Nat.le_refl _))) ?_ (by omega) ?_ (Rc.one base) rfl (Or.inr (Or.inl (by have := rk_b (opOf (adv b n t)); omega))) hadv.1
          · unfold f_X15_init
            rw [pIo (by omega)]
          · rw [show cnt + 1 - cnt = 0 + 1 by omega]
            refine ⟨Nat.le_refl _, by show gS σ < gS s29; omega, Or.inl ⟨?_, ?_⟩⟩
            · show gT s29 (gS σ) = _
              rw [f1.gt (by rw [gS_pN]; omega)]
              exact gT_new
            · unfold f_X15_init; simp [gI_pI]
          · show gS s29 ≤ _
            omega
      · simp only [if_neg k9] at base
        exact rd_throw r2 (by omega) (by omega) (fun q σ' f1 f2 => hbad q σ' 2 _ f1 f2 (Rn.en base))
    · cases hno : nmOf t with
      | none =>
        rw [hno] at base
        simp only [if_neg k3] at base
        refine ⟨fun _ => rd_throw r2 (by omega) (by omega) (fun q σ' f1 f2 => hbad q σ' 1 _ f1 f2 (Rn.en base)), fun w => absurd rfl w⟩
      | some i =>
        rw [hno] at base
        have hi := nmOf_b hno
        have hkd : tKd t = 1 := by
          by_cases k : tKd t = 1
          · exact k
          · unfold nmOf at hno; rw [if_neg k] at hno; cases hno
        refine ⟨fun w => absurd w ?_, fun _ => ?_⟩
        · show Int32.ofNat (pnL i) ≠ -1
          have : pnL i < 6 := by unfold pnL; repeat' split
                                 all_goals omega
          exact ofNat_ne (by omega)
        · refine rd_knot hR (by omega) (fun q64 q σ' f1 f2 => ?_) (fun q64 s8 f1 f2 f3 _ => ⟨by omega, fun s17 hs => ?_⟩)
          · simp only [if_pos q64] at base
            exact hbad q σ' 2 _ f1 f2 (Rn.en base)
          · simp only [if_neg q64] at base
            have hadv := adv_pl (b := b) hv (by rw [hkd]; decide)
            subst hs
            refine hok (gS s8) (f_X16_init (gS s8) (pN s8 (.inl 13)) (nmL (some i))) (adv b n t) (cnt + 1) w (eName i :: h) (eName i) mn (f3.wr (by show gS s8 ≤ gS s8 + 1; omega) (fun a k ha => ?_)) ((f1.tr FR.n).i (Or.inl (by omega))) ?_ (by omega) ?_ (Rc.one base) rfl (Or.inr (Or.inl (by have := rk_b (opOf (adv b n t)); omega))) hadv.1
            · unfold f_X16_init
              rw [pIo (by omega), gI_pN, if_neg (by omega)]
            · rw [show cnt + 1 - cnt = 0 + 1 by omega]
              refine ⟨by omega, by show gS s8 < gS s8 + 1; omega, Or.inr (Or.inl ⟨gT_new, i, hi, ?_, rfl⟩)⟩
              unfold f_X16_init; simp [gI_pI, nmL]
            · show gS s8 + 1 ≤ _
              omega
  · -- a bracket
    have q := bt q
    obtain ⟨kd, wh⟩ := sgn_kd q
    rw [r4, show (8 : Int32) = Int32.ofNat 8 from rfl, nat_e (by omega) (by omega), nat_s (by omega)]
    have base : syStep (adv b n) (w, h, brk, cnt, true, mn, t) = if brk = 8 then .inr (.inr (2, tPl t)) else .inl (0 :: w, h, brk + 1, cnt, true, true, adv b n t) := by
      rw [hleaf]
      unfold syLeaf
      rw [if_pos q]
    refine ⟨fun q8 => ?_, fun q8 => ?_⟩
    · rw [if_pos q8] at base
      exact rd_throw r2 (by omega) (by omega) (fun q σ' f1 f2 => hbad q σ' 2 _ f1 f2 (Rn.en base))
    · rw [if_neg q8] at base
      have hadv := adv_pl (b := b) hv (by rw [kd]; decide)
      refine rd_next (b := b) (t := t) (brk := brk + 1) (cnt := cnt) ⟨?_, r1.2.1, r1.2.2.1, fun i hi => ?_⟩ ?_ hv ?_ ?_ ⟨by omega, r7, r8, r9, r10⟩ (fun s44 f1 f2 f3 _ => ?_)
      · rw [pIo (by omega)]; exact r1.1
      · rw [pIo (Or.inl (Ne.symm r1.2.2.1))]; exact r1.2.2.2 i hi
      · rw [pIo (by omega)]; exact r2.1
      · simp [gI_pI]
      · rw [pIo (by omega)]; exact r5
      have f0 : FR (S5 o d) σ s44 := (FR.rf.i (Or.inr (by unfold S5; omega))).tr f1
      have f2 : gS s44 = gS σ := f2
      refine hor (by omega) s44 (adv b n t) cnt (0 :: w) h true _ E hc0 f3 rfl (by show 0 < 1; omega) (by omega) ?_ ?_
      · intro p σ1 t' cnt' w' h' v mn' g1 g2 g3 g4 g5 g6 g7 g8 g9 _
        rw [bnd_stop (w := 0 :: w) (by omega) (by show 0 < 1; omega)] at g7
        have hv' := g1.2.2.1
        have hpl' := pl_i g1
        obtain ⟨k1, k2, k3, k4, k5, k6, k7, k8, k9, k10⟩ := g1
        have s' := fun x hx => lsign (c := c) (d := d) k2 hv' (x := x) hx
        rw [s' 41 (by decide)]
        refine ⟨fun w1 => ?_, fun w1 => ?_⟩
        · refine rd_throw k2 (by omega) (by omega) (fun q σ' e1 e2 => hbad q σ' 1 _ ((f0.tr g2).tr e1) e2 ((Rc.one base) _ (g6 _ (Rn.en ?_))))
          rw [syStep_eq, if_neg (by simp), if_neg (by decide)]
          unfold sySign
          rw [if_neg (by rw [w1]; simp)]
          rcases g8 with z | z | z
          · rw [if_pos z]
          · have ob := opOf_b hv'
            rw [if_pos (rk_0 ob.1 ob.2.1 z)]
          · rw [if_neg (op_ne z.1 (by omega)), if_pos z.1, if_pos z.2]
        · have w1 := bt w1
          obtain ⟨kd', wh'⟩ := sgn_kd w1
          have hadv' := adv_pl (b := b) hv' (by rw [kd']; decide)
          have e5 : gI σ1 o 5 - 1 = Int32.ofNat brk := by
            rw [k4, show (1 : Int32) = Int32.ofNat 1 from rfl, nat_d (by omega) (by omega)]; congr 1
          rw [e5]
          refine rd_next (b := b) (t := t') (brk := brk) (cnt := cnt') ⟨?_, k1.2.1, k1.2.2.1, fun i hi => ?_⟩ ?_ hv' ?_ ?_ ⟨r6, k7, k8, k9, k10⟩ (fun s53 e1 e2 e3 _ => ?_)
          · rw [pIo (by omega)]; exact k1.1
          · rw [pIo (Or.inl (Ne.symm k1.2.2.1))]; exact k1.2.2.2 i hi
          · rw [pIo (by omega)]; exact k2.1
          · simp [gI_pI]
          · rw [pIo (by omega)]; exact k5
          have e0 : FR (S5 o d) σ1 s53 := (FR.rf.i (Or.inr (by unfold S5; omega))).tr e1
          have e2 : gS s53 = gS σ1 := e2
          refine hok p s53 (adv b n t') cnt' w (v :: h) v mn' e3 ((f0.tr g2).tr e0) ?_ g4 (by omega) (((Rc.one base).tr g6).tr (Rc.one ?_)) rfl (Or.inr (Or.inl (by have := rk_b (opOf (adv b n t')); omega))) (by omega)
          · rw [f2] at g3
            exact g3.fr e0 (fun a k ha => S5_lo r8 (by omega))
          · rw [syStep_eq, if_neg (by simp), if_neg (by decide)]
            unfold sySign
            rw [if_pos (by rw [w1]; simp), g7]
            rfl
      · intro q σ' k pl g1 g2 g3
        exact hbad q σ' k pl (f0.tr g1) g2 ((Rc.one base) _ g3)
/-- deep enough -/
theorem rd_all {o c d : Nat} {b : Nat → Int32} {n B0 Mx : Nat} (hM : B0 + 4 * n + 8 ≤ Mx) : ∀ F : Nat, (∀ brk c0, brk ≤ 8 → 2 * (8 - brk) + (64 - c0) + 2 ≤ F → LvS o c d b n B0 1 1 brk c0 pmB (WON o c d Mx F).1) ∧ (∀ brk c0, brk ≤ 8 → 2 * (8 - brk) + (64 - c0) + 1 ≤ F → LvS o c d b n B0 3 4 brk c0 pmB (WON o c d Mx F).2) := by
  intro F
  induction F with
  | zero => exact ⟨fun brk c0 h1 h2 => by omega, fun brk c0 h1 h2 => by omega⟩
  | succ F ih =>
    refine ⟨fun brk c0 h1 h2 => ?_, fun brk c0 h1 h2 => ?_⟩
    · exact rd_or hM (rd_and hM (ih.2 brk c0 h1 (by omega)))
    · refine rd_not hM (rd_compare hM (rd_sum hM (rd_product hM (rd_one hM (fun h8 => ih.1 (brk + 1) c0 (by omega) (by omega)))))) ?_
      by_cases hc : c0 < 64
      · exact ih.2 brk (c0 + 1) h1 (by omega)
      · intro σ t cnt w h mn Q E hc0 hR
        have := hR.2.2.2.2.2.2.1
        omega
