set_option maxRecDepth 100000
theorem sw_all : ∀ w, w < 23 → (if piL (Int32.ofNat w) = 5 then (6 : Int32) else if piL (Int32.ofNat w) = 6 then 2 else if piL (Int32.ofNat w) = 7 then 3 else if piL (Int32.ofNat w) = 8 then (-1) else if piL (Int32.ofNat w) = 9 then (-1) else if piL (Int32.ofNat w) = 10 then (-1) else if piL (Int32.ofNat w) = 11 then (-1) else if piL (Int32.ofNat w) = 12 then (-1) else if piL (Int32.ofNat w) = 13 then (-1) else if piL (Int32.ofNat w) = 14 then 5 else if piL (Int32.ofNat w) = 15 then 7 else if piL (Int32.ofNat w) = 16 then (-1) else if piL (Int32.ofNat w) = 17 then (-1) else if piL (Int32.ofNat w) = 18 then (-1) else if piL (Int32.ofNat w) = 19 then 1 else if piL (Int32.ofNat w) = 20 then 0 else if piL (Int32.ofNat w) = 21 then 4 else (-1)) = fndI (nwOf (0, 0, 1, Int32.ofNat w)) := by decide +kernel
theorem lsay {o c d n : Nat} {σ : Hp} {t : Tok} (h : TKL o σ t) (hv : TV n t) : f_X2_sayingAtHand o c d σ = fndI (nwOf t) := by
  unfold f_X2_sayingAtHand
  rw [h.2.2.1]
  by_cases k : tKd t = 1
  · obtain ⟨w, hw, e⟩ := wh_nat hv k
    have e1 : valL t = piL (tWh t) := by simp [valL, k]
    rw [k, h.2.2.2 (by rw [k]; decide) (by rw [k]; decide), if_pos (by decide), e1, e, sw_all w hw]
    have : nwOf t = nwOf (0, 0, 1, Int32.ofNat w) := by
      unfold nwOf tKd tWh at *
      rw [k, e]
    rw [this]
  · have e : ¬ sortL (tKd t) = 0 := by
      unfold sortL
      repeat' split
      all_goals first | decide | contradiction
    rw [if_neg e]
    unfold nwOf
    rw [if_neg k]
    rfl
theorem rd_note {o c d : Nat} {b : Nat → Int32} {n B0 Mx cnt : Nat} {σ : Hp} {t : Tok} {R : RlA} {Q : Hp → Prop} {E : Nat → Hp → Prop} (hM : B0 + 4 * n + 8 ≤ Mx) (hR : RDR o c d b n σ t 0 cnt) (hL : LRl d σ R) (hl : (aN R).length ≠ 6) (hg : gS σ ≤ B0 + 4 * tPl t) (hx : LN o c d b n B0 cnt σ (noteS b n (nms3 R) (nms2 R) (nms5 R) t) (putN R) Q E) : wp_X2_note o c d σ Mx Q E := by
  obtain ⟨hok, hbad⟩ := hx
  have ho : o < d := hR.2.2.2.2.2.2.2.1
  have hd : d + 11 ≤ gS σ := hR.2.2.2.2.2.2.2.2.2
  have hpl := (pl_i hR).2
  have f0 : FR (S5 o d) σ (pN σ (.inl 5)) := FR.n
  refine ⟨by omega, rd_fresh (hR.fr FR.n) (hL.fr f0 ho hd).n5 (by rw [gS_pN]; omega) ⟨fun nm t1 s4 e1 f1 z1 R1 _ => ⟨?_, fun s10 hs => ?_⟩, fun k pl q s' e f g => hbad k pl q s' (by unfold noteS; rw [e]; rfl) (f0.tr f).fx g⟩⟩
  · rw [z1, gS_pN]; omega
  subst hs
  have z1 : gS s4 = gS σ + 1 := z1
  have p1 := (pg_fr hR.2.2.1 _ _ e1).2
  have T4 : gT s4 (gS σ) = some (.inl 5) := by rw [f1.gt (by rw [gS_pN]; omega)]; exact gT_new
  have g41 : gI s4 (gS σ) 1 = 0 := by rw [f1.gi (by rw [gS_pN]; omega) (S5_lo ho hd), gI_pN, if_pos rfl]
  -- the note as it is made
  have fi : FR (S5 o d) σ (f_X5_init (gS σ) s4 nm) := by
    unfold f_X5_init f_X4_init
    exact ((((((f0.tr f1).i (Or.inl (Nat.le_refl _))).tr FR.n).r (Nat.le_refl _)).tr FR.n).r (Nat.le_refl _))
  have zi : gS (f_X5_init (gS σ) s4 nm) = gS σ + 3 := by
    unfold f_X5_init f_X4_init
    show gS s4 + 1 + 1 = _
    omega
  have Ri : RDR o c d b n (f_X5_init (gS σ) s4 nm) t1 0 cnt := R1.wr (by omega) (fun a k ha => by
    unfold f_X5_init f_X4_init
    rw [gI_pR, gI_pN, if_neg (by show ¬ a = gS s4 + 1; omega), gI_pR, gI_pN, if_neg (by show ¬ a = gS s4; omega), pIo (by omega)])
  have Ni : pNote (f_X5_init (gS σ) s4 nm) (gS σ) (nm, 0, (fun _ => 0), (fun _ => 0)) := by
    refine ⟨by omega, ⟨?_, ?_, ?_, ?_, ?_⟩, ?_, ?_, fun k hk hh => ?_⟩
    · unfold f_X5_init f_X4_init
      rw [gT_pR, gT_pN, if_neg (by show ¬ gS σ = gS s4 + 1; omega), gT_pR, gT_pN, if_neg (by show ¬ gS σ = gS s4; omega), gT_pI]
      exact T4
    · unfold f_X5_init f_X4_init
      rw [gR_pR, if_neg (by omega), gR_pN, if_neg (by show ¬ gS σ = gS s4 + 1; omega), gR_pR, if_pos ⟨rfl, rfl⟩]
      show some (gS s4) = _
      rw [z1]
    · unfold f_X5_init f_X4_init
      rw [gT_pR, gT_pN, if_neg (by show ¬ gS σ + 1 = gS s4 + 1; omega), gT_pR, gT_pN, if_pos (by show gS σ + 1 = gS s4; omega)]
    · unfold f_X5_init f_X4_init
      rw [gR_pR, if_pos ⟨rfl, rfl⟩]
      show some (gS s4 + 1) = _
      rw [z1]
    · unfold f_X5_init f_X4_init
      rw [gT_pR, gT_pN, if_pos (by show gS σ + 2 = gS s4 + 1; omega)]
    · unfold f_X5_init f_X4_init
      rw [gI_pR, gI_pN, if_neg (by show ¬ gS σ = gS s4 + 1; omega), gI_pR, gI_pN, if_neg (by show ¬ gS σ = gS s4; omega), gI_pI, if_pos ⟨rfl, rfl⟩]
    · unfold f_X5_init f_X4_init
      rw [gI_pR, gI_pN, if_neg (by show ¬ gS σ = gS s4 + 1; omega), gI_pR, gI_pN, if_neg (by show ¬ gS σ = gS s4; omega), pIo (by omega)]
      exact g41
    · rw [has_0] at hh; cases hh
  obtain ⟨r, hr⟩ := nw_tot (b := b) (n := n) (pn := nms3 R) (fn := nms2 R) (nn := nms5 R) ((0, fun _ => 0, fun _ => 0), t1) Ri.2.2.1
  have ex : noteS b n (nms3 R) (nms2 R) (nms5 R) t = pb r fun x t => .inl ((nm, x), t) := by
    unfold noteS
    rw [e1, pb_inl, rsOf_eq hr]
  generalize noteS b n (nms3 R) (nms2 R) (nms5 R) t = X at *
  rw [lsay Ri.2.1 Ri.2.2.1]
  refine lp_rn (step := nwStep b n (nms3 R) (nms2 R) (nms5 R)) (fun S z => z.1 = fndI (nwOf S.2) ∧ RDR o c d b n z.2 S.2 0 cnt ∧ FR (S5 o d) σ z.2 ∧ gS z.2 = gS σ + 3 ∧ pNote z.2 (gS σ) (nm, S.1) ∧ tPl t < tPl S.2) ?_ (s := ((0, fun _ => 0, fun _ => 0), t1)) ⟨rfl, Ri, fi, zi, Ni, p1⟩ hr
  rintro K ⟨nw, t2⟩ ⟨x2, τ⟩ ⟨hx2, R2, f2, z2, N2, p2⟩ hK hE
  simp only at hx2 R2 f2 z2 N2 p2
  have hv2 := R2.2.2.1
  have pl2 := (pl_i R2).2
  subst hx2
  cases hw : nwOf t2 with
  | none =>
    have es : nwStep b n (nms3 R) (nms2 R) (nms5 R) (nw, t2) = .inr (.inl (nw, t2)) := by
      unfold nwStep
      simp only [hw]
    have er := hE _ es
    rw [← er] at ex
    refine ⟨fun _ => ?_, fun w => absurd rfl w⟩
    have L2 := hL.fr f2 ho hd
    exact rd_add L2.2.2.2.2.1 (by omega) hl ⟨5, by decide, N2.2.1.1⟩ (fun _ => hok (nm, nw) t2 _ ex (f2.fx.add (by omega) (by omega)) (R2.addH (by omega)) (addN L2 hl hd N2) (by show gS τ ≤ _; omega))
  | some w =>
    obtain ⟨kd, w8⟩ := nw_kd hw
    have hne : Int32.ofNat w ≠ -1 := ofNat_ne (by omega)
    refine ⟨fun q => absurd q hne, fun _ => ⟨N2.2.1, ?_⟩⟩
    show (_ → _) ∧ (_ → _)
    rw [show fndI (some w) = Int32.ofNat w from rfl, has5 (by omega), N2.2.2.2.1]
    refine ⟨fun q => ?_, fun q => ?_⟩
    · have p3 := adv_pl (b := b) hv2 (by rw [kd]; decide)
      refine R2.nx (fun s25 f3 z3 R3 _ => ?_)
      have hv3 := R3.2.2.1
      have z3 : gS s25 = gS σ + 3 := by omega
      have f25 : FR (S5 o d) σ s25 := f2.tr f3
      have stepOk : ∀ x y t', sayS b n (nms3 R) (nms2 R) (nms5 R) w (adv b n t2) = .inl ((x, y), t') → nwStep b n (nms3 R) (nms2 R) (nms5 R) (nw, t2) = .inl (nSay nw w x y, t') := fun x y t' e => by
        unfold nwStep
        simp only [hw, e]
        rw [if_neg (by rw [q]; exact Bool.false_ne_true)]
      have stepBad : ∀ e', sayS b n (nms3 R) (nms2 R) (nms5 R) w (adv b n t2) = .inr e' → X = .inr e' := fun e' e => by
        have es : nwStep b n (nms3 R) (nms2 R) (nms5 R) (nw, t2) = .inr (.inr e') := by
          unfold nwStep
          simp only [hw, e]
          rw [if_neg (by rw [q]; exact Bool.false_ne_true)]
        rw [ex, ← hE _ es]
        rfl
      -- what is said is laid
      have fin : ∀ (x y : Int32) (t' : Tok) (s' : Hp), FR (S5 o d) s25 s' → gS s' = gS s25 → RDR o c d b n s' t' 0 cnt → sayS b n (nms3 R) (nms2 R) (nms5 R) w (adv b n t2) = .inl ((x, y), t') → NB (gS σ) s' ∧ ok_X5_say (gS σ) s' (Int32.ofNat w) x y ∧ ∀ s37 : Hp, s37 = f_X5_say (gS σ) s' (Int32.ofNat w) x y → K (f_X2_sayingAtHand o c d s37, s37) := by
        intro x y t' s' g1 g2 g3 g4
        have N3 : pNote s' (gS σ) (nm, nw) := N2.ag (lo := d + 11) (by omega) ((f3.tr g1).ag (fun a k ha => S5_lo ho ha))
        refine ⟨N3.2.1, ⟨nat_v w8 (by omega), nat_v w8 (by omega)⟩, fun s37 hs => ?_⟩
        have f37 : FR (S5 o d) σ s37 := by
          rw [hs]
          unfold f_X5_say
          exact (((f25.tr g1).i (Or.inl (Nat.le_refl _))).i (Or.inl (by omega))).i (Or.inl (by omega))
        have R37 : RDR o c d b n s37 t' 0 cnt := by
          rw [hs]
          exact g3.wr (Nat.le_refl _) (fun a k ha => by
            unfold f_X5_say
            rw [pIo (by omega), pIo (by omega), pIo (by omega)])
        have z37 : gS s37 = gS σ + 3 := by rw [hs]; show gS s' = _; omega
        have p4 := (pg_say hv3 _ _ g4).2
        refine hK _ (f_X2_sayingAtHand o c d s37, s37) (stepOk x y t' g4) ⟨lsay (c := c) (d := d) R37.2.1 R37.2.2.1, R37, f37, z37, ⟨by show gS σ + 3 ≤ gS s37; omega, ?_, ?_, ?_, fun k hk hh => ?_⟩, by show tPl t < tPl t'; omega⟩
        · rw [hs]; exact N3.2.1
        · rw [hs]
          unfold f_X5_say
          rw [pIo (by omega), pIo (by omega), pIo (by omega)]
          exact N3.2.2.1
        · rw [hs]
          unfold f_X5_say
          rw [pIo (by omega), pIo (by omega), gI_pI, if_pos ⟨rfl, rfl⟩, N3.2.2.2.1]
          rfl
        · have hh : (nHas nw.1 k || decide (k = w)) = true := by rw [← has_or nw.1 (by omega) (by omega)]; exact hh
          rw [hs]
          unfold f_X5_say
          rw [nat_c (by omega)]
          simp only [nSay, up1]
          by_cases ek : k = w
          · subst ek
            constructor
            · simp [gI_pI]
            · intro _; simp [gI_pI]
          · have hh : nHas nw.1 k = true := by simpa [ek] using hh
            have := N3.2.2.2.2 k hk hh
            simp only [if_neg ek]
            rw [pIo (by omega), pIo (by omega), pIo (by omega), pIo (by omega), pIo (by omega), pIo (by omega)]
            exact this
      have fA : FR (S5 o d) σ s25 := f25
      have L25 := hL.fr fA ho hd
      have one : ∀ (lo hi : Int32), sayS b n (nms3 R) (nms2 R) (nms5 R) w (adv b n t2) = pb (numS b n lo hi (adv b n t2)) (fun x t => .inl ((x, 0), t)) → wp_X2_number o c d s25 lo hi Mx (fun r47 s44 => GX s25 s44 → (NB (gS σ) s44) ∧ ((ok_X5_say (gS σ) s44 (Int32.ofNat w) r47 0) ∧ (∀ s49 : Hp, s49 = f_X5_say (gS σ) s44 (Int32.ofNat w) r47 0 → K (f_X2_sayingAtHand o c d s49, s49)))) E := fun lo hi e => rd_number R3 (by omega) ⟨fun v t' s' e' g1 g2 g3 _ => fin v 0 t' s' g1 g2 g3 (by rw [e, e']; rfl), fun k pl qq s' e' g1 g2 => hbad k pl qq s' (stepBad _ (by rw [e, e']; rfl)) (fA.tr g1).fx g2⟩
      have ah : ∀ (a0 c0 : Nat) (names : List Int32), NML a0 c0 names s25 → sayS b n (nms3 R) (nms2 R) (nms5 R) w (adv b n t2) = pb (ahS b n names (adv b n t2)) (fun x t => .inl ((x, 0), t)) → wp_X2_ahead o c d s25 a0 c0 Mx (fun r47 s44 => GX s25 s44 → (NB (gS σ) s44) ∧ ((ok_X5_say (gS σ) s44 (Int32.ofNat w) r47 0) ∧ (∀ s49 : Hp, s49 = f_X5_say (gS σ) s44 (Int32.ofNat w) r47 0 → K (f_X2_sayingAtHand o c d s49, s49)))) E := fun a0 c0 names hN e => rd_ahead R3 hN (by omega) ⟨fun v t' s' e' g1 g2 g3 _ => fin v 0 t' s' g1 g2 g3 (by rw [e, e']; rfl), fun k pl qq s' e' g1 g2 => hbad k pl qq s' (stepBad _ (by rw [e, e']; rfl)) (fA.tr g1).fx g2⟩
      have hw8 : w = 0 ∨ w = 1 ∨ w = 2 ∨ w = 3 ∨ w = 4 ∨ w = 5 ∨ w = 6 ∨ w = 7 := by omega
      rcases hw8 with h | h | h | h | h | h | h | h
      · subst h
        refine ⟨fun _ => rd_number R3 (by omega) ⟨fun v t' s' e' g1 g2 g3 _ => rd_number g3 (by omega) ⟨fun v2 t3 s3 e3 g4 g5 g6 _ => fin v v2 t3 s3 (g1.tr g4) (g5.trans g2) g6 (by unfold sayS; rw [if_pos rfl, e', pb_inl, e3]; rfl), fun k pl qq s3 e3 g4 g5 => hbad k pl qq s3 (stepBad _ (by unfold sayS; rw [if_pos rfl, e', pb_inl, e3]; rfl)) ((fA.tr g1).tr g4).fx g5⟩, fun k pl qq s' e' g1 g2 => hbad k pl qq s' (stepBad _ (by unfold sayS; rw [if_pos rfl, e']; rfl)) (fA.tr g1).fx g2⟩, fun q => absurd (by decide) q⟩
      · subst h
        exact ⟨fun q => absurd q (by decide), fun _ => ⟨fun _ => one 1 99999 rfl, fun q => absurd (by decide) q⟩⟩
      · subst h
        exact ⟨fun q => absurd q (by decide), fun _ => ⟨fun q => absurd q (by decide), fun _ => ⟨fun _ => one 0 99999 rfl, fun q => absurd (by decide) q⟩⟩⟩
      · subst h
        exact ⟨fun q => absurd q (by decide), fun _ => ⟨fun q => absurd q (by decide), fun _ => ⟨fun q => absurd q (by decide), fun _ => ⟨fun _ => one 0 7 rfl, fun q => absurd (by decide) q⟩⟩⟩⟩
      · subst h
        exact ⟨fun q => absurd q (by decide), fun _ => ⟨fun q => absurd q (by decide), fun _ => ⟨fun q => absurd q (by decide), fun _ => ⟨fun q => absurd q (by decide), fun _ => ⟨fun _ => one 0 3 rfl, fun q => absurd (by decide) q⟩⟩⟩⟩⟩
      · subst h
        exact ⟨fun q => absurd q (by decide), fun _ => ⟨fun q => absurd q (by decide), fun _ => ⟨fun q => absurd q (by decide), fun _ => ⟨fun q => absurd q (by decide), fun _ => ⟨fun q => absurd q (by decide), fun _ => ⟨fun _ => ah _ _ _ L25.n3 rfl, fun q => absurd (by decide) q⟩⟩⟩⟩⟩⟩
      · subst h
        exact ⟨fun q => absurd q (by decide), fun _ => ⟨fun q => absurd q (by decide), fun _ => ⟨fun q => absurd q (by decide), fun _ => ⟨fun q => absurd q (by decide), fun _ => ⟨fun q => absurd q (by decide), fun _ => ⟨fun q => absurd q (by decide), fun _ => ⟨fun _ => ah _ _ _ L25.n2 rfl, fun q => absurd (by decide) q⟩⟩⟩⟩⟩⟩⟩
      · subst h
        refine ⟨fun q => absurd q (by decide), fun _ => ⟨fun q => absurd q (by decide), fun _ => ⟨fun q => absurd q (by decide), fun _ => ⟨fun q => absurd q (by decide), fun _ => ⟨fun q => absurd q (by decide), fun _ => ⟨fun q => absurd q (by decide), fun _ => ⟨fun q => absurd q (by decide), fun _ => ?_⟩⟩⟩⟩⟩⟩⟩
        exact rd_ahead R3 L25.n5 (by omega) ⟨fun v t' s' e' g1 g2 g3 _ => rd_signed g3 (by omega) ⟨fun v2 t3 s3 e3 g4 g5 g6 _ => fin v v2 t3 s3 (g1.tr g4) (g5.trans g2) g6 (by show pb (ahS b n (nms5 R) (adv b n t2)) _ = _; rw [e', pb_inl, e3]; rfl), fun k pl qq s3 e3 g4 g5 => hbad k pl qq s3 (stepBad _ (by show pb (ahS b n (nms5 R) (adv b n t2)) _ = _; rw [e', pb_inl, e3]; rfl)) ((fA.tr g1).tr g4).fx g5⟩, fun k pl qq s' e' g1 g2 => hbad k pl qq s' (stepBad _ (by show pb (ahS b n (nms5 R) (adv b n t2)) _ = _; rw [e']; rfl)) (fA.tr g1).fx g2⟩
    · have es : nwStep b n (nms3 R) (nms2 R) (nms5 R) (nw, t2) = .inr (.inr (3, tPl t2)) := by
        unfold nwStep
        simp only [hw]
        rw [if_pos (bt q)]
      refine rd_throw R2.2.1 (by omega) (by omega) (fun qq σ' f g => hbad _ _ qq σ' (by rw [ex, ← hE _ es]; rfl) (f2.tr f).fx g)
