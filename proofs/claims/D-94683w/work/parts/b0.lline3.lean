set_option maxRecDepth 100000
theorem rd_line {o c d : Nat} {b : Nat → Int32} {n B0 Mx : Nat} {σ : Hp} {P : PSt} {t : Tok} {Q : Hp → Prop} {E : Nat → Hp → Prop} (hM : B0 + 4 * n + 8 ≤ Mx) (hR : RDR o c d b n σ t 0 (aK P.1)) (hL : LRl d σ P.1) (hk : LsOk (aL P.1)) (hT : TD o σ P) (hg : gS σ ≤ B0 + 4 * tPl t)
    (hok : ∀ P' t' σ', lineS b n P t = .inl (P', t') → FX2 o d σ σ' → RDR o c d b n σ' t' 0 (aK P'.1) → LRl d σ' P'.1 → TD o σ' P' → gS σ' ≤ B0 + 4 * tPl t' → gI σ' d 11 = gI σ d 11 + 1 → Q σ')
    (hbad : ∀ k pl q σ', lineS b n P t = .inr (k, pl) → FX2 o d σ σ' → FLT σ' q k pl → E q σ') : wp_X2_line o c d σ Mx Q E := by
  have ho : o < d := hR.2.2.2.2.2.2.2.1
  have hd : d + 11 ≤ gS σ := hR.2.2.2.2.2.2.2.2.2
  have hpl := (pl_i hR).2
  have hv := hR.2.2.1
  have thr : ∀ x, lineS b n P t = .inr (x, tPl t) → wp_X2_wrong o c d σ x Mx (fun r s => GX σ s → (OB 16 r s) ∧ (E r s)) E := fun x e => rd_throw hR.2.1 (by omega) (by omega) (fun q τ f g => hbad _ _ q τ e f.fx.x2 g)
  unfold wp_X2_line
  rw [lword hR.2.1 hv]
  by_cases kd : tKd t = 1 ∧ (tWh t).toInt ≤ 7
  case neg =>
    have el : lineS b n P t = .inr (1, tPl t) := by unfold lineS; rw [if_neg kd]
    refine ⟨fun _ => thr 1 el, fun q => absurd (fun z => ?_) q⟩
    obtain ⟨w, hw, e⟩ := wh_nat hv z.1
    have h7 := (pi_7 w hw).1
    rw [e] at z
    exact kd ⟨z.1, by rw [e, nat_i (by omega)]; have := h7.mp z.2.2; omega⟩
  obtain ⟨w, hw, ew⟩ := wh_nat hv kd.1
  have hw7 : w ≤ 7 := by rw [ew, nat_i (by omega)] at kd; omega
  have ev : gI σ o 4 = piL (Int32.ofNat w) := by
    rw [hR.2.1.2.2.2 (by rw [kd.1]; decide) (by rw [kd.1]; decide)]
    simp only [valL, kd.1, if_true, ew]
  refine ⟨fun q => absurd ⟨kd.1, by rw [ew]; exact (pi_7 w hw).2, by rw [ew]; exact (pi_7 w hw).1.mpr hw7⟩ q, fun _ => ?_⟩
  have hadv := adv_pl (b := b) hv (by rw [kd.1]; decide)
  unfold lineS at hok hbad thr
  rw [if_pos kd, ew] at hok hbad thr
  rw [ev]
  -- the word is told; the next token
  have st : ∀ (x1 : Int32) (G : Hp → Prop), (∀ s57, FX2 o d σ s57 → RDR o c d b n s57 (adv b n t) 0 (aK P.1) → LRl d s57 P.1 → gI s57 o 6 = (gI σ o 6) ||| (1 <<< (x1 &&& 31)) → gI s57 d 11 = gI σ d 11 → gS s57 = gS σ → G s57) → wp_X2_next o c d (pI σ o 6 ((gI σ o 6) ||| (1 <<< (x1 &&& 31)))) (fun s57 => SH (pI σ o 6 ((gI σ o 6) ||| (1 <<< (x1 &&& 31)))) s57 → G s57) := by
    intro x1 G hG
    obtain ⟨k1, k2, k3, k4, k5, k6, k7, k8, k9, k10⟩ := hR
    refine rd_next (b := b) (t := t) (brk := 0) (cnt := aK P.1) ⟨?_, k1.2.1, k1.2.2.1, fun i hi => ?_⟩ ?_ k3 ?_ ?_ ⟨k6, k7, k8, k9, k10⟩ (fun s57 f1 z1 R1 _ => hG s57 ((FX2.rf.i (Or.inl rfl)).tr f1.fx.x2) R1 ?_ ?_ ?_ z1)
    · rw [pIo (by omega)]; exact k1.1
    · rw [pIo (Or.inl (Ne.symm k1.2.2.1))]; exact k1.2.2.2 i hi
    · rw [pIo (by omega)]; exact k2.1
    · rw [pIo (by omega)]; exact k4
    · rw [pIo (by omega)]; exact k5
    · refine LRl.fr (σ := pI σ o 6 ((gI σ o 6) ||| (1 <<< (x1 &&& 31)))) ?_ f1 ho hd
      exact hL.ag ⟨Nat.le_refl _, fun a h1 _ => ⟨rfl, fun k => ⟨rfl, pIo (by omega), rfl⟩⟩⟩ (fun a k q1 q2 q3 q4 => pIo (by omega)) (fun k _ => rfl) (fun a k _ _ => rfl)
    · rw [f1.gi (by show o < gS σ; omega) (by unfold S5; omega), gI_pI, if_pos ⟨rfl, rfl⟩]
    · rw [f1.gi (by show d < gS σ; omega) (by unfold S5; omega), pIo (by omega)]
  have td : ∀ (k : Nat) (s : Hp), k < 32 → gI s o 6 = (gI σ o 6) ||| (1 <<< (Int32.ofNat k &&& 31)) → TD o s (P.1, (P.2.1 || decide (6 = k)), (P.2.2.1 || decide (7 = k)), (P.2.2.2 || decide (4 = k))) := by
    intro k s hk e
    unfold TD
    rw [e, has_or _ hk (by omega), has_or _ hk (by omega), has_or _ hk (by omega), hT.1, hT.2.1, hT.2.2]
    exact ⟨rfl, rfl, rfl⟩
  -- the end of a line whose own part is read
  have fin : ∀ (X : PR PSt) (P' : PSt) (s57 σ' : Hp) (t' : Tok), (∀ P' t' σ', X = .inl (P', t') → FX2 o d σ σ' → RDR o c d b n σ' t' 0 (aK P'.1) → LRl d σ' P'.1 → TD o σ' P' → gS σ' ≤ B0 + 4 * tPl t' → gI σ' d 11 = gI σ d 11 + 1 → Q σ') → (∀ k pl q σ', X = .inr (k, pl) → FX2 o d σ σ' → FLT σ' q k pl → E q σ') → FX2 o d σ s57 → gS s57 = gS σ → gI s57 d 11 = gI σ d 11 → FXl o d s57 σ' → RDR o c d b n σ' t' 0 (aK P'.1) → LRl d σ' P'.1 → TD o s57 P' → gS σ' ≤ B0 + 4 * tPl t' → X = endS b n P' t' → wj_X2_line_431 o c d σ' Mx Q E := by
    intro X P' s57 σ' t' h1 h2 f57 z57 l57 fx R' L' T' g' e
    have q6 : gI σ' o 6 = gI s57 o 6 := (((fx.2 o (by omega)).2 6).2 (by unfold SX5; omega)).1
    have q11 : gI σ' d 11 = gI s57 d 11 := (((fx.2 d (by omega)).2 11).2 (by unfold SX5; omega)).1
    exact rd_end hM (f57.tr fx.x2) R' L' (by unfold TD; rw [q6]; exact T') g' (q11.trans l57) e h1 h2
  have hw8 : w = 0 ∨ w = 1 ∨ w = 2 ∨ w = 3 ∨ w = 4 ∨ w = 5 ∨ w = 6 ∨ w = 7 := by omega
  rcases hw8 with h | h | h | h | h | h | h | h
  · -- a land
    subst h
    have e0 : piL (Int32.ofNat 0) = 0 := by decide
    have es : f_J2_size (d + 1) 4 σ = Int32.ofNat (aL P.1).length := hL.1.1
    have hcap := hL.1.2.1
    rw [if_pos (show Int32.ofNat 0 = 0 from rfl)] at hok hbad thr
    rw [e0, es, show (4 : Int32) = Int32.ofNat 4 from rfl, nat_e (by omega) (by omega)]
    refine ⟨fun _ => ⟨fun q => thr 2 (by rw [if_pos q]), fun q => ⟨fun z => absurd z (by decide), fun _ => ⟨fun z => absurd z (by decide), fun _ => ⟨fun z => absurd z (by decide), fun _ => ⟨fun z => absurd z (by decide), fun _ => ⟨fun z => absurd z (by decide), fun _ => ⟨fun z => absurd z (by decide), fun _ => ⟨fun z => absurd z (by decide), fun _ => ?_⟩⟩⟩⟩⟩⟩⟩⟩, fun z => absurd rfl z⟩
    rw [if_neg q] at hok hbad
    refine st 0 _ (fun s57 f57 R57 L57 i57 l57 z57 => ⟨fun _ => ?_, fun z => absurd rfl z⟩)
    refine rd_land hM R57 L57 q (by omega) ⟨fun v t' σ' e fx R' L' g' _ => ?_, fun k pl qq σ' e fx g' => hbad k pl qq σ' (by rw [e]; rfl) (f57.tr fx.x2) g'⟩
    refine fin _ (putL P.1 v, P.2) s57 σ' t' hok hbad f57 z57 l57 fx R' L' ?_ g' (by rw [e]; rfl)
    have := td 0 s57 (by omega) i57
    simpa [TD] using this
  · -- a feast
    subst h
    have e0 : piL (Int32.ofNat 1) = 5 := by decide
    have es : f_J2_size (d + 3) 4 σ = Int32.ofNat (aF P.1).length := hL.2.1.1
    have hcap := hL.2.1.2.1
    rw [if_neg (by decide), if_pos (show Int32.ofNat 1 = 1 from rfl)] at hok hbad thr
    rw [e0]
    refine ⟨fun z => absurd z (by decide), fun _ => ⟨fun z => absurd z (by decide), fun _ => ⟨fun z => absurd z (by decide), fun _ => ⟨fun z => absurd z (by decide), fun _ => ⟨fun _ => ?_, fun z => absurd rfl z⟩⟩⟩⟩⟩
    rw [es, show (4 : Int32) = Int32.ofNat 4 from rfl, nat_e (by omega) (by omega)]
    refine ⟨fun q => thr 2 (by rw [if_pos q]), fun q => ⟨fun z => absurd z (by decide), fun _ => ⟨fun z => absurd z (by decide), fun _ => ⟨fun z => absurd z (by decide), fun _ => ?_⟩⟩⟩⟩
    rw [if_neg q] at hok hbad
    refine st 5 _ (fun s57 f57 R57 L57 i57 l57 z57 => ⟨fun z => absurd z (by decide), fun _ => ⟨fun z => absurd z (by decide), fun _ => ⟨fun z => absurd z (by decide), fun _ => ⟨fun z => absurd z (by decide), fun _ => ⟨fun z => absurd z (by decide), fun _ => ⟨fun _ => ⟨by omega, ?_⟩, fun z => absurd rfl z⟩⟩⟩⟩⟩⟩)
    have fN : FR (S5 o d) s57 (pN s57 (.inl 7)) := FR.n
    have d57 : d + 11 ≤ gS s57 := by omega
    refine rd_fresh (R57.fr FR.n) (L57.fr fN ho d57).n2 (by rw [gS_pN]; omega) ⟨fun nm t1 s90 e1 f1 z1 R1 _ => ?_, fun k pl qq σ' e f g => hbad k pl qq σ' (by unfold feastS; rw [e]; rfl) (f57.tr (fN.tr f).fx.x2) g⟩
    have z1 : gS s90 = gS σ + 1 := by rw [z1, gS_pN]; omega
    have p1 := (pg_fr R57.2.2.1 _ _ e1).2
    have T1 : gT s90 (gS s57) = some (.inl 7) := by rw [f1.gt (by rw [gS_pN]; omega)]; exact gT_new
    refine rd_sumT hM R1 (by omega) (fun p s94 t' cnt' v g1 g2 g3 g4 g5 g6 _ s100 hs => ?_) (fun qq σ' k pl g1 g2 g3 => hbad k pl qq σ' (by unfold feastS sumS; rw [e1, pb_inl, rsOf_eq g3]; rfl) (f57.tr ((fN.tr f1).tr g1).fx.x2) g2)
    subst hs
    have hz94 := g2.1
    have fA : FR (S5 o d) s57 s94 := (fN.tr f1).tr g2
    have f100 : FR (S5 o d) s57 (f_X13_init (gS s57) s94 nm p) := by
      unfold f_X13_init f_X4_init
      exact (fA.i (Or.inl (Nat.le_refl _))).r (Nat.le_refl _)
    have R100 : RDR o c d b n (f_X13_init (gS s57) s94 nm p) t' 0 cnt' := g1.wr (Nat.le_refl _) (fun a k ha => by
      unfold f_X13_init f_X4_init
      rw [gI_pR, pIo (by omega)])
    have L100 := L57.fr f100 ho d57
    have T100 : gT (f_X13_init (gS s57) s94 nm p) (gS s57) = some (.inl 7) := by
      show gT s94 (gS s57) = _
      rw [g2.gt (by omega)]
      exact T1
    have F100 : pFeast (d + 11) (f_X13_init (gS s57) s94 nm p) (gS s57) (nm, v) := by
      refine ⟨by show gS s57 < gS s94; omega, T100, by unfold f_X13_init f_X4_init; rw [gI_pR, gI_pI, if_pos ⟨rfl, rfl⟩], p, by unfold f_X13_init f_X4_init; rw [gR_pR, if_pos ⟨rfl, rfl⟩], ?_⟩
      refine (TR.cg (σ := s94) (σ' := f_X13_init (gS s57) s94 nm p) (lo := gS s90) (Nat.le_refl _) (fun x hx1 hx2 => ⟨rfl, fun i => ?_⟩) g3).lo (by omega)
      unfold f_X13_init f_X4_init
      rw [gR_pR, if_neg (by omega), gR_pI, gI_pR, pIo (by omega)]
      exact ⟨rfl, rfl⟩
    refine rd_add L100.2.1 (by omega) q ⟨7, by decide, T100⟩ (fun _ => ?_)
    have hfx : FXl o d s57 (addH (d + 3) (gS s57) (f_X13_init (gS s57) s94 nm p)) := f100.fx.add (by omega) (by omega)
    rcases g6 with ⟨h59, g6⟩ | ⟨h59, g6⟩
    · have eX : feastS b n (nms2 P.1) (aK P.1) (adv b n t) = .inl (((nm, v), cnt'), t') := by
        unfold feastS sumS
        rw [e1, pb_inl, rsOf_eq g6]
        rfl
      refine fin _ (putF P.1 (nm, v) cnt', P.2) s57 _ t' hok hbad f57 z57 l57 hfx (R100.addH (by omega)) (addF L100 q d57 F100) ?_ (by show gS s94 ≤ _; omega) (by rw [eX]; rfl)
      have := td 5 s57 (by omega) i57
      simpa [TD] using this
    · have eX : feastS b n (nms2 P.1) (aK P.1) (adv b n t) = .inr (1, tPl t') := by
        unfold feastS sumS
        rw [e1, pb_inl, rsOf_eq g6]
        rfl
      have R' := R100.addH (off := 3) (p := gS s57) (by omega)
      unfold wj_X2_line_431
      rw [lsign R'.2.1 R'.2.2.1 (by decide)]
      have hp' := (pl_i g1).2
      refine ⟨fun _ => rd_throw R'.2.1 (by show o < gS s94; omega) (by show gS s94 + 1 ≤ Mx; omega) (fun qq τ f g => hbad _ _ qq τ (by rw [eX]; rfl) (f57.tr (hfx.x2.tr f.fx.x2)) g), fun z => absurd h59 z⟩
  · -- a person
    subst h
    have e0 : piL (Int32.ofNat 2) = 1 := by decide
    have es : f_J2_size (d + 5) 6 σ = Int32.ofNat (aP P.1).length := hL.2.2.1.1
    have hcap := hL.2.2.1.2.1
    rw [if_neg (by decide), if_neg (by decide), if_pos (show Int32.ofNat 2 = 2 from rfl)] at hok hbad thr
    rw [e0]
    refine ⟨fun z => absurd z (by decide), fun _ => ⟨fun _ => ?_, fun z => absurd rfl z⟩⟩
    rw [es, show (6 : Int32) = Int32.ofNat 6 from rfl, nat_e (by omega) (by omega)]
    refine ⟨fun q => thr 2 (by rw [if_pos q]), fun q => ⟨fun z => absurd z (by decide), fun _ => ⟨fun z => absurd z (by decide), fun _ => ⟨fun z => absurd z (by decide), fun _ => ⟨fun z => absurd z (by decide), fun _ => ⟨fun z => absurd z (by decide), fun _ => ⟨fun z => absurd z (by decide), fun _ => ?_⟩⟩⟩⟩⟩⟩⟩
    rw [if_neg q] at hok hbad
    refine st 1 _ (fun s57 f57 R57 L57 i57 l57 z57 => ⟨fun z => absurd z (by decide), fun _ => ⟨fun _ => ?_, fun z => absurd rfl z⟩⟩)
    refine rd_person hM R57 L57 hk q (by omega) ⟨fun v t' σ' e fx R' L' g' _ => ?_, fun k pl qq σ' e fx g' => hbad k pl qq σ' (by rw [e]; rfl) (f57.tr fx.x2) g'⟩
    refine fin _ (putP P.1 v, P.2) s57 σ' t' hok hbad f57 z57 l57 fx R' L' ?_ g' (by rw [e]; rfl)
    have := td 1 s57 (by omega) i57
    simpa [TD] using this
  · -- a deed
    subst h
    have e0 : piL (Int32.ofNat 3) = 2 := by decide
    have es : f_J2_size (d + 7) 4 σ = Int32.ofNat (aD P.1).length := hL.2.2.2.1.1
    have hcap := hL.2.2.2.1.2.1
    rw [if_neg (by decide), if_neg (by decide), if_neg (by decide), if_pos (show Int32.ofNat 3 = 3 from rfl)] at hok hbad thr
    rw [e0]
    refine ⟨fun z => absurd z (by decide), fun _ => ⟨fun z => absurd z (by decide), fun _ => ⟨fun _ => ?_, fun z => absurd rfl z⟩⟩⟩
    rw [es, show (4 : Int32) = Int32.ofNat 4 from rfl, nat_e (by omega) (by omega)]
    refine ⟨fun q => thr 2 (by rw [if_pos q]), fun q => ⟨fun z => absurd z (by decide), fun _ => ⟨fun z => absurd z (by decide), fun _ => ⟨fun z => absurd z (by decide), fun _ => ⟨fun z => absurd z (by decide), fun _ => ⟨fun z => absurd z (by decide), fun _ => ?_⟩⟩⟩⟩⟩⟩
    rw [if_neg q] at hok hbad
    refine st 2 _ (fun s57 f57 R57 L57 i57 l57 z57 => ⟨fun z => absurd z (by decide), fun _ => ⟨fun z => absurd z (by decide), fun _ => ⟨fun _ => ?_, fun z => absurd rfl z⟩⟩⟩)
    refine rd_deed hM R57 L57 hk q (by omega) ⟨fun v t' σ' e fx R' L' g' _ => ?_, fun k pl qq σ' e fx g' => hbad k pl qq σ' (by rw [e]; rfl) (f57.tr fx.x2) g'⟩
    refine fin _ (putD P.1 v, P.2) s57 σ' t' hok hbad f57 z57 l57 fx R' L' ?_ g' (by rw [e]; rfl)
    have := td 2 s57 (by omega) i57
    simpa [TD] using this
  · -- a note
    subst h
    have e0 : piL (Int32.ofNat 4) = 3 := by decide
    have es : f_J2_size (d + 9) 6 σ = Int32.ofNat (aN P.1).length := hL.2.2.2.2.1.1
    have hcap := hL.2.2.2.2.1.2.1
    rw [if_neg (by decide), if_neg (by decide), if_neg (by decide), if_neg (by decide), if_pos (show Int32.ofNat 4 = 4 from rfl)] at hok hbad thr
    rw [e0]
    refine ⟨fun z => absurd z (by decide), fun _ => ⟨fun z => absurd z (by decide), fun _ => ⟨fun z => absurd z (by decide), fun _ => ⟨fun _ => ?_, fun z => absurd rfl z⟩⟩⟩⟩
    rw [es, show (6 : Int32) = Int32.ofNat 6 from rfl, nat_e (by omega) (by omega)]
    refine ⟨fun q => thr 2 (by rw [if_pos q]), fun q => ⟨fun z => absurd z (by decide), fun _ => ⟨fun z => absurd z (by decide), fun _ => ⟨fun z => absurd z (by decide), fun _ => ⟨fun z => absurd z (by decide), fun _ => ?_⟩⟩⟩⟩⟩
    rw [if_neg q] at hok hbad
    refine st 3 _ (fun s57 f57 R57 L57 i57 l57 z57 => ⟨fun z => absurd z (by decide), fun _ => ⟨fun z => absurd z (by decide), fun _ => ⟨fun z => absurd z (by decide), fun _ => ⟨fun _ => ?_, fun z => absurd rfl z⟩⟩⟩⟩)
    refine rd_note hM R57 L57 q (by omega) ⟨fun v t' σ' e fx R' L' g' _ => ?_, fun k pl qq σ' e fx g' => hbad k pl qq σ' (by rw [e]; rfl) (f57.tr fx.x2) g'⟩
    refine fin _ (putN P.1 v, P.2) s57 σ' t' hok hbad f57 z57 l57 fx R' L' ?_ g' (by rw [e]; rfl)
    have := td 3 s57 (by omega) i57
    simpa [TD] using this
  · -- the sun
    subst h
    have e0 : piL (Int32.ofNat 5) = 4 := by decide
    rw [if_neg (by decide), if_neg (by decide), if_neg (by decide), if_neg (by decide), if_neg (by decide), if_pos (show Int32.ofNat 5 = 5 from rfl)] at hok hbad thr
    have hb4 := has_iff (gI σ o 6) (k := 4) (by omega)
    rw [hT.2.2] at hb4
    rw [e0]
    refine ⟨fun z => absurd z (by decide), fun _ => ⟨fun z => absurd z (by decide), fun _ => ⟨fun z => absurd z (by decide), fun _ => ⟨fun z => absurd z (by decide), fun _ => ⟨fun z => absurd z (by decide), fun _ => ⟨fun _ => ⟨fun q => thr 3 (by rw [if_pos (hb4.mp q)]), fun q => ?_⟩, fun z => absurd rfl z⟩⟩⟩⟩⟩⟩
    have q : ¬ P.2.2.2 = true := fun z => q (hb4.mpr z)
    rw [if_neg q] at hok hbad
    refine st 4 _ (fun s57 f57 R57 L57 i57 l57 z57 => ⟨fun z => absurd z (by decide), fun _ => ⟨fun z => absurd z (by decide), fun _ => ⟨fun z => absurd z (by decide), fun _ => ⟨fun z => absurd z (by decide), fun _ => ⟨fun _ => ?_, fun z => absurd rfl z⟩⟩⟩⟩⟩)
    refine rd_number R57 (by omega) ⟨fun x t1 s76 e1 f1 z1 R1 _ => ?_, fun k pl qq σ' e f g => hbad k pl qq σ' (by unfold roundS; rw [e]; rfl) (f57.tr f.fx.x2) g⟩
    have p1 := (pg_num R57.2.2.1 _ _ e1).2
    have Ra : RDR o c d b n (pL s76 d 13 x.toInt64) t1 0 (aK P.1) := R1.wr (Nat.le_refl _) (fun a k ha => rfl)
    have fa : FXl o d s57 (pL s76 d 13 x.toInt64) := f1.fx.l (Or.inr (by unfold SX5; omega))
    rw [byOf_i]
    refine rd_number Ra (by show gS s76 + 1 ≤ Mx; omega) ⟨fun y t2 s82 e2 f2 z2 R2 _ => ?_, fun k pl qq σ' e f g => hbad k pl qq σ' (by unfold roundS; rw [e1, pb_inl, e]; rfl) (f57.tr (fa.x2.tr f.fx.x2)) g⟩
    have z2 : gS s82 = gS s76 := z2
    have p2 := (pg_num R1.2.2.1 _ _ e2).2
    have di : ∀ a k, d ≤ a → a < d + 11 → ¬ (a = d ∧ k = 10) → gI s82 a k = gI s57 a k := fun a k q1 q2 q3 => by
      rw [f2.gi (by show a < gS s76; omega) (by unfold S5; omega), gI_pL, f1.gi (by omega) (by unfold S5; omega)]
    have dl : ∀ k, k ≠ 10 → k ≠ 13 → gL s82 d k = gL s57 d k := fun k q1 q2 => by
      rw [f2.gl (by show d < gS s76; omega) (by unfold S5; omega), gL_pL, if_neg (by omega), f1.gl (by omega) (by unfold S5; omega)]
    have d13 : gL s82 d 13 = x.toInt64 := by
      rw [f2.gl (by show d < gS s76; omega) (by unfold S5; omega), gL_pL, if_pos ⟨rfl, rfl⟩]
    have R' : RDR o c d b n (pI s82 d 9 y) t2 0 (aK P.1) := by
      obtain ⟨k1, k2, k3, k4, k5, k6, k7, k8, k9, k10⟩ := R2
      refine ⟨⟨?_, k1.2.1, k1.2.2.1, fun i hi => ?_⟩, ⟨?_, ?_, ?_, fun q1 q2 => ?_⟩, k3, ?_, ?_, k6, k7, k8, k9, k10⟩
      · rw [pIo (by omega)]; exact k1.1
      · rw [pIo (by omega)]; exact k1.2.2.2 i hi
      · rw [pIo (by omega)]; exact k2.1
      · rw [pIo (by omega)]; exact k2.2.1
      · rw [pIo (by omega)]; exact k2.2.2.1
      · rw [pIo (by omega)]; exact k2.2.2.2 q1 q2
      · rw [pIo (by omega)]; exact k4
      · rw [pIo (by omega)]; exact k5
    have sk := L57.2.2.2.2.2
    have L' : LRl d (pI s82 d 9 y) (putS P.1 (up1 (up1 (aS P.1) 5 x) 6 y)) := by
      refine L57.sky ⟨by show gS s57 ≤ gS s82; omega, fun a h1 h2 => ⟨?_, fun k => ⟨?_, ?_, ?_⟩⟩⟩ (fun a h1 h2 => ?_) (fun a k h1 h2 => ?_) ⟨?_, ?_, ?_, ?_, ?_, ?_, ?_⟩
      · show gT s82 a = _
        rw [f2.gt (by show a < gS s76; omega), gT_pL, f1.gt (by omega)]
      · rw [gR_pI, f2.gr (by show a < gS s76; omega), gR_pL, f1.gr (by omega)]
      · rw [pIo (by omega), f2.gi (by show a < gS s76; omega) (by unfold S5; omega), gI_pL, f1.gi (by omega) (by unfold S5; omega)]
      · rw [gL_pI, f2.gl (by show a < gS s76; omega) (by unfold S5; omega), gL_pL, if_neg (by omega), f1.gl (by omega) (by unfold S5; omega)]
      · rw [pIo (by omega), di _ _ (by omega) (by omega) (by omega)]
      · rw [gR_pI, f2.gr (by show a < gS s76; omega), gR_pL, f1.gr (by omega)]
      · rw [pIo (by omega), di _ _ (by omega) (by omega) (by omega)]; exact sk.1
      · rw [pIo (by omega), di _ _ (by omega) (by omega) (by omega)]; exact sk.2.1
      · rw [gL_pI, dl _ (by omega) (by omega)]; exact sk.2.2.1
      · rw [pIo (by omega), di _ _ (by omega) (by omega) (by omega)]; exact sk.2.2.2.1
      · rw [pIo (by omega), di _ _ (by omega) (by omega) (by omega)]; exact sk.2.2.2.2.1
      · rw [gL_pI, d13]; rfl
      · rw [gI_pI, if_pos ⟨rfl, rfl⟩]; rfl
    refine fin _ (putS P.1 (up1 (up1 (aS P.1) 5 x) 6 y), P.2.1, P.2.2.1, true) s57 _ t2 hok hbad f57 z57 l57 (((fa.tr f2.fx)).i (Or.inr (by unfold SX5; omega))) R' L' ?_ (by show gS s82 ≤ _; omega) (by unfold roundS; rw [e1, pb_inl, e2]; rfl)
    have := td 4 s57 (by omega) i57
    simpa [TD] using this
  · -- the week
    subst h
    have e0 : piL (Int32.ofNat 6) = 6 := by decide
    rw [if_neg (by decide), if_neg (by decide), if_neg (by decide), if_neg (by decide), if_neg (by decide), if_neg (by decide), if_pos (show Int32.ofNat 6 = 6 from rfl)] at hok hbad thr
    have hb4 := has_iff (gI σ o 6) (k := 6) (by omega)
    rw [hT.1] at hb4
    rw [e0]
    refine ⟨fun z => absurd z (by decide), fun _ => ⟨fun z => absurd z (by decide), fun _ => ⟨fun z => absurd z (by decide), fun _ => ⟨fun z => absurd z (by decide), fun _ => ⟨fun z => absurd z (by decide), fun _ => ⟨fun z => absurd z (by decide), fun _ => ⟨fun _ => ⟨fun q => thr 3 (by rw [if_pos (hb4.mp q)]), fun q => ?_⟩, fun z => absurd rfl z⟩⟩⟩⟩⟩⟩⟩
    have q : ¬ P.2.1 = true := fun z => q (hb4.mpr z)
    rw [if_neg q] at hok hbad
    refine st 6 _ (fun s57 f57 R57 L57 i57 l57 z57 => ⟨fun z => absurd z (by decide), fun _ => ⟨fun z => absurd z (by decide), fun _ => ⟨fun z => absurd z (by decide), fun _ => ⟨fun z => absurd z (by decide), fun _ => ⟨fun z => absurd z (by decide), fun _ => ⟨fun z => absurd z (by decide), fun _ => ⟨fun _ => ?_, fun z => absurd rfl z⟩⟩⟩⟩⟩⟩⟩)
    refine rd_number R57 (by omega) ⟨fun x t1 s76 e1 f1 z1 R1 _ => ?_, fun k pl qq σ' e f g => hbad k pl qq σ' (by unfold weekS; rw [e]; rfl) (f57.tr f.fx.x2) g⟩
    have p1 := (pg_num R57.2.2.1 _ _ e1).2
    have wr : ∀ (τ : Hp) (tt : Tok) (k : Nat) (v : Int32), k ≠ 10 → RDR o c d b n τ tt 0 (aK P.1) → RDR o c d b n (pI τ d k v) tt 0 (aK P.1) := by
      intro τ tt k v hk R2
      obtain ⟨k1, k2, k3, k4, k5, k6, k7, k8, k9, k10⟩ := R2
      refine ⟨⟨?_, k1.2.1, k1.2.2.1, fun i hi => ?_⟩, ⟨?_, ?_, ?_, fun q1 q2 => ?_⟩, k3, ?_, ?_, k6, k7, k8, k9, k10⟩
      · rw [pIo (by omega)]; exact k1.1
      · rw [pIo (by omega)]; exact k1.2.2.2 i hi
      · rw [pIo (by omega)]; exact k2.1
      · rw [pIo (by omega)]; exact k2.2.1
      · rw [pIo (by omega)]; exact k2.2.2.1
      · rw [pIo (by omega)]; exact k2.2.2.2 q1 q2
      · rw [pIo (by omega)]; exact k4
      · rw [pIo (by omega)]; exact k5
    have fa : FXl o d s57 (pI s76 d 5 x) := f1.fx.i (Or.inr (by unfold SX5; omega))
    refine rd_number (wr _ _ 5 x (by omega) R1) (by show gS s76 + 1 ≤ Mx; omega) ⟨fun y t2 s82 e2 f2 z2 R2 _ => ?_, fun k pl qq σ' e f g => hbad k pl qq σ' (by unfold weekS; rw [e1, pb_inl, e]; rfl) (f57.tr (fa.x2.tr f.fx.x2)) g⟩
    have z2 : gS s82 = gS s76 := z2
    have p2 := (pg_num R1.2.2.1 _ _ e2).2
    have di : ∀ a k, d ≤ a → a < d + 11 → ¬ (a = d ∧ (k = 10 ∨ k = 5)) → gI s82 a k = gI s57 a k := fun a k q1 q2 q3 => by
      rw [f2.gi (by show a < gS s76; omega) (by unfold S5; omega), pIo (by omega), f1.gi (by omega) (by unfold S5; omega)]
    have dl : ∀ k, k ≠ 10 → gL s82 d k = gL s57 d k := fun k q1 => by
      rw [f2.gl (by show d < gS s76; omega) (by unfold S5; omega), gL_pI, f1.gl (by omega) (by unfold S5; omega)]
    have d5 : gI s82 d 5 = x := by
      rw [f2.gi (by show d < gS s76; omega) (by unfold S5; omega), gI_pI, if_pos ⟨rfl, rfl⟩]
    have sk := L57.2.2.2.2.2
    have L' : LRl d (pI s82 d 6 y) (putS P.1 (up1 (up1 (aS P.1) 0 x) 1 y)) := by
      refine L57.sky ⟨by show gS s57 ≤ gS s82; omega, fun a h1 h2 => ⟨?_, fun k => ⟨?_, ?_, ?_⟩⟩⟩ (fun a h1 h2 => ?_) (fun a k h1 h2 => ?_) ⟨?_, ?_, ?_, ?_, ?_, ?_, ?_⟩
      · show gT s82 a = _
        rw [f2.gt (by show a < gS s76; omega), gT_pI, f1.gt (by omega)]
      · rw [gR_pI, f2.gr (by show a < gS s76; omega), gR_pI, f1.gr (by omega)]
      · rw [pIo (by omega), f2.gi (by show a < gS s76; omega) (by unfold S5; omega), pIo (by omega), f1.gi (by omega) (by unfold S5; omega)]
      · rw [gL_pI, f2.gl (by show a < gS s76; omega) (by unfold S5; omega), gL_pI, f1.gl (by omega) (by unfold S5; omega)]
      · rw [pIo (by omega), di _ _ (by omega) (by omega) (by omega)]
      · rw [gR_pI, f2.gr (by show a < gS s76; omega), gR_pI, f1.gr (by omega)]
      · rw [pIo (by omega), d5]; rfl
      · rw [gI_pI, if_pos ⟨rfl, rfl⟩]; rfl
      · rw [gL_pI, dl _ (by omega)]; exact sk.2.2.1
      · rw [pIo (by omega), di _ _ (by omega) (by omega) (by omega)]; exact sk.2.2.2.1
      · rw [pIo (by omega), di _ _ (by omega) (by omega) (by omega)]; exact sk.2.2.2.2.1
      · rw [gL_pI, dl _ (by omega)]; exact sk.2.2.2.2.2.1
      · rw [pIo (by omega), di _ _ (by omega) (by omega) (by omega)]; exact sk.2.2.2.2.2.2
    refine fin _ (putS P.1 (up1 (up1 (aS P.1) 0 x) 1 y), true, P.2.2.1, P.2.2.2) s57 _ t2 hok hbad f57 z57 l57 (((fa.tr f2.fx)).i (Or.inr (by unfold SX5; omega))) (wr _ _ 6 y (by omega) R2) L' ?_ (by show gS s82 ≤ _; omega) (by unfold weekS; rw [e1, pb_inl, e2]; rfl)
    have := td 6 s57 (by omega) i57
    simpa [TD] using this
  · -- the moon
    subst h
    have e0 : piL (Int32.ofNat 7) = 7 := by decide
    rw [if_neg (by decide), if_neg (by decide), if_neg (by decide), if_neg (by decide), if_neg (by decide), if_neg (by decide), if_neg (by decide)] at hok hbad thr
    have hb4 := has_iff (gI σ o 6) (k := 7) (by omega)
    rw [hT.2.1] at hb4
    rw [e0]
    refine ⟨fun z => absurd z (by decide), fun _ => ⟨fun z => absurd z (by decide), fun _ => ⟨fun z => absurd z (by decide), fun _ => ⟨fun z => absurd z (by decide), fun _ => ⟨fun z => absurd z (by decide), fun _ => ⟨fun z => absurd z (by decide), fun _ => ⟨fun z => absurd z (by decide), fun _ => ⟨fun _ => ⟨fun q => thr 3 (by rw [if_pos (hb4.mp q)]), fun q => ?_⟩, fun z => absurd rfl z⟩⟩⟩⟩⟩⟩⟩⟩
    have q : ¬ P.2.2.1 = true := fun z => q (hb4.mpr z)
    rw [if_neg q] at hok hbad
    refine st 7 _ (fun s57 f57 R57 L57 i57 l57 z57 => ⟨fun z => absurd z (by decide), fun _ => ⟨fun z => absurd z (by decide), fun _ => ⟨fun z => absurd z (by decide), fun _ => ⟨fun z => absurd z (by decide), fun _ => ⟨fun z => absurd z (by decide), fun _ => ⟨fun z => absurd z (by decide), fun _ => ⟨fun z => absurd z (by decide), fun _ => ?_⟩⟩⟩⟩⟩⟩⟩)
    refine rd_number R57 (by omega) ⟨fun x t1 s76 e1 f1 z1 R1 _ => ?_, fun k pl qq σ' e f g => hbad k pl qq σ' (by unfold moonS roundS; rw [e]; rfl) (f57.tr f.fx.x2) g⟩
    have p1 := (pg_num R57.2.2.1 _ _ e1).2
    have wr : ∀ (τ : Hp) (tt : Tok) (k : Nat) (v : Int32), k ≠ 10 → RDR o c d b n τ tt 0 (aK P.1) → RDR o c d b n (pI τ d k v) tt 0 (aK P.1) := by
      intro τ tt k v hk R2
      obtain ⟨k1, k2, k3, k4, k5, k6, k7, k8, k9, k10⟩ := R2
      refine ⟨⟨?_, k1.2.1, k1.2.2.1, fun i hi => ?_⟩, ⟨?_, ?_, ?_, fun q1 q2 => ?_⟩, k3, ?_, ?_, k6, k7, k8, k9, k10⟩
      · rw [pIo (by omega)]; exact k1.1
      · rw [pIo (by omega)]; exact k1.2.2.2 i hi
      · rw [pIo (by omega)]; exact k2.1
      · rw [pIo (by omega)]; exact k2.2.1
      · rw [pIo (by omega)]; exact k2.2.2.1
      · rw [pIo (by omega)]; exact k2.2.2.2 q1 q2
      · rw [pIo (by omega)]; exact k4
      · rw [pIo (by omega)]; exact k5
    have Ra : RDR o c d b n (pL s76 d 12 x.toInt64) t1 0 (aK P.1) := R1.wr (Nat.le_refl _) (fun a k ha => rfl)
    have fa : FXl o d s57 (pL s76 d 12 x.toInt64) := f1.fx.l (Or.inr (by unfold SX5; omega))
    rw [byOf_i]
    refine rd_number Ra (by show gS s76 + 1 ≤ Mx; omega) ⟨fun y t2 s82 e2 f2 z2 R2 _ => ?_, fun k pl qq σ' e f g => hbad k pl qq σ' (by unfold moonS roundS; rw [e1, pb_inl, e]; rfl) (f57.tr (fa.x2.tr f.fx.x2)) g⟩
    have z2 : gS s82 = gS s76 := z2
    have p2 := (pg_num R1.2.2.1 _ _ e2).2
    have d12 : gL s82 d 12 = x.toInt64 := by
      rw [f2.gl (by show d < gS s76; omega) (by unfold S5; omega), gL_pL, if_pos ⟨rfl, rfl⟩]
    have ex : (gL s82 d 12).toInt32 - 1 = x - 1 := by rw [d12]; simp
    rw [ex]
    have fb : FXl o d s57 (pI s82 d 8 y) := (fa.tr f2.fx).i (Or.inr (by unfold SX5; omega))
    refine rd_number (wr _ _ 8 y (by omega) R2) (by show gS s82 + 1 ≤ Mx; omega) ⟨fun z t3 s90 e3 f3 z3 R3 _ => ?_, fun k pl qq σ' e f g => hbad k pl qq σ' (by unfold moonS roundS; rw [e1, pb_inl, e2, pb_inl, pb_inl, e]; rfl) (f57.tr (fb.x2.tr f.fx.x2)) g⟩
    have z3 : gS s90 = gS s82 := z3
    have p3 := (pg_num R2.2.2.1 _ _ e3).2
    have di : ∀ a k, d ≤ a → a < d + 11 → ¬ (a = d ∧ (k = 10 ∨ k = 8)) → gI s90 a k = gI s57 a k := fun a k q1 q2 q3 => by
      rw [f3.gi (by show a < gS s82; omega) (by unfold S5; omega), pIo (by omega), f2.gi (by show a < gS s76; omega) (by unfold S5; omega), gI_pL, f1.gi (by omega) (by unfold S5; omega)]
    have dl : ∀ k, k ≠ 10 → k ≠ 12 → gL s90 d k = gL s57 d k := fun k q1 q2 => by
      rw [f3.gl (by show d < gS s82; omega) (by unfold S5; omega), gL_pI, f2.gl (by show d < gS s76; omega) (by unfold S5; omega), gL_pL, if_neg (by omega), f1.gl (by omega) (by unfold S5; omega)]
    have d12' : gL s90 d 12 = x.toInt64 := by
      rw [f3.gl (by show d < gS s82; omega) (by unfold S5; omega), gL_pI, d12]
    have d8 : gI s90 d 8 = y := by
      rw [f3.gi (by show d < gS s82; omega) (by unfold S5; omega), gI_pI, if_pos ⟨rfl, rfl⟩]
    have sk := L57.2.2.2.2.2
    have L' : LRl d (pI s90 d 7 z) (putS P.1 (up1 (up1 (up1 (aS P.1) 2 x) 3 y) 4 z)) := by
      refine L57.sky ⟨by show gS s57 ≤ gS s90; omega, fun a h1 h2 => ⟨?_, fun k => ⟨?_, ?_, ?_⟩⟩⟩ (fun a h1 h2 => ?_) (fun a k h1 h2 => ?_) ⟨?_, ?_, ?_, ?_, ?_, ?_, ?_⟩
      · show gT s90 a = _
        rw [f3.gt (by show a < gS s82; omega), gT_pI, f2.gt (by show a < gS s76; omega), gT_pL, f1.gt (by omega)]
      · rw [gR_pI, f3.gr (by show a < gS s82; omega), gR_pI, f2.gr (by show a < gS s76; omega), gR_pL, f1.gr (by omega)]
      · rw [pIo (by omega), f3.gi (by show a < gS s82; omega) (by unfold S5; omega), pIo (by omega), f2.gi (by show a < gS s76; omega) (by unfold S5; omega), gI_pL, f1.gi (by omega) (by unfold S5; omega)]
      · rw [gL_pI, f3.gl (by show a < gS s82; omega) (by unfold S5; omega), gL_pI, f2.gl (by show a < gS s76; omega) (by unfold S5; omega), gL_pL, if_neg (by omega), f1.gl (by omega) (by unfold S5; omega)]
      · rw [pIo (by omega), di _ _ (by omega) (by omega) (by omega)]
      · rw [gR_pI, f3.gr (by show a < gS s82; omega), gR_pI, f2.gr (by show a < gS s76; omega), gR_pL, f1.gr (by omega)]
      · rw [pIo (by omega), di _ _ (by omega) (by omega) (by omega)]; exact sk.1
      · rw [pIo (by omega), di _ _ (by omega) (by omega) (by omega)]; exact sk.2.1
      · rw [gL_pI, d12']; rfl
      · rw [pIo (by omega), d8]; rfl
      · rw [gI_pI, if_pos ⟨rfl, rfl⟩]; rfl
      · rw [gL_pI, dl _ (by omega) (by omega)]; exact sk.2.2.2.2.2.1
      · rw [pIo (by omega), di _ _ (by omega) (by omega) (by omega)]; exact sk.2.2.2.2.2.2
    refine fin _ (putS P.1 (up1 (up1 (up1 (aS P.1) 2 x) 3 y) 4 z), P.2.1, true, P.2.2.2) s57 _ t3 hok hbad f57 z57 l57 ((fb.tr f3.fx).i (Or.inr (by unfold SX5; omega))) (wr _ _ 7 z (by omega) R3) L' ?_ (by show gS s90 ≤ _; omega) (by unfold moonS roundS; rw [e1, pb_inl, e2, pb_inl, pb_inl, e3]; rfl)
    have := td 7 s57 (by omega) i57
    simpa [TD] using this
