set_option maxRecDepth 100000
def SDb (m ln a k : Nat) : Prop := Sd m a k ∨ ((a = m + 12 ∨ a = m + 13) ∧ k = 4 + ln) ∨ (a = m + 14 ∧ 12 + 3 * ln ≤ k ∧ k < 15 + 3 * ln)
def SDe (m ln a k : Nat) : Prop := SDb m ln a k ∨ (a = m ∧ k = 21)
theorem SDe_SRd {m ln a k : Nat} (h : SDe m ln a k) : SRd m a k := by
  rcases h with (h | ⟨h1, rfl⟩ | ⟨rfl, h1, h2⟩) | ⟨rfl, rfl⟩
  · exact Sd_SRd h
  · exact Or.inr (Or.inr (Or.inr (Or.inr (Or.inr (Or.inr (Or.inl ⟨h1, by omega⟩))))))
  · exact Or.inr (Or.inr (Or.inr (Or.inr (Or.inr (Or.inr (Or.inr (Or.inl ⟨rfl, by omega⟩)))))))
  · exact Or.inl ⟨rfl, by omega⟩
theorem m_putD {m : Nat} {σ σ' : Hp} {P : PSt} {x : DeedA} (h : MRl m 1 σ P.1) (hC : MC m σ P) (hl : (aD P.1).length ≠ 4) (hc : Ch (SDe m (aD P.1).length) σ σ') (h21 : gI σ' m 21 = Int32.ofNat ((aD P.1).length + 1)) (x0 : gI σ' (m + 12) (4 + (aD P.1).length) = x.1) (x1 : gL σ' (m + 13) (4 + (aD P.1).length) = x.2.1) (x2 : gI σ' (m + 14) (12 + 3 * (aD P.1).length) = x.2.2.1) (x3 : gI σ' (m + 14) (12 + 3 * (aD P.1).length + 1) = x.2.2.2.1) (x4 : gI σ' (m + 14) (12 + 3 * (aD P.1).length + 2) = x.2.2.2.2) : MRl m 1 σ' (putD P.1 x) ∧ MC m σ' (putD P.1 x, P.2) := by
  have hu : ∀ a k, US m 1 P.1 a k → ¬ SDe m (aD P.1).length a k := fun a k q => q.by (fun k _ _ => by unfold SDe SDb Sd Sp; omega) (fun k _ _ => by unfold SDe SDb Sd Sp; omega) (fun k _ _ => by unfold SDe SDb Sd Sp; omega) (fun k _ _ => by unfold SDe SDb Sd Sp; omega) (fun k _ _ => by unfold SDe SDb Sd Sp; omega) (fun k _ _ => by unfold SDe SDb Sd Sp; omega) (fun k _ _ => by unfold SDe SDb Sd Sp; omega) (fun k _ _ => by unfold SDe SDb Sd Sp; omega) (fun k _ _ => by unfold SDe SDb Sd Sp; omega) (fun k _ _ => by unfold SDe SDb Sd Sp; omega)
  have h' : MRl m 1 σ' P.1 := h.fr (fun a k q => ⟨hc.gi (hu a k q), hc.gl (hu a k q)⟩)
  obtain ⟨c1, c2, c3, c4, c5, c6, c7, c8, c9⟩ := hC
  have f : ∀ k, k ≠ 21 → 12 ≤ k → k ≠ 44 → gI σ' m k = gI σ m k := fun k q1 q2 q3 => hc.gi (by unfold SDe SDb Sd Sp; omega)
  refine ⟨⟨h'.1, h'.2.1, h'.2.2.1, fun i y hi => ?_, h'.2.2.2.2⟩, ?_, ?_, ?_, ⟨?_, ?_⟩, ?_, ?_, ?_⟩
  · rcases put_get (show (aD P.1 ++ [x])[i]? = some y from hi) with ⟨q1, q2⟩ | ⟨q1, q2⟩
    · exact h'.2.2.2.1 i y q2
    · subst q1; subst q2
      exact ⟨x0, x1, x2, x3, x4⟩
  · rw [f _ (by omega) (by omega) (by omega)]; exact c1
  · rw [f _ (by omega) (by omega) (by omega)]; exact c2
  · rw [f _ (by omega) (by omega) (by omega)]; exact c3
  · rw [h21]; show _ = Int32.ofNat (aD P.1 ++ [x]).length; simp
  · show (aD P.1 ++ [x]).length ≤ 4; simp; omega
  · rw [f _ (by omega) (by omega) (by omega)]; exact c5
  · rw [f _ (by omega) (by omega) (by omega), f _ (by omega) (by omega) (by omega)]; exact c6
  · rw [f _ (by omega) (by omega) (by omega), f _ (by omega) (by omega) (by omega), f _ (by omega) (by omega) (by omega)]; exact ⟨c7, c8, c9⟩
theorem m_deed {m : Nat} {b : Nat → Int32} {n : Nat} {σ : Hp} {P : PSt} {t : Tok} {Q : Int32 → Hp → Prop} (hT : MT m b n σ t) (hR : MRl m 1 σ P.1) (hC : MC m σ P) (hk : LsOk (aL P.1)) (hx : MLn m b n σ (if (aD P.1).length = 4 then .inr (2, tPl t) else deedS b n (aL P.1) (nms2 P.1) (nms4 P.1) (adv b n t)) (fun v => (putD P.1 v, P.2)) Q) : wp_X6_deedLine m σ Q := by
  obtain ⟨hok, hbad⟩ := hx
  have c21 := hC.2.2.2.1.1
  have cl := hC.2.2.2.1.2
  have c18 := hC.1
  have c19 := hC.2.1
  have put := fun (σ' : Hp) (x : DeedA) => m_putD (σ' := σ') (x := x) hR hC
  generalize hln : (aD P.1).length = ln at *
  unfold wp_X6_deedLine
  have e4 : Int32.ofNat ln = 4 ↔ ln = 4 := nat_e (q := 4) (by omega) (by omega)
  rw [c21, e4]
  refine ⟨fun q => ?_, fun q => ?_⟩
  · rw [if_pos q] at hbad
    exact m_wrong hT (fun _ _ q => Sp_SRd q) (fun σ' c1 c2 c3 => hbad _ _ σ' rfl c1 c2 c3)
  rw [if_neg q] at hok hbad
  have bad : ∀ k pl σ', deedS b n (aL P.1) (nms2 P.1) (nms4 P.1) (adv b n t) = .inr (k, pl) → Ch (SDb m ln) σ σ' → gI σ' m 4 = k → gI σ' m 5 = Int32.ofNat pl → Q 0 σ' := fun k pl σ' e c1 c2 c3 => hbad k pl σ' e (c1.up (fun a k q => SDe_SRd (Or.inl q))) c2 c3
  have spu : ∀ a k, Sp m a k → SDb m ln a k := fun a k q => Or.inl (Or.inl q)
  have sdu : ∀ a k, Sd m a k → SDb m ln a k := fun a k q => Or.inl q
  have n21 : ¬ SDb m ln m 21 := by unfold SDb Sd Sp; omega
  have n19 : ¬ SDb m ln m 19 := by unfold SDb Sd Sp; omega
  have n18 : ¬ SDb m ln m 18 := by unfold SDb Sd Sp; omega
  have lnd : ∀ τ, Ch (SDb m ln) σ τ → MRl m 1 τ (aL P.1, [], [], [], [], aS P.1, 0) := fun τ c => by
    have hu : ∀ a k, US m 1 (aL P.1, [], [], [], [], aS P.1, 0) a k → ¬ SDb m ln a k := fun a k q => q.by (fun k _ _ => by unfold SDb Sd Sp; omega) (fun k _ _ => by unfold SDb Sd Sp; omega) (fun k q1 q2 => by have : k < 4 * 1 + 0 := q2; omega) (fun k q1 q2 => by have : k < 6 * 1 + 0 := q2; omega) (fun k q1 q2 => by have : k < 4 * 1 + 0 := q2; omega) (fun k q1 q2 => by have : k < 12 * 1 + 3 * 0 := q2; omega) (fun k q1 q2 => by have : k < 6 * 1 + 0 := q2; omega) (fun k q1 q2 => by have : k < 132 * 1 + 11 * 0 := q2; omega) (fun k _ _ => by unfold SDb Sd Sp; omega) (fun k q1 q2 => by have : k < 64 * 1 + 0 := q2; omega)
    refine MRl.fr (σ := σ) ⟨hR.1, fun i x hi => (by cases hi), fun i x hi => (by cases hi), fun i x hi => (by cases hi), fun i x hi => (by cases hi), hR.2.2.2.2.2⟩ (fun a k q => ⟨c.gi (hu a k q), c.gl (hu a k q)⟩)
  refine m_token hT.1 hT.2.1.1 hT.2.2 (fun s2 a1 a2 _ => ?_)
  have k2 : Ch (SDb m ln) σ s2 := a1.up spu
  have R2 := hR.sp a1
  have nl : (nms4 P.1).length = ln := by unfold nms4; rw [List.length_map]; exact hln
  have nl2 : (nms2 P.1).length = (aF P.1).length := by unfold nms2; rw [List.length_map]
  rw [k2.gi n21, c21]
  refine m_newN (fr := 4) nl a2 (mnms4 R2) (by omega) (by omega) (by omega) (S := SDb m ln) (fun a k q => q.elim (fun q => spu a k q) (fun q => Or.inr (Or.inl ⟨Or.inl q.1, q.2⟩))) ⟨fun nm t1 s4 e1 b1 b2 b3 => ⟨fun w => (by cases w), fun _ => ?_⟩, fun k pl σ' e c1 c2 c3 => ⟨fun _ => bad k pl σ' (by unfold deedS; rw [e]; rfl) (k2.tr c1) c2 c3, fun w => absurd rfl w⟩⟩
  have k4 := k2.tr b1
  refine m_date (R := (aL P.1, [], [], [], [], aS P.1, 0)) b2 (lnd s4 k4) (by rw [k4.gi n18]; exact c18.1) c18.2 hk ⟨fun cn t2 s8 e2 d1 d2 d3 => ⟨fun w => (by cases w), fun _ => ?_⟩, fun k pl σ' e c1 c2 c3 => ⟨fun _ => bad k pl σ' (by unfold deedS; rw [e1, pb_inl]; show pb (dateS b n (aL P.1) 0 t1) _ = _; rw [show dateS b n (aL P.1) 0 t1 = _ from e]; rfl) (k4.tr (c1.up sdu)) c2 c3, fun w => absurd rfl w⟩⟩
  have e2 : dateS b n (aL P.1) 0 t1 = .inl (cn, t2) := e2
  have k8 := k4.tr (d1.up sdu)
  have d3 : gL s8 m 44 = cn := d3
  have hv2 := d2.2.2
  have ex : (4 : Int32) + gI s8 m 21 = Int32.ofNat (4 + ln) := by rw [k8.gi n21, c21]; exact nat_a (p := 4) (by omega)
  have ey : (12 : Int32) + 3 * gI s8 m 21 = Int32.ofNat (12 + 3 * ln) := by
    rw [k8.gi n21, c21, show (3 : Int32) = Int32.ofNat 3 from rfl, nat_m (by omega) (by omega) (by omega), show (12 : Int32) = Int32.ofNat 12 from rfl, nat_a (by omega)]
  have nm8 : gI s8 (m + 12) (4 + ln) = nm := by rw [d1.gi (by unfold Sd Sp; omega)]; exact b3
  have kw : Ch (SDb m ln) σ (pL s8 (m + 13) (4 + ln) (gL s8 m 44)) := k8.l (Or.inr (Or.inl ⟨Or.inr rfl, rfl⟩))
  have Tw : MT m b n (pL s8 (m + 13) (4 + ln) (gL s8 m 44)) t2 := d2
  have exs : deedS b n (aL P.1) (nms2 P.1) (nms4 P.1) (adv b n t) = if tKd t2 = 1 ∧ 10 ≤ (tWh t2).toInt ∧ (tWh t2).toInt ≤ 12 then pb (if tWh t2 = 10 then numS b n 0 999 (adv b n t2) else if tWh t2 = 11 then numS b n 0 99999 (adv b n t2) else ahS b n (nms2 P.1) (adv b n t2)) fun x t' => pb (keyS b n 13 t') fun _ t' => pb (numS b n 0 999 t') fun p t' => .inl ((nm, cn, tWh t2 - 10, x, p), t') else .inr (1, tPl t2) := by
    unfold deedS
    rw [e1, pb_inl, e2]
    rfl
  generalize deedS b n (aL P.1) (nms2 P.1) (nms4 P.1) (adv b n t) = X at *
  rw [ex, ey, nat_c (by omega), d2.2.1.2.2.1]
  have wr1 : X = .inr (1, tPl t2) → ∀ (r : Int32) (s : Hp), (r, s) = f_X6_wrong m (pL s8 (m + 13) (4 + ln) (gL s8 m 44)) 1 → (r = 0 ∨ r = 1) ∧ (Q r s) := fun e => m_wrong Tw spu (fun σ' c1 c2 c3 => bad _ _ σ' e (kw.tr c1) c2 c3)
  refine ⟨nat_v (by omega) (by omega), fun kd => ?_, fun kd => wr1 (by rw [exs, if_neg (fun z => kd z.1)])⟩
  have e9 := d2.2.1.2.2.2 (by rw [kd]; decide) (by rw [kd]; decide)
  rw [e9, i3_lt rfl (y := 10) (by rfl), i3_le rfl (y := 12) (by rfl)]
  refine ⟨fun w => wr1 (by rw [exs, if_neg (fun z => by omega)]), fun w => ⟨fun w2 => ?_, fun w2 => wr1 (by rw [exs, if_neg (fun z => w2 z.2.2)])⟩⟩
  rw [if_pos ⟨kd, by omega, w2⟩] at exs
  -- the pay, and the deed is laid
  have tail : ∀ (τ : Hp) (t4 : Tok) (x : Int32), MT m b n τ t4 → Ch (SDb m ln) σ τ → gI τ m 11 = x → gI τ (m + 12) (4 + ln) = nm → gL τ (m + 13) (4 + ln) = cn → X = (pb (keyS b n 13 t4) fun _ t' => pb (numS b n 0 999 t') fun p t' => .inl ((nm, cn, tWh t2 - 10, x, p), t')) → wj_X6_deedLine_159 m τ (Int32.ofNat (12 + 3 * ln)) (tWh t2 - 10) Q := by
    intro τ t4 x T4 k4 hx hn hc exx
    have ex1 : Int32.ofNat (12 + 3 * ln) + 1 = Int32.ofNat (12 + 3 * ln + 1) := nat_s (by omega)
    have ex2 : Int32.ofNat (12 + 3 * ln) + 2 = Int32.ofNat (12 + 3 * ln + 2) := nat_a (q := 2) (by omega)
    unfold wj_X6_deedLine_159
    rw [ex1, ex2, nat_c (by omega), nat_c (by omega), nat_c (by omega)]
    refine ⟨nat_v (by omega) (by omega), nat_v (by omega) (by omega), ?_⟩
    have kx : Ch (SDb m ln) σ (pI (pI τ (m + 14) (12 + 3 * ln) (tWh t2 - 10)) (m + 14) (12 + 3 * ln + 1) (gI τ m 11)) := (k4.i (Or.inr (Or.inr ⟨rfl, by omega, by omega⟩))).i (Or.inr (Or.inr ⟨rfl, by omega, by omega⟩))
    refine m_key ((T4.w (by omega)).w (by omega)) ⟨fun u t5 s50 e5 f1 f2 _ => ⟨fun w => (by cases w), fun _ => ?_⟩, fun k pl σ' e c1 c2 c3 => ⟨fun _ => bad k pl σ' (by rw [exx, e]; rfl) (kx.tr (c1.up spu)) c2 c3, fun w => absurd rfl w⟩⟩
    have k50 := kx.tr (f1.up spu)
    refine m_number f2 ⟨fun p t6 s54 e6 g1 g2 g3 => ⟨fun w => (by cases w), fun _ => ⟨nat_v (by omega) (by omega), ?_⟩⟩, fun k pl σ' e c1 c2 c3 => ⟨fun _ => bad k pl σ' (by rw [exx, e5, pb_inl, e]; rfl) (k50.tr (c1.up spu)) c2 c3, fun w => absurd rfl w⟩⟩
    have k54 := k50.tr (g1.up spu)
    have g3 : gI s54 m 11 = p := g3
    have i21 : gI s54 m 21 + 1 = Int32.ofNat (ln + 1) := by rw [k54.gi n21, c21, nat_s (by omega)]
    rw [i21]
    have kz : Ch (SDe m ln) σ (pI (pI s54 (m + 14) (12 + 3 * ln + 2) (gI s54 m 11)) m 21 (Int32.ofNat (ln + 1))) := ((k54.i (Or.inr (Or.inr ⟨rfl, by omega, by omega⟩))).up (fun a k q => Or.inl q)).i (Or.inr ⟨rfl, rfl⟩)
    have st : ∀ a k, m + 3 ≤ a → gI s54 a k = gI (pI (pI τ (m + 14) (12 + 3 * ln) (tWh t2 - 10)) (m + 14) (12 + 3 * ln + 1) (gI τ m 11)) a k := fun a k ha => by rw [g1.gi (by unfold Sp; omega), f1.gi (by unfold Sp; omega)]
    obtain ⟨z1, z2⟩ := put _ (nm, cn, tWh t2 - 10, x, p) q kz (by simp [gI_pI]) (by rw [pIo (by omega), pIo (by omega), st _ _ (by omega), pIo (by omega), pIo (by omega)]; exact hn) (by rw [gL_pI, gL_pI, g1.gl (by unfold Sp; omega), f1.gl (by unfold Sp; omega), gL_pI, gL_pI]; exact hc) (by rw [pIo (by omega), pIo (by omega), st _ _ (by omega), pIo (by omega), gI_pI, if_pos ⟨rfl, rfl⟩]) (by rw [pIo (by omega), pIo (by omega), st _ _ (by omega), gI_pI, if_pos ⟨rfl, rfl⟩]; exact hx) (by rw [pIo (by omega), gI_pI, if_pos ⟨rfl, rfl⟩]; exact g3)
    exact hok (nm, cn, tWh t2 - 10, x, p) t6 _ (by rw [exx, e5, pb_inl, e6, pb_inl]) (kz.up (fun a k => SDe_SRd)) ((g2.w (by omega)).w (by omega)) z1 z2
  refine m_token Tw.1 Tw.2.1.1 Tw.2.2 (fun s28 h1 h2 _ => ?_)
  have k28 := kw.tr (h1.up spu)
  have nm28 : gI s28 (m + 12) (4 + ln) = nm := by rw [h1.gi (by unfold Sp; omega), gI_pL]; exact nm8
  have cn28 : gL s28 (m + 13) (4 + ln) = cn := by rw [h1.gl (by unfold Sp; omega), gL_pL, if_pos ⟨rfl, rfl⟩]; exact d3
  have esub : (tWh t2 - 10).toInt = (tWh t2).toInt - 10 := i3_sub rfl (by rfl) (by omega) (by omega)
  have w10 : tWh t2 = 10 ↔ (tWh t2).toInt = 10 := i3_eq rfl (by rfl)
  have w11 : tWh t2 = 11 ↔ (tWh t2).toInt = 11 := i3_eq rfl (by rfl)
  rw [i3_eq esub (y := 2) (by rfl), i3_eq esub (y := 0) (by rfl)]
  have num : ∀ hi, X = (pb (numS b n 0 hi (adv b n t2)) fun x t' => pb (keyS b n 13 t') fun _ t' => pb (numS b n 0 999 t') fun p t' => .inl ((nm, cn, tWh t2 - 10, x, p), t')) → wj_X6_deedLine_151 m s28 (Int32.ofNat (12 + 3 * ln)) (tWh t2 - 10) hi Q := fun hi exx => m_number h2 ⟨fun x t4 s43 e4 f1 f2 f3 => ⟨fun w => (by cases w), fun _ => tail s43 t4 x f2 (k28.tr (f1.up spu)) f3 (by rw [f1.gi (by unfold Sp; omega)]; exact nm28) (by rw [f1.gl (by unfold Sp; omega)]; exact cn28) (by rw [exx, e4]; rfl)⟩, fun k pl σ' e c1 c2 c3 => ⟨fun _ => bad k pl σ' (by rw [exx, e]; rfl) (k28.tr (c1.up spu)) c2 c3, fun w => absurd rfl w⟩⟩
  refine ⟨fun z => ?_, fun z => ⟨fun z2 => num 999 (by rw [exs, if_pos (w10.mpr (by omega))]), fun z2 => num 99999 (by rw [exs, if_neg (fun y => by rw [w10] at y; omega), if_pos (w11.mpr (by omega))])⟩⟩
  rw [if_neg (fun y => by rw [w10] at y; omega), if_neg (fun y => by rw [w11] at y; omega)] at exs
  rw [k28.gi n19, c19.1, ← nl2]
  refine m_oldName (fr := 4) h2 (fun i y hi => by rw [k28.gi (by unfold SDb Sd Sp; omega)]; exact mnms2 hR i y hi) (by rw [nl2]; have := c19.2; omega) (by omega) ⟨fun x t4 s43 e4 f1 f2 f3 => ⟨fun w => (by cases w), fun _ => tail s43 t4 x f2 (k28.tr (f1.up spu)) f3 (by rw [f1.gi (by unfold Sp; omega)]; exact nm28) (by rw [f1.gl (by unfold Sp; omega)]; exact cn28) (by rw [exs, e4]; rfl)⟩, fun k pl σ' e c1 c2 c3 => ⟨fun _ => bad k pl σ' (by rw [exs, e]; rfl) (k28.tr (c1.up spu)) c2 c3, fun w => absurd rfl w⟩⟩
