set_option maxRecDepth 100000
def SPb (m ln a k : Nat) : Prop := Sd m a k ∨ ((a = m + 9 ∨ a = m + 10 ∨ a = m + 11) ∧ k = 6 + ln)
def SPe (m ln a k : Nat) : Prop := SPb m ln a k ∨ (a = m ∧ k = 20)
theorem Sd_SRd {m a k : Nat} (h : Sd m a k) : SRd m a k := by
  rcases h with h | ⟨rfl, rfl⟩
  · exact Sp_SRd h
  · exact Or.inl ⟨rfl, by omega⟩
theorem SPe_SRd {m ln a k : Nat} (h : SPe m ln a k) : SRd m a k := by
  rcases h with (h | ⟨h1, rfl⟩) | ⟨rfl, rfl⟩
  · exact Sd_SRd h
  · exact Or.inr (Or.inr (Or.inr (Or.inr (Or.inr (Or.inl ⟨h1, by omega⟩)))))
  · exact Or.inl ⟨rfl, by omega⟩
theorem usSd {m u : Nat} {R : RlA} {a k : Nat} (q : US m u R a k) : ¬ Sd m a k := q.by (fun k _ _ => by unfold Sd Sp; omega) (fun k _ _ => by unfold Sd Sp; omega) (fun k _ _ => by unfold Sd Sp; omega) (fun k _ _ => by unfold Sd Sp; omega) (fun k _ _ => by unfold Sd Sp; omega) (fun k _ _ => by unfold Sd Sp; omega) (fun k _ _ => by unfold Sd Sp; omega) (fun k _ _ => by unfold Sd Sp; omega) (fun k _ _ => by unfold Sd Sp; omega) (fun k _ _ => by unfold Sd Sp; omega)
theorem m_putP {m : Nat} {σ σ' : Hp} {P : PSt} {x : PersA} (h : MRl m 1 σ P.1) (hC : MC m σ P) (hl : (aP P.1).length ≠ 6) (hc : Ch (SPe m (aP P.1).length) σ σ') (h20 : gI σ' m 20 = Int32.ofNat ((aP P.1).length + 1)) (x0 : gI σ' (m + 9) (6 + (aP P.1).length) = x.1) (x1 : gL σ' (m + 10) (6 + (aP P.1).length) = x.2.1) (x2 : gL σ' (m + 11) (6 + (aP P.1).length) = x.2.2) : MRl m 1 σ' (putP P.1 x) ∧ MC m σ' (putP P.1 x, P.2) := by
  have hu : ∀ a k, US m 1 P.1 a k → ¬ SPe m (aP P.1).length a k := fun a k q => q.by (fun k _ _ => by unfold SPe SPb Sd Sp; omega) (fun k _ _ => by unfold SPe SPb Sd Sp; omega) (fun k _ _ => by unfold SPe SPb Sd Sp; omega) (fun k _ _ => by unfold SPe SPb Sd Sp; omega) (fun k _ _ => by unfold SPe SPb Sd Sp; omega) (fun k _ _ => by unfold SPe SPb Sd Sp; omega) (fun k _ _ => by unfold SPe SPb Sd Sp; omega) (fun k _ _ => by unfold SPe SPb Sd Sp; omega) (fun k _ _ => by unfold SPe SPb Sd Sp; omega) (fun k _ _ => by unfold SPe SPb Sd Sp; omega)
  have h' : MRl m 1 σ' P.1 := h.fr (fun a k q => ⟨hc.gi (hu a k q), hc.gl (hu a k q)⟩)
  obtain ⟨c1, c2, c3, c4, c5, c6, c7, c8, c9⟩ := hC
  have f : ∀ k, k ≠ 20 → 12 ≤ k → k ≠ 44 → gI σ' m k = gI σ m k := fun k q1 q2 q3 => hc.gi (by unfold SPe SPb Sd Sp; omega)
  refine ⟨⟨h'.1, h'.2.1, fun i y hi => ?_, h'.2.2.2⟩, ?_, ?_, ⟨?_, ?_⟩, ?_, ?_, ?_, ?_⟩
  · rcases put_get (show (aP P.1 ++ [x])[i]? = some y from hi) with ⟨q1, q2⟩ | ⟨q1, q2⟩
    · exact h'.2.2.1 i y q2
    · subst q1; subst q2
      exact ⟨x0, x1, x2⟩
  · rw [f _ (by omega) (by omega) (by omega)]; exact c1
  · rw [f _ (by omega) (by omega) (by omega)]; exact c2
  · rw [h20]; show _ = Int32.ofNat (aP P.1 ++ [x]).length; simp
  · show (aP P.1 ++ [x]).length ≤ 6; simp; omega
  · rw [f _ (by omega) (by omega) (by omega)]; exact c4
  · rw [f _ (by omega) (by omega) (by omega)]; exact c5
  · rw [f _ (by omega) (by omega) (by omega), f _ (by omega) (by omega) (by omega)]; exact c6
  · rw [f _ (by omega) (by omega) (by omega), f _ (by omega) (by omega) (by omega), f _ (by omega) (by omega) (by omega)]; exact ⟨c7, c8, c9⟩
theorem m_person {m : Nat} {b : Nat → Int32} {n : Nat} {σ : Hp} {P : PSt} {t : Tok} {Q : Int32 → Hp → Prop} (hT : MT m b n σ t) (hR : MRl m 1 σ P.1) (hC : MC m σ P) (hk : LsOk (aL P.1)) (hx : MLn m b n σ (if (aP P.1).length = 6 then .inr (2, tPl t) else persS b n (aL P.1) (nms3 P.1) (adv b n t)) (fun v => (putP P.1 v, P.2)) Q) : wp_X6_personLine m σ Q := by
  obtain ⟨hok, hbad⟩ := hx
  have c20 := hC.2.2.1.1
  have cl := hC.2.2.1.2
  have c18 := hC.1
  have put := fun (σ' : Hp) (x : PersA) => m_putP (σ' := σ') (x := x) hR hC
  generalize hln : (aP P.1).length = ln at *
  unfold wp_X6_personLine
  rw [c20, show (6 : Int32) = Int32.ofNat 6 from rfl, nat_e (by omega) (by omega)]
  refine ⟨fun q => ?_, fun q => ?_⟩
  · rw [if_pos q] at hbad
    exact m_wrong hT (fun _ _ q => Sp_SRd q) (fun σ' c1 c2 c3 => hbad _ _ σ' rfl c1 c2 c3)
  rw [if_neg q] at hok hbad
  have bad : ∀ k pl σ', persS b n (aL P.1) (nms3 P.1) (adv b n t) = .inr (k, pl) → Ch (SPb m ln) σ σ' → gI σ' m 4 = k → gI σ' m 5 = Int32.ofNat pl → Q 0 σ' := fun k pl σ' e c1 c2 c3 => hbad k pl σ' e (c1.up (fun a k q => SPe_SRd (Or.inl q))) c2 c3
  have spu : ∀ a k, Sp m a k → SPb m ln a k := fun a k q => Or.inl (Or.inl q)
  have sdu : ∀ a k, Sd m a k → SPb m ln a k := fun a k q => Or.inl q
  have n20 : ¬ SPb m ln m 20 := by unfold SPb Sd Sp; omega
  have n18 : ¬ SPb m ln m 18 := by unfold SPb Sd Sp; omega
  have lnd : ∀ τ, Ch (SPb m ln) σ τ → MRl m 1 τ (aL P.1, [], [], [], [], aS P.1, 0) := fun τ c => by
    have hu : ∀ a k, US m 1 (aL P.1, [], [], [], [], aS P.1, 0) a k → ¬ SPb m ln a k := fun a k q => q.by (fun k _ _ => by unfold SPb Sd Sp; omega) (fun k _ _ => by unfold SPb Sd Sp; omega) (fun k q1 q2 => by have : k < 4 * 1 + 0 := q2; omega) (fun k q1 q2 => by have : k < 6 * 1 + 0 := q2; omega) (fun k q1 q2 => by have : k < 4 * 1 + 0 := q2; omega) (fun k q1 q2 => by have : k < 12 * 1 + 3 * 0 := q2; omega) (fun k q1 q2 => by have : k < 6 * 1 + 0 := q2; omega) (fun k q1 q2 => by have : k < 132 * 1 + 11 * 0 := q2; omega) (fun k _ _ => by unfold SPb Sd Sp; omega) (fun k q1 q2 => by have : k < 64 * 1 + 0 := q2; omega)
    refine MRl.fr (σ := σ) ⟨hR.1, fun i x hi => (by cases hi), fun i x hi => (by cases hi), fun i x hi => (by cases hi), fun i x hi => (by cases hi), hR.2.2.2.2.2⟩ (fun a k q => ⟨c.gi (hu a k q), c.gl (hu a k q)⟩)
  refine m_token hT.1 hT.2.1.1 hT.2.2 (fun s2 a1 a2 _ => ?_)
  have k2 : Ch (SPb m ln) σ s2 := a1.up spu
  have R2 := hR.sp a1
  have nl : (nms3 P.1).length = ln := by unfold nms3; rw [List.length_map]; exact hln
  rw [k2.gi n20, c20]
  refine m_newN (fr := 6) nl a2 (mnms3 R2) (by omega) (by omega) (by omega) (S := SPb m ln) (fun a k q => q.elim (fun q => spu a k q) (fun q => Or.inr ⟨Or.inl q.1, q.2⟩)) ⟨fun nm t1 s4 e1 b1 b2 b3 => ⟨fun w => (by cases w), fun _ => ?_⟩, fun k pl σ' e c1 c2 c3 => ⟨fun _ => bad k pl σ' (by unfold persS; rw [e]; rfl) (k2.tr c1) c2 c3, fun w => absurd rfl w⟩⟩
  have k4 := k2.tr b1
  refine m_date (R := (aL P.1, [], [], [], [], aS P.1, 0)) b2 (lnd s4 k4) (by rw [k4.gi n18]; exact c18.1) c18.2 hk ⟨fun cn t2 s8 e2 d1 d2 d3 => ⟨fun w => (by cases w), fun _ => ?_⟩, fun k pl σ' e c1 c2 c3 => ⟨fun _ => bad k pl σ' (by unfold persS; rw [e1, pb_inl]; show pb (dateS b n (aL P.1) 0 t1) _ = _; rw [show dateS b n (aL P.1) 0 t1 = _ from e]; rfl) (k4.tr (c1.up sdu)) c2 c3, fun w => absurd rfl w⟩⟩
  have e2 : dateS b n (aL P.1) 0 t1 = .inl (cn, t2) := e2
  have k8 := k4.tr (d1.up sdu)
  have d3 : gL s8 m 44 = cn := d3
  have ex : Int32.ofNat 6 + gI s8 m 20 = Int32.ofNat (6 + ln) := by rw [k8.gi n20, c20]; exact nat_a (p := 6) (by omega)
  have nm8 : gI s8 (m + 9) (6 + ln) = nm := by rw [d1.gi (by unfold Sd Sp; omega)]; exact b3
  rw [ex, nat_c (by omega)]
  refine ⟨nat_v (by omega) (by omega), nat_v (by omega) (by omega), ?_⟩
  have kw : Ch (SPb m ln) σ (pL (pL s8 (m + 10) (6 + ln) (gL s8 m 44)) (m + 11) (6 + ln) (-1)) := (k8.l (Or.inr ⟨Or.inr (Or.inl rfl), rfl⟩)).l (Or.inr ⟨Or.inr (Or.inr rfl), rfl⟩)
  have Tw : MT m b n (pL (pL s8 (m + 10) (6 + ln) (gL s8 m 44)) (m + 11) (6 + ln) (-1)) t2 := d2
  rw [mkey Tw.2.1]
  refine ⟨fun q8 => ?_, fun q8 => ?_⟩
  · have i20 : gI s8 m 20 + 1 = Int32.ofNat (ln + 1) := by rw [k8.gi n20, c20, nat_s (by omega)]
    rw [i20]
    have kz : Ch (SPe m ln) σ (pI (pL (pL s8 (m + 10) (6 + ln) (gL s8 m 44)) (m + 11) (6 + ln) (-1)) m 20 (Int32.ofNat (ln + 1))) := (kw.up (fun a k q => Or.inl q)).i (Or.inr ⟨rfl, rfl⟩)
    obtain ⟨z1, z2⟩ := put _ (nm, cn, -1) q kz (by simp [gI_pI]) (by rw [pIo (by omega), gI_pL, gI_pL]; exact nm8) (by rw [gL_pI, gL_pL, if_neg (by omega), gL_pL, if_pos ⟨rfl, rfl⟩]; exact d3) (by rw [gL_pI, gL_pL, if_pos ⟨rfl, rfl⟩])
    exact hok (nm, cn, -1) t2 _ (by unfold persS; rw [e1, pb_inl, e2, pb_inl, if_neg (by rw [q8]; exact Bool.false_ne_true)]) (kz.up (fun a k => SPe_SRd)) (Tw.w (by omega)) z1 z2
  · have q8 := bt q8
    refine m_token Tw.1 Tw.2.1.1 Tw.2.2 (fun s17 g1 g2 _ => ?_)
    have k17 := kw.tr (g1.up spu)
    have l44 : gL s17 m 44 = cn := by rw [g1.gl (by unfold Sp; omega), gL_pL, if_neg (by omega), gL_pL, if_neg (by omega)]; exact d3
    rw [l44]
    refine m_date (R := (aL P.1, [], [], [], [], aS P.1, 0)) g2 (lnd s17 k17) (by rw [k17.gi n18]; exact c18.1) c18.2 hk ⟨fun di t4 s19 e4 h1 h2 h3 => ⟨fun w => (by cases w), fun _ => ?_⟩, fun k pl σ' e c1 c2 c3 => ⟨fun _ => bad k pl σ' (by unfold persS; rw [e1, pb_inl, e2, pb_inl, if_pos q8]; show pb (dateS b n (aL P.1) cn (adv b n t2)) _ = _; rw [show dateS b n (aL P.1) cn (adv b n t2) = _ from e]; rfl) (k17.tr (c1.up sdu)) c2 c3, fun w => absurd rfl w⟩⟩
    have e4 : dateS b n (aL P.1) cn (adv b n t2) = .inl (di, t4) := e4
    have k19 := k17.tr (h1.up sdu)
    have h3 : gL s19 m 44 = di := h3
    have ex2 : Int32.ofNat 6 + gI s19 m 20 = Int32.ofNat (6 + ln) := by rw [k19.gi n20, c20]; exact nat_a (p := 6) (by omega)
    have i20 : gI s19 m 20 + 1 = Int32.ofNat (ln + 1) := by rw [k19.gi n20, c20, nat_s (by omega)]
    rw [ex2, nat_c (by omega), i20]
    refine ⟨nat_v (by omega) (by omega), ?_⟩
    have kz : Ch (SPe m ln) σ (pI (pL s19 (m + 11) (6 + ln) (gL s19 m 44)) m 20 (Int32.ofNat (ln + 1))) := ((k19.l (Or.inr ⟨Or.inr (Or.inr rfl), rfl⟩)).up (fun a k q => Or.inl q)).i (Or.inr ⟨rfl, rfl⟩)
    obtain ⟨z1, z2⟩ := put _ (nm, cn, di) q kz (by simp [gI_pI]) (by rw [pIo (by omega), gI_pL, h1.gi (by unfold Sd Sp; omega), g1.gi (by unfold Sp; omega), gI_pL, gI_pL]; exact nm8) (by rw [gL_pI, gL_pL, if_neg (by omega), h1.gl (by unfold Sd Sp; omega), g1.gl (by unfold Sp; omega), gL_pL, if_neg (by omega), gL_pL, if_pos ⟨rfl, rfl⟩]; exact d3) (by rw [gL_pI, gL_pL, if_pos ⟨rfl, rfl⟩]; exact h3)
    exact hok (nm, cn, di) t4 _ (by unfold persS; rw [e1, pb_inl, e2, pb_inl, if_pos q8, e4, pb_inl]) (kz.up (fun a k => SPe_SRd)) ((h2.l).w (by omega)) z1 z2
