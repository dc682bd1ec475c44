set_option maxRecDepth 100000
theorem nat_m {p q : Nat} (h : p * q ≤ 2147483647) (hp : p ≤ 2147483647) (hq : q ≤ 2147483647) : Int32.ofNat p * Int32.ofNat q = Int32.ofNat (p * q) := by
  rw [i2_eq, nat_i h, i3_mul (nat_i hp) (nat_i hq) (by rw [← Int.natCast_mul]; omega) (by rw [← Int.natCast_mul]; omega), Int.natCast_mul]
theorem MT.w {m : Nat} {b : Nat → Int32} {n : Nat} {σ : Hp} {t : Tok} {a k : Nat} {v : Int32} (h : MT m b n σ t) (ha : m + 3 ≤ a ∨ (a = m ∧ 11 ≤ k)) : MT m b n (pI σ a k v) t :=
  ⟨h.1.fr (fun a k q => pIo (by omega)), ⟨by rw [pIo (by omega)]; exact h.2.1.1, by rw [pIo (by omega)]; exact h.2.1.2.1, by rw [pIo (by omega)]; exact h.2.1.2.2.1, fun q1 q2 => by rw [pIo (by omega)]; exact h.2.1.2.2.2 q1 q2⟩, h.2.2⟩
theorem SLa_SRd {m ln a k : Nat} (h : SLa m ln a k) : SRd m a k := by
  rcases h with h | ⟨rfl, rfl⟩ | ⟨rfl, rfl⟩ | ⟨rfl, h1, h2⟩
  · exact Sp_SRd h
  · exact Or.inl ⟨rfl, by omega⟩
  · exact Or.inr (Or.inr (Or.inl ⟨rfl, by omega⟩))
  · exact Or.inr (Or.inr (Or.inr (Or.inl ⟨rfl, by omega⟩)))
theorem m_newN {m : Nat} {b : Nat → Int32} {n a0 n0 fr ln : Nat} {names : List Int32} {σ : Hp} {t : Tok} {S : Nat → Nat → Prop} {Q : Int32 → Hp → Prop} (hn : names.length = ln) (h : MT m b n σ t) (hN : ∀ i y, names[i]? = some y → gI σ a0 (fr + i) = y) (hl : fr + ln < n0) (hb : n0 ≤ 1000) (ha : m + 3 ≤ a0) (hS : ∀ a k, Sp m a k ∨ (a = a0 ∧ k = fr + ln) → S a k) (hg : MG m b n S σ (frS b n names t) (fun v σ' => gI σ' a0 (fr + ln) = v) Q) : wp_X6_newName m σ a0 n0 (Int32.ofNat fr) (Int32.ofNat ln) Q := by
  subst hn
  exact m_newName h hN hl hb ha ⟨fun v t' σ' e c1 c2 c3 => hg.1 v t' σ' e (c1.up hS) c2 c3, fun k pl σ' e c1 c2 c3 => hg.2 k pl σ' e (c1.up hS) c2 c3⟩
theorem usSp {m u : Nat} {R : RlA} {a k : Nat} (q : US m u R a k) : ¬ Sp m a k := q.by (fun k _ _ => by unfold Sp; omega) (fun k _ _ => by unfold Sp; omega) (fun k _ _ => by unfold Sp; omega) (fun k _ _ => by unfold Sp; omega) (fun k _ _ => by unfold Sp; omega) (fun k _ _ => by unfold Sp; omega) (fun k _ _ => by unfold Sp; omega) (fun k _ _ => by unfold Sp; omega) (fun k _ _ => by unfold Sp; omega) (fun k _ _ => by unfold Sp; omega)
theorem MRl.sp {m u : Nat} {σ σ' : Hp} {R : RlA} (h : MRl m u σ R) (hc : Ch (Sp m) σ σ') : MRl m u σ' R := h.fr (fun a k q => ⟨hc.gi (usSp q), hc.gl (usSp q)⟩)
def SLb (m ln a k : Nat) : Prop := Sp m a k ∨ (a = m + 4 ∧ k = 4 + ln) ∨ (a = m + 5 ∧ 12 + 3 * ln ≤ k ∧ k < 15 + 3 * ln)
theorem SLb_a {m ln a k : Nat} (h : SLb m ln a k) : SLa m ln a k := by
  rcases h with h | h | h
  · exact Or.inl h
  · exact Or.inr (Or.inr (Or.inl h))
  · exact Or.inr (Or.inr (Or.inr h))
theorem m_land {m : Nat} {b : Nat → Int32} {n : Nat} {σ : Hp} {P : PSt} {t : Tok} {Q : Int32 → Hp → Prop} (hT : MT m b n σ t) (hR : MRl m 1 σ P.1) (hC : MC m σ P) (hx : MLn m b n σ (if (aL P.1).length = 4 then .inr (2, tPl t) else landS b n (nms1 P.1) (adv b n t)) (fun v => (putL P.1 v, P.2)) Q) : wp_X6_landLine m σ Q := by
  obtain ⟨hok, hbad⟩ := hx
  have c18 := hC.1.1
  have cl := hC.1.2
  have put := fun (σ' : Hp) (x : LandA) => m_putL (σ' := σ') (x := x) hR hC
  generalize hln : (aL P.1).length = ln at *
  unfold wp_X6_landLine
  rw [c18, show (4 : Int32) = Int32.ofNat 4 from rfl, nat_e (by omega) (by omega)]
  refine ⟨fun q => ?_, fun q => ?_⟩
  · rw [if_pos q] at hbad
    exact m_wrong hT (fun _ _ q => Sp_SRd q) (fun σ' c1 c2 c3 => hbad _ _ σ' rfl c1 c2 c3)
  rw [if_neg q] at hok hbad
  have bad : ∀ k pl σ', landS b n (nms1 P.1) (adv b n t) = .inr (k, pl) → Ch (SLb m ln) σ σ' → gI σ' m 4 = k → gI σ' m 5 = Int32.ofNat pl → Q 0 σ' := fun k pl σ' e c1 c2 c3 => hbad k pl σ' e (c1.up (fun a k q => SLa_SRd (SLb_a q))) c2 c3
  have spu : ∀ a k, Sp m a k → SLb m ln a k := fun a k q => Or.inl q
  have n18 : ¬ SLb m ln m 18 := by unfold SLb Sp; omega
  refine m_token hT.1 hT.2.1.1 hT.2.2 (fun s2 a1 a2 _ => ?_)
  have k2 : Ch (SLb m ln) σ s2 := a1.up spu
  have R2 := hR.sp a1
  have nl : (nms1 P.1).length = ln := by unfold nms1; rw [List.length_map]; exact hln
  rw [k2.gi n18, c18]
  refine m_newN (fr := 4) nl a2 (mnms1 R2) (by omega) (by omega) (by omega) (S := SLb m ln) (fun a k q => q.elim Or.inl (fun q => Or.inr (Or.inl q))) ⟨fun nm t1 s4 e1 b1 b2 b3 => ⟨fun w => (by cases w), fun _ => ?_⟩, fun k pl σ' e c1 c2 c3 => ⟨fun _ => bad k pl σ' (by unfold landS; rw [e]; rfl) (k2.tr c1) c2 c3, fun w => absurd rfl w⟩⟩
  have k4 := k2.tr b1
  have ex0 : (12 : Int32) + 3 * gI s4 m 18 = Int32.ofNat (12 + 3 * ln) := by
    rw [k4.gi n18, c18, show (3 : Int32) = Int32.ofNat 3 from rfl, nat_m (by omega) (by omega) (by omega), show (12 : Int32) = Int32.ofNat 12 from rfl, nat_a (by omega)]
  have ex1 : Int32.ofNat (12 + 3 * ln) + 1 = Int32.ofNat (12 + 3 * ln + 1) := nat_s (by omega)
  have ex2 : Int32.ofNat (12 + 3 * ln) + 2 = Int32.ofNat (12 + 3 * ln + 2) := nat_a (q := 2) (by omega)
  rw [ex0, ex1, ex2, nat_c (by omega), nat_c (by omega), nat_c (by omega)]
  refine m_number b2 ⟨fun len t2 s8 e2 d1 d2 d3 => ⟨fun w => (by cases w), fun _ => ⟨nat_v (by omega) (by omega), ?_⟩⟩, fun k pl σ' e c1 c2 c3 => ⟨fun _ => bad k pl σ' (by unfold landS; rw [e1, pb_inl, e]; rfl) (k4.tr (c1.up spu)) c2 c3, fun w => absurd rfl w⟩⟩
  have k8 := k4.tr (d1.up spu)
  have k9 : Ch (SLb m ln) σ (pI s8 (m + 5) (12 + 3 * ln) (gI s8 m 11)) := k8.i (Or.inr (Or.inr ⟨rfl, by omega, by omega⟩))
  have d3 : gI s8 m 11 = len := d3
  refine m_signed (d2.w (by omega)) ⟨fun g t3 s13 e3 f1 f2 f3 => ⟨fun w => (by cases w), fun _ => ⟨nat_v (by omega) (by omega), nat_v (by omega) (by omega), ?_⟩⟩, fun k pl σ' e c1 c2 c3 => ⟨fun _ => bad k pl σ' (by unfold landS; rw [e1, pb_inl, e2, pb_inl, e]; rfl) (k9.tr (c1.up spu)) c2 c3, fun w => absurd rfl w⟩⟩
  have k13 := k9.tr (f1.up spu)
  have f3 : gI s13 m 11 = g := f3
  have kw : Ch (SLb m ln) σ (pI (pI s13 (m + 5) (12 + 3 * ln + 1) (gI s13 m 11)) (m + 5) (12 + 3 * ln + 2) 0) := (k13.i (Or.inr (Or.inr ⟨rfl, by omega, by omega⟩))).i (Or.inr (Or.inr ⟨rfl, by omega, by omega⟩))
  have Tw : MT m b n (pI (pI s13 (m + 5) (12 + 3 * ln + 1) (gI s13 m 11)) (m + 5) (12 + 3 * ln + 2) 0) t3 := (f2.w (by omega)).w (by omega)
  have w0 : gI s13 (m + 4) (4 + ln) = nm := by rw [f1.gi (by unfold Sp; omega), pIo (by omega), d1.gi (by unfold Sp; omega)]; exact b3
  have w1 : gI s13 (m + 5) (12 + 3 * ln) = len := by rw [f1.gi (by unfold Sp; omega), gI_pI, if_pos ⟨rfl, rfl⟩, d3]
  rw [mkey Tw.2.1]
  refine ⟨fun q8 => ?_, fun q8 => ?_⟩
  · have i18 : gI s13 m 18 + 1 = Int32.ofNat (ln + 1) := by rw [k13.gi n18, c18, nat_s (by omega)]
    rw [i18]
    have kz : Ch (SLa m ln) σ (pI (pI (pI s13 (m + 5) (12 + 3 * ln + 1) (gI s13 m 11)) (m + 5) (12 + 3 * ln + 2) 0) m 18 (Int32.ofNat (ln + 1))) := (kw.up (fun a k => SLb_a)).i (Or.inr (Or.inl ⟨rfl, rfl⟩))
    obtain ⟨z1, z2⟩ := put _ (nm, len, g, 0) q kz (by simp [gI_pI]) (by rw [pIo (by omega), pIo (by omega), pIo (by omega)]; exact w0) (by rw [pIo (by omega), pIo (by omega), pIo (by omega)]; exact w1) (by rw [pIo (by omega), pIo (by omega), gI_pI, if_pos ⟨rfl, rfl⟩]; exact f3) (by rw [pIo (by omega), gI_pI, if_pos ⟨rfl, rfl⟩])
    exact hok (nm, len, g, 0) t3 _ (by unfold landS; rw [e1, pb_inl, e2, pb_inl, e3, pb_inl, if_neg (by rw [q8]; exact Bool.false_ne_true)]) (kz.up (fun a k => SLa_SRd)) (Tw.w (by omega)) z1 z2
  · have q8 := bt q8
    refine m_token Tw.1 Tw.2.1.1 Tw.2.2 (fun s22 g1 g2 _ => ?_)
    have k22 := kw.tr (g1.up spu)
    refine m_number g2 ⟨fun f t4 s24 e4 h1 h2 h3 => ⟨fun w => (by cases w), fun _ => ⟨nat_v (by omega) (by omega), ?_⟩⟩, fun k pl σ' e c1 c2 c3 => ⟨fun _ => bad k pl σ' (by unfold landS; rw [e1, pb_inl, e2, pb_inl, e3, pb_inl, if_pos q8, e]; rfl) (k22.tr (c1.up spu)) c2 c3, fun w => absurd rfl w⟩⟩
    have k24 := k22.tr (h1.up spu)
    have h3 : gI s24 m 11 = f := h3
    have i18 : gI s24 m 18 + 1 = Int32.ofNat (ln + 1) := by rw [k24.gi n18, c18, nat_s (by omega)]
    rw [i18]
    have kz : Ch (SLa m ln) σ (pI (pI s24 (m + 5) (12 + 3 * ln + 2) (gI s24 m 11)) m 18 (Int32.ofNat (ln + 1))) := ((k24.i (Or.inr (Or.inr ⟨rfl, by omega, by omega⟩))).up (fun a k => SLb_a)).i (Or.inr (Or.inl ⟨rfl, rfl⟩))
    have st : ∀ a k, m + 3 ≤ a → gI s24 a k = gI (pI (pI s13 (m + 5) (12 + 3 * ln + 1) (gI s13 m 11)) (m + 5) (12 + 3 * ln + 2) 0) a k := fun a k ha => by rw [h1.gi (by unfold Sp; omega), g1.gi (by unfold Sp; omega)]
    obtain ⟨z1, z2⟩ := put _ (nm, len, g, f) q kz (by simp [gI_pI]) (by rw [pIo (by omega), pIo (by omega), st _ _ (by omega), pIo (by omega), pIo (by omega)]; exact w0) (by rw [pIo (by omega), pIo (by omega), st _ _ (by omega), pIo (by omega), pIo (by omega)]; exact w1) (by rw [pIo (by omega), pIo (by omega), st _ _ (by omega), pIo (by omega), gI_pI, if_pos ⟨rfl, rfl⟩]; exact f3) (by rw [pIo (by omega), gI_pI, if_pos ⟨rfl, rfl⟩]; exact h3)
    exact hok (nm, len, g, f) t4 _ (by unfold landS; rw [e1, pb_inl, e2, pb_inl, e3, pb_inl, if_pos q8, e4, pb_inl]) (kz.up (fun a k => SLa_SRd)) ((h2.w (by omega)).w (by omega)) z1 z2
