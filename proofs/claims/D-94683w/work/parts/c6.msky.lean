set_option maxRecDepth 100000
/-- all but the sky stands -/
theorem MRl.frS {m u : Nat} {σ σ' : Hp} {R : RlA} {s : Nat → Int32} (h : MRl m u σ R) (hf : ∀ a k, US m u R a k → a ≠ m + 3 → gI σ' a k = gI σ a k ∧ gL σ' a k = gL σ a k) (hs : ∀ j, j < 7 → gI σ' (m + 3) (7 * u + j) = s j) : MRl m u σ' (putS R s) := by
  obtain ⟨h1, h2, h3, h4, h5, h6⟩ := h
  have fi : ∀ a k, US m u R a k → a ≠ m + 3 → gI σ' a k = gI σ a k := fun a k q w => (hf a k q w).1
  have fl : ∀ a k, US m u R a k → a ≠ m + 3 → gL σ' a k = gL σ a k := fun a k q w => (hf a k q w).2
  refine ⟨fun i x hi => ?_, fun i x hi => ?_, fun i x hi => ?_, fun i x hi => ?_, fun i x hi => ?_, hs⟩
  · have hi : (aL R)[i]? = some x := hi
    have := get_lt hi
    rw [fi _ _ (us1 (by omega) (by omega)) (by omega), fi _ _ (us2 (by omega) (by omega)) (by omega), fi _ _ (us2 (by omega) (by omega)) (by omega), fi _ _ (us2 (by omega) (by omega)) (by omega)]
    exact h1 i x hi
  · have hi : (aF R)[i]? = some x := hi
    have := get_lt hi
    obtain ⟨q1, a, e, q2, q3, q4, q5⟩ := h2 i x hi
    rw [fi _ _ (us3 (by omega) (by omega) (by omega)) (by omega), fi _ _ (us3 (by omega) (by omega) (by omega)) (by omega), fi _ _ (us3 (by omega) (by omega) (by omega)) (by omega)]
    refine ⟨q1, a, e, q2, q3, q4, q5.cg (fun j j1 j2 => ?_)⟩
    unfold kN kP kO
    exact ⟨fi _ _ (us10 (by omega) (by omega) (by omega)) (by omega), fi _ _ (us10 (by omega) (by omega) (by omega)) (by omega), fi _ _ (us10 (by omega) (by omega) (by omega)) (by omega)⟩
  · have hi : (aP R)[i]? = some x := hi
    have := get_lt hi
    rw [fi _ _ (us4 (by omega) (by omega) (by omega)) (by omega), fl _ _ (us4 (by omega) (by omega) (by omega)) (by omega), fl _ _ (us4 (by omega) (by omega) (by omega)) (by omega)]
    exact h3 i x hi
  · have hi : (aD R)[i]? = some x := hi
    have := get_lt hi
    rw [fi _ _ (us5 (by omega) (by omega) (by omega)) (by omega), fl _ _ (us5 (by omega) (by omega) (by omega)) (by omega), fi _ _ (us6 (by omega) (by omega)) (by omega), fi _ _ (us6 (by omega) (by omega)) (by omega), fi _ _ (us6 (by omega) (by omega)) (by omega)]
    exact h4 i x hi
  · have hi : (aN R)[i]? = some x := hi
    have := get_lt hi
    rw [fi _ _ (us7 (by omega) (by omega)) (by omega)]
    exact ⟨(h5 i x hi).1, (h5 i x hi).2.fr (fun k q1 q2 => fi _ _ (us8 (by omega) (by omega)) (by omega))⟩
/-- what a line of the sky writes: flag fl, places from lo up to hi -/
def SSk (m fl lo hi a k : Nat) : Prop := Sp m a k ∨ (a = m ∧ k = fl) ∨ (a = m + 3 ∧ lo ≤ k ∧ k < hi)
theorem SSk_SRd {m fl lo hi a k : Nat} (h1 : 25 ≤ fl ∧ fl ≤ 27) (h2 : 7 ≤ lo) (h : SSk m fl lo hi a k) : SRd m a k := by
  rcases h with h | ⟨rfl, rfl⟩ | ⟨rfl, h3, h4⟩
  · exact Sp_SRd h
  · exact Or.inl ⟨rfl, by omega⟩
  · exact Or.inr (Or.inl ⟨rfl, by omega⟩)
theorem m_putS {m fl lo hi : Nat} {σ σ' : Hp} {P : PSt} {s : Nat → Int32} {w mo su : Bool} (h : MRl m 1 σ P.1) (hC : MC m σ P) (hfl : 25 ≤ fl ∧ fl ≤ 27) (hc : Ch (SSk m fl lo hi) σ σ') (hs : ∀ j, j < 7 → gI σ' (m + 3) (7 + j) = s j) (q25 : gI σ' m 25 = bI w) (q26 : gI σ' m 26 = bI mo) (q27 : gI σ' m 27 = bI su) : MRl m 1 σ' (putS P.1 s) ∧ MC m σ' (putS P.1 s, w, mo, su) := by
  have hu : ∀ a k, US m 1 P.1 a k → a ≠ m + 3 → ¬ SSk m fl lo hi a k := fun a k q h3 z => by
    have hn := usSp q
    rcases z with z | ⟨z, z2⟩ | z
    · exact hn z
    · have : ¬ (fun a k => a = m) a k := q.by (S := fun a _ => a = m) (fun k _ _ => by omega) (fun k _ _ => by omega) (fun k _ _ => by omega) (fun k _ _ => by omega) (fun k _ _ => by omega) (fun k _ _ => by omega) (fun k _ _ => by omega) (fun k _ _ => by omega) (fun k _ _ => by omega) (fun k _ _ => by omega)
      exact this z
    · exact h3 z.1
  obtain ⟨c1, c2, c3, c4, c5, c6, c7, c8, c9⟩ := hC
  have f : ∀ k, k ≠ fl → 12 ≤ k → gI σ' m k = gI σ m k := fun k q1 q2 => hc.gi (by unfold SSk Sp; omega)
  refine ⟨h.frS (fun a k q w => ⟨hc.gi (hu a k q w), hc.gl (hu a k q w)⟩) hs, ?_, ?_, ?_, ?_, ?_, ?_, q25, q26, q27⟩
  · rw [f _ (by omega) (by omega)]; exact c1
  · rw [f _ (by omega) (by omega)]; exact c2
  · rw [f _ (by omega) (by omega)]; exact c3
  · rw [f _ (by omega) (by omega)]; exact c4
  · rw [f _ (by omega) (by omega)]; exact c5
  · rw [f _ (by omega) (by omega), f _ (by omega) (by omega)]; exact c6
theorem m_round {m kk : Nat} {b : Nat → Int32} {n : Nat} {σ : Hp} {t : Tok} {Q : Int32 → Hp → Prop} (hkk : kk ≤ 12) (hT : MT m b n σ t) (hg : MG m b n (fun a k => Sp m a k ∨ (a = m + 3 ∧ kk ≤ k ∧ k < kk + 2)) σ (roundS b n t) (fun v σ' => gI σ' (m + 3) kk = v.1 ∧ gI σ' (m + 3) (kk + 1) = v.2) Q) : wp_X6_roundRead m σ (Int32.ofNat kk) Q := by
  obtain ⟨g1, g2⟩ := hg
  have spu : ∀ a k, Sp m a k → (Sp m a k ∨ (a = m + 3 ∧ kk ≤ k ∧ k < kk + 2)) := fun a k q => Or.inl q
  unfold wp_X6_roundRead
  refine m_number hT ⟨fun x t1 s1 e1 a1 a2 a3 => ⟨fun w => (by cases w), fun _ => ⟨nat_v (by omega) (by omega), nat_v (by omega) (by omega), ?_⟩⟩, fun k pl σ' e c1 c2 c3 => ⟨fun _ => g2 k pl σ' (by unfold roundS; rw [e]; rfl) (c1.up spu) c2 c3, fun w => absurd rfl w⟩⟩
  have a3 : gI s1 m 11 = x := a3
  rw [nat_c (by omega), gI_pI, if_pos ⟨rfl, rfl⟩, a3]
  have kw : Ch (fun a k => Sp m a k ∨ (a = m + 3 ∧ kk ≤ k ∧ k < kk + 2)) σ (pI s1 (m + 3) kk x) := (a1.up spu).i (Or.inr ⟨rfl, by omega, by omega⟩)
  have go : ∀ hi, hi = byOf x → wj_X6_roundRead_53 m (pI s1 (m + 3) kk x) (Int32.ofNat kk) hi Q := by
    intro hi hh
    subst hh
    unfold wj_X6_roundRead_53
    rw [nat_s (by omega), nat_c (by omega)]
    refine m_number (a2.w (by omega)) ⟨fun y t2 s9 e2 b1 b2 b3 => ⟨fun w => (by cases w), fun _ => ⟨nat_v (by omega) (by omega), ?_⟩⟩, fun k pl σ' e c1 c2 c3 => ⟨fun _ => g2 k pl σ' (by unfold roundS; rw [e1, pb_inl, e]; rfl) (kw.tr (c1.up spu)) c2 c3, fun w => absurd rfl w⟩⟩
    exact g1 (x, y) t2 _ (by unfold roundS; rw [e1, pb_inl, e2]; rfl) ((kw.tr (b1.up spu)).i (Or.inr ⟨rfl, by omega, by omega⟩)) (b2.w (by omega)) ⟨by rw [pIo (by omega), b1.gi (by unfold Sp; omega), gI_pI, if_pos ⟨rfl, rfl⟩], by rw [gI_pI, if_pos ⟨rfl, rfl⟩]; exact b3⟩
  have hby : (99 : Int32) ≤ x / 8 ↔ ¬ x / 8 < 99 := by rw [i2_le, i2_lt]; omega
  refine ⟨fun w => go 99 ?_, fun w => ⟨nat_v (by omega) (by omega), go _ ?_⟩⟩
  · unfold byOf
    rw [if_neg (hby.mp w)]
  · unfold byOf
    rw [if_pos (Classical.byContradiction (fun z => w (hby.mpr z)))]
theorem m_sun {m : Nat} {b : Nat → Int32} {n : Nat} {σ : Hp} {P : PSt} {t : Tok} {Q : Int32 → Hp → Prop} (hT : MT m b n σ t) (hR : MRl m 1 σ P.1) (hC : MC m σ P) (hx : MLn m b n σ (if P.2.2.2 = true then .inr (3, tPl t) else roundS b n (adv b n t)) (fun x => (putS P.1 (up1 (up1 (aS P.1) 5 x.1) 6 x.2), P.2.1, P.2.2.1, true)) Q) : wp_X6_sunLine m σ Q := by
  obtain ⟨hok, hbad⟩ := hx
  have c27 := hC.2.2.2.2.2.2.2.2
  unfold wp_X6_sunLine
  rw [c27, bI_0]
  refine ⟨fun q => ?_, fun q => ?_⟩
  · rw [if_neg (by rw [q]; exact Bool.false_ne_true)] at hok hbad
    have c0 : Ch (SSk m 27 12 14) σ (pI σ m 27 1) := Ch.rf.i (Or.inr (Or.inl ⟨rfl, rfl⟩))
    have T0 : MT m b n (pI σ m 27 1) t := hT.w (by omega)
    refine m_token T0.1 T0.2.1.1 T0.2.2 (fun s2 a1 a2 _ => ?_)
    have k2 := c0.tr (a1.up (fun a k q => Or.inl q))
    refine m_round (kk := 12) (by omega) a2 ⟨fun v t' σ' e c1 c2 c3 => ⟨Or.inr rfl, ?_⟩, fun k pl σ' e c1 c2 c3 => ⟨Or.inl rfl, hbad k pl σ' e ((k2.tr (c1.up (fun a k q => q.elim Or.inl (fun q => Or.inr (Or.inr q))))).up (fun a k => SSk_SRd (by omega) (by omega))) c2 c3⟩⟩
    have kz := k2.tr (c1.up (S' := SSk m 27 12 14) (fun a k q => q.elim Or.inl (fun q => Or.inr (Or.inr q))))
    have f : ∀ k, k ≠ 27 → 12 ≤ k → gI σ' m k = gI σ m k := fun k q1 q2 => kz.gi (by unfold SSk Sp; omega)
    have q27 : gI σ' m 27 = bI true := by
      rw [c1.gi (by unfold Sp; omega), a1.gi (by unfold Sp; omega), gI_pI, if_pos ⟨rfl, rfl⟩]; rfl
    obtain ⟨z1, z2⟩ := m_putS (s := up1 (up1 (aS P.1) 5 v.1) 6 v.2) (w := P.2.1) (mo := P.2.2.1) (su := true) hR hC (by omega) kz (fun j hj => by
      by_cases j5 : j = 5
      · subst j5; simp [up1]; exact c3.1
      by_cases j6 : j = 6
      · subst j6; simp [up1]; exact c3.2
      simp only [up1, if_neg j5, if_neg j6]
      rw [kz.gi (by unfold SSk Sp; omega)]
      exact hR.2.2.2.2.2 j hj) (by rw [f _ (by omega) (by omega)]; exact hC.2.2.2.2.2.2.1) (by rw [f _ (by omega) (by omega)]; exact hC.2.2.2.2.2.2.2.1) q27
    exact hok v t' σ' e (kz.up (fun a k => SSk_SRd (by omega) (by omega))) c2 z1 z2
  · rw [if_pos (bt q)] at hbad
    exact m_wrong hT (fun _ _ q => Sp_SRd q) (fun σ' c1 c2 c3 => hbad _ _ σ' rfl c1 c2 c3)
theorem m_week {m : Nat} {b : Nat → Int32} {n : Nat} {σ : Hp} {P : PSt} {t : Tok} {Q : Int32 → Hp → Prop} (hT : MT m b n σ t) (hR : MRl m 1 σ P.1) (hC : MC m σ P) (hx : MLn m b n σ (if P.2.1 = true then .inr (3, tPl t) else weekS b n (adv b n t)) (fun x => (putS P.1 (up1 (up1 (aS P.1) 0 x.1) 1 x.2), true, P.2.2.1, P.2.2.2)) Q) : wp_X6_weekLine m σ Q := by
  obtain ⟨hok, hbad⟩ := hx
  have c25 := hC.2.2.2.2.2.2.1
  unfold wp_X6_weekLine
  rw [c25, bI_0]
  refine ⟨fun q => ?_, fun q => ?_⟩
  · rw [if_neg (by rw [q]; exact Bool.false_ne_true)] at hok hbad
    have spu : ∀ a k, Sp m a k → SSk m 25 7 9 a k := fun a k q => Or.inl q
    have bad : ∀ k pl σ', weekS b n (adv b n t) = .inr (k, pl) → Ch (SSk m 25 7 9) σ σ' → gI σ' m 4 = k → gI σ' m 5 = Int32.ofNat pl → Q 0 σ' := fun k pl σ' e c1 c2 c3 => hbad k pl σ' e (c1.up (fun a k => SSk_SRd (by omega) (by omega))) c2 c3
    have c0 : Ch (SSk m 25 7 9) σ (pI σ m 25 1) := Ch.rf.i (Or.inr (Or.inl ⟨rfl, rfl⟩))
    have T0 : MT m b n (pI σ m 25 1) t := hT.w (by omega)
    refine m_token T0.1 T0.2.1.1 T0.2.2 (fun s2 a1 a2 _ => ?_)
    have k2 := c0.tr (a1.up spu)
    refine m_number a2 ⟨fun x t1 s4 e1 b1 b2 b3 => ⟨fun w => (by cases w), fun _ => ?_⟩, fun k pl σ' e c1 c2 c3 => ⟨fun _ => bad k pl σ' (by unfold weekS; rw [e]; rfl) (k2.tr (c1.up spu)) c2 c3, fun w => absurd rfl w⟩⟩
    have b3 : gI s4 m 11 = x := b3
    rw [gI_pI, if_pos ⟨rfl, rfl⟩, b3]
    have k4 : Ch (SSk m 25 7 9) σ (pI s4 (m + 3) 7 x) := (k2.tr (b1.up spu)).i (Or.inr (Or.inr ⟨rfl, by omega, by omega⟩))
    refine m_number (b2.w (by omega)) ⟨fun y t2 s8 e2 d1 d2 d3 => ⟨fun w => (by cases w), fun _ => ?_⟩, fun k pl σ' e c1 c2 c3 => ⟨fun _ => bad k pl σ' (by unfold weekS; rw [e1, pb_inl, e]; rfl) (k4.tr (c1.up spu)) c2 c3, fun w => absurd rfl w⟩⟩
    have d3 : gI s8 m 11 = y := d3
    rw [d3]
    have k8 := k4.tr (d1.up spu)
    have kz : Ch (SSk m 25 7 9) σ (pI s8 (m + 3) 8 y) := k8.i (Or.inr (Or.inr ⟨rfl, by omega, by omega⟩))
    have f : ∀ k, k ≠ 25 → 12 ≤ k → gI (pI s8 (m + 3) 8 y) m k = gI σ m k := fun k q1 q2 => kz.gi (by unfold SSk Sp; omega)
    have q25 : gI (pI s8 (m + 3) 8 y) m 25 = bI true := by
      rw [pIo (by omega), d1.gi (by unfold Sp; omega), pIo (by omega), b1.gi (by unfold Sp; omega), a1.gi (by unfold Sp; omega), gI_pI, if_pos ⟨rfl, rfl⟩]; rfl
    obtain ⟨z1, z2⟩ := m_putS (s := up1 (up1 (aS P.1) 0 x) 1 y) (w := true) (mo := P.2.2.1) (su := P.2.2.2) hR hC (by omega) kz (fun j hj => by
      by_cases j5 : j = 0
      · subst j5; rw [pIo (by omega), d1.gi (by unfold Sp; omega), gI_pI, if_pos ⟨rfl, rfl⟩]; rfl
      by_cases j6 : j = 1
      · subst j6; rw [gI_pI, if_pos ⟨rfl, rfl⟩]; rfl
      simp only [up1, if_neg j5, if_neg j6]
      rw [kz.gi (by unfold SSk Sp; omega)]
      exact hR.2.2.2.2.2 j hj) q25 (by rw [f _ (by omega) (by omega)]; exact hC.2.2.2.2.2.2.2.1) (by rw [f _ (by omega) (by omega)]; exact hC.2.2.2.2.2.2.2.2)
    exact hok (x, y) t2 _ (by unfold weekS; rw [e1, pb_inl, e2]; rfl) (kz.up (fun a k => SSk_SRd (by omega) (by omega))) (d2.w (by omega)) z1 z2
  · rw [if_pos (bt q)] at hbad
    exact m_wrong hT (fun _ _ q => Sp_SRd q) (fun σ' c1 c2 c3 => hbad _ _ σ' rfl c1 c2 c3)
theorem m_moon {m : Nat} {b : Nat → Int32} {n : Nat} {σ : Hp} {P : PSt} {t : Tok} {Q : Int32 → Hp → Prop} (hT : MT m b n σ t) (hR : MRl m 1 σ P.1) (hC : MC m σ P) (hx : MLn m b n σ (if P.2.2.1 = true then .inr (3, tPl t) else moonS b n (adv b n t)) (fun x => (putS P.1 (up1 (up1 (up1 (aS P.1) 2 x.1) 3 x.2.1) 4 x.2.2), P.2.1, true, P.2.2.2)) Q) : wp_X6_moonLine m σ Q := by
  obtain ⟨hok, hbad⟩ := hx
  have c26 := hC.2.2.2.2.2.2.2.1
  unfold wp_X6_moonLine
  rw [c26, bI_0]
  refine ⟨fun q => ?_, fun q => ?_⟩
  · rw [if_neg (by rw [q]; exact Bool.false_ne_true)] at hok hbad
    have spu : ∀ a k, Sp m a k → SSk m 26 9 12 a k := fun a k q => Or.inl q
    have bad : ∀ k pl σ', moonS b n (adv b n t) = .inr (k, pl) → Ch (SSk m 26 9 12) σ σ' → gI σ' m 4 = k → gI σ' m 5 = Int32.ofNat pl → Q 0 σ' := fun k pl σ' e c1 c2 c3 => hbad k pl σ' e (c1.up (fun a k => SSk_SRd (by omega) (by omega))) c2 c3
    have c0 : Ch (SSk m 26 9 12) σ (pI σ m 26 1) := Ch.rf.i (Or.inr (Or.inl ⟨rfl, rfl⟩))
    have T0 : MT m b n (pI σ m 26 1) t := hT.w (by omega)
    refine m_token T0.1 T0.2.1.1 T0.2.2 (fun s2 a1 a2 _ => ?_)
    have k2 := c0.tr (a1.up spu)
    have sru : ∀ a k, Sp m a k ∨ (a = m + 3 ∧ 9 ≤ k ∧ k < 9 + 2) → SSk m 26 9 12 a k := fun a k q => q.elim Or.inl (fun q => Or.inr (Or.inr ⟨q.1, q.2.1, by omega⟩))
    refine m_round (kk := 9) (by omega) a2 ⟨fun v t1 s4 e1 b1 b2 b3 => ⟨fun w => (by cases w), fun _ => ?_⟩, fun k pl σ' e c1 c2 c3 => ⟨fun _ => bad k pl σ' (by unfold moonS; rw [e]; rfl) (k2.tr (c1.up sru)) c2 c3, fun w => absurd rfl w⟩⟩
    have k4 := k2.tr (b1.up sru)
    rw [b3.1]
    refine m_number b2 ⟨fun y t2 s8 e2 d1 d2 d3 => ⟨fun w => (by cases w), fun _ => ?_⟩, fun k pl σ' e c1 c2 c3 => ⟨fun _ => bad k pl σ' (by unfold moonS; rw [e1, pb_inl, e]; rfl) (k4.tr (c1.up spu)) c2 c3, fun w => absurd rfl w⟩⟩
    have d3 : gI s8 m 11 = y := d3
    rw [d3]
    have k8 := k4.tr (d1.up spu)
    have kz : Ch (SSk m 26 9 12) σ (pI s8 (m + 3) 11 y) := k8.i (Or.inr (Or.inr ⟨rfl, by omega, by omega⟩))
    have f : ∀ k, k ≠ 26 → 12 ≤ k → gI (pI s8 (m + 3) 11 y) m k = gI σ m k := fun k q1 q2 => kz.gi (by unfold SSk Sp; omega)
    have q26 : gI (pI s8 (m + 3) 11 y) m 26 = bI true := by
      rw [pIo (by omega), d1.gi (by unfold Sp; omega), b1.gi (by unfold Sp; omega), a1.gi (by unfold Sp; omega), gI_pI, if_pos ⟨rfl, rfl⟩]; rfl
    obtain ⟨z1, z2⟩ := m_putS (s := up1 (up1 (up1 (aS P.1) 2 v.1) 3 v.2) 4 y) (w := P.2.1) (mo := true) (su := P.2.2.2) hR hC (by omega) kz (fun j hj => by
      by_cases j2 : j = 2
      · subst j2; rw [pIo (by omega), d1.gi (by unfold Sp; omega)]; exact b3.1
      by_cases j3 : j = 3
      · subst j3; rw [pIo (by omega), d1.gi (by unfold Sp; omega)]; exact b3.2
      by_cases j4 : j = 4
      · subst j4; rw [gI_pI, if_pos ⟨rfl, rfl⟩]; rfl
      simp only [up1, if_neg j2, if_neg j3, if_neg j4]
      rw [kz.gi (by unfold SSk Sp; omega)]
      exact hR.2.2.2.2.2 j hj) (by rw [f _ (by omega) (by omega)]; exact hC.2.2.2.2.2.2.1) q26 (by rw [f _ (by omega) (by omega)]; exact hC.2.2.2.2.2.2.2.2)
    exact hok (v.1, v.2, y) t2 _ (by unfold moonS; rw [e1, pb_inl, e2]; rfl) (kz.up (fun a k => SSk_SRd (by omega) (by omega))) (d2.w (by omega)) z1 z2
  · rw [if_pos (bt q)] at hbad
    exact m_wrong hT (fun _ _ q => Sp_SRd q) (fun σ' c1 c2 c3 => hbad _ _ σ' rfl c1 c2 c3)
