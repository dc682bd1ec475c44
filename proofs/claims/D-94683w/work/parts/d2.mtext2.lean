set_option maxRecDepth 100000
def STb (m a k : Nat) : Prop := SRd m a k ∨ (a = m ∧ (k = 1 ∨ k = 2 ∨ k = 6))
def STx (m a k : Nat) : Prop := STb m a k ∨ SKp m a k
theorem nSRd {m k : Nat} (h : ¬ (k = 4 ∨ k = 5 ∨ k = 7 ∨ k = 8 ∨ k = 9 ∨ k = 10 ∨ k = 11 ∨ (18 ≤ k ∧ k ≤ 23) ∨ (25 ≤ k ∧ k ≤ 27) ∨ k = 44 ∨ (47 ≤ k ∧ k ≤ 52))) : ¬ SRd m m k := by
  rintro (⟨_, q⟩ | ⟨q, _⟩ | ⟨q, _⟩ | ⟨q, _⟩ | ⟨q, _⟩ | ⟨q, _⟩ | ⟨q, _⟩ | ⟨q, _⟩ | ⟨q, _⟩ | ⟨q, _⟩ | ⟨q, _⟩ | q | q)
  · exact h q
  all_goals omega
theorem m_text {m : Nat} {b : Nat → Int32} {n fed : Nat} {σ : Hp} {Q : Int32 → Hp → Prop} (hn : n ≤ fed) (hf : fed ≤ 900) (h1 : gI σ m 1 = Int32.ofNat fed) (hb : ∀ i, i < n → 0 ≤ (b i).toInt ∧ (b i).toInt ≤ 255 ∧ gI σ (m + 1) i = b i) (hw : ∀ i, i < 118 → gI σ (m + 2) i = ws1.getD i 0)
    (hok : ∀ R ln σ', textS b n = .inl (R, ln) → Ch (STx m) σ σ' → MKd m σ' R → LsOk (aL R) → ln ≤ 900 → gI σ' m 1 = 0 → gI σ' m 2 = 0 → gI σ' m 4 = 0 → gI σ' m 5 = -1 → gI σ' m 58 = Int32.ofNat (aN R).length → gI σ' m 67 = 0 → gI σ' m 59 = 0 → gI σ' m 70 = 0 → Q (Int32.ofNat ln) σ')
    (hbad : ∀ k pl σ', textS b n = .inr (k, pl) → Ch (STb m) σ σ' → gI σ' m 1 = 0 → gI σ' m 2 = 0 → gI σ' m 4 = k → gI σ' m 5 = Int32.ofNat pl → Q (-1) σ') : wp_X6_text m σ (Int32.ofNat n) Q := by
  unfold wp_X6_text
  rw [h1, nat_le (by omega) (by omega)]
  refine ⟨fun q => absurd q (by rw [i3_lt (nat_i (by omega)) (y := 0) (by rfl)]; omega), fun _ => ⟨fun _ s3 hs => ?_, fun q => absurd hn q⟩⟩
  have k3 : Ch (STb m) σ s3 := by
    rw [hs]
    unfold f_X6_plain
    have i0 : ∀ k, k = 4 ∨ k = 5 ∨ k = 7 ∨ (18 ≤ k ∧ k ≤ 23) ∨ (25 ≤ k ∧ k ≤ 27) ∨ k = 50 → STb m m k := fun k q => Or.inl (Or.inl ⟨rfl, by omega⟩)
    have i3 : ∀ k, 7 ≤ k → STb m (m + 3) k := fun k q => Or.inl (Or.inr (Or.inl ⟨rfl, q⟩))
    have i1 : ∀ k, k = 1 ∨ k = 2 ∨ k = 6 → STb m m k := fun k q => Or.inr ⟨rfl, q⟩
    exact ((((((((((((((((((((((Ch.rf.i (i1 2 (by omega))).i (i1 6 (by omega))).i (i1 1 (by omega))).i (i0 4 (by omega))).i (i0 5 (by omega))).i (i0 7 (by omega))).i (i0 18 (by omega))).i (i0 19 (by omega))).i (i0 20 (by omega))).i (i0 21 (by omega))).i (i0 22 (by omega))).i (i0 23 (by omega))).i (i0 50 (by omega))).i (i0 25 (by omega))).i (i0 26 (by omega))).i (i0 27 (by omega))).i (i3 7 (by omega))).i (i3 8 (by omega))).i (i3 9 (by omega))).i (i3 10 (by omega))).i (i3 11 (by omega))).i (i3 12 (by omega))).i (i3 13 (by omega))
  have ne : ∀ r k, 0 < r → r ≠ 3 → gI s3 (m + r) k = gI σ (m + r) k := fun r k r0 r3 => by
    rw [hs]
    unfold f_X6_plain
    simp [gI_pI, r3, show r ≠ 0 by omega]
  have B3 : MTB m b n s3 := by
    refine ⟨?_, by omega, fun i hi => ?_, fun i hi => ?_, ?_, ?_⟩
    · rw [hs]; unfold f_X6_plain; simp [gI_pI]
    · rw [ne 1 i (by omega) (by omega)]; exact hb i hi
    · rw [ne 2 i (by omega) (by omega)]; exact hw i hi
    · rw [hs]; unfold f_X6_plain; simp [gI_pI]
    · rw [hs]; unfold f_X6_plain; simp [gI_pI]
  have C3 : MC m s3 (rl0, false, false, false) := by
    rw [hs]; unfold f_X6_plain
    refine ⟨⟨?_, Nat.zero_le _⟩, ⟨?_, Nat.zero_le _⟩, ⟨?_, Nat.zero_le _⟩, ⟨?_, Nat.zero_le _⟩, ⟨?_, Nat.zero_le _⟩, ⟨?_, ?_, Nat.zero_le _⟩, ?_, ?_, ?_⟩ <;> simp [gI_pI] <;> rfl
  have R3 : MRl m 1 s3 rl0 := by
    refine ⟨fun i x hi => (by cases hi), fun i x hi => (by cases hi), fun i x hi => (by cases hi), fun i x hi => (by cases hi), fun i x hi => (by cases hi), fun j hj => ?_⟩
    rw [hs]; unfold f_X6_plain
    rcases (show j = 0 ∨ j = 1 ∨ j = 2 ∨ j = 3 ∨ j = 4 ∨ j = 5 ∨ j = 6 by omega) with rfl | rfl | rfl | rfl | rfl | rfl | rfl <;> simp [gI_pI] <;> rfl
  have e1 : gI s3 m 1 = 0 := by rw [hs]; unfold f_X6_plain; simp [gI_pI]
  have e2 : gI s3 m 2 = 0 := by rw [hs]; unfold f_X6_plain; simp [gI_pI]
  have e7 : gI s3 m 7 = Int32.ofNat 0 := by rw [hs]; unfold f_X6_plain; simp [gI_pI]
  have hv0 : TV n (tk b n 0) := tv_tk (Nat.zero_le _)
  refine wp_token B3 e7 (Nat.zero_le _) (fun s7 c1 c2 => ?_)
  have cS : Ch (Sp m) s3 s7 := c1.up (fun a k => S4_Sp)
  have k7 : Ch (STb m) σ s7 := k3.tr (cS.up (fun a k q => Or.inl (Sp_SRd q)))
  obtain ⟨r, hr⟩ := tx_tot (b := b) ((rl0, false, false, false), 0, tk b n 0) hv0
  have hx : textS b n = r := rsOf_eq hr
  rw [hx] at hok hbad
  have sru : ∀ a k, SRd m a k → STb m a k := fun a k q => Or.inl q
  refine lp_rn (step := txStep b n) (fun S z => z.1 = Int32.ofNat S.2.1 ∧ Ch (STb m) σ z.2 ∧ gI z.2 m 1 = 0 ∧ gI z.2 m 2 = 0 ∧ MT m b n z.2 S.2.2 ∧ MRl m 1 z.2 S.1.1 ∧ MC m z.2 S.1 ∧ LsOk (aL S.1.1) ∧ S.2.1 ≤ tPl S.2.2) ?_ (s := ((rl0, false, false, false), 0, tk b n 0)) ⟨rfl, k7, by rw [cS.gi (by unfold Sp; omega)]; exact e1, by rw [cS.gi (by unfold Sp; omega)]; exact e2, ⟨B3.ch c1, c2, hv0⟩, R3.sp cS, C3.sp cS, fun x hx => (by cases hx), Nat.zero_le _⟩ hr
  rintro K ⟨P, ln, t⟩ ⟨x2, τ⟩ ⟨hx2, g1, g2, g3, g4, g5, g6, g7, g8⟩ hK hEn
  simp only at hx2 g1 g2 g3 g4 g5 g6 g7 g8
  subst hx2
  have hv := g4.2.2
  have hpl : tPl t ≤ n := by have := hv.1; have := hv.2.1; omega
  unfold lb_X6_text_55
  show (_ → _) ∧ (_ → _)
  rw [g4.2.1.2.2.1]
  refine ⟨fun k0 => ?_, fun k0 => ?_⟩
  · have es : txStep b n (P, ln, t) = .inr (.inl (P.1, ln)) := by unfold txStep; rw [if_pos k0]
    have nm : ∀ k, k < 12 → ¬ SKp m m k := fun k hk => by
      rintro (⟨_, q⟩ | ⟨r, q1, _, q2, _⟩) <;> omega
    exact m_keep g5 g6 (fun σ' d1 d2 d3 d4 d5 d6 => hok P.1 ln σ' (hEn _ es).symm ((g1.up (fun a k q => Or.inl q)).tr (d1.up (fun a k q => Or.inr q))) d2 g7 (by omega) (by rw [d1.gi (nm _ (by omega))]; exact g2) (by rw [d1.gi (nm _ (by omega))]; exact g3) (by rw [d1.gi (nm _ (by omega))]; exact g4.1.2.2.2.2.1) (by rw [d1.gi (nm _ (by omega))]; exact g4.1.2.2.2.2.2) d3 d4 d5 d6)
  · refine m_line g4 g5 g6 g7 ⟨fun P' t' σ' e d1 d2 d3 d4 => ⟨fun w => (by cases w), fun _ => ?_⟩, fun k pl σ' e d1 d2 d3 => ⟨fun _ => hbad k pl σ' ?_ (g1.tr (d1.up sru)) (by rw [d1.gi (nSRd (by omega))]; exact g2) (by rw [d1.gi (nSRd (by omega))]; exact g3) d2 d3, fun w => absurd rfl w⟩⟩
    · have es : txStep b n (P, ln, t) = .inl (P', ln + 1, t') := by
        unfold txStep
        rw [if_neg k0]
        simp only [e]
      have pg := (pg_line hv _ _ e).2
      rw [nat_s (by omega)]
      exact hK _ _ es ⟨rfl, g1.tr (d1.up sru), by show gI σ' m 1 = 0; rw [d1.gi (nSRd (by omega))]; exact g2, by show gI σ' m 2 = 0; rw [d1.gi (nSRd (by omega))]; exact g3, d2, d3, d4, ls_line g7 e, by show ln + 1 ≤ tPl t'; omega⟩
    · have es : txStep b n (P, ln, t) = .inr (.inr (k, pl)) := by
        unfold txStep
        rw [if_neg k0]
        simp only [e]
      exact (hEn _ es).symm
