set_option maxRecDepth 100000
def SFb (m s0 ln a k : Nat) : Prop := Sp m a k ∨ SQ m s0 a k ∨ ((a = m + 6 ∨ a = m + 7 ∨ a = m + 8) ∧ k = 4 + ln)
def SFe (m s0 ln a k : Nat) : Prop := SFb m s0 ln a k ∨ (a = m ∧ k = 19)
theorem SQ_SRd {m s0 a k : Nat} (h : SQ m s0 a k) : SRd m a k := by
  rcases h with ⟨rfl, h⟩ | ⟨h1, h2⟩ | rfl | rfl
  · exact Or.inl ⟨rfl, by omega⟩
  · exact Or.inr (Or.inr (Or.inr (Or.inr (Or.inr (Or.inr (Or.inr (Or.inr (Or.inr (Or.inr (Or.inl ⟨h1, by omega⟩))))))))))
  · exact Or.inr (Or.inr (Or.inr (Or.inr (Or.inr (Or.inr (Or.inr (Or.inr (Or.inr (Or.inr (Or.inr (Or.inl rfl)))))))))))
  · exact Or.inr (Or.inr (Or.inr (Or.inr (Or.inr (Or.inr (Or.inr (Or.inr (Or.inr (Or.inr (Or.inr (Or.inr rfl)))))))))))
theorem SFe_SRd {m s0 ln a k : Nat} (h : SFe m s0 ln a k) : SRd m a k := by
  rcases h with (h | h | ⟨h1, rfl⟩) | ⟨rfl, rfl⟩
  · exact Sp_SRd h
  · exact SQ_SRd h
  · exact Or.inr (Or.inr (Or.inr (Or.inr (Or.inl ⟨h1, by omega⟩))))
  · exact Or.inl ⟨rfl, by omega⟩
theorem m_putF {m : Nat} {σ σ' : Hp} {P : PSt} {nm : Int32} {v : Ev} {cnt : Nat} (h : MRl m 1 σ P.1) (hC : MC m σ P) (hl : (aF P.1).length ≠ 4) (hc : Ch (SFe m (aK P.1) (aF P.1).length) σ σ') (h19 : gI σ' m 19 = Int32.ofNat ((aF P.1).length + 1)) (x0 : gI σ' (m + 6) (4 + (aF P.1).length) = nm) (x1 : gI σ' (m + 7) (4 + (aF P.1).length) = Int32.ofNat (aK P.1)) (x2 : gI σ' (m + 8) (4 + (aF P.1).length) = Int32.ofNat cnt) (hs : SegE (kN m σ' 1) (kP m σ' 1) (kO m σ' 1) (aK P.1) cnt v) (h23 : gI σ' m 23 = Int32.ofNat cnt) (h50 : gI σ' m 50 = Int32.ofNat cnt) (h64 : cnt ≤ 64) : MRl m 1 σ' (putF P.1 (nm, v) cnt) ∧ MC m σ' (putF P.1 (nm, v) cnt, P.2) := by
  have hu : ∀ a k, US m 1 P.1 a k → ¬ SFe m (aK P.1) (aF P.1).length a k := fun a k q => q.by (fun k _ _ => by unfold SFe SFb SQ Sp; omega) (fun k _ _ => by unfold SFe SFb SQ Sp; omega) (fun k _ _ => by unfold SFe SFb SQ Sp; omega) (fun k _ _ => by unfold SFe SFb SQ Sp; omega) (fun k _ _ => by unfold SFe SFb SQ Sp; omega) (fun k _ _ => by unfold SFe SFb SQ Sp; omega) (fun k _ _ => by unfold SFe SFb SQ Sp; omega) (fun k _ _ => by unfold SFe SFb SQ Sp; omega) (fun k _ _ => by unfold SFe SFb SQ Sp; omega) (fun k _ _ => by unfold SFe SFb SQ Sp; omega)
  have h' : MRl m 1 σ' P.1 := h.fr (fun a k q => ⟨hc.gi (hu a k q), hc.gl (hu a k q)⟩)
  obtain ⟨c1, c2, c3, c4, c5, c6, c7, c8, c9⟩ := hC
  have f : ∀ k, 12 ≤ k → k ≤ 30 → k ≠ 19 → k ≠ 23 → gI σ' m k = gI σ m k := fun k q1 q2 q3 q4 => hc.gi (by unfold SFe SFb SQ Sp; omega)
  have lt := hs.lt
  refine ⟨⟨h'.1, fun i y hi => ?_, h'.2.2⟩, ?_, ⟨?_, ?_⟩, ?_, ?_, ?_, ⟨h23, h50, h64⟩, ?_⟩
  · rcases put_get (show (aF P.1 ++ [(nm, v)])[i]? = some y from hi) with ⟨q1, q2⟩ | ⟨q1, q2⟩
    · obtain ⟨z1, a, e, z2, z3, z4, z5⟩ := h'.2.1 i y q2
      exact ⟨z1, a, e, z2, z3, by show e ≤ cnt; omega, z5⟩
    · subst q1; subst q2
      exact ⟨x0, _, _, x1, x2, Nat.le_refl _, hs⟩
  · rw [f _ (by omega) (by omega) (by omega) (by omega)]; exact c1
  · rw [h19]; show _ = Int32.ofNat (aF P.1 ++ [(nm, v)]).length; rw [List.length_append]; rfl
  · show (aF P.1 ++ [(nm, v)]).length ≤ 4; rw [List.length_append]; show _ + 1 ≤ 4; omega
  · rw [f _ (by omega) (by omega) (by omega) (by omega)]; exact c3
  · rw [f _ (by omega) (by omega) (by omega) (by omega)]; exact c4
  · rw [f _ (by omega) (by omega) (by omega) (by omega)]; exact c5
  · rw [f _ (by omega) (by omega) (by omega) (by omega), f _ (by omega) (by omega) (by omega) (by omega), f _ (by omega) (by omega) (by omega) (by omega)]; exact ⟨c7, c8, c9⟩
theorem m_feast {m : Nat} {b : Nat → Int32} {n : Nat} {σ : Hp} {P : PSt} {t : Tok} {Q : Int32 → Hp → Prop} (hT : MT m b n σ t) (hR : MRl m 1 σ P.1) (hC : MC m σ P) (hx : MLn m b n σ (if (aF P.1).length = 4 then .inr (2, tPl t) else feastS b n (nms2 P.1) (aK P.1) (adv b n t)) (fun v => (putF P.1 v.1 v.2, P.2)) Q) : wp_X6_feastLine m σ Q := by
  obtain ⟨hok, hbad⟩ := hx
  have c19 := hC.2.1.1
  have cl := hC.2.1.2
  obtain ⟨c23, c50, c64⟩ := hC.2.2.2.2.2.1
  have put := fun (σ' : Hp) (nm : Int32) (v : Ev) (cnt : Nat) => m_putF (σ' := σ') (nm := nm) (v := v) (cnt := cnt) hR hC
  generalize hln : (aF P.1).length = ln at *
  unfold wp_X6_feastLine
  rw [c19, show (4 : Int32) = Int32.ofNat 4 from rfl, nat_e (by omega) (by omega)]
  refine ⟨fun q => ?_, fun q => ?_⟩
  · rw [if_pos q] at hbad
    exact m_wrong hT (fun _ _ q => Sp_SRd q) (fun σ' c1 c2 c3 => hbad _ _ σ' rfl c1 c2 c3)
  rw [if_neg q] at hok hbad
  have nl : (nms2 P.1).length = ln := by unfold nms2; rw [List.length_map]; exact hln
  generalize hs0 : aK P.1 = s0 at *
  have bad : ∀ k pl σ', feastS b n (nms2 P.1) s0 (adv b n t) = .inr (k, pl) → Ch (SFb m s0 ln) σ σ' → gI σ' m 4 = k → gI σ' m 5 = Int32.ofNat pl → Q 0 σ' := fun k pl σ' e c1 c2 c3 => hbad k pl σ' e (c1.up (fun a k q => SFe_SRd (Or.inl q))) c2 c3
  have spu : ∀ a k, Sp m a k → SFb m s0 ln a k := fun a k q => Or.inl q
  have squ : ∀ a k, SQ m s0 a k → SFb m s0 ln a k := fun a k q => Or.inr (Or.inl q)
  have n19 : ¬ SFb m s0 ln m 19 := by unfold SFb SQ Sp; omega
  refine m_token hT.1 hT.2.1.1 hT.2.2 (fun s2 a1 a2 _ => ?_)
  have k2 : Ch (SFb m s0 ln) σ s2 := a1.up spu
  have R2 := hR.sp a1
  rw [k2.gi n19, c19]
  refine m_newN (fr := 4) nl a2 (mnms2 R2) (by omega) (by omega) (by omega) (S := fun a k => Sp m a k ∨ (a = m + 6 ∧ k = 4 + ln)) (fun a k q => q) ⟨fun nm t1 s4 e1 b1 b2 b3 => ⟨fun w => (by cases w), fun _ => ?_⟩, fun k pl σ' e c1 c2 c3 => ⟨fun _ => bad k pl σ' (by unfold feastS; rw [e]; rfl) (k2.tr (c1.up (fun a k q => q.elim Or.inl (fun q => Or.inr (Or.inr ⟨Or.inl q.1, q.2⟩))))) c2 c3, fun w => absurd rfl w⟩⟩
  have k4 := k2.tr (b1.up (fun a k q => q.elim Or.inl (fun q => Or.inr (Or.inr ⟨Or.inl q.1, q.2⟩))))
  have b1' := (a1.up (fun a k q => Or.inl q)).tr b1
  have ex : Int32.ofNat 4 + gI s4 m 19 = Int32.ofNat (4 + ln) := by rw [k4.gi n19, c19]; exact nat_a (by omega)
  rw [ex, nat_c (by omega)]
  refine ⟨nat_v (by omega) (by omega), ?_⟩
  have g23 : gI s4 m 23 = Int32.ofNat s0 := by rw [b1'.gi (by unfold Sp; omega)]; exact c23
  have g50 : gI s4 m 50 = Int32.ofNat s0 := by rw [b1'.gi (by unfold Sp; omega)]; exact c50
  rw [g23]
  have kw : Ch (SFb m s0 ln) σ (pI s4 (m + 7) (4 + ln) (Int32.ofNat s0)) := k4.i (Or.inr (Or.inr ⟨Or.inr (Or.inl rfl), rfl⟩))
  have Tw : MT m b n (pI s4 (m + 7) (4 + ln) (Int32.ofNat s0)) t1 := b2.w (by omega)
  have hr := rsOf_rn (z := .inr (0, 0)) (sy_tot (b := b) (n := n) ([], [], 0, s0, true, true, t1) Tw.2.2)
  refine wp_sumRead Tw.1 Tw.2.1 Tw.2.2 (by rw [pIo (by omega)]; exact g23) (by rw [pIo (by omega)]; exact g50) c64 hr (fun v cnt t2 s9 e2 d1 d2 d3 d4 d5 d6 d7 d8 => ⟨fun w => (by cases w), fun _ => ?_⟩) (fun k pl σ' e c1 c2 c3 => ⟨fun _ => bad k pl σ' (by unfold feastS; rw [e1, pb_inl]; unfold sumS; rw [e]; rfl) (kw.tr (c1.up squ)) c2 c3, fun w => absurd rfl w⟩)
  have k9 := kw.tr (d1.up squ)
  have e9 : gI s9 m 19 = Int32.ofNat ln := by rw [k9.gi n19, c19]
  have ex : Int32.ofNat 4 + gI s9 m 19 = Int32.ofNat (4 + ln) := by rw [e9]; exact nat_a (by omega)
  rw [ex, nat_c (by omega), e9, d5, nat_s (by omega)]
  refine ⟨nat_v (by omega) (by omega), ?_⟩
  have kz : Ch (SFe m s0 ln) σ (pI (pI s9 (m + 8) (4 + ln) (Int32.ofNat cnt)) m 19 (Int32.ofNat (ln + 1))) := ((k9.i (Or.inr (Or.inr ⟨Or.inr (Or.inr rfl), rfl⟩))).up (fun a k q => Or.inl q)).i (Or.inr ⟨rfl, rfl⟩)
  obtain ⟨z1, z2⟩ := put _ nm v cnt q kz (by simp only [gI_pI, and_self, if_true]) (by rw [pIo (by omega), pIo (by omega), d1.gi (by unfold SQ; omega), pIo (by omega)]; exact b3) (by rw [pIo (by omega), pIo (by omega), d1.gi (by unfold SQ; omega), gI_pI, if_pos ⟨rfl, rfl⟩]) (by rw [pIo (by omega), gI_pI, if_pos ⟨rfl, rfl⟩]) (d7.cg (fun i _ _ => by unfold kN kP kO; exact ⟨by rw [pIo (by omega), pIo (by omega)], by rw [pIo (by omega), pIo (by omega)], by rw [pIo (by omega), pIo (by omega)]⟩)) (by rw [pIo (by omega), pIo (by omega)]; exact d5) (by rw [pIo (by omega), pIo (by omega)]; exact d6) d8
  exact hok ((nm, v), cnt) t2 _ (by unfold feastS; rw [e1, pb_inl]; unfold sumS; rw [e2]; rfl) (kz.up (fun a k => SFe_SRd)) ((MT.w (MT.w ⟨d2, d3, d4⟩ (by omega)) (by omega))) z1 z2
