set_option maxRecDepth 100000
theorem syStep_eq (adv : Tok → Tok) (w : List Nat) (h : List Ev) (brk cnt : Nat) (wants mn : Bool) (t : Tok) : syStep adv (w, h, brk, cnt, wants, mn, t) = if (tIsSign t 59 && !wants && decide (brk = 0)) = true then .inr (.inl ((bnd 1 w h).2, cnt, t)) else if wants = true then syLeaf adv w h brk cnt mn t else sySign adv w h brk cnt mn t := rfl
theorem wp_sumRead {m : Nat} {b : Nat → Int32} {n s0 : Nat} {σ : Hp} {t : Tok} {r : SYr} {Q : Int32 → Hp → Prop} (hB : MTB m b n σ) (ht : TKM m σ t) (hv : TV n t) (h23 : gI σ m 23 = Int32.ofNat s0) (h50 : gI σ m 50 = Int32.ofNat s0) (hs0 : s0 ≤ 64) (hr : Rn (syStep (adv b n)) ([], [], 0, s0, true, true, t) r)
    (hok : ∀ v cnt t' σ', r = .inl ([v], cnt, t') → Ch (SQ m s0) σ σ' → MTB m b n σ' → TKM m σ' t' → TV n t' → gI σ' m 23 = Int32.ofNat cnt → gI σ' m 50 = Int32.ofNat cnt → SegE (kN m σ' 1) (kP m σ' 1) (kO m σ' 1) s0 cnt v → cnt ≤ 64 → Q 1 σ')
    (hbad : ∀ k pl σ', r = .inr (k, pl) → Ch (SQ m s0) σ σ' → gI σ' m 4 = k → gI σ' m 5 = Int32.ofNat pl → Q 0 σ') : wp_X6_sumRead m σ Q := by
  refine lp_rn (step := syStep (adv b n)) (fun S τ => Ch (SQ m s0) σ τ ∧ SYR m b n s0 S τ) ?_ (s := ([], [], 0, s0, true, true, t)) ⟨?_, ?_⟩ hr
  · rintro K ⟨w, h, brk, cnt, wants, mn, t⟩ τ ⟨hc, hR⟩ hK hE
    have hR0 := hR
    obtain ⟨hB, ht, hv, hS, hbr, h49, h50, h51, h52, hl⟩ := hR
    simp only at ht hv hS hbr h49 h50 h51 h52 hl
    have hb8 : nbr w ≤ 8 := hS.2.2.2.1
    have go : (tIsSign t 59 && !wants && decide (brk = 0)) = false → wj_X6_sumRead_48 m τ Q K := by
      intro q
      unfold wj_X6_sumRead_48
      rw [h51, bI_0]
      cases wants with
      | false =>
        have es : syStep (adv b n) (w, h, brk, cnt, false, mn, t) = sySign (adv b n) w h brk cnt mn t := by
          rw [syStep_eq, if_neg (by rw [q]; exact Bool.false_ne_true)]
          rfl
        rw [es] at hK hE
        refine ⟨fun _ => wp_signs hR0 hc (fun S' σ' e c1 c2 => ⟨fun w => (by cases w), fun _ => hK S' σ' e ⟨c1, c2⟩⟩) (fun k pl σ' e c1 c2 c3 => ⟨fun _ => hbad k pl σ' (hE _ e).symm c1 c2 c3, fun w => absurd rfl w⟩), fun w => absurd rfl w⟩
      | true =>
        have es : syStep (adv b n) (w, h, brk, cnt, true, mn, t) = syLeaf (adv b n) w h brk cnt mn t := by
          rw [syStep_eq, if_neg (by rw [q]; exact Bool.false_ne_true)]
          rfl
        rw [es] at hK hE
        refine ⟨fun w => (by cases w), fun _ => wp_leafRead hR0 hc (fun S' σ' e c1 c2 => ⟨fun w => (by cases w), fun _ => hK S' σ' e ⟨c1, c2⟩⟩) (fun k pl σ' e c1 c2 c3 => ⟨fun _ => hbad k pl σ' (hE _ e).symm c1 c2 c3, fun w => absurd rfl w⟩)⟩
    unfold lb_X6_sumRead_25
    rw [msign ht, h51, bI_0, h49, i3_le (nat_i (by omega)) (y := 0) (by rfl)]
    refine ⟨fun q1 => go (by rw [q1]; rfl), fun q1 => ⟨fun q2 => ⟨fun q3 => ?_, fun q3 => go (by rw [decide_eq_false (by omega), Bool.and_false])⟩, fun q2 => go (by rw [bt q2]; simp)⟩⟩
    have hb0 : brk = 0 := by omega
    subst q2
    have es : syStep (adv b n) (w, h, brk, cnt, false, mn, t) = .inr (.inl ((bnd 1 w h).2, cnt, t)) := by
      rw [syStep_eq, if_pos (by rw [bt q1, decide_eq_true hb0]; rfl)]
    have hr := hE _ es
    have hl : h.length = nbi w + 1 := hl
    obtain ⟨i1, i2⟩ := bnd_inv (r := 1) (by omega) w h hS.2.1 hl
    refine wp_bind (r := 1) hS hl (by omega) (by omega) (fun τ' cτ sτ lτ => ?_)
    obtain ⟨k1, k2, k3, k4, k5, e, k6, k7, k8⟩ := sτ
    have w0 : (bnd 1 w h).1 = [] := by
      cases hw1 : (bnd 1 w h).1 with
      | nil => rfl
      | cons k w1 =>
        rw [hw1] at i1 i2 k2
        have ek : k = 0 := by
          rcases i2 with q | q
          · cases q
          · exact rk_0 k2.2.1 k2.2.2.1 q
        subst ek
        simp [nbr] at i1
        omega
    rw [w0] at lτ k8
    have hv1 : ∃ v, (bnd 1 w h).2 = [v] := List.length_eq_one_iff.mp lτ
    obtain ⟨v, hv1⟩ := hv1
    rw [hv1] at hr k7
    obtain ⟨s, -, g2, g3⟩ := k7
    have g3 : s = s0 := g3
    subst g3
    have ee : e = cnt := by simpa [nop] using k8
    subst ee
    have f : ∀ a k, (a = m ∧ (k ≠ 23 ∧ k ≠ 47 ∧ k ≠ 48)) ∨ a = m + 1 ∨ a = m + 2 → gI τ' a k = gI τ a k := fun a k q => cτ.gi (by unfold SB; omega)
    refine hok v e t τ' hr.symm (hc.tr (cτ.up (fun a k => SB_SQ))) (hB.fr (fun a k q => f a k (by omega))) ⟨by rw [f _ _ (by omega)]; exact ht.1, by rw [f _ _ (by omega)]; exact ht.2.1, by rw [f _ _ (by omega)]; exact ht.2.2.1, fun q1 q2 => by rw [f _ _ (by omega)]; exact ht.2.2.2 q1 q2⟩ hv k6 (by rw [f _ _ (by omega)]; exact h50) g2 k5
  · exact ((((Ch.rf.i (by unfold SQ; omega)).i (by unfold SQ; omega)).i (by unfold SQ; omega)).i (by unfold SQ; omega)).i (by unfold SQ; omega)
  · refine ⟨hB.fr (fun a k q => by rw [pIo (by omega), pIo (by omega), pIo (by omega), pIo (by omega), pIo (by omega)]), ⟨by simp [gI_pI, ht.1], by simp [gI_pI, ht.2.1], by simp [gI_pI, ht.2.2.1], fun q1 q2 => by simp [gI_pI, ht.2.2.2 q1 q2]⟩, hv, ⟨by simp [gI_pI], trivial, by simp [gI_pI], by simp [nbr], hs0, s0, by simp [gI_pI, h23], rfl, by simp [nop]⟩, rfl, by simp [gI_pI], by simp [gI_pI, h50], by simp [gI_pI, bI], by simp [gI_pI, bI], rfl⟩
