set_option maxRecDepth 100000
/-- what binding keeps -/
theorem bnd_inv {m : Nat} {σ : Hp} {r : Nat} (hr : 1 ≤ r) : ∀ (w : List Nat) (h : List Ev), WR m σ w → h.length = nbi w + 1 → nbr (bnd r w h).1 = nbr w ∧ ((bnd r w h).1 = [] ∨ tr (bnd r w h).1 < r) := by
  intro w
  induction w with
  | nil => intro h _ _; exact ⟨rfl, Or.inl rfl⟩
  | cons k w ih =>
    intro h hw hl
    obtain ⟨w1, w2, w3, w4⟩ := hw
    by_cases hk : rk k < r
    · have e : bnd r (k :: w) h = (k :: w, h) := by unfold bnd; rw [if_pos hk]
      rw [e]
      exact ⟨rfl, Or.inr hk⟩
    · have k0 : k ≠ 0 := fun q => by subst q; exact hk (by show 0 < r; omega)
      have hnr : nbr (k :: w) = nbr w := by simp [nbr, k0]
      rw [hnr]
      by_cases k2 : k = 2
      · subst k2
        match h, hl with
        | [], hl => simp [nbi] at hl
        | a :: h, hl =>
          rw [bnd_not (by exact hk)]
          exact ih _ w4 (by simpa [nbi] using hl)
      · have k3 : 3 ≤ k := by omega
        have hnb : nbi (k :: w) = 1 + nbi w := by simp [nbi, k3]
        rw [hnb] at hl
        match h, hl with
        | [], hl => simp at hl
        | [a], hl => simp at hl
        | b :: a :: h, hl =>
          rw [bnd_two hk k2]
          exact ih _ w4 (by simp only [List.length_cons] at hl ⊢; omega)
theorem rk_0 {k : Nat} (h1 : k ≤ 15) (h2 : k ≠ 1) (h : rk k < 1) : k = 0 := by
  unfold rk at h
  repeat' split at h
  all_goals omega
theorem opOf_b {n : Nat} {t : Tok} (h : TV n t) : opOf t ≤ 15 ∧ opOf t ≠ 1 ∧ opOf t ≠ 2 := by
  unfold opOf
  repeat' split
  all_goals first | omega | skip
  rename_i h5
  have := h.2.2.2.2.1 h5
  rw [cl_i]
  omega
theorem wp_ops {m : Nat} {n : Nat} {σ : Hp} {t : Tok} {Q : Int32 → Hp → Prop} (ht : TKM m σ t) (hv : TV n t) (h : wj_X6_signs_161 m σ (Int32.ofNat (opOf t)) Q) : wj_X6_signs_47 m σ Q := by
  unfold wj_X6_signs_47
  rw [mkey ht, mkey ht, ht.2.2.1, msign ht, msign ht, msign ht, msign ht, msign ht]
  unfold opOf at h
  refine ⟨fun q1 => ⟨fun q2 => ⟨fun q3 => ?_, fun q3 => ⟨fun q4 => ⟨fun q5 => ⟨fun q6 => ⟨fun q7 => ⟨fun q8 => ?_, fun q8 => ?_⟩, fun q7 => ?_⟩, fun q6 => ?_⟩, fun q5 => ?_⟩, fun q4 => ?_⟩⟩, fun q2 => ?_⟩, fun q1 => ?_⟩
  · rw [if_neg (by rw [q1]; exact Bool.false_ne_true), if_neg (by rw [q2]; exact Bool.false_ne_true), if_pos q3] at h
    have b := hv.2.2.2.2.1 q3
    have e : (5 : Int32) + gI σ m 9 = Int32.ofNat (5 + (tWh t).toNatClampNeg) := by
      rw [ht.2.2.2 (by rw [q3]; decide) (by rw [q3]; decide), i2_eq, i3_add (x := 5) (by rfl) rfl (by omega) (by omega), cl_i, nat_i (by omega)]
      omega
    rw [e]
    exact h
  · simp only [q1, q2, q4, q5, q6, q7, q8, if_neg q3, Bool.false_eq_true, if_false] at h
    exact h
  · simp only [q1, q2, q4, q5, q6, q7, bt q8, if_neg q3, Bool.false_eq_true, if_false, if_true] at h
    exact h
  · simp only [q1, q2, q4, q5, q6, bt q7, if_neg q3, Bool.false_eq_true, if_false, if_true] at h
    exact h
  · simp only [q1, q2, q4, q5, bt q6, if_neg q3, Bool.false_eq_true, if_false, if_true] at h
    exact h
  · simp only [q1, q2, q4, bt q5, if_neg q3, Bool.false_eq_true, if_false, if_true] at h
    exact h
  · simp only [q1, q2, bt q4, if_neg q3, Bool.false_eq_true, if_false, if_true] at h
    exact h
  · simp only [q1, bt q2, Bool.false_eq_true, if_false, if_true] at h
    exact h
  · simp only [bt q1, if_true] at h
    exact h
theorem wp_signs {m : Nat} {b : Nat → Int32} {n s0 : Nat} {σ0 σ : Hp} {w : List Nat} {h : List Ev} {brk cnt : Nat} {mn : Bool} {t : Tok} {Q : Int32 → Hp → Prop} (hR : SYR m b n s0 (w, h, brk, cnt, false, mn, t) σ) (hc : Ch (SQ m s0) σ0 σ)
    (hok : ∀ S' σ', sySign (adv b n) w h brk cnt mn t = .inl S' → Ch (SQ m s0) σ0 σ' → SYR m b n s0 S' σ' → Q 1 σ')
    (hbad : ∀ k pl σ', sySign (adv b n) w h brk cnt mn t = .inr (.inr (k, pl)) → Ch (SQ m s0) σ0 σ' → gI σ' m 4 = k → gI σ' m 5 = Int32.ofNat pl → Q 0 σ') : wp_X6_signs m σ Q := by
  have hR0 := hR
  obtain ⟨hB, ht, hv, hS, hbr, h49, h50, h51, h52, hl⟩ := hR
  simp only at ht hv hS hbr h49 h50 h51 h52 hl
  have hl : h.length = nbi w + 1 := hl
  have hb8 : nbr w ≤ 8 := hS.2.2.2.1
  have hc64 : cnt ≤ 64 := hS.2.2.2.2.1
  have e64 : (64 : Int32) = Int32.ofNat 64 := rfl
  have hop := opOf_b hv
  have hi : ∀ r, 1 ≤ r → nbr (bnd r w h).1 = nbr w ∧ ((bnd r w h).1 = [] ∨ tr (bnd r w h).1 < r) := fun r hr => bnd_inv hr w h hS.2.1 hl
  -- an operator
  have op : (tIsSign t 41 && decide (0 < brk)) = false → wj_X6_signs_47 m σ Q := by
    intro q0
    refine wp_ops ht hv ?_
    unfold wj_X6_signs_161
    have eo : Int32.ofNat (opOf t) = 0 ↔ opOf t = 0 := nat_e (q := 0) (by omega) (by omega)
    have er : f_X6_rank (Int32.ofNat (opOf t)) = Int32.ofNat (rk (opOf t)) := rk_i _ (by omega)
    have er4 : Int32.ofNat (rk (opOf t)) = 4 ↔ rk (opOf t) = 4 := nat_e (q := 4) (by have := rk_b (opOf t); omega) (by omega)
    have er3 : 3 ≤ Int32.ofNat (rk (opOf t)) ↔ 3 ≤ rk (opOf t) := nat_le (p := 3) (by omega) (by have := rk_b (opOf t); omega)
    rw [eo, er, er4]
    have base : sySign (adv b n) w h brk cnt mn t = if opOf t = 0 then .inr (.inr (1, tPl t)) else if rk (opOf t) = 4 then (if tr (bnd 5 w h).1 = 4 then .inr (.inr (1, tPl t)) else if cnt = 64 then .inr (.inr (2, tPl t)) else .inl (opOf t :: (bnd 5 w h).1, (bnd 5 w h).2, brk, cnt + 1, true, false, adv b n t)) else if cnt = 64 then .inr (.inr (2, tPl t)) else .inl (opOf t :: (bnd (rk (opOf t)) w h).1, (bnd (rk (opOf t)) w h).2, brk, cnt + 1, true, decide (rk (opOf t) < 3), adv b n t) := by
      unfold sySign
      rw [if_neg (by rw [q0]; exact Bool.false_ne_true)]
    -- behind the binding: the sign waits
    have wait : ∀ (r : Nat) (τ : Hp), 1 ≤ r → opOf t ≠ 0 → Ch (SB m s0) σ τ → STK m τ s0 (bnd r w h).1 (bnd r w h).2 cnt → (bnd r w h).2.length = nbi (bnd r w h).1 + 1 → (sySign (adv b n) w h brk cnt mn t = if cnt = 64 then .inr (.inr (2, tPl t)) else .inl (opOf t :: (bnd r w h).1, (bnd r w h).2, brk, cnt + 1, true, decide (rk (opOf t) < 3), adv b n t)) → wj_X6_signs_231 m τ (Int32.ofNat (opOf t)) Q := by
      intro r τ hr k0 cτ sτ lτ hsy
      have f : ∀ a k, (a = m ∧ (k ≠ 23 ∧ k ≠ 47 ∧ k ≠ 48)) ∨ a = m + 1 ∨ a = m + 2 → gI τ a k = gI σ a k := fun a k q => cτ.gi (by unfold SB; omega)
      have c0 : Ch (SQ m s0) σ0 τ := hc.tr (cτ.up (fun a k => SB_SQ))
      have htτ : TKM m τ t := ⟨by rw [f _ _ (by omega)]; exact ht.1, by rw [f _ _ (by omega)]; exact ht.2.1, by rw [f _ _ (by omega)]; exact ht.2.2.1, fun q1 q2 => by rw [f _ _ (by omega)]; exact ht.2.2.2 q1 q2⟩
      unfold wj_X6_signs_231 wp_X6_isCounted
      rw [f _ _ (by omega), h50, e64, nat_e (by omega) (by omega), er, er3]
      refine ⟨fun q => wrong_of ⟨fun _ => ?_, fun w => absurd rfl w⟩, fun q => ⟨fun w => (by cases w), fun _ => ?_⟩⟩
      · rw [if_pos q] at hsy
        exact hbad 2 _ _ hsy ((c0.i (by unfold SQ; omega)).i (by unfold SQ; omega)) (by simp [gI_pI]) (by simp [gI_pI, htτ.2.1])
      · rw [if_neg q] at hsy
        rw [nat_s (by omega)]
        have c1 : Ch (SQ m s0) σ0 (pI τ m 50 (Int32.ofNat (cnt + 1))) := c0.i (by unfold SQ; omega)
        have hS1 : STK m (pI τ m 50 (Int32.ofNat (cnt + 1))) s0 (bnd r w h).1 (bnd r w h).2 cnt := sτ.ch (fun a k q => pIo (by omega))
        have hbr2 : nbr (opOf t :: (bnd r w h).1) = brk := by simp only [nbr, if_neg k0, (hi r hr).1]; omega
        obtain ⟨g1, g2, g3, g4⟩ := hS1.push (k := opOf t) (cnt' := cnt + 1) ⟨hop.1, hop.2.1⟩ (by rw [hbr2]; omega) (by omega) (by rw [if_neg k0])
        have hnb : nbi (opOf t :: (bnd r w h).1) = 1 + nbi (bnd r w h).1 := by simp only [nbi, if_pos (show 3 ≤ opOf t by omega)]
        have go : ∀ mv : Bool, mv = decide (rk (opOf t) < 3) → wp_X6_token m (pI (pI (f_X6_waitsFor m (pI τ m 50 (Int32.ofNat (cnt + 1))) (Int32.ofNat (opOf t))) m 51 1) m 52 (bI mv)) (fun s70 => Q 1 s70) := by
          intro mv hmv
          rw [← hmv] at hsy
          refine SYR.tok (w := opOf t :: (bnd r w h).1) (h := (bnd r w h).2) (brk := brk) (cnt := cnt + 1) (wants := true) (mn := mv) (t := t) (s0 := s0) (σ0 := σ0) (b := b) (n := n) (hB.fr (fun a k q => ?_)) ?_ hv (g2.ch (fun a k q => (pIo (by omega)).trans (pIo (by omega)))) hbr2 ?_ ?_ ?_ ?_ ?_ (((g3 σ0 c1).i (by unfold SQ; omega)).i (by unfold SQ; omega)) (fun σ' d1 d2 => hok _ σ' hsy d1 d2)
          · rw [pIo (by omega), pIo (by omega), g4 _ _ (by omega) (by omega), pIo (by omega), f _ _ (by omega)]
          · rw [pIo (by omega), pIo (by omega), g4 _ _ (by omega) (by omega), pIo (by omega)]; exact htτ.1
          · rw [pIo (by omega), pIo (by omega), g4 _ _ (by omega) (by omega), pIo (by omega), f _ _ (by omega)]; exact h49
          · rw [pIo (by omega), pIo (by omega), g4 _ _ (by omega) (by omega)]; simp [gI_pI]
          · simp [gI_pI, bI]
          · simp [gI_pI]
          · rw [hnb, lτ]; simp only [if_true]; omega
        refine ⟨g1, fun s hs => ?_⟩
        subst hs
        refine ⟨fun q3 => go false ?_, fun q3 => go true ?_⟩
        · rw [eq_comm, decide_eq_false_iff_not]; omega
        · rw [eq_comm, decide_eq_true_iff]; omega
    refine ⟨fun q => ?_, fun q => ⟨fun q4 => ?_, fun q4 => ?_⟩⟩
    · rw [if_pos q] at base
      exact wrong_of (hR0.bad hc (fun σ' c1 c2 c3 => hbad 1 _ σ' base c1 c2 c3))
    · rw [if_neg q, if_pos q4] at base
      unfold wj_X6_signs_189
      rw [er, er4]
      refine wp_bind (r := 5) hS hl (by omega) (by omega) (fun τ cτ sτ lτ => ⟨fun _ => ?_, fun w => absurd q4 w⟩)
      have f : ∀ a k, (a = m ∧ (k ≠ 23 ∧ k ≠ 47 ∧ k ≠ 48)) → gI τ a k = gI σ a k := fun a k q => cτ.gi (by unfold SB; omega)
      have hwl := nop_nbr (bnd 5 w h).1
      obtain ⟨k1, k2, k3, k4, k5, e, k6, k7, k8⟩ := sτ
      have sτ : STK m τ s0 (bnd 5 w h).1 (bnd 5 w h).2 cnt := ⟨k1, k2, k3, k4, k5, e, k6, k7, k8⟩
      rw [k1]
      have hdec : ∀ hx : rk (opOf t) = 4, decide (rk (opOf t) < 3) = false := fun hx => by rw [decide_eq_false_iff_not]; omega
      cases hw1 : (bnd 5 w h).1 with
      | nil =>
        refine ⟨fun _ => ?_, fun w => absurd (by decide) w⟩
        rw [hw1, if_neg (by decide)] at base
        refine wait 5 τ (by omega) q cτ sτ lτ ?_
        rw [base, hw1, hdec q4]
      | cons k w1 =>
        rw [hw1] at k2 hwl k1 k4 k8
        simp only [List.length_cons] at hwl k1 ⊢
        obtain ⟨v1, v2, v3, v4⟩ := k2
        have e1 : Int32.ofNat (w1.length + 1) - 1 = Int32.ofNat w1.length := by
          rw [show (1 : Int32) = Int32.ofNat 1 from rfl, nat_d (by omega) (by omega)]; congr 1
        have er5 : f_X6_rank (Int32.ofNat k) = 4 ↔ rk k = 4 := by rw [rk_i k (by omega)]; exact nat_e (q := 4) (by have := rk_b k; omega) (by omega)
        refine ⟨fun w => ?_, fun _ => ?_⟩
        · rw [i3_le (nat_i (by omega)) (y := 0) (by rfl)] at w; omega
        · rw [e1, nat_c (by omega), v1, er5]
          refine ⟨nat_v (by omega) (by omega), fun q5 => ?_, fun q5 => ?_⟩
          · rw [hw1, if_pos (show tr (k :: w1) = 4 from q5)] at base
            refine wrong_of (hbad 1 _ _ base (((hc.tr (cτ.up (fun a k => SB_SQ))).i (by unfold SQ; omega)).i (by unfold SQ; omega)) (by simp [gI_pI]) ?_)
            rw [gI_pI, if_pos ⟨rfl, rfl⟩, f _ _ (by omega)]
            exact ht.2.1
          · rw [hw1, if_neg (show ¬ tr (k :: w1) = 4 from q5)] at base
            refine wait 5 τ (by omega) q cτ sτ lτ ?_
            rw [base, hw1, hdec q4]
    · rw [if_neg q, if_neg q4] at base
      unfold wj_X6_signs_189
      rw [er, er4]
      have hr1 : 1 ≤ rk (opOf t) := by
        by_cases w : rk (opOf t) < 1
        · exact absurd (rk_0 hop.1 hop.2.1 w) q
        · omega
      exact wp_bind hS hl hr1 (rk_b _) (fun τ cτ sτ lτ => ⟨fun w => absurd w q4, fun _ => wait _ τ hr1 q cτ sτ lτ base⟩)
  unfold wp_X6_signs
  rw [msign ht, h49, i3_le (nat_i (by omega)) (y := 0) (by rfl)]
  refine ⟨fun q1 => op (by rw [q1]; rfl), fun q1 => ⟨fun q2 => op (by rw [decide_eq_false (by omega), Bool.and_false]), fun q2 => ?_⟩⟩
  have hsy : sySign (adv b n) w h brk cnt mn t = .inl ((bnd 1 w h).1.tail, (bnd 1 w h).2, brk - 1, cnt, false, mn, adv b n t) := by
    unfold sySign
    rw [if_pos (by rw [bt q1, decide_eq_true (by omega)]; rfl)]
  refine wp_bind (r := 1) hS hl (by omega) (by omega) (fun τ cτ sτ lτ => ?_)
  have f : ∀ a k, (a = m ∧ (k ≠ 23 ∧ k ≠ 47 ∧ k ≠ 48)) ∨ a = m + 1 ∨ a = m + 2 → gI τ a k = gI σ a k := fun a k q => cτ.gi (by unfold SB; omega)
  have c0 : Ch (SQ m s0) σ0 τ := hc.tr (cτ.up (fun a k => SB_SQ))
  obtain ⟨i1, i2⟩ := hi 1 (by omega)
  obtain ⟨k1, k2, k3, k4, k5, e, k6, k7, k8⟩ := sτ
  have hwl := nop_nbr (bnd 1 w h).1
  cases hw1 : (bnd 1 w h).1 with
  | nil => rw [hw1] at i1; simp [nbr] at i1; omega
  | cons k w1 =>
    rw [hw1] at i1 i2 k1 k2 k4 k8 lτ hsy hwl
    have ek : k = 0 := by
      rcases i2 with q | q
      · cases q
      · exact rk_0 k2.2.1 k2.2.2.1 q
    subst ek
    simp only [List.length_cons] at k1 hwl
    have i1' : nbr (0 :: w1) = 1 + nbr w1 := by simp [nbr]
    have k8' : nop (0 :: w1) = nop w1 := by simp [nop]
    have l1' : nbi (0 :: w1) = nbi w1 := by simp [nbi]
    have e1 : gI τ m 47 - 1 = Int32.ofNat w1.length := by
      rw [k1, show (1 : Int32) = Int32.ofNat 1 from rfl, nat_d (by omega) (by omega)]; congr 1
    have e2 : gI τ m 49 - 1 = Int32.ofNat (brk - 1) := by
      rw [f _ _ (by omega), h49, show (1 : Int32) = Int32.ofNat 1 from rfl, nat_d (by omega) (by omega)]
    rw [e1, e2]
    refine SYR.tok (w := w1) (h := (bnd 1 w h).2) (brk := brk - 1) (cnt := cnt) (wants := false) (mn := mn) (t := t) (s0 := s0) (σ0 := σ0) (b := b) (n := n) (hB.fr (fun a k q => ?_)) ?_ hv ⟨?_, k2.2.2.2.cg (fun i _ => ?_), ?_, by omega, k5, e, ?_, k7.cg (fun i _ => ?_) (fun i _ _ => ?_), by omega⟩ (by omega) ?_ ?_ ?_ ?_ ?_ ((c0.i (by unfold SQ; omega)).i (by unfold SQ; omega)) (fun σ' d1 d2 => hok _ σ' hsy d1 d2)
    · rw [pIo (by omega), pIo (by omega), f _ _ (by omega)]
    · rw [pIo (by omega), pIo (by omega), f _ _ (by omega)]; exact ht.1
    · simp [gI_pI]
    · simp [gI_pI]
    · simp [gI_pI, k3]
    · simp [gI_pI, k6]
    · simp [gI_pI]
    · unfold kN kP kO; simp [gI_pI]
    · simp [gI_pI]
    · rw [pIo (by omega), pIo (by omega), f _ _ (by omega)]; exact h50
    · rw [pIo (by omega), pIo (by omega), f _ _ (by omega)]; exact h51
    · rw [pIo (by omega), pIo (by omega), f _ _ (by omega)]; exact h52
    · rw [← l1']; exact lτ
