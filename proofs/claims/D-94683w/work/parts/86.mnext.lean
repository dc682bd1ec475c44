set_option maxRecDepth 100000
theorem st_74 {m : Nat} {τ : Hp} {c th v2 : Int32} (h9 : gI τ m 9 = c) (h7 : gI τ m 7 + 1 = v2) (hc : c = 60 ∨ c = 61 ∨ c = 62) : fj_X6_signToken_74 m τ th = if c = 61 then pI (pI τ m 8 5) m 9 2 else if th = 61 then pI (pI (pI τ m 7 v2) m 8 5) m 9 (if c = 60 then 1 else 4) else if c = 60 ∧ th = 62 then pI (pI (pI τ m 7 v2) m 8 5) m 9 3 else pI (pI τ m 8 5) m 9 (if c = 60 then 0 else 5) := by
  rcases hc with hc | hc | hc <;> subst hc <;> by_cases h1 : th = 61 <;> by_cases h2 : th = 62 <;> simp [fj_X6_signToken_74, fj_X6_signToken_94, fj_X6_signToken_95, fj_X6_signToken_115, fj_X6_signToken_116, fj_X6_signToken_125, fj_X6_signToken_135, gI_pI, h9, h7, h1, h2]
theorem wp_signToken {m : Nat} {b : Nat → Int32} {n q : Nat} {σ : Hp} (h : MTB m b n σ) (ha : gI σ m 7 = Int32.ofNat q) (hp : gI σ m 10 = Int32.ofNat q) (hq : q < n) : ok_X6_signToken m σ ∧ Ch (S4m m) σ (f_X6_signToken m σ) ∧ TKM m (f_X6_signToken m σ) (sgT b n q) := by
  have hn9 := h.2.1
  have hb := h.2.2.1 q hq
  have hb1 : gI σ (m + 1) (gI σ m 7).toNatClampNeg = b q := by rw [ha, nat_c (by omega)]; exact hb.2.2
  have s1 : gI σ m 7 + 1 = Int32.ofNat (q + 1) := by rw [ha, nat_s (by omega)]
  have c1 : Ch (S4m m) σ (pI (pI σ m 9 (b q)) m 7 (Int32.ofNat (q + 1))) := (Ch.rf.i (by unfold S4m; omega)).i (by unfold S4m; omega)
  have h' := h.ch c1
  have g6 : gI (pI (pI σ m 9 (b q)) m 7 (Int32.ofNat (q + 1))) m 6 = Int32.ofNat n := h'.1
  have g7 : gI (pI (pI σ m 9 (b q)) m 7 (Int32.ofNat (q + 1))) m 7 = Int32.ofNat (q + 1) := by simp [gI_pI]
  have g9 : gI (pI (pI σ m 9 (b q)) m 7 (Int32.ofNat (q + 1))) m 9 = b q := by simp [gI_pI]
  have g10 : gI (pI (pI σ m 9 (b q)) m 7 (Int32.ofNat (q + 1))) m 10 = Int32.ofNat q := by simp [gI_pI, hp]
  generalize hτ : pI (pI σ m 9 (b q)) m 7 (Int32.ofNat (q + 1)) = τ at *
  have s2 : gI τ m 7 + 1 = Int32.ofNat (q + 2) := by rw [g7, nat_s (by omega)]
  have hoj : oj_X6_signToken_50 m τ := by
    refine ⟨fun _ => trivial, fun w => ?_⟩
    rw [g6, g7, nat_le (by omega) (by omega)] at w
    rw [g7]
    exact nat_v (by omega) (by omega)
  refine ⟨?_, ?_⟩
  · unfold ok_X6_signToken
    rw [hb1, s1, hτ]
    refine ⟨by rw [ha]; exact nat_v (by omega) (by omega), fun _ => hoj, fun _ => ⟨fun _ => hoj, fun _ => ⟨fun _ => hoj, fun _ => trivial⟩⟩⟩
  · unfold f_X6_signToken
    rw [hb1, s1, hτ]
    by_cases h3 : b q = 60 ∨ b q = 61 ∨ b q = 62
    · have e50 : (if b q = 60 then fj_X6_signToken_50 m τ else if b q = 62 then fj_X6_signToken_50 m τ else if b q = 61 then fj_X6_signToken_50 m τ else if b q = 59 then fj_X6_signToken_270 m τ else if b q = 40 then fj_X6_signToken_270 m τ else if b q = 41 then fj_X6_signToken_270 m τ else if b q = 43 then fj_X6_signToken_270 m τ else if b q = 45 then fj_X6_signToken_270 m τ else if b q = 42 then fj_X6_signToken_270 m τ else if b q = 47 then fj_X6_signToken_270 m τ else if b q = 37 then fj_X6_signToken_270 m τ else fj_X6_signToken_275 m τ 0) = fj_X6_signToken_50 m τ := by
        rcases h3 with w | w | w <;> simp [w]
      rw [e50]
      -- the byte behind it
      have eth : ∃ th : Int32, fj_X6_signToken_50 m τ = fj_X6_signToken_74 m τ th ∧ (th = 61 ↔ (q + 1 < n ∧ b (q + 1) = 61)) ∧ (th = 62 ↔ (q + 1 < n ∧ b (q + 1) = 62)) := by
        unfold fj_X6_signToken_50
        rw [g6, g7, nat_c (by omega)]
        by_cases w : n ≤ q + 1
        · refine ⟨0, by rw [if_pos (by rw [nat_le (by omega) (by omega)]; exact w)], ⟨fun z => (by cases z), fun z => by omega⟩, ⟨fun z => (by cases z), fun z => by omega⟩⟩
        · have := (h'.2.2.1 (q + 1) (by omega)).2.2
          refine ⟨b (q + 1), by rw [if_neg (by rw [nat_le (by omega) (by omega)]; exact w), this], ⟨fun z => ⟨by omega, z⟩, fun z => z.2⟩, ⟨fun z => ⟨by omega, z⟩, fun z => z.2⟩⟩
      obtain ⟨th, e1, e2, e3⟩ := eth
      rw [e1, st_74 g9 s2 h3]
      rcases h3 with w | w | w
      · have n61 : ¬ b q = 61 := by rw [w]; decide
        by_cases t1 : th = 61
        · have sg : sgT b n q = (q, q + 2, 5, 1) := by unfold sgT; rw [if_pos w, if_pos (e2.mp t1)]
          rw [if_neg n61, if_pos t1, sg, if_pos w]
          exact ⟨((c1.i (by unfold S4m; omega)).i (by unfold S4m; omega)).i (by unfold S4m; omega), by simp [gI_pI, tNx], by simp [gI_pI, g10, tPl], by simp [gI_pI, tKd], fun _ _ => by simp [gI_pI, tWh]⟩
        · by_cases t2 : th = 62
          · have sg : sgT b n q = (q, q + 2, 5, 3) := by unfold sgT; rw [if_pos w, if_neg (fun z => t1 (e2.mpr z)), if_pos (e3.mp t2)]
            rw [if_neg n61, if_neg t1, if_pos ⟨w, t2⟩, sg]
            exact ⟨((c1.i (by unfold S4m; omega)).i (by unfold S4m; omega)).i (by unfold S4m; omega), by simp [gI_pI, tNx], by simp [gI_pI, g10, tPl], by simp [gI_pI, tKd], fun _ _ => by simp [gI_pI, tWh]⟩
          · have sg : sgT b n q = (q, q + 1, 5, 0) := by unfold sgT; rw [if_pos w, if_neg (fun z => t1 (e2.mpr z)), if_neg (fun z => t2 (e3.mpr z))]
            rw [if_neg n61, if_neg t1, if_neg (fun z => t2 z.2), sg, if_pos w]
            exact ⟨(c1.i (by unfold S4m; omega)).i (by unfold S4m; omega), by simp [gI_pI, g7, tNx], by simp [gI_pI, g10, tPl], by simp [gI_pI, tKd], fun _ _ => by simp [gI_pI, tWh]⟩
      · have sg : sgT b n q = (q, q + 1, 5, 2) := by unfold sgT; rw [if_neg (by rw [w]; decide), if_neg (by rw [w]; decide), if_pos w]
        rw [if_pos w, sg]
        exact ⟨(c1.i (by unfold S4m; omega)).i (by unfold S4m; omega), by simp [gI_pI, g7, tNx], by simp [gI_pI, g10, tPl], by simp [gI_pI, tKd], fun _ _ => by simp [gI_pI, tWh]⟩
      · have n61 : ¬ b q = 61 := by rw [w]; decide
        have n60 : ¬ b q = 60 := by rw [w]; decide
        by_cases t1 : th = 61
        · have sg : sgT b n q = (q, q + 2, 5, 4) := by unfold sgT; rw [if_neg n60, if_pos w, if_pos (e2.mp t1)]
          rw [if_neg n61, if_pos t1, sg, if_neg n60]
          exact ⟨((c1.i (by unfold S4m; omega)).i (by unfold S4m; omega)).i (by unfold S4m; omega), by simp [gI_pI, tNx], by simp [gI_pI, g10, tPl], by simp [gI_pI, tKd], fun _ _ => by simp [gI_pI, tWh]⟩
        · have sg : sgT b n q = (q, q + 1, 5, 5) := by unfold sgT; rw [if_neg n60, if_pos w, if_neg (fun z => t1 (e2.mpr z))]
          rw [if_neg n61, if_neg t1, if_neg (fun z => n60 z.1), sg, if_neg n60]
          exact ⟨(c1.i (by unfold S4m; omega)).i (by unfold S4m; omega), by simp [gI_pI, g7, tNx], by simp [gI_pI, g10, tPl], by simp [gI_pI, tKd], fun _ _ => by simp [gI_pI, tWh]⟩
    · have n60 : b q ≠ 60 := fun w => h3 (Or.inl w)
      have n61 : b q ≠ 61 := fun w => h3 (Or.inr (Or.inl w))
      have n62 : b q ≠ 62 := fun w => h3 (Or.inr (Or.inr w))
      unfold sgT
      rw [if_neg n60, if_neg n62, if_neg n61, if_neg n60, if_neg n62, if_neg n61]
      have e1 : ∀ X Y : Hp, (if b q = 59 then X else if b q = 40 then X else if b q = 41 then X else if b q = 43 then X else if b q = 45 then X else if b q = 42 then X else if b q = 47 then X else if b q = 37 then X else Y) = if sgOk (b q) = true then X else Y := by
        intro X Y
        unfold sgOk
        repeat' split
        all_goals simp_all
      rw [e1]
      by_cases k : sgOk (b q) = true
      · rw [if_pos k, if_pos k]
        have e2 : fj_X6_signToken_270 m τ = pI τ m 8 4 := by simp [fj_X6_signToken_270, fj_X6_signToken_275]
        rw [e2]
        exact ⟨c1.i (by unfold S4m; omega), by simp [gI_pI, g7, tNx], by simp [gI_pI, g10, tPl], by simp [gI_pI, tKd], fun _ _ => by simp [gI_pI, tWh, g9]⟩
      · rw [if_neg k, if_neg k]
        have e2 : fj_X6_signToken_275 m τ 0 = pI τ m 8 6 := by simp [fj_X6_signToken_275]
        rw [e2]
        exact ⟨c1.i (by unfold S4m; omega), by simp [gI_pI, g7, tNx], by simp [gI_pI, g10, tPl], by simp [gI_pI, tKd], fun _ w => absurd rfl w⟩
theorem mx_letters {m : Nat} {b : Nat → Int32} {n q : Nat} {σ0 σ : Hp} {Q : Hp → Prop} (h : MTB m b n σ0) (hc : Ch (S4m m) σ0 σ) (ha : gI σ m 7 = Int32.ofNat q) (hp : gI σ m 10 = Int32.ofNat q) (hq : q < n) (hl : isLtB (b q) = true) (hQ : ∀ σ', Ch (S4m m) σ0 σ' → TKM m σ' (tkAt b n q) → Q σ') : lp (lb_X6_token_90 m Q) σ := by
  have hn9 := h.2.1
  have ht : tkAt b n q = wdT b q (runL b n q) := by unfold tkAt; rw [if_neg (by omega), if_pos hl]
  rw [ht] at hQ
  refine lp_of (fun τ => Ch (S4m m) σ0 τ ∧ gI τ m 10 = Int32.ofNat q ∧ ∃ e, gI τ m 7 = Int32.ofNat e ∧ q ≤ e ∧ e ≤ n ∧ runL b n q = runL b n e) (fun τ => n - (gI τ m 7).toNatClampNeg) ?_ ⟨hc, hp, q, ha, Nat.le_refl _, by omega, rfl⟩
  rintro K τ ⟨hτ, h2, e, h0, hqe, hen, hr⟩ hK
  have h' := h.ch hτ
  obtain ⟨s1, s2⟩ := small_iff h' (p := e) (by omega)
  unfold lb_X6_token_90
  rw [h0]
  refine ⟨s1, ?_⟩
  rw [s2]
  refine ⟨fun hx => ?_, fun hx => ?_⟩
  · have er : runL b n q = e := by rw [hr]; exact runE_out hx
    rw [er] at hQ
    rw [h2]
    refine wp_wordAt h' hqe hen ?_
    have e6 : (6 : Int32) = Int32.ofNat 6 := rfl
    rw [nat_d hqe (by omega), e6, nat_le (by omega) (by omega)]
    have c4 : ∀ v, Ch (S4m m) σ0 (pI τ m 9 v) := fun v => hτ.i (by unfold S4m; omega)
    rcases wd_pi (seg b q e) with ⟨w1, w2⟩ | ⟨k, hk, w1, w2, w3, w4⟩
    · unfold wdT at hQ
      rw [w1] at hQ ⊢
      refine ⟨fun _ => ⟨fun v => ⟨fun _ => ?_, fun w => absurd rfl w⟩, fun v => ⟨fun w => absurd w (by decide), fun _ => ?_⟩⟩, fun w => absurd (by decide) w⟩
      · rw [if_pos v] at hQ
        rw [show gI (pI τ m 9 (wdI none)) m 10 = Int32.ofNat q by simp [gI_pI, h2], show gI (pI τ m 9 (wdI none)) m 7 = Int32.ofNat e by simp [gI_pI, h0]]
        refine wp_packed (h'.ch ((Ch.rf.i (by unfold S4m; omega)).i (by unfold S4m; omega))) hqe hen ?_
        refine hQ _ (((c4 _).i (by unfold S4m; omega)).i (by unfold S4m; omega)) ?_
        exact ⟨by simp [gI_pI, h0, tNx], by simp [gI_pI, h2, tPl], by simp [gI_pI, tKd], fun _ _ => by simp [gI_pI, tWh]⟩
      · rw [if_neg v] at hQ
        refine hQ _ ((c4 _).i (by unfold S4m; omega)) ?_
        exact ⟨by simp [gI_pI, h0, tNx], by simp [gI_pI, h2, tPl], by simp [gI_pI, tKd], fun _ w => absurd rfl w⟩
    · unfold wdT at hQ
      rw [w1] at hQ ⊢
      have hk0 : ¬ (wdI (some k)) < 0 := by
        show ¬ Int32.ofNat k < 0
        rw [i3_lt (nat_i (by omega)) (y := 0) (by rfl)]; omega
      refine ⟨fun w => absurd w hk0, fun _ => ⟨fun w => absurd w (by decide), fun _ => ?_⟩⟩
      refine hQ _ ((c4 _).i (by unfold S4m; omega)) ?_
      exact ⟨by simp [gI_pI, h0, tNx], by simp [gI_pI, h2, tPl], by simp [gI_pI, tKd], fun _ _ => by simp [gI_pI, tWh, wdI]⟩
  · have hx1 : e < n := by
      by_cases w : e < n
      · exact w
      · exact absurd (Or.inl (by omega)) hx
    have w : isLtB (b e) = true := bt (fun hb => hx (Or.inr hb))
    rw [nat_s (by omega)]
    refine hK _ ⟨hτ.i (by unfold S4m; omega), by simp [gI_pI, h2], e + 1, by simp [gI_pI], by omega, by omega, by rw [hr]; exact runE_in hx1 w⟩ ?_
    rw [gI_pI, if_pos ⟨rfl, rfl⟩, h0, nat_c (by omega), nat_c (by omega)]; omega
theorem mx_digits {m : Nat} {b : Nat → Int32} {n q : Nat} {σ0 σ : Hp} {Q : Hp → Prop} (h : MTB m b n σ0) (hc : Ch (S4m m) σ0 σ) (ha : gI σ m 7 = Int32.ofNat q) (hp : gI σ m 10 = Int32.ofNat q) (h3 : gI σ m 8 = 3) (h4 : gI σ m 9 = 0) (hq : q < n) (hl : isLtB (b q) = false) (hd : isDgB (b q) = true) (hQ : ∀ σ', Ch (S4m m) σ0 σ' → TKM m σ' (tkAt b n q) → Q σ') : lp (lb_X6_token_213 m Q) σ := by
  have hn9 := h.2.1
  have ht : tkAt b n q = (q, runD b n q, 3, numV b (n - q) q 0) := by unfold tkAt; rw [if_neg (by omega), if_neg (by rw [hl]; exact Bool.false_ne_true), if_pos hd]
  rw [ht] at hQ
  refine lp_of (fun τ => Ch (S4m m) σ0 τ ∧ gI τ m 10 = Int32.ofNat q ∧ gI τ m 8 = 3 ∧ ∃ e, gI τ m 7 = Int32.ofNat e ∧ q ≤ e ∧ e ≤ n ∧ runD b n q = runD b n e ∧ numV b (n - q) q 0 = numV b (n - e) e (gI τ m 9)) (fun τ => n - (gI τ m 7).toNatClampNeg) ?_ ⟨hc, hp, h3, q, ha, Nat.le_refl _, by omega, rfl, by rw [h4]⟩
  rintro K τ ⟨hτ, h2, h3, e, h0, hqe, hen, hr, hv⟩ hK
  have h' := h.ch hτ
  obtain ⟨s1, s2⟩ := digit_iff h' (p := e) (by omega)
  unfold lb_X6_token_213
  rw [h0]
  refine ⟨s1, ?_⟩
  rw [s2]
  refine ⟨fun hx => ?_, fun hx => ?_⟩
  · refine hQ _ hτ ?_
    rw [hr, hv, show runD b n e = e from runE_out hx, numV_out hx]
    exact ⟨h0, h2, h3, fun _ _ => rfl⟩
  · have hx1 : e < n := by
      by_cases w : e < n
      · exact w
      · exact absurd (Or.inl (by omega)) hx
    have w : isDgB (b e) = true := bt (fun hb => hx (Or.inr hb))
    rw [nat_s (by omega), nat_c (by omega), (h'.2.2.1 e hx1).2.2]
    refine ⟨fun v => ⟨nat_v (by omega) (by omega), ?_⟩, fun v => ?_⟩
    · refine hK _ ⟨(hτ.i (by unfold S4m; omega)).i (by unfold S4m; omega), by simp [gI_pI, h2], by simp [gI_pI, h3], e + 1, by simp [gI_pI], by omega, by omega, by rw [hr]; exact runE_in hx1 w, ?_⟩ ?_
      · rw [hv, numV_in hx1 w, if_pos v]
        simp [gI_pI]
      · rw [gI_pI, if_pos ⟨rfl, rfl⟩, h0, nat_c (by omega), nat_c (by omega)]; omega
    · refine hK _ ⟨(hτ.i (by unfold S4m; omega)).i (by unfold S4m; omega), by simp [gI_pI, h2], by simp [gI_pI, h3], e + 1, by simp [gI_pI], by omega, by omega, by rw [hr]; exact runE_in hx1 w, ?_⟩ ?_
      · rw [hv, numV_in hx1 w, if_neg v]
        simp [gI_pI]
      · rw [gI_pI, if_pos ⟨rfl, rfl⟩, h0, nat_c (by omega), nat_c (by omega)]; omega
theorem wp_token {m : Nat} {b : Nat → Int32} {n p : Nat} {σ : Hp} {Q : Hp → Prop} (h : MTB m b n σ) (ha : gI σ m 7 = Int32.ofNat p) (hp : p ≤ n) (hQ : ∀ σ', Ch (S4m m) σ σ' → TKM m σ' (tk b n p) → Q σ') : wp_X6_token m σ Q := by
  have hn9 := h.2.1
  refine lp_of (fun τ => Ch (S4m m) σ τ ∧ ∃ e, gI τ m 7 = Int32.ofNat e ∧ p ≤ e ∧ e ≤ n ∧ skp b n p = skp b n e) (fun τ => n - (gI τ m 7).toNatClampNeg) ?_ ⟨Ch.rf, p, ha, Nat.le_refl _, hp, rfl⟩
  rintro K τ ⟨hτ, e, h0, hpe, hen, hs⟩ hK
  have h' := h.ch hτ
  have h1 : gI τ m 6 = Int32.ofNat n := h'.1
  have more : e < n → isSpB (b e) = true → K (pI τ m 7 (Int32.ofNat (e + 1))) := by
    intro hx w
    refine hK _ ⟨hτ.i (by unfold S4m; omega), e + 1, by simp [gI_pI], by omega, by omega, by rw [hs]; exact runE_in hx w⟩ ?_
    rw [gI_pI, if_pos ⟨rfl, rfl⟩, h0, nat_c (by omega), nat_c (by omega)]; omega
  have stop : (n ≤ e ∨ isSpB (b e) = false) → wj_X6_token_52 m τ Q := by
    intro hx
    have et : tk b n p = tkAt b n e := by
      unfold tk
      rw [hs, show skp b n e = e from runE_out hx]
    rw [et] at hQ
    have cp : Ch (S4m m) σ (pI τ m 10 (Int32.ofNat e)) := hτ.i (by unfold S4m; omega)
    have q0 : gI (pI τ m 10 (Int32.ofNat e)) m 7 = Int32.ofNat e := by simp [gI_pI, h0]
    have q2 : gI (pI τ m 10 (Int32.ofNat e)) m 10 = Int32.ofNat e := by simp [gI_pI]
    have hm := h.ch cp
    unfold wj_X6_token_52
    rw [h0, h1, nat_e (by omega) (by omega)]
    obtain ⟨s1, s2⟩ := small_iff hm (p := e) (by omega)
    obtain ⟨d1, d2⟩ := digit_iff hm (p := e) (by omega)
    rw [s2, d2]
    refine ⟨fun w => ?_, fun w => ⟨s1, fun w3 => ⟨d1, fun w4 => ?_, fun w4 => ?_⟩, fun w3 => ?_⟩⟩
    · subst w
      refine hQ _ (cp.i (by unfold S4m; omega)) ?_
      unfold tkAt
      rw [if_pos (Nat.le_refl _)]
      exact ⟨by simp [gI_pI, h0, tNx], by simp [gI_pI, tPl], by simp [gI_pI, tKd], fun w _ => absurd rfl w⟩
    · have w3 : isLtB (b e) = false := w3.elim (fun h => by omega) id
      have w4 : isDgB (b e) = false := w4.elim (fun h => by omega) id
      obtain ⟨a1, a2, a3⟩ := wp_signToken hm q0 q2 (by omega)
      refine ⟨a1, fun s hs => ?_⟩
      subst hs
      refine hQ _ (cp.tr a2) ?_
      unfold tkAt
      rw [if_neg (by omega), if_neg (by rw [w3]; exact Bool.false_ne_true), if_neg (by rw [w4]; exact Bool.false_ne_true)]
      exact a3
    · have w3 : isLtB (b e) = false := w3.elim (fun h => by omega) id
      have w4 : isDgB (b e) = true := bt (fun hb => w4 (Or.inr hb))
      exact mx_digits h ((cp.i (by unfold S4m; omega)).i (by unfold S4m; omega)) (by simp [gI_pI, h0]) (by simp [gI_pI]) (by simp [gI_pI]) (by simp [gI_pI]) (by omega) w3 w4 hQ
    · have w3 : isLtB (b e) = true := bt (fun hb => w3 (Or.inr hb))
      exact mx_letters h cp q0 q2 (by omega) w3 hQ
  unfold lb_X6_token_0
  rw [h0, h1, nat_le (by omega) (by omega)]
  refine ⟨fun w => stop (Or.inl w), fun w => ⟨nat_v (by omega) (by omega), ?_⟩⟩
  rw [nat_c (by omega), (h'.2.2.1 e (by omega)).2.2, nat_s (by omega)]
  refine ⟨fun w1 => more (by omega) ((sp_b _).mpr (Or.inl w1)), fun w1 => ⟨nat_v (by omega) (by omega), fun w2 => more (by omega) ((sp_b _).mpr (Or.inr w2)), fun w2 => stop (Or.inr ?_)⟩⟩
  cases hb : isSpB (b e)
  · rfl
  · rcases (sp_b _).mp hb with w | w <;> contradiction
