set_option maxRecDepth 100000
theorem pIo {σ : Hp} {a k b j : Nat} {v : Int32} (h : b ≠ a ∨ j ≠ k) : gI (pI σ a k v) b j = gI σ b j := by
  rw [gI_pI, if_neg (by omega)]
theorem wrong_of {m : Nat} {σ : Hp} {x : Int32} {Q : Int32 → Hp → Prop} (h : Q 0 (pI (pI σ m 4 x) m 5 (gI σ m 10))) : ∀ (r : Int32) (s : Hp), (r, s) = f_X6_wrong m σ x → (r = 0 ∨ r = 1) ∧ (Q r s) := by
  intro r s he
  unfold f_X6_wrong at he
  cases he
  exact ⟨Or.inl rfl, h⟩
theorem SYR.bad {m : Nat} {b : Nat → Int32} {n s0 : Nat} {S : SYs} {σ0 σ : Hp} {x : Int32} {Q : Int32 → Hp → Prop} (hR : SYR m b n s0 S σ) (hc : Ch (SQ m s0) σ0 σ) (h : ∀ σ', Ch (SQ m s0) σ0 σ' → gI σ' m 4 = x → gI σ' m 5 = Int32.ofNat (tPl S.2.2.2.2.2.2) → Q 0 σ') : Q 0 (pI (pI σ m 4 x) m 5 (gI σ m 10)) :=
  h _ ((hc.i (by unfold SQ; omega)).i (by unfold SQ; omega)) (by simp [gI_pI]) (by simp [gI_pI, hR.2.1.2.1])
theorem bI_0 (x : Bool) : bI x = 0 ↔ x = false := by cases x <;> simp [bI]
theorem wp_leafRead {m : Nat} {b : Nat → Int32} {n s0 : Nat} {σ0 σ : Hp} {w : List Nat} {h : List Ev} {brk cnt : Nat} {mn : Bool} {t : Tok} {Q : Int32 → Hp → Prop} (hR : SYR m b n s0 (w, h, brk, cnt, true, mn, t) σ) (hc : Ch (SQ m s0) σ0 σ)
    (hok : ∀ S' σ', syLeaf (adv b n) w h brk cnt mn t = .inl S' → Ch (SQ m s0) σ0 σ' → SYR m b n s0 S' σ' → Q 1 σ')
    (hbad : ∀ k pl σ', syLeaf (adv b n) w h brk cnt mn t = .inr (.inr (k, pl)) → Ch (SQ m s0) σ0 σ' → gI σ' m 4 = k → gI σ' m 5 = Int32.ofNat pl → Q 0 σ') : wp_X6_leafRead m σ Q := by
  have bad : ∀ x τ, SYR m b n s0 (w, h, brk, cnt, true, mn, t) τ → Ch (SQ m s0) σ0 τ → syLeaf (adv b n) w h brk cnt mn t = .inr (.inr (x, tPl t)) → Q 0 (pI (pI τ m 4 x) m 5 (gI τ m 10)) := fun x τ hτ hcτ e => hτ.bad hcτ (fun σ' c1 c2 c3 => hbad x _ σ' e c1 c2 c3)
  have hR0 := hR
  obtain ⟨hB, ht, hn, hS, hbr, h49, h50, h51, h52, hl⟩ := hR
  simp only at ht hn hS hbr h49 h50 h51 h52 hl
  have hb8 : nbr w ≤ 8 := hS.2.2.2.1
  have hc64 : cnt ≤ 64 := hS.2.2.2.2.1
  have e64 : (64 : Int32) = Int32.ofNat 64 := rfl
  have e8 : (8 : Int32) = Int32.ofNat 8 := rfl
  unfold wp_X6_leafRead
  rw [msign ht, mkey ht, h49, e8, nat_e (by omega) (by omega), h52, bI_0]
  -- a name or a number
  have leaf : tIsSign t 40 = false → (tIsKey t 18 && mn) = false → wj_X6_leafRead_86 m σ Q := by
    intro q1 q2
    have en := mname ht
    unfold wj_X6_leafRead_86
    -- a knot more
    have knot : ∀ (x1 kd pa : Int32) (v : Ev), (x1 < 0 ↔ kd = 0) → (kd = 0 ∨ kd = 1) → (kd = 0 → pa = gI σ m 9) → (kd = 1 → pa = x1) → (∀ (kn pt ot : Nat → Int32) e, kn e = kd → pt e = pa → SegE kn pt ot e (e + 1) v) → syLeaf (adv b n) w h brk cnt mn t = (if cnt = 64 then .inr (.inr (2, tPl t)) else .inl (w, v :: h, brk, cnt + 1, false, mn, adv b n t)) → wj_X6_leafRead_129 m σ x1 Q := by
      intro x1 kd pa v hx hkd hp0 hp1 hseg hsy
      unfold wj_X6_leafRead_129 wp_X6_isCounted
      rw [h50, e64, nat_e (by omega) (by omega)]
      refine ⟨fun q => wrong_of ⟨fun _ => ?_, fun w => absurd rfl w⟩, fun q => ⟨fun w => (by cases w), fun _ => ?_⟩⟩
      · rw [if_pos q] at hsy
        exact bad 2 σ hR0 hc hsy
      · rw [if_neg q] at hsy
        rw [nat_s (by omega)]
        have c1 : Ch (SQ m s0) σ0 (pI σ m 50 (Int32.ofNat (cnt + 1))) := hc.i (by unfold SQ; omega)
        have hS1 : STK m (pI σ m 50 (Int32.ofNat (cnt + 1))) s0 w h cnt := hS.ch (fun a k q => pIo (by omega))
        obtain ⟨g1, g2, g3, g4⟩ := hS1.leaf (by omega) hseg
        have go : wj_X6_leafRead_160 m (pI σ m 50 (Int32.ofNat (cnt + 1))) pa kd Q := by
          refine ⟨g1, fun s hs => ?_⟩
          subst hs
          refine SYR.tok (w := w) (h := v :: h) (brk := brk) (cnt := cnt + 1) (wants := false) (mn := mn) (t := t) (s0 := s0) (σ0 := σ0) (b := b) (n := n) (hB.fr (fun a k q => ?_)) ?_ hn (g2.ch (fun a k q => pIo (by omega))) hbr ?_ ?_ ?_ ?_ ?_ ((g3 σ0 c1).i (by unfold SQ; omega)) (fun σ' d1 d2 => hok _ σ' hsy d1 d2)
          · rw [pIo (by omega), g4 _ _ (by omega) (by omega) (by omega) (by omega) (by omega), pIo (by omega)]
          · rw [pIo (by omega), g4 _ _ (by omega) (by omega) (by omega) (by omega) (by omega), pIo (by omega)]; exact ht.1
          · rw [pIo (by omega), g4 _ _ (by omega) (by omega) (by omega) (by omega) (by omega), pIo (by omega)]; exact h49
          · rw [pIo (by omega), g4 _ _ (by omega) (by omega) (by omega) (by omega) (by omega)]; simp [gI_pI]
          · simp [gI_pI, bI]
          · rw [pIo (by omega), g4 _ _ (by omega) (by omega) (by omega) (by omega) (by omega), pIo (by omega)]; exact h52
          · simp only [List.length_cons, hl]; rfl
        rcases hkd with hkd | hkd
        · have hx' := hx.mpr hkd
          refine ⟨fun _ => ⟨fun _ => ?_, fun w => absurd hx' w⟩, fun w => absurd hx' w⟩
          rw [pIo (by omega), ← hp0 hkd, ← hkd]; exact go
        · have hx' : ¬ x1 < 0 := fun w => by rw [hx.mp w] at hkd; cases hkd
          refine ⟨fun w => absurd w hx', fun _ => ⟨fun w => absurd w hx', fun _ => ?_⟩⟩
          rw [← hp1 hkd, ← hkd]; exact go
    rw [en]
    have base : syLeaf (adv b n) w h brk cnt mn t = match nmOf t with
      | some i => if cnt = 64 then .inr (.inr (2, tPl t)) else .inl (w, eName i :: h, brk, cnt + 1, false, mn, adv b n t)
      | none => if tKd t = 3 then (if tWh t ≤ 9999 then (if cnt = 64 then .inr (.inr (2, tPl t)) else .inl (w, eNum (tWh t) :: h, brk, cnt + 1, false, mn, adv b n t)) else .inr (.inr (2, tPl t))) else .inr (.inr (1, tPl t)) := by
      unfold syLeaf
      rw [if_neg (by rw [q1]; exact Bool.false_ne_true), if_neg (by rw [q2]; exact Bool.false_ne_true)]
      cases nmOf t <;> rfl
    cases hno : nmOf t with
    | some i =>
      rw [hno] at base
      have hi := nmOf_b hno
      have h0 : (0 : Int32) ≤ Int32.ofNat i := by rw [i3_le (x := 0) (by rfl) (nat_i (by omega))]; omega
      have h1 : ¬ Int32.ofNat i < 0 := by rw [i3_lt (nat_i (by omega)) (y := 0) (by rfl)]; omega
      refine ⟨fun _ => ⟨fun _ => ?_, fun w => absurd h0 w⟩, fun w => absurd h0 w⟩
      exact knot (Int32.ofNat i) 1 (Int32.ofNat i) (eName i) ⟨fun w => absurd w h1, fun w => (by cases w)⟩ (Or.inr rfl) (fun w => (by cases w)) (fun _ => rfl) (fun kn pt ot e w1 w2 => SegE.name hi w1 w2) base
    | none =>
      rw [hno] at base
      have h0 : ¬ (0 : Int32) ≤ nmI32 none := by decide
      have h1 : nmI32 none < 0 := by decide
      refine ⟨fun w => absurd w h0, fun _ => ⟨fun k3 => ⟨fun w => absurd w h0, fun _ => ⟨fun k9 => ?_, fun k9 => ?_⟩⟩, fun k3 => ?_⟩⟩
      · rw [ht.2.2.1] at k3
        have e9 := ht.2.2.2 (by rw [k3]; decide) (by rw [k3]; decide)
        rw [e9] at k9
        simp only [if_pos k3, if_pos k9] at base
        exact knot (nmI32 none) 0 (gI σ m 9) (eNum (tWh t)) ⟨fun _ => rfl, fun _ => h1⟩ (Or.inl rfl) (fun _ => rfl) (fun w => (by cases w)) (fun kn pt ot e w1 w2 => SegE.num w1 (w2.trans e9)) base
      · rw [ht.2.2.1] at k3
        have e9 := ht.2.2.2 (by rw [k3]; decide) (by rw [k3]; decide)
        rw [e9] at k9
        simp only [if_pos k3, if_neg k9] at base
        exact wrong_of (bad 2 σ hR0 hc base)
      · rw [ht.2.2.1] at k3
        simp only [if_neg k3] at base
        exact wrong_of (bad 1 σ hR0 hc base)
  refine ⟨fun q1 => ⟨fun q2 => leaf q1 (by rw [q2]; rfl), fun q2 => ⟨fun q3 => leaf q1 (by rw [q3, Bool.and_false]), fun q3 => ?_⟩⟩, fun q1 => ⟨fun q2 => ?_, fun q2 => ?_⟩⟩
  · have hsy : syLeaf (adv b n) w h brk cnt mn t = if cnt = 64 then .inr (.inr (2, tPl t)) else .inl (2 :: w, h, brk, cnt + 1, true, mn, adv b n t) := by
      unfold syLeaf
      rw [if_neg (by rw [q1]; exact Bool.false_ne_true), if_pos (by rw [bt q2, bt q3]; rfl)]
    unfold wp_X6_isCounted
    rw [h50, e64, nat_e (by omega) (by omega)]
    refine ⟨fun q => wrong_of ⟨fun _ => ?_, fun w => absurd rfl w⟩, fun q => ⟨fun w => (by cases w), fun _ => ?_⟩⟩
    · rw [if_pos q] at hsy
      exact bad 2 σ hR0 hc hsy
    · rw [if_neg q] at hsy
      rw [nat_s (by omega)]
      have c1 : Ch (SQ m s0) σ0 (pI σ m 50 (Int32.ofNat (cnt + 1))) := hc.i (by unfold SQ; omega)
      have hS1 : STK m (pI σ m 50 (Int32.ofNat (cnt + 1))) s0 w h cnt := hS.ch (fun a k q => pIo (by omega))
      obtain ⟨g1, g2, g3, g4⟩ := hS1.push (k := 2) (cnt' := cnt + 1) (by omega) (by simpa [nbr] using hb8) (by omega) (by simp)
      have e2 : Int32.ofNat 2 = 2 := rfl
      rw [e2] at g1 g2 g3 g4
      refine ⟨g1, fun s hs => ?_⟩
      subst hs
      refine SYR.tok (w := 2 :: w) (h := h) (brk := brk) (cnt := cnt + 1) (wants := true) (mn := mn) (t := t) (s0 := s0) (σ0 := σ0) (b := b) (n := n) (hB.fr (fun a k q => ?_)) ?_ hn g2 (by simpa [nbr] using hbr) ?_ ?_ ?_ ?_ ?_ (g3 σ0 c1) (fun σ' d1 d2 => hok _ σ' hsy d1 d2)
      · rw [g4 _ _ (by omega) (by omega), pIo (by omega)]
      · rw [g4 _ _ (by omega) (by omega), pIo (by omega)]; exact ht.1
      · rw [g4 _ _ (by omega) (by omega), pIo (by omega)]; exact h49
      · rw [g4 _ _ (by omega) (by omega)]; simp [gI_pI]
      · rw [g4 _ _ (by omega) (by omega), pIo (by omega)]; exact h51
      · rw [g4 _ _ (by omega) (by omega), pIo (by omega)]; exact h52
      · simpa [nbi] using hl
  · have hsy : syLeaf (adv b n) w h brk cnt mn t = .inr (.inr (2, tPl t)) := by
      unfold syLeaf
      rw [if_pos (bt q1), if_pos q2]
    exact wrong_of (bad 2 σ hR0 hc hsy)
  · have hsy : syLeaf (adv b n) w h brk cnt mn t = .inl (0 :: w, h, brk + 1, cnt, true, true, adv b n t) := by
      unfold syLeaf
      rw [if_pos (bt q1), if_neg q2]
    rw [nat_s (by omega)]
    have c1 : Ch (SQ m s0) σ0 (pI σ m 49 (Int32.ofNat (brk + 1))) := hc.i (by unfold SQ; omega)
    have hS1 : STK m (pI σ m 49 (Int32.ofNat (brk + 1))) s0 w h cnt := hS.ch (fun a k q => pIo (by omega))
    obtain ⟨g1, g2, g3, g4⟩ := hS1.push (k := 0) (cnt' := cnt) (by omega) (by simp [nbr]; omega) (by omega) (by simp)
    have e0 : Int32.ofNat 0 = 0 := rfl
    rw [e0] at g1 g2 g3 g4
    refine ⟨g1, fun s hs => ?_⟩
    subst hs
    refine SYR.tok (w := 0 :: w) (h := h) (brk := brk + 1) (cnt := cnt) (wants := true) (mn := true) (t := t) (s0 := s0) (σ0 := σ0) (b := b) (n := n) (hB.fr (fun a k q => ?_)) ?_ hn (g2.ch (fun a k q => pIo (by omega))) (by simp [nbr]; omega) ?_ ?_ ?_ ?_ ?_ ((g3 σ0 c1).i (by unfold SQ; omega)) (fun σ' d1 d2 => hok _ σ' hsy d1 d2)
    · rw [pIo (by omega), g4 _ _ (by omega) (by omega), pIo (by omega)]
    · rw [pIo (by omega), g4 _ _ (by omega) (by omega), pIo (by omega)]; exact ht.1
    · rw [pIo (by omega), g4 _ _ (by omega) (by omega)]; simp [gI_pI]
    · rw [pIo (by omega), g4 _ _ (by omega) (by omega), pIo (by omega)]; exact h50
    · rw [pIo (by omega), g4 _ _ (by omega) (by omega), pIo (by omega)]; exact h51
    · simp [gI_pI, bI]
    · simpa [nbi] using hl
