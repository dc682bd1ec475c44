set_option maxRecDepth 100000
/-! LongYears.<init> -/
theorem RB.up {d : Nat} {σ σ' : Hp} (h : RB d σ) (hc : ∀ a, d ≤ a → a < d + 11 → gT σ' a = gT σ a ∧ ∀ i, gR σ' a i = gR σ a i) : RB d σ' := by
  obtain ⟨r0, ⟨r1, a1, b1, c1⟩, ⟨r2, a2, b2, c2⟩, ⟨r3, a3, b3, c3⟩, ⟨r4, a4, b4, c4⟩, ⟨r5, a5, b5, c5⟩⟩ := h
  have t : ∀ a {x : CT}, d ≤ a → a < d + 11 → gT σ a = x → gT σ' a = x := fun a x q1 q2 q => ((hc a q1 q2).1).trans q
  have r : ∀ a i {x : Option Nat}, d ≤ a → a < d + 11 → gR σ a i = x → gR σ' a i = x := fun a i x q1 q2 q => ((hc a q1 q2).2 i).trans q
  exact ⟨t _ (by omega) (by omega) r0, ⟨r _ _ (by omega) (by omega) r1, t _ (by omega) (by omega) a1, r _ _ (by omega) (by omega) b1, t _ (by omega) (by omega) c1⟩, ⟨r _ _ (by omega) (by omega) r2, t _ (by omega) (by omega) a2, r _ _ (by omega) (by omega) b2, t _ (by omega) (by omega) c2⟩, ⟨r _ _ (by omega) (by omega) r3, t _ (by omega) (by omega) a3, r _ _ (by omega) (by omega) b3, t _ (by omega) (by omega) c3⟩, ⟨r _ _ (by omega) (by omega) r4, t _ (by omega) (by omega) a4, r _ _ (by omega) (by omega) b4, t _ (by omega) (by omega) c4⟩, ⟨r _ _ (by omega) (by omega) r5, t _ (by omega) (by omega) a5, r _ _ (by omega) (by omega) b5, t _ (by omega) (by omega) c5⟩⟩
/-- cells below o as in σ0; none behind the last -/
def NF (o : Nat) (σ0 σ : Hp) : Prop := (∀ a, a < o → gT σ a = gT σ0 a ∧ ∀ i, gR σ a i = gR σ0 a i ∧ gI σ a i = gI σ0 a i ∧ gL σ a i = gL σ0 a i) ∧ (WF σ0 → ∀ a, gS σ ≤ a → gT σ a = none)
/-- LongYears, its first j arrays, its reader and realm laid; p cells in all -/
def NI (o j p : Nat) (σ0 σ : Hp) : Prop := gS σ = o + p ∧ gT σ o = some (.inl 1) ∧ (∀ q ∈ lbTab.take j, gR σ o q.1 = some (o + q.2.1) ∧ gT σ (o + q.2.1) = some (.inr q.2.2)) ∧ (gR σ o 4 = some (o + 2) ∧ gT σ (o + 2) = some (.inl 2) ∧ gR σ (o + 2) 8 = some o) ∧ (gR σ o 5 = some (o + 3) ∧ RB (o + 3) σ ∧ LRx o (o + 3) σ rl0 ∧ gI σ (o + 3) 10 = 0) ∧ (∀ i, gI σ o i = if i = 3 then -1 else 0) ∧ (10 ≤ j → ∀ k, k < 12 → gR σ (o + 22) k = some (o + 23 + k) ∧ gT σ (o + 23 + k) = some (.inr (.long, 313))) ∧ NF o σ0 σ
/-- what stood stands -/
def ST (o f : Nat) (σ σ' : Hp) : Prop := gS σ ≤ gS σ' ∧ ∀ a, a < gS σ → gT σ' a = gT σ a ∧ ∀ i, (¬ (a = o ∧ i = f) → a ≠ o + 15 → a ≠ o + 16 → gR σ' a i = gR σ a i) ∧ gI σ' a i = gI σ a i ∧ gL σ' a i = gL σ a i
theorem NI.up {o j p p' f : Nat} {σ0 σ σ' : Hp} (h : NI o j p σ0 σ) (hp : 14 ≤ p) (hp2 : p' ≤ 110) (hr : 10 ≤ j → 35 ≤ p) (hs : gS σ' = o + p') (hc : ST o f σ σ') (hf : f ≠ 4 ∧ f ≠ 5) (hd : ∀ q ∈ lbTab.take j, q.1 ≠ f ∧ q.2.1 < p) (hN : NF o σ0 σ') : NI o j p' σ0 σ' := by
  obtain ⟨h1, h2, h3, h4, h5, h6, h7, h8⟩ := h
  obtain ⟨c1, c2⟩ := hc
  refine ⟨hs, ((c2 o (by omega)).1).trans h2, fun q hq => ?_, ⟨(((c2 o (by omega)).2 4).1 (by omega) (by omega) (by omega)).trans h4.1, ((c2 (o + 2) (by omega)).1).trans h4.2.1, (((c2 (o + 2) (by omega)).2 8).1 (by omega) (by omega) (by omega)).trans h4.2.2⟩, ⟨(((c2 o (by omega)).2 5).1 (by omega) (by omega) (by omega)).trans h5.1, h5.2.1.up (fun a q1 q2 => ⟨(c2 a (by omega)).1, fun i => ((c2 a (by omega)).2 i).1 (by omega) (by omega) (by omega)⟩), h5.2.2.1.fr c1 (fun a q1 q2 => ⟨(c2 a q2).1, fun i => ⟨((c2 a q2).2 i).1 (by omega) (by omega) (by omega), ((c2 a q2).2 i).2⟩⟩), (((c2 (o + 3) (by omega)).2 10).2.1).trans h5.2.2.2⟩, fun i => (((c2 o (by omega)).2 i).2.1).trans (h6 i), fun hj k hk => ?_, hN⟩
  · have e := hd q hq
    exact ⟨(((c2 o (by omega)).2 q.1).1 (by omega) (by omega) (by omega)).trans (h3 q hq).1, ((c2 (o + q.2.1) (by omega)).1).trans (h3 q hq).2⟩
  · have := hr hj
    exact ⟨(((c2 (o + 22) (by omega)).2 k).1 (by omega) (by omega) (by omega)).trans (h7 hj k hk).1, ((c2 (o + 23 + k) (by omega)).1).trans (h7 hj k hk).2⟩
theorem NF.new {o : Nat} {σ0 σ : Hp} (h : NF o σ0 σ) (ho : o < gS σ) {t : Nat ⊕ (FieldType × Nat)} : NF o σ0 (pN σ t) := by
  refine ⟨fun a ha => ⟨by rw [gT_pN, if_neg (by omega)]; exact (h.1 a ha).1, fun i => ?_⟩, fun w a ha => ?_⟩
  · rw [gR_pN, if_neg (by omega), gI_pN, if_neg (by omega), gL_pN, if_neg (by omega)]
    exact (h.1 a ha).2 i
  · have ha : gS σ + 1 ≤ a := ha
    rw [gT_pN, if_neg (by omega)]; exact h.2 w a (by omega)
theorem NF.r {o a k : Nat} {σ0 σ : Hp} {v : Option Nat} (h : NF o σ0 σ) (ha : o ≤ a) : NF o σ0 (pR σ a k v) := ⟨fun b hb => ⟨(h.1 b hb).1, fun i => ⟨by rw [gR_pR, if_neg (by omega)]; exact ((h.1 b hb).2 i).1, ((h.1 b hb).2 i).2⟩⟩, h.2⟩
theorem NF.i {o a k : Nat} {σ0 σ : Hp} {v : Int32} (h : NF o σ0 σ) (ha : o ≤ a) : NF o σ0 (pI σ a k v) := ⟨fun b hb => ⟨(h.1 b hb).1, fun i => ⟨((h.1 b hb).2 i).1, by rw [pIo (by omega)]; exact ((h.1 b hb).2 i).2.1, ((h.1 b hb).2 i).2.2⟩⟩, h.2⟩
theorem ST.new {o f : Nat} {σ : Hp} {t : Nat ⊕ (FieldType × Nat)} {v : Option Nat} : ST o f σ (pR (pN σ t) o f v) := by
  refine ⟨Nat.le_succ _, fun a ha => ⟨by rw [gT_pR, gT_pN, if_neg (by omega)], fun i => ⟨fun q _ _ => ?_, ?_, ?_⟩⟩⟩
  · rw [gR_pR, if_neg q, gR_pN, if_neg (by omega)]
  · rw [gI_pR, gI_pN, if_neg (by omega)]
  · rw [gL_pR, gL_pN, if_neg (by omega)]
theorem NI.step {o j p f N : Nat} {ty : FieldType} {σ0 σ : Hp} (h : NI o j p σ0 σ) (hq : lbTab[j]? = some (f, p, ty, N)) (hp : 14 ≤ p ∧ p + 1 ≤ 110) (hr : 10 ≤ j → 35 ≤ p) (hf : f ≠ 4 ∧ f ≠ 5) (hd : ∀ q ∈ lbTab.take j, q.1 ≠ f ∧ q.2.1 < p) (hj : j + 1 ≠ 10) : NI o (j + 1) (p + 1) σ0 (pR (pN σ (.inr (ty, N))) o f (some (gS σ))) := by
  have h1 := h.1
  have u := h.up (σ' := pR (pN σ (.inr (ty, N))) o f (some (gS σ))) (p' := p + 1) (f := f) hp.1 hp.2 hr (show gS σ + 1 = _ by omega) (ST.new (t := .inr (ty, N)) (v := some (gS σ))) hf hd ((h.2.2.2.2.2.2.2.new (by omega)).r (Nat.le_refl _))
  obtain ⟨u1, u2, u3, u4, u5, u6, u7, u8⟩ := u
  refine ⟨u1, u2, fun q hq' => ?_, u4, u5, u6, fun hj' => u7 (by omega), u8⟩
  rw [List.take_add_one, hq] at hq'
  rcases List.mem_append.mp hq' with hq' | hq'
  · exact u3 q hq'
  · have e : q = (f, p, ty, N) := by simpa using hq'
    subst e
    refine ⟨?_, ?_⟩
    · show gR (pR _ o f _) o f = some (o + p)
      rw [gR_pR, if_pos ⟨rfl, rfl⟩, h1]
    · show gT (pN σ _) (o + p) = _
      rw [← h1, gT_pN, if_pos rfl]
theorem NI.rows {o : Nat} {σ0 σ : Hp} (h : NI o 9 22 σ0 σ) : NI o 10 35 σ0 (pR (pM σ .long 12 313) o 20 (some (gS σ))) := by
  have h1 := h.1
  have st : ST o 20 σ (pR (pM σ .long 12 313) o 20 (some (gS σ))) := by
    refine ⟨show gS σ ≤ gS σ + 1 + 12 by omega, fun a ha => ⟨by rw [gT_pR, pM_T (Or.inl ha)], fun i => ⟨fun q _ _ => ?_, ?_, ?_⟩⟩⟩
    · rw [gR_pR, if_neg q, pM_R (Or.inl ha)]
    · rw [gI_pR, pM_I, if_neg (by omega)]
    · rw [gL_pR, pM_L, if_neg (by omega)]
  have nf : NF o σ0 (pR (pM σ .long 12 313) o 20 (some (gS σ))) := by
    refine NF.r ⟨fun a ha => ⟨by rw [pM_T (Or.inl (by omega))]; exact (h.2.2.2.2.2.2.2.1 a ha).1, fun i => ?_⟩, fun w a ha => ?_⟩ (Nat.le_refl _)
    · rw [pM_R (Or.inl (by omega)), pM_I, if_neg (by omega), pM_L, if_neg (by omega)]
      exact (h.2.2.2.2.2.2.2.1 a ha).2 i
    · have ha : gS σ + 1 + 12 ≤ a := ha
      rw [pM_T (Or.inr ha)]; exact h.2.2.2.2.2.2.2.2 w a (by omega)
  have u := h.up (σ' := pR (pM σ .long 12 313) o 20 (some (gS σ))) (p' := 35) (f := 20) (by omega) (by omega) (by omega) (show gS σ + 1 + 12 = _ by omega) st (by omega) (by decide) nf
  obtain ⟨u1, u2, u3, u4, u5, u6, u7, u8⟩ := u
  refine ⟨u1, u2, fun q hq' => ?_, u4, u5, u6, fun _ k hk => ?_, u8⟩
  · rw [List.take_add_one] at hq'
    rcases List.mem_append.mp hq' with hq' | hq'
    · exact u3 q hq'
    · have e : q = (20, 22, .array .long, 12) := by simpa [lbTab] using hq'
      subst e
      refine ⟨?_, ?_⟩
      · show gR (pR _ o 20 _) o 20 = some (o + 22)
        rw [gR_pR, if_pos ⟨rfl, rfl⟩, h1]
      · show gT (pM σ _ _ _) (o + 22) = _
        rw [← h1, pM_T0]
  · refine ⟨?_, ?_⟩
    · rw [gR_pR, if_neg (by omega), ← h1, pM_R0 hk, h1]
    · rw [gT_pR, show o + 23 + k = gS σ + 1 + k by omega, pM_T1 hk]
/-- a new note -/
theorem note0 {q : Nat} {σ : Hp} {x : Int32} (hz : gS σ = q + 1) (ht : gT σ q = some (.inl 5)) : gS (f_X5_init q σ x) = q + 3 ∧ NB q (f_X5_init q σ x) ∧ (∀ a, a < q → gT (f_X5_init q σ x) a = gT σ a ∧ ∀ i, gR (f_X5_init q σ x) a i = gR σ a i ∧ gI (f_X5_init q σ x) a i = gI σ a i ∧ gL (f_X5_init q σ x) a i = gL σ a i) ∧ (∀ a, q + 3 ≤ a → gT (f_X5_init q σ x) a = gT σ a) := by
  unfold f_X5_init f_X4_init
  have z0 : gS (pI σ q 0 x) = q + 1 := hz
  have z1 : gS (pR (pN (pI σ q 0 x) (.inr (.int, 8))) q 2 (some (q + 1))) = q + 2 := by show gS σ + 1 = _; omega
  rw [z0, z1]
  refine ⟨by show gS σ + 1 + 1 = _; omega, ⟨?_, ?_, ?_, ?_, ?_⟩, fun a ha => ⟨?_, fun i => ⟨?_, ?_, ?_⟩⟩, fun a ha => ?_⟩
  · rw [gT_pR, gT_pN, if_neg (by rw [z1]; omega), gT_pR, gT_pN, if_neg (by rw [z0]; omega)]; exact ht
  · rw [gR_pR, if_neg (by omega), gR_pN, if_neg (by rw [z1]; omega), gR_pR, if_pos ⟨rfl, rfl⟩]
  · rw [gT_pR, gT_pN, if_neg (by rw [z1]; omega), gT_pR, gT_pN, if_pos z0.symm]
  · rw [gR_pR, if_pos ⟨rfl, rfl⟩]
  · rw [gT_pR, gT_pN, if_pos z1.symm]
  · rw [gT_pR, gT_pN, if_neg (by rw [z1]; omega), gT_pR, gT_pN, if_neg (by rw [z0]; omega)]; rfl
  · rw [gR_pR, if_neg (by omega), gR_pN, if_neg (by rw [z1]; omega), gR_pR, if_neg (by omega), gR_pN, if_neg (by rw [z0]; omega)]; rfl
  · rw [gI_pR, gI_pN, if_neg (by rw [z1]; omega), gI_pR, gI_pN, if_neg (by rw [z0]; omega), pIo (by omega)]
  · rw [gL_pR, gL_pN, if_neg (by rw [z1]; omega), gL_pR, gL_pN, if_neg (by rw [z0]; omega)]; rfl
  · rw [gT_pR, gT_pN, if_neg (by rw [z1]; omega), gT_pR, gT_pN, if_neg (by rw [z0]; omega)]; rfl
theorem NB.up {q : Nat} {σ σ' : Hp} (h : NB q σ) (hc : ∀ a, q ≤ a → a < q + 3 → gT σ' a = gT σ a ∧ ∀ i, gR σ' a i = gR σ a i) : NB q σ' := ⟨(hc q (by omega) (by omega)).1.trans h.1, ((hc q (by omega) (by omega)).2 2).trans h.2.1, (hc (q + 1) (by omega) (by omega)).1.trans h.2.2.1, ((hc q (by omega) (by omega)).2 3).trans h.2.2.2.1, (hc (q + 2) (by omega) (by omega)).1.trans h.2.2.2.2⟩
/-- so many notes and images laid (the image one behind) -/
def NL (o k b : Nat) (σ0 σ : Hp) : Prop := NI o 13 (38 + 6 * k + 3 * b) σ0 σ ∧ (∀ i, i < k + b → gR σ (o + 15) i = some (o + 38 + 6 * i) ∧ NB (o + 38 + 6 * i) σ) ∧ (∀ i, i < k → gR σ (o + 16) i = some (o + 41 + 6 * i) ∧ NB (o + 41 + 6 * i) σ)
theorem NL.put {o k b r : Nat} {σ0 σ : Hp} {x : Int32} (h : NL o k b σ0 σ) (hk : k < 12) (hb : b < 2) (hr : r = o + 15 + b) : NL o (k + b) (1 - b) σ0 (pR (f_X5_init (gS σ) (pN σ (.inl 5)) x) r k (some (gS σ))) := by
  subst hr
  obtain ⟨h1, h2, h3⟩ := h
  have z := h1.1
  obtain ⟨n1, n2, n3, n4⟩ := note0 (q := gS σ) (σ := pN σ (.inl 5)) (x := x) rfl (by rw [gT_pN, if_pos rfl])
  have old : ∀ a, a < gS σ → gT (f_X5_init (gS σ) (pN σ (.inl 5)) x) a = gT σ a ∧ ∀ i, gR (f_X5_init (gS σ) (pN σ (.inl 5)) x) a i = gR σ a i ∧ gI (f_X5_init (gS σ) (pN σ (.inl 5)) x) a i = gI σ a i ∧ gL (f_X5_init (gS σ) (pN σ (.inl 5)) x) a i = gL σ a i := fun a ha => by
    obtain ⟨m1, m2⟩ := n3 a ha
    refine ⟨by rw [m1, gT_pN, if_neg (by omega)], fun i => ?_⟩
    rw [(m2 i).1, (m2 i).2.1, (m2 i).2.2, gR_pN, if_neg (by omega), gI_pN, if_neg (by omega), gL_pN, if_neg (by omega)]
    exact ⟨rfl, rfl, rfl⟩
  have nf0 := h1.2.2.2.2.2.2.2
  have n4' : WF σ0 → ∀ a, gS σ + 3 ≤ a → gT (f_X5_init (gS σ) (pN σ (.inl 5)) x) a = none := fun w a ha => by
    rw [n4 a ha, gT_pN, if_neg (by omega)]; exact nf0.2 w a (by omega)
  generalize f_X5_init (gS σ) (pN σ (.inl 5)) x = s at *
  have st : ST o 1 σ (pR s (o + 15 + b) k (some (gS σ))) := ⟨by show gS σ ≤ gS s; omega, fun a ha => ⟨(old a ha).1, fun i => ⟨fun _ q1 q2 => by rw [gR_pR, if_neg (by omega)]; exact ((old a ha).2 i).1, ((old a ha).2 i).2⟩⟩⟩
  have nf : NF o σ0 (pR s (o + 15 + b) k (some (gS σ))) := by
    refine NF.r ⟨fun a ha => ⟨((old a (by omega)).1).trans (nf0.1 a ha).1, fun i => ?_⟩, fun w a ha => n4' w a (by omega)⟩ (by omega)
    rw [((old a (by omega)).2 i).1, ((old a (by omega)).2 i).2.1, ((old a (by omega)).2 i).2.2]
    exact (nf0.1 a ha).2 i
  have u := h1.up (σ' := pR s (o + 15 + b) k (some (gS σ))) (p' := 38 + 6 * k + 3 * b + 3) (f := 1) (by omega) (by omega) (by omega) (show gS s = _ by omega) st (by omega) (fun q hq => ⟨(by decide : ∀ q ∈ lbTab.take 13, q.1 ≠ 1 ∧ q.2.1 < 38) q hq |>.1, Nat.lt_of_lt_of_le ((by decide : ∀ q ∈ lbTab.take 13, q.1 ≠ 1 ∧ q.2.1 < 38) q hq).2 (by omega)⟩) nf
  have nb : ∀ q, q + 3 ≤ gS σ → o + 38 ≤ q → NB q σ → NB q (pR s (o + 15 + b) k (some (gS σ))) := fun q hq ho hn => hn.up (fun a q1 q2 => ⟨(old a (by omega)).1, fun i => by rw [gR_pR, if_neg (by omega)]; exact ((old a (by omega)).2 i).1⟩)
  have nn : NB (gS σ) (pR s (o + 15 + b) k (some (gS σ))) := n2.up (fun a q1 q2 => ⟨rfl, fun i => by rw [gR_pR, if_neg (by omega)]⟩)
  have rr : ∀ a i, a < gS σ → ¬ (a = o + 15 + b ∧ i = k) → gR (pR s (o + 15 + b) k (some (gS σ))) a i = gR σ a i := fun a i ha hn => by rw [gR_pR, if_neg hn]; exact ((old a ha).2 i).1
  have rn : gR (pR s (o + 15 + b) k (some (gS σ))) (o + 15 + b) k = some (gS σ) := by rw [gR_pR, if_pos ⟨rfl, rfl⟩]
  have b01 : b = 0 ∨ b = 1 := by omega
  rcases b01 with rfl | rfl
  · refine ⟨?_, fun i hi => ?_, fun i hi => ?_⟩
    · have e : 38 + 6 * (k + 0) + 3 * (1 - 0) = 38 + 6 * k + 3 * 0 + 3 := by omega
      rw [e]; exact u
    · by_cases ci : i = k
      · subst ci
        have eg : gS σ = o + 38 + 6 * i := by omega
        rw [eg] at rn nn
        rw [eg]
        exact ⟨rn, nn⟩
      · exact ⟨(rr _ _ (by omega) (by omega)).trans (h2 i (by omega)).1, nb _ (by omega) (by omega) (h2 i (by omega)).2⟩
    · exact ⟨(rr _ _ (by omega) (by omega)).trans (h3 i (by omega)).1, nb _ (by omega) (by omega) (h3 i (by omega)).2⟩
  · refine ⟨?_, fun i hi => ?_, fun i hi => ?_⟩
    · have e : 38 + 6 * (k + 1) + 3 * (1 - 1) = 38 + 6 * k + 3 * 1 + 3 := by omega
      rw [e]; exact u
    · exact ⟨(rr _ _ (by omega) (by omega)).trans (h2 i (by omega)).1, nb _ (by omega) (by omega) (h2 i (by omega)).2⟩
    · by_cases ci : i = k
      · subst ci
        have eg : gS σ = o + 41 + 6 * i := by omega
        rw [eg] at rn nn
        rw [eg]
        exact ⟨rn, nn⟩
      · exact ⟨(rr _ _ (by omega) (by omega)).trans (h3 i (by omega)).1, nb _ (by omega) (by omega) (h3 i (by omega)).2⟩
theorem NL.lb {o : Nat} {σ0 σ : Hp} (h : NL o 12 0 σ0 σ) : LB o (o + 3) σ := by
  obtain ⟨⟨u1, u2, u3, u4, u5, u6, u7, u8⟩, h2, h3⟩ := h
  exact ⟨u2, u3, u4, ⟨u5.1, u5.2.1⟩, fun k hk => h2 k (by omega), fun k hk => h3 k hk, u7 (by omega)⟩
theorem x3_hi {s : Hp} {a : Nat} (h : ∀ a, gS s ≤ a → gT s a = none) (ha : gS s + 11 ≤ a) : gT (f_X3_init (gS s) (pN s (.inl 3))) a = none := by
  have e : ∀ (o k : Nat) (n : Int32) (N : Nat) (σ : Hp), gS (mkL o k n N σ) = gS σ + 2 := fun _ _ _ _ _ => rfl
  have z0 : gS (pN s (.inl 3)) = gS s + 1 := rfl
  rw [x3_mk]
  show gT (mkL (gS s) 4 6 6 (mkL (gS s) 3 4 4 (mkL (gS s) 2 6 6 (mkL (gS s) 1 4 4 (mkL (gS s) 0 4 4 (pN s (.inl 3))))))) a = none
  rw [mkL_t, if_neg (by simp only [e, z0]; omega), if_neg (by simp only [e, z0]; omega), mkL_t, if_neg (by simp only [e, z0]; omega), if_neg (by simp only [e, z0]; omega), mkL_t, if_neg (by simp only [e, z0]; omega), if_neg (by simp only [e, z0]; omega), mkL_t, if_neg (by simp only [e, z0]; omega), if_neg (by simp only [e, z0]; omega), mkL_t, if_neg (by simp only [z0]; omega), if_neg (by simp only [z0]; omega), gT_pN, if_neg (by omega)]
  exact h a (by omega)
/-- the object new, with its tape -/
theorem NI.begin {o : Nat} {σ0 σ : Hp} (hz : gS σ = o + 1) (ht : gT σ o = some (.inl 1)) (hi : ∀ i, gI σ o i = 0) (nf : NF o σ0 σ) : ∃ s3 : Hp, s3 = pR (f_X2_init (gS (pI (pR (pN σ (.inr (.byte, 900))) o 0 (some (gS σ))) o 3 (-1))) (pN (pI (pR (pN σ (.inr (.byte, 900))) o 0 (some (gS σ))) o 3 (-1)) (.inl 2)) o) o 4 (some (gS (pI (pR (pN σ (.inr (.byte, 900))) o 0 (some (gS σ))) o 3 (-1)))) ∧ gS s3 = o + 3 ∧ gT s3 o = some (.inl 1) ∧ NI o 1 14 σ0 (pR (f_X3_init (gS s3) (pN s3 (.inl 3))) o 5 (some (gS s3))) := by
  refine ⟨_, rfl, by show gS σ + 1 + 1 = _; omega, ?_, ?_⟩
  · unfold f_X2_init
    rw [gT_pR, gT_pR, gT_pN, if_neg (by show o ≠ gS σ + 1; omega), gT_pI, gT_pR, gT_pN, if_neg (by omega)]; exact ht
  generalize e3 : pR (f_X2_init (gS (pI (pR (pN σ (.inr (.byte, 900))) o 0 (some (gS σ))) o 3 (-1))) (pN (pI (pR (pN σ (.inr (.byte, 900))) o 0 (some (gS σ))) o 3 (-1)) (.inl 2)) o) o 4 (some (gS (pI (pR (pN σ (.inr (.byte, 900))) o 0 (some (gS σ))) o 3 (-1)))) = s3
  have z2 : gS (pI (pR (pN σ (.inr (.byte, 900))) o 0 (some (gS σ))) o 3 (-1)) = o + 2 := by show gS σ + 1 = _; omega
  rw [z2] at e3
  unfold f_X2_init at e3
  have z3 : gS s3 = o + 3 := by rw [← e3]; show gS σ + 1 + 1 = _; omega
  have t0 : gT s3 o = some (.inl 1) := by rw [← e3, gT_pR, gT_pR, gT_pN, if_neg (by rw [z2]; omega), gT_pI, gT_pR, gT_pN, if_neg (by omega)]; exact ht
  have t1 : gT s3 (o + 1) = some (.inr (.byte, 900)) := by rw [← e3, gT_pR, gT_pR, gT_pN, if_neg (by rw [z2]; omega), gT_pI, gT_pR, gT_pN, if_pos hz.symm]
  have t2 : gT s3 (o + 2) = some (.inl 2) := by rw [← e3, gT_pR, gT_pR, gT_pN, if_pos z2.symm]
  have r0 : gR s3 o 0 = some (o + 1) := by rw [← e3, gR_pR, if_neg (by omega), gR_pR, if_neg (by omega), gR_pN, if_neg (by rw [z2]; omega), gR_pI, gR_pR, if_pos ⟨rfl, rfl⟩, hz]
  have r4 : gR s3 o 4 = some (o + 2) := by rw [← e3, gR_pR, if_pos ⟨rfl, rfl⟩]
  have r8 : gR s3 (o + 2) 8 = some o := by rw [← e3, gR_pR, if_neg (by omega), gR_pR, if_pos ⟨rfl, rfl⟩]
  have i0 : ∀ i, gI s3 o i = if i = 3 then -1 else 0 := fun i => by
    rw [← e3, gI_pR, gI_pR, gI_pN, if_neg (by rw [z2]; omega), gI_pI]
    by_cases c : i = 3
    · rw [if_pos ⟨rfl, c⟩, if_pos c]
    · rw [if_neg (fun w => c w.2), if_neg c, gI_pR, gI_pN, if_neg (by omega)]; exact hi i
  have n3 : NF o σ0 s3 := by rw [← e3]; exact ((((((nf.new (by omega)).r (Nat.le_refl _)).i (Nat.le_refl _)).new (by rw [z2]; omega)).r (by omega)).r (Nat.le_refl _))
  clear e3 z2
  obtain ⟨q1, q2, q3, q4, q5, q6⟩ := realm0 (σ := pN s3 (.inl 3)) (d := gS s3) rfl (fun k => by rw [gI_pN, if_pos rfl]) (by rw [gT_pN, if_pos rfl])
  have old : ∀ a, a < gS s3 → gT (f_X3_init (gS s3) (pN s3 (.inl 3))) a = gT s3 a ∧ ∀ i, gR (f_X3_init (gS s3) (pN s3 (.inl 3))) a i = gR s3 a i ∧ gI (f_X3_init (gS s3) (pN s3 (.inl 3))) a i = gI s3 a i ∧ gL (f_X3_init (gS s3) (pN s3 (.inl 3))) a i = gL s3 a i := fun a ha => by
    obtain ⟨m1, m2⟩ := q6 a ha
    refine ⟨by rw [m1, gT_pN, if_neg (by omega)], fun i => ?_⟩
    rw [(m2 i).1, (m2 i).2.1, (m2 i).2.2, gR_pN, if_neg (by omega), gI_pN, if_neg (by omega), gL_pN, if_neg (by omega)]
    exact ⟨rfl, rfl, rfl⟩
  have hi3 : WF σ0 → ∀ a, gS s3 + 11 ≤ a → gT (f_X3_init (gS s3) (pN s3 (.inl 3))) a = none := fun w a ha => x3_hi (n3.2 w) ha
  rw [z3] at *
  generalize f_X3_init (o + 3) (pN s3 (.inl 3)) = s at *
  have up : ∀ a, a ≠ o → gT (pR s o 5 (some (o + 3))) a = gT s a ∧ ∀ i, gR (pR s o 5 (some (o + 3))) a i = gR s a i ∧ gI (pR s o 5 (some (o + 3))) a i = gI s a i ∧ gL (pR s o 5 (some (o + 3))) a i = gL s a i := fun a ha => ⟨rfl, fun i => ⟨by rw [gR_pR, if_neg (by omega)], rfl, rfl⟩⟩
  refine ⟨q5, ((old o (by omega)).1).trans t0, fun q hq => ?_, ⟨?_, ((old (o + 2) (by omega)).1).trans t2, ?_⟩, ⟨by rw [gR_pR, if_pos ⟨rfl, rfl⟩], q1.up (fun a w1 w2 => ⟨rfl, fun i => ((up a (by omega)).2 i).1⟩), ?_, q3⟩, fun i => (((old o (by omega)).2 i).2.1).trans (i0 i), fun h => absurd h (by omega), ?_⟩
  · have e : q = (0, 1, .byte, 900) := by simpa [lbTab] using hq
    subst e
    exact ⟨by show gR (pR s o 5 _) o 0 = _; rw [gR_pR, if_neg (by omega)]; exact (((old o (by omega)).2 0).1).trans r0, ((old (o + 1) (by omega)).1).trans t1⟩
  · rw [gR_pR, if_neg (by omega)]; exact (((old o (by omega)).2 4).1).trans r4
  · rw [gR_pR, if_neg (by omega)]; exact (((old (o + 2) (by omega)).2 8).1).trans r8
  · have x0 : LRx o (o + 3) s rl0 := ⟨q2, by omega, Or.inr ⟨rfl, rfl, rfl, rfl, rfl, rfl⟩⟩
    exact x0.fr (Nat.le_refl _) (fun a w1 w2 => up a (by omega))
  · refine NF.r ⟨fun a ha => ⟨((old a (by omega)).1).trans (n3.1 a ha).1, fun i => ?_⟩, fun w a ha => hi3 w a (by omega)⟩ (Nat.le_refl _)
    rw [((old a (by omega)).2 i).1, ((old a (by omega)).2 i).2.1, ((old a (by omega)).2 i).2.2]
    exact (n3.1 a ha).2 i
