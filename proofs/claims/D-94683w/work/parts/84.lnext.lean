set_option maxRecDepth 100000
def sortL (k : Int32) : Int32 := if k = 0 then 4 else if k = 1 then 0 else if k = 2 then 1 else if k = 3 then 2 else if k = 4 then 3 else if k = 5 then 3 else 5
def piL (w : Int32) : Int32 := if w = 1 then 5 else if w = 2 then 1 else if w = 3 then 2 else if w = 4 then 3 else if w = 5 then 4 else if w = 16 then 17 else if w = 17 then 16 else w
def cmpL (w : Int32) : Int32 := if w = 0 then 60 else if w = 1 then 256 else if w = 2 then 61 else if w = 3 then 258 else if w = 4 then 257 else 62
def valL (t : Tok) : Int32 := if tKd t = 1 then piL (tWh t) else if tKd t = 5 then cmpL (tWh t) else tWh t
/-- the reader shows the token t -/
def TKL (o : Nat) (σ : Hp) (t : Tok) : Prop := gI σ o 0 = Int32.ofNat (tNx t) ∧ gI σ o 2 = Int32.ofNat (tPl t) ∧ gI σ o 3 = sortL (tKd t) ∧ (tKd t ≠ 0 → tKd t ≠ 6 → gI σ o 4 = valL t)
theorem wp_name {o c d : Nat} {b : Nat → Int32} {n q e : Nat} {σ : Hp} {Q : Hp → Prop} (h : TB o c b n σ) (ha : gI σ o 0 = Int32.ofNat e) (hp : gI σ o 2 = Int32.ofNat q) (hqe : q ≤ e) (hen : e ≤ n) (hl : ∀ i, q ≤ i → i < e → isLtB (b i) = true) (hQ : Q (pI σ o 4 (pkN b q e 6))) : wp_X2_name o c d σ Q := by
  obtain ⟨h1, h2, h3, h4⟩ := h
  have key : ∀ i, i < e - q → gI σ (c + 1) (q + i) = b (q + i) := fun i hi => (h4 (q + i) (by omega)).2.2.2 (by have := (lt_b _).mp (hl (q + i) (by omega) (by omega)); omega)
  refine lp_of (fun z => ∃ k, k ≤ 6 ∧ z = (Int32.ofNat k, pI σ o 4 (pkN b q e k))) (fun z => 6 - z.1.toNatClampNeg) ?_ ⟨0, by omega, rfl⟩
  rintro K z ⟨k, hk, rfl⟩ hK
  have e6 : (6 : Int32) = Int32.ofNat 6 := rfl
  have r0 : gI (pI σ o 4 (pkN b q e k)) o 0 = Int32.ofNat e := by simp [gI_pI, ha]
  have r2 : gI (pI σ o 4 (pkN b q e k)) o 2 = Int32.ofNat q := by simp [gI_pI, hp]
  have r4 : gI (pI σ o 4 (pkN b q e k)) o 4 = pkN b q e k := by simp [gI_pI]
  show (_ → _) ∧ (_ → _)
  rw [r0, r2, r4, e6]
  refine ⟨fun w => ?_, fun w => ⟨fun w2 => ?_, fun w2 => ⟨?_, ?_⟩⟩⟩
  · rw [nat_le (by omega) (by omega)] at w
    have : k = 6 := by omega
    subst this
    exact hQ
  all_goals rw [nat_le (by omega) (by omega)] at w
  all_goals rw [nat_a (by omega), nat_le (by omega) (by omega)] at w2
  · rw [pI_same, nat_s (by omega)]
    refine hK _ ⟨k + 1, by omega, ?_⟩ ?_
    · rw [pkN, if_neg (by omega)]
    · show 6 - (Int32.ofNat (k + 1)).toNatClampNeg < 6 - (Int32.ofNat k).toNatClampNeg
      rw [nat_c (by omega), nat_c (by omega)]; omega
  · rw [nat_a (by omega)]
    exact nat_v (by omega) (by omega)
  · rw [pI_same, nat_s (by omega), nat_a (by omega), nat_c (by omega), gI_pI, if_neg (fun q => h3 q.1.symm), key k (by omega)]
    refine hK _ ⟨k + 1, by omega, ?_⟩ ?_
    · rw [pkN, if_pos (by omega)]
      have bb := (lt_b _).mp (hl (q + k) (by omega) (by omega))
      have e1 : (b (q + k) - 97 + 1) = b (q + k) - 96 := by
        rw [i2_eq, i3_add (i3_sub rfl (y := 97) (by rfl) (by omega) (by omega)) (y := 1) (by rfl) (by omega) (by omega), i3_sub rfl (y := 96) (by rfl) (by omega) (by omega)]
        omega
      rw [e1]
    · show 6 - (Int32.ofNat (k + 1)).toNatClampNeg < 6 - (Int32.ofNat k).toNatClampNeg
      rw [nat_c (by omega), nat_c (by omega)]; omega
theorem sg_mem (c : Int32) : c ∈ sgB ↔ sgOk c = true ∨ c = 60 ∨ c = 61 ∨ c = 62 := by
  unfold sgOk sgB
  simp
  grind
theorem idx_sg {c : Int32} {Q : Int32 → Prop} (h0 : 0 ≤ c.toInt) (h1 : c.toInt ≤ 255) (hy : c ∈ sgB → ∀ r : Int32, ¬ r < 0 → Q r) (hn : c ∉ sgB → Q (-1)) : wp_J3_indexOf sgB c Q := by
  have e8 : c.toInt < 128 → c.toInt8.toInt32 = c := fun q => by
    rw [i2_eq, Int8.toInt_toInt32, Int32.toInt_toInt8]
    exact Int.bmod_eq_of_le (by have e : ((2 ^ 8 : Nat) : Int) = 256 := rfl
                                rw [e]; omega) (by have e : ((2 ^ 8 : Nat) : Int) = 256 := rfl
                                                   rw [e]; omega)
  have e9 : 128 ≤ c.toInt → c.toInt8.toInt32.toInt < 0 := fun q => by
    rw [Int8.toInt_toInt32, Int32.toInt_toInt8]
    have e : ((2 ^ 8 : Nat) : Int) = 256 := rfl
    rw [Int.bmod_def, e]
    omega
  have sgp : ∀ j, j < 11 → 0 ≤ (sgB.getD j 0).toInt ∧ (sgB.getD j 0).toInt < 128 := by decide +kernel
  refine ⟨fun q => (by cases q), fun _ => ⟨fun q => ?_, fun _ v hv => ⟨fun _ => ?_, fun q => ?_⟩⟩⟩
  · unfold f_J4_canEncode at q
    rw [if_neg (fun w => by rw [i3_lt rfl (y := 0) (by rfl)] at w; omega), if_neg (fun w => by rw [i3_lt (x := 255) (by rfl) rfl] at w; omega)] at q
    cases q
  · have ev : v = Int32.ofNat 11 := by rw [hv]; decide
    subst ev
    refine lp_of (fun y => ∃ j, j ≤ 11 ∧ y = Int32.ofNat j ∧ ∀ i, i < j → sgB.getD i 0 ≠ c.toInt8.toInt32) (fun y => 11 - y.toNatClampNeg) ?_ ⟨0, by omega, by decide, fun i hi => by omega⟩
    rintro K y ⟨j, hj, rfl, hs⟩ hK
    refine ⟨fun w => hn (fun hm => ?_), fun w => ⟨nat_v ?_ (by omega), fun w2 => hy ?_ _ ?_, fun w2 => hK _ ⟨j + 1, ?_, nat_s (by omega), fun i hi => ?_⟩ ?_⟩⟩
    all_goals rw [nat_le (by omega) (by omega)] at w
    · obtain ⟨i, hi, e⟩ := List.getElem_of_mem hm
      have hi' : i < 11 := hi
      have ed : sgB.getD i 0 = c := by rw [List.getD_eq_getElem?_getD, List.getElem?_eq_getElem hi]; exact e
      have b := sgp i hi'
      rw [ed] at b
      exact hs i (by omega) (by rw [ed, e8 b.2])
    · exact Nat.lt_of_not_le w
    · rw [nat_c (by omega)] at w2
      have b := sgp j (by omega)
      have hc : c.toInt < 128 := by
        by_cases q : c.toInt < 128
        · exact q
        · have := e9 (by omega)
          rw [w2] at b
          omega
      rw [e8 hc] at w2
      rw [← w2, List.getD_eq_getElem?_getD, List.getElem?_eq_getElem (show j < sgB.length from by show j < 11; omega)]
      exact List.getElem_mem _
    · rw [i3_lt (nat_i (by omega)) (y := 0) (by rfl)]; omega
    · omega
    · rw [nat_c (by omega)] at w2
      by_cases ei : i = j
      · rw [ei]; exact w2
      · exact hs i (by omega)
    · rw [nat_s (by omega), nat_c (by omega), nat_c (by omega)]; omega
  · exact absurd (by rw [hv]; decide) q
theorem wp_sign {o c d : Nat} {b : Nat → Int32} {n q : Nat} {σ : Hp} {Q : Hp → Prop} (h : TB o c b n σ) (ha : gI σ o 0 = Int32.ofNat q) (hp : gI σ o 2 = Int32.ofNat q) (hq : q < n) (hQ : ∀ σ', Ch (S4 o) σ σ' → TKL o σ' (sgT b n q) → Q σ') : wp_X2_sign o c d σ Q := by
  have hb := h.2.2.2 q hq
  have hn9 := h.2.1
  obtain ⟨e1, e2⟩ := here_in d h ha hq
  unfold wp_X2_sign
  rw [e1, ha, nat_s (by omega)]
  -- the next byte, whatever has been written
  have hr : ∀ τ, Ch (S4 o) σ τ → gI τ o 0 = Int32.ofNat (q + 1) → ok_X2_here o c d τ ∧ ∀ v : Int32, v ≠ -1 → (f_X2_here o c d τ = v ↔ (q + 1 < n ∧ b (q + 1) = v)) := by
    intro τ hτ h0
    have h' := h.ch hτ
    by_cases hl : q + 1 < n
    · obtain ⟨f1, f2⟩ := here_in d h' h0 hl
      exact ⟨f2, fun v _ => by rw [f1]; exact ⟨fun w => ⟨hl, w⟩, fun w => w.2⟩⟩
    · obtain ⟨f1, f2⟩ := here_out d h' h0 (by omega) (by omega)
      exact ⟨f2, fun v hv => by rw [f1]; exact ⟨fun w => absurd w.symm hv, fun w => absurd w.1 hl⟩⟩
  have fin : ∀ w0 : Int32, (w0 = if b q ∈ sgB then 3 else 5) → wj_X2_sign_30 o c d (pI σ o 0 (Int32.ofNat (q + 1))) (b q) w0 Q := by
    intro w0 hw
    have c0 : Ch (S4 o) σ (pI (pI (pI σ o 0 (Int32.ofNat (q + 1))) o 3 w0) o 4 (b q)) := ((Ch.rf.i (by unfold S4; omega)).i (by unfold S4; omega)).i (by unfold S4; omega)
    have g0 : gI (pI (pI (pI σ o 0 (Int32.ofNat (q + 1))) o 3 w0) o 4 (b q)) o 0 = Int32.ofNat (q + 1) := by simp [gI_pI]
    obtain ⟨r1, r2⟩ := hr _ c0 g0
    have es : Int32.ofNat (q + 1) + 1 = Int32.ofNat (q + 2) := nat_s (by omega)
    unfold wj_X2_sign_30 wj_X2_sign_63 wj_X2_sign_88 wj_X2_sign_110
    have ms := sg_mem (b q)
    rw [r2 61 (by decide), r2 62 (by decide)]
    refine ⟨fun k1 => ⟨r1, fun k2 => ?_, fun k2 => ⟨fun _ => ⟨r1, fun k3 => ?_, fun k3 => ⟨fun k4 => ?_, fun _ => ?_⟩⟩, fun k3 => absurd k1 k3⟩⟩, fun k1 => ⟨fun k2 => absurd k2 k1, fun _ => ⟨fun k2 => ⟨r1, fun k3 => ?_, fun k3 => ?_⟩, fun k2 => ?_⟩⟩⟩
    · -- <=
      refine ⟨fun w => absurd w (by simp [gI_pI]), fun _ => ?_⟩
      simp only [gI_pI, g0]
      refine hQ _ ((c0.i (by unfold S4; omega)).i (by unfold S4; omega)) ?_
      unfold sgT
      rw [if_pos k1, if_pos k2]
      rw [if_pos (ms.mpr (Or.inr (Or.inl k1)))] at hw
      exact ⟨by rw [gI_pI, if_pos ⟨rfl, rfl⟩]; exact es, by simp [gI_pI, hp, tPl], by simp [gI_pI, hw, tKd, sortL], fun _ _ => by simp [gI_pI, valL, tKd, tWh, cmpL]⟩
    · -- <>
      refine ⟨fun w => absurd w (by simp [gI_pI]), fun _ => ?_⟩
      simp only [gI_pI, g0]
      refine hQ _ ((c0.i (by unfold S4; omega)).i (by unfold S4; omega)) ?_
      unfold sgT
      rw [if_pos k1, if_neg k2, if_pos k3]
      rw [if_pos (ms.mpr (Or.inr (Or.inl k1)))] at hw
      exact ⟨by rw [gI_pI, if_pos ⟨rfl, rfl⟩]; exact es, by simp [gI_pI, hp, tPl], by simp [gI_pI, hw, tKd, sortL], fun _ _ => by simp [gI_pI, valL, tKd, tWh, cmpL]⟩
    · rw [k1] at k4; cases k4
    · -- <
      have k5 : gI (pI (pI (pI σ o 0 (Int32.ofNat (q + 1))) o 3 w0) o 4 (b q)) o 4 = 60 := by simp [gI_pI, k1]
      rw [k5]
      refine ⟨fun _ => ?_, fun w => absurd (by decide) w⟩
      refine hQ _ c0 ?_
      unfold sgT
      rw [if_pos k1, if_neg k2, if_neg k3]
      rw [if_pos (ms.mpr (Or.inr (Or.inl k1)))] at hw
      exact ⟨by simp [gI_pI, tNx], by simp [gI_pI, hp, tPl], by simp [gI_pI, hw, tKd, sortL], fun _ _ => by simp [gI_pI, valL, tKd, tWh, cmpL, k1]⟩
    · -- >=
      refine ⟨fun w => absurd w (by simp [gI_pI]), fun _ => ?_⟩
      simp only [gI_pI, g0]
      refine hQ _ ((c0.i (by unfold S4; omega)).i (by unfold S4; omega)) ?_
      unfold sgT
      rw [if_neg k1, if_pos k2, if_pos k3]
      rw [if_pos (ms.mpr (Or.inr (Or.inr (Or.inr k2))))] at hw
      exact ⟨by rw [gI_pI, if_pos ⟨rfl, rfl⟩]; exact es, by simp [gI_pI, hp, tPl], by simp [gI_pI, hw, tKd, sortL], fun _ _ => by simp [gI_pI, valL, tKd, tWh, cmpL]⟩
    · -- >
      have k5 : gI (pI (pI (pI σ o 0 (Int32.ofNat (q + 1))) o 3 w0) o 4 (b q)) o 4 = 62 := by simp [gI_pI, k2]
      rw [k5]
      refine ⟨fun _ => ?_, fun w => absurd (by decide) w⟩
      refine hQ _ c0 ?_
      unfold sgT
      rw [if_neg k1, if_pos k2, if_neg k3]
      rw [if_pos (ms.mpr (Or.inr (Or.inr (Or.inr k2))))] at hw
      exact ⟨by simp [gI_pI, tNx], by simp [gI_pI, hp, tPl], by simp [gI_pI, hw, tKd, sortL], fun _ _ => by simp [gI_pI, valL, tKd, tWh, cmpL, k2]⟩
    · have k5 : gI (pI (pI (pI σ o 0 (Int32.ofNat (q + 1))) o 3 w0) o 4 (b q)) o 4 = b q := by simp [gI_pI]
      rw [k5]
      refine ⟨fun _ => ?_, fun w => absurd ((i3_lt rfl (y := 256) (by rfl)).mpr (by omega)) w⟩
      refine hQ _ c0 ?_
      unfold sgT
      rw [if_neg k1, if_neg k2]
      by_cases k6 : b q = 61
      · rw [if_pos k6]
        rw [if_pos (ms.mpr (Or.inr (Or.inr (Or.inl k6))))] at hw
        exact ⟨by simp [gI_pI, tNx], by simp [gI_pI, hp, tPl], by simp [gI_pI, hw, tKd, sortL], fun _ _ => by simp [gI_pI, valL, tKd, tWh, cmpL, k6]⟩
      · rw [if_neg k6]
        by_cases k7 : sgOk (b q) = true
        · rw [if_pos k7]
          rw [if_pos (ms.mpr (Or.inl k7))] at hw
          exact ⟨by simp [gI_pI, tNx], by simp [gI_pI, hp, tPl], by simp [gI_pI, hw, tKd, sortL], fun _ _ => by simp [gI_pI, valL, tKd, tWh]⟩
        · rw [if_neg k7]
          rw [if_neg (fun w => by rcases ms.mp w with w | w | w | w <;> contradiction)] at hw
          exact ⟨by simp [gI_pI, tNx], by simp [gI_pI, hp, tPl], by simp [gI_pI, hw, tKd, sortL], fun _ w => absurd rfl w⟩
  refine ⟨e2, idx_sg hb.1 hb.2.1 (fun hm r hr => ⟨fun w => absurd w hr, fun _ => fin 3 (by rw [if_pos hm])⟩) (fun hm => ⟨fun _ => fin 5 (by rw [if_neg hm]), fun w => absurd (by decide) w⟩)⟩
/-- LongYears' words, by the reference's order -/
def piN (k : Nat) : Nat := if k = 1 then 5 else if k = 2 then 1 else if k = 3 then 2 else if k = 4 then 3 else if k = 5 then 4 else if k = 16 then 17 else if k = 17 then 16 else k
theorem wdF_none {s : List Int32} : ∀ (L : List (List Int32)) (k : Nat), wdF s L k = none ↔ s ∉ L := by
  intro L
  induction L with
  | nil => intro k; simp [wdF]
  | cons w L ih =>
    intro k
    rw [wdF]
    by_cases h : w = s
    · rw [if_pos h]; simp [h]
    · rw [if_neg h, ih, List.mem_cons]
      exact ⟨fun q w => w.elim (fun w => h w.symm) q, fun q w => q (Or.inr w)⟩
theorem wd_all : ∀ w ∈ WM, ∃ k, k < 23 ∧ wdF w WM 0 = some k ∧ wdF w nmB 0 = some (piN k) ∧ piL (Int32.ofNat k) = Int32.ofNat (piN k) ∧ piN k < 23 := by
  have h : ∀ k, k < 23 → wdF (WM.getD k []) WM 0 = some k ∧ wdF (WM.getD k []) nmB 0 = some (piN k) ∧ piL (Int32.ofNat k) = Int32.ofNat (piN k) ∧ piN k < 23 := by decide +kernel
  intro w hw
  obtain ⟨k, hk, e⟩ := List.getElem_of_mem hw
  have ed : WM.getD k [] = w := by rw [List.getD_eq_getElem?_getD, List.getElem?_eq_getElem hk]; exact e
  have := h k hk
  rw [ed] at this
  exact ⟨k, hk, this⟩
theorem nm_sub : ∀ w ∈ nmB, w ∈ WM := by decide +kernel
theorem wd_pi (s : List Int32) : (wdF s WM 0 = none ∧ wdF s nmB 0 = none) ∨ ∃ k, k < 23 ∧ wdF s WM 0 = some k ∧ wdF s nmB 0 = some (piN k) ∧ piL (Int32.ofNat k) = Int32.ofNat (piN k) ∧ piN k < 23 := by
  by_cases h : s ∈ WM
  · exact Or.inr (wd_all s h)
  · exact Or.inl ⟨(wdF_none _ _).mpr h, (wdF_none _ _).mpr (fun w => h (nm_sub s w))⟩
theorem ofNat_ne {k : Nat} (h : k < 23) : Int32.ofNat k ≠ -1 := by
  intro q
  rw [i3_eq (nat_i (by omega)) (y := -1) (by rfl)] at q
  omega
theorem nx_letters {o c d : Nat} {b : Nat → Int32} {n q : Nat} {σ0 σ : Hp} {Q : Hp → Prop} (h : TB o c b n σ0) (hc : Ch (S4 o) σ0 σ) (ha : gI σ o 0 = Int32.ofNat q) (hp : gI σ o 2 = Int32.ofNat q) (hq : q < n) (hl : isLtB (b q) = true) (hQ : ∀ σ', Ch (S4 o) σ0 σ' → TKL o σ' (tkAt b n q) → Q σ') : lp (lb_X2_next_75 o c d Q) σ := by
  have hn9 := h.2.1
  have ht : tkAt b n q = wdT b q (runL b n q) := by unfold tkAt; rw [if_neg (by omega), if_pos hl]
  rw [ht] at hQ
  refine lp_of (fun τ => Ch (S4 o) σ0 τ ∧ gI τ o 2 = Int32.ofNat q ∧ ∃ e, gI τ o 0 = Int32.ofNat e ∧ q ≤ e ∧ e ≤ n ∧ runL b n q = runL b n e ∧ ∀ i, q ≤ i → i < e → isLtB (b i) = true) (fun τ => n - (gI τ o 0).toNatClampNeg) ?_ ⟨hc, hp, q, ha, Nat.le_refl _, by omega, rfl, fun i h1 h2 => by omega⟩
  rintro K τ ⟨hτ, h2, e, h0, hqe, hen, hr, hall⟩ hK
  have h' := h.ch hτ
  have go : ∀ hx : n ≤ e ∨ isLtB (b e) = false, wp_X2_word o c d τ (fun r25 => (r25 = (-1) → (((gI τ o 0) - (gI τ o 2)) ≤ 6 → wj_X2_next_145 o c d (pI τ o 4 r25) 1 Q) ∧ (¬ ((gI τ o 0) - (gI τ o 2)) ≤ 6 → wj_X2_next_145 o c d (pI τ o 4 r25) 5 Q)) ∧ (¬ r25 = (-1) → wj_X2_next_145 o c d (pI τ o 4 r25) 0 Q)) := by
    intro hx
    have er : runL b n q = e := by rw [hr]; exact runE_out hx
    rw [er] at hQ
    refine wp_word h' h0 h2 hqe hen hall ?_
    have e6 : (6 : Int32) = Int32.ofNat 6 := rfl
    rw [h0, h2, nat_d hqe (by omega), e6, nat_le (by omega) (by omega)]
    have c4 : ∀ v, Ch (S4 o) σ0 (pI τ o 4 v) := fun v => hτ.i (by unfold S4; omega)
    rcases wd_pi (seg b q e) with ⟨w1, w2⟩ | ⟨k, hk, w1, w2, w3, w4⟩
    · unfold wdT at hQ
      rw [w1] at hQ
      rw [w2]
      refine ⟨fun _ => ⟨fun v => ⟨fun _ => ?_, fun w => absurd rfl w⟩, fun v => ⟨fun w => absurd w (by decide), fun _ => ?_⟩⟩, fun w => absurd rfl w⟩
      · rw [if_pos v] at hQ
        refine wp_name (h'.ch ((Ch.rf.i (by unfold S4; omega)).i (by unfold S4; omega))) (q := q) (e := e) (by simp [gI_pI, h0]) (by simp [gI_pI, h2]) hqe hen hall ?_
        refine hQ _ (((c4 _).i (by unfold S4; omega)).i (by unfold S4; omega)) ?_
        exact ⟨by simp [gI_pI, h0, tNx], by simp [gI_pI, h2, tPl], by simp [gI_pI, tKd, sortL], fun _ _ => by simp [gI_pI, valL, tKd, tWh]⟩
      · rw [if_neg v] at hQ
        refine hQ _ ((c4 _).i (by unfold S4; omega)) ?_
        exact ⟨by simp [gI_pI, h0, tNx], by simp [gI_pI, h2, tPl], by simp [gI_pI, tKd, sortL], fun _ w => absurd rfl w⟩
    · unfold wdT at hQ
      rw [w1] at hQ
      rw [w2]
      refine ⟨fun w => absurd w (ofNat_ne w4), fun _ => ⟨fun w => absurd w (by decide), fun _ => ?_⟩⟩
      refine hQ _ ((c4 _).i (by unfold S4; omega)) ?_
      exact ⟨by simp [gI_pI, h0, tNx], by simp [gI_pI, h2, tPl], by simp [gI_pI, tKd, sortL], fun _ _ => by simp [gI_pI, valL, tKd, tWh, w3, wdI]⟩
  by_cases hx : e < n
  · obtain ⟨f1, f2⟩ := here_in d h' h0 hx
    refine ⟨f2, ?_⟩
    rw [f1, in_lt]
    refine ⟨fun w => go (Or.inr w), fun w => ?_⟩
    have w : isLtB (b e) = true := bt w
    rw [h0, nat_s (by omega)]
    refine hK _ ⟨hτ.i (by unfold S4; omega), by simp [gI_pI, h2], e + 1, by simp [gI_pI], by omega, by omega, by rw [hr]; exact runE_in hx w, fun i h1 h2 => ?_⟩ ?_
    · by_cases ei : i = e
      · rw [ei]; exact w
      · exact hall i h1 (by omega)
    · rw [gI_pI, if_pos ⟨rfl, rfl⟩, h0, nat_c (by omega), nat_c (by omega)]; omega
  · obtain ⟨f1, f2⟩ := here_out d h' h0 (by omega) (by omega)
    refine ⟨f2, ?_⟩
    rw [f1]
    exact ⟨fun w => go (Or.inl (by omega)), fun w => absurd (by decide) w⟩
theorem nx_digits {o c d : Nat} {b : Nat → Int32} {n q : Nat} {σ0 σ : Hp} {Q : Hp → Prop} (h : TB o c b n σ0) (hc : Ch (S4 o) σ0 σ) (ha : gI σ o 0 = Int32.ofNat q) (hp : gI σ o 2 = Int32.ofNat q) (h3 : gI σ o 3 = 2) (h4 : gI σ o 4 = 0) (hq : q < n) (hl : isLtB (b q) = false) (hd : isDgB (b q) = true) (hQ : ∀ σ', Ch (S4 o) σ0 σ' → TKL o σ' (tkAt b n q) → Q σ') : lp (lb_X2_next_190 o c d Q) σ := by
  have hn9 := h.2.1
  have ht : tkAt b n q = (q, runD b n q, 3, numV b (n - q) q 0) := by unfold tkAt; rw [if_neg (by omega), if_neg (by rw [hl]; exact Bool.false_ne_true), if_pos hd]
  rw [ht] at hQ
  refine lp_of (fun τ => Ch (S4 o) σ0 τ ∧ gI τ o 2 = Int32.ofNat q ∧ gI τ o 3 = 2 ∧ ∃ e, gI τ o 0 = Int32.ofNat e ∧ q ≤ e ∧ e ≤ n ∧ runD b n q = runD b n e ∧ numV b (n - q) q 0 = numV b (n - e) e (gI τ o 4)) (fun τ => n - (gI τ o 0).toNatClampNeg) ?_ ⟨hc, hp, h3, q, ha, Nat.le_refl _, by omega, rfl, by rw [h4]⟩
  rintro K τ ⟨hτ, h2, h3, e, h0, hqe, hen, hr, hv⟩ hK
  have h' := h.ch hτ
  have go : (n ≤ e ∨ isDgB (b e) = false) → Q τ := by
    intro hx
    refine hQ _ hτ ?_
    rw [hr, hv, show runD b n e = e from runE_out hx, numV_out hx]
    exact ⟨h0, h2, by rw [h3]; rfl, fun _ _ => by simp [valL, tKd, tWh]⟩
  by_cases hx : e < n
  · obtain ⟨f1, f2⟩ := here_in d h' h0 hx
    refine ⟨f2, ?_⟩
    rw [f1, in_dg]
    refine ⟨fun w => go (Or.inr w), fun w => ?_⟩
    have w : isDgB (b e) = true := bt w
    rw [h0, nat_s (by omega)]
    refine ⟨fun v => ⟨f2, ?_⟩, fun v => ?_⟩
    · refine hK _ ⟨(hτ.i (by unfold S4; omega)).i (by unfold S4; omega), by simp [gI_pI, h2], by simp [gI_pI, h3], e + 1, by simp [gI_pI], by omega, by omega, by rw [hr]; exact runE_in hx w, ?_⟩ ?_
      · rw [hv, numV_in hx w, if_pos v]
        simp [gI_pI]
      · rw [gI_pI, if_pos ⟨rfl, rfl⟩, h0, nat_c (by omega), nat_c (by omega)]; omega
    · refine hK _ ⟨(hτ.i (by unfold S4; omega)).i (by unfold S4; omega), by simp [gI_pI, h2], by simp [gI_pI, h3], e + 1, by simp [gI_pI], by omega, by omega, by rw [hr]; exact runE_in hx w, ?_⟩ ?_
      · rw [hv, numV_in hx w, if_neg v]
        simp [gI_pI]
      · rw [gI_pI, if_pos ⟨rfl, rfl⟩, h0, nat_c (by omega), nat_c (by omega)]; omega
  · obtain ⟨f1, f2⟩ := here_out d h' h0 (by omega) (by omega)
    refine ⟨f2, ?_⟩
    rw [f1]
    exact ⟨fun w => go (Or.inl (by omega)), fun w => absurd (by decide) w⟩
theorem sp_b (v : Int32) : isSpB v = true ↔ v = 10 ∨ v = 32 := by
  unfold isSpB
  rw [Bool.or_eq_true, decide_eq_true_iff, decide_eq_true_iff]
theorem wp_next {o c d : Nat} {b : Nat → Int32} {n p : Nat} {σ : Hp} {Q : Hp → Prop} (h : TB o c b n σ) (ha : gI σ o 0 = Int32.ofNat p) (hp : p ≤ n) (hQ : ∀ σ', Ch (S4 o) σ σ' → TKL o σ' (tk b n p) → Q σ') : wp_X2_next o c d σ Q := by
  have hn9 := h.2.1
  refine lp_of (fun τ => Ch (S4 o) σ τ ∧ ∃ e, gI τ o 0 = Int32.ofNat e ∧ p ≤ e ∧ e ≤ n ∧ skp b n p = skp b n e) (fun τ => n - (gI τ o 0).toNatClampNeg) ?_ ⟨Ch.rf, p, ha, Nat.le_refl _, hp, rfl⟩
  rintro K τ ⟨hτ, e, h0, hpe, hen, hs⟩ hK
  have h' := h.ch hτ
  have h1 : gI τ o 1 = Int32.ofNat n := h'.1
  by_cases hx : e < n
  · obtain ⟨f1, f2⟩ := here_in d h' h0 hx
    have more : isSpB (b e) = true → K (pI τ o 0 (gI τ o 0 + 1)) := by
      intro w
      rw [h0, nat_s (by omega)]
      refine hK _ ⟨hτ.i (by unfold S4; omega), e + 1, by simp [gI_pI], by omega, by omega, by rw [hs]; exact runE_in hx w⟩ ?_
      rw [gI_pI, if_pos ⟨rfl, rfl⟩, h0, nat_c (by omega), nat_c (by omega)]; omega
    refine ⟨f2, ?_⟩
    rw [f1]
    refine ⟨fun w => more ((sp_b _).mpr (Or.inl w)), fun w1 => ⟨f2, fun w => more ((sp_b _).mpr (Or.inr w)), fun w2 => ⟨fun w => ?_, fun _ => ?_⟩⟩⟩
    · rw [h0, h1, nat_e (by omega) (by omega)] at w; omega
    · have hsp : isSpB (b e) = false := by
        cases hb : isSpB (b e)
        · rfl
        · rcases (sp_b _).mp hb with w | w <;> contradiction
      have et : tk b n p = tkAt b n e := by
        unfold tk
        rw [hs, show skp b n e = e from runE_out (Or.inr hsp)]
      rw [et] at hQ
      have cp : Ch (S4 o) σ (pI τ o 2 (gI τ o 0)) := hτ.i (by unfold S4; omega)
      have q0 : gI (pI τ o 2 (gI τ o 0)) o 0 = Int32.ofNat e := by simp [gI_pI, h0]
      have q2 : gI (pI τ o 2 (gI τ o 0)) o 2 = Int32.ofNat e := by simp [gI_pI, h0]
      obtain ⟨f3, f4⟩ := here_in d (h.ch cp) q0 hx
      refine ⟨f4, ?_⟩
      rw [f3, in_lt, in_dg]
      refine ⟨fun w3 => ⟨f4, fun w4 => ?_, fun w4 => ?_⟩, fun w3 => ?_⟩
      · refine wp_sign (h.ch cp) q0 q2 hx (fun σ' a1 a2 => hQ σ' (cp.tr a1) ?_)
        unfold tkAt
        rw [if_neg (by omega), if_neg (by rw [w3]; exact Bool.false_ne_true), if_neg (by rw [w4]; exact Bool.false_ne_true)]
        exact a2
      · have w4 : isDgB (b e) = true := bt w4
        exact nx_digits h ((cp.i (by unfold S4; omega)).i (by unfold S4; omega)) (by simp [gI_pI, h0]) (by simp [gI_pI, h0]) (by simp [gI_pI]) (by simp [gI_pI]) hx w3 w4 hQ
      · have w3 : isLtB (b e) = true := bt w3
        exact nx_letters h cp q0 q2 hx w3 hQ
  · have ee : e = n := by omega
    subst ee
    obtain ⟨f1, f2⟩ := here_out d h' h0 (Nat.le_refl _) (by omega)
    refine ⟨f2, ?_⟩
    rw [f1]
    refine ⟨fun w => absurd w (by decide), fun _ => ⟨f2, fun w => absurd w (by decide), fun _ => ⟨fun _ => ?_, fun w => absurd (by rw [h0, h1]) w⟩⟩⟩
    refine hQ _ ((hτ.i (by unfold S4; omega)).i (by unfold S4; omega)) ?_
    have et : tk b e p = (e, e, 0, 0) := by
      unfold tk
      rw [hs, show skp b e e = e from runE_out (Or.inl (Nat.le_refl _))]
      unfold tkAt
      rw [if_pos (Nat.le_refl _)]
    rw [et]
    exact ⟨by simp [gI_pI, h0, tNx], by simp [gI_pI, h0, tPl], by simp [gI_pI, tKd, sortL], fun w _ => absurd rfl w⟩
