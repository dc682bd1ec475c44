set_option maxRecDepth 100000
/-- a list is made, and laid at a place of o -/
def mkL (o k : Nat) (n : Int32) (N : Nat) (σ : Hp) : Hp := pR (f_J2_init (gS σ) (pN σ (.inl 4)) n N) o k (some (gS σ))
theorem x3_mk (o : Nat) (σ : Hp) : f_X3_init o σ = pL (pL (pI (pI (pI (mkL o 4 6 6 (mkL o 3 4 4 (mkL o 2 6 6 (mkL o 1 4 4 (mkL o 0 4 4 σ))))) o 5 7) o 8 2) o 9 4) o 12 59) o 13 1461 := rfl
theorem mkL_s {o k N : Nat} {n : Int32} {σ : Hp} : gS (mkL o k n N σ) = gS σ + 2 := rfl
theorem mkL_i {o k N a j : Nat} {n : Int32} {σ : Hp} : gI (mkL o k n N σ) a j = if a = gS σ ∨ a = gS σ + 1 then 0 else gI σ a j := by
  unfold mkL f_J2_init f_J1_init
  rw [gI_pR, gI_pR, gI_pN, gS_pI, gS_pN]
  by_cases h1 : a = gS σ + 1
  · rw [if_pos h1, if_pos (Or.inr h1)]
  · rw [if_neg h1, gI_pI]
    by_cases h2 : a = gS σ
    · rw [if_pos (Or.inl h2)]
      by_cases h3 : j = 0
      · rw [if_pos ⟨h2, h3⟩]
      · rw [if_neg (fun q => h3 q.2), gI_pN, if_pos h2]
    · rw [if_neg (fun q => h2 q.1), gI_pN, if_neg h2, if_neg (by omega)]
theorem mkL_l {o k N a j : Nat} {n : Int32} {σ : Hp} : gL (mkL o k n N σ) a j = if a = gS σ ∨ a = gS σ + 1 then 0 else gL σ a j := by
  unfold mkL f_J2_init f_J1_init
  rw [gL_pR, gL_pR, gL_pN, gS_pI, gS_pN]
  by_cases h1 : a = gS σ + 1
  · rw [if_pos h1, if_pos (Or.inr h1)]
  · rw [if_neg h1, gL_pI, gL_pN]
    by_cases h2 : a = gS σ
    · rw [if_pos (Or.inl h2), if_pos h2]
    · rw [if_neg h2, if_neg (by omega)]
theorem mkL_t {o k N a : Nat} {n : Int32} {σ : Hp} : gT (mkL o k n N σ) a = if a = gS σ + 1 then some (.inr (.object "java/lang/Object", N)) else if a = gS σ then some (.inl 4) else gT σ a := by
  unfold mkL f_J2_init f_J1_init
  rw [gT_pR, gT_pR, gT_pN, gS_pI, gS_pN]
  by_cases h1 : a = gS σ + 1
  · rw [if_pos h1, if_pos h1]
  · rw [if_neg h1, if_neg h1, gT_pI, gT_pN]
theorem mkL_r {o k N a j : Nat} {n : Int32} {σ : Hp} : gR (mkL o k n N σ) a j = if a = o ∧ j = k then some (gS σ) else if a = gS σ ∧ j = 1 then some (gS σ + 1) else if a = gS σ + 1 ∨ a = gS σ then none else gR σ a j := by
  unfold mkL f_J2_init f_J1_init
  rw [gR_pR]
  by_cases h0 : a = o ∧ j = k
  · rw [if_pos h0, if_pos h0]
  · rw [if_neg h0, if_neg h0, gR_pR]
    by_cases h1 : a = gS σ ∧ j = 1
    · rw [if_pos h1, if_pos h1]; rfl
    · rw [if_neg h1, if_neg h1, gR_pN, gS_pI, gS_pN]
      by_cases h2 : a = gS σ + 1
      · rw [if_pos h2, if_pos (Or.inl h2)]
      · rw [if_neg h2, gR_pI, gR_pN]
        by_cases h3 : a = gS σ
        · rw [if_pos h3, if_pos (Or.inr h3)]
        · rw [if_neg h3, if_neg (by omega)]
theorem mkL_tO {o k N a : Nat} {n : Int32} {σ : Hp} (h : a < gS σ) : gT (mkL o k n N σ) a = gT σ a := by rw [mkL_t, if_neg (by omega), if_neg (by omega)]
theorem mkL_iO {o k N a j : Nat} {n : Int32} {σ : Hp} (h : a < gS σ) : gI (mkL o k n N σ) a j = gI σ a j := by rw [mkL_i, if_neg (by omega)]
theorem mkL_lO {o k N a j : Nat} {n : Int32} {σ : Hp} (h : a < gS σ) : gL (mkL o k n N σ) a j = gL σ a j := by rw [mkL_l, if_neg (by omega)]
theorem mkL_rO {o k N a j : Nat} {n : Int32} {σ : Hp} (h : a < gS σ) (h2 : a ≠ o ∨ j ≠ k) : gR (mkL o k n N σ) a j = gR σ a j := by rw [mkL_r, if_neg (by omega), if_neg (by omega), if_neg (by omega)]
theorem mkL_new {o k N e : Nat} {n : Int32} {σ : Hp} (he : gS σ = e) (h : o < e) : AB e N (mkL o k n N σ) ∧ gR (mkL o k n N σ) o k = some e ∧ gI (mkL o k n N σ) e 2 = 0 ∧ gS (mkL o k n N σ) = e + 2 := by
  subst he
  refine ⟨⟨?_, ?_, ?_⟩, ?_, ?_, rfl⟩
  · rw [mkL_t, if_neg (by omega), if_pos rfl]
  · rw [mkL_r, if_neg (by omega), if_pos ⟨rfl, rfl⟩]
  · rw [mkL_t, if_pos rfl]
  · rw [mkL_r, if_pos ⟨rfl, rfl⟩]
  · rw [mkL_i, if_pos (Or.inl rfl)]
/-- what was made stands when another is made -/
theorem mkL_keep {o k k' N N' e e' : Nat} {n : Int32} {σ : Hp} (hz : gS σ = e') (he : e + 2 ≤ e') (ho : o < e) (hk : k ≠ k') (h : AB e N σ ∧ gR σ o k = some e ∧ gI σ e 2 = 0) : AB e N (mkL o k' n N' σ) ∧ gR (mkL o k' n N' σ) o k = some e ∧ gI (mkL o k' n N' σ) e 2 = 0 := by
  obtain ⟨⟨h1, h2, h3⟩, h4, h5⟩ := h
  exact ⟨⟨by rw [mkL_tO (by omega)]; exact h1, by rw [mkL_rO (by omega) (by omega)]; exact h2, by rw [mkL_tO (by omega)]; exact h3⟩, by rw [mkL_rO (by omega) (Or.inr hk)]; exact h4, by rw [mkL_iO (by omega)]; exact h5⟩
/-- a realm, as it is made at d = the heap's end -/
theorem realm0 {σ : Hp} {d : Nat} (hd : gS σ = d + 1) (hn : ∀ k, gI σ d k = 0) (ht : gT σ d = some (.inl 3)) : RB d (f_X3_init d σ) ∧ LRl d (f_X3_init d σ) rl0 ∧ gI (f_X3_init d σ) d 10 = 0 ∧ gI (f_X3_init d σ) d 11 = 0 ∧ gS (f_X3_init d σ) = d + 11 ∧ (∀ a, a < d → gT (f_X3_init d σ) a = gT σ a ∧ ∀ k, gR (f_X3_init d σ) a k = gR σ a k ∧ gI (f_X3_init d σ) a k = gI σ a k ∧ gL (f_X3_init d σ) a k = gL σ a k) := by
  rw [x3_mk]
  obtain ⟨a1, a2, a3, z1⟩ := mkL_new (k := 0) (N := 4) (n := 4) hd (show d < d + 1 by omega)
  have O1 : ∀ a, a < d + 1 → gT (mkL d 0 4 4 σ) a = gT σ a ∧ ∀ k, (a < d → gR (mkL d 0 4 4 σ) a k = gR σ a k) ∧ gI (mkL d 0 4 4 σ) a k = gI σ a k ∧ gL (mkL d 0 4 4 σ) a k = gL σ a k := fun a ha => ⟨mkL_tO (by omega), fun k => ⟨fun h => mkL_rO (by omega) (by omega), mkL_iO (by omega), mkL_lO (by omega)⟩⟩
  generalize mkL d 0 4 4 σ = s1 at *
  obtain ⟨b1, b2, b3, z2⟩ := mkL_new (k := 1) (N := 4) (n := 4) z1 (show d < d + 3 by omega)
  have A2 := mkL_keep (k' := 1) (N' := 4) (n := 4) z1 (by omega) (by omega) (by omega) ⟨a1, a2, a3⟩
  have O2 : ∀ a, a < d + 1 → gT (mkL d 1 4 4 s1) a = gT σ a ∧ ∀ k, (a < d → gR (mkL d 1 4 4 s1) a k = gR σ a k) ∧ gI (mkL d 1 4 4 s1) a k = gI σ a k ∧ gL (mkL d 1 4 4 s1) a k = gL σ a k := fun a ha => ⟨(mkL_tO (by omega)).trans (O1 a ha).1, fun k => ⟨fun h => (mkL_rO (by omega) (by omega)).trans (((O1 a ha).2 k).1 h), (mkL_iO (by omega)).trans ((O1 a ha).2 k).2.1, (mkL_lO (by omega)).trans ((O1 a ha).2 k).2.2⟩⟩
  generalize mkL d 1 4 4 s1 = s2 at *
  obtain ⟨c1, c2, c3, z3⟩ := mkL_new (k := 2) (N := 6) (n := 6) z2 (show d < d + 5 by omega)
  have A3 := mkL_keep (k' := 2) (N' := 6) (n := 6) z2 (by omega) (by omega) (by omega) A2
  have B3 := mkL_keep (k' := 2) (N' := 6) (n := 6) z2 (by omega) (by omega) (by omega) ⟨b1, b2, b3⟩
  have O3 : ∀ a, a < d + 1 → gT (mkL d 2 6 6 s2) a = gT σ a ∧ ∀ k, (a < d → gR (mkL d 2 6 6 s2) a k = gR σ a k) ∧ gI (mkL d 2 6 6 s2) a k = gI σ a k ∧ gL (mkL d 2 6 6 s2) a k = gL σ a k := fun a ha => ⟨(mkL_tO (by omega)).trans (O2 a ha).1, fun k => ⟨fun h => (mkL_rO (by omega) (by omega)).trans (((O2 a ha).2 k).1 h), (mkL_iO (by omega)).trans ((O2 a ha).2 k).2.1, (mkL_lO (by omega)).trans ((O2 a ha).2 k).2.2⟩⟩
  generalize mkL d 2 6 6 s2 = s3 at *
  obtain ⟨d1, d2, d3, z4⟩ := mkL_new (k := 3) (N := 4) (n := 4) z3 (show d < d + 7 by omega)
  have A4 := mkL_keep (k' := 3) (N' := 4) (n := 4) z3 (by omega) (by omega) (by omega) A3
  have B4 := mkL_keep (k' := 3) (N' := 4) (n := 4) z3 (by omega) (by omega) (by omega) B3
  have C4 := mkL_keep (k' := 3) (N' := 4) (n := 4) z3 (by omega) (by omega) (by omega) ⟨c1, c2, c3⟩
  have O4 : ∀ a, a < d + 1 → gT (mkL d 3 4 4 s3) a = gT σ a ∧ ∀ k, (a < d → gR (mkL d 3 4 4 s3) a k = gR σ a k) ∧ gI (mkL d 3 4 4 s3) a k = gI σ a k ∧ gL (mkL d 3 4 4 s3) a k = gL σ a k := fun a ha => ⟨(mkL_tO (by omega)).trans (O3 a ha).1, fun k => ⟨fun h => (mkL_rO (by omega) (by omega)).trans (((O3 a ha).2 k).1 h), (mkL_iO (by omega)).trans ((O3 a ha).2 k).2.1, (mkL_lO (by omega)).trans ((O3 a ha).2 k).2.2⟩⟩
  generalize mkL d 3 4 4 s3 = s4 at *
  obtain ⟨e1, e2, e3, z5⟩ := mkL_new (k := 4) (N := 6) (n := 6) z4 (show d < d + 9 by omega)
  have A5 := mkL_keep (k' := 4) (N' := 6) (n := 6) z4 (by omega) (by omega) (by omega) A4
  have B5 := mkL_keep (k' := 4) (N' := 6) (n := 6) z4 (by omega) (by omega) (by omega) B4
  have C5 := mkL_keep (k' := 4) (N' := 6) (n := 6) z4 (by omega) (by omega) (by omega) C4
  have D5 := mkL_keep (k' := 4) (N' := 6) (n := 6) z4 (by omega) (by omega) (by omega) ⟨d1, d2, d3⟩
  have O5 : ∀ a, a < d + 1 → gT (mkL d 4 6 6 s4) a = gT σ a ∧ ∀ k, (a < d → gR (mkL d 4 6 6 s4) a k = gR σ a k) ∧ gI (mkL d 4 6 6 s4) a k = gI σ a k ∧ gL (mkL d 4 6 6 s4) a k = gL σ a k := fun a ha => ⟨(mkL_tO (by omega)).trans (O4 a ha).1, fun k => ⟨fun h => (mkL_rO (by omega) (by omega)).trans (((O4 a ha).2 k).1 h), (mkL_iO (by omega)).trans ((O4 a ha).2 k).2.1, (mkL_lO (by omega)).trans ((O4 a ha).2 k).2.2⟩⟩
  generalize mkL d 4 6 6 s4 = s5 at *
  have i5 : ∀ k, gI s5 d k = 0 := fun k => (((O5 d (by omega)).2 k).2.1).trans (hn k)
  have fI : ∀ a k, a ≠ d → gI (pL (pL (pI (pI (pI s5 d 5 7) d 8 2) d 9 4) d 12 59) d 13 1461) a k = gI s5 a k := fun a k h => by rw [gI_pL, gI_pL, pIo (by omega), pIo (by omega), pIo (by omega)]
  refine ⟨⟨(O5 d (by omega)).1.trans ht, ⟨A5.2.1, A5.1⟩, ⟨B5.2.1, B5.1⟩, ⟨C5.2.1, C5.1⟩, ⟨D5.2.1, D5.1⟩, e2, e1⟩, ⟨⟨?_, Nat.zero_le _, fun i x hi => (by cases hi)⟩, ⟨?_, Nat.zero_le _, fun i x hi => (by cases hi)⟩, ⟨?_, Nat.zero_le _, fun i x hi => (by cases hi)⟩, ⟨?_, Nat.zero_le _, fun i x hi => (by cases hi)⟩, ⟨?_, Nat.zero_le _, fun i x hi => (by cases hi)⟩, ?_⟩, ?_, ?_, z5, fun a ha => ⟨(O5 a (by omega)).1, fun k => ⟨((O5 a (by omega)).2 k).1 ha, ?_, ?_⟩⟩⟩
  · rw [fI _ _ (by omega)]; exact A5.2.2
  · rw [fI _ _ (by omega)]; exact B5.2.2
  · rw [fI _ _ (by omega)]; exact C5.2.2
  · rw [fI _ _ (by omega)]; exact D5.2.2
  · rw [fI _ _ (by omega)]; exact e3
  · refine ⟨?_, ?_, ?_, ?_, ?_, ?_, ?_⟩
    · simp [gI_pL, gI_pI]; rfl
    · simp [gI_pL, gI_pI, i5]; rfl
    · simp [gL_pL]; rfl
    · simp [gI_pL, gI_pI]; rfl
    · simp [gI_pL, gI_pI, i5]; rfl
    · simp [gL_pL]; rfl
    · simp [gI_pL, gI_pI]; rfl
  · simp [gI_pL, gI_pI, i5]
  · simp [gI_pL, gI_pI, i5]
  · rw [fI _ _ (by omega)]; exact ((O5 a (by omega)).2 k).2.1
  · rw [gL_pL, if_neg (by omega), gL_pL, if_neg (by omega), gL_pI, gL_pI, gL_pI]; exact ((O5 a (by omega)).2 k).2.2
