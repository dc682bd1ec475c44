set_option maxRecDepth 100000
/-! THE REFERENCE SHOWS THE SAME TOKENS -/
def S4m (m a k : Nat) : Prop := a = m ∧ (k = 7 ∨ k = 8 ∨ k = 9 ∨ k = 10)
def MTB (m : Nat) (b : Nat → Int32) (n : Nat) (σ : Hp) : Prop := gI σ m 6 = Int32.ofNat n ∧ n ≤ 900 ∧ (∀ i, i < n → 0 ≤ (b i).toInt ∧ (b i).toInt ≤ 255 ∧ gI σ (m + 1) i = b i) ∧ (∀ i, i < 118 → gI σ (m + 2) i = ws1.getD i 0) ∧ gI σ m 4 = 0 ∧ gI σ m 5 = -1
theorem MTB.ch {m : Nat} {b : Nat → Int32} {n : Nat} {σ σ' : Hp} (h : MTB m b n σ) (hc : Ch (S4m m) σ σ') : MTB m b n σ' := by
  obtain ⟨h1, h2, h3, h4, h9⟩ := h
  refine ⟨?_, h2, fun i hi => ?_, fun i hi => ?_, ?_, ?_⟩
  · rw [hc.gi (by unfold S4m; omega)]; exact h1
  · rw [hc.gi (by unfold S4m; omega)]; exact h3 i hi
  · rw [hc.gi (by unfold S4m; omega)]; exact h4 i hi
  · rw [hc.gi (by unfold S4m; omega)]; exact h9.1
  · rw [hc.gi (by unfold S4m; omega)]; exact h9.2
def TKM (m : Nat) (σ : Hp) (t : Tok) : Prop := gI σ m 7 = Int32.ofNat (tNx t) ∧ gI σ m 10 = Int32.ofNat (tPl t) ∧ gI σ m 8 = tKd t ∧ (tKd t ≠ 0 → tKd t ≠ 6 → gI σ m 9 = tWh t)
theorem small_iff {m : Nat} {b : Nat → Int32} {n p : Nat} {σ : Hp} (h : MTB m b n σ) (hp : p ≤ 2147483647) : ok_X6_isSmall m σ (Int32.ofNat p) ∧ (f_X6_isSmall m σ (Int32.ofNat p) = 0 ↔ (n ≤ p ∨ isLtB (b p) = false)) := by
  obtain ⟨h1, h2, h3, h4, h9⟩ := h
  unfold ok_X6_isSmall f_X6_isSmall
  rw [h1, nat_c hp]
  have en := nat_le (p := n) (q := p) (by omega) hp
  by_cases w : n ≤ p
  · rw [if_pos (en.mpr w)]
    exact ⟨⟨fun _ => trivial, fun q => absurd (en.mpr w) q⟩, fun _ => Or.inl w, fun _ => rfl⟩
  · obtain ⟨b1, b2, b3⟩ := h3 p (by omega)
    have l := lt_b (b p)
    rw [if_neg (fun q => w (en.mp q)), b3]
    refine ⟨⟨fun _ => trivial, fun _ => ⟨nat_v (by omega) hp, fun _ => trivial, fun _ => nat_v (by omega) hp⟩⟩, ?_⟩
    by_cases w1 : b p < 97
    · rw [if_pos w1]
      rw [i3_lt rfl (y := 97) (by rfl)] at w1
      refine ⟨fun _ => Or.inr ?_, fun _ => rfl⟩
      exact bf (fun hb => absurd (l.mp hb) (by omega))
    · rw [if_neg w1]
      rw [i3_lt rfl (y := 97) (by rfl)] at w1
      by_cases w2 : 122 < b p
      · rw [if_pos w2]
        rw [i3_lt (x := 122) (by rfl) rfl] at w2
        refine ⟨fun _ => Or.inr ?_, fun _ => rfl⟩
        exact bf (fun hb => absurd (l.mp hb) (by omega))
      · rw [if_neg w2]
        rw [i3_lt (x := 122) (by rfl) rfl] at w2
        refine ⟨fun q => (by cases q), fun q => ?_⟩
        rcases q with q | q
        · exact absurd q w
        · rw [l.mpr ⟨by omega, by omega⟩] at q; cases q
theorem digit_iff {m : Nat} {b : Nat → Int32} {n p : Nat} {σ : Hp} (h : MTB m b n σ) (hp : p ≤ 2147483647) : ok_X6_isDigit m σ (Int32.ofNat p) ∧ (f_X6_isDigit m σ (Int32.ofNat p) = 0 ↔ (n ≤ p ∨ isDgB (b p) = false)) := by
  obtain ⟨h1, h2, h3, h4, h9⟩ := h
  unfold ok_X6_isDigit f_X6_isDigit
  rw [h1, nat_c hp]
  have en := nat_le (p := n) (q := p) (by omega) hp
  by_cases w : n ≤ p
  · rw [if_pos (en.mpr w)]
    exact ⟨⟨fun _ => trivial, fun q => absurd (en.mpr w) q⟩, fun _ => Or.inl w, fun _ => rfl⟩
  · obtain ⟨b1, b2, b3⟩ := h3 p (by omega)
    have l := dg_b (b p)
    rw [if_neg (fun q => w (en.mp q)), b3]
    refine ⟨⟨fun _ => trivial, fun _ => ⟨nat_v (by omega) hp, fun _ => trivial, fun _ => nat_v (by omega) hp⟩⟩, ?_⟩
    by_cases w1 : b p < 48
    · rw [if_pos w1]
      rw [i3_lt rfl (y := 48) (by rfl)] at w1
      refine ⟨fun _ => Or.inr ?_, fun _ => rfl⟩
      exact bf (fun hb => absurd (l.mp hb) (by omega))
    · rw [if_neg w1]
      rw [i3_lt rfl (y := 48) (by rfl)] at w1
      by_cases w2 : 57 < b p
      · rw [if_pos w2]
        rw [i3_lt (x := 57) (by rfl) rfl] at w2
        refine ⟨fun _ => Or.inr ?_, fun _ => rfl⟩
        exact bf (fun hb => absurd (l.mp hb) (by omega))
      · rw [if_neg w2]
        rw [i3_lt (x := 57) (by rfl) rfl] at w2
        refine ⟨fun q => (by cases q), fun q => ?_⟩
        rcases q with q | q
        · exact absurd q w
        · rw [l.mpr ⟨by omega, by omega⟩] at q; cases q
/-- where a word begins in the reference's row -/
def wf (k : Nat) : Nat := ((WM.take k).map (fun w => w.length + 1)).sum
theorem wf_at : ∀ k, k < 23 → wf (k + 1) = wf k + (WM.getD k []).length + 1 ∧ wf k + (WM.getD k []).length < 118 ∧ ws1.getD (wf k + (WM.getD k []).length) 0 = 32 ∧ ∀ i, i < (WM.getD k []).length → ws1.getD (wf k + i) 0 = (WM.getD k []).getD i 0 ∧ ws1.getD (wf k + i) 0 ≠ 32 := by decide +kernel
theorem wp_wordAt {m : Nat} {b : Nat → Int32} {n q e : Nat} {σ : Hp} {Q : Int32 → Prop} (h : MTB m b n σ) (hqe : q ≤ e) (hen : e ≤ n) (hQ : Q (wdI (wdF (seg b q e) WM 0))) : wp_X6_wordAt m σ (Int32.ofNat q) (Int32.ofNat e) Q := by
  obtain ⟨h1, h2, h3, h4, h9⟩ := h
  refine lp_of (fun z => ∃ k, k ≤ 23 ∧ z = (Int32.ofNat k, Int32.ofNat (wf k)) ∧ wdF (seg b q e) WM 0 = wdF (seg b q e) (WM.drop k) k) (fun z => 23 - z.1.toNatClampNeg) ?_ ⟨0, by omega, rfl, rfl⟩
  rintro K z ⟨k, hk, rfl, hw⟩ hK
  have e118 : (118 : Int32) = Int32.ofNat 118 := rfl
  have w23 : wf 23 = 118 := by decide +kernel
  by_cases hk2 : k = 23
  · subst hk2
    rw [w23]
    refine ⟨fun _ => ?_, fun w => absurd (by rw [e118, nat_le (by omega) (by omega)]; omega) w⟩
    rw [hw] at hQ
    exact hQ
  · obtain ⟨f1, f2, f3, f4⟩ := wf_at k (by omega)
    have hl6 : (WM.getD k []).length ≤ 118 := by omega
    refine ⟨fun w => ?_, fun _ => ?_⟩
    · rw [e118, nat_le (by omega) (by omega)] at w; omega
    refine lp_of (fun x => ∃ i, i ≤ (WM.getD k []).length ∧ x = Int32.ofNat i) (fun x => 118 - x.toNatClampNeg) ?_ ⟨0, by omega, rfl⟩
    rintro K' x ⟨i, hi, rfl⟩ hK'
    rw [hw, wdF_step (by exact (show k < 23 by omega))] at hQ
    have e32 : gI σ (m + 2) (Int32.ofNat (wf k) + Int32.ofNat i).toNatClampNeg = ws1.getD (wf k + i) 0 := by
      rw [nat_a (by omega), nat_c (by omega)]
      exact h4 _ (by omega)
    refine ⟨by rw [nat_a (by omega)]; exact nat_v (by omega) (by omega), ?_⟩
    rw [e32]
    have next : K (Int32.ofNat k + 1, Int32.ofNat (wf k) + (Int32.ofNat (WM.getD k []).length + 1)) ∨ WM.getD k [] = seg b q e := by
      by_cases es : WM.getD k [] = seg b q e
      · exact Or.inr es
      · refine Or.inl (hK _ ⟨k + 1, by omega, ?_, ?_⟩ ?_)
        · rw [nat_s (by omega), nat_s (by omega), nat_a (by omega), f1, Nat.add_assoc]
        · rw [hw, wdF_step (by exact (show k < 23 by omega)), if_neg es]
        · show 23 - (Int32.ofNat k + 1).toNatClampNeg < 23 - (Int32.ofNat k).toNatClampNeg
          rw [nat_s (by omega), nat_c (by omega), nat_c (by omega)]; omega
    refine ⟨fun w => ?_, fun w => ?_⟩
    · have ei : i = (WM.getD k []).length := by
        by_cases c : i = (WM.getD k []).length
        · exact c
        · exact absurd w (f4 i (by omega)).2
      subst ei
      refine ⟨fun w2 => ?_, fun w2 => ?_⟩
      · rw [nat_d hqe (by omega), nat_e (by omega) (by omega)] at w2
        -- as long: byte by byte
        refine lp_of (fun z => ∃ j, j ≤ (WM.getD k []).length ∧ z.2 = Int32.ofNat j ∧ ((z.1 = 1 ∧ ∀ i, i < j → (WM.getD k []).getD i 0 = b (q + i)) ∨ (z.1 = 0 ∧ WM.getD k [] ≠ seg b q e))) (fun z => 118 - z.2.toNatClampNeg) ?_ ⟨0, by omega, rfl, Or.inl ⟨rfl, fun i hi => by omega⟩⟩
        rintro K2 ⟨x6, x7⟩ ⟨j, hj, hx, hs⟩ hK2
        simp only at hx hs
        subst hx
        refine ⟨fun v => ?_, fun v => ⟨fun v2 => ?_, fun v2 => ⟨?_, ?_, fun v3 => ?_, fun v3 => ?_⟩⟩⟩
        all_goals rw [nat_le (by omega) (by omega)] at v
        · have ej : j = (WM.getD k []).length := by omega
          rcases hs with ⟨e1, hs⟩ | ⟨e1, hs⟩
          · have es : WM.getD k [] = seg b q e := lst_ext (by rw [seg_len]; omega) (fun i hi => by rw [seg_at (by omega)]; exact hs i (by omega))
            rw [if_pos es] at hQ
            exact ⟨fun w => absurd (e1.symm.trans w) (by decide), fun _ => hQ⟩
          · exact ⟨fun _ => next.resolve_right hs, fun w => absurd e1 w⟩
        · rcases hs with ⟨e1, hs⟩ | ⟨e1, hs⟩
          · exact absurd (e1.symm.trans v2) (by decide)
          · exact ⟨fun _ => next.resolve_right hs, fun w => absurd e1 w⟩
        · rw [nat_a (by omega)]; exact nat_v (by omega) (by omega)
        · rw [nat_a (by omega)]; exact nat_v (by omega) (by omega)
        · rw [nat_a (by omega), nat_a (by omega), nat_c (by omega), nat_c (by omega), h4 _ (by omega), (h3 _ (by omega)).2.2, (f4 j (by omega)).1] at v3
          rcases hs with ⟨e1, hs⟩ | ⟨e1, hs⟩
          · refine hK2 _ ⟨j + 1, by omega, nat_s (by omega), Or.inl ⟨rfl, fun i hi => ?_⟩⟩ ?_
            · by_cases ei : i = j
              · rw [ei]; exact v3
              · exact hs i (by omega)
            · show 118 - (Int32.ofNat j + 1).toNatClampNeg < 118 - (Int32.ofNat j).toNatClampNeg
              rw [nat_s (by omega), nat_c (by omega), nat_c (by omega)]; omega
          · exact absurd e1 v2
        · rw [nat_a (by omega), nat_a (by omega), nat_c (by omega), nat_c (by omega), h4 _ (by omega), (h3 _ (by omega)).2.2, (f4 j (by omega)).1] at v3
          refine hK2 _ ⟨j + 1, by omega, nat_s (by omega), Or.inr ⟨rfl, fun es => v3 (by rw [es, seg_at (by omega)])⟩⟩ ?_
          show 118 - (Int32.ofNat j + 1).toNatClampNeg < 118 - (Int32.ofNat j).toNatClampNeg
          rw [nat_s (by omega), nat_c (by omega), nat_c (by omega)]; omega
      · rw [nat_d hqe (by omega), nat_e (by omega) (by omega)] at w2
        have ns : WM.getD k [] ≠ seg b q e := fun es => w2 (by rw [es, seg_len])
        refine lp_of (fun z => z.1 = 0) (fun _ => 0) ?_ rfl
        rintro K2 ⟨x6, x7⟩ hz hK2
        simp only at hz
        refine ⟨fun v => ⟨fun _ => next.resolve_right ns, fun w => absurd hz w⟩, fun v => ⟨fun _ => ⟨fun _ => next.resolve_right ns, fun w => absurd hz w⟩, fun w => absurd hz w⟩⟩
    · have hi2 : i < (WM.getD k []).length := by
        by_cases c : i = (WM.getD k []).length
        · rw [c] at w; exact absurd f3 w
        · omega
      refine hK' _ ⟨i + 1, by omega, nat_s (by omega)⟩ ?_
      rw [nat_s (by omega), nat_c (by omega), nat_c (by omega)]; omega
theorem wp_packed {m : Nat} {b : Nat → Int32} {n q e : Nat} {σ : Hp} {Q : Int32 → Prop} (h : MTB m b n σ) (hqe : q ≤ e) (hen : e ≤ n) (hQ : Q (pkN b q e 6)) : wp_X6_packed m σ (Int32.ofNat q) (Int32.ofNat e) Q := by
  obtain ⟨h1, h2, h3, h4, h9⟩ := h
  refine lp_of (fun z => ∃ k, k ≤ 6 ∧ z = (pkN b q e k, Int32.ofNat (q + k))) (fun z => q + 6 - z.2.toNatClampNeg) ?_ ⟨0, by omega, rfl⟩
  rintro K z ⟨k, hk, rfl⟩ hK
  have e6 : Int32.ofNat q + 6 = Int32.ofNat (q + 6) := nat_a (q := 6) (by omega)
  show (_ → _) ∧ (_ → _)
  rw [e6]
  refine ⟨fun w => ?_, fun w => ⟨fun w2 => ?_, fun w2 => ⟨nat_v ?_ (by omega), fun v hv => ?_⟩⟩⟩
  all_goals rw [nat_le (by omega) (by omega)] at w
  · have : k = 6 := by omega
    subst this
    exact hQ
  all_goals rw [nat_le (by omega) (by omega)] at w2
  · refine hK _ ⟨k + 1, by omega, ?_⟩ ?_
    · rw [pkN, if_neg (by omega), nat_s (by omega)]; rfl
    · show q + 6 - (Int32.ofNat (q + k) + 1).toNatClampNeg < q + 6 - (Int32.ofNat (q + k)).toNatClampNeg
      rw [nat_s (by omega), nat_c (by omega), nat_c (by omega)]; omega
  · omega
  · rw [nat_c (by omega), (h3 _ (by omega)).2.2] at hv
    subst hv
    refine hK _ ⟨k + 1, by omega, ?_⟩ ?_
    · rw [pkN, if_pos (by omega), nat_s (by omega)]; rfl
    · show q + 6 - (Int32.ofNat (q + k) + 1).toNatClampNeg < q + 6 - (Int32.ofNat (q + k)).toNatClampNeg
      rw [nat_s (by omega), nat_c (by omega), nat_c (by omega)]; omega
