set_option maxRecDepth 100000
/-! LongYears' READER SHOWS THE TOKENS -/
/-- the reader's four fields -/
def S4 (o a k : Nat) : Prop := a = o ∧ (k = 0 ∨ k = 2 ∨ k = 3 ∨ k = 4)
/-- the reader o of the object c stands over the bytes b, up to n -/
def TB (o c : Nat) (b : Nat → Int32) (n : Nat) (σ : Hp) : Prop := gI σ o 1 = Int32.ofNat n ∧ n ≤ 900 ∧ o ≠ c + 1 ∧ (∀ i, i < n → 0 ≤ (b i).toInt ∧ (b i).toInt ≤ 255 ∧ gI σ (c + 1) i &&& 255 = b i ∧ ((b i).toInt < 128 → gI σ (c + 1) i = b i))
theorem TB.ch {o c : Nat} {b : Nat → Int32} {n : Nat} {σ σ' : Hp} (h : TB o c b n σ) (hc : Ch (S4 o) σ σ') : TB o c b n σ' := by
  obtain ⟨h1, h2, h3, h4⟩ := h
  refine ⟨?_, h2, h3, fun i hi => ?_⟩
  · rw [hc.gi (by unfold S4; omega)]; exact h1
  · rw [hc.gi (by unfold S4; omega)]; exact h4 i hi
theorem nat_i {p : Nat} (h : p ≤ 2147483647) : (Int32.ofNat p).toInt = p := i2_ofNat h
theorem nat_c {p : Nat} (h : p ≤ 2147483647) : (Int32.ofNat p).toNatClampNeg = p := by
  rw [cl_i, nat_i h]; omega
theorem nat_s {p : Nat} (h : p < 2147483647) : Int32.ofNat p + 1 = Int32.ofNat (p + 1) := by
  rw [i2_eq, nat_i (by omega)]
  exact i3_add (nat_i (by omega)) (y := 1) (by rfl) (by omega) (by omega)
theorem nat_a {p q : Nat} (h : p + q ≤ 2147483647) : Int32.ofNat p + Int32.ofNat q = Int32.ofNat (p + q) := by
  rw [i2_eq, nat_i (by omega)]
  exact (i3_add (nat_i (by omega)) (nat_i (by omega)) (by omega) (by omega)).trans (by omega)
theorem nat_d {p q : Nat} (h : q ≤ p) (h2 : p ≤ 2147483647) : Int32.ofNat p - Int32.ofNat q = Int32.ofNat (p - q) := by
  rw [i2_eq, nat_i (by omega)]
  exact (i3_sub (nat_i (by omega)) (nat_i (by omega)) (by omega) (by omega)).trans (by omega)
theorem nat_le {p q : Nat} (hp : p ≤ 2147483647) (hq : q ≤ 2147483647) : Int32.ofNat p ≤ Int32.ofNat q ↔ p ≤ q := by
  rw [i3_le (nat_i hp) (nat_i hq)]; omega
theorem nat_e {p q : Nat} (hp : p ≤ 2147483647) (hq : q ≤ 2147483647) : Int32.ofNat p = Int32.ofNat q ↔ p = q := by
  rw [i3_eq (nat_i hp) (nat_i hq)]; omega
theorem nat_v {p n : Nat} (hp : p < n) (h : p ≤ 2147483647) : vp_in (Int32.ofNat p) n := vp_of (by rw [nat_i h]; omega) (by rw [nat_i h]; omega)
theorem here_in {o c : Nat} (d : Nat) {b : Nat → Int32} {n p : Nat} {σ : Hp} (h : TB o c b n σ) (ha : gI σ o 0 = Int32.ofNat p) (hp : p < n) : f_X2_here o c d σ = b p ∧ ok_X2_here o c d σ := by
  obtain ⟨h1, h2, h3, h4⟩ := h
  have e : ¬ gI σ o 1 ≤ gI σ o 0 := by
    rw [h1, ha, nat_le (by omega) (by omega)]; omega
  constructor
  · unfold f_X2_here
    rw [if_neg e, ha, nat_c (by omega)]
    exact (h4 p hp).2.2.1
  · refine ⟨fun _ => trivial, fun _ => ?_⟩
    rw [ha]
    exact nat_v (by omega) (by omega)
theorem here_out {o c : Nat} (d : Nat) {b : Nat → Int32} {n p : Nat} {σ : Hp} (h : TB o c b n σ) (ha : gI σ o 0 = Int32.ofNat p) (hp : n ≤ p) (hp2 : p ≤ 2147483647) : f_X2_here o c d σ = -1 ∧ ok_X2_here o c d σ := by
  obtain ⟨h1, h2, h3, h4⟩ := h
  have e : gI σ o 1 ≤ gI σ o 0 := by
    rw [h1, ha, nat_le (by omega) (by omega)]; omega
  constructor
  · unfold f_X2_here
    rw [if_pos e]
  · exact ⟨fun _ => trivial, fun w => absurd e w⟩
theorem in_iff {a lo hi : Int64} {x y z : Int} (ha : a.toInt = x) (hl : lo.toInt = y) (hh : hi.toInt = z) : f_X1_in a lo hi = 0 ↔ ¬ (y ≤ x ∧ x ≤ z) := by
  unfold f_X1_in
  by_cases h1 : a < lo
  · rw [if_pos h1]
    rw [l3_lt ha hl] at h1
    exact ⟨fun _ q => by omega, fun _ => rfl⟩
  · rw [if_neg h1]
    rw [l3_lt ha hl] at h1
    by_cases h2 : hi < a
    · rw [if_pos h2]
      rw [l3_lt hh ha] at h2
      exact ⟨fun _ q => by omega, fun _ => rfl⟩
    · rw [if_neg h2]
      rw [l3_lt hh ha] at h2
      exact ⟨fun q => (by cases q), fun q => absurd ⟨by omega, by omega⟩ q⟩
theorem in_01 (a lo hi : Int64) : f_X1_in a lo hi = 0 ∨ f_X1_in a lo hi = 1 := by
  unfold f_X1_in
  split
  · exact Or.inl rfl
  · split
    · exact Or.inl rfl
    · exact Or.inr rfl
theorem lt_b (v : Int32) : isLtB v = true ↔ 97 ≤ v.toInt ∧ v.toInt ≤ 122 := by
  unfold isLtB
  rw [Bool.and_eq_true, decide_eq_true_iff, decide_eq_true_iff, i3_le (x := 97) (by rfl) rfl, i3_le rfl (y := 122) (by rfl)]
theorem dg_b (v : Int32) : isDgB v = true ↔ 48 ≤ v.toInt ∧ v.toInt ≤ 57 := by
  unfold isDgB
  rw [Bool.and_eq_true, decide_eq_true_iff, decide_eq_true_iff, i3_le (x := 48) (by rfl) rfl, i3_le rfl (y := 57) (by rfl)]
theorem in_lt (v : Int32) : f_X1_in v.toInt64 97 122 = 0 ↔ isLtB v = false := by
  rw [in_iff (i2_l v) (y := 97) (by rfl) (z := 122) (by rfl), ← lt_b, Bool.not_eq_true]
theorem in_dg (v : Int32) : f_X1_in v.toInt64 48 57 = 0 ↔ isDgB v = false := by
  rw [in_iff (i2_l v) (y := 48) (by rfl) (z := 57) (by rfl), ← dg_b, Bool.not_eq_true]
theorem j_len (bs : List Int32) : f_J3_length bs = Int32.ofNat bs.length := by
  unfold f_J3_length f_J3_coder
  rw [show ((0 : Int32) &&& 31) = 0 by decide]
  exact Int32.shiftRight_zero
theorem nm_at6 : ∀ k, k < 23 → ∀ j, j < (nmB.getD k []).length → f_J3_charAt (nmB.getD k []) (Int32.ofNat j) = (nmB.getD k []).getD j 0 := by decide +kernel
theorem nm_ln6 : ∀ k, k < 23 → (nmB.getD k []).length ≤ 6 := by decide +kernel
theorem wdF_step {s : List Int32} {L : List (List Int32)} {k : Nat} (h : k < L.length) : wdF s (L.drop k) k = if L.getD k [] = s then some k else wdF s (L.drop (k + 1)) (k + 1) := by
  rw [List.drop_eq_getElem_cons h, wdF, List.getD_eq_getElem?_getD, List.getElem?_eq_getElem h]
  rfl
theorem seg_len (b : Nat → Int32) (p e : Nat) : (seg b p e).length = e - p := by simp [seg]
theorem seg_at {b : Nat → Int32} {p e i : Nat} (h : i < e - p) : (seg b p e).getD i 0 = b (p + i) := by
  rw [List.getD_eq_getElem?_getD, List.getElem?_eq_getElem (by rw [seg_len]; exact h)]
  simp [seg]
theorem lst_ext {l s : List Int32} (hl : l.length = s.length) (h : ∀ i, i < l.length → l.getD i 0 = s.getD i 0) : l = s := by
  apply List.ext_getElem hl
  intro i h1 h2
  have := h i h1
  rw [List.getD_eq_getElem?_getD, List.getD_eq_getElem?_getD, List.getElem?_eq_getElem h1, List.getElem?_eq_getElem h2] at this
  exact this
def wdI (r : Option Nat) : Int32 := match r with
  | some k => Int32.ofNat k
  | none => -1
theorem wp_word {o c d : Nat} {b : Nat → Int32} {n q e : Nat} {σ : Hp} {Q : Int32 → Prop} (h : TB o c b n σ) (ha : gI σ o 0 = Int32.ofNat e) (hp : gI σ o 2 = Int32.ofNat q) (hqe : q ≤ e) (hen : e ≤ n) (hl : ∀ i, q ≤ i → i < e → isLtB (b i) = true) (hQ : Q (wdI (wdF (seg b q e) nmB 0))) : wp_X2_word o c d σ Q := by
  obtain ⟨h1, h2, h3, h4⟩ := h
  have key : ∀ i, i < e - q → gI σ (c + 1) (q + i) = b (q + i) := fun i hi => (h4 (q + i) (by omega)).2.2.2 (by have := (lt_b _).mp (hl (q + i) (by omega) (by omega)); omega)
  refine lp_of (fun x => ∃ k, k ≤ 23 ∧ x = Int32.ofNat k ∧ wdF (seg b q e) nmB 0 = wdF (seg b q e) (nmB.drop k) k) (fun x => 23 - x.toNatClampNeg) ?_ ⟨0, by omega, rfl, rfl⟩
  rintro K x ⟨k, hk, rfl, hw⟩ hK
  have e23 : (23 : Int32) = Int32.ofNat 23 := rfl
  refine ⟨fun w => ?_, fun w => ⟨?_, fun w2 => ?_, fun w2 => ?_⟩⟩
  · rw [e23, nat_le (by omega) (by omega)] at w
    have : k = 23 := by omega
    subst this
    rw [hw] at hQ
    exact hQ
  · rw [e23, nat_le (by omega) (by omega)] at w
    exact nat_v (by omega) (by omega)
  · rw [e23, nat_le (by omega) (by omega)] at w
    rw [nat_c (by omega), j_len, ha, hp, nat_d hqe (by omega), nat_e (by have := nm_ln6 k (by omega); omega) (by omega)] at w2
    refine lp_of (fun y => ∃ j, j ≤ e - q ∧ y = Int32.ofNat j ∧ ∀ i, i < j → (nmB.getD k []).getD i 0 = b (q + i)) (fun y => e - q - y.toNatClampNeg) ?_ ⟨0, by omega, rfl, fun i hi => by omega⟩
    rintro K' y ⟨j, hj, rfl, hs⟩ hK'
    rw [hw, wdF_step (by exact (show k < 23 by omega))] at hQ
    refine ⟨fun v => ?_, fun v => ⟨nat_v (by omega) (by omega), ?_, ?_, fun v2 => ?_, fun v2 => ?_⟩⟩
    · rw [ha, hp, nat_a (by omega), nat_le (by omega) (by omega)] at v
      have ej : j = e - q := by omega
      have es : nmB.getD k [] = seg b q e := lst_ext (by rw [seg_len]; omega) (fun i hi => by rw [seg_at (by omega)]; exact hs i (by omega))
      rw [if_pos es] at hQ
      exact ⟨fun _ => hQ, fun v2 => absurd (by rw [ha, hp, nat_a (by omega), ej]; congr 1; omega) v2⟩
    all_goals rw [ha, hp, nat_a (by omega), nat_le (by omega) (by omega)] at v
    · rw [nat_c (by omega)]
      refine ⟨fun q => (by cases q), fun _ => ⟨⟨fun q => ?_, fun _ => ⟨fun _ => trivial, fun q => ?_⟩⟩, ?_⟩⟩
      · rw [i3_lt (nat_i (by omega)) (y := 0) (by rfl)] at q; omega
      · rw [i3_lt (nat_i (by omega)) (nat_i (by omega))] at q; omega
      · exact nat_v (by omega) (by omega)
    · rw [hp, nat_a (by omega)]
      exact nat_v (by omega) (by omega)
    · rw [nat_c (by omega), nm_at6 k (by omega) j (by omega), hp, nat_a (by omega), nat_c (by omega), key j (by omega)] at v2
      refine hK' _ ⟨j + 1, by omega, nat_s (by omega), fun i hi => ?_⟩ ?_
      · by_cases ei : i = j
        · rw [ei]; exact v2
        · exact hs i (by omega)
      · rw [nat_s (by omega), nat_c (by omega), nat_c (by omega)]; omega
    · rw [nat_c (by omega), nm_at6 k (by omega) j (by omega), hp, nat_a (by omega), nat_c (by omega), key j (by omega)] at v2
      refine ⟨fun v3 => ?_, fun _ => ?_⟩
      · rw [hp, ha, nat_a (by omega), nat_e (by omega) (by omega)] at v3; omega
      · refine hK _ ⟨k + 1, by omega, nat_s (by omega), ?_⟩ ?_
        · rw [hw, wdF_step (by exact (show k < 23 by omega)), if_neg (fun es => v2 (by rw [es, seg_at (by omega)]))]
        · rw [nat_s (by omega), nat_c (by omega), nat_c (by omega)]; omega
  · rw [e23, nat_le (by omega) (by omega)] at w
    rw [nat_c (by omega), j_len, ha, hp, nat_d hqe (by omega), nat_e (by have := nm_ln6 k (by omega); omega) (by omega)] at w2
    refine hK _ ⟨k + 1, by omega, nat_s (by omega), ?_⟩ ?_
    · rw [hw, wdF_step (by exact (show k < 23 by omega)), if_neg (fun es => w2 (by rw [es, seg_len]))]
    · rw [nat_s (by omega), nat_c (by omega), nat_c (by omega)]; omega
