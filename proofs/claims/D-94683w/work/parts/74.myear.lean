set_option maxRecDepth 100000
/-! .. and by the reference -/
def MDo (m : Nat) (σ : Hp) (l L g f : Int32) : Prop := vp_in ((3 * l) + 2) 24 ∧ vp_in ((3 * l) + 1) 24 ∧ vp_in (3 * l) 24 ∧ gI σ (m + 5) (3 * l).toNatClampNeg = L ∧ gI σ (m + 5) ((3 * l) + 1).toNatClampNeg = g ∧ gI σ (m + 5) ((3 * l) + 2).toNatClampNeg = f
theorem fm_len {m : Nat} {σ : Hp} {l L g f : Int32} (h : MDo m σ l L g f) (y : Int64) : f_X6_lengthOf m σ l y = mLen L g y := by
  unfold f_X6_lengthOf mLen
  rw [h.2.2.2.1, h.2.2.2.2.1, Int64.mul_comm]
theorem fm_beg {m : Nat} {σ : Hp} {l L g f : Int32} (h : MDo m σ l L g f) (y : Int64) : f_X6_beginOf m σ l y = mBeg L g f y := by
  unfold f_X6_beginOf mBeg fj_X6_beginOf_32 mBeg32
  rw [h.2.2.2.1, h.2.2.2.2.1, h.2.2.2.2.2]
theorem fm_end {m : Nat} {σ : Hp} {l L g f : Int32} (h : MDo m σ l L g f) : f_X6_endYear m σ l = mEnd L g := by
  unfold f_X6_endYear mEnd
  rw [h.2.2.2.1, h.2.2.2.2.1]
theorem om_len {m : Nat} {σ : Hp} {l L g f : Int32} (h : MDo m σ l L g f) (y : Int64) : ok_X6_lengthOf m σ l y := ⟨h.2.2.1, h.2.1⟩
theorem om_beg {m : Nat} {σ : Hp} {l L g f : Int32} (h : MDo m σ l L g f) (y : Int64) : ok_X6_beginOf m σ l y := ⟨h.2.1, fun _ => ⟨h.1, h.2.2.1⟩, fun _ => ⟨fun _ => ⟨h.1, h.2.2.1⟩, fun _ => trivial⟩⟩
theorem om_end {m : Nat} {σ : Hp} {l L g f : Int32} (h : MDo m σ l L g f) (k : LOK3 L g f) (hg : g.toInt < 0) : ok_X6_endYear m σ l := by
  refine ⟨h.2.2.1, h.2.1, ?_⟩
  rw [h.2.2.2.2.1]
  have := k.2.2.1
  rw [l3_eq (i3_l (i3_neg (x := g.toInt) rfl (by omega))) (y := 0) (by rfl)]
  omega
theorem fm_isYear {m : Nat} {σ : Hp} {l L g f : Int32} (h : MDo m σ l L g f) (k : LOK3 L g f) {y : Int64} (hy : y.toInt ≤ 3000000000000) : (f_X6_isYear m σ l y = 0 ↔ ¬ hasY L g y) ∧ (f_X6_isYear m σ l y = 0 ∨ f_X6_isYear m σ l y = 1) := by
  unfold f_X6_isYear hasY
  rw [fm_len h]
  by_cases h1 : y.toInt < 1
  · rw [if_pos ((l3_lt rfl (y := 1) (by rfl)).mpr h1)]
    exact ⟨⟨fun _ q => by omega, fun _ => rfl⟩, Or.inl rfl⟩
  · rw [if_neg (fun q => h1 ((l3_lt rfl (y := 1) (by rfl)).mp q))]
    have e := mLen_i k (y := y) (by omega) hy
    by_cases h2 : lenI L.toInt g.toInt y.toInt < 1
    · rw [if_pos ((l3_lt e (y := 1) (by rfl)).mpr h2)]
      exact ⟨⟨fun _ q => by omega, fun _ => rfl⟩, Or.inl rfl⟩
    · rw [if_neg (fun q => h2 ((l3_lt e (y := 1) (by rfl)).mp q))]
      exact ⟨⟨fun w => (by cases w), fun w => absurd ⟨by omega, by omega⟩ w⟩, Or.inr rfl⟩
theorem om_isYear {m : Nat} {σ : Hp} {l L g f : Int32} (h : MDo m σ l L g f) (y : Int64) : ok_X6_isYear m σ l y := ⟨fun _ => trivial, fun _ => om_len h y⟩
/-- where a year of a count begins is the same for both -/
theorem st_beg {L g f : Int32} (k : LOK3 L g f) {c : Int64} (hc : c.toInt ≤ 1000000000000) {y : Int64} (h1 : 1 ≤ y.toInt) (h2 : y.toInt ≤ 3000000000000) (h3 : 0 ≤ g.toInt ∨ y.toInt ≤ 20000) (h : begI L.toInt g.toInt f.toInt y.toInt ≤ 1000000000000) : mBeg L g f y = mStart L g f y ∧ (mStart L g f y).toInt = begI L.toInt g.toInt f.toInt y.toInt := by
  have a := mBeg_i k h1 h2 h3
  have b := mStart_i k h1 h2 h3
  rw [l2_eq]
  omega
/-- what date1 lays -/
def DS (m : Nat) (σ σ' : Hp) : Prop := σ' = σ ∨ ∃ u v, σ' = pL (pL σ m 53 u) m 54 v
theorem dt_loop {m : Nat} {σ : Hp} {l L g f : Int32} {c : Int64} {Q : Int32 → Hp → Prop} (h : MDo m σ l L g f) (k : LOK3 L g f) (hc1 : c.toInt ≤ 1000000000000) (hf : f.toInt ≤ c.toInt) {hi : Int64} (h1 : 1 ≤ hi.toInt) (h2 : hi.toInt ≤ 1000000000001)
    (h3 : (g.toInt < 0 ∧ hi = mLast L g) ∨ (0 ≤ g.toInt ∧ c.toInt < begI L.toInt g.toInt f.toInt (hi.toInt + 1)))
    (hN : yr L g f c = -1 → ∀ σ', DS m σ σ' → Q 0 σ') (hY : yr L g f c ≠ -1 → Q 1 (pL (pL σ m 53 (yr L g f c)) m 54 (c - mStart L g f (yr L g f c) + 1))) : lp (lb_X6_date1_89 m l c Q) (1, hi, σ) := by
  have k5 := k.2.2.2.2.1
  have hlen : 0 ≤ g.toInt ∨ (hi.toInt ≤ 9999 ∧ 1 ≤ lenI L.toInt g.toInt hi.toInt) := by
    rcases h3 with ⟨hg, e⟩ | ⟨hg, -⟩
    · have b := mLast_b k hg
      rw [e]
      exact Or.inr ⟨b.2, (last_iff hg).mp (by rw [mLast_neg k hg]; omega)⟩
    · exact Or.inl hg
  refine lp_of (fun z => z.2.2 = σ ∧ 1 ≤ z.1.toInt ∧ z.1.toInt ≤ z.2.1.toInt ∧ z.2.1.toInt ≤ hi.toInt ∧ begI L.toInt g.toInt f.toInt z.1.toInt ≤ c.toInt ∧ (z.2.1.toInt = hi.toInt ∨ c.toInt < begI L.toInt g.toInt f.toInt (z.2.1.toInt + 1))) (fun z => (z.2.1.toInt - z.1.toInt).toNat) ?_ ⟨rfl, Int.le_refl _, h1, Int.le_refl _, by rw [show (1 : Int64).toInt = 1 from rfl, beg_one]; exact hf, Or.inl rfl⟩
  rintro K ⟨lo, hi', σ'⟩ ⟨e0, i1, i2, i3, i4, i5⟩ hK
  simp only at e0 i1 i2 i3 i4 i5
  subst e0
  refine ⟨fun q => ⟨om_beg (σ := pL σ' m 53 lo) h lo, om_len (σ := pL (pL σ' m 53 lo) m 54 _) h lo, ?_⟩, fun q => ⟨om_beg h _, ?_⟩⟩
  · rw [l2_le] at q
    rw [fm_len (σ := pL (pL σ' m 53 lo) m 54 _) h lo, fm_beg (σ := pL σ' m 53 lo) h lo]
    obtain ⟨e1, e2⟩ := st_beg k hc1 (y := lo) i1 (by omega) (hlen.imp id (fun q => by omega)) (by omega)
    rw [e1]
    have e3 := mLen_i k (y := lo) (by omega) (by omega)
    have b0 : begI L.toInt g.toInt f.toInt 1 ≤ begI L.toInt g.toInt f.toInt lo.toInt := by
      by_cases e : lo.toInt = 1
      · rw [e]; exact Int.le_refl _
      · have := beg_lt (f := f.toInt) (g := g.toInt) (y := 1) (z := lo.toInt) k.1 (Int.le_refl _) (by omega) (hlen.imp id (fun q => len_dn k.1 (by omega) (show lo.toInt - 1 ≤ hi.toInt by omega) (Or.inr q.2)))
        omega
    rw [beg_one] at b0
    have e4 : ((c - mStart L g f lo) + 1).toInt = c.toInt - begI L.toInt g.toInt f.toInt lo.toInt + 1 := l3_add (l3_sub rfl e2 (by omega) (by omega)) (by rfl) (by omega) (by omega)
    have hl := len_dn (L := L.toInt) (g := g.toInt) (y := lo.toInt) (z := hi.toInt) k.1 i1 (by omega) (hlen.imp id (fun q => q.2))
    refine ⟨fun w => hN ?_ _ (Or.inr ⟨_, _, rfl⟩), fun w => ?_⟩
    · rw [l3_lt e3 e4] at w
      have w2 : begI L.toInt g.toInt f.toInt (lo.toInt + 1) ≤ c.toInt := by rw [beg_succ]; omega
      have w3 : hi'.toInt = lo.toInt := by omega
      rw [w3] at i5
      have w4 : lo.toInt = hi.toInt := by omega
      rcases h3 with ⟨hg, e⟩ | ⟨hg, w5⟩
      · refine yr_no (fun y w => ?_)
        have w1 := (last_iff hg).mpr w.2.1
        rw [← mLast_neg k hg, ← e, ← w4] at w1
        have w5 : begI L.toInt g.toInt f.toInt (y.toInt + 1) ≤ begI L.toInt g.toInt f.toInt (lo.toInt + 1) := by
          by_cases e : y.toInt = lo.toInt
          · rw [e]; exact Int.le_refl _
          · have := beg_lt (f := f.toInt) (g := g.toInt) (y := y.toInt + 1) (z := lo.toInt + 1) k.1 (by have := w.1; omega) (by omega) (Or.inr (by rw [show lo.toInt + 1 - 1 = lo.toInt by omega]; exact hl))
            omega
        rw [beg_succ] at w5
        have := w.2.2.2
        omega
      · rw [← w4] at w5
        omega
    · rw [l3_lt e3 e4] at w
      have ey : yr L g f c = lo := yr_of k ⟨i1, hl, i4, by omega⟩
      rw [ey] at hY
      exact hY (fun q => by rw [q] at i1; exact absurd i1 (by decide))
  · rw [l2_le] at q
    have em := mid_i (lo := lo) (hi := hi') i1 (by omega) (by omega)
    rw [fm_beg h]
    have es := (mBeg_i k (y := ((lo + hi') + 1) / 2) (by omega) (by omega) (hlen.imp id (fun q => by omega))).1
    rw [em] at es
    refine ⟨fun w => hK _ ⟨rfl, i1, ?_, ?_, i4, Or.inr ?_⟩ ?_, fun w => hK _ ⟨rfl, ?_, ?_, i3, ?_, i5⟩ ?_⟩
    all_goals rw [l2_lt] at w
    all_goals have e2 : ((((lo + hi') + 1) / 2) - 1).toInt = (lo.toInt + hi'.toInt + 1) / 2 - 1 := l3_sub em (by rfl) (by omega) (by omega)
    all_goals simp only [e2, em]
    all_goals first | omega | skip
    rw [show (lo.toInt + hi'.toInt + 1) / 2 - 1 + 1 = (lo.toInt + hi'.toInt + 1) / 2 by omega]
    omega
theorem wp_date1 {m : Nat} {σ : Hp} {l L g f : Int32} {c : Int64} {Q : Int32 → Hp → Prop} (h : MDo m σ l L g f) (k : LOK3 L g f) (hc0 : 0 ≤ c.toInt) (hc1 : c.toInt ≤ 1000000000000)
    (hN : yr L g f c = -1 → ∀ σ', DS m σ σ' → Q 0 σ') (hY : yr L g f c ≠ -1 → Q 1 (pL (pL σ m 53 (yr L g f c)) m 54 (c - mStart L g f (yr L g f c) + 1))) : wp_X6_date1 m σ l c Q := by
  have k5 := k.2.2.2.2.1
  unfold wp_X6_date1
  rw [h.2.2.2.1, h.2.2.2.2.1, h.2.2.2.2.2]
  refine ⟨h.1, fun q => ⟨h.2.1, fun v hv => ⟨fun q1 => ⟨fun q2 => ⟨h.1, h.2.2.1, ?_, fun v2 hv2 => ?_⟩, fun q2 => ?_⟩, fun q1 => ⟨?_, ?_⟩⟩⟩, fun q => ?_⟩
  · rw [l3_eq (i2_l L) (y := 0) (by rfl)]
    have := k.1
    omega
  · rw [l3_le (i2_l f) rfl] at q
    subst hv
    rw [l3_le (x := 0) (by rfl) (i2_l g)] at q1
    rw [l3_le (i2_l g) (y := 0) (by rfl)] at q2
    have hg : g.toInt = 0 := by omega
    have b := ediv_b (a := c.toInt - f.toInt) (b := L.toInt) (by omega) (by have := k.1; omega)
    have hv3 : v2.toInt = (c.toInt - f.toInt) / L.toInt + 1 := by
      rw [hv2]
      exact l3_add (l3_div (l3_sub rfl (i2_l f) (by omega) (by omega)) (i2_l L) (by omega) (by have := k.1; omega)) (by rfl) (by omega) (by omega)
    refine dt_loop h k hc1 (by omega) (by omega) (by omega) (Or.inr ⟨by omega, ?_⟩) hN hY
    unfold begI
    rw [hg, Int.zero_mul, hv3, show (c.toInt - f.toInt) / L.toInt + 1 + 1 - 1 = (c.toInt - f.toInt) / L.toInt + 1 by omega, Int.mul_comm]
    have := Int.lt_ediv_add_one_mul_self (c.toInt - f.toInt) (show 0 < L.toInt by have := k.1; omega)
    omega
  · rw [l3_le (i2_l f) rfl] at q
    subst hv
    rw [l3_le (i2_l g) (y := 0) (by rfl)] at q2
    refine dt_loop h k hc1 (by omega) (by decide) (by decide) (Or.inr ⟨by omega, ?_⟩) hN hY
    have := beg_big k (show 0 < g.toInt by omega) (y := (3000000 : Int64).toInt + 1) (by decide)
    omega
  · subst hv
    rw [l3_le (x := 0) (by rfl) (i2_l g)] at q1
    exact om_end h k (by omega)
  · rw [l3_le (i2_l f) rfl] at q
    subst hv
    rw [l3_le (x := 0) (by rfl) (i2_l g)] at q1
    have b := mLast_b k (show g.toInt < 0 by omega)
    rw [fm_end h, mEnd_i k (by omega)]
    exact dt_loop h k hc1 (by omega) b.1 (by omega) (Or.inl ⟨by omega, rfl⟩) hN hY
  · rw [l3_le (i2_l f) rfl] at q
    exact hN (yr_no (fun y w => by have := w.from k.1; omega)) _ (Or.inl rfl)
