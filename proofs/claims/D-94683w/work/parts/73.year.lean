set_option maxRecDepth 100000
/-! THE YEAR OF A COUNT, found by both -/
noncomputable def yr (L g f : Int32) (c : Int64) : Int64 := @dite _ (∃ y : Int64, YP L.toInt g.toInt f.toInt c.toInt y.toInt) (Classical.propDecidable _) (fun h => h.choose) (fun _ => -1)
theorem yr_of {L g f : Int32} {c y : Int64} (k : LOK3 L g f) (h : YP L.toInt g.toInt f.toInt c.toInt y.toInt) : yr L g f c = y := by
  unfold yr
  have hx : ∃ y : Int64, YP L.toInt g.toInt f.toInt c.toInt y.toInt := ⟨y, h⟩
  rw [dif_pos hx]
  exact l2_eq.mpr (YP.uniq k.1 hx.choose_spec h)
theorem yr_no {L g f : Int32} {c : Int64} (h : ∀ y : Int64, ¬ YP L.toInt g.toInt f.toInt c.toInt y.toInt) : yr L g f c = -1 := by
  unfold yr
  rw [dif_neg (fun ⟨y, q⟩ => h y q)]
theorem yr_cs (L g f : Int32) (c : Int64) : (yr L g f c = -1 ∧ ∀ y : Int64, ¬ YP L.toInt g.toInt f.toInt c.toInt y.toInt) ∨ (yr L g f c ≠ -1 ∧ YP L.toInt g.toInt f.toInt c.toInt (yr L g f c).toInt) := by
  by_cases hx : ∃ y : Int64, YP L.toInt g.toInt f.toInt c.toInt y.toInt
  · have h : YP L.toInt g.toInt f.toInt c.toInt (yr L g f c).toInt := by
      unfold yr
      rw [dif_pos hx]
      exact hx.choose_spec
    refine Or.inr ⟨fun q => ?_, h⟩
    rw [q] at h
    have h1 : (1 : Int) ≤ -1 := h.1
    omega
  · exact Or.inl ⟨yr_no (fun y q => hx ⟨y, q⟩), fun y q => hx ⟨y, q⟩⟩
/-- a year of a count that is counted is no great one -/
theorem YP.b {L g f c y : Int} (k : LOK L g f) (hc : c ≤ 1000000000000) (h : YP L g f c y) : 1 ≤ y ∧ y ≤ 1000000000001 ∧ (0 ≤ g ∨ y ≤ 9999) ∧ (0 < g → y ≤ 2000001) := by
  obtain ⟨h1, h2, h3, h4⟩ := h
  have k5 := k.2.2.2.2.1
  refine ⟨h1, ?_, ?_, ?_⟩
  · by_cases e : y = 1
    · omega
    · have := beg_lt (L := L) (g := g) (f := f) (y := 1) (z := y) k.1 (Int.le_refl _) (by omega) (Or.inr (len_dn k.1 (by omega) (by omega) (Or.inr h2)))
      rw [beg_one] at this
      omega
  · by_cases hg : 0 ≤ g
    · exact Or.inl hg
    · refine Or.inr ?_
      have := (last_iff (L := L) (g := g) (y := y) (by omega)).mpr h2
      have b := ediv_b (a := L - 1) (b := -g) (by have := k.1; omega) (by omega)
      have := k.2.1
      omega
  · intro hg
    by_cases q : 2000000 < y - 1
    · have := beg_big k hg q
      omega
    · omega
/-- a land's object holds its numbers -/
def LDo (a : Nat) (σ : Hp) (L g f : Int32) : Prop := gI σ a 1 = L ∧ gI σ a 2 = g ∧ gI σ a 3 = f
theorem fl_last {a : Nat} {σ : Hp} {L g f : Int32} (h : LDo a σ L g f) : f_X8_last a σ = mLast L g := by
  unfold f_X8_last mLast
  rw [h.1, h.2.1]
theorem ok_last {a : Nat} {σ : Hp} {L g f : Int32} (h : LDo a σ L g f) (k : LOK3 L g f) : ok_X8_last a σ := by
  refine ⟨fun _ => trivial, fun q => ?_⟩
  rw [h.2.1] at q ⊢
  obtain ⟨k1, k2, k3, k4, k5, k6⟩ := k
  rw [i3_le (x := 0) (by rfl) rfl] at q
  rw [i3_eq (i3_neg rfl (by omega)) (y := 0) (by rfl)]
  omega
theorem fl_len {a : Nat} {σ : Hp} {L g f : Int32} (h : LDo a σ L g f) (y : Int64) : f_X8_length a σ y = mLen L g y := by
  unfold f_X8_length mLen
  rw [h.1, h.2.1]
theorem fl_start {a : Nat} {σ : Hp} {L g f : Int32} (h : LDo a σ L g f) (y : Int64) : f_X8_start a σ y = mStart L g f y := by
  unfold f_X8_start mStart fj_X8_start_19 mSt19
  rw [h.1, h.2.1, h.2.2]
/-- whether there is a year -/
def hasY (L g : Int32) (y : Int64) : Prop := 1 ≤ y.toInt ∧ 1 ≤ lenI L.toInt g.toInt y.toInt
theorem fl_has {a : Nat} {σ : Hp} {L g f : Int32} (h : LDo a σ L g f) (k : LOK3 L g f) (y : Int64) : (f_X8_has a σ y = 0 ↔ ¬ hasY L g y) ∧ (f_X8_has a σ y = 0 ∨ f_X8_has a σ y = 1) := by
  unfold f_X8_has hasY
  rw [fl_last h]
  by_cases h1 : y.toInt < 1
  · rw [if_pos ((l3_lt rfl (y := 1) (by rfl)).mpr h1)]
    exact ⟨⟨fun _ q => by omega, fun _ => rfl⟩, Or.inl rfl⟩
  · rw [if_neg (fun q => h1 ((l3_lt rfl (y := 1) (by rfl)).mp q))]
    by_cases hg : 0 ≤ g.toInt
    · have hl := len_dn (L := L.toInt) (g := g.toInt) (y := y.toInt) (z := y.toInt) k.1 (by omega) (Int.le_refl _) (Or.inl hg)
      have hb := (l2_b y).2
      rw [mLast_pos hg, if_neg (fun q => by rw [l3_lt (x := 9223372036854775807) (by rfl) rfl] at q; omega)]
      exact ⟨⟨fun q => (by cases q), fun q => absurd ⟨by omega, hl⟩ q⟩, Or.inr rfl⟩
    · have e := last_iff (L := L.toInt) (g := g.toInt) (y := y.toInt) (by omega)
      by_cases q : mLast L g < y
      · rw [if_pos q]
        rw [l3_lt (mLast_neg k (by omega)) rfl] at q
        exact ⟨⟨fun _ w => by have := e.mpr w.2; omega, fun _ => rfl⟩, Or.inl rfl⟩
      · rw [if_neg q]
        rw [l3_lt (mLast_neg k (by omega)) rfl] at q
        exact ⟨⟨fun w => (by cases w), fun w => absurd ⟨by omega, e.mp (by omega)⟩ w⟩, Or.inr rfl⟩
theorem mid_i {lo hi : Int64} (h1 : 1 ≤ lo.toInt) (h2 : lo.toInt < hi.toInt) (h3 : hi.toInt ≤ 3000000000000) : (((lo + hi) + 1) / 2).toInt = (lo.toInt + hi.toInt + 1) / 2 := l3_div (l3_add (l3_add rfl rfl (by omega) (by omega)) (by rfl) (by omega) (by omega)) (by rfl) (by omega) (by omega)
theorem ly_loop {a : Nat} {σ : Hp} {L g f : Int32} {c : Int64} {Q : Int64 → Prop} (h : LDo a σ L g f) (k : LOK3 L g f) (hc1 : c.toInt ≤ 1000000000000) {hi : Int64} (hf : f.toInt ≤ c.toInt) (h1 : 1 ≤ hi.toInt) (h2 : hi.toInt ≤ 1000000000001) (h3 : 0 ≤ g.toInt ∨ (hi.toInt ≤ 9999 ∧ 1 ≤ lenI L.toInt g.toInt hi.toInt)) (h4 : c.toInt < begI L.toInt g.toInt f.toInt (hi.toInt + 1)) (hQ : Q (yr L g f c)) : lp (lb_X8_year_54 a σ c Q) (1, hi) := by
  refine lp_of (fun z => 1 ≤ z.1.toInt ∧ z.1.toInt ≤ z.2.toInt ∧ z.2.toInt ≤ hi.toInt ∧ begI L.toInt g.toInt f.toInt z.1.toInt ≤ c.toInt ∧ c.toInt < begI L.toInt g.toInt f.toInt (z.2.toInt + 1)) (fun z => (z.2.toInt - z.1.toInt).toNat) ?_ ⟨Int.le_refl _, h1, Int.le_refl _, by rw [show (1 : Int64).toInt = 1 from rfl, beg_one]; exact hf, h4⟩
  rintro K ⟨lo, hi'⟩ ⟨i1, i2, i3, i4, i5⟩ hK
  simp only at i1 i2 i3 i4 i5
  refine ⟨fun q => ?_, fun q => ?_⟩
  · rw [l2_le] at q
    have e : hi'.toInt = lo.toInt := by omega
    rw [e, beg_succ] at i5
    rw [yr_of (y := lo) k ⟨i1, len_dn k.1 i1 (show lo.toInt ≤ hi.toInt by omega) (h3.imp id (fun q => q.2)), i4, i5⟩] at hQ
    exact hQ
  · rw [l2_le] at q
    have em := mid_i (lo := lo) (hi := hi') i1 (by omega) (by omega)
    rw [fl_start h]
    have es := mStart_i k (y := ((lo + hi') + 1) / 2) (by omega) (by omega) (h3.imp id (fun q => by omega))
    rw [em] at es
    refine ⟨fun w => hK _ ⟨i1, ?_, ?_, i4, ?_⟩ ?_, fun w => hK _ ⟨?_, ?_, i3, ?_, i5⟩ ?_⟩
    all_goals rw [l3_lt rfl es] at w
    all_goals have e2 : ((((lo + hi') + 1) / 2) - 1).toInt = (lo.toInt + hi'.toInt + 1) / 2 - 1 := l3_sub em (by rfl) (by omega) (by omega)
    all_goals simp only [e2, em]
    all_goals first | omega | skip
    rw [show (lo.toInt + hi'.toInt + 1) / 2 - 1 + 1 = (lo.toInt + hi'.toInt + 1) / 2 by omega]
    omega
theorem wp_year {a : Nat} {σ : Hp} {L g f : Int32} {c : Int64} {Q : Int64 → Prop} (h : LDo a σ L g f) (k : LOK3 L g f) (hc0 : 0 ≤ c.toInt) (hc1 : c.toInt ≤ 1000000000000) (hQ : Q (yr L g f c)) : wp_X8_year a σ c Q := by
  unfold wp_X8_year
  rw [h.2.2]
  have k5 := k.2.2.2.2.1
  have lst : 0 ≤ g.toInt → c.toInt < begI L.toInt g.toInt f.toInt (1000000000001 + 1) := fun hg => by
    have := beg_lt (f := f.toInt) (y := 1) (z := 1000000000001 + 1) k.1 (Int.le_refl _) (by omega) (Or.inl hg)
    rw [beg_one] at this
    omega
  refine ⟨fun q => ?_, fun q => ⟨ok_last h k, fun q2 => ⟨ok_last h k, fun v hv => ?_⟩, fun q2 => ⟨ok_last h k, fun q3 => ⟨ok_last h k, fun v hv => ?_⟩, fun q3 => ?_⟩⟩⟩
  · rw [l3_lt rfl (i2_l f)] at q
    rw [yr_no (fun y w => by have := w.from k.1; omega)] at hQ
    exact hQ
  · rw [l3_lt rfl (i2_l f)] at q
    rw [fl_last h] at q2 hv
    have hg : 0 ≤ g.toInt := by
      by_cases w : 0 ≤ g.toInt
      · exact w
      · have b := mLast_b k (show g.toInt < 0 by omega)
        rw [q2] at b
        have : (9223372036854775807 : Int) ≤ 9999 := b.2
        omega
    have hv' : v.toInt = 1000000000001 := by
      rw [hv, q2]; rfl
    exact ly_loop h k hc1 (by omega) (by omega) (by omega) (Or.inl hg) (by rw [hv']; exact lst hg) hQ
  · rw [l3_lt rfl (i2_l f)] at q
    rw [fl_last h] at q2 hv
    rw [fl_last h, fl_start h] at q3
    have hg : g.toInt < 0 := by
      by_cases w : 0 ≤ g.toInt
      · exact absurd (mLast_pos w) q2
      · omega
    have b := mLast_b k hg
    have hv' : v.toInt = (mLast L g).toInt := by
      rw [hv, min2_i rfl (y := 1000000000001) (by rfl)]; omega
    have e1 : (mLast L g + 1).toInt = (mLast L g).toInt + 1 := l3_add rfl (by rfl) (by omega) (by omega)
    have es := mStart_i k (y := mLast L g + 1) (by omega) (by omega) (by omega)
    rw [l3_lt rfl es, e1] at q3
    refine ly_loop h k hc1 (by omega) (by omega) (by omega) (Or.inr ⟨by omega, ?_⟩) (by rw [hv']; omega) hQ
    rw [hv']
    refine (last_iff hg).mp ?_
    rw [mLast_neg k hg]
    omega
  · rw [l3_lt rfl (i2_l f)] at q
    rw [fl_last h] at q2
    rw [fl_last h, fl_start h] at q3
    have hg : g.toInt < 0 := by
      by_cases w : 0 ≤ g.toInt
      · exact absurd (mLast_pos w) q2
      · omega
    have b := mLast_b k hg
    have e1 : (mLast L g + 1).toInt = (mLast L g).toInt + 1 := l3_add rfl (by rfl) (by omega) (by omega)
    have es := mStart_i k (y := mLast L g + 1) (by omega) (by omega) (by omega)
    rw [l3_lt rfl es, e1] at q3
    have hl1 : 1 ≤ lenI L.toInt g.toInt (mLast L g).toInt := (last_iff hg).mp (by rw [mLast_neg k hg]; omega)
    rw [yr_no (fun y w => ?_)] at hQ
    · exact hQ
    · have w1 := (last_iff hg).mpr w.2.1
      rw [← mLast_neg k hg] at w1
      have w2 : begI L.toInt g.toInt f.toInt (y.toInt + 1) ≤ begI L.toInt g.toInt f.toInt ((mLast L g).toInt + 1) := by
        by_cases e : y.toInt = (mLast L g).toInt
        · rw [e]; exact Int.le_refl _
        · have := beg_lt (f := f.toInt) (g := g.toInt) (y := y.toInt + 1) (z := (mLast L g).toInt + 1) k.1 (by have := w.1; omega) (by omega) (Or.inr (by rw [show (mLast L g).toInt + 1 - 1 = (mLast L g).toInt by omega]; exact hl1))
          omega
      rw [beg_succ] at w2
      have := w.2.2.2
      omega
