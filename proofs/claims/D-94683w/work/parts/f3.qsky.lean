set_option maxRecDepth 100000
/-! ROUNDS, SPRINGS -/
def skW (s : Nat → Int32) (y : Int64) : Int32 := ((y + (s 1).toInt64) - (y + (s 1).toInt64) / (s 0).toInt64 * (s 0).toInt64).toInt32
def skM (s : Nat → Int32) (y : Int64) : Int32 := (((((y * (s 3).toInt64) + (s 4).toInt64) - ((y * (s 3).toInt64) + (s 4).toInt64) / (s 2).toInt64 * (s 2).toInt64) * 8) / (s 2).toInt64).toInt32
def skN (s : Nat → Int32) (y : Int64) : Int32 := ((((y * (s 6).toInt64) - (y * (s 6).toInt64) / (s 5).toInt64 * (s 5).toInt64) * 4) / (s 5).toInt64).toInt32
theorem ne0 {x : Int32} (h : 1 ≤ x.toInt) : ¬ x.toInt64 = 0 := by rw [l3_eq (i2_l x) (y := 0) (by rfl)]; omega
theorem l_week {c : Nat} {σ : Hp} {R : RlA} (h : LRl c σ R) (hk : ROk R) (y : Int64) : ok_X3_week c σ y ∧ f_X3_week c σ y = skW (aS R) y := by
  obtain ⟨s0, s1, s2, s3, s4, s5, s6⟩ := h.2.2.2.2.2
  unfold ok_X3_week f_X3_week skW
  rw [s0, s1]
  exact ⟨ne0 hk.2.1.1.1, rfl⟩
theorem l_moon {c : Nat} {σ : Hp} {R : RlA} (h : LRl c σ R) (hk : ROk R) (y : Int64) : ok_X3_moon c σ y ∧ f_X3_moon c σ y = skM (aS R) y := by
  obtain ⟨s0, s1, s2, s3, s4, s5, s6⟩ := h.2.2.2.2.2
  unfold ok_X3_moon f_X3_moon skM
  rw [s2, s3, s4]
  exact ⟨⟨ne0 hk.2.1.2.2.1.1, ne0 hk.2.1.2.2.1.1⟩, rfl⟩
theorem l_season {c : Nat} {σ : Hp} {R : RlA} (h : LRl c σ R) (hk : ROk R) (y : Int64) : ok_X3_season c σ y ∧ f_X3_season c σ y = skN (aS R) y := by
  obtain ⟨s0, s1, s2, s3, s4, s5, s6⟩ := h.2.2.2.2.2
  unfold ok_X3_season f_X3_season skN
  rw [s5, s6]
  exact ⟨⟨ne0 hk.2.1.2.2.2.2.2.1.1, ne0 hk.2.1.2.2.2.2.2.1.1⟩, rfl⟩
theorem m_sky {m : Nat} {τ : Hp} {R : RlA} (h : MKr m τ R) {j : Nat} (hj : j < 7) : gI τ (m + 3) j = aS R j := by
  have := h.1.2.2.2.2.2 j hj
  rw [show 7 * 0 + j = j by omega] at this
  exact this
def skR (s : Nat → Int32) (y : Int64) (x : Int32) : Int32 := if x = 0 then skW s y else if x = 1 then skM s y else skN s y
theorem m_rnd {m : Nat} {τ : Hp} {R : RlA} (h : MKr m τ R) (hk : ROk R) (y : Int64) (x : Int32) : ok_X6_roundOf m τ y x ∧ f_X6_roundOf m τ y x = skR (aS R) y x := by
  unfold ok_X6_roundOf f_X6_roundOf skR skW skM skN
  rw [m_sky h (by omega), m_sky h (by omega), m_sky h (by omega), m_sky h (by omega), m_sky h (by omega), m_sky h (by omega), m_sky h (by omega)]
  exact ⟨⟨fun _ => ne0 hk.2.1.1.1, fun _ => ⟨fun _ => ⟨ne0 hk.2.1.2.2.1.1, ne0 hk.2.1.2.2.1.1⟩, fun _ => ⟨ne0 hk.2.1.2.2.2.2.2.1.1, ne0 hk.2.1.2.2.2.2.2.1.1⟩⟩⟩, rfl⟩
theorem q_round {o c m : Nat} {σ τ : Hp} {R : RlA} {y : Int64} {w : Int32} (hL : LRl c σ R) (hM : MKr m τ R) (hk : ROk R) : ok_X1_round o c σ y w ∧ ok_X6_round m τ y w ∧ f_X6_round m τ y w = (f_X1_round o c σ y w, pI τ m 2 0) := by
  have M2 : MKr m (pI τ m 2 0) R := hM.ch Ch.t0
  refine ⟨⟨in_01 _ _ _, fun _ => trivial, fun _ => ⟨fun _ => (l_week hL hk y).1, fun _ => ⟨fun _ => (l_moon hL hk y).1, fun _ => ⟨fun _ => (l_season hL hk y).1, fun _ => trivial⟩⟩⟩⟩, ⟨fun _ => trivial, fun _ => ⟨fun _ => trivial, fun _ => (m_rnd M2 hk y w).1⟩⟩, ?_⟩
  unfold f_X6_round f_X1_round
  rw [(m_rnd M2 hk y w).2, (l_week hL hk y).2, (l_moon hL hk y).2, (l_season hL hk y).2]
  unfold skR
  by_cases q : cOk y
  · rw [if_neg (fun z => (m_cnt y).mp z q), if_neg (fun z => (l_cnt y).mp z q)]
    have wi := isIn_iff w 0 2
    have z0 : (0 : Int32).toInt = 0 := rfl
    have z1 : (1 : Int32).toInt = 1 := rfl
    have z2 : (2 : Int32).toInt = 2 := rfl
    by_cases c0 : w = 0
    · subst c0; rfl
    · by_cases c1 : w = 1
      · subst c1; rfl
      · by_cases c2 : w = 2
        · subst c2; rfl
        · rw [if_pos (wi.mpr (fun z => by rw [i2_eq] at c0 c1 c2; omega)), if_neg c0, if_neg c1, if_neg c2]
  · rw [if_pos ((m_cnt y).mpr q), if_pos ((l_cnt y).mpr q)]
/-! floors -/
theorem flo {a b q : Int} (hb : 0 < b) (h1 : q * b ≤ a) (h2 : a < (q + 1) * b) : a / b = q := by
  have k1 := (Int.le_ediv_iff_mul_le (a := q) (b := a) hb).mpr h1
  have k2 := (Int.ediv_lt_iff_lt_mul (a := a) (b := q + 1) hb).mpr h2
  omega
theorem xor_nn {a b : Int64} (hb : 0 ≤ b.toInt) : 0 ≤ (a ^^^ b).toInt ↔ 0 ≤ a.toInt := by
  have e : ∀ x : Int64, (0 ≤ x.toInt ↔ x.toBitVec.msb = false) := fun x => by
    show 0 ≤ x.toBitVec.toInt ↔ _
    rw [BitVec.msb_eq_toInt]
    simp
  rw [e, e] at *
  rw [Int64.toBitVec_xor, BitVec.msb_xor, hb, Bool.xor_false]
theorem l3_tdn {a b : Int64} {x y : Int} (ha : a.toInt = x) (hb : b.toInt = y) (h1 : x < 0) (h2 : 0 < y) : (a / b).toInt = -(-x / y) := by
  subst ha; subst hb
  have := l2_b a
  have k := ediv_b (a := -a.toInt) (b := b.toInt) (by omega) h2
  have e : a.toInt.tdiv b.toInt = -(-a.toInt / b.toInt) := by
    rw [← Int.tdiv_eq_ediv_of_nonneg (by omega), Int.neg_tdiv, Int.neg_neg]
  rw [Int64.toInt_div, e]
  exact bm64 (by omega) (by omega)
theorem fl_l {a b : Int64} (h1 : -1000000000000000 ≤ a.toInt) (h2 : a.toInt ≤ 1000000000000000) (hb : 0 < b.toInt) (hb2 : b.toInt ≤ 9999) : (f_J7_floorDiv a b).toInt = a.toInt / b.toInt := by
  unfold f_J7_floorDiv
  have z0 : (0 : Int64).toInt = 0 := rfl
  by_cases s : 0 ≤ a.toInt
  · rw [if_pos (by rw [l2_le, z0]; exact (xor_nn (by omega)).mpr s)]
    exact l3_div rfl rfl s hb
  · rw [if_neg (by rw [l2_le, z0, xor_nn (by omega)]; exact s)]
    have e := l3_tdn (a := a) (b := b) rfl rfl (by omega) hb
    have k := ediv_b (a := -a.toInt) (b := b.toInt) (by omega) hb
    have m1 := Int.mul_ediv_add_emod (-a.toInt) b.toInt
    have m2 := Int.emod_nonneg (-a.toInt) (show b.toInt ≠ 0 by omega)
    have m3 := Int.emod_lt_of_pos (-a.toInt) hb
    have mm : b.toInt * (-a.toInt / b.toInt) = (-a.toInt / b.toInt) * b.toInt := Int.mul_comm _ _
    have e2 : ((a / b) * b).toInt = -((-a.toInt / b.toInt) * b.toInt) := by
      have := l3_mul (a := a / b) (b := b) e rfl (by rw [Int.neg_mul]; omega) (by rw [Int.neg_mul]; omega)
      rw [this, Int.neg_mul]
    by_cases c : (a / b) * b = a
    · rw [if_pos c, e]
      rw [l3_eq e2 rfl] at c
      refine (flo hb ?_ ?_).symm
      · rw [Int.neg_mul]; omega
      · rw [Int.add_mul, Int.neg_mul]; omega
    · rw [if_neg c]
      rw [l3_eq e2 rfl] at c
      rw [l3_sub e (b := 1) (y := 1) (by rfl) (by omega) (by omega)]
      refine (flo hb ?_ ?_).symm
      · rw [Int.sub_mul, Int.neg_mul]; omega
      · rw [Int.sub_add_cancel, Int.neg_mul]; omega
theorem fl_m {a b : Int64} (h1 : -1000000000000000 ≤ a.toInt) (h2 : a.toInt ≤ 1000000000000000) (hb : 0 < b.toInt) (hb2 : b.toInt ≤ 9999) : (f_X6_floor a b).toInt = a.toInt / b.toInt := by
  unfold f_X6_floor
  have z0 : (0 : Int64).toInt = 0 := rfl
  by_cases s : a < 0
  · rw [if_pos s]
    rw [l2_lt, z0] at s
    have e1 : (((-a) + b) - 1).toInt = -a.toInt + b.toInt - 1 := l3_sub (l3_add (l3_neg rfl (by omega)) rfl (by omega) (by omega)) (by rfl) (by omega) (by omega)
    have e2 := l3_div e1 (b := b) rfl (by omega) hb
    have k := ediv_b (a := -a.toInt + b.toInt - 1) (b := b.toInt) (by omega) hb
    rw [l3_neg e2 (by omega)]
    have m1 := Int.mul_ediv_add_emod (-a.toInt + b.toInt - 1) b.toInt
    have m2 := Int.emod_nonneg (-a.toInt + b.toInt - 1) (show b.toInt ≠ 0 by omega)
    have m3 := Int.emod_lt_of_pos (-a.toInt + b.toInt - 1) hb
    have mm : b.toInt * ((-a.toInt + b.toInt - 1) / b.toInt) = ((-a.toInt + b.toInt - 1) / b.toInt) * b.toInt := Int.mul_comm _ _
    refine (flo hb ?_ ?_).symm
    · rw [Int.neg_mul]; omega
    · rw [Int.add_mul, Int.neg_mul]; omega
  · rw [if_neg s]
    rw [l2_lt, z0] at s
    exact l3_div rfl rfl (by omega) hb
theorem fl_eq {a b : Int64} (h1 : -1000000000000000 ≤ a.toInt) (h2 : a.toInt ≤ 1000000000000000) (hb : 0 < b.toInt) (hb2 : b.toInt ≤ 9999) : f_J7_floorDiv a b = f_X6_floor a b := by
  rw [l2_eq, fl_l h1 h2 hb hb2, fl_m h1 h2 hb hb2]
