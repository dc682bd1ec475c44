set_option maxRecDepth 100000
/-! A LAND's ANSWERS, BY ITS THREE NUMBERS -/
def mLast (L g : Int32) : Int64 := if 0 ≤ g then 9223372036854775807 else (((L - 1) / (-g)).toInt64) + 1
def mLen (L g : Int32) (y : Int64) : Int64 := L.toInt64 + (g.toInt64 * (y - 1))
def mSt19 (L g f : Int32) (n : Int64) : Int64 := if n ≤ 1000000000000 then f_J7_min_2 1000000000001 ((f.toInt64 + (L.toInt64 * n)) + (g.toInt64 * ((n * (n - 1)) / 2))) else 1000000000001
def mStart (L g f : Int32) (y : Int64) : Int64 := if g ≤ 0 then mSt19 L g f (y - 1) else if 2000000 < (y - 1) then 1000000000001 else mSt19 L g f (y - 1)
def mBeg32 (L g f : Int32) (y : Int64) : Int64 := (f.toInt64 + ((y - 1) * L.toInt64)) + (g.toInt64 * (((y - 1) * (y - 2)) / 2))
def mBeg (L g f : Int32) (y : Int64) : Int64 := if g.toInt64 ≤ 0 then mBeg32 L g f y else if y ≤ 3000000 then mBeg32 L g f y else 1000000000001
def mEnd (L g : Int32) : Int64 := ((L.toInt64 - 1) / ((-g).toInt64)) + 1
abbrev LOK3 (L g f : Int32) : Prop := LOK L.toInt g.toInt f.toInt
theorem tri_nn {n : Int} (h : 0 ≤ n) : 0 ≤ tri n := by
  have := tri_two n
  by_cases e : n = 0
  · subst e; decide
  · have := Int.mul_nonneg h (show 0 ≤ n - 1 by omega)
    omega
theorem tri_up {n k : Int} (h : 1 ≤ n) (hk : n ≤ k) : tri n ≤ tri k := by
  have h1 := tri_two n
  have h2 := tri_two k
  have a : n * (n - 1) ≤ k * (k - 1) := Int.mul_le_mul hk (by omega) (by omega) (by omega)
  omega
theorem mul_bd {a b A B : Int} (h1 : 0 ≤ a) (h2 : a ≤ A) (h3 : 0 ≤ b) (h4 : b ≤ B) : 0 ≤ a * b ∧ a * b ≤ A * B := ⟨Int.mul_nonneg h1 h3, Int.mul_le_mul h2 h4 h3 (by omega)⟩
theorem mul_ng {a b A B : Int} (h1 : -A ≤ a) (h2 : a ≤ 0) (h3 : 0 ≤ b) (h4 : b ≤ B) : -(A * B) ≤ a * b ∧ a * b ≤ 0 := by
  have := mul_bd (a := -a) (b := b) (A := A) (B := B) (by omega) (by omega) h3 h4
  rw [Int.neg_mul] at this
  omega
theorem min2_i {a b : Int64} {x y : Int} (ha : a.toInt = x) (hb : b.toInt = y) : (f_J7_min_2 a b).toInt = min x y := by
  unfold f_J7_min_2
  rw [Int.min_def]
  by_cases h : b < a
  · rw [if_pos h]
    rw [l3_lt hb ha] at h
    rw [if_neg (by omega)]
    exact hb
  · rw [if_neg h]
    rw [l3_lt hb ha] at h
    rw [if_pos (by omega)]
    exact ha
theorem max2_i {a b : Int64} {x y : Int} (ha : a.toInt = x) (hb : b.toInt = y) : (f_J7_max_2 a b).toInt = max x y := by
  unfold f_J7_max_2
  rw [Int.max_def]
  by_cases h : a < b
  · rw [if_pos h]
    rw [l3_lt ha hb] at h
    rw [if_pos (by omega)]
    exact hb
  · rw [if_neg h]
    rw [l3_lt ha hb] at h
    by_cases h2 : x ≤ y
    · rw [if_pos h2, ha]; omega
    · rw [if_neg h2]; exact ha
theorem mLast_pos {L g : Int32} (h : 0 ≤ g.toInt) : mLast L g = 9223372036854775807 := by
  unfold mLast
  rw [if_pos ((i3_le (x := 0) (by rfl) rfl).mpr h)]
theorem mLast_neg {L g f : Int32} (k : LOK3 L g f) (h : g.toInt < 0) : (mLast L g).toInt = (L.toInt - 1) / -g.toInt + 1 := by
  obtain ⟨k1, k2, k3, k4, -, -⟩ := k
  unfold mLast
  rw [if_neg (fun q => by rw [i3_le (x := 0) (by rfl) rfl] at q; omega)]
  have e1 : (L - 1).toInt = L.toInt - 1 := i3_sub rfl (by rfl) (by omega) (by omega)
  have e2 : (-g).toInt = -g.toInt := i3_neg rfl (by omega)
  have e3 := i3_div e1 e2 (by omega) (by omega)
  have b := ediv_b (a := L.toInt - 1) (b := -g.toInt) (by omega) (by omega)
  exact l3_add (i3_l e3) (by rfl) (by omega) (by omega)
theorem mLast_b {L g f : Int32} (k : LOK3 L g f) (h : g.toInt < 0) : 1 ≤ (mLast L g).toInt ∧ (mLast L g).toInt ≤ 9999 := by
  rw [mLast_neg k h]
  obtain ⟨k1, k2, k3, k4, -, -⟩ := k
  have b := ediv_b (a := L.toInt - 1) (b := -g.toInt) (by omega) (by omega)
  omega
theorem mEnd_i {L g f : Int32} (k : LOK3 L g f) (h : g.toInt < 0) : mEnd L g = mLast L g := by
  rw [l2_eq, mLast_neg k h]
  obtain ⟨k1, k2, k3, k4, -, -⟩ := k
  unfold mEnd
  have e1 : (L.toInt64 - 1).toInt = L.toInt - 1 := l3_sub (i2_l L) (by rfl) (by omega) (by omega)
  have e2 : (-g).toInt64.toInt = -g.toInt := i3_l (i3_neg rfl (by omega))
  have b := ediv_b (a := L.toInt - 1) (b := -g.toInt) (by omega) (by omega)
  exact l3_add (l3_div e1 e2 (by omega) (by omega)) (by rfl) (by omega) (by omega)
theorem mLen_i {L g f : Int32} (k : LOK3 L g f) {y : Int64} (h1 : 0 ≤ y.toInt) (h2 : y.toInt ≤ 3000000000000) : (mLen L g y).toInt = lenI L.toInt g.toInt y.toInt := by
  obtain ⟨k1, k2, k3, k4, -, -⟩ := k
  unfold mLen lenI
  have e1 : (y - 1).toInt = y.toInt - 1 := l3_sub rfl (by rfl) (by omega) (by omega)
  have b : -300000000000000 ≤ g.toInt * (y.toInt - 1) ∧ g.toInt * (y.toInt - 1) ≤ 300000000000000 := by
    by_cases q : y.toInt = 0
    · rw [q]; omega
    · by_cases hg : 0 ≤ g.toInt
      · have := mul_bd hg k4 (show 0 ≤ y.toInt - 1 by omega) (show y.toInt - 1 ≤ 3000000000000 by omega)
        omega
      · have := mul_ng (A := 99) k3 (show g.toInt ≤ 0 by omega) (show 0 ≤ y.toInt - 1 by omega) (show y.toInt - 1 ≤ 3000000000000 by omega)
        omega
  exact l3_add (i2_l L) (l3_mul (i2_l g) e1 (by omega) (by omega)) (by omega) (by omega)
/-- the count on which a year begins, as both count it, while it is no great one -/
theorem sum_i {L g f : Int32} (k : LOK3 L g f) {n : Int64} {t : Int64} (h1 : 0 ≤ n.toInt) (h2 : n.toInt ≤ 3000000000000) (h3 : g.toInt = 0 ∨ n.toInt ≤ 3000000) (ht : g.toInt = 0 ∨ t.toInt = tri n.toInt) :
    ((f.toInt64 + (L.toInt64 * n)) + (g.toInt64 * t)).toInt = begI L.toInt g.toInt f.toInt (n.toInt + 1) ∧ -100000000000000000 ≤ begI L.toInt g.toInt f.toInt (n.toInt + 1) ∧ begI L.toInt g.toInt f.toInt (n.toInt + 1) ≤ 100000000000000000 := by
  obtain ⟨k1, k2, k3, k4, k5, k6⟩ := k
  have b1 := mul_bd (a := L.toInt) (by omega) k2 h1 h2
  have e1 : (L.toInt64 * n).toInt = L.toInt * n.toInt := l3_mul (i2_l L) rfl (by omega) (by omega)
  have e2 : (f.toInt64 + L.toInt64 * n).toInt = f.toInt + L.toInt * n.toInt := l3_add (i2_l f) e1 (by omega) (by omega)
  unfold begI
  rw [show n.toInt + 1 - 1 = n.toInt by omega]
  by_cases hg : g.toInt = 0
  · have e3 : g.toInt64 = 0 := by rw [l2_eq, i2_l, hg]; rfl
    have e4 : g.toInt64 * t = 0 := by rw [e3]; exact Int64.zero_mul
    have e5 : (g.toInt64 * t).toInt = 0 := by rw [e4]; rfl
    rw [hg, Int.zero_mul]
    exact ⟨l3_add e2 e5 (by omega) (by omega), by omega, by omega⟩
  · have hn : n.toInt ≤ 3000000 := h3.resolve_left hg
    have ht := ht.resolve_left hg
    have b2 : 0 ≤ tri n.toInt ∧ tri n.toInt ≤ 4499998500000 := by
      refine ⟨tri_nn h1, ?_⟩
      by_cases q : n.toInt = 0
      · rw [q]; decide
      · have := tri_up (n := n.toInt) (k := 3000000) (by omega) hn
        have e : tri 3000000 = 4499998500000 := by decide
        omega
    have b3 : -445499851500000 ≤ g.toInt * tri n.toInt ∧ g.toInt * tri n.toInt ≤ 445499851500000 := by
      by_cases hg : 0 ≤ g.toInt
      · have := mul_bd hg k4 b2.1 b2.2
        omega
      · have := mul_ng (A := 99) k3 (show g.toInt ≤ 0 by omega) b2.1 b2.2
        omega
    exact ⟨l3_add e2 (l3_mul (i2_l g) ht (by omega) (by omega)) (by omega) (by omega), by omega, by omega⟩
theorem beg_big {L g f y : Int} (k : LOK L g f) (hg : 0 < g) (hy : 2000000 < y - 1) : 1000000000001 < begI L g f y := by
  obtain ⟨k1, k2, k3, k4, k5, k6⟩ := k
  unfold begI
  have b1 := Int.mul_nonneg (show 0 ≤ L by omega) (show 0 ≤ y - 1 by omega)
  have b2 := tri_up (n := 2000001) (k := y - 1) (by omega) (by omega)
  have e : tri 2000001 = 2000001000000 := by decide
  have b3 : 1 * tri (y - 1) ≤ g * tri (y - 1) := Int.mul_le_mul_of_nonneg_right (by omega) (by omega)
  omega
theorem mSt19_i {L g f : Int32} (k : LOK3 L g f) {n : Int64} (h1 : 0 ≤ n.toInt) (h2 : n.toInt ≤ 3000000000000) (h3 : g.toInt = 0 ∨ n.toInt ≤ 3000000) : (mSt19 L g f n).toInt = min 1000000000001 (begI L.toInt g.toInt f.toInt (n.toInt + 1)) := by
  unfold mSt19
  by_cases h : n.toInt ≤ 1000000000000
  · rw [if_pos ((l3_le rfl (y := 1000000000000) (by rfl)).mpr h)]
    refine min2_i (by rfl) (sum_i k h1 h2 h3 ?_).1
    by_cases hg : g.toInt = 0
    · exact Or.inl hg
    · have hn : n.toInt ≤ 3000000 := h3.resolve_left hg
      refine Or.inr ?_
      have b : 0 ≤ n.toInt * (n.toInt - 1) ∧ n.toInt * (n.toInt - 1) ≤ 3000000 * 3000000 := by
        by_cases q : n.toInt = 0
        · rw [q]; decide
        · exact mul_bd h1 hn (by omega) (by omega)
      exact l3_div (l3_mul rfl (l3_sub rfl (by rfl) (by omega) (by omega)) (by omega) (by omega)) (by rfl) b.1 (by omega)
  · rw [if_neg (fun q => h ((l3_le rfl (y := 1000000000000) (by rfl)).mp q))]
    have hg : g.toInt = 0 := by
      rcases h3 with h | h
      · exact h
      · omega
    have hb := mul_bd (a := 1) (b := n.toInt) (A := L.toInt) (B := n.toInt) (by omega) k.1 h1 (Int.le_refl _)
    have hk := k.2.2.2.2.1
    unfold begI
    rw [hg, Int.zero_mul, show n.toInt + 1 - 1 = n.toInt by omega]
    show (1000000000001 : Int) = _
    omega
theorem mStart_i {L g f : Int32} (k : LOK3 L g f) {y : Int64} (h1 : 1 ≤ y.toInt) (h2 : y.toInt ≤ 3000000000000) (h3 : 0 ≤ g.toInt ∨ y.toInt ≤ 20000) : (mStart L g f y).toInt = min 1000000000001 (begI L.toInt g.toInt f.toInt y.toInt) := by
  have e1 : (y - 1).toInt = y.toInt - 1 := l3_sub rfl (by rfl) (by omega) (by omega)
  have e2 : (y - 1).toInt + 1 = y.toInt := by omega
  unfold mStart
  by_cases hg : g.toInt ≤ 0
  · rw [if_pos ((i3_le rfl (y := 0) (by rfl)).mpr hg), mSt19_i k (by omega) (by omega) (by omega), e2]
  · rw [if_neg (fun q => hg ((i3_le rfl (y := 0) (by rfl)).mp q))]
    by_cases hy : 2000000 < y.toInt - 1
    · rw [if_pos ((l3_lt (x := 2000000) (by rfl) e1).mpr hy)]
      have := beg_big k (show 0 < g.toInt by omega) hy
      show (1000000000001 : Int) = _
      omega
    · rw [if_neg (fun q => hy ((l3_lt (x := 2000000) (by rfl) e1).mp q)), mSt19_i k (by omega) (by omega) (by omega), e2]
theorem mBeg32_i {L g f : Int32} (k : LOK3 L g f) {y : Int64} (h1 : 1 ≤ y.toInt) (h2 : y.toInt ≤ 3000000000000) (h3 : g.toInt = 0 ∨ y.toInt ≤ 3000000) : (mBeg32 L g f y).toInt = begI L.toInt g.toInt f.toInt y.toInt ∧ -100000000000000000 ≤ begI L.toInt g.toInt f.toInt y.toInt ∧ begI L.toInt g.toInt f.toInt y.toInt ≤ 100000000000000000 := by
  have e1 : (y - 1).toInt = y.toInt - 1 := l3_sub rfl (by rfl) (by omega) (by omega)
  have e2 : (y - 1).toInt + 1 = y.toInt := by omega
  have h := sum_i k (n := y - 1) (t := ((y - 1) * (y - 2)) / 2) (by omega) (by omega) (by omega) (by
    by_cases hg : g.toInt = 0
    · exact Or.inl hg
    · have hn : y.toInt ≤ 3000000 := h3.resolve_left hg
      refine Or.inr ?_
      have b : 0 ≤ (y.toInt - 1) * (y.toInt - 2) ∧ (y.toInt - 1) * (y.toInt - 2) ≤ 3000000 * 3000000 := by
        by_cases q : y.toInt = 1
        · rw [q]; decide
        · exact mul_bd (by omega) (by omega) (by omega) (by omega)
      unfold tri
      rw [e1, show y.toInt - 1 - 1 = y.toInt - 2 by omega]
      exact l3_div (l3_mul e1 (l3_sub rfl (by rfl) (by omega) (by omega)) (by omega) (by omega)) (by rfl) b.1 (by omega))
  rw [e2] at h
  unfold mBeg32
  rw [Int64.mul_comm (y - 1) L.toInt64]
  exact h
theorem mBeg_i {L g f : Int32} (k : LOK3 L g f) {y : Int64} (h1 : 1 ≤ y.toInt) (h2 : y.toInt ≤ 3000000000000) (h3 : 0 ≤ g.toInt ∨ y.toInt ≤ 20000) : min 1000000000001 (mBeg L g f y).toInt = min 1000000000001 (begI L.toInt g.toInt f.toInt y.toInt) ∧ -100000000000000000 ≤ (mBeg L g f y).toInt ∧ (mBeg L g f y).toInt ≤ 100000000000000000 := by
  unfold mBeg
  by_cases hg : g.toInt ≤ 0
  · rw [if_pos ((l3_le (i2_l g) (y := 0) (by rfl)).mpr hg)]
    have := mBeg32_i k h1 h2 (by omega)
    rw [this.1]
    exact ⟨rfl, this.2⟩
  · rw [if_neg (fun q => hg ((l3_le (i2_l g) (y := 0) (by rfl)).mp q))]
    by_cases hy : y.toInt ≤ 3000000
    · rw [if_pos ((l3_le rfl (y := 3000000) (by rfl)).mpr hy)]
      have := mBeg32_i k h1 h2 (by omega)
      rw [this.1]
      exact ⟨rfl, this.2⟩
    · rw [if_neg (fun q => hy ((l3_le rfl (y := 3000000) (by rfl)).mp q))]
      have := beg_big k (show 0 < g.toInt by omega) (y := y.toInt) (by omega)
      have e : (1000000000001 : Int64).toInt = 1000000000001 := rfl
      rw [e]
      omega
