set_option maxRecDepth 100000
/-! INTS AND LONGS AS NUMBERS -/
theorem i2_le {a b : Int32} : a ≤ b ↔ a.toInt ≤ b.toInt := Int32.le_iff_toInt_le
theorem i2_lt {a b : Int32} : a < b ↔ a.toInt < b.toInt := Int32.lt_iff_toInt_lt
theorem i2_eq {a b : Int32} : a = b ↔ a.toInt = b.toInt := Int32.toInt_inj.symm
theorem l2_le {a b : Int64} : a ≤ b ↔ a.toInt ≤ b.toInt := Int64.le_iff_toInt_le
theorem l2_lt {a b : Int64} : a < b ↔ a.toInt < b.toInt := Int64.lt_iff_toInt_lt
theorem l2_eq {a b : Int64} : a = b ↔ a.toInt = b.toInt := Int64.toInt_inj.symm
theorem i2_b (a : Int32) : -2147483648 ≤ a.toInt ∧ a.toInt ≤ 2147483647 := ⟨a.le_toInt, Int.le_of_lt_add_one a.toInt_lt⟩
theorem l2_b (a : Int64) : -9223372036854775808 ≤ a.toInt ∧ a.toInt ≤ 9223372036854775807 := ⟨a.le_toInt, Int.le_of_lt_add_one a.toInt_lt⟩
theorem bm32 {n : Int} (h1 : -2147483648 ≤ n) (h2 : n ≤ 2147483647) : n.bmod (2 ^ 32) = n := by
  have e : ((2 ^ 32 : Nat) : Int) = 4294967296 := rfl
  refine Int.bmod_eq_of_le ?_ ?_
  · rw [e]; omega
  · rw [e]; omega
theorem bm64 {n : Int} (h1 : -9223372036854775808 ≤ n) (h2 : n ≤ 9223372036854775807) : n.bmod (2 ^ 64) = n := by
  have e : ((2 ^ 64 : Nat) : Int) = 18446744073709551616 := rfl
  refine Int.bmod_eq_of_le ?_ ?_
  · rw [e]; omega
  · rw [e]; omega
theorem i2_add {a b : Int32} (h1 : -2147483648 ≤ a.toInt + b.toInt) (h2 : a.toInt + b.toInt ≤ 2147483647) : (a + b).toInt = a.toInt + b.toInt := by
  rw [Int32.toInt_add]; exact bm32 h1 h2
theorem i2_sub {a b : Int32} (h1 : -2147483648 ≤ a.toInt - b.toInt) (h2 : a.toInt - b.toInt ≤ 2147483647) : (a - b).toInt = a.toInt - b.toInt := by
  rw [Int32.toInt_sub]; exact bm32 h1 h2
theorem i2_mul {a b : Int32} (h1 : -2147483648 ≤ a.toInt * b.toInt) (h2 : a.toInt * b.toInt ≤ 2147483647) : (a * b).toInt = a.toInt * b.toInt := by
  rw [Int32.toInt_mul]; exact bm32 h1 h2
theorem i2_neg {a : Int32} (h : -2147483648 < a.toInt) : (-a).toInt = -a.toInt := by
  rw [Int32.toInt_neg]; exact bm32 (by have := (i2_b a).2; omega) (by omega)
theorem l2_add {a b : Int64} (h1 : -9223372036854775808 ≤ a.toInt + b.toInt) (h2 : a.toInt + b.toInt ≤ 9223372036854775807) : (a + b).toInt = a.toInt + b.toInt := by
  rw [Int64.toInt_add]; exact bm64 h1 h2
theorem l2_sub {a b : Int64} (h1 : -9223372036854775808 ≤ a.toInt - b.toInt) (h2 : a.toInt - b.toInt ≤ 9223372036854775807) : (a - b).toInt = a.toInt - b.toInt := by
  rw [Int64.toInt_sub]; exact bm64 h1 h2
theorem l2_mul {a b : Int64} (h1 : -9223372036854775808 ≤ a.toInt * b.toInt) (h2 : a.toInt * b.toInt ≤ 9223372036854775807) : (a * b).toInt = a.toInt * b.toInt := by
  rw [Int64.toInt_mul]; exact bm64 h1 h2
theorem l2_neg {a : Int64} (h : -9223372036854775808 < a.toInt) : (-a).toInt = -a.toInt := by
  rw [Int64.toInt_neg]; exact bm64 (by have := (l2_b a).2; omega) (by omega)
/-- what is not below zero, by what is above it -/
theorem ediv_b {a b : Int} (ha : 0 ≤ a) (hb : 0 < b) : 0 ≤ a / b ∧ a / b ≤ a := ⟨Int.ediv_nonneg ha (Int.le_of_lt hb), Int.ediv_le_self _ ha⟩
theorem i2_div {a b : Int32} (ha : 0 ≤ a.toInt) (hb : 0 < b.toInt) : (a / b).toInt = a.toInt / b.toInt := by
  have := i2_b a
  have h := ediv_b ha hb
  rw [Int32.toInt_div, Int.tdiv_eq_ediv_of_nonneg ha]; exact bm32 (by omega) (by omega)
theorem l2_div {a b : Int64} (ha : 0 ≤ a.toInt) (hb : 0 < b.toInt) : (a / b).toInt = a.toInt / b.toInt := by
  have := l2_b a
  have h := ediv_b ha hb
  rw [Int64.toInt_div, Int.tdiv_eq_ediv_of_nonneg ha]; exact bm64 (by omega) (by omega)
theorem i2_l (a : Int32) : a.toInt64.toInt = a.toInt := Int32.toInt_toInt64 a
theorem vp_of {i : Int32} {n : Nat} (h1 : 0 ≤ i.toInt) (h2 : i.toInt < n) : vp_in i n := by
  intro h
  rcases h with h | h
  · rw [i2_lt] at h
    have : (0 : Int32).toInt = 0 := rfl
    omega
  · rw [← Int32.toNat_toInt] at h
    omega
theorem vp_to {i : Int32} {n : Nat} (h : vp_in i n) : 0 ≤ i.toInt ∧ i.toInt < n := by
  have h1 : ¬ i < 0 := fun q => h (Or.inl q)
  have h2 : ¬ n ≤ i.toNatClampNeg := fun q => h (Or.inr q)
  rw [i2_lt] at h1
  rw [← Int32.toNat_toInt] at h2
  have : (0 : Int32).toInt = 0 := rfl
  omega
theorem cl_i {i : Int32} : i.toNatClampNeg = i.toInt.toNat := (Int32.toNat_toInt i).symm
theorem cl_c {i : Int32} (h : 0 ≤ i.toInt) : (i.toNatClampNeg : Int) = i.toInt := by rw [cl_i]; omega
theorem i2_ofNat {n : Nat} (h : n ≤ 2147483647) : (Int32.ofNat n).toInt = n := Int32.toInt_ofNat_of_lt (by omega)
theorem l2_ofInt {n : Int} (h1 : -9223372036854775808 ≤ n) (h2 : n ≤ 9223372036854775807) : (Int64.ofInt n).toInt = n := Int64.toInt_ofInt_of_le (by omega) (by omega)
/-- a loop, so many rounds left -/
theorem lp_step {α : Type} {body : (α → Prop) → α → Prop} (I : Nat → α → Prop) (h : ∀ (k : Nat) (K : α → Prop) (x : α), I k x → (∀ j y, j < k → I j y → K y) → body K x) {x : α} {k : Nat} (hx : I k x) : lp body x := by
  refine ⟨k + 1, ?_⟩
  have key : ∀ (n : Nat) (j : Nat) (x : α), j < n → I j x → itr body n x := by
    intro n
    induction n with
    | zero => exact fun j x h _ => absurd h (Nat.not_lt_zero _)
    | succ n ih => exact fun j x hj hI => h j _ x hI (fun i y hi hy => ih i y (by omega) hy)
  exact key _ k x (Nat.lt_succ_self _) hx
/-! the same, by values -/
theorem i3_add {a b : Int32} {x y : Int} (ha : a.toInt = x) (hb : b.toInt = y) (h1 : -2147483648 ≤ x + y) (h2 : x + y ≤ 2147483647) : (a + b).toInt = x + y := by subst ha; subst hb; exact i2_add h1 h2
theorem i3_sub {a b : Int32} {x y : Int} (ha : a.toInt = x) (hb : b.toInt = y) (h1 : -2147483648 ≤ x - y) (h2 : x - y ≤ 2147483647) : (a - b).toInt = x - y := by subst ha; subst hb; exact i2_sub h1 h2
theorem i3_mul {a b : Int32} {x y : Int} (ha : a.toInt = x) (hb : b.toInt = y) (h1 : -2147483648 ≤ x * y) (h2 : x * y ≤ 2147483647) : (a * b).toInt = x * y := by subst ha; subst hb; exact i2_mul h1 h2
theorem i3_div {a b : Int32} {x y : Int} (ha : a.toInt = x) (hb : b.toInt = y) (h1 : 0 ≤ x) (h2 : 0 < y) : (a / b).toInt = x / y := by subst ha; subst hb; exact i2_div h1 h2
theorem i3_neg {a : Int32} {x : Int} (ha : a.toInt = x) (h1 : -2147483648 < x) : (-a).toInt = -x := by subst ha; exact i2_neg h1
theorem i3_l {a : Int32} {x : Int} (ha : a.toInt = x) : a.toInt64.toInt = x := by subst ha; exact i2_l a
theorem l3_add {a b : Int64} {x y : Int} (ha : a.toInt = x) (hb : b.toInt = y) (h1 : -9223372036854775808 ≤ x + y) (h2 : x + y ≤ 9223372036854775807) : (a + b).toInt = x + y := by subst ha; subst hb; exact l2_add h1 h2
theorem l3_sub {a b : Int64} {x y : Int} (ha : a.toInt = x) (hb : b.toInt = y) (h1 : -9223372036854775808 ≤ x - y) (h2 : x - y ≤ 9223372036854775807) : (a - b).toInt = x - y := by subst ha; subst hb; exact l2_sub h1 h2
theorem l3_mul {a b : Int64} {x y : Int} (ha : a.toInt = x) (hb : b.toInt = y) (h1 : -9223372036854775808 ≤ x * y) (h2 : x * y ≤ 9223372036854775807) : (a * b).toInt = x * y := by subst ha; subst hb; exact l2_mul h1 h2
theorem l3_div {a b : Int64} {x y : Int} (ha : a.toInt = x) (hb : b.toInt = y) (h1 : 0 ≤ x) (h2 : 0 < y) : (a / b).toInt = x / y := by subst ha; subst hb; exact l2_div h1 h2
theorem l3_neg {a : Int64} {x : Int} (ha : a.toInt = x) (h1 : -9223372036854775808 < x) : (-a).toInt = -x := by subst ha; exact l2_neg h1
theorem i3_lt {a b : Int32} {x y : Int} (ha : a.toInt = x) (hb : b.toInt = y) : a < b ↔ x < y := by subst ha; subst hb; exact i2_lt
theorem i3_le {a b : Int32} {x y : Int} (ha : a.toInt = x) (hb : b.toInt = y) : a ≤ b ↔ x ≤ y := by subst ha; subst hb; exact i2_le
theorem i3_eq {a b : Int32} {x y : Int} (ha : a.toInt = x) (hb : b.toInt = y) : a = b ↔ x = y := by subst ha; subst hb; exact i2_eq
theorem l3_lt {a b : Int64} {x y : Int} (ha : a.toInt = x) (hb : b.toInt = y) : a < b ↔ x < y := by subst ha; subst hb; exact l2_lt
theorem l3_le {a b : Int64} {x y : Int} (ha : a.toInt = x) (hb : b.toInt = y) : a ≤ b ↔ x ≤ y := by subst ha; subst hb; exact l2_le
theorem l3_eq {a b : Int64} {x y : Int} (ha : a.toInt = x) (hb : b.toInt = y) : a = b ↔ x = y := by subst ha; subst hb; exact l2_eq
theorem bt {x : Bool} (h : ¬ x = false) : x = true := by cases x with
  | false => exact absurd rfl h
  | true => rfl
theorem bf {x : Bool} (h : ¬ x = true) : x = false := by cases x with
  | false => rfl
  | true => exact absurd rfl h
