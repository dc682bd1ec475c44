set_option maxRecDepth 100000
/-! YEARS AS NUMBERS: length L, growth g, first count f -/
def tri (n : Int) : Int := n * (n - 1) / 2
theorem tri_two (n : Int) : 2 * tri n = n * (n - 1) := by
  unfold tri
  have h : n * (n - 1) % 2 = 0 := by
    rcases Int.emod_two_eq n with h | h
    · rw [Int.mul_emod, h]; simp
    · have h2 : (n - 1) % 2 = 0 := by omega
      rw [Int.mul_emod, h2]; simp
  omega
theorem tri_succ (n : Int) : tri (n + 1) = tri n + n := by
  have h1 := tri_two n
  have h2 := tri_two (n + 1)
  have e : (n + 1) * (n + 1 - 1) = n * (n - 1) + 2 * n := by
    rw [Int.add_sub_cancel, Int.add_mul, Int.mul_sub]; omega
  omega
def lenI (L g y : Int) : Int := L + g * (y - 1)
def begI (L g f y : Int) : Int := f + L * (y - 1) + g * tri (y - 1)
theorem len_succ (L g y : Int) : lenI L g (y + 1) = lenI L g y + g := by
  unfold lenI
  have e : g * (y + 1 - 1) = g * (y - 1) + g := by
    rw [show y + 1 - 1 = (y - 1) + 1 by omega, Int.mul_add, Int.mul_one]
  omega
theorem beg_succ (L g f y : Int) : begI L g f (y + 1) = begI L g f y + lenI L g y := by
  unfold begI lenI
  have e1 : L * (y + 1 - 1) = L * (y - 1) + L := by
    rw [show y + 1 - 1 = (y - 1) + 1 by omega, Int.mul_add, Int.mul_one]
  have e2 : g * tri (y + 1 - 1) = g * tri (y - 1) + g * (y - 1) := by
    rw [show y + 1 - 1 = (y - 1) + 1 by omega, tri_succ, Int.mul_add]
  omega
theorem beg_one (L g f : Int) : begI L g f 1 = f := by
  unfold begI tri; simp
/-- a land's numbers -/
def LOK (L g f : Int) : Prop := 1 ≤ L ∧ L ≤ 9999 ∧ -99 ≤ g ∧ g ≤ 99 ∧ 0 ≤ f ∧ f ≤ 99999
theorem mul_le_l {a b c : Int} (ha : 0 ≤ a) (h : b ≤ c) : a * b ≤ a * c := Int.mul_le_mul_of_nonneg_left h ha
/-- years ahead of one that has a day have days -/
theorem len_dn {L g y z : Int} (hL : 1 ≤ L) (h1 : 1 ≤ y) (h2 : y ≤ z) (h3 : 0 ≤ g ∨ 1 ≤ lenI L g z) : 1 ≤ lenI L g y := by
  unfold lenI at h3 ⊢
  by_cases hg : 0 ≤ g
  · have := Int.mul_nonneg hg (show 0 ≤ y - 1 by omega)
    omega
  · have h3 : 1 ≤ L + g * (z - 1) := h3.elim (fun h => by omega) id
    have e : g * (z - 1) ≤ g * (y - 1) := Int.mul_le_mul_of_nonpos_left (by omega) (by omega)
    omega
/-- years begin one behind another -/
theorem beg_mono {L g f : Int} (hL : 1 ≤ L) {y : Int} (h1 : 1 ≤ y) : ∀ (k : Nat), (0 ≤ g ∨ k = 0 ∨ 1 ≤ lenI L g (y + k - 1)) → begI L g f y + k ≤ begI L g f (y + k) := by
  intro k
  induction k with
  | zero => intro _; simp
  | succ k ih =>
    intro h
    have hl : 1 ≤ lenI L g (y + k) := by
      refine len_dn hL (by omega) (Int.le_refl _) ?_
      rcases h with h | h | h
      · exact Or.inl h
      · omega
      · refine Or.inr ?_
        rw [show y + ((k + 1 : Nat) : Int) - 1 = y + k by omega] at h
        exact h
    have h' : 0 ≤ g ∨ k = 0 ∨ 1 ≤ lenI L g (y + k - 1) := by
      by_cases hk : k = 0
      · exact Or.inr (Or.inl hk)
      · exact Or.inr (Or.inr (len_dn hL (by omega) (by omega) (Or.inr hl)))
    have := ih h'
    rw [show y + ((k + 1 : Nat) : Int) = (y + k) + 1 by omega, beg_succ]
    omega
theorem beg_lt {L g f y z : Int} (hL : 1 ≤ L) (h1 : 1 ≤ y) (h2 : y < z) (h3 : 0 ≤ g ∨ 1 ≤ lenI L g (z - 1)) : begI L g f y + (z - y) ≤ begI L g f z := by
  have h := beg_mono (f := f) hL h1 (z - y).toNat (by
    rcases h3 with h | h
    · exact Or.inl h
    · refine Or.inr (Or.inr ?_)
      rw [show y + ((z - y).toNat : Int) - 1 = z - 1 by omega]
      exact h)
  rw [show y + ((z - y).toNat : Int) = z by omega] at h
  omega
/-- y is the year of the count c -/
def YP (L g f c y : Int) : Prop := 1 ≤ y ∧ 1 ≤ lenI L g y ∧ begI L g f y ≤ c ∧ c < begI L g f y + lenI L g y
theorem YP.lt_no {L g f c y z : Int} (hL : 1 ≤ L) (h1 : YP L g f c y) (h2 : YP L g f c z) : ¬ y < z := by
  intro h
  have h3 : begI L g f (y + 1) ≤ begI L g f z := by
    by_cases e : y + 1 = z
    · rw [e]; exact Int.le_refl _
    · have := beg_lt (f := f) (y := y + 1) (z := z) hL (by have := h1.1; omega) (by omega) (Or.inr (len_dn hL (by have := h1.1; omega) (by omega) (Or.inr h2.2.1)))
      omega
  rw [beg_succ] at h3
  have a := h1.2.2.2
  have b := h2.2.2.1
  omega
theorem YP.uniq {L g f c y z : Int} (hL : 1 ≤ L) (h1 : YP L g f c y) (h2 : YP L g f c z) : y = z := by
  have a := h1.lt_no hL h2
  have b := h2.lt_no hL h1
  omega
/-- no year ahead of the first count -/
theorem YP.from {L g f c y : Int} (hL : 1 ≤ L) (h : YP L g f c y) : f ≤ c := by
  by_cases e : y = 1
  · have := h.2.2.1
    rw [e, beg_one] at this
    exact this
  · have := beg_lt (f := f) (y := 1) (z := y) hL (Int.le_refl _) (by have := h.1; omega) (Or.inr (len_dn hL (by have := h.1; omega) (by omega) (Or.inr h.2.1)))
    rw [beg_one] at this
    have := h.2.2.1
    have := h.1
    omega
/-- the last year of a land that shrinks -/
theorem last_iff {L g y : Int} (hg : g < 0) : y ≤ (L - 1) / -g + 1 ↔ 1 ≤ lenI L g y := by
  unfold lenI
  have h := Int.le_ediv_iff_mul_le (a := y - 1) (b := L - 1) (c := -g) (by omega)
  rw [Int.mul_neg, Int.mul_comm (y - 1) g] at h
  constructor
  · intro q
    have := h.mp (by omega)
    omega
  · intro q
    have := h.mpr (by omega)
    omega
