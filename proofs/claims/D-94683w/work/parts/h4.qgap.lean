set_option maxRecDepth 100000
/-! GAP -/
theorem ft_mono (P : Nat → Prop) : ∀ k j, (ftA P k).1 ≤ (ftA P (k + j)).1 := by
  intro k j
  induction j with
  | zero => exact Nat.le_refl _
  | succ j ih =>
    rw [← Nat.add_assoc]
    by_cases c : P (k + j)
    · rw [ft_y c]; show _ ≤ _ + 1; omega
    · rw [ft_n c]; exact ih
theorem ft_one (P : Nat → Prop) : ∀ k, (ftA P k).1 = 1 → ∃ j, j < k ∧ P j ∧ (ftA P k).2.1 = j ∧ ∀ i, i < k → P i → i = j := by
  intro k
  induction k with
  | zero => intro h; cases h
  | succ k ih =>
    intro h
    by_cases c : P k
    · rw [ft_y c] at h ⊢
      have h0 : (ftA P k).1 = 0 := by have : (ftA P k).1 + 1 = 1 := h; omega
      refine ⟨k, by omega, c, by show (if _ then _ else _) = _; rw [if_pos h0], fun i hi hp => ?_⟩
      by_cases ci : i = k
      · exact ci
      · exact absurd hp ((ft_b P k).2.2.2.mp h0 i (by omega))
    · rw [ft_n c] at h ⊢
      obtain ⟨j, a, b, d, e⟩ := ih h
      refine ⟨j, by omega, b, d, fun i hi hp => ?_⟩
      by_cases ci : i = k
      · rw [ci] at hp; exact absurd hp c
      · exact e i (by omega) hp
section
variable {R : RlA} {N : List NoteW}
theorem rt_root (hN : NOk R N) (s : Nat → Bool) : ∀ (n k : Nat), k < n → k < N.length → s k = true → s (rtA N s k).1 = true ∧ (rtA N s (rtA N s k).1).1 = (rtA N s k).1 ∧ (rtA N s k).1 < N.length := by
  intro n
  induction n with
  | zero => exact fun k h => absurd h (Nat.not_lt_zero _)
  | succ n ih =>
    intro k h1 h2 hs
    have hw := List.getElem?_eq_getElem h2
    have l12 := hN.1
    have e := rt_eq hN s hw
    by_cases c : nHas N[k].1 7 = true ∧ s (aft N[k]) = true
    · rw [if_pos c] at e
      have a := aft_lt (hN.2 k _ hw) c.1
      have e1 : (rtA N s k).1 = (rtA N s (aft N[k])).1 := by rw [e]
      rw [e1]
      exact ih (aft N[k]) (by omega) (by omega) c.2
    · rw [if_neg c] at e
      have e1 : (rtA N s k).1 = k := by rw [e]
      rw [e1]
      exact ⟨hs, e1, h2⟩
/-- if all can be, so can each set -/
theorem all_fit (hN : NOk R N) {s t : Nat → Bool} (ht : ∀ k, k < N.length → t k = true) (h : hAll R N t) : hAll R N s := by
  intro k hk hs hr
  have l12 := hN.1
  have key : ∀ (n j : Nat), j < n → j < N.length → s j = true → (rtA N s j).1 = k → (rtA N t j).1 = (rtA N t k).1 ∧ (rtA N t j).2 = (rtA N t k).2 + (rtA N s j).2 := by
    intro n
    induction n with
    | zero => exact fun j h => absurd h (Nat.not_lt_zero _)
    | succ n ih =>
      intro j h1 h2 h3 h4
      have hw := List.getElem?_eq_getElem h2
      have e := rt_eq hN s hw
      by_cases c : nHas N[j].1 7 = true ∧ s (aft N[j]) = true
      · rw [if_pos c] at e
        have a := aft_lt (hN.2 j _ hw) c.1
        have al : aft N[j] < N.length := by omega
        have e2 := rt_eq hN t hw
        rw [if_pos ⟨c.1, ht _ al⟩] at e2
        rw [e] at h4
        obtain ⟨i1, i2⟩ := ih (aft N[j]) (by omega) al c.2 h4
        rw [e2, e]
        refine ⟨i1, ?_⟩
        show (rtA N t (aft N[j])).2 + _ = _ + ((rtA N s (aft N[j])).2 + _)
        rw [i2]; omega
      · rw [if_neg c] at e
        rw [e] at h4
        have : j = k := h4
        subst this
        rw [e]
        exact ⟨rfl, by show _ = _ + (0 : Int); omega⟩
  obtain ⟨a1, a2, a3⟩ := rt_root hN t (k + 1) k (by omega) hk (ht k hk)
  obtain ⟨e0, he0, hp⟩ := h _ a3 a1 a2
  have hw := List.getElem?_eq_getElem hk
  have ck := hp k _ hw (ht k hk) rfl
  obtain ⟨e, he⟩ : ∃ e : Nat, (e0 : Int) + (rtA N t k).2 = e := ⟨((e0 : Int) + (rtA N t k).2).toNat, by have := ck.1; omega⟩
  refine ⟨e, by have := ck.2.1; omega, fun j w hj hsj hrj => ?_⟩
  have jl := get_lt hj
  obtain ⟨b1, b2⟩ := key (j + 1) j (by omega) jl hsj hrj
  have := hp j w hj (ht j jl) b1
  rw [b2] at this
  rw [← he, Int.add_assoc]
  exact this
def gapS (R : RlA) (N : List NoteW) (x : Int32) : Prop := (roots N (nHas x) N.length).1 = 1 ∧ ¬ hAll R N (nHas x)
def gpP (R : RlA) (N : List NoteW) (b a : Nat) : Prop := f_J18_bitCount (Int32.ofNat a) = Int32.ofNat b ∧ gapS R N (Int32.ofNat a)
end
/-- the first from a number on -/
noncomputable def sN (P : Nat → Prop) : Nat → Nat → Option Nat
  | 0, _ => none
  | f + 1, a => @ite _ (P a) (Classical.propDecidable _) (some a) (sN P f (a + 1))
noncomputable def sO (P : Nat → Nat → Prop) (A : Nat) : Nat → Nat → Option Nat
  | 0, _ => none
  | f + 1, b => (sN (P b) A 1).or (sO P A f (b + 1))
theorem sN_y {P : Nat → Prop} {f a : Nat} (h : P a) : sN P (f + 1) a = some a := if_pos h
theorem sN_n {P : Nat → Prop} {f a : Nat} (h : ¬ P a) : sN P (f + 1) a = sN P f (a + 1) := if_neg h
theorem sO_s {P : Nat → Nat → Prop} {A f b : Nat} : sO P A (f + 1) b = (sN (P b) A 1).or (sO P A f (b + 1)) := rfl
theorem sN_no {P : Nat → Prop} : ∀ f a, (∀ x, a ≤ x → x < a + f → ¬ P x) → sN P f a = none := by
  intro f
  induction f with
  | zero => intro a _; rfl
  | succ f ih =>
    intro a h
    unfold sN
    rw [if_neg (h a (by omega) (by omega))]
    exact ih (a + 1) (fun x h1 h2 => h x (by omega) (by omega))
theorem sO_no {P : Nat → Nat → Prop} {A : Nat} (h : ∀ b x, 1 ≤ x → x < 1 + A → ¬ P b x) : ∀ f b, sO P A f b = none := by
  intro f
  induction f with
  | zero => intro b; rfl
  | succ f ih =>
    intro b
    unfold sO
    rw [sN_no A 1 (h b), ih]
    rfl
def gpV (r : Option Nat) : Int32 := match r with
  | none => 0
  | some x => Int32.ofNat x
theorem lp_gap {I : Hp → Prop} {bo : ((Int32 × Hp) → Prop) → (Int32 × Hp) → Prop} {bi : Int32 → ((Int32 × Hp) → Prop) → ((Int32 × Hp) → Prop) → (Int32 × Hp) → Prop} {P : Nat → Nat → Prop} {A n : Nat} {Q : Int32 → Hp → Prop} (hn : n ≤ 12) (hA : A ≤ 4095)
    (ho : ∀ (K : (Int32 × Hp) → Prop) (b : Nat) (s : Hp), I s → 1 ≤ b → b ≤ n + 1 → (b = n + 1 → Q 0 s) → (b ≤ n → lp (bi (Int32.ofNat b) K) (1, s)) → bo K (Int32.ofNat b, s))
    (hi : ∀ (K15 K : (Int32 × Hp) → Prop) (b a : Nat) (s : Hp), I s → 1 ≤ b → b ≤ n → 1 ≤ a → a ≤ A + 1 → (a = A + 1 → K15 (Int32.ofNat (b + 1), s)) → (a ≤ A → P b a → ∀ s', I s' → Q (Int32.ofNat a) s') → (a ≤ A → ¬ P b a → ∀ s', I s' → K (Int32.ofNat (a + 1), s')) → bi (Int32.ofNat b) K15 K (Int32.ofNat a, s))
    (hQ : ∀ s, I s → Q (gpV (sO P A n 1)) s) {s : Hp} (hs : I s) : lp bo (1, s) := by
  refine lp_of (fun z => ∃ b, 1 ≤ b ∧ b ≤ n + 1 ∧ z.1 = Int32.ofNat b ∧ I z.2 ∧ sO P A (n + 1 - b) b = sO P A n 1) (fun z => n + 1 - z.1.toNatClampNeg) ?_ ⟨1, by omega, by omega, rfl, hs, rfl⟩
  rintro K ⟨x, s⟩ ⟨b, b1, b2, rfl, hs, hr⟩ hK
  simp only at hs
  refine ho K b s hs b1 b2 (fun e => ?_) (fun hb => ?_)
  · have := hQ s hs
    rw [← hr, show n + 1 - b = 0 by omega] at this
    exact this
  have e1 : n + 1 - b = (n - b) + 1 := by omega
  rw [e1, sO_s] at hr
  refine lp_of (fun z => ∃ a, 1 ≤ a ∧ a ≤ A + 1 ∧ z.1 = Int32.ofNat a ∧ I z.2 ∧ (sN (P b) (A + 1 - a) a).or (sO P A (n - b) (b + 1)) = sO P A n 1) (fun z => A + 1 - z.1.toNatClampNeg) ?_ ⟨1, by omega, by omega, rfl, hs, hr⟩
  rintro K2 ⟨x, s2⟩ ⟨a, a1, a2, rfl, hs2, hr2⟩ hK2
  simp only at hs2
  refine hi K K2 b a s2 hs2 b1 hb a1 a2 (fun e => ?_) (fun ha hp s' hs' => ?_) (fun ha hp s' hs' => ?_)
  · rw [show A + 1 - a = 0 by omega] at hr2
    refine hK _ ⟨b + 1, by omega, by omega, rfl, hs2, ?_⟩ ?_
    · rw [show n + 1 - (b + 1) = n - b by omega]
      exact hr2
    · show n + 1 - (Int32.ofNat (b + 1)).toNatClampNeg < n + 1 - (Int32.ofNat b).toNatClampNeg
      rw [nat_c (by omega), nat_c (by omega)]; omega
  · have := hQ s' hs'
    rw [show A + 1 - a = (A - a) + 1 by omega] at hr2
    rw [sN_y hp] at hr2
    rw [← hr2] at this
    exact this
  · rw [show A + 1 - a = (A - a) + 1 by omega] at hr2
    rw [sN_n hp] at hr2
    refine hK2 _ ⟨a + 1, by omega, by omega, rfl, hs', ?_⟩ ?_
    · rw [show A + 1 - (a + 1) = A - a by omega]
      exact hr2
    · show A + 1 - (Int32.ofNat (a + 1)).toNatClampNeg < A + 1 - (Int32.ofNat a).toNatClampNeg
      rw [nat_c (by omega), nat_c (by omega)]; omega
/-- the bits of a set counted, twelve of them -/
def moF (x : Int32) : Nat → Int32
  | 0 => 0
  | k + 1 => moF x k + ((x >>> (Int32.ofNat k &&& 31)) &&& 1)
theorem m_manyOf {x : Int32} {Q : Int32 → Prop} (hQ : Q (moF x 12)) : wp_X6_manyOf x Q := by
  refine lp_of (fun z => ∃ k, k ≤ 12 ∧ z = (moF x k, Int32.ofNat k)) (fun z => 12 - z.2.toNatClampNeg) ?_ ⟨0, by omega, rfl⟩
  rintro K z ⟨k, hk, rfl⟩ hK
  show (_ → _) ∧ (_ → _)
  rw [show (12 ≤ Int32.ofNat k) ↔ 12 ≤ k from nat_le (p := 12) (by omega) (by omega)]
  refine ⟨fun q => ?_, fun q v hv => ?_⟩
  · have e : k = 12 := by omega
    subst e
    exact hQ
  · subst hv
    rw [nat_s (by omega)]
    refine hK _ ⟨k + 1, by omega, rfl⟩ ?_
    show 12 - (Int32.ofNat (k + 1)).toNatClampNeg < 12 - (Int32.ofNat k).toNatClampNeg
    rw [nat_c (by omega), nat_c (by omega)]; omega
theorem all_n : ∀ n, n < 13 → ((1 <<< (Int32.ofNat n &&& 31)) - 1 : Int32) = Int32.ofNat (2 ^ n - 1) := by decide +kernel
theorem bit_ex {a n : Nat} (ha : 1 ≤ a) (h : a < 2 ^ n) (hn : n ≤ 12) : ∃ k, k < n ∧ nHas (Int32.ofNat a) k = true := by
  apply Classical.byContradiction
  intro hx
  have : a = 0 := by
    apply Nat.eq_of_testBit_eq
    intro i
    rw [Nat.zero_testBit]
    by_cases c : i < n
    · have hb : nHas (Int32.ofNat a) i = false := bf (fun z => hx ⟨i, c, z⟩)
      have e : nHas (Int32.ofNat a) i = a.testBit i := by
        show (BitVec.ofNat 32 a).getLsbD i = _
        rw [BitVec.getLsbD_ofNat]
        simp [show i < 32 by omega]
      rw [← e]; exact hb
    · exact Nat.testBit_lt_two_pow (Nat.lt_of_lt_of_le h (Nat.pow_le_pow_right (by omega) (by omega)))
  omega
