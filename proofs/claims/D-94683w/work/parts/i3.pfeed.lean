set_option maxRecDepth 100000
theorem b8 (y : Int32) : y.toInt8.toInt32.toBitVec = (y.toBitVec.setWidth 8).signExtend 32 := by
  rw [Int8.toBitVec_toInt32, Int32.toBitVec_toInt8]
  congr 1
  try rw [BitVec.signExtend_eq_setWidth_of_le _ (by omega)]
theorem nar_b (y : Int32) : vp_nar .byte y.toInt8.toInt32 = y.toInt8.toInt32 := by
  show y.toInt8.toInt32.toInt8.toInt32 = _
  simp
theorem by_and (y : Int32) : y.toInt8.toInt32 &&& 255 = y &&& 255 := by
  rw [← Int32.toBitVec_inj, Int32.toBitVec_and, Int32.toBitVec_and]
  have e : (255 : Int32).toBitVec = 255#32 := rfl
  have t : ∀ j, j < 32 → (255#32).getLsbD j = decide (j < 8) := by decide
  rw [e]
  apply BitVec.eq_of_getLsbD_eq
  intro i hi
  rw [BitVec.getLsbD_and, BitVec.getLsbD_and, t i hi]
  by_cases c : i < 8
  · have := b8 y
    rw [this, BitVec.getLsbD_signExtend]
    simp [c, hi]
  · simp [c]
theorem by_r (y : Int32) : 0 ≤ (y &&& 255).toInt ∧ (y &&& 255).toInt ≤ 255 ∧ ((y &&& 255).toInt < 128 → y.toInt8.toInt32 = y &&& 255) := by
  have e : (255 : Int32).toBitVec = 255#32 := rfl
  have n : (y &&& 255).toBitVec.toNat = y.toBitVec.toNat % 256 := by
    rw [Int32.toBitVec_and, e, BitVec.toNat_and]
    exact Nat.and_two_pow_sub_one_eq_mod _ 8
  have i : (y &&& 255).toInt = ((y.toBitVec.toNat % 256 : Nat) : Int) := by
    show (y &&& 255).toBitVec.toInt = _
    rw [BitVec.toInt_eq_toNat_cond, n, if_pos (by omega)]
  refine ⟨by omega, by omega, fun h => ?_⟩
  rw [← Int32.toBitVec_inj]
  apply BitVec.eq_of_toNat_eq
  have s := b8 y
  have m : (y.toBitVec.setWidth 8).msb = false := by
    rw [BitVec.msb_eq_decide]
    simp
    omega
  rw [s, BitVec.signExtend_eq_setWidth_of_msb_false m, n]
  simp
  omega
/-! FEED -/
def pz (j : Nat) : Int32 := if j = 0 then 24 else if j = 1 then 16 else if j = 2 then 8 else if j = 3 then 0 else -8
def by8 (x : Int32) (j : Nat) : Int32 := (x >>> (pz j &&& 31)).toInt8.toInt32
def byt (x : Int32) (j : Nat) : Int32 := (x >>> (pz j &&& 31)) &&& 255
def w5 (a b c d e : Int32) (k : Nat) : Int32 := if k < 4 then a else if k < 8 then b else if k < 12 then c else if k < 16 then d else e
theorem l_put {o c p : Nat} {σ : Hp} {x : Int32} {Q : Hp → Prop} (h1 : gI σ o 1 = Int32.ofNat p) (hp : p + 4 ≤ 900) (hQ : ∀ σ', Ch (fun a k => (a = o ∧ k = 1) ∨ (a = o + 1 ∧ p ≤ k ∧ k < p + 4)) σ σ' → gI σ' o 1 = Int32.ofNat (p + 4) → (∀ j, j < 4 → gI σ' (o + 1) (p + j) = by8 x j) → Q σ') : wp_X1_put o c σ x Q := by
  refine lp_of (fun z => ∃ j, j ≤ 4 ∧ z.1 = pz j ∧ Ch (fun a k => (a = o ∧ k = 1) ∨ (a = o + 1 ∧ p ≤ k ∧ k < p + 4)) σ z.2 ∧ gI z.2 o 1 = Int32.ofNat (p + j) ∧ ∀ i, i < j → gI z.2 (o + 1) (p + i) = by8 x i) (fun z => (z.1.toInt + 8).toNat) ?_ ⟨0, by omega, rfl, Ch.rf, h1, fun i q => absurd q (by omega)⟩
  rintro K ⟨x2, s⟩ ⟨j, hj, rfl, g1, g2, g3⟩ hK
  simp only at g1 g2 g3
  have pn : pz j < 0 ↔ j = 4 := by
    have : j = 0 ∨ j = 1 ∨ j = 2 ∨ j = 3 ∨ j = 4 := by omega
    rcases this with rfl | rfl | rfl | rfl | rfl <;> decide
  have pp : j < 4 → pz j + -8 = pz (j + 1) ∧ ((pz (j + 1)).toInt + 8).toNat < ((pz j).toInt + 8).toNat := fun h => by
    have : j = 0 ∨ j = 1 ∨ j = 2 ∨ j = 3 := by omega
    rcases this with rfl | rfl | rfl | rfl <;> decide
  show (_ → _) ∧ (_ → _)
  rw [pn]
  refine ⟨fun e => ?_, fun e => ?_⟩
  · subst e
    exact hQ s g1 g2 g3
  · obtain ⟨p1, p2⟩ := pp (by omega)
    rw [g2, p1, nar_b, nat_c (by omega), nat_s (by omega)]
    refine ⟨nat_v (by omega) (by omega), hK _ ⟨j + 1, by omega, rfl, (g1.i (Or.inl ⟨rfl, rfl⟩)).i (Or.inr ⟨rfl, by omega, by omega⟩), ?_, fun i hi => ?_⟩ p2⟩
    · show gI (pI (pI s o 1 _) (o + 1) _ _) o 1 = _
      rw [pIo (by omega), gI_pI, if_pos ⟨rfl, rfl⟩]; rfl
    · show gI (pI (pI s o 1 _) (o + 1) (p + j) _) (o + 1) (p + i) = _
      by_cases ci : i = j
      · subst ci; rw [gI_pI, if_pos ⟨rfl, rfl⟩]; rfl
      · rw [pIo (by omega), pIo (by omega)]; exact g3 i (by omega)
theorem sh4 : ∀ k, k < 20 → (24 : Int32) - 8 * (Int32.ofNat k - Int32.ofNat k / 4 * 4) = pz (k % 4) := by decide
section
variable {o c z m n : Nat} {σ τ : Hp} {S : PlS}
theorem p_feed {a b d e g : Int32} (hz : o + 110 ≤ z) (hk : PlOk n S) (hL : RepL o c z σ S) : ∃ v S', PlOk (n + 1) S' ∧ PLl o c z σ (wp_X1_feed o c σ a b d e g) v S' ∧ ∀ τ, RepM m τ S → PMl m τ (wp_X6_feed m τ a b d e g) v S' := by
  have L0 := hL
  obtain ⟨-, -, -, q, c10, f, t, u, i⟩ := hL
  obtain ⟨f1, f2, f3, f4⟩ := f
  have f9 := f2.1
  have e20 : Int32.ofNat (yF S) + 20 = Int32.ofNat (yF S + 20) := nat_a (q := 20) (by omega)
  have le : Int32.ofNat (yF S + 20) ≤ 900 ↔ yF S + 20 ≤ 900 := nat_le (q := 900) (by omega) (by omega)
  by_cases ok : yF S + 20 ≤ 900
  rotate_left
  · refine ⟨-1, S, hk.s, fun Q hQ => ?_, fun τ hM Q hQ => ?_⟩
    · unfold wp_X1_feed; rw [f1, e20]; exact cF (fun z => ok (le.mp z)) (hQ σ Ch.rf L0)
    · unfold wp_X6_feed; rw [hM.2.2.2.2.1.1, e20]; exact cF (fun z => ok (le.mp z)) (hQ _ (t0n.up (fun a k q => q.p)) (hM.q t0n) t0_2)
  refine ⟨Int32.ofNat (yF S + 20), ((yF S + 20, fun i => if i < yF S then yB S i else byt (w5 a b d e g (i - yF S)) ((i - yF S) % 4)), S.2), hk.s, fun Q hQ => ?_, fun τ hM Q hQ => ?_⟩
  · unfold wp_X1_feed
    rw [f1, e20]
    refine cT (le.mpr ok) ?_
    refine l_put f1 (by omega) (fun s1 k1 h1 b1 => l_put h1 (by omega) (fun s2 k2 h2 b2 => l_put h2 (by omega) (fun s3 k3 h3 b3 => l_put h3 (by omega) (fun s4 k4 h4 b4 => l_put h4 (by omega) (fun s5 k5 h5 b5 => ?_)))))
    have up : ∀ {p : Nat} {x y : Hp}, yF S ≤ p → p + 4 ≤ yF S + 20 → Ch (fun a k => (a = o ∧ k = 1) ∨ (a = o + 1 ∧ p ≤ k ∧ k < p + 4)) x y → Ch (fun a k => (a = o ∧ k = 1) ∨ (a = o + 1 ∧ yF S ≤ k ∧ k < yF S + 20)) x y := fun l r h => h.up (fun a k q => by omega)
    have hc := ((((up (by omega) (by omega) k1).tr (up (by omega) (by omega) k2)).tr (up (by omega) (by omega) k3)).tr (up (by omega) (by omega) k4)).tr (up (by omega) (by omega) k5)
    have hb : ∀ k, k < 20 → gI s5 (o + 1) (yF S + k) = by8 (w5 a b d e g k) (k % 4) := fun k hk => by
      unfold w5
      by_cases q1 : k < 4
      · rw [if_pos q1, k5.gi (by omega), k4.gi (by omega), k3.gi (by omega), k2.gi (by omega), b1 k q1, Nat.mod_eq_of_lt q1]
      rw [if_neg q1]
      by_cases q2 : k < 8
      · have := b2 (k - 4) (by omega)
        rw [show yF S + 4 + (k - 4) = yF S + k by omega] at this
        rw [if_pos q2, k5.gi (by omega), k4.gi (by omega), k3.gi (by omega), this]
        congr 1; omega
      rw [if_neg q2]
      by_cases q3 : k < 12
      · have := b3 (k - 8) (by omega)
        rw [show yF S + 4 + 4 + (k - 8) = yF S + k by omega] at this
        rw [if_pos q3, k5.gi (by omega), k4.gi (by omega), this]
        congr 1; omega
      rw [if_neg q3]
      by_cases q4 : k < 16
      · have := b4 (k - 12) (by omega)
        rw [show yF S + 4 + 4 + 4 + (k - 12) = yF S + k by omega] at this
        rw [if_pos q4, k5.gi (by omega), this]
        congr 1; omega
      rw [if_neg q4]
      have := b5 (k - 16) (by omega)
      rw [show yF S + 4 + 4 + 4 + 4 + (k - 16) = yF S + k by omega] at this
      rw [this]
      congr 1; omega
    have h5 : gI s5 o 1 = Int32.ofNat (yF S + 20) := h5
    rw [h5]
    have hw' : Ch (SLw o) σ s5 := hc.up (fun a k q => by unfold SLw; omega)
    refine hQ s5 hw' (L0.of hz hw' rfl (q.2.fr2 (hc.gi (by omega)) (fun i a k _ _ _ => hc.gi (by omega)) (fun k => hc.gi (by omega)) (fun a k _ _ => hc.gl (by omega))) ⟨h5, ⟨ok, fun i hi => ?_⟩, by rw [hc.gi (by omega)]; exact f3, by rw [hc.gi (by omega)]; exact f4⟩ (t.fr (hc.gi (by omega)) (fun k => hc.gi (by omega)) (fun k => hc.gi (by omega))) (u.fr (hc.gi (by omega)) (fun k => hc.gi (by omega))) (i.fr (fun k _ => hc.gi (by omega)) (fun k => ⟨hc.gi (by omega), hc.gi (by omega)⟩) (fun i a k _ _ _ => hc.gi (by omega))))
    have hi : i < yF S + 20 := hi
    show 0 ≤ (if i < yF S then yB S i else byt (w5 a b d e g (i - yF S)) ((i - yF S) % 4)).toInt ∧ (if i < yF S then yB S i else byt (w5 a b d e g (i - yF S)) ((i - yF S) % 4)).toInt ≤ 255 ∧ gI s5 (o + 1) i &&& 255 = (if i < yF S then yB S i else byt (w5 a b d e g (i - yF S)) ((i - yF S) % 4)) ∧ ((if i < yF S then yB S i else byt (w5 a b d e g (i - yF S)) ((i - yF S) % 4)).toInt < 128 → gI s5 (o + 1) i = (if i < yF S then yB S i else byt (w5 a b d e g (i - yF S)) ((i - yF S) % 4)))
    by_cases ci : i < yF S
    · rw [if_pos ci, hc.gi (by omega)]
      exact f2.2 i ci
    · rw [if_neg ci]
      have := hb (i - yF S) (by omega)
      rw [show yF S + (i - yF S) = i by omega] at this
      rw [this]
      obtain ⟨r1, r2, r3⟩ := by_r (w5 a b d e g (i - yF S) >>> (pz ((i - yF S) % 4) &&& 31))
      exact ⟨r1, r2, by_and _, r3⟩
  · have M0 := hM
    obtain ⟨-, -, -, q', f', t', u', i'⟩ := hM
    obtain ⟨f1', f2', f3', f4'⟩ := f'
    unfold wp_X6_feed
    rw [f1', e20]
    refine cT (le.mpr ok) ?_
    refine lp_of (fun z => ∃ k, k ≤ 20 ∧ z.1 = Int32.ofNat k ∧ Ch (fun a j => (a = m ∧ (j = 1 ∨ j = 2)) ∨ (a = m + 1 ∧ yF S ≤ j ∧ j < yF S + 20)) τ z.2 ∧ gI z.2 m 2 = 0 ∧ gI z.2 m 1 = Int32.ofNat (yF S) ∧ ∀ i, i < k → gI z.2 (m + 1) (yF S + i) = byt (w5 a b d e g i) (i % 4)) (fun z => 20 - z.1.toNatClampNeg) ?_ ⟨0, by omega, rfl, Ch.rf.i (Or.inl ⟨rfl, by omega⟩), t0_2, by show gI (pI τ m 2 0) m 1 = _; rw [pIo (by omega)]; exact f1', fun i q => absurd q (by omega)⟩
    rintro K ⟨x6, s⟩ ⟨k, hk2, rfl, g1, g2, g3, g4⟩ hK
    simp only at g1 g2 g3 g4
    show (_ → _) ∧ (_ → _)
    rw [show (20 ≤ Int32.ofNat k) ↔ 20 ≤ k from nat_le (p := 20) (by omega) (by omega), show (4 ≤ Int32.ofNat k) ↔ 4 ≤ k from nat_le (p := 4) (by omega) (by omega), show (8 ≤ Int32.ofNat k) ↔ 8 ≤ k from nat_le (p := 8) (by omega) (by omega), show (12 ≤ Int32.ofNat k) ↔ 12 ≤ k from nat_le (p := 12) (by omega) (by omega), show (16 ≤ Int32.ofNat k) ↔ 16 ≤ k from nat_le (p := 16) (by omega) (by omega)]
    refine ⟨fun e1 => ?_, fun e1 => ?_⟩
    · rw [g3, e20]
      have hc : Ch (fun a j => (a = m ∧ (j = 1 ∨ j = 2)) ∨ (a = m + 1 ∧ yF S ≤ j ∧ j < yF S + 20)) τ (pI s m 1 (Int32.ofNat (yF S + 20))) := g1.i (Or.inl ⟨rfl, by omega⟩)
      have hw' : Ch (SMp m) τ (pI s m 1 (Int32.ofNat (yF S + 20))) := hc.up (fun a k q => by unfold SMp; omega)
      refine hQ _ hw' (M0.of hw' rfl (q'.2.fr (hc.gi (by omega)) (fun k => hc.gi (by omega))) ⟨by rw [gI_pI, if_pos ⟨rfl, rfl⟩]; rfl, fun i hi => ?_, by rw [hc.gi (by omega)]; exact f3', by rw [hc.gi (by omega)]; exact f4'⟩ (t'.fr (hc.gi (by omega)) (fun k => hc.gi (by omega)) (fun k => hc.gi (by omega))) (u'.fr (hc.gi (by omega)) (fun k => hc.gi (by omega))) (i'.fr (fun k _ _ => hc.gi (by omega)) (fun k => ⟨hc.gi (by omega), hc.gi (by omega), hc.gi (by omega)⟩))) (by rw [pIo (by omega)]; exact g2)
      have hi : i < yF S + 20 := hi
      show _ = (if i < yF S then yB S i else byt (w5 a b d e g (i - yF S)) ((i - yF S) % 4))
      by_cases ci : i < yF S
      · rw [if_pos ci, hc.gi (by omega)]
        exact f2' i ci
      · rw [if_neg ci, pIo (by omega)]
        have := g4 (i - yF S) (by omega)
        rw [show yF S + (i - yF S) = i by omega] at this
        exact this
    · have go : ∀ w0, w0 = w5 a b d e g k → wj_X6_feed_76 m s a b d e g (Int32.ofNat k) w0 Q K := fun w0 hw0 => by
        subst hw0
        unfold wj_X6_feed_76
        rw [g3, nat_a (by omega), nat_c (by omega), nat_s (by omega), sh4 k (by omega)]
        refine ⟨nat_v (by omega) (by omega), hK _ ⟨k + 1, by omega, rfl, g1.i (Or.inr ⟨rfl, by omega, by omega⟩), ?_, ?_, fun i hi => ?_⟩ ?_⟩
        · show gI (pI s (m + 1) _ _) m 2 = 0; rw [pIo (by omega)]; exact g2
        · show gI (pI s (m + 1) _ _) m 1 = _; rw [pIo (by omega)]; exact g3
        · show gI (pI s (m + 1) (yF S + k) _) (m + 1) (yF S + i) = _
          by_cases ci : i = k
          · subst ci; rw [gI_pI, if_pos ⟨rfl, rfl⟩]; rfl
          · rw [pIo (by omega)]; exact g4 i (by omega)
        · show 20 - (Int32.ofNat (k + 1)).toNatClampNeg < 20 - (Int32.ofNat k).toNatClampNeg
          rw [nat_c (by omega), nat_c (by omega)]; omega
      unfold w5 at go
      refine ⟨fun l4 => ⟨fun l8 => ⟨fun l12 => ⟨fun l16 => go _ ?_, fun l16 => go _ ?_⟩, fun l12 => go _ ?_⟩, fun l8 => go _ ?_⟩, fun l4 => go _ ?_⟩
      · rw [if_neg (by omega), if_neg (by omega), if_neg (by omega), if_neg (by omega)]
      · rw [if_neg (by omega), if_neg (by omega), if_neg (by omega), if_pos (by omega)]
      · rw [if_neg (by omega), if_neg (by omega), if_pos (by omega)]
      · rw [if_neg (by omega), if_pos (by omega)]
      · rw [if_pos (by omega)]
end
