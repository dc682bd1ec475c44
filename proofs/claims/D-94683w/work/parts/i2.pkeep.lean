set_option maxRecDepth 100000
/-! KEEP, BACK -/
/-- LongYears' image of notes; its notes -/
def SIm (o a : Nat) : Prop := o + 41 ≤ a ∧ a < o + 110 ∧ (a - (o + 41)) % 6 < 3
def SNo (o a : Nat) : Prop := o + 38 ≤ a ∧ a < o + 110 ∧ (a - (o + 38)) % 6 < 3
theorem mNw.cp {m m' : Nat} {σ σ' : Hp} {p : Nat} {w : NoteW} (h : mNw m σ p w) (hf : ∀ k, p ≤ k → k < p + 11 → gI σ' (m' + 16) k = gI σ (m + 16) k) : mNw m' σ' p w := by
  refine ⟨by rw [hf _ (by omega) (by omega)]; exact h.1, fun k hk hh => ?_⟩
  have e : p + (if k = 0 then 1 else 2 + k) < p + 11 ∧ p ≤ p + (if k = 0 then 1 else 2 + k) := by
    split <;> omega
  rw [hf _ e.2 e.1, hf _ (by omega) (by omega), hf _ (by omega) (by omega)]
  exact h.2 k hk hh
def setI (S : PlS) : PlS := (S.1, S.2.1, yR S, yN S, yT S, some (yN S, yT S), yU S)
section
variable {o c z m n : Nat} {σ τ : Hp} {S : PlS}
/-- rows of notes copied, one by one -/
theorem l_copy {N : List NoteW} {p q cnt : Nat} {σ : Hp} {F : Nat → Prop} {body : (Int32 × Hp → Prop) → Int32 × Hp → Prop} {P : Hp → Prop} (hN : N.length = cnt) (h12 : cnt ≤ 12) (hF : ∀ i a, i < 12 → p + 6 * i ≤ a → a < p + 6 * i + 3 → F a) (hnF : ∀ i a, i < 12 → q + 6 * i ≤ a → a < q + 6 * i + 3 → ¬ F a) (hpq : ∀ i, p + 6 * i + 3 ≤ q + 6 * i ∨ q + 6 * i + 3 ≤ p + 6 * i) (hq : ∀ i w, N[i]? = some w → pNw σ (q + 6 * i) w)
    (hb : ∀ (K : Int32 × Hp → Prop) (k : Nat) (s : Hp), Ch (fun a _ => F a) σ s → k ≤ cnt → (k = cnt → P s) → (k < cnt → wp_X5_become (p + 6 * k) s (q + 6 * k) (fun s' => K (Int32.ofNat (k + 1), s'))) → body K (Int32.ofNat k, s))
    (hP : ∀ s, Ch (fun a _ => F a) σ s → (∀ i w, N[i]? = some w → pNw s (p + 6 * i) w) → P s) : lp body (0, σ) := by
  refine lp_of (fun z => ∃ k, k ≤ cnt ∧ z.1 = Int32.ofNat k ∧ Ch (fun a _ => F a) σ z.2 ∧ ∀ i w, i < k → N[i]? = some w → pNw z.2 (p + 6 * i) w) (fun z => cnt - z.1.toNatClampNeg) ?_ ⟨0, by omega, rfl, Ch.rf, fun i w q => absurd q (by omega)⟩
  rintro K ⟨x, s⟩ ⟨k, hk, rfl, g1, g2⟩ hK
  simp only at g1 g2
  refine hb K k s g1 hk (fun e => hP s g1 (fun i w hi => g2 i w (by have := get_lt hi; omega) hi)) (fun hlt => ?_)
  have hw := List.getElem?_eq_getElem (show k < N.length by omega)
  generalize N[k] = w at hw
  have hs : pNw s (q + 6 * k) w := (hq k w hw).fr (fun a j q1 q2 => g1.gi (hnF k a (by omega) q1 q2))
  refine l_become (hpq k) hs (fun s' h1 h2 => hK _ ⟨k + 1, by omega, rfl, g1.tr (h1.up (fun a j w => hF k a (by omega) (by unfold SBe at w; omega) (by unfold SBe at w; omega))), fun i w' hi hw' => ?_⟩ ?_)
  · by_cases ci : i = k
    · subst ci
      rw [hw] at hw'
      cases hw'
      exact h2
    · exact (g2 i w' (by omega) hw').fr (fun a j q1 q2 => h1.gi (by unfold SBe; omega))
  · show cnt - (Int32.ofNat (k + 1)).toNatClampNeg < cnt - (Int32.ofNat k).toNatClampNeg
    rw [nat_c (by omega), nat_c (by omega)]; omega
/-- two rows copied, count by count -/
theorem t_copy {cnt p1 p2 q1 q2 : Nat} {σ : Hp} {body : (Int32 × Hp → Prop) → Int32 × Hp → Prop} {P : Hp → Prop} (hc : cnt ≤ 1000) (d : p1 ≠ p2 ∧ p1 ≠ q1 ∧ p1 ≠ q2 ∧ p2 ≠ q1 ∧ p2 ≠ q2)
    (hb : ∀ (K : Int32 × Hp → Prop) (k : Nat) (s : Hp), Ch (fun a _ => a = p1 ∨ a = p2) σ s → k ≤ cnt → (k = cnt → P s) → (k < cnt → K (Int32.ofNat (k + 1), pI (pI s p1 k (gI s q1 k)) p2 k (gI (pI s p1 k (gI s q1 k)) q2 k))) → body K (Int32.ofNat k, s))
    (hP : ∀ s, Ch (fun a _ => a = p1 ∨ a = p2) σ s → (∀ i, i < cnt → gI s p1 i = gI σ q1 i ∧ gI s p2 i = gI σ q2 i) → P s) : lp body (0, σ) := by
  refine lp_of (fun z => ∃ k, k ≤ cnt ∧ z.1 = Int32.ofNat k ∧ Ch (fun a _ => a = p1 ∨ a = p2) σ z.2 ∧ ∀ i, i < k → gI z.2 p1 i = gI σ q1 i ∧ gI z.2 p2 i = gI σ q2 i) (fun z => cnt - z.1.toNatClampNeg) ?_ ⟨0, by omega, rfl, Ch.rf, fun i q => absurd q (by omega)⟩
  rintro K ⟨x, s⟩ ⟨k, hk, rfl, g1, g2⟩ hK
  simp only at g1 g2
  refine hb K k s g1 hk (fun e => hP s g1 (fun i hi => g2 i (by omega))) (fun hlt => hK _ ⟨k + 1, by omega, rfl, (g1.i (Or.inl rfl)).i (Or.inr rfl), fun i hi => ?_⟩ ?_)
  · show gI (pI (pI s p1 k (gI s q1 k)) p2 k (gI (pI s p1 k (gI s q1 k)) q2 k)) p1 i = _ ∧ gI (pI (pI s p1 k (gI s q1 k)) p2 k (gI (pI s p1 k (gI s q1 k)) q2 k)) p2 i = _
    have e1 : gI s q1 k = gI σ q1 k := g1.gi (by omega)
    have e2 : gI (pI s p1 k (gI s q1 k)) q2 k = gI σ q2 k := by rw [pIo (by omega)]; exact g1.gi (by omega)
    rw [e2, e1]
    by_cases c : i = k
    · subst c
      exact ⟨by rw [pIo (by omega), gI_pI, if_pos ⟨rfl, rfl⟩], by rw [gI_pI, if_pos ⟨rfl, rfl⟩]⟩
    · exact ⟨by rw [pIo (by omega), pIo (by omega)]; exact (g2 i (by omega)).1, by rw [pIo (by omega), pIo (by omega)]; exact (g2 i (by omega)).2⟩
  · show cnt - (Int32.ofNat (k + 1)).toNatClampNeg < cnt - (Int32.ofNat k).toNatClampNeg
    rw [nat_c (by omega), nat_c (by omega)]; omega
/-- one row -/
theorem r_copy {cnt p q : Nat} {σ : Hp} {body : (Int32 × Hp → Prop) → Int32 × Hp → Prop} {P : Hp → Prop} (hc : cnt ≤ 1000) (d : p ≠ q)
    (hb : ∀ (K : Int32 × Hp → Prop) (k : Nat) (s : Hp), Ch (fun a j => a = p ∧ j < cnt) σ s → k ≤ cnt → (k = cnt → P s) → (k < cnt → K (Int32.ofNat (k + 1), pI s p k (gI s q k))) → body K (Int32.ofNat k, s))
    (hP : ∀ s, Ch (fun a j => a = p ∧ j < cnt) σ s → (∀ i, i < cnt → gI s p i = gI σ q i) → P s) : lp body (0, σ) := by
  refine lp_of (fun z => ∃ k, k ≤ cnt ∧ z.1 = Int32.ofNat k ∧ Ch (fun a j => a = p ∧ j < cnt) σ z.2 ∧ ∀ i, i < k → gI z.2 p i = gI σ q i) (fun z => cnt - z.1.toNatClampNeg) ?_ ⟨0, by omega, rfl, Ch.rf, fun i q => absurd q (by omega)⟩
  rintro K ⟨x, s⟩ ⟨k, hk, rfl, g1, g2⟩ hK
  simp only at g1 g2
  refine hb K k s g1 hk (fun e => hP s g1 (fun i hi => g2 i (by omega))) (fun hlt => hK _ ⟨k + 1, by omega, rfl, g1.i ⟨rfl, hlt⟩, fun i hi => ?_⟩ ?_)
  · show gI (pI s p k (gI s q k)) p i = _
    have e1 : gI s q k = gI σ q k := g1.gi (by omega)
    rw [e1]
    by_cases c : i = k
    · subst c
      rw [gI_pI, if_pos ⟨rfl, rfl⟩]
    · rw [pIo (by omega)]; exact g2 i (by omega)
  · show cnt - (Int32.ofNat (k + 1)).toNatClampNeg < cnt - (Int32.ofNat k).toNatClampNeg
    rw [nat_c (by omega), nat_c (by omega)]; omega
theorem p_keep (hz : o + 110 ≤ z) (hk : PlOk n S) (hL : RepL o c z σ S) : ∃ v S', PlOk (n + 1) S' ∧ PLl o c z σ (wp_X1_keep o c σ) v S' ∧ ∀ τ, RepM m τ S → PMl m τ (wp_X6_keep m τ) v S' := by
  have L0 := hL
  obtain ⟨-, -, -, q, c10, f, t, u, i⟩ := hL
  have n12 := q.2.2.1
  have t20 := hk.2.1.1
  have hO := q.ok
  refine ⟨Int32.ofNat (yN S).length, setI S, ⟨hk.1, hk.2.1, fun IN IT h => ?_, hk.2.2.2.1, Nat.le_succ_of_le hk.2.2.2.2⟩, fun Q hQ => ?_, fun τ hM Q hQ => ?_⟩
  · have h : some (yN S, yT S) = some (IN, IT) := h
    cases h
    exact ⟨hO, hk.2.1⟩
  · refine l_copy (N := yN S) (p := o + 41) (q := o + 38) (F := SIm o) (P := fun s => lp (lb_X1_keep_33 o c Q) (0, s)) rfl n12 (fun i a _ _ _ => by unfold SIm; omega) (fun i a _ _ _ => by unfold SIm; omega) (fun i => by omega) (fun i w hi => (q.2.2.2.1 i w hi).2) (fun K k s g hk1 e1 e2 => ?_) (fun s1 g1 hn1 => ?_)
    · show (_ → _) ∧ (_ → _)
      rw [g.gi (by unfold SIm; omega), q.2.1, nat_le (by omega) (by omega), nat_c (by omega), nat_s (by omega)]
      exact ⟨fun z => e1 (by omega), fun z => ⟨nat_v (by omega) (by omega), nat_v (by omega) (by omega), e2 (by omega)⟩⟩
    have s11 : gI s1 o 11 = Int32.ofNat (yT S).length := by rw [g1.gi (by unfold SIm; omega)]; exact t.1
    have s9 : gI s1 o 9 = Int32.ofNat (yN S).length := by rw [g1.gi (by unfold SIm; omega)]; exact q.2.1
    refine t_copy (cnt := (yT S).length) (p1 := o + 20) (p2 := o + 21) (q1 := o + 18) (q2 := o + 19) (P := fun s => Q (gI s o 9) (pI (pI (pI s o 10 (gI s o 9)) o 12 (gI s o 11)) o 15 1)) (by omega) (by omega) (fun K k s g hk1 e1 e2 => ?_) (fun s2 g2 ht2 => ?_)
    · have w11 : gI s o 11 = Int32.ofNat (yT S).length := by rw [g.gi (by omega)]; exact s11
      have e1 : k = (yT S).length → Q (gI s o 9) (pI (pI (pI s o 10 (gI s o 9)) o 12 (gI s o 11)) o 15 1) := e1
      rw [w11] at e1
      show (_ → _) ∧ (_ → _)
      rw [w11, nat_le (by omega) (by omega), nat_c (by omega), nat_s (by omega)]
      have v : (yT S).length ≤ k ∨ vp_in (Int32.ofNat k) 20 := (Nat.lt_or_ge k (yT S).length).elim (fun h => Or.inr (nat_v (by omega) (by omega))) Or.inl
      exact ⟨fun z => e1 (by omega), fun z => ⟨v.resolve_left z, v.resolve_left z, v.resolve_left z, v.resolve_left z, e2 (by omega)⟩⟩
    have z11 : gI s2 o 11 = Int32.ofNat (yT S).length := by rw [g2.gi (by omega)]; exact s11
    have z9 : gI s2 o 9 = Int32.ofNat (yN S).length := by rw [g2.gi (by omega)]; exact s9
    show Q (gI s2 o 9) (pI (pI (pI s2 o 10 (gI s2 o 9)) o 12 (gI s2 o 11)) o 15 1)
    rw [z9, z11]
    have hc : Ch (fun a k => SIm o a ∨ a = o + 20 ∨ a = o + 21 ∨ (a = o ∧ (k = 10 ∨ k = 12 ∨ k = 15))) σ (pI (pI (pI s2 o 10 (Int32.ofNat (yN S).length)) o 12 (Int32.ofNat (yT S).length)) o 15 1) := ((((g1.up (fun a k q => Or.inl q)).tr (g2.up (fun a k q => by omega))).i (a := o) (k := 10) (by omega)).i (a := o) (k := 12) (by omega)).i (a := o) (k := 15) (by omega)
    have k10 : gI (pI (pI (pI s2 o 10 (Int32.ofNat (yN S).length)) o 12 (Int32.ofNat (yT S).length)) o 15 1) o 10 = Int32.ofNat (yN S).length := by rw [pIo (by omega), pIo (by omega), gI_pI, if_pos ⟨rfl, rfl⟩]
    have k12 : gI (pI (pI (pI s2 o 10 (Int32.ofNat (yN S).length)) o 12 (Int32.ofNat (yT S).length)) o 15 1) o 12 = Int32.ofNat (yT S).length := by rw [pIo (by omega), gI_pI, if_pos ⟨rfl, rfl⟩]
    have k15 : ¬ gI (pI (pI (pI s2 o 10 (Int32.ofNat (yN S).length)) o 12 (Int32.ofNat (yT S).length)) o 15 1) o 15 = 0 := by rw [gI_pI, if_pos ⟨rfl, rfl⟩]; decide
    have kn : ∀ i w, (yN S)[i]? = some w → pNw (pI (pI (pI s2 o 10 (Int32.ofNat (yN S).length)) o 12 (Int32.ofNat (yT S).length)) o 15 1) (o + 41 + 6 * i) w := fun i w hi => (hn1 i w hi).fr (fun a k q1 q2 => by rw [pIo (by omega), pIo (by omega), pIo (by omega), g2.gi (by omega)])
    have kt : TR2 (pI (pI (pI s2 o 10 (Int32.ofNat (yN S).length)) o 12 (Int32.ofNat (yT S).length)) o 15 1) (o + 20) (o + 21) (yT S) := fun i x hi => by
      have il := get_lt hi
      rw [pIo (by omega), pIo (by omega), pIo (by omega), pIo (by omega), pIo (by omega), pIo (by omega), (ht2 i il).1, (ht2 i il).2, g1.gi (by unfold SIm; omega), g1.gi (by unfold SIm; omega)]
      exact t.2 i x hi
    generalize pI (pI (pI s2 o 10 (Int32.ofNat (yN S).length)) o 12 (Int32.ofNat (yT S).length)) o 15 1 = s at *
    have hw' : Ch (SLw o) σ s := hc.up (fun a k q => by unfold SIm at q; unfold SLw; omega)
    exact hQ s hw' (L0.of hz hw' rfl (q.2.fr2 (hc.gi (by unfold SIm; omega)) (fun i a k _ _ _ => hc.gi (by unfold SIm; omega)) (fun k => hc.gi (by unfold SIm; omega)) (fun a k _ _ => hc.gl (by unfold SIm; omega))) (LF.fr (S := S) f (fun k _ _ => hc.gi (by unfold SIm; omega)) (fun k => hc.gi (by unfold SIm; omega))) (t.fr (hc.gi (by unfold SIm; omega)) (fun k => hc.gi (by unfold SIm; omega)) (fun k => hc.gi (by unfold SIm; omega))) (u.fr (hc.gi (by unfold SIm; omega)) (fun k => hc.gi (by unfold SIm; omega))) ⟨k15, k10, k12, n12, kn, kt⟩)
  · have M0 := hM
    obtain ⟨-, -, -, q', f', t', u', i'⟩ := hM
    unfold wp_X6_keep
    rw [q'.2.1, t'.1]
    have c0 : Ch (fun a k => a = m ∧ (k = 2 ∨ k = 70 ∨ k = 71 ∨ k = 72)) τ (pI (pI (pI (pI τ m 2 0) m 70 1) m 71 (Int32.ofNat (yN S).length)) m 72 (Int32.ofNat (yT S).length)) := (((Ch.rf.i ⟨rfl, by omega⟩).i ⟨rfl, by omega⟩).i ⟨rfl, by omega⟩).i ⟨rfl, by omega⟩
    have a2 : gI (pI (pI (pI (pI τ m 2 0) m 70 1) m 71 (Int32.ofNat (yN S).length)) m 72 (Int32.ofNat (yT S).length)) m 2 = 0 := by rw [pIo (by omega), pIo (by omega), pIo (by omega)]; exact t0_2
    have a70 : ¬ gI (pI (pI (pI (pI τ m 2 0) m 70 1) m 71 (Int32.ofNat (yN S).length)) m 72 (Int32.ofNat (yT S).length)) m 70 = 0 := by rw [pIo (by omega), pIo (by omega), gI_pI, if_pos ⟨rfl, rfl⟩]; decide
    have a71 : gI (pI (pI (pI (pI τ m 2 0) m 70 1) m 71 (Int32.ofNat (yN S).length)) m 72 (Int32.ofNat (yT S).length)) m 71 = Int32.ofNat (yN S).length := by rw [pIo (by omega), gI_pI, if_pos ⟨rfl, rfl⟩]
    have a72 : gI (pI (pI (pI (pI τ m 2 0) m 70 1) m 71 (Int32.ofNat (yN S).length)) m 72 (Int32.ofNat (yT S).length)) m 72 = Int32.ofNat (yT S).length := by rw [gI_pI, if_pos ⟨rfl, rfl⟩]
    generalize pI (pI (pI (pI τ m 2 0) m 70 1) m 71 (Int32.ofNat (yN S).length)) m 72 (Int32.ofNat (yT S).length) = s0 at *
    refine r_copy (cnt := 132) (p := m + 30) (q := m + 16) (P := fun s => lp (lb_X6_keep_55 m Q) (0, s)) (by omega) (by omega) (fun K k s g hk1 e1 e2 => ?_) (fun s1 g1 hn1 => ?_)
    · show (_ → _) ∧ (_ → _)
      rw [show (132 ≤ Int32.ofNat k) ↔ 132 ≤ k from nat_le (p := 132) (by omega) (by omega), nat_c (by omega), nat_s (by omega)]
      refine ⟨fun z => e1 (by omega), fun z => ⟨nat_v (by omega) (by omega), nat_v (by omega) (by omega), e2 (by omega)⟩⟩
    refine t_copy (cnt := 20) (p1 := m + 31) (p2 := m + 32) (q1 := m + 28) (q2 := m + 29) (P := fun s => Q (gI s m 16) s) (by omega) (by omega) (fun K k s g hk1 e1 e2 => ?_) (fun s2 g2 ht2 => ?_)
    · show (_ → _) ∧ (_ → _)
      rw [show (20 ≤ Int32.ofNat k) ↔ 20 ≤ k from nat_le (p := 20) (by omega) (by omega), nat_c (by omega), nat_s (by omega)]
      have v : 20 ≤ k ∨ vp_in (Int32.ofNat k) 20 := (Nat.lt_or_ge k 20).elim (fun h => Or.inr (nat_v (by omega) (by omega))) Or.inl
      exact ⟨fun z => e1 (by omega), fun z => ⟨v.resolve_left z, v.resolve_left z, v.resolve_left z, v.resolve_left z, e2 (by omega)⟩⟩
    have hc : Ch (fun a k => (a = m ∧ (k = 2 ∨ k = 70 ∨ k = 71 ∨ k = 72)) ∨ a = m + 30 ∨ a = m + 31 ∨ a = m + 32) τ s2 := ((c0.up (fun a k q => Or.inl q)).tr (g1.up (fun a k q => by omega))).tr (g2.up (fun a k q => by omega))
    have lo : ∀ k, gI s2 m k = gI s0 m k := fun k => by rw [g2.gi (by omega), g1.gi (by omega)]
    have hw' : Ch (SMp m) τ s2 := hc.up (fun a k q => by unfold SMp; omega)
    have e16 : gI s2 m 16 = Int32.ofNat (yN S).length := by rw [hc.gi (by omega)]; exact q'.2.1
    show Q (gI s2 m 16) s2
    rw [e16]
    refine hQ s2 hw' (M0.of hw' rfl (q'.2.fr (hc.gi (by omega)) (fun k => hc.gi (by omega))) (MF.fr (S := S) f' (fun k _ => hc.gi (by omega)) (fun k => hc.gi (by omega))) (t'.fr (hc.gi (by omega)) (fun k => hc.gi (by omega)) (fun k => hc.gi (by omega))) (u'.fr (hc.gi (by omega)) (fun k => hc.gi (by omega))) ⟨by rw [lo]; exact a70, by rw [lo]; exact a71, by rw [lo]; exact a72, n12, fun i w hi => ?_, fun i x hi => ?_⟩) (by rw [lo]; exact a2)
    · have il := get_lt hi
      refine (q'.2.2.2 i w hi).2.cp (fun k q1 q2 => ?_)
      show gI s2 (m + 30) k = _
      rw [g2.gi (by omega), hn1 k (by omega), c0.gi (by omega)]
    · have il := get_lt hi
      rw [(ht2 i (by omega)).1, (ht2 i (by omega)).2, g1.gi (by omega), g1.gi (by omega), c0.gi (by omega), c0.gi (by omega)]
      exact t'.2 i x hi
theorem p_back (hz : o + 110 ≤ z) (hk : PlOk n S) (hL : RepL o c z σ S) : ∃ v S', PlOk (n + 1) S' ∧ PLl o c z σ (wp_X1_back o c σ) v S' ∧ ∀ τ, RepM m τ S → PMl m τ (wp_X6_back m τ) v S' := by
  have L0 := hL
  obtain ⟨-, -, -, q, c10, f, t, u, i⟩ := hL
  cases hI : yI S with
  | none =>
    rw [hI] at i
    exact ⟨-1, S, hk.s, fun Q hQ => cT i (hQ σ Ch.rf L0), fun τ hM Q hQ => cT (by have i' := hM.2.2.2.2.2.2.2; rw [hI] at i'; exact i') (hQ _ (t0n.up (fun a k q => q.p)) (hM.q t0n) t0_2)⟩
  | some X =>
    obtain ⟨IN, IT⟩ := X
    rw [hI] at i
    obtain ⟨i15, i10, i12, n12, iN, iT⟩ := i
    obtain ⟨hO, hT⟩ := hk.2.2.1 IN IT hI
    have t20 := hT.1
    refine ⟨Int32.ofNat IN.length, (S.1, S.2.1, yR S, IN, IT, some (IN, IT), []), ⟨hk.1, hT, fun IN' IT' h => ?_, trivial, Nat.zero_le _⟩, fun Q hQ => cF i15 ?_, fun τ hM Q hQ => ?_⟩
    · have h : some (IN, IT) = some (IN', IT') := h
      cases h
      exact ⟨hO, hT⟩
    · rw [i10, i12]
      have c0 : Ch (fun a k => a = o ∧ (k = 9 ∨ k = 11 ∨ k = 14)) σ (pI (pI (pI σ o 9 (Int32.ofNat IN.length)) o 11 (Int32.ofNat IT.length)) o 14 0) := ((Ch.rf.i ⟨rfl, by omega⟩).i ⟨rfl, by omega⟩).i ⟨rfl, by omega⟩
      have a9 : gI (pI (pI (pI σ o 9 (Int32.ofNat IN.length)) o 11 (Int32.ofNat IT.length)) o 14 0) o 9 = Int32.ofNat IN.length := by rw [pIo (by omega), pIo (by omega), gI_pI, if_pos ⟨rfl, rfl⟩]
      have a11 : gI (pI (pI (pI σ o 9 (Int32.ofNat IN.length)) o 11 (Int32.ofNat IT.length)) o 14 0) o 11 = Int32.ofNat IT.length := by rw [pIo (by omega), gI_pI, if_pos ⟨rfl, rfl⟩]
      have a14 : gI (pI (pI (pI σ o 9 (Int32.ofNat IN.length)) o 11 (Int32.ofNat IT.length)) o 14 0) o 14 = 0 := by rw [gI_pI, if_pos ⟨rfl, rfl⟩]
      generalize pI (pI (pI σ o 9 (Int32.ofNat IN.length)) o 11 (Int32.ofNat IT.length)) o 14 0 = s0 at *
      refine l_copy (N := IN) (p := o + 38) (q := o + 41) (F := SNo o) (P := fun s => lp (lb_X1_back_63 o c Q) (0, s)) rfl n12 (fun i a _ _ _ => by unfold SNo; omega) (fun i a _ _ _ => by unfold SNo; omega) (fun i => by omega) (fun i w hi => (iN i w hi).fr (fun a k q1 q2 => c0.gi (by omega))) (fun K k s g hk1 e1 e2 => ?_) (fun s1 g1 hn1 => ?_)
      · show (_ → _) ∧ (_ → _)
        rw [g.gi (by unfold SNo; omega), a9, nat_le (by omega) (by omega), nat_c (by omega), nat_s (by omega)]
        exact ⟨fun z => e1 (by omega), fun z => ⟨nat_v (by omega) (by omega), nat_v (by omega) (by omega), e2 (by omega)⟩⟩
      have s11 : gI s1 o 11 = Int32.ofNat IT.length := by rw [g1.gi (by unfold SNo; omega)]; exact a11
      refine t_copy (cnt := IT.length) (p1 := o + 18) (p2 := o + 19) (q1 := o + 20) (q2 := o + 21) (P := fun s => wp_X1_forgetRows o c s (fun s8 => Q (gI s8 o 9) s8)) (by omega) (by omega) (fun K k s g hk1 e1 e2 => ?_) (fun s2 g2 ht2 => ?_)
      · show (_ → _) ∧ (_ → _)
        rw [g.gi (by omega), s11, nat_le (by omega) (by omega), nat_c (by omega), nat_s (by omega)]
        have v : IT.length ≤ k ∨ vp_in (Int32.ofNat k) 20 := (Nat.lt_or_ge k IT.length).elim (fun h => Or.inr (nat_v (by omega) (by omega))) Or.inl
        exact ⟨fun z => e1 (by omega), fun z => ⟨v.resolve_left z, v.resolve_left z, v.resolve_left z, v.resolve_left z, e2 (by omega)⟩⟩
      refine l_forgetRows (fun s3 g3 h35 => ?_)
      have lo : ∀ k, gI s3 o k = gI s0 o k := fun k => by rw [g3.gi (by omega), g2.gi (by omega), g1.gi (by unfold SNo; omega)]
      have e9 : gI s3 o 9 = Int32.ofNat IN.length := by rw [lo]; exact a9
      rw [e9]
      have hc : Ch (fun a k => (a = o ∧ (k = 9 ∨ k = 11 ∨ k = 14)) ∨ SNo o a ∨ a = o + 18 ∨ a = o + 19 ∨ a = o + 35) σ s3 := (((c0.up (fun a k q => Or.inl q)).tr (g1.up (fun a k q => Or.inr (Or.inl q)))).tr (g2.up (fun a k q => by omega))).tr (g3.up (fun a k q => by omega))
      have hw' : Ch (SLw o) σ s3 := hc.up (fun a k q => by unfold SNo at q; unfold SLw; omega)
      refine hQ s3 hw' (L0.of hz hw' rfl ⟨e9, n12, fun i w hi => ⟨hO.2 i w hi, (hn1 i w hi).fr (fun a k q1 q2 => ?_)⟩, fun i w hi hl => absurd (h35 i (by have : i < IN.length := get_lt hi; omega)) hl⟩ (LF.fr (S := S) f (fun k _ _ => hc.gi (by unfold SNo; omega)) (fun k => hc.gi (by unfold SNo; omega))) ⟨by rw [lo]; exact a11, fun i x hi => ?_⟩ ⟨by rw [lo]; exact a14, fun i x hi => (by cases hi)⟩ (LIm.fr (I := some (IN, IT)) ⟨i15, i10, i12, n12, iN, iT⟩ (fun k _ => hc.gi (by unfold SNo; omega)) (fun k => ⟨hc.gi (by unfold SNo; omega), hc.gi (by unfold SNo; omega)⟩) (fun i a k _ _ _ => hc.gi (by unfold SNo; omega))))
      · have il := get_lt hi
        rw [g3.gi (by omega), g2.gi (by omega)]
      · have il := get_lt hi
        rw [g3.gi (by omega), g3.gi (by omega), (ht2 i il).1, (ht2 i il).2, g1.gi (by unfold SNo; omega), g1.gi (by unfold SNo; omega), c0.gi (by omega), c0.gi (by omega)]
        exact iT i x hi
    · have M0 := hM
      obtain ⟨-, -, -, q', f', t', u', i'⟩ := hM
      rw [hI] at i'
      obtain ⟨j70, j71, j72, -, jN, jT⟩ := i'
      refine cF j70 ?_
      rw [j71, j72]
      have c0 : Ch (fun a k => a = m ∧ (k = 2 ∨ k = 16 ∨ k = 67)) τ (pI (pI (pI τ m 2 0) m 16 (Int32.ofNat IN.length)) m 67 (Int32.ofNat IT.length)) := ((Ch.rf.i ⟨rfl, by omega⟩).i ⟨rfl, by omega⟩).i ⟨rfl, by omega⟩
      have a2 : gI (pI (pI (pI τ m 2 0) m 16 (Int32.ofNat IN.length)) m 67 (Int32.ofNat IT.length)) m 2 = 0 := by rw [pIo (by omega), pIo (by omega)]; exact t0_2
      have a16 : gI (pI (pI (pI τ m 2 0) m 16 (Int32.ofNat IN.length)) m 67 (Int32.ofNat IT.length)) m 16 = Int32.ofNat IN.length := by rw [pIo (by omega), gI_pI, if_pos ⟨rfl, rfl⟩]
      have a67 : gI (pI (pI (pI τ m 2 0) m 16 (Int32.ofNat IN.length)) m 67 (Int32.ofNat IT.length)) m 67 = Int32.ofNat IT.length := by rw [gI_pI, if_pos ⟨rfl, rfl⟩]
      generalize pI (pI (pI τ m 2 0) m 16 (Int32.ofNat IN.length)) m 67 (Int32.ofNat IT.length) = s0 at *
      refine r_copy (cnt := 132) (p := m + 16) (q := m + 30) (P := fun s => lp (lb_X6_back_59 m Q) (0, s)) (by omega) (by omega) (fun K k s g hk1 e1 e2 => ?_) (fun s1 g1 hn1 => ?_)
      · show (_ → _) ∧ (_ → _)
        rw [show (132 ≤ Int32.ofNat k) ↔ 132 ≤ k from nat_le (p := 132) (by omega) (by omega), nat_c (by omega), nat_s (by omega)]
        refine ⟨fun z => e1 (by omega), fun z => ⟨nat_v (by omega) (by omega), nat_v (by omega) (by omega), e2 (by omega)⟩⟩
      refine t_copy (cnt := 20) (p1 := m + 28) (p2 := m + 29) (q1 := m + 31) (q2 := m + 32) (P := fun s => Q (gI s m 16) (pI s m 59 0)) (by omega) (by omega) (fun K k s g hk1 e1 e2 => ?_) (fun s2 g2 ht2 => ?_)
      · show (_ → _) ∧ (_ → _)
        rw [show (20 ≤ Int32.ofNat k) ↔ 20 ≤ k from nat_le (p := 20) (by omega) (by omega), nat_c (by omega), nat_s (by omega)]
        have v : 20 ≤ k ∨ vp_in (Int32.ofNat k) 20 := (Nat.lt_or_ge k 20).elim (fun h => Or.inr (nat_v (by omega) (by omega))) Or.inl
        exact ⟨fun z => e1 (by omega), fun z => ⟨v.resolve_left z, v.resolve_left z, v.resolve_left z, v.resolve_left z, e2 (by omega)⟩⟩
      have lo : ∀ k, gI s2 m k = gI s0 m k := fun k => by rw [g2.gi (by omega), g1.gi (by omega)]
      have e16 : gI s2 m 16 = Int32.ofNat IN.length := by rw [lo]; exact a16
      show Q (gI s2 m 16) (pI s2 m 59 0)
      rw [e16]
      have hc : Ch (fun a k => (a = m ∧ (k = 2 ∨ k = 16 ∨ k = 67 ∨ k = 59)) ∨ a = m + 16 ∨ a = m + 28 ∨ a = m + 29) τ (pI s2 m 59 0) := (((c0.up (fun a k q => by omega)).tr (g1.up (fun a k q => by omega))).tr (g2.up (fun a k q => by omega))).i (a := m) (k := 59) (by omega)
      have hw' : Ch (SMp m) τ (pI s2 m 59 0) := hc.up (fun a k q => by unfold SMp; omega)
      refine hQ _ hw' (M0.of hw' rfl ⟨by rw [pIo (by omega)]; exact e16, n12, fun i w hi => ⟨hO.2 i w hi, ?_⟩⟩ (MF.fr (S := S) f' (fun k _ => hc.gi (by omega)) (fun k => hc.gi (by omega))) ⟨by rw [pIo (by omega), lo]; exact a67, fun i x hi => ?_⟩ ⟨by rw [gI_pI, if_pos ⟨rfl, rfl⟩]; rfl, fun i x hi => (by cases hi)⟩ (MI2.fr (I := some (IN, IT)) ⟨j70, j71, j72, n12, jN, jT⟩ (fun k _ _ => hc.gi (by omega)) (fun k => ⟨hc.gi (by omega), hc.gi (by omega), hc.gi (by omega)⟩))) (by rw [pIo (by omega), lo]; exact a2)
      · have il : i < IN.length := get_lt hi
        refine mNw.cp (m := m + 14) (jN i w hi) (fun k q1 q2 => ?_)
        show _ = gI τ (m + 30) k
        rw [pIo (by omega), g2.gi (by omega), hn1 k (by omega), c0.gi (by omega)]
      · have il : i < IT.length := get_lt hi
        rw [pIo (by omega), pIo (by omega), (ht2 i (by omega)).1, (ht2 i (by omega)).2, g1.gi (by omega), g1.gi (by omega), c0.gi (by omega), c0.gi (by omega)]
        exact jT i x hi
end
