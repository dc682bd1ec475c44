set_option maxRecDepth 100000
/-! FAULT, SIZE, TOLD, FORGET -/
theorem LNt.fr2 {o : Nat} {σ σ' : Hp} {R : RlA} {N : List NoteW} (h : LNt o σ R N) (h9 : gI σ' o 9 = gI σ o 9) (hn : ∀ i a k, i < 12 → o + 38 + 6 * i ≤ a → a < o + 38 + 6 * i + 3 → gI σ' a k = gI σ a k) (h35 : ∀ k, gI σ' (o + 35) k = gI σ (o + 35) k) (hl : ∀ a k, o + 23 ≤ a → a < o + 35 → gL σ' a k = gL σ a k) : LNt o σ' R N := by
  obtain ⟨h1, h2, h3, h4⟩ := h
  refine ⟨h9.trans h1, h2, fun i w hi => ⟨(h3 i w hi).1, (h3 i w hi).2.fr (fun a k q1 q2 => hn i a k ?_ q1 q2)⟩, fun i w hi hz => ?_⟩
  · have := get_lt hi; omega
  · have := get_lt hi
    rw [h35] at hz
    exact (h4 i w hi hz).fr (fun k => hl _ _ (by omega) (by omega))
theorem MN.fr {m : Nat} {τ τ' : Hp} {R : RlA} {N : List NoteW} (h : MN m τ R N) (h16 : gI τ' m 16 = gI τ m 16) (hn : ∀ k, gI τ' (m + 16) k = gI τ (m + 16) k) : MN m τ' R N := ⟨h16.trans h.1, h.2.1, fun i w hi => ⟨(h.2.2 i w hi).1, (h.2.2 i w hi).2.fr (fun k _ _ => hn k)⟩⟩
theorem TR2.push {σ σ' : Hp} {a b : Nat} {T : List Tld} {t : Tld} (h : TR2 σ a b T) (ha : gI σ' a T.length = t.1) (hb : gI σ' b T.length = t.2) (fa : ∀ k, k < T.length → gI σ' a k = gI σ a k) (fb : ∀ k, k < T.length → gI σ' b k = gI σ b k) : TR2 σ' a b (T ++ [t]) := fun i x hi => by
  rcases put_get hi with ⟨q1, q2⟩ | ⟨q1, q2⟩
  · rw [fa i q1, fb i q1]; exact h i x q2
  · rw [q1, q2]; exact ⟨ha, hb⟩
def setT (S : PlS) (T : List Tld) : PlS := (S.1, S.2.1, yR S, yN S, T, yI S, yU S)
theorem PlOk.s {n : Nat} {S : PlS} (h : PlOk n S) : PlOk (n + 1) S := ⟨h.1, h.2.1, h.2.2.1, h.2.2.2.1, Nat.le_succ_of_le h.2.2.2.2⟩
section
variable {o c z m n : Nat} {σ τ : Hp} {S : PlS}
theorem p_fault {x : Int32} (hL : RepL o c z σ S) (hM : RepM m τ S) : ∃ v, PLl o c z σ (fv True (f_X1_fault o c σ x) σ) v S ∧ PMl m τ (fw True (f_X6_fault m τ x)) v S := by
  refine ⟨f_X1_fault o c σ x, pl_f hL trivial rfl, pm_f hM trivial ?_⟩
  obtain ⟨-, -, a, b⟩ := hL.2.2.2.2.2.1
  obtain ⟨-, -, a', b'⟩ := hM.2.2.2.2.1
  unfold f_X6_fault f_X1_fault
  rw [a, b, a', b']
  repeat' split
  all_goals rfl
theorem p_size {x : Int32} (hL : RepL o c z σ S) (hM : RepM m τ S) : ∃ v, PLl o c z σ (fv True (f_X1_size o c σ x) σ) v S ∧ PMl m τ (fw True (f_X6_size m τ x)) v S := by
  refine ⟨f_X1_size o c σ x, pl_f hL trivial rfl, pm_f hM trivial ?_⟩
  obtain ⟨-, -, -, q, c10, -, t, u, -⟩ := hL
  obtain ⟨-, -, -, q', -, t', u', -⟩ := hM
  obtain ⟨l1, l2, l3, l4, l5, l6⟩ := q.1.1
  obtain ⟨h1, h2, c1, c2, c3, c4, c5, c6, c7⟩ := q'.1
  have s3 : gI (pI τ m 2 0) (m + 3) 0 = aS (yR S) 0 := by rw [pIo (by omega)]; exact m_sky q'.1 (by omega)
  have e1 : f_J2_size (c + 1) 4 σ = Int32.ofNat (aL (yR S)).length := l1.1
  have e2 : f_J2_size (c + 3) 4 σ = Int32.ofNat (aF (yR S)).length := l2.1
  have e3 : f_J2_size (c + 5) 6 σ = Int32.ofNat (aP (yR S)).length := l3.1
  have e4 : f_J2_size (c + 7) 4 σ = Int32.ofNat (aD (yR S)).length := l4.1
  unfold f_X6_size f_X1_size
  rw [e1, e2, e3, e4, c1, c2, c3, c4, q.2.1, q'.2.1, c10, c6, l6.1, s3, t.1, t'.1, u.1, u'.1]
  repeat' split
  all_goals rfl
theorem p_forget (hz : o + 110 ≤ z) (hk : PlOk n S) (hL : RepL o c z σ S) : ∃ v S', PlOk (n + 1) S' ∧ PLl o c z σ (fw True (f_X1_forget o c σ)) v S' ∧ ∀ τ, RepM m τ S → PMl m τ (fw True (f_X6_forget m τ)) v S' := by
  have L0 := hL
  obtain ⟨-, -, -, q, c10, f, t, u, i⟩ := hL
  have hk' : PlOk (n + 1) (setT S []) := ⟨hk.1, ⟨Nat.zero_le _, fun i t h => (by cases h)⟩, hk.2.2.1, hk.2.2.2.1, Nat.le_succ_of_le hk.2.2.2.2⟩
  refine ⟨Int32.ofNat (yT S).length, setT S [], hk', fun Q hQ => ⟨trivial, ?_⟩, fun τ hM Q hQ => ⟨trivial, ?_⟩⟩
  · unfold f_X1_forget
    rw [t.1]
    have hc : Ch (fun a k => a = o ∧ k = 11) σ (pI σ o 11 0) := Ch.rf.i ⟨rfl, rfl⟩
    refine hQ _ (hc.up (fun a k q => Or.inl q.1)) (L0.of hz (hc.up (fun a k q => Or.inl q.1)) rfl (q.2.fr2 (hc.gi (by omega)) (fun i a k _ _ _ => hc.gi (by omega)) (fun k => hc.gi (by omega)) (fun a k _ _ => hc.gl (by omega))) (LF.fr (S := S) f (fun k _ _ => hc.gi (by omega)) (fun k => hc.gi (by omega))) ⟨?_, fun i t h => (by cases h)⟩ (u.fr (hc.gi (by omega)) (fun k => hc.gi (by omega))) (i.fr (fun k _ => hc.gi (by omega)) (fun k => ⟨hc.gi (by omega), hc.gi (by omega)⟩) (fun i a k _ _ _ => hc.gi (by omega))))
    rw [gI_pI, if_pos ⟨rfl, rfl⟩]; rfl
  · have M0 := hM
    obtain ⟨-, -, -, q', f', t', u', i'⟩ := hM
    unfold f_X6_forget
    rw [t'.1]
    have hc : Ch (fun a k => a = m ∧ (k = 2 ∨ k = 67)) τ (pI (pI τ m 2 0) m 67 0) := (Ch.rf.i ⟨rfl, by omega⟩).i ⟨rfl, by omega⟩
    refine hQ _ (hc.up (fun a k q => by unfold SMp; omega)) (M0.of (hc.up (fun a k q => by unfold SMp; omega)) rfl (q'.2.fr (hc.gi (by omega)) (fun k => hc.gi (by omega))) (MF.fr (S := S) f' (fun k _ => hc.gi (by omega)) (fun k => hc.gi (by omega))) ⟨?_, fun i t h => (by cases h)⟩ (u'.fr (hc.gi (by omega)) (fun k => hc.gi (by omega))) (i'.fr (fun k _ _ => hc.gi (by omega)) (fun k => ⟨hc.gi (by omega), hc.gi (by omega), hc.gi (by omega)⟩))) ?_
    · rw [gI_pI, if_pos ⟨rfl, rfl⟩]; rfl
    · rw [pIo (by omega), gI_pI, if_pos ⟨rfl, rfl⟩]
theorem p_told {x y : Int32} (hz : o + 110 ≤ z) (hk : PlOk n S) (hL : RepL o c z σ S) : ∃ v S', PlOk (n + 1) S' ∧ PLl o c z σ (fw (ok_X1_told o c σ x y) (f_X1_told o c σ x y)) v S' ∧ ∀ τ, RepM m τ S → PMl m τ (fw (ok_X6_told m τ x y) (f_X6_told m τ x y)) v S' := by
  have L0 := hL
  obtain ⟨-, -, -, q, c10, f, t, u, i⟩ := hL
  have n12 := q.2.2.1
  have t20 := hk.2.1.1
  have il := l_isNote q x
  have imx := fun τ (hM : RepM m τ S) => m_isNote (show MQt m (yR S) (yN S) (pI τ m 2 0) from hM.2.2.2.1.n t0n) x
  have wl : f_X1_in y.toInt64 0 19999 = 0 ↔ ¬ (0 ≤ y.toInt ∧ y.toInt ≤ 19999) := in_iff (i2_l y) (by rfl) (by rfl)
  have wm : f_X6_isIn y 0 19999 = 0 ↔ ¬ (0 ≤ y.toInt ∧ y.toInt ≤ 19999) := isIn_iff y 0 19999
  have e20 : Int32.ofNat (yT S).length = 20 ↔ (yT S).length = 20 := nat_e (q := 20) (by omega) (by omega)
  by_cases ok : (0 ≤ x.toInt ∧ x.toInt < (yN S).length) ∧ (0 ≤ y.toInt ∧ y.toInt ≤ 19999) ∧ ¬ (yT S).length = 20
  · obtain ⟨k1, k2, k3⟩ := ok
    have k1l : ¬ f_X1_isNote o c σ x = 0 := fun z => il.mp z k1
    have k1mx : ∀ τ, RepM m τ S → ¬ f_X6_isNote m (pI τ m 2 0) x = 0 := fun τ hM z => (imx τ hM).mp z k1
    have k2l : ¬ f_X1_in y.toInt64 0 19999 = 0 := fun z => wl.mp z k2
    have k2m : ¬ f_X6_isIn y 0 19999 = 0 := fun z => wm.mp z k2
    have k3' : ¬ Int32.ofNat (yT S).length = 20 := fun z => k3 (e20.mp z)
    have vt : vp_in (Int32.ofNat (yT S).length) 20 := nat_v (by omega) (by omega)
    have hT' : TOk (yT S ++ [(x, y)]) := by
      refine ⟨by rw [List.length_append]; show _ + 1 ≤ 20; omega, fun i t hi => ?_⟩
      rcases put_get hi with ⟨a, b⟩ | ⟨a, b⟩
      · exact hk.2.1.2 i t b
      · rw [b]; exact ⟨⟨k1.1, by show x.toInt < 12; omega⟩, k2⟩
    refine ⟨Int32.ofNat ((yT S).length + 1), setT S (yT S ++ [(x, y)]), ⟨hk.1, hT', hk.2.2.1, hk.2.2.2.1, Nat.le_succ_of_le hk.2.2.2.2⟩, fun Q hQ => ⟨?_, ?_⟩, fun τ hM Q hQ => ⟨?_, ?_⟩⟩
    · unfold ok_X1_told
      rw [t.1]
      exact ⟨in_01 _ _ _, cF k1l (cF k2l (cF k3' ⟨vt, vt⟩))⟩
    · unfold f_X1_told
      rw [if_neg k1l, if_neg k2l, t.1, if_neg k3', nat_c (by omega), nat_s (by omega)]
      have hc : Ch (fun a k => a = o + 18 ∨ a = o + 19 ∨ (a = o ∧ k = 11)) σ (pI (pI (pI σ (o + 18) (yT S).length x) (o + 19) (yT S).length y) o 11 (Int32.ofNat ((yT S).length + 1))) := ((Ch.rf.i (Or.inl rfl)).i (Or.inr (Or.inl rfl))).i (Or.inr (Or.inr ⟨rfl, rfl⟩))
      refine hQ _ (hc.up (fun a k q => by unfold SLw; omega)) (L0.of hz (hc.up (fun a k q => by unfold SLw; omega)) rfl (q.2.fr2 (hc.gi (by omega)) (fun i a k _ _ _ => hc.gi (by omega)) (fun k => hc.gi (by omega)) (fun a k _ _ => hc.gl (by omega))) (LF.fr (S := S) f (fun k _ _ => hc.gi (by omega)) (fun k => hc.gi (by omega))) ⟨?_, TR2.push t.2 ?_ ?_ (fun k hk => ?_) (fun k hk => ?_)⟩ (u.fr (hc.gi (by omega)) (fun k => hc.gi (by omega))) (i.fr (fun k _ => hc.gi (by omega)) (fun k => ⟨hc.gi (by omega), hc.gi (by omega)⟩) (fun i a k _ _ _ => hc.gi (by omega))))
      · show gI (pI (pI (pI σ (o + 18) (yT S).length x) (o + 19) (yT S).length y) o 11 (Int32.ofNat ((yT S).length + 1))) o 11 = Int32.ofNat (yT S ++ [(x, y)]).length
        rw [gI_pI, if_pos ⟨rfl, rfl⟩, List.length_append]; rfl
      · rw [pIo (by omega), pIo (by omega), gI_pI, if_pos ⟨rfl, rfl⟩]
      · rw [pIo (by omega), gI_pI, if_pos ⟨rfl, rfl⟩]
      · rw [pIo (by omega), pIo (by omega), pIo (by omega)]
      · rw [pIo (by omega), pIo (by omega), pIo (by omega)]
    · have k1m := k1mx τ hM
      obtain ⟨-, -, -, q', f', t', u', i'⟩ := hM
      unfold ok_X6_told
      rw [t'.1]
      exact cF k3' (cF k1m (cF k2m ⟨vt, vt⟩))
    · have M0 := hM
      have k1m := k1mx τ hM
      obtain ⟨-, -, -, q', f', t', u', i'⟩ := hM
      unfold f_X6_told
      rw [t'.1, if_neg k3', if_neg k1m, if_neg k2m, nat_c (by omega), nat_s (by omega)]
      have hc : Ch (fun a k => a = m + 28 ∨ a = m + 29 ∨ (a = m ∧ (k = 67 ∨ k = 2))) τ (pI (pI (pI (pI τ m 2 0) (m + 28) (yT S).length x) (m + 29) (yT S).length y) m 67 (Int32.ofNat ((yT S).length + 1))) := (((Ch.rf.i (Or.inr (Or.inr ⟨rfl, by omega⟩))).i (Or.inl rfl)).i (Or.inr (Or.inl rfl))).i (Or.inr (Or.inr ⟨rfl, by omega⟩))
      refine hQ _ (hc.up (fun a k q => by unfold SMp; omega)) (M0.of (hc.up (fun a k q => by unfold SMp; omega)) rfl (q'.2.fr (hc.gi (by omega)) (fun k => hc.gi (by omega))) (MF.fr (S := S) f' (fun k _ => hc.gi (by omega)) (fun k => hc.gi (by omega))) ⟨?_, TR2.push t'.2 ?_ ?_ (fun k hk => ?_) (fun k hk => ?_)⟩ (u'.fr (hc.gi (by omega)) (fun k => hc.gi (by omega))) (i'.fr (fun k _ _ => hc.gi (by omega)) (fun k => ⟨hc.gi (by omega), hc.gi (by omega), hc.gi (by omega)⟩))) ?_
      · show gI (pI (pI (pI (pI τ m 2 0) (m + 28) (yT S).length x) (m + 29) (yT S).length y) m 67 (Int32.ofNat ((yT S).length + 1))) m 67 = Int32.ofNat (yT S ++ [(x, y)]).length
        rw [gI_pI, if_pos ⟨rfl, rfl⟩, List.length_append]; rfl
      · rw [pIo (by omega), pIo (by omega), gI_pI, if_pos ⟨rfl, rfl⟩]
      · rw [pIo (by omega), gI_pI, if_pos ⟨rfl, rfl⟩]
      · rw [pIo (by omega), pIo (by omega), pIo (by omega), pIo (by omega)]
      · rw [pIo (by omega), pIo (by omega), pIo (by omega), pIo (by omega)]
      · rw [pIo (by omega), pIo (by omega), pIo (by omega), gI_pI, if_pos ⟨rfl, rfl⟩]
  · refine ⟨-1, S, hk.s, fun Q hQ => ?_, fun τ hM Q hQ => ?_⟩
    · unfold fw ok_X1_told f_X1_told
      rw [t.1]
      have g := hQ σ Ch.rf L0
      by_cases k1 : f_X1_isNote o c σ x = 0
      · rw [if_pos k1]; exact ⟨⟨in_01 _ _ _, cT k1 trivial⟩, g⟩
      rw [if_neg k1]
      by_cases k2 : f_X1_in y.toInt64 0 19999 = 0
      · rw [if_pos k2]; exact ⟨⟨in_01 _ _ _, cF k1 (cT k2 trivial)⟩, g⟩
      rw [if_neg k2]
      by_cases k3 : Int32.ofNat (yT S).length = 20
      · rw [if_pos k3]; exact ⟨⟨in_01 _ _ _, cF k1 (cF k2 (cT k3 trivial))⟩, g⟩
      · exact absurd ⟨Classical.byContradiction (fun z => k1 (il.mpr z)), Classical.byContradiction (fun z => k2 (wl.mpr z)), fun z => k3 (e20.mpr z)⟩ ok
    · have M0 := hM
      have im := imx τ hM
      obtain ⟨-, -, -, q', f', t', u', i'⟩ := hM
      unfold fw ok_X6_told f_X6_told
      rw [t'.1]
      have g := hQ _ (t0n.up (fun a k q => q.p)) (M0.q t0n) t0_2
      by_cases k3 : Int32.ofNat (yT S).length = 20
      · rw [if_pos k3]; exact ⟨cT k3 trivial, g⟩
      rw [if_neg k3]
      by_cases k1 : f_X6_isNote m (pI τ m 2 0) x = 0
      · rw [if_pos k1]; exact ⟨cF k3 (cT k1 trivial), g⟩
      rw [if_neg k1]
      by_cases k2 : f_X6_isIn y 0 19999 = 0
      · rw [if_pos k2]; exact ⟨cF k3 (cF k1 (cT k2 trivial)), g⟩
      · exact absurd ⟨Classical.byContradiction (fun z => k1 (im.mpr z)), Classical.byContradiction (fun z => k2 (wm.mpr z)), fun z => k3 (e20.mpr z)⟩ ok
end
