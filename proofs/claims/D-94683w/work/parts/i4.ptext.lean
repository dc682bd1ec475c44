set_option maxRecDepth 100000
/-! TEXT -/
theorem nSTb0 {m k : Nat} (h : 12 ≤ k ∧ k ≤ 17 ∨ k = 24 ∨ (53 ≤ k)) : ¬ STb m m k := by
  rintro (q | ⟨_, q⟩)
  · exact nSRd (by omega) q
  · omega
theorem nSTb {m r k : Nat} (hr : 1 ≤ r) (h : r = 1 ∨ r = 2 ∨ (r = 3 ∧ k < 7) ∨ (r = 4 ∧ k < 4) ∨ (r = 5 ∧ k < 12) ∨ ((r = 6 ∨ r = 7 ∨ r = 8) ∧ k < 4) ∨ ((r = 9 ∨ r = 10 ∨ r = 11) ∧ k < 6) ∨ ((r = 12 ∨ r = 13) ∧ k < 4) ∨ (r = 14 ∧ k < 12) ∨ (r = 15 ∧ k < 6) ∨ (r = 16 ∧ k < 132) ∨ ((r = 17 ∨ r = 18 ∨ r = 19) ∧ k < 64) ∨ 22 ≤ r) : ¬ STb m (m + r) k := by
  rintro ((⟨q, _⟩ | ⟨q, p⟩ | ⟨q, p⟩ | ⟨q, p⟩ | ⟨q, p⟩ | ⟨q, p⟩ | ⟨q, p⟩ | ⟨q, p⟩ | ⟨q, p⟩ | ⟨q, p⟩ | ⟨q, p⟩ | q | q) | ⟨q, _⟩) <;> omega
theorem MKr.b {m : Nat} {τ τ' : Hp} {R : RlA} (h : MKr m τ R) (hc : Ch (STb m) τ τ') : MKr m τ' R := by
  obtain ⟨h1, h2, c1, c2, c3, c4, c5, c6, c7⟩ := h
  obtain ⟨b1, b2, b3, b4, b5, b6⟩ := h2
  have n0 : (aN (rnN R)).length = 0 := rfl
  have l1 : (aL (rnN R)).length ≤ 4 := b1
  have l2 : (aF (rnN R)).length ≤ 4 := b2
  have l3 : (aP (rnN R)).length ≤ 6 := b3
  have l4 : (aD (rnN R)).length ≤ 4 := b4
  have l6 : aK (rnN R) ≤ 64 := b6
  have hu : ∀ a k, US m 0 (rnN R) a k → ¬ STb m a k := fun a k q => q.by (fun k _ _ => nSTb (by omega) (by omega)) (fun k _ _ => nSTb (by omega) (by omega)) (fun k _ _ => ⟨nSTb (by omega) (by omega), nSTb (by omega) (by omega), nSTb (by omega) (by omega)⟩) (fun k _ _ => ⟨nSTb (by omega) (by omega), nSTb (by omega) (by omega), nSTb (by omega) (by omega)⟩) (fun k _ _ => ⟨nSTb (by omega) (by omega), nSTb (by omega) (by omega)⟩) (fun k _ _ => nSTb (by omega) (by omega)) (fun k _ q => by rw [n0] at q; omega) (fun k _ q => by rw [n0] at q; omega) (fun k _ _ => nSTb (by omega) (by omega)) (fun k _ _ => ⟨nSTb (by omega) (by omega), nSTb (by omega) (by omega), nSTb (by omega) (by omega)⟩)
  refine ⟨h1.fr (fun a k q => hc.2 a k (hu a k q)), ⟨b1, b2, b3, b4, b5, b6⟩, ?_, ?_, ?_, ?_, ?_, ?_, fun i x hi => ?_⟩
  · rw [hc.gi (nSTb0 (by omega))]; exact c1
  · rw [hc.gi (nSTb0 (by omega))]; exact c2
  · rw [hc.gi (nSTb0 (by omega))]; exact c3
  · rw [hc.gi (nSTb0 (by omega))]; exact c4
  · rw [hc.gi (nSTb0 (by omega))]; exact c5
  · rw [hc.gi (nSTb0 (by omega))]; exact c6
  · have := get_lt hi
    rw [hc.gi (nSTb (by omega) (by omega))]; exact c7 i x hi
/-- LongYears' frame under a text's reading -/
theorem FTx.rf {o : Nat} {σ : Hp} : FTx o σ σ := ⟨Nat.le_refl _, fun _ _ => ⟨rfl, fun _ => ⟨fun _ _ => rfl, fun _ => ⟨rfl, rfl⟩⟩⟩⟩
theorem nSTl {o a k : Nat} (h : a ≠ o + 2 ∧ ¬ (a = o ∧ (k = 1 ∨ k = 2 ∨ k = 3 ∨ k = 9 ∨ k = 11 ∨ k = 14 ∨ k = 15)) ∧ a ≠ o + 35 ∧ (a < o + 38 ∨ o + 110 ≤ a ∨ (a - (o + 38)) % 6 ≥ 3)) : ¬ STl o a k := by
  rintro (q | q | q | ⟨j, hj, q⟩)
  · exact h.1 q
  · exact h.2.1 q
  · exact h.2.2.1 q
  · unfold SBe at q; omega
theorem snd_get {l : List NoteA} {i : Nat} {w : NoteW} (h : (l.map Prod.snd)[i]? = some w) : ∃ x, l[i]? = some x ∧ w = x.2 := by
  rw [List.getElem?_map] at h
  cases hx : l[i]? with
  | none => rw [hx] at h; cases h
  | some x => rw [hx] at h; cases h; exact ⟨x, rfl, rfl⟩
section
variable {o c z m n : Nat} {σ τ : Hp} {S : PlS}
theorem p_text {x : Int32} {Mx : Nat} (hz : o + 110 ≤ z) (hzs : z ≤ gS σ) (hMx : gS σ + 3700 ≤ Mx) (hk : PlOk n S) (hL : RepL o c z σ S) : ∃ v S' c', PlOk (n + 1) S' ∧ (∀ Q : Int32 → Hp → Prop, (∀ σ', FTx o σ σ' → RepL o c' z σ' S' → Q v σ') → wp_X1_text o c σ x Mx Q) ∧ (∀ τ, RepM m τ S → ∀ Q : Int32 → Hp → Prop, (∀ τ', Ch (STx m) τ τ' → RepM m τ' S' → gI τ' m 2 = 0 → Q v τ') → wp_X6_text m τ x Q) := by
  have L0 := hL
  obtain ⟨lb, lz, cz, q, c10, f, t, u, i⟩ := hL
  obtain ⟨f1, f2, f3, f4⟩ := f
  have f9 := f2.1
  have t2 : ∀ τ : Hp, Ch (STx m) τ (pI τ m 2 0) := fun τ => Ch.rf.i (Or.inl (Or.inr ⟨rfl, by omega⟩))
  by_cases ok : 0 ≤ x.toInt ∧ x.toInt ≤ yF S
  rotate_left
  · refine ⟨-2, S, c, hk.s, fun Q hQ => ?_, fun τ hM Q hQ => ?_⟩
    · unfold wp_X1_text
      rw [f1]
      exact cT ((in_iff (x := x.toInt) (y := 0) (z := (yF S : Int)) (by rw [Int32.toInt_toInt64]) (by rfl) (by rw [Int32.toInt_toInt64]; exact nat_i (by omega))).mpr ok) (hQ σ FTx.rf L0)
    · have g := hQ _ (t2 τ) (hM.q t0n) t0_2
      unfold wp_X6_text
      rw [hM.2.2.2.2.1.1, i3_lt rfl (y := 0) (by rfl), i3_le rfl (nat_i (by omega))]
      exact ⟨fun _ => g, fun a => ⟨fun b => absurd ⟨by omega, b⟩ ok, fun _ => g⟩⟩
  obtain ⟨k, hk1, rfl⟩ := idx (x := x) (n := yF S + 1) (by omega) (by omega)
  have hkf : k ≤ yF S := by omega
  have tb : TB0 o (yB S) k σ := ⟨by omega, fun i hi => f2.2 i (by omega)⟩
  have bmx : ∀ τ, RepM m τ S → ∀ i, i < k → 0 ≤ (yB S i).toInt ∧ (yB S i).toInt ≤ 255 ∧ gI τ (m + 1) i = yB S i := fun τ hM i hi => ⟨(f2.2 i (by omega)).1, (f2.2 i (by omega)).2.1, hM.2.2.2.2.1.2.1 i (by omega)⟩
  cases hx : textS (yB S) k with
  | inl X =>
    obtain ⟨R, ln⟩ := X
    have jk := tx_ok hx
    have nl : ((aN R).map Prod.snd).length = (aN R).length := List.length_map _
    have n6 := jk.2.2.2.2.2
    refine ⟨Int32.ofNat ln, ((0, yB S), (0, -1), R, (aN R).map Prod.snd, [], none, []), gS σ, ⟨jk.1, ⟨Nat.zero_le _, fun i t h => (by cases h)⟩, fun IN IT h => (by cases h), trivial, Nat.zero_le _⟩, fun Q hQ => ?_, fun τ hM Q hQ => ?_⟩
    · refine l_text lb lz hkf f9 f1 tb (by omega) (fun R' k' σ' e a1 a2 a3 a4 a5 a6 a7 b1 b2 b3 b4 b5 b6 b7 b8 b9 lb' => ?_) (fun k' pl σ' e => by rw [hx] at e; cases e)
      rw [hx] at e
      cases e
      refine hQ σ' a1 ⟨lb', by have := a1.1; omega, Or.inr hzs, ⟨⟨a3, a5, Or.inl (by omega)⟩, ?_⟩, a4, ⟨b1, ⟨Nat.zero_le _, fun i hi => absurd hi (Nat.not_lt_zero _)⟩, b2, b3⟩, ⟨b5, fun i t h => (by cases h)⟩, ⟨b6, fun i t h => (by cases h)⟩, b7⟩
      refine ⟨b4.trans (by rw [← nl]; rfl), by show ((aN R).map Prod.snd).length ≤ 12; omega, fun i w hi => ?_, fun i w hi hl => absurd (b8 i ?_) hl⟩
      · obtain ⟨x, hx1, rfl⟩ := snd_get hi
        exact ⟨jk.1.2.2.2.2 i x hx1, b9 i x hx1⟩
      · have : i < ((aN R).map Prod.snd).length := get_lt hi
        omega
    · have bm := bmx τ hM
      obtain ⟨mb, mz, ws, q', f', t', u', i'⟩ := hM
      obtain ⟨f1', f2', f3', f4'⟩ := f'
      refine m_text hkf f9 f1' bm ws (fun R' k' τ' e a1 a2 a3 a4 b1 b2 b3 b4 b5 b6 b7 b8 => ?_) (fun k' pl σ' e => by rw [hx] at e; cases e)
      rw [hx] at e
      cases e
      refine hQ τ' a1 ⟨mb.sh a1.1, by rw [a1.gs]; exact mz, fun i hi => ?_, ⟨a2.r b5, ?_⟩, ⟨b1, fun i hi => absurd hi (Nat.not_lt_zero _), b3, b4⟩, ⟨b6, fun i t h => (by cases h)⟩, ⟨b7, fun i t h => (by cases h)⟩, b8⟩ b2
      · rw [a1.gi ?_]; exact ws i hi
        rintro (w | (⟨w, _⟩ | ⟨r, w1, _, w2, _⟩))
        · exact nSTb (by omega) (by omega) w
        · omega
        · omega
      · obtain ⟨⟨-, -, -, -, h5, -⟩, -, -, -, -, -, c5, -⟩ := a2
        refine ⟨c5.trans (by rw [← nl]; rfl), by show ((aN R).map Prod.snd).length ≤ 12; omega, fun i w hi => ?_⟩
        obtain ⟨x, hx1, rfl⟩ := snd_get hi
        have h5 := (h5 i x hx1).2
        rw [show 132 * 0 + 11 * i = 11 * i by omega] at h5
        exact ⟨jk.1.2.2.2.2 i x hx1, h5⟩
  | inr X =>
    obtain ⟨kd, pl⟩ := X
    refine ⟨-1, ((0, yB S), (kd, Int32.ofNat pl), S.2.2), c, hk.s, fun Q hQ => ?_, fun τ hM Q hQ => ?_⟩
    · refine l_text lb lz hkf f9 f1 tb (by omega) (fun R' k' σ' e => by rw [hx] at e; cases e) (fun k' pl' σ' e a1 a2 a3 b1 b2 b3 lb' => ?_)
      rw [hx] at e
      cases e
      have n12 := q.2.2.1
      have gi : ∀ a k, a < gS σ → a ≠ o + 2 → ¬ (a = o ∧ (k = 1 ∨ k = 2 ∨ k = 3)) → gI σ' a k = gI σ a k := fun a k h1 h2 h3 => a2 a k h1 h2 h3
      have gl : ∀ a k, a < gS σ → ¬ STl o a k → gL σ' a k = gL σ a k := fun a k h1 h2 => (((a1.2 a h1).2 k).2 h2).2
      have lrx : LRx o c σ' (yR S) := q.1.fr a1.1 (fun a w1 w2 => ⟨(a1.2 a w2).1, fun k => ⟨((a1.2 a w2).2 k).1 (by omega) (by omega), gi a k w2 (by omega) (by omega), gl a k w2 (nSTl (by omega))⟩⟩)
      have cs := q.1.2.1
      refine hQ σ' a1 ⟨lb', by have := a1.1; omega, cz, ⟨lrx, ?_⟩, ?_, ⟨b1, ⟨Nat.zero_le _, fun i hi => absurd hi (Nat.not_lt_zero _)⟩, b2, b3⟩, t.fr (gi _ _ (by omega) (by omega) (by omega)) (fun k => gi _ _ (by omega) (by omega) (by omega)) (fun k => gi _ _ (by omega) (by omega) (by omega)), u.fr (gi _ _ (by omega) (by omega) (by omega)) (fun k => gi _ _ (by omega) (by omega) (by omega)), i.fr (fun k _ => gi _ _ (by omega) (by omega) (by omega)) (fun k => ⟨gi _ _ (by omega) (by omega) (by omega), gi _ _ (by omega) (by omega) (by omega)⟩) (fun i a k _ _ _ => gi _ _ (by omega) (by omega) (by omega))⟩
      · exact q.2.fr2 (gi _ _ (by omega) (by omega) (by omega)) (fun i a k _ _ _ => gi _ _ (by omega) (by omega) (by omega)) (fun k => gi _ _ (by omega) (by omega) (by omega)) (fun a k _ _ => gl _ _ (by omega) (nSTl (by omega)))
      · rw [gi _ _ (by omega) (by omega) (by omega)]; exact c10
    · have bm := bmx τ hM
      obtain ⟨mb, mz, ws, q', f', t', u', i'⟩ := hM
      obtain ⟨f1', f2', f3', f4'⟩ := f'
      refine m_text hkf f9 f1' bm ws (fun R' k' τ' e => by rw [hx] at e; cases e) (fun k' pl' τ' e a1 b1 b2 b3 b4 => ?_)
      rw [hx] at e
      cases e
      have n12 := q'.2.2.1
      refine hQ τ' (a1.up (fun a k w => Or.inl w)) ⟨mb.sh a1.1, by rw [a1.gs]; exact mz, fun i hi => by rw [a1.gi (nSTb (by omega) (by omega))]; exact ws i hi, ⟨q'.1.b a1, ⟨(a1.gi (nSTb0 (by omega))).trans q'.2.1, n12, fun i w hi => ⟨(q'.2.2.2 i w hi).1, (q'.2.2.2 i w hi).2.fr (fun k w1 w2 => a1.gi (nSTb (by omega) ?_))⟩⟩⟩, ⟨b1, fun i hi => absurd hi (Nat.not_lt_zero _), b3, b4⟩, t'.fr (a1.gi (nSTb0 (by omega))) (fun k => a1.gi (nSTb (by omega) (by omega))) (fun k => a1.gi (nSTb (by omega) (by omega))), u'.fr (a1.gi (nSTb0 (by omega))) (fun k => a1.gi (nSTb (by omega) (by omega))), i'.fr (fun k _ _ => a1.gi (nSTb0 (by omega))) (fun k => ⟨a1.gi (nSTb (by omega) (by omega)), a1.gi (nSTb (by omega) (by omega)), a1.gi (nSTb (by omega) (by omega))⟩)⟩ b2
      have : i < (yN S).length := get_lt hi
      omega
end
