set_option maxRecDepth 100000
theorem lst_get {α : Type} {d off cap : Nat} {P : Hp → Nat → α → Prop} {l : List α} {σ : Hp} {i : Nat} {x : α} (h : LST d off cap P l σ) (hc : cap ≤ 100) (hi : l[i]? = some x) : ∃ p, f_J2_get (d + off) cap σ (Int32.ofNat i) = p ∧ ok_J2_get (d + off) cap σ (Int32.ofNat i) ∧ d + 11 ≤ p ∧ P σ p x := by
  obtain ⟨h1, h2, h3⟩ := h
  have hl := get_lt hi
  obtain ⟨p, p1, p2, p3⟩ := h3 i x hi
  refine ⟨p, ?_, ⟨⟨fun w => ?_, fun _ => ⟨fun _ => trivial, fun w => ?_⟩⟩, nat_v (by omega) (by omega), ?_⟩, p2, p3⟩
  · unfold f_J2_get f_J2_elementData rf
    rw [nat_c (by omega), p1]; rfl
  · rw [i3_lt (nat_i (by omega)) (y := 0) (by rfl)] at w; omega
  · rw [h1, i3_lt (nat_i (by omega)) (nat_i (by omega))] at w; omega
  · rw [nat_c (by omega), p1]; exact Option.some_ne_none _
theorem LRl.up {d : Nat} {σ σ' : Hp} {R : RlA} (h : LRl d σ R) (hs : gS σ' = gS σ) (hc : ∀ a, d ≤ a → gT σ' a = gT σ a ∧ ∀ k, gR σ' a k = gR σ a k ∧ gI σ' a k = gI σ a k ∧ gL σ' a k = gL σ a k) : LRl d σ' R :=
  h.ag ⟨by omega, fun a q1 _ => hc a (by omega)⟩ (fun a k q1 _ _ _ => ((hc a q1).2 k).2.1) (fun k _ => ((hc d (Nat.le_refl _)).2 k).2.2) (fun a k q1 _ => ((hc a q1).2 k).1)
/-- what a text writes of what stood -/
def STl (o a k : Nat) : Prop := a = o + 2 ∨ (a = o ∧ (k = 1 ∨ k = 2 ∨ k = 3 ∨ k = 9 ∨ k = 11 ∨ k = 14 ∨ k = 15)) ∨ a = o + 35 ∨ ∃ j, j < 6 ∧ SBe (o + 38 + 6 * j) a k
def FTx (o : Nat) (σ σ' : Hp) : Prop := gS σ ≤ gS σ' ∧ ∀ a, a < gS σ → gT σ' a = gT σ a ∧ ∀ k, (¬ (a = o + 2 ∧ k = 7) → ¬ (a = o ∧ k = 5) → gR σ' a k = gR σ a k) ∧ (¬ STl o a k → gI σ' a k = gI σ a k ∧ gL σ' a k = gL σ a k)
theorem STl.lt {o a k : Nat} (h : STl o a k) : a < o + 110 := by
  rcases h with h | h | h | ⟨j, hj, h⟩
  · omega
  · omega
  · omega
  · unfold SBe at h; omega
theorem l_text {o c : Nat} {b : Nat → Int32} {n fed Mx : Nat} {σ : Hp} {Q : Int32 → Hp → Prop} (hL : LB o c σ) (hz : o + 110 ≤ gS σ) (hn : n ≤ fed) (hf : fed ≤ 900) (h1 : gI σ o 1 = Int32.ofNat fed) (hB : TB0 o b n σ) (hM : gS σ + 11 + 4 * n + 8 ≤ Mx)
    (hok : ∀ R k σ', textS b n = .inl (R, k) → FTx o σ σ' → gR σ' o 5 = some (gS σ) → LRl (gS σ) σ' R → gI σ' (gS σ) 10 = Int32.ofNat (aK R) → gS σ + 11 ≤ gS σ' → LsOk (aL R) → aK R ≤ 64 → gI σ' o 1 = 0 → gI σ' o 2 = 0 → gI σ' o 3 = -1 → gI σ' o 9 = Int32.ofNat (aN R).length → gI σ' o 11 = 0 → gI σ' o 14 = 0 → gI σ' o 15 = 0 → (∀ j, j < 12 → gI σ' (o + 35) j = 0) → (∀ i x, (aN R)[i]? = some x → pNw σ' (o + 38 + 6 * i) x.2) → LB o (gS σ) σ' → Q (Int32.ofNat k) σ')
    (hbad : ∀ k pl σ', textS b n = .inr (k, pl) → FTx o σ σ' → (∀ a i, a < gS σ → ¬ (a = o + 2) → ¬ (a = o ∧ (i = 1 ∨ i = 2 ∨ i = 3)) → gI σ' a i = gI σ a i) → gR σ' o 5 = gR σ o 5 → gI σ' o 1 = 0 → gI σ' o 2 = k → gI σ' o 3 = Int32.ofNat pl → LB o c σ' → Q (-1) σ') : wp_X1_text o c σ (Int32.ofNat n) Mx Q := by
  have t1 : ∀ a k, ¬ (a = o ∧ (k = 1 ∨ k = 2 ∨ k = 3)) → gI (tx1 o σ) a k = gI σ a k := fun a k q => by
    unfold tx1
    rw [pIo (by omega), pIo (by omega), pIo (by omega)]
  have u1 : gI (tx1 o σ) o 1 = 0 := by unfold tx1; simp [gI_pI]
  have u2 : gI (tx1 o σ) o 2 = 0 := by unfold tx1; simp [gI_pI]
  have u3 : gI (tx1 o σ) o 3 = -1 := by unfold tx1; simp [gI_pI]
  have B1 : TB0 o b n (tx1 o σ) := ⟨hB.1, fun i hi => by rw [t1 _ _ (by omega)]; exact hB.2 i hi⟩
  unfold wp_X1_text
  rw [h1, in_iff (x := (n : Int)) (y := 0) (z := (fed : Int)) (by rw [Int32.toInt_toInt64]; exact nat_i (by omega)) (by rfl) (by rw [Int32.toInt_toInt64]; exact nat_i (by omega))]
  refine ⟨fun q => absurd ⟨by omega, by omega⟩ q, fun _ => ?_⟩
  have hd : gS (tx1 o σ) = gS σ := rfl
  refine rd_read (c := o) B1 (by omega) (by rw [hd]; omega) (by rw [hd]; omega) ⟨hL.2.2.1.2.1, hL.2.2.1.2.2, hL.1, hL.r0, hL.a0⟩ (by rw [hd]; exact hM) (fun R ln s e f1 L1 g10 g11 gz lk k64 hGX hE => ?_) (fun k pl q s e f1 fl hGX => ⟨fl.1, ?_⟩)
  rotate_left
  · -- a fault
    have lbs : LB o c s := (LB.rd (show LB o c (tx1 o σ) from hL) (v := some (gS σ))).gx hGX
    have O := f1.2 o (by rw [hd]; omega)
    have qo : q ≠ o := fun w => by
      have := fl.1
      rw [w, O.1] at this
      have e : gT (tx1 o σ) o = some (.inl 1) := hL.1
      rw [e] at this
      cases this
    have nst : ∀ a k, ¬ (a = o + 2) → ¬ (a = o ∧ (k = 1 ∨ k = 2 ∨ k = 3)) → a < gS σ → gI (pI (pI s o 2 (gI s q 6)) o 3 (gI (pI s o 2 (gI s q 6)) q 7)) a k = gI σ a k := fun a k q1 q2 q3 => by
      rw [pIo (by omega), pIo (by omega), (((f1.2 a (by rw [hd]; exact q3)).2 k).2 q1).1, t1 _ _ q2]
    refine hbad k pl _ e ⟨f1.1, fun a ha => ⟨(f1.2 a ha).1, fun k => ⟨fun q1 _ => ((f1.2 a ha).2 k).1 q1, fun q1 => ⟨nst a k (fun w => q1 (Or.inl w)) (fun w => q1 (Or.inr (Or.inl ⟨w.1, by omega⟩))) ha, (((f1.2 a ha).2 k).2 (fun w => q1 (Or.inl w))).2⟩⟩⟩⟩ (fun a i q1 q2 q3 => nst a i q2 q3 q1) ((O.2 5).1 (by omega)) ?_ ?_ ?_ lbs.i.i
    · rw [pIo (by omega), pIo (by omega), ((O.2 1).2 (by omega)).1]; exact u1
    · rw [pIo (by omega), gI_pI, if_pos ⟨rfl, rfl⟩]; exact fl.2.1
    · rw [gI_pI, if_pos ⟨rfl, rfl⟩, pIo (by omega)]; exact fl.2.2
  · have e9 : f_J2_size (gS σ + 9) 6 (pR s o 5 (some (gS σ))) = Int32.ofNat (aN R).length := L1.2.2.2.2.1.1
    have l6 : (aN R).length ≤ 6 := L1.2.2.2.2.1.2.1
    have lbr : LB o (gS σ) (pR s o 5 (some (gS σ))) := ((LB.rd (show LB o c (tx1 o σ) from hL) (v := some (gS σ))).gx hGX).real hE.2.2.2.2.2.2
    show wt_X1_text_66 o (gS σ) (pR s o 5 (some (gS σ))) Q
    unfold wt_X1_text_66
    rw [e9]
    generalize hln : (aN R).length = ln6 at *
    -- the heap before the notes are laid
    have s2up : ∀ a, gS σ ≤ a → gT (pI (pR s o 5 (some (gS σ))) o 9 (Int32.ofNat ln6)) a = gT s a ∧ ∀ k, gR (pI (pR s o 5 (some (gS σ))) o 9 (Int32.ofNat ln6)) a k = gR s a k ∧ gI (pI (pR s o 5 (some (gS σ))) o 9 (Int32.ofNat ln6)) a k = gI s a k ∧ gL (pI (pR s o 5 (some (gS σ))) o 9 (Int32.ofNat ln6)) a k = gL s a k := fun a ha => ⟨rfl, fun k => ⟨by rw [gR_pI, gR_pR, if_neg (by omega)], by rw [pIo (by omega), gI_pR], rfl⟩⟩
    have L2 : LRl (gS σ) (pI (pR s o 5 (some (gS σ))) o 9 (Int32.ofNat ln6)) R := LRl.up L1 rfl s2up
    have lb2 : LB o (gS σ) (pI (pR s o 5 (some (gS σ))) o 9 (Int32.ofNat ln6)) := lbr.i
    generalize hs2 : pI (pR s o 5 (some (gS σ))) o 9 (Int32.ofNat ln6) = s2 at *
    have nlt : ∀ a k, (∃ j, j < 6 ∧ SBe (o + 38 + 6 * j) a k) → o + 38 ≤ a ∧ a < o + 110 := fun a k ⟨j, hj, q⟩ => by unfold SBe at q; omega
    have s9 : gI s2 o 9 = Int32.ofNat ln6 := by rw [← hs2, gI_pI, if_pos ⟨rfl, rfl⟩]
    refine lp_of (fun z => ∃ k, k ≤ ln6 ∧ z.1 = Int32.ofNat k ∧ Ch (fun a k => ∃ j, j < 6 ∧ SBe (o + 38 + 6 * j) a k) s2 z.2 ∧ ∀ i x, i < k → (aN R)[i]? = some x → pNw z.2 (o + 38 + 6 * i) x.2) (fun z => ln6 - z.1.toNatClampNeg) ?_ ⟨0, by omega, rfl, Ch.rf, fun i x q => absurd q (by omega)⟩
    rintro K ⟨x2, τ⟩ ⟨k, hk, rfl, g1, g2⟩ hK
    simp only at g1 g2
    have Lt : LRl (gS σ) τ R := LRl.up L2 g1.gs (fun a ha => ⟨g1.gt, fun k => ⟨g1.gr, g1.gi (fun w => by have := nlt _ _ w; omega), g1.gl (fun w => by have := nlt _ _ w; omega)⟩⟩)
    show (_ → _) ∧ (_ → _)
    have t9 : gI τ o 9 = Int32.ofNat ln6 := by rw [g1.gi (fun w => by have := nlt _ _ w; omega)]; exact s9
    rw [t9, nat_le (by omega) (by omega)]
    refine ⟨fun q => ?_, fun q => ?_⟩
    rotate_left
    · have hlt : k < (aN R).length := by omega
      obtain ⟨p, p1, p2, p3, p4⟩ := lst_get Lt.2.2.2.2.1 (by omega) (List.getElem?_eq_getElem hlt)
      rw [p1, nat_c (by omega), nat_s (by omega)]
      refine ⟨nat_v (by omega) (by omega), p2, p4.2.1, l_become (by omega) p4.2.2.2 (fun τ' j1 j2 => hK _ ⟨k + 1, by omega, rfl, g1.tr (j1.up (fun a i w => ⟨k, by omega, w⟩)), fun i x hi hx => ?_⟩ ?_)⟩
      · by_cases c : i = k
        · subst c
          rw [List.getElem?_eq_getElem hlt] at hx
          cases hx
          exact j2
        · have N := g2 i x (by omega) hx
          have f : ∀ a k', o + 38 + 6 * i ≤ a → a < o + 38 + 6 * i + 3 → gI τ' a k' = gI τ a k' := fun a k' q1 q2 => j1.gi (by unfold SBe; omega)
          refine ⟨by show gI τ' _ 1 = _; rw [f _ _ (by omega) (by omega)]; exact N.1, fun k' hk' hh => ?_⟩
          show gI τ' _ _ = _ ∧ (_ → gI τ' _ _ = _)
          rw [f _ _ (by omega) (by omega), f _ _ (by omega) (by omega)]
          exact N.2 k' hk' hh
      · show ln6 - (Int32.ofNat (k + 1)).toNatClampNeg < ln6 - (Int32.ofNat k).toNatClampNeg
        rw [nat_c (by omega), nat_c (by omega)]; omega
    · have hkl : k = ln6 := by omega
      subst hkl
      refine l_forgetRows (fun τ' j1 j2 => ?_)
      have dd : ∀ a i, a ≠ o → a ≠ o + 35 → gI τ' a i = gI τ a i := fun a i q1 q2 => by rw [j1.gi q2, pIo (by omega), pIo (by omega), pIo (by omega)]
      have do_ : ∀ i, gI τ' o i = gI (pI (pI (pI τ o 11 0) o 14 0) o 15 0) o i := fun i => j1.gi (by omega)
      have dlo : ∀ i, i ≠ 11 → i ≠ 14 → i ≠ 15 → i ≠ 9 → gI τ' o i = gI s o i := fun i q1 q2 q3 q4 => by
        rw [do_, pIo (by omega), pIo (by omega), pIo (by omega), g1.gi (fun w => by have := nlt _ _ w; omega), ← hs2, pIo (by omega), gI_pR]
      have O := f1.2 o (by rw [hd]; omega)
      have Le : LRl (gS σ) τ' R := LRl.up Lt j1.gs (fun a ha => ⟨j1.gt, fun k => ⟨j1.gr, dd a k (by omega) (by omega), j1.gl (by omega)⟩⟩)
      have hi : ∀ i, gI τ' (gS σ) i = gI s (gS σ) i := fun i => by rw [dd _ _ (by omega) (by omega), g1.gi (fun w => by have := nlt _ _ w; omega), ((s2up _ (Nat.le_refl _)).2 i).2.1]
      have e11 : gI τ' (gS σ) 11 = Int32.ofNat ln := by rw [hi]; exact g11
      rw [e11]
      have zs : gS τ' = gS s := by rw [j1.gs]; show gS τ = _; rw [g1.gs, ← hs2]; rfl
      refine hok R ln τ' e ⟨by rw [zs]; exact f1.1, fun a ha => ⟨?_, fun i => ⟨fun q1 q2 => ?_, fun q1 => ⟨?_, ?_⟩⟩⟩⟩ ?_ Le (by rw [hi]; exact g10) (by rw [zs]; exact gz) lk k64 ?_ ?_ ?_ ?_ ?_ ?_ ?_ j2 ?_ ((lb2.sh g1.1).i.i.i.sh j1.1)
      · rw [j1.gt]; show gT τ a = _; rw [g1.gt, ← hs2]; exact (f1.2 a ha).1
      · rw [j1.gr]; show gR τ a i = _; rw [g1.gr, ← hs2, gR_pI, gR_pR, if_neg q2]; exact ((f1.2 a ha).2 i).1 q1
      · have n1 : a ≠ o + 2 := fun w => q1 (Or.inl w)
        have n2 : ¬ (a = o ∧ (i = 1 ∨ i = 2 ∨ i = 3 ∨ i = 9 ∨ i = 11 ∨ i = 14 ∨ i = 15)) := fun w => q1 (Or.inr (Or.inl w))
        have n3 : a ≠ o + 35 := fun w => q1 (Or.inr (Or.inr (Or.inl w)))
        rw [j1.gi n3, pIo (by omega), pIo (by omega), pIo (by omega), g1.gi (fun w => q1 (Or.inr (Or.inr (Or.inr w)))), ← hs2, pIo (by omega), gI_pR, (((f1.2 a ha).2 i).2 n1).1, t1 _ _ (by omega)]
      · have n1 : a ≠ o + 2 := fun w => q1 (Or.inl w)
        have n3 : a ≠ o + 35 := fun w => q1 (Or.inr (Or.inr (Or.inl w)))
        rw [j1.gl n3]; show gL τ a i = _; rw [g1.gl (fun w => q1 (Or.inr (Or.inr (Or.inr w)))), ← hs2]; exact (((f1.2 a ha).2 i).2 n1).2
      · rw [j1.gr]; show gR τ o 5 = _; rw [g1.gr, ← hs2, gR_pI, gR_pR, if_pos ⟨rfl, rfl⟩]
      · rw [dlo _ (by omega) (by omega) (by omega) (by omega), ((O.2 1).2 (by omega)).1]; exact u1
      · rw [dlo _ (by omega) (by omega) (by omega) (by omega), ((O.2 2).2 (by omega)).1]; exact u2
      · rw [dlo _ (by omega) (by omega) (by omega) (by omega), ((O.2 3).2 (by omega)).1]; exact u3
      · rw [do_, pIo (by omega), pIo (by omega), pIo (by omega), t9, hln]
      · rw [do_]; simp [gI_pI]
      · rw [do_]; simp [gI_pI]
      · rw [do_]; simp [gI_pI]
      · intro i x hx
        have il := get_lt hx
        have N := g2 i x (by omega) hx
        refine ⟨by show gI τ' _ 1 = _; rw [dd _ _ (by omega) (by omega)]; exact N.1, fun k' hk' hh => ?_⟩
        show gI τ' _ _ = _ ∧ (_ → gI τ' _ _ = _)
        rw [dd _ _ (by omega) (by omega), dd _ _ (by omega) (by omega)]
        exact N.2 k' hk' hh
