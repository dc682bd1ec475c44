set_option maxRecDepth 100000
/-! ROWS OF BITS: on which counts a note can be (LongYears) -/
theorem dN_i {e : Nat} (h : e ≤ 2147483647) : (Int32.ofNat e).toInt64.toInt = e := by rw [Int32.toInt_toInt64]; exact nat_i h
theorem dN_e {e : Nat} {y : Int64} (h : e ≤ 2147483647) (hy : y.toInt = e) : y = (Int32.ofNat e).toInt64 := by rw [l2_eq, dN_i h, hy]
theorem shr6 {e : Nat} (h : e < 20032) : Int32.ofNat e >>> (6 &&& 31) = Int32.ofNat (e / 64) := by
  rw [i2_eq, nat_i (by omega)]
  show (Int32.ofNat e >>> (6 &&& 31)).toBitVec.toInt = _
  rw [Int32.toBitVec_shiftRight, show ((6 : Int32) &&& 31).toBitVec.smod 32 = 6#32 from by decide, BitVec.sshiftRight', BitVec.toInt_sshiftRight]
  have e1 : (Int32.ofNat e).toBitVec.toInt = e := nat_i (p := e) (by omega)
  rw [e1, show (6#32).toNat = 6 from rfl, Int.shiftRight_eq_div_pow]
  omega
theorem and63 {e : Nat} (h : e < 20032) : Int32.ofNat e &&& 63 = Int32.ofNat (e % 64) := by
  rw [← Int32.toBitVec_inj, Int32.toBitVec_and]
  apply BitVec.eq_of_toNat_eq
  rw [BitVec.toNat_and]
  have a : (Int32.ofNat e).toBitVec.toNat = e := by
    show (BitVec.ofNat 32 e).toNat = e
    rw [BitVec.toNat_ofNat]; omega
  have b : (Int32.ofNat (e % 64)).toBitVec.toNat = e % 64 := by
    show (BitVec.ofNat 32 (e % 64)).toNat = e % 64
    rw [BitVec.toNat_ofNat]; omega
  have d : (63 : Int32).toBitVec.toNat = 63 := rfl
  rw [a, b, d]
  exact Nat.and_two_pow_sub_one_eq_mod e 6
theorem andL63 {e : Nat} (h : e < 20032) : (Int32.ofNat e).toInt64 &&& 63 = (Int32.ofNat (e % 64)).toInt64 := by
  rw [← Int64.toBitVec_inj, Int64.toBitVec_and]
  apply BitVec.eq_of_toNat_eq
  rw [BitVec.toNat_and]
  have z : ∀ k, k < 20032 → (Int32.ofNat k).toInt64.toBitVec.toNat = k := fun k hk => by
    have h1 : (Int32.ofNat k).toInt64.toBitVec.toInt = k := dN_i (e := k) (by omega)
    have h2 := BitVec.toInt_eq_toNat_bmod (Int32.ofNat k).toInt64.toBitVec
    have h3 := (Int32.ofNat k).toInt64.toBitVec.isLt
    rw [BitVec.toInt_eq_toNat_cond] at h1
    split at h1 <;> omega
  rw [z e h, z (e % 64) (by omega), show (63 : Int64).toBitVec.toNat = 63 from rfl]
  exact Nat.and_two_pow_sub_one_eq_mod e 6
theorem shL1 : ∀ k, k < 64 → ∀ j, j < 64 → ((1 : Int64) <<< ((Int32.ofNat k).toInt64 &&& 63)).toBitVec.getLsbD j = decide (j = k) := by decide +kernel
theorem shL_k : ∀ k, k < 64 → ((Int32.ofNat k).toInt64.toInt32.toInt64 &&& 63).toBitVec.smod 64 = BitVec.ofNat 64 k := by decide +kernel
theorem bv_hasL (x : BitVec 64) {k : Nat} (hk : k < 64) : (x.sshiftRight k &&& 1#64 = 1#64) ↔ x.getLsbD k = true := by
  constructor
  · intro h
    have := congrArg (fun y => y.getLsbD 0) h
    simp only [BitVec.getLsbD_and, BitVec.getLsbD_sshiftRight] at this
    simpa [hk] using this
  · intro h
    apply BitVec.eq_of_getLsbD_eq
    intro i hi
    by_cases h0 : i = 0
    · subst h0; simp [BitVec.getLsbD_sshiftRight, hk, h]
    · simp [h0]
theorem has_L (w : Int64) {k : Nat} (hk : k < 64) : ((w >>> ((Int32.ofNat k).toInt64.toInt32.toInt64 &&& 63)) &&& 1) = 1 ↔ w.toBitVec.getLsbD k = true := by
  rw [← Int64.toBitVec_inj, Int64.toBitVec_and, Int64.toBitVec_shiftRight, shL_k k hk]
  rw [← bv_hasL w.toBitVec hk]
  have : (BitVec.ofNat 64 k).toNat = k := by simp; omega
  rw [BitVec.sshiftRight', this]
  rfl
/-- the bit of a count in a row -/
def bL (σ : Hp) (a e : Nat) : Bool := (gL σ a (e / 64)).toBitVec.getLsbD (e % 64)
theorem bL_or {σ : Hp} {a e j : Nat} (he : e < 20032) (hj : j < 20032) : bL (pL σ a (e / 64) ((gL σ a (e / 64)) ||| (1 <<< ((Int32.ofNat (e % 64)).toInt64 &&& 63)))) a j = (bL σ a j || decide (j = e)) := by
  unfold bL
  rw [gL_pL]
  by_cases c : j / 64 = e / 64
  · rw [if_pos ⟨rfl, c⟩, Int64.toBitVec_or, BitVec.getLsbD_or, shL1 (e % 64) (by omega) (j % 64) (by omega), c]
    by_cases d : j % 64 = e % 64
    · rw [decide_eq_true d, decide_eq_true (show j = e by omega)]
    · rw [decide_eq_false d, decide_eq_false (show ¬ j = e by omega)]
  · rw [if_neg (fun w => c w.2), decide_eq_false (show ¬ j = e by omega), Bool.or_false]
theorem bL_0 {σ : Hp} {a e : Nat} (h : gL σ a (e / 64) = 0) : bL σ a e = false := by
  unfold bL
  rw [h]
  simp
/-- on which counts -/
def canP (R : RlA) (w : NoteW) (y : Int) : Prop := 0 ≤ y ∧ y ≤ 19999 ∧ said R w (Int64.ofInt y)
theorem dN_o {e : Nat} (h : e ≤ 2147483647) : Int64.ofInt (e : Int) = (Int32.ofNat e).toInt64 := dN_e h (l2_ofInt (by omega) (by omega))
theorem canP_e {R : RlA} {w : NoteW} {e : Nat} (h : e < 20000) : canP R w (e : Int) ↔ said R w (Int32.ofNat e).toInt64 := by
  unfold canP
  rw [dN_o (by omega)]
  exact ⟨fun q => q.2.2, fun q => ⟨by omega, by omega, q⟩⟩
def RowL (σ : Hp) (a : Nat) (R : RlA) (w : NoteW) : Prop := ∀ e, e < 20000 → (bL σ a e = true ↔ canP R w (e : Int))
/-- LongYears' notes, and the rows that are laid -/
def LNt (o : Nat) (σ : Hp) (R : RlA) (N : List NoteW) : Prop := gI σ o 9 = Int32.ofNat N.length ∧ N.length ≤ 12 ∧ (∀ i w, N[i]? = some w → NwOk (aP R).length (aF R).length i w ∧ pNw σ (o + 38 + 6 * i) w) ∧ (∀ i w, N[i]? = some w → ¬ gI σ (o + 35) i = 0 → RowL σ (o + 23 + i) R w)
theorem pNw.fr {σ σ' : Hp} {p : Nat} {w : NoteW} (h : pNw σ p w) (hf : ∀ a k, p ≤ a → a < p + 3 → gI σ' a k = gI σ a k) : pNw σ' p w := by
  refine ⟨by rw [hf _ _ (by omega) (by omega)]; exact h.1, fun k hk hh => ?_⟩
  rw [hf _ _ (by omega) (by omega), hf _ _ (by omega) (by omega)]
  exact h.2 k hk hh
theorem RowL.fr {σ σ' : Hp} {a : Nat} {R : RlA} {w : NoteW} (h : RowL σ a R w) (hf : ∀ k, gL σ' a k = gL σ a k) : RowL σ' a R w := fun e he => by
  unfold bL
  rw [hf]
  exact h e he
theorem LNt.fr {o : Nat} {σ σ' : Hp} {R : RlA} {N : List NoteW} (h : LNt o σ R N) (h9 : gI σ' o 9 = gI σ o 9) (hn : ∀ a k, o + 38 ≤ a → a < o + 110 → gI σ' a k = gI σ a k) (hr : ∀ i w, N[i]? = some w → ¬ gI σ' (o + 35) i = 0 → RowL σ' (o + 23 + i) R w) : LNt o σ' R N := by
  obtain ⟨h1, h2, h3, h4⟩ := h
  refine ⟨h9.trans h1, h2, fun i w hi => ⟨(h3 i w hi).1, (h3 i w hi).2.fr (fun a k q1 q2 => hn a k (by omega) ?_)⟩, hr⟩
  have := get_lt hi
  omega
/-- what laying rows writes -/
def SLn (o a k : Nat) : Prop := a = o + 14 ∨ (o + 23 ≤ a ∧ a < o + 36)
theorem LRx.n {o c : Nat} {σ σ' : Hp} {R : RlA} (h : LRx o c σ R) (hc : Ch (SLn o) σ σ') : LRx o c σ' R :=
  h.fr (by rw [hc.gs]; exact Nat.le_refl _) (fun a q _ => ⟨hc.gt, fun k => ⟨hc.gr, hc.gi (by unfold SLn; omega), hc.gl (by unfold SLn; omega)⟩⟩)
def LQ (o c : Nat) (R : RlA) (N : List NoteW) (σ : Hp) : Prop := LRx o c σ R ∧ LNt o σ R N
section
variable {o c i : Nat} {σ : Hp} {R : RlA} {N : List NoteW} {w : NoteW}
theorem l_lay {Q : Hp → Prop} (hk : ROk R) (hL : LQ o c R N σ) (hi : N[i]? = some w) (hQ : ∀ σ', Ch (SLn o) σ σ' → LQ o c R N σ' → ¬ gI σ' (o + 35) i = 0 → Q σ') : wp_X1_lay o c σ (Int32.ofNat i) Q := by
  obtain ⟨hX, hN⟩ := hL
  have il := get_lt hi
  have n12 := hN.2.1
  have vi : vp_in (Int32.ofNat i) 12 := nat_v (by omega) (by omega)
  have ei : (Int32.ofNat i).toNatClampNeg = i := nat_c (by omega)
  refine lp_of (fun z => ∃ k, k ≤ 313 ∧ z.1 = Int32.ofNat k ∧ Ch (fun a _ => a = o + 23 + i) σ z.2 ∧ ∀ j, j < k → gL z.2 (o + 23 + i) j = 0) (fun z => 313 - z.1.toNatClampNeg) ?_ ⟨0, by omega, rfl, Ch.rf, fun j q => absurd q (by omega)⟩
  rintro K ⟨x2, s⟩ ⟨k, hk3, rfl, g1, g2⟩ hK
  simp only at g1 g2
  show (_ → _) ∧ (_ → _)
  rw [show (313 : Int32) = Int32.ofNat 313 from rfl, nat_le (by omega) (by omega), ei]
  refine ⟨fun q => ?_, fun q => ⟨vi, nat_v (by omega) (by omega), ?_⟩⟩
  rotate_left
  · rw [nat_c (by omega), nat_s (by omega)]
    refine hK _ ⟨k + 1, by omega, rfl, g1.l rfl, fun j hj => ?_⟩ ?_
    · show gL (pL s (o + 23 + i) k 0) (o + 23 + i) j = 0
      rw [gL_pL]
      by_cases c : j = k
      · rw [if_pos ⟨rfl, c⟩]
      · rw [if_neg (fun w => c w.2)]; exact g2 j (by omega)
    · show 313 - (Int32.ofNat (k + 1)).toNatClampNeg < 313 - (Int32.ofNat k).toNatClampNeg
      rw [nat_c (by omega), nat_c (by omega)]; omega
  have hk9 : k = 313 := by omega
  subst hk9
  clear hK K
  have c0 : Ch (fun a _ => a = o + 14 ∨ a = o + 23 + i) σ s := g1.up (fun a k q => Or.inr q)
  refine lp_of (fun z => ∃ k, k ≤ 20000 ∧ z.1 = Int32.ofNat k ∧ Ch (fun a _ => a = o + 14 ∨ a = o + 23 + i) σ z.2 ∧ (∀ e, e < k → (bL z.2 (o + 23 + i) e = true ↔ canP R w (e : Int))) ∧ (∀ e, k ≤ e → e < 20032 → bL z.2 (o + 23 + i) e = false)) (fun z => 20000 - z.1.toNatClampNeg) ?_ ⟨0, by omega, rfl, c0, fun e q => absurd q (by omega), fun e _ q => bL_0 (g2 _ (by omega))⟩
  clear g1 g2 c0
  rintro K ⟨x2, s⟩ ⟨k, hk2, rfl, g1, g2, g3⟩ hK
  simp only at g1 g2 g3
  show (_ → _) ∧ (_ → _)
  rw [show (20000 : Int32) = Int32.ofNat 20000 from rfl, nat_le (by omega) (by omega), ei]
  have cn : Ch (SLn o) σ s := g1.up (fun a k q => by unfold SLn; omega)
  have Xs : LRx o c s R := hX.n cn
  refine ⟨fun q => ⟨vi, ?_⟩, fun q => ⟨vi, ?_⟩⟩
  · have hkk : k = 20000 := by omega
    subst hkk
    have ce : Ch (SLn o) σ (pI s (o + 35) i (vp_nar .boolean 1)) := cn.i (Or.inr ⟨by omega, by omega⟩)
    refine hQ _ ce ⟨hX.n ce, hN.fr (ce.gi (by unfold SLn; omega)) (fun a k q1 q2 => ce.gi (by unfold SLn; omega)) (fun j w' hj hl => ?_)⟩ (by rw [gI_pI, if_pos ⟨rfl, rfl⟩]; decide)
    by_cases cj : j = i
    · subst cj
      rw [hi] at hj
      cases hj
      intro e he
      exact g2 e he
    · rw [pIo (by omega), g1.gi (by omega)] at hl
      exact (hN.2.2.2 j w' hj hl).fr (fun k => by rw [gL_pI]; exact g1.gl (by omega))
  · obtain ⟨hW, hP⟩ := hN.2.2.1 i w hi
    have hP' : pNw s (o + 38 + 6 * i) w := hP.fr (fun a k q1 q2 => g1.gi (by omega))
    have hd : cOk (Int32.ofNat k).toInt64 := ⟨by rw [dN_i (by omega)]; omega, by rw [dN_i (by omega)]; omega⟩
    have nx : 20000 - (Int32.ofNat (k + 1)).toNatClampNeg < 20000 - (Int32.ofNat k).toNatClampNeg := by rw [nat_c (by omega), nat_c (by omega)]; omega
    refine l_isSaid Xs hk hP' hW hd ⟨fun hs σ' hc => cF (fun a => (by cases a)) ?_, fun hs σ' hc => cT rfl ?_⟩
    · have g1' : Ch (fun a _ => a = o + 14 ∨ a = o + 23 + i) σ σ' := g1.tr (hc.up (fun a k q => Or.inl q))
      have bb : ∀ e, bL σ' (o + 23 + i) e = bL s (o + 23 + i) e := fun e => by unfold bL; rw [hc.gl (by unfold SLq; omega)]
      have v6 : vp_in (Int32.ofNat k >>> (6 &&& 31)) 313 := by rw [shr6 (by omega)]; exact nat_v (by omega) (by omega)
      refine ⟨vi, v6, v6, ?_⟩
      rw [shr6 (by omega), and63 (by omega), nat_c (p := k / 64) (by omega), nat_s (by omega)]
      refine hK _ ⟨k + 1, by omega, rfl, g1'.l (Or.inr rfl), fun e he => ?_, fun e q1 q2 => ?_⟩ nx
      · show bL (pL σ' (o + 23 + i) (k / 64) _) (o + 23 + i) e = true ↔ _
        rw [bL_or (by omega) (by omega), bb]
        by_cases ce : e = k
        · subst ce
          rw [decide_eq_true rfl, Bool.or_true]
          exact ⟨fun _ => (canP_e (by omega)).mpr hs, fun _ => rfl⟩
        · rw [decide_eq_false ce, Bool.or_false]
          exact g2 e (by omega)
      · show bL (pL σ' (o + 23 + i) (k / 64) _) (o + 23 + i) e = false
        rw [bL_or (by omega) (by omega), bb, g3 e (by omega) q2, decide_eq_false (by omega)]
        rfl
    · have g1' : Ch (fun a _ => a = o + 14 ∨ a = o + 23 + i) σ σ' := g1.tr (hc.up (fun a k q => Or.inl q))
      have bb : ∀ e, bL σ' (o + 23 + i) e = bL s (o + 23 + i) e := fun e => by unfold bL; rw [hc.gl (by unfold SLq; omega)]
      rw [nat_s (by omega)]
      refine hK _ ⟨k + 1, by omega, rfl, g1', fun e he => ?_, fun e q1 q2 => ?_⟩ nx
      · show bL σ' (o + 23 + i) e = true ↔ _
        rw [bb]
        by_cases ce : e = k
        · subst ce
          rw [g3 e (Nat.le_refl _) (by omega)]
          exact ⟨fun z => (by cases z), fun z => absurd ((canP_e (by omega)).mp z) hs⟩
        · exact g2 e (by omega)
      · show bL σ' (o + 23 + i) e = false
        rw [bb]; exact g3 e (by omega) q2
def DL (S : Nat → Nat → Prop) (o c : Nat) (R : RlA) (N : List NoteW) (σ : Hp) (P : Prop) (Q : Int32 → Hp → Prop) : Prop := (P → ∀ σ', Ch S σ σ' → LQ o c R N σ' → Q 1 σ') ∧ (¬ P → ∀ σ', Ch S σ σ' → LQ o c R N σ' → Q 0 σ')
theorem l_can {y2 : Int64} {Q : Int32 → Hp → Prop} (hk : ROk R) (hL : LQ o c R N σ) (hi : N[i]? = some w) (hQ : DL (SLn o) o c R N σ (canP R w y2.toInt) Q) : wp_X1_can o c σ (Int32.ofNat i) y2 Q := by
  have il := get_lt hi
  have n12 := hL.2.2.1
  have vi : vp_in (Int32.ofNat i) 12 := nat_v (by omega) (by omega)
  have ei : (Int32.ofNat i).toNatClampNeg = i := nat_c (by omega)
  have iv : f_X1_in y2 0 19999 = 0 ↔ ¬ (0 ≤ y2.toInt ∧ y2.toInt ≤ 19999) := in_iff rfl (by rfl) (by rfl)
  refine ⟨fun q => hQ.2 (fun z => iv.mp q ⟨z.1, z.2.1⟩) σ Ch.rf hL, fun q => ⟨vi, ?_⟩⟩
  have hy : 0 ≤ y2.toInt ∧ y2.toInt ≤ 19999 := Classical.byContradiction (fun z => q (iv.mpr z))
  obtain ⟨e, he⟩ : ∃ e : Nat, y2.toInt = e := ⟨y2.toInt.toNat, by omega⟩
  have he2 : e < 20000 := by omega
  rw [he] at hQ
  have hye : y2 = (Int32.ofNat e).toInt64 := dN_e (by omega) he
  have h32 : y2.toInt32 = Int32.ofNat e := by rw [hye, Int32.toInt32_toInt64]
  have tail : ∀ s, Ch (SLn o) σ s → LQ o c R N s → ¬ gI s (o + 35) i = 0 → wj_X1_can_27 o c s (Int32.ofNat i) y2 Q := fun s hc hs hl => by
    unfold wj_X1_can_27
    have hr := hs.2.2.2.2 i w hi hl e he2
    rw [h32, shr6 (by omega), nat_c (p := e / 64) (by omega), ei, hye, andL63 (by omega), has_L _ (by omega)]
    exact ⟨vi, nat_v (by omega) (by omega), fun z => hQ.1 (hr.mp z) s hc hs, fun z => hQ.2 (fun u => z (hr.mpr u)) s hc hs⟩
  rw [ei]
  exact ⟨fun _ => l_lay hk hL hi (fun σ' h1 h2 h3 => tail σ' h1 h2 h3), fun z => tail σ Ch.rf hL z⟩
end
