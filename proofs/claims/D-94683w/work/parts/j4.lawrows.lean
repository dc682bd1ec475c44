set_option maxRecDepth 100000
/-! THE LAW's OWN ROWS -/
section XL
variable {G : XE} {rm : Room} {cc : ByteArray} {own : String} {nL : Nat} {ret : Option FieldType} {σ : Hp} {cells slots pc n : Nat} {lvs : List (Nat × Value)} {st : List Value}
/-- the script stands where it stood -/
def SCR (G : XE) (b L : Nat) (xs : Nat → Int32) : Prop := va_X b L xs G.2.2.2.1 G.2.2.2.1.heap ∧ b < G.2.2.2.2.2.2.2.2.2.1
theorem x_sld {b L : Nat} {xs : Nat → Int32} {i : Int32} (hs : SCR G b L xs) (hin : vp_in i L) (hd : decode cc pc = .ok (.iaload, 1)) (hn : pc + 1 = n) (kk : X G rm cc own nL ret σ cells slots n lvs (.int (xs i.toNatClampNeg) :: st)) : X G rm cc own nL ret σ cells slots pc lvs (.int i :: .ref b :: st) := by
  subst hn
  intro hF H locs ls hB hl
  exact va_sld (A := fun q => G.2.2.2.2.2.2.2.2.2.1 ≤ q) hF.1 hF.2.1 hs.1 (Nat.lt_of_lt_of_le hs.2 hB.2.2.2.1) (Nat.not_le.mpr hs.2) ⟨hB.2.2.2.2.1, fun q _ h => hB.2.2.2.2.2.1 q (Nat.not_le.mp h), hB.2.2.2.2.2.2.1⟩ hin hd (kk hF H locs ls hB hl)
theorem x_slen {b L : Nat} {xs : Nat → Int32} (hs : SCR G b L xs) (hd : decode cc pc = .ok (.arraylength, 1)) (hn : pc + 1 = n) (kk : X G rm cc own nL ret σ cells slots n lvs (.int (Int32.ofNat L) :: st)) : X G rm cc own nL ret σ cells slots pc lvs (.ref b :: st) := by
  subst hn
  intro hF H locs ls hB hl
  exact va_slen (A := fun q => G.2.2.2.2.2.2.2.2.2.1 ≤ q) hF.1 hF.2.1 hs.1 (Nat.lt_of_lt_of_le hs.2 hB.2.2.2.1) (Nat.not_le.mpr hs.2) ⟨hB.2.2.2.2.1, fun q _ h => hB.2.2.2.2.2.1 q (Nat.not_le.mp h), hB.2.2.2.2.2.2.1⟩ hd (kk hF H locs ls hB hl)
/-- a call's number of the script -/
theorem x_arg {b L i k : Nat} {xs : Nat → Int32} {K : Int} {p1 p3 p4 p5 : Nat} (hs : SCR G b L xs) (hik : i + k < L) (hL : L ≤ 384) (d1 : decode cc pc = .ok (.aload_n 0, 1)) (e1 : pc + 1 = p1) (h0 : lvs[0]? = some (0, .ref b)) (d2 : decode cc p1 = .ok (.iload 4, 2)) (e2 : p1 + 2 = p3) (h4 : lvs[4]? = some (4, .int (Int32.ofNat i))) (d3 : decode cc p3 = .ok (.iconst K, 1)) (e3 : p3 + 1 = p4) (hK : Int32.ofInt K = Int32.ofNat k) (d4 : decode cc p4 = .ok (.iadd, 1)) (e4 : p4 + 1 = p5) (d5 : decode cc p5 = .ok (.iaload, 1)) (hn : p5 + 1 = n) (kk : X G rm cc own nL ret σ cells slots n lvs (.int (xs (i + k)) :: st)) : X G rm cc own nL ret σ cells slots pc lvs st := by
  refine x_aload_n d1 (n := p1) e1 rfl 0 h0 ?_
  refine x_iload d2 (n := p3) e2 4 h4 ?_
  refine x_iconst d3 (n := p4) e3 hK ?_
  refine x_iadd d4 (n := p5) e4 ?_
  rw [nat_a (by omega)]
  refine x_sld hs (nat_v (by omega) (by omega)) d5 hn ?_
  rw [nat_c (by omega)]
  exact kk
end XL
/-- a long out of two numbers -/
def w64 (a b : Int32) : Int64 := (a.toInt64 <<< ((32 : Int32).toInt64 &&& 63)) ||| (b.toInt64 &&& 4294967295)
/-- all stands as it should before a call -/
def J (o m q c n : Nat) (σ : Hp) (S : PlS) : Prop := m = o + 110 ∧ q = m + 33 ∧ m + 34 ≤ gS σ ∧ gT σ q = some (.inr (.long, 1)) ∧ RepL o c (m + 34) σ S ∧ RepM m σ S ∧ PlOk n S
def J1 (o m q c : Nat) (σ : Hp) (S S' : PlS) : Prop := m = o + 110 ∧ q = m + 33 ∧ m + 34 ≤ gS σ ∧ gT σ q = some (.inr (.long, 1)) ∧ RepL o c (m + 34) σ S' ∧ RepM m σ S
section
variable {o m q c n : Nat} {σ σ' : Hp} {S S' : PlS}
theorem J.z (h : J o m q c n σ S) : o + 110 ≤ m + 34 := by have := h.1; omega
theorem J.l (h : J o m q c n σ S) : RepL o c (m + 34) σ S := h.2.2.2.2.1
theorem J.mm (h : J o m q c n σ S) : RepM m σ S := h.2.2.2.2.2.1
theorem J.k (h : J o m q c n σ S) : PlOk n S := h.2.2.2.2.2.2
theorem J.r (h : J o m q c n σ S) : ROk (yR S) := h.k.1
theorem J.qq (h : J o m q c n σ S) : LQ o c (yR S) (yN S) σ := h.l.2.2.2.1
theorem J.lr (h : J o m q c n σ S) : LRl c σ (yR S) := h.qq.1.1
theorem J.mk (h : J o m q c n σ S) : MKr m σ (yR S) := h.mm.2.2.2.1.1
theorem J.j1 (h : J o m q c n σ S) : J1 o m q c σ S S := ⟨h.1, h.2.1, h.2.2.1, h.2.2.2.1, h.l, h.mm⟩
theorem J.aft (h : J o m q c n σ S) (hc : Ch (SLw o) σ σ') (hr : RepL o c (m + 34) σ' S') : J1 o m q c σ' S S' := by
  have e := h.1
  exact ⟨h.1, h.2.1, by rw [hc.gs]; exact h.2.2.1, by rw [hc.gt]; exact h.2.2.2.1, hr, h.mm.fr (hc.kp (fun a k q => by unfold SLw; omega))⟩
theorem J1.aft {τ : Hp} (h : J1 o m q c σ S S') (hc : Ch (SMp m) σ τ) (hr : RepM m τ S') (hk : PlOk (n + 1) S') : J o m q c (n + 1) τ S' := by
  have e := h.1
  have e2 := h.2.1
  exact ⟨h.1, h.2.1, by rw [hc.gs]; exact h.2.2.1, by rw [hc.gt]; exact h.2.2.2.1, h.2.2.2.2.1.fr (hc.kp (fun a k q => by unfold SMp; omega)), hr, hk⟩
end
/-! LOOK -/
def lkK (R : RlA) (x y : Int32) : Int32 := match landAt R x with
  | none => 1
  | some _ => if 0 ≤ y.toInt ∧ y.toInt ≤ 2 then 0 else 2
def lkV (R : RlA) (x y : Int32) : Int32 := match landAt R x with
  | none => 0
  | some l => if y = 0 then l.2.1 else if y = 1 then l.2.2.1 else l.2.2.2
section
variable {o m c z : Nat} {σ τ : Hp} {S : PlS} {x y : Int32}
theorem pl_look {a3 : Nat} {Q : Int32 → Hp → Prop} (hL : LRl c σ (yR S)) (h0 : lkK (yR S) x y = 0 → Q 0 (pL σ a3 0 (lkV (yR S) x y).toInt64)) (h1 : ¬ lkK (yR S) x y = 0 → ∀ n, gS σ ≤ n → Q (lkK (yR S) x y) (sz n σ)) : wp_X0_look σ o c x y a3 Q := by
  have h4 := hL.1.2.1
  unfold wp_X0_look wp_X1_look
  rcases at_cases (aL (yR S)) x (by omega) with nl | ⟨i, l, rfl, hi, hr⟩
  · have e : lkK (yR S) x y = 1 := by unfold lkK; rw [landAt_no nl]
    rw [e] at h1
    exact ⟨in_01 _ _ _, cT ((l_isLand hL x).mpr nl) (fun n hn => h1 (by decide) n hn)⟩
  have e : landAt (yR S) (Int32.ofNat i) = some l := landAt_at h4 hi
  have a : ¬ f_X1_isLand o c σ (Int32.ofNat i) = 0 := fun w => (l_isLand hL _).mp w hr
  obtain ⟨p1, p2, p3⟩ := l_land (o := o) hL hi
  have i0 : y = 0 ↔ y.toInt = 0 := i3_eq rfl (by rfl)
  have i1 : y = 1 ↔ y.toInt = 1 := i3_eq rfl (by rfl)
  have i2 : y = 2 ↔ y.toInt = 2 := i3_eq rfl (by rfl)
  have ek : lkK (yR S) (Int32.ofNat i) y = if 0 ≤ y.toInt ∧ y.toInt ≤ 2 then 0 else 2 := by unfold lkK; rw [e]
  have ev : lkV (yR S) (Int32.ofNat i) y = if y = 0 then l.2.1 else if y = 1 then l.2.2.1 else l.2.2.2 := by unfold lkV; rw [e]
  rw [ek, ev] at h0
  rw [ek] at h1
  refine ⟨in_01 _ _ _, cF a ⟨fun q => ⟨p1, p2, ?_⟩, fun q => ⟨fun q1 => ⟨p1, p2, ?_⟩, fun q1 => ⟨fun q2 => ⟨p1, p2, ?_⟩, fun q2 n hn => ?_⟩⟩⟩⟩
  · rw [p3.1]
    have := h0 (if_pos (by have := i0.mp q; omega))
    rw [if_pos q] at this
    exact this
  · rw [p3.2.1]
    have := h0 (if_pos (by have := i1.mp q1; omega))
    rw [if_neg q, if_pos q1] at this
    exact this
  · rw [p3.2.2]
    have := h0 (if_pos (by have := i2.mp q2; omega))
    rw [if_neg q, if_neg q1] at this
    exact this
  · rw [i0] at q
    rw [i1] at q1
    rw [i2] at q2
    rw [if_neg (by omega)] at h1
    exact h1 (by decide) n hn
theorem pm_look {Q : Int32 → Hp → Prop} (hM : RepM m τ S) (hQ : ∀ r τ', Ch (SMn m) τ τ' → gI τ' m 2 = lkK (yR S) x y → (lkK (yR S) x y = 0 → r = lkV (yR S) x y) → Q r τ') : wp_X6_look m τ x y Q := by
  have M2 : MKr m (pI τ m 2 0) (yR S) := (hM.q t0n).2.2.2.1.1
  have h4 := M2.2.1.1
  have wm : f_X6_isIn y 0 2 = 0 ↔ ¬ (0 ≤ y.toInt ∧ y.toInt ≤ 2) := isIn_iff y 0 2
  rcases at_cases (aL (yR S)) x (by omega) with nl | ⟨i, l, rfl, hi, hr⟩
  · have e : lkK (yR S) x y = 1 := by unfold lkK; rw [landAt_no nl]
    refine cT ((m_isLand M2 x).mpr nl) (fun r s hs => ?_)
    cases hs
    refine hQ 0 _ (t0n.tr t0n) ?_ (fun q => by rw [e] at q; cases q)
    rw [gI_pI, if_pos ⟨rfl, rfl⟩, e]
  have e : landAt (yR S) (Int32.ofNat i) = some l := landAt_at h4 hi
  have a : ¬ f_X6_isLand m (pI τ m 2 0) (Int32.ofNat i) = 0 := fun w => (m_isLand M2 _).mp w hr
  have ek : lkK (yR S) (Int32.ofNat i) y = if 0 ≤ y.toInt ∧ y.toInt ≤ 2 then 0 else 2 := by unfold lkK; rw [e]
  have ev : lkV (yR S) (Int32.ofNat i) y = if y = 0 then l.2.1 else if y = 1 then l.2.2.1 else l.2.2.2 := by unfold lkV; rw [e]
  rw [ek, ev] at hQ
  have il := get_lt hi
  refine cF a ⟨fun q => fun r s hs => ?_, fun q => ?_⟩
  · cases hs
    rw [if_neg (wm.mp q)] at hQ
    refine hQ 0 _ (t0n.tr t0n) ?_ (fun q => by cases q)
    rw [gI_pI, if_pos ⟨rfl, rfl⟩]
  · have hy : 0 ≤ y.toInt ∧ y.toInt ≤ 2 := Classical.byContradiction (fun z => q (wm.mpr z))
    obtain ⟨w, hw, rfl⟩ := idx (x := y) (n := 3) ⟨hy.1, by omega⟩ (by omega)
    rw [if_pos hy] at hQ
    have e0 : (3 : Int32) * Int32.ofNat i + Int32.ofNat w = Int32.ofNat (3 * i + w) := by rw [show (3 : Int32) = Int32.ofNat 3 from rfl, nat_m (by omega) (by omega) (by omega), nat_a (by omega)]
    rw [e0, nat_c (by omega)]
    obtain ⟨-, q1, q2, q3⟩ := M2.1.1 i l hi
    rw [show 12 * 0 + 3 * i = 3 * i by omega] at q1 q2 q3
    refine ⟨nat_v (by omega) (by omega), hQ _ _ t0n t0_2 (fun _ => ?_)⟩
    rcases (show w = 0 ∨ w = 1 ∨ w = 2 by omega) with rfl | rfl | rfl
    · exact q1
    · exact q2
    · exact q3
end
