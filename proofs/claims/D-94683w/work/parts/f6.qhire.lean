set_option maxRecDepth 100000
/-! ENDED YEARS, counted: how they grow -/
def EP (L g f c E : Int) : Prop := 0 ≤ E ∧ (E = 0 ∨ (1 ≤ lenI L g E ∧ begI L g f (E + 1) ≤ c + 1)) ∧ (lenI L g (E + 1) < 1 ∨ c + 1 < begI L g f (E + 2))
theorem beg_le {L g f y z : Int} (hL : 1 ≤ L) (h1 : 1 ≤ y) (h2 : y ≤ z) (h3 : 0 ≤ g ∨ 1 ≤ lenI L g (z - 1)) : begI L g f y + (z - y) ≤ begI L g f z := by
  by_cases e : y = z
  · subst e; omega
  · exact beg_lt hL h1 (by omega) h3
theorem EP.lip {L g f c c' E E' : Int} (hL : 1 ≤ L) (h : EP L g f c E) (h' : EP L g f c' E') (hc : c ≤ c') : E ≤ E' ∧ E' - E ≤ c' - c := by
  obtain ⟨a1, a2, a3⟩ := h
  obtain ⟨b1, b2, b3⟩ := h'
  constructor
  · refine Classical.byContradiction (fun q => ?_)
    obtain ⟨k1, k2⟩ : 1 ≤ lenI L g E ∧ begI L g f (E + 1) ≤ c + 1 := a2.elim (fun z => by omega) id
    have k3 := len_dn (L := L) (g := g) (y := E' + 1) (z := E) hL (by omega) (by omega) (Or.inr k1)
    have k4 : c' + 1 < begI L g f (E' + 2) := b3.elim (fun z => by omega) id
    have k5 := beg_le (f := f) (y := E' + 2) (z := E + 1) hL (by omega) (by omega) (Or.inr (by rw [Int.add_sub_cancel]; exact k1))
    omega
  · by_cases q : E' ≤ E
    · omega
    · obtain ⟨k1, k2⟩ : 1 ≤ lenI L g E' ∧ begI L g f (E' + 1) ≤ c' + 1 := b2.elim (fun z => by omega) id
      have k3 := len_dn (L := L) (g := g) (y := E + 1) (z := E') hL (by omega) (by omega) (Or.inr k1)
      have k4 : c + 1 < begI L g f (E + 2) := a3.elim (fun z => by omega) id
      have k5 := beg_le (f := f) (y := E + 2) (z := E' + 1) hL (by omega) (by omega) (Or.inr (by rw [Int.add_sub_cancel]; exact k1))
      omega
theorem yp_ex2 {L g f c : Int} (hL : 1 ≤ L) : ∀ (n : Nat), 1 ≤ lenI L g n → f ≤ c → c < begI L g f (1 + n) → ∃ y : Int, 1 ≤ y ∧ y ≤ n ∧ YP L g f c y := by
  intro n
  induction n with
  | zero =>
    intro _ h1 h2
    have e : begI L g f (1 + (0 : Nat)) = f := beg_one L g f
    omega
  | succ n ih =>
    intro hl h1 h2
    by_cases q : c < begI L g f (1 + n)
    · by_cases n0 : n = 0
      · subst n0
        have e : begI L g f (1 + (0 : Nat)) = f := beg_one L g f
        omega
      · obtain ⟨y, y1, y2, y3⟩ := ih (len_dn hL (by omega) (show (n : Int) ≤ ((n + 1 : Nat) : Int) by omega) (Or.inr hl)) h1 q
        exact ⟨y, y1, by omega, y3⟩
    · have e := beg_succ L g f (1 + n)
      have e2 : begI L g f (1 + ((n + 1 : Nat) : Int)) = begI L g f (1 + n + 1) := by congr 1
      have e3 : ((n + 1 : Nat) : Int) = 1 + (n : Int) := by omega
      rw [e3] at hl
      refine ⟨1 + (n : Int), by omega, by omega, by omega, hl, by omega, by omega⟩
theorem dy_i {x : LandA} {c : Int64} (k : LOK3 x.2.1 x.2.2.1 x.2.2.2) (hc : cOk c) (h : yrA x c ≠ -1) : YP x.2.1.toInt x.2.2.1.toInt x.2.2.2.toInt c.toInt (yrA x c).toInt ∧ (dyA x c).toInt = c.toInt - begI x.2.1.toInt x.2.2.1.toInt x.2.2.2.toInt (yrA x c).toInt + 1 ∧ (mLen x.2.1 x.2.2.1 (yrA x c)).toInt = lenI x.2.1.toInt x.2.2.1.toInt (yrA x c).toInt ∧ (mStart x.2.1 x.2.2.1 x.2.2.2 (yrA x c)).toInt = begI x.2.1.toInt x.2.2.1.toInt x.2.2.2.toInt (yrA x c).toInt ∧ 0 ≤ begI x.2.1.toInt x.2.2.1.toInt x.2.2.2.toInt (yrA x c).toInt := by
  have yp : YP x.2.1.toInt x.2.2.1.toInt x.2.2.2.toInt c.toInt (yrA x c).toInt := by
    rcases yr_cs x.2.1 x.2.2.1 x.2.2.2 c with q | q
    · exact absurd q.1 h
    · exact q.2
  have yb := yp.b k hc.2
  obtain ⟨y1, y2, y3, y4⟩ := yp
  obtain ⟨s1, s2⟩ := st_beg (c := c) k hc.2 (y := yrA x c) y1 (by omega) (yb.2.2.1.imp id (fun q => by omega)) (by have := hc.2; omega)
  have b0 : 0 ≤ begI x.2.1.toInt x.2.2.1.toInt x.2.2.2.toInt (yrA x c).toInt := by
    have k5 := k.2.2.2.2.1
    have := beg_le (L := x.2.1.toInt) (g := x.2.2.1.toInt) (f := x.2.2.2.toInt) (y := 1) (z := (yrA x c).toInt) k.1 (Int.le_refl _) y1 (by
      by_cases e : (yrA x c).toInt = 1
      · by_cases g0 : 0 ≤ x.2.2.1.toInt
        · exact Or.inl g0
        · refine Or.inr ?_
          rw [e]; unfold lenI
          have : x.2.2.1.toInt * (1 - 1 - 1) = -x.2.2.1.toInt := by omega
          have := k.1
          omega
      · exact Or.inr (len_dn k.1 (by omega) (by omega) (Or.inr y2)))
    rw [beg_one] at this
    omega
  have c1 := hc.1
  have c2 := hc.2
  refine ⟨⟨y1, y2, y3, y4⟩, ?_, mLen_i k (by omega) (by omega), s2, b0⟩
  unfold dyA
  exact l3_add (l3_sub rfl s2 (by omega) (by omega)) (by rfl) (by omega) (by omega)
theorem end_ep {x : LandA} {c : Int64} (k : LOK3 x.2.1 x.2.2.1 x.2.2.2) (hc : cOk c) : EP x.2.1.toInt x.2.2.1.toInt x.2.2.2.toInt c.toInt (endA x c).toInt := by
  unfold endA
  by_cases hf : x.2.2.2.toInt ≤ c.toInt
  · rw [if_pos hf]
    by_cases hy : yrA x c = -1
    · rw [if_pos hy]
      have gn := yr_neg k hc.1 hc.2 hf hy
      have ml := mLast_neg k gn
      have mb := mLast_b k gn
      have l1 : 1 ≤ lenI x.2.1.toInt x.2.2.1.toInt (mLast x.2.1 x.2.2.1).toInt := (last_iff gn).mp (by omega)
      have l2 : ¬ 1 ≤ lenI x.2.1.toInt x.2.2.1.toInt ((mLast x.2.1 x.2.2.1).toInt + 1) := fun q => by
        have := (last_iff gn).mpr q
        omega
      refine ⟨by omega, Or.inr ⟨l1, ?_⟩, Or.inl (by omega)⟩
      refine Classical.byContradiction (fun q => ?_)
      have en : (((mLast x.2.1 x.2.2.1).toInt.toNat : Nat) : Int) = (mLast x.2.1 x.2.2.1).toInt := by omega
      obtain ⟨y, y1, y2, y3⟩ := yp_ex2 (L := x.2.1.toInt) (g := x.2.2.1.toInt) (f := x.2.2.2.toInt) (c := c.toInt) k.1 (mLast x.2.1 x.2.2.1).toInt.toNat (by rw [en]; exact l1) hf (by rw [en, Int.add_comm]; omega)
      have e := l2_ofInt (n := y) (by omega) (by omega)
      have := yr_of k (c := c) (y := Int64.ofInt y) (by rw [e]; exact y3)
      have hy : yr x.2.1 x.2.2.1 x.2.2.2 c = -1 := hy
      rw [hy] at this
      have w : (-1 : Int64).toInt = (Int64.ofInt y).toInt := congrArg Int64.toInt this
      rw [e] at w
      have : (-1 : Int64).toInt = -1 := by rfl
      omega
    · rw [if_neg hy]
      obtain ⟨⟨y1, y2, y3, y4⟩, d1, d2, d3, d4⟩ := dy_i k hc hy
      have bs := beg_succ x.2.1.toInt x.2.2.1.toInt x.2.2.2.toInt (yrA x c).toInt
      have bs2 := beg_succ x.2.1.toInt x.2.2.1.toInt x.2.2.2.toInt ((yrA x c).toInt + 1)
      by_cases q : dyA x c = mLen x.2.1 x.2.2.1 (yrA x c)
      · rw [if_pos q]
        rw [l3_eq d1 d2] at q
        refine ⟨by omega, Or.inr ⟨y2, by omega⟩, ?_⟩
        by_cases z : lenI x.2.1.toInt x.2.2.1.toInt ((yrA x c).toInt + 1) < 1
        · exact Or.inl z
        · refine Or.inr ?_
          rw [show (yrA x c).toInt + 2 = (yrA x c).toInt + 1 + 1 by omega]
          omega
      · rw [if_neg q]
        rw [l3_eq d1 d2] at q
        rw [l3_sub (a := yrA x c) (b := 1) rfl (y := 1) (by rfl) (by omega) (by have := l2_b (yrA x c); omega)]
        refine ⟨by omega, ?_, Or.inr ?_⟩
        · by_cases z : (yrA x c).toInt = 1
          · exact Or.inl (by omega)
          · exact Or.inr ⟨len_dn k.1 (by omega) (by omega) (Or.inr y2), by rw [Int.sub_add_cancel]; omega⟩
        · rw [show (yrA x c).toInt - 1 + 2 = (yrA x c).toInt + 1 by omega]
          omega
  · rw [if_neg hf]
    refine ⟨by decide, Or.inl rfl, Or.inr ?_⟩
    have bs := beg_succ x.2.1.toInt x.2.2.1.toInt x.2.2.2.toInt 1
    have b1 := beg_one x.2.1.toInt x.2.2.1.toInt x.2.2.2.toInt
    have l1 : lenI x.2.1.toInt x.2.2.1.toInt 1 = x.2.1.toInt := by unfold lenI; omega
    have z0 : (0 : Int64).toInt = 0 := rfl
    have := k.1
    rw [z0, show (0 : Int) + 2 = 1 + 1 by omega]
    omega
theorem end_b {x : LandA} {c : Int64} {n : Int32} (k : LOK3 x.2.1 x.2.2.1 x.2.2.2) (hc : cOk c) (hn : dOk n) (hcn : (c + n.toInt64).toInt ≤ 1000000000000) : 0 ≤ (endA x (c + n.toInt64) - endA x c).toInt ∧ (endA x (c + n.toInt64) - endA x c).toInt ≤ 99999 := by
  have e := cn_i hc hn
  have c2 : cOk (c + n.toInt64) := ⟨by rw [e]; have := hc.1; have := hn.1; omega, hcn⟩
  have h1 := end_ep k hc
  have h2 := end_ep k c2
  have n1 := hn.1
  have n2 := hn.2
  have l := EP.lip k.1 h1 h2 (by omega)
  have a := h1.1
  rw [l3_sub (a := endA x (c + n.toInt64)) (b := endA x c) rfl rfl (by omega) (by have := l2_b (endA x (c + n.toInt64)); omega)]
  omega
/-- best so far, how many, the next to be looked at -/
noncomputable def hiStep (x : LandA) (hi : Int64) (n : Int32) (s : Int64 × Int64 × Int64) : (Int64 × Int64 × Int64) ⊕ Int64 :=
  if hi < s.2.2 then .inr s.1 else if s.1 = -1 ∨ s.2.1 < endA x (s.2.2 + n.toInt64) - endA x s.2.2 then .inl (s.2.2, endA x (s.2.2 + n.toInt64) - endA x s.2.2, s.2.2 + 1) else .inl (s.1, s.2.1, s.2.2 + 1)
theorem q_hire {o c m : Nat} {σ τ : Hp} {R : RlA} {l n w : Int32} {d : Int64} (hL : LRl c σ R) (hM : MKr m τ R) (hk : ROk R) : ∃ v, QL (wp_X1_hire o c σ l d w n) v ∧ QM m τ (wp_X6_hire m τ l d w n) v := by
  have M2 : MKr m (pI τ m 2 0) R := hM.ch Ch.t0
  have h4 := hL.1.2.1
  have wl : f_X1_in w.toInt64 0 999 = 0 ↔ ¬ (0 ≤ w.toInt ∧ w.toInt ≤ 999) := in_iff (by rw [Int32.toInt_toInt64]) (by rfl) (by rfl)
  have wm : f_X6_isIn w 0 999 = 0 ↔ ¬ (0 ≤ w.toInt ∧ w.toInt ≤ 999) := isIn_iff w 0 999
  have ml := m_days n
  rcases at_cases (aL R) l (by omega) with nl | ⟨i, x, rfl, hi, hr⟩
  · have a : f_X1_isLand o c σ l = 0 := (l_isLand hL l).mpr nl
    have b : f_X6_isLand m (pI τ m 2 0) l = 0 := (m_isLand M2 l).mpr nl
    exact ⟨-1, fun Q hQ => ⟨in_01 _ _ _, cT a hQ⟩, fun Q hQ => cT b (hQ _ Ch.t0 t0_2)⟩
  have a : ¬ f_X1_isLand o c σ (Int32.ofNat i) = 0 := fun w => (l_isLand hL _).mp w hr
  have b : ¬ f_X6_isLand m (pI τ m 2 0) (Int32.ofNat i) = 0 := fun w => (m_isLand M2 _).mp w hr
  have kx : LOK3 x.2.1 x.2.2.1 x.2.2.2 := hk.1 x (List.mem_of_getElem? hi)
  by_cases q1 : cOk d
  · by_cases q2 : 0 ≤ w.toInt ∧ w.toInt ≤ 999
    · by_cases q3 : dOk n
      · by_cases q4 : d + w.toInt64 + n.toInt64 ≤ 1000000000000
        · have d1 := q1.1
          have d2 := q1.2
          have n1 := q3.1
          have n2 := q3.2
          have eh : (d + w.toInt64).toInt = d.toInt + w.toInt := l3_add rfl (i2_l w) (by omega) (by omega)
          have eh2 : (d + w.toInt64 + n.toInt64).toInt = d.toInt + w.toInt + n.toInt := l3_add eh (i2_l n) (by omega) (by omega)
          have q5 := q4
          rw [l3_le eh2 (y := 1000000000000) (by rfl)] at q5
          have tot : ∃ r, Rn (hiStep x (d + w.toInt64) n) (-1, 0, d) r := by
            refine Rn.tot2 (fun s => d.toInt ≤ s.2.2.toInt ∧ s.2.2.toInt ≤ d.toInt + w.toInt + 1) (fun s => (d.toInt + w.toInt + 1 - s.2.2.toInt).toNat) ?_ _ ⟨Int.le_refl _, by simp only; omega⟩
            rintro ⟨s1, s2, s3⟩ s' ⟨i1, i2⟩ e
            simp only at i1 i2 ⊢
            unfold hiStep at e
            simp only at e
            have en : (s3 + 1).toInt = s3.toInt + 1 := l3_add rfl (by rfl) (by omega) (by omega)
            by_cases z : d + w.toInt64 < s3
            · rw [if_pos z] at e; cases e
            · rw [if_neg z] at e
              rw [l3_lt eh rfl] at z
              split at e <;> cases e <;> simp only [en] <;> omega
          obtain ⟨r, hr'⟩ := tot
          refine ⟨r, fun Q hQ => ⟨in_01 _ _ _, cF a ⟨in_01 _ _ _, cF (fun z => (l_cnt d).mp z q1) (cF (fun z => wl.mp z q2) (cF (fun z => (l_days n).mp z q3) (cT q4 ?_)))⟩⟩, fun Q hQ => cF b (cF (fun z => (m_cnt d).mp z q1) (cF (fun z => wm.mp z q2) ⟨ml.1, cF (fun z => ml.2.mp z q3) (cT q4 ?_)⟩))⟩
          · refine lp_rn (step := hiStep x (d + w.toInt64) n) (fun S z => z.1 = S.1 ∧ z.2.2 = S.2.2 ∧ z.2.1.toInt = S.2.1.toInt ∧ d.toInt ≤ S.2.2.toInt ∧ S.2.2.toInt ≤ d.toInt + w.toInt + 1) ?_ (s := (-1, 0, d)) ⟨rfl, rfl, rfl, Int.le_refl _, by simp only; omega⟩ hr'
            rintro K ⟨s1, s2, s3⟩ ⟨z1, z2, z3⟩ ⟨i1, i2, i3, i4, i5⟩ hK hE
            simp only at i1 i2 i3 i4 i5
            subst i1; subst i2
            have en : (z3 + 1).toInt = z3.toInt + 1 := l3_add rfl (by rfl) (by omega) (by omega)
            show (_ → _) ∧ (_ → _)
            refine ⟨fun c1 => ?_, fun c1 => ?_⟩
            · have es : hiStep x (d + w.toInt64) n (z1, s2, z3) = .inr z1 := by unfold hiStep; rw [if_pos c1]
              rw [hE _ es]; exact hQ
            · have c1' := c1
              rw [l3_lt eh rfl] at c1'
              have cz : cOk z3 := ⟨by omega, by omega⟩
              have e3 := cn_i cz q3
              have c3 : (z3 + n.toInt64).toInt ≤ 1000000000000 := by rw [e3]; omega
              have eb := end_b kx cz q3 c3
              have ev : endsQ R (Int32.ofNat i) z3 n = (endA x (z3 + n.toInt64) - endA x z3).toInt32 := by
                unfold endsQ
                rw [landAt_at h4 hi]
                show @ite _ _ (Classical.propDecidable _) _ _ = _
                rw [if_pos ⟨cz, q3, (l3_le rfl (y := 1000000000000) (by rfl)).mpr c3⟩]
              have e32 : (endA x (z3 + n.toInt64) - endA x z3).toInt32.toInt = (endA x (z3 + n.toInt64) - endA x z3).toInt := by
                rw [Int64.toInt_toInt32]
                exact bm32 (by omega) (by omega)
              refine ql_ends hL hk.1 ?_
              rw [ev]
              have lt : z2 < (endA x (z3 + n.toInt64) - endA x z3).toInt32 ↔ s2 < endA x (z3 + n.toInt64) - endA x z3 := by
                rw [i3_lt i3 e32, l2_lt]
              refine ⟨fun c4 => ?_, fun c4 => ⟨fun c5 => ?_, fun c5 => ?_⟩⟩
              · have es : hiStep x (d + w.toInt64) n (z1, s2, z3) = .inl (z3, endA x (z3 + n.toInt64) - endA x z3, z3 + 1) := by unfold hiStep; rw [if_neg c1, if_pos (Or.inl c4)]
                exact hK _ _ es ⟨rfl, rfl, e32, by simp only [en]; omega, by simp only [en]; omega⟩
              · have es : hiStep x (d + w.toInt64) n (z1, s2, z3) = .inl (z3, endA x (z3 + n.toInt64) - endA x z3, z3 + 1) := by unfold hiStep; rw [if_neg c1, if_pos (Or.inr (lt.mp c5))]
                exact hK _ _ es ⟨rfl, rfl, e32, by simp only [en]; omega, by simp only [en]; omega⟩
              · have es : hiStep x (d + w.toInt64) n (z1, s2, z3) = .inl (z1, s2, z3 + 1) := by unfold hiStep; rw [if_neg c1, if_neg (fun u => u.elim c4 (fun u => c5 (lt.mpr u)))]
                exact hK _ _ es ⟨rfl, rfl, i3, by simp only [en]; omega, by simp only [en]; omega⟩
          · refine lp_rn (step := hiStep x (d + w.toInt64) n) (fun S z => ∃ τ', z = (S.1, S.2.1, S.2.2, τ') ∧ Ch (SMq m) τ τ' ∧ gI τ' m 2 = 0 ∧ d.toInt ≤ S.2.2.toInt ∧ S.2.2.toInt ≤ d.toInt + w.toInt + 1 ∧ (S.1 = -1 ∨ 0 ≤ S.1.toInt)) ?_ (s := (-1, 0, d)) ⟨_, rfl, Ch.t0, t0_2, Int.le_refl _, by simp only; omega, Or.inl rfl⟩ hr'
            rintro K ⟨s1, s2, s3⟩ z ⟨τ', rfl, t1, t2, i4, i5, i6⟩ hK hE
            simp only at i4 i5 i6
            have en : (s3 + 1).toInt = s3.toInt + 1 := l3_add rfl (by rfl) (by omega) (by omega)
            have M3 := hM.ch t1
            have dd := m_landAt M3 hi
            show (_ → _) ∧ (_ → _)
            refine ⟨fun c1 => ?_, fun c1 => ?_⟩
            · have es : hiStep x (d + w.toInt64) n (s1, s2, s3) = .inr s1 := by unfold hiStep; rw [if_pos c1]
              rw [← hE _ es] at hQ; exact hQ _ t1 t2
            · have c1' : ¬ d + w.toInt64 < s3 := c1
              rw [l3_lt eh rfl] at c1'
              have cz : cOk s3 := ⟨by omega, by omega⟩
              have e3 := cn_i cz q3
              have c3 : cOk (s3 + n.toInt64) := ⟨by rw [e3]; omega, by rw [e3]; omega⟩
              refine m_ended dd kx c3 (fun u1 v1 => m_ended (dd.ds v1) kx cz (fun u2 v2 => ?_))
              have t3 : Ch (SMq m) τ u2 := t1.tr (v1.chq.tr v2.chq)
              have t4 : gI u2 m 2 = 0 := by rw [(DS.tr v1 v2).gi (by omega)]; exact t2
              have lt : s1 < 0 ↔ s1 = -1 := by
                rw [l3_lt rfl (y := 0) (by rfl)]
                constructor
                · intro z; exact i6.elim id (fun y => by omega)
                · intro z; rw [z]; decide
              refine ⟨fun c4 => ?_, fun c4 => ⟨fun c5 => ?_, fun c5 => ?_⟩⟩
              · have es : hiStep x (d + w.toInt64) n (s1, s2, s3) = .inl (s3, endA x (s3 + n.toInt64) - endA x s3, s3 + 1) := by unfold hiStep; rw [if_neg c1, if_pos (Or.inl (lt.mp c4))]
                exact hK _ _ es ⟨_, rfl, t3, t4, by simp only [en]; omega, by simp only [en]; omega, Or.inr cz.1⟩
              · have es : hiStep x (d + w.toInt64) n (s1, s2, s3) = .inl (s3, endA x (s3 + n.toInt64) - endA x s3, s3 + 1) := by unfold hiStep; rw [if_neg c1, if_pos (Or.inr c5)]
                exact hK _ _ es ⟨_, rfl, t3, t4, by simp only [en]; omega, by simp only [en]; omega, Or.inr cz.1⟩
              · have es : hiStep x (d + w.toInt64) n (s1, s2, s3) = .inl (s1, s2, s3 + 1) := by unfold hiStep; rw [if_neg c1, if_neg (fun u => u.elim (fun u => c4 (lt.mpr u)) (fun u => c5 u))]
                exact hK _ _ es ⟨_, rfl, t3, t4, by simp only [en]; omega, by simp only [en]; omega, i6⟩
        · exact ⟨-1, fun Q hQ => ⟨in_01 _ _ _, cF a ⟨in_01 _ _ _, cF (fun z => (l_cnt d).mp z q1) (cF (fun z => wl.mp z q2) (cF (fun z => (l_days n).mp z q3) (cF q4 hQ)))⟩⟩, fun Q hQ => cF b (cF (fun z => (m_cnt d).mp z q1) (cF (fun z => wm.mp z q2) ⟨ml.1, cF (fun z => ml.2.mp z q3) (cF q4 (hQ _ Ch.t0 t0_2))⟩))⟩
      · exact ⟨-1, fun Q hQ => ⟨in_01 _ _ _, cF a ⟨in_01 _ _ _, cF (fun z => (l_cnt d).mp z q1) (cF (fun z => wl.mp z q2) (cT ((l_days n).mpr q3) hQ))⟩⟩, fun Q hQ => cF b (cF (fun z => (m_cnt d).mp z q1) (cF (fun z => wm.mp z q2) ⟨ml.1, cT (ml.2.mpr q3) (hQ _ Ch.t0 t0_2)⟩))⟩
    · exact ⟨-1, fun Q hQ => ⟨in_01 _ _ _, cF a ⟨in_01 _ _ _, cF (fun z => (l_cnt d).mp z q1) (cT (wl.mpr q2) hQ)⟩⟩, fun Q hQ => cF b (cF (fun z => (m_cnt d).mp z q1) (cT (wm.mpr q2) (hQ _ Ch.t0 t0_2)))⟩
  · exact ⟨-1, fun Q hQ => ⟨in_01 _ _ _, cF a ⟨in_01 _ _ _, cT ((l_cnt d).mpr q1) hQ⟩⟩, fun Q hQ => cF b (cT ((m_cnt d).mpr q1) (hQ _ Ch.t0 t0_2))⟩
