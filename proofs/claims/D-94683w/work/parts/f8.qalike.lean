set_option maxRecDepth 100000
theorem wp_dateA {m : Nat} {σ : Hp} {l : Int32} {x : LandA} {c : Int64} {Q : Int32 → Hp → Prop} (h : MDo m σ l x.2.1 x.2.2.1 x.2.2.2) (k : LOK3 x.2.1 x.2.2.1 x.2.2.2) (hc : cOk c) (hN : yrA x c = -1 → ∀ σ', DS m σ σ' → Q 0 σ') (hY : yrA x c ≠ -1 → ∀ σ', DS m σ σ' → gL σ' m 53 = yrA x c → gL σ' m 54 = dyA x c → Q 1 σ') : wp_X6_date1 m σ l c Q := by
  refine wp_date1 h k hc.1 hc.2 hN (fun e => hY e _ (Or.inr ⟨_, _, rfl⟩) ?_ ?_)
  · rw [gL_pL, if_neg (by omega), gL_pL, if_pos ⟨rfl, rfl⟩]; rfl
  · rw [gL_pL, if_pos ⟨rfl, rfl⟩]; rfl
theorem DS.two {m : Nat} {σ σ' : Hp} (h : DS m σ σ') (h2 : gI σ m 2 = 0) : gI σ' m 2 = 0 := by rw [(DS.tr h (Or.inl rfl)).gi (by omega)]; exact h2
def alHit (x y : LandA) (w : Int32) (d : Int64) : Prop := yrA x d ≠ -1 ∧ yrA y d ≠ -1 ∧ (w = 0 ∨ yrA x d = yrA y d) ∧ dyA x d = dyA y d
theorem dy_eq {x y : LandA} {d : Int64} : d - mStart x.2.1 x.2.2.1 x.2.2.2 (yrA x d) = d - mStart y.2.1 y.2.2.1 y.2.2.2 (yrA y d) ↔ dyA x d = dyA y d := by
  unfold dyA
  constructor <;> intro h <;> grind
theorem q_alike {o c m : Nat} {σ τ : Hp} {R : RlA} {l k w : Int32} {d : Int64} (hL : LRl c σ R) (hM : MKr m τ R) (hk : ROk R) : ∃ v, QL (wp_X1_alike o c σ l k d w) v ∧ QM m τ (wp_X6_alike m τ l k d w) v := by
  have M2 : MKr m (pI τ m 2 0) R := hM.ch Ch.t0
  have h4 := hL.1.2.1
  rcases at_cases (aL R) l (by omega) with nl | ⟨i, x, rfl, hi, hr⟩
  · have a : f_X1_isLand o c σ l = 0 := (l_isLand hL l).mpr nl
    have b : f_X6_isLand m (pI τ m 2 0) l = 0 := (m_isLand M2 l).mpr nl
    exact ⟨-1, fun Q hQ => ⟨in_01 _ _ _, cT a hQ⟩, fun Q hQ => cT b (hQ _ Ch.t0 t0_2)⟩
  have a : ¬ f_X1_isLand o c σ (Int32.ofNat i) = 0 := fun w => (l_isLand hL _).mp w hr
  have b : ¬ f_X6_isLand m (pI τ m 2 0) (Int32.ofNat i) = 0 := fun w => (m_isLand M2 _).mp w hr
  have kx : LOK3 x.2.1 x.2.2.1 x.2.2.2 := hk.1 x (List.mem_of_getElem? hi)
  obtain ⟨p1, p2, p3⟩ := l_land (o := o) hL hi
  rcases at_cases (aL R) k (by omega) with nl | ⟨j, y, rfl, hj, hrj⟩
  · have a2 : f_X1_isLand o c σ k = 0 := (l_isLand hL k).mpr nl
    have b2 : f_X6_isLand m (pI τ m 2 0) k = 0 := (m_isLand M2 k).mpr nl
    exact ⟨-1, fun Q hQ => ⟨in_01 _ _ _, cF a ⟨in_01 _ _ _, cT a2 hQ⟩⟩, fun Q hQ => cF b (cT b2 (hQ _ Ch.t0 t0_2))⟩
  have a2 : ¬ f_X1_isLand o c σ (Int32.ofNat j) = 0 := fun w => (l_isLand hL _).mp w hrj
  have b2 : ¬ f_X6_isLand m (pI τ m 2 0) (Int32.ofNat j) = 0 := fun w => (m_isLand M2 _).mp w hrj
  have ky : LOK3 y.2.1 y.2.2.1 y.2.2.2 := hk.1 y (List.mem_of_getElem? hj)
  obtain ⟨r1, r2, r3⟩ := l_land (o := o) hL hj
  by_cases q0 : Int32.ofNat i = Int32.ofNat j
  · exact ⟨-1, fun Q hQ => ⟨in_01 _ _ _, cF a ⟨in_01 _ _ _, cF a2 (cT q0 hQ)⟩⟩, fun Q hQ => cF b (cF b2 (cT q0 (hQ _ Ch.t0 t0_2)))⟩
  rcases (Classical.em (cOk d)).symm with q1 | q1
  · exact ⟨-1, fun Q hQ => ⟨in_01 _ _ _, cF a ⟨in_01 _ _ _, cF a2 (cF q0 ⟨in_01 _ _ _, cT ((l_cnt d).mpr q1) hQ⟩)⟩⟩, fun Q hQ => cF b (cF b2 (cF q0 (cT ((m_cnt d).mpr q1) (hQ _ Ch.t0 t0_2))))⟩
  have d1 := q1.1
  have d2 := q1.2
  have e2 : (d + 20000).toInt = d.toInt + 20000 := l3_add rfl (by rfl) (by omega) (by omega)
  obtain ⟨r, er⟩ : ∃ r, srV (fun z => d + 20000 ≤ z ∨ 1000000000000 < z) (alHit x y w) 20000 d = r := ⟨_, rfl⟩
  have lL : ∀ z : Int64, 1000000000000 < z ↔ (1000000000000 : Int) < z.toInt := fun z => l3_lt (by rfl) rfl
  refine ⟨srL r, fun Q hQ => ⟨in_01 _ _ _, cF a ⟨in_01 _ _ _, cF a2 (cF q0 ⟨in_01 _ _ _, cF (fun z => (l_cnt d).mp z q1) ⟨p1, r1, ?_⟩⟩)⟩⟩, fun Q hQ => cF b (cF b2 (cF q0 (cF (fun z => (m_cnt d).mp z q1) ?_)))⟩
  · refine sr_lp (fun n z u => u = z ∧ z.toInt + n = d.toInt + 20000 ∧ d.toInt ≤ z.toInt) _ (fun z u hI => Or.inl (by rw [l3_le e2 rfl]; omega)) ?_ ⟨rfl, rfl, Int.le_refl _⟩ er
    rintro K n z u ⟨rfl, hn, h1⟩ hK hs hh
    show (_ → _) ∧ (_ → _)
    refine ⟨fun c1 => ?_, fun c1 => ⟨fun c2 => ?_, fun c2 => ?_⟩⟩
    · have e := hs (Or.inl c1); rw [e] at hQ; exact hQ
    · have e := hs (Or.inr c2); rw [e] at hQ; exact hQ
    have ns : ¬ (d + 20000 ≤ u ∨ 1000000000000 < u) := fun z => z.elim c1 c2
    rw [l3_le e2 rfl] at c1
    rw [lL] at c2
    have no : ¬ alHit x y w u → K (u + 1) := fun nh => hK (n - 1) _ (by omega) ns nh ⟨rfl, by rw [l3_add (a := u) (b := 1) rfl (y := 1) (by rfl) (by omega) (by omega)]; omega, by rw [l3_add (a := u) (b := 1) rfl (y := 1) (by rfl) (by omega) (by omega)]; omega⟩
    have yes : alHit x y w u → Q u := fun hh' => by have e := hh ns hh'; rw [e] at hQ; exact hQ
    refine ⟨p2, wp_year p3 kx (by omega) (by omega) ⟨r2, wp_year r3 ky (by omega) (by omega) ⟨fun g => no (fun h => h.1 g), fun g => ⟨fun g2 => no (fun h => h.2.1 g2), fun g2 => ?_⟩⟩⟩⟩
    have jn : (w = 0 ∨ yrA x u = yrA y u) → wj_X1_alike_121 o c σ d w (f_X1_land o c σ (Int32.ofNat i)) (f_X1_land o c σ (Int32.ofNat j)) u (yrA x u) (yrA y u) Q K := fun g3 => by
      refine ⟨p2, r2, ?_⟩
      rw [fl_start p3, fl_start r3, dy_eq]
      exact ⟨fun g4 => yes ⟨g, g2, g3, g4⟩, fun g4 => no (fun h => g4 h.2.2.2)⟩
    exact ⟨fun g3 => jn (Or.inl g3), fun g3 => ⟨fun g4 => jn (Or.inr g4), fun g4 => no (fun h => h.2.2.1.elim g3 g4)⟩⟩
  · refine sr_lp (fun n z u => ∃ τ', u = (z, τ') ∧ Ch (SMq m) τ τ' ∧ gI τ' m 2 = 0 ∧ z.toInt + n = d.toInt + 20000 ∧ d.toInt ≤ z.toInt) _ (fun z u ⟨τ', _, _, _, hI, _⟩ => Or.inl (by rw [l3_le e2 rfl]; omega)) ?_ ⟨_, rfl, Ch.t0, t0_2, rfl, Int.le_refl _⟩ er
    rintro K n z u ⟨τ', rfl, t1, t2, hn, h1⟩ hK hs hh
    have M3 := hM.ch t1
    have dx := m_landAt M3 hi
    show (_ → _) ∧ (_ → _)
    refine ⟨fun c1 => ?_, fun c1 => ⟨fun c2 => ?_, fun c2 => ?_⟩⟩
    · have e := hs (Or.inl c1); rw [e] at hQ; exact hQ _ t1 t2
    · have e := hs (Or.inr c2); rw [e] at hQ; exact hQ _ t1 t2
    have ns : ¬ (d + 20000 ≤ z ∨ 1000000000000 < z) := fun z => z.elim c1 c2
    rw [l3_le e2 rfl] at c1
    rw [lL] at c2
    have no : ¬ alHit x y w z → ∀ τ2, Ch (SMq m) τ τ2 → gI τ2 m 2 = 0 → K (z + 1, τ2) := fun nh τ2 u1 u2 => hK (n - 1) _ (by omega) ns nh ⟨τ2, rfl, u1, u2, by rw [l3_add (a := z) (b := 1) rfl (y := 1) (by rfl) (by omega) (by omega)]; omega, by rw [l3_add (a := z) (b := 1) rfl (y := 1) (by rfl) (by omega) (by omega)]; omega⟩
    have yes : alHit x y w z → ∀ τ2, Ch (SMq m) τ τ2 → gI τ2 m 2 = 0 → Q z τ2 := fun hh' τ2 u1 u2 => by have e := hh ns hh'; rw [e] at hQ; exact hQ τ2 u1 u2
    have t2' : ∀ {τ2 τ3}, DS m τ2 τ3 → gI τ2 m 2 = 0 → gI τ3 m 2 = 0 := fun hd h => by rw [(DS.tr hd (Or.inl rfl)).gi (by omega)]; exact h
    have cu : cOk z := ⟨by omega, by omega⟩
    refine wp_dateA dx kx cu (fun e σ' hd => cT rfl (no (fun h => h.1 e) σ' (t1.tr hd.chq) (t2' hd t2))) (fun e τ1 hd f53 f54 => cF (by decide) ?_)
    have M4 := M3.ch hd.chq
    have u1 := t1.tr hd.chq
    have u2 := t2' hd t2
    have dy := m_landAt M4 hj
    refine wp_dateA dy ky cu (fun e' σ' hd' => cT rfl (no (fun h => h.2.1 e') σ' (u1.tr hd'.chq) (t2' hd' u2))) (fun e' τ3 hd' g53 g54 => cF (by decide) ?_)
    have v1 := u1.tr hd'.chq
    have v2 := t2' hd' u2
    rw [g54, f54, g53, f53]
    refine ⟨fun c4 => ⟨fun c5 => yes ⟨e, e', Or.inl c5, c4.symm⟩ _ v1 v2, fun c5 => ⟨fun c6 => yes ⟨e, e', Or.inr c6.symm, c4.symm⟩ _ v1 v2, fun c6 => no (fun h => h.2.2.1.elim c5 (fun u => c6 u.symm)) _ v1 v2⟩⟩, fun c4 => no (fun h => c4 h.2.2.2.symm) _ v1 v2⟩
/-! AGE -/
def ageI (L g : Int) (day first : Int) (lt : Int) : Int := max 0 ((if g < 0 then min lt ((L - day) / -g + 1) else lt) - first)
theorem q_age {o c m : Nat} {σ τ : Hp} {R : RlA} {p l : Int32} {d : Int64} (hL : LRl c σ R) (hM : MKr m τ R) (hk : ROk R) : ∃ v, QL (wp_X1_age o c σ p d l) v ∧ QM m τ (wp_X6_age m τ p d l) v := by
  have M2 : MKr m (pI τ m 2 0) R := hM.ch Ch.t0
  have h4 := hL.1.2.1
  have h6 := hM.2.1.2.2.1
  rcases at_cases (aP R) p (by omega) with np | ⟨ip, xp, rfl, hp, hrp⟩
  · exact ⟨-1, fun Q hQ => ⟨in_01 _ _ _, cT ((l_isPerson hL p).mpr np) hQ⟩, fun Q hQ => cT ((m_isPerson M2 p).mpr np) (hQ _ Ch.t0 t0_2)⟩
  have a1 : ¬ f_X1_isPerson o c σ (Int32.ofNat ip) = 0 := fun w => (l_isPerson hL _).mp w hrp
  have b1 : ¬ f_X6_isPerson m (pI τ m 2 0) (Int32.ofNat ip) = 0 := fun w => (m_isPerson M2 _).mp w hrp
  rcases (Classical.em (cOk d)).symm with q1 | q1
  · exact ⟨-1, fun Q hQ => ⟨in_01 _ _ _, cF a1 ⟨in_01 _ _ _, cT ((l_cnt d).mpr q1) hQ⟩⟩, fun Q hQ => cF b1 (cT ((m_cnt d).mpr q1) (hQ _ Ch.t0 t0_2))⟩
  have nl1 : ¬ f_X1_isCount d = 0 := fun z => (l_cnt d).mp z q1
  have nm1 : ¬ f_X6_isCount d = 0 := fun z => (m_cnt d).mp z q1
  rcases at_cases (aL R) l (by omega) with nl | ⟨i, x, rfl, hi, hr⟩
  · exact ⟨-1, fun Q hQ => ⟨in_01 _ _ _, cF a1 ⟨in_01 _ _ _, cF nl1 ⟨in_01 _ _ _, cT ((l_isLand hL l).mpr nl) hQ⟩⟩⟩, fun Q hQ => cF b1 (cF nm1 (cT ((m_isLand M2 l).mpr nl) (hQ _ Ch.t0 t0_2)))⟩
  have a2 : ¬ f_X1_isLand o c σ (Int32.ofNat i) = 0 := fun w => (l_isLand hL _).mp w hr
  have b2 : ¬ f_X6_isLand m (pI τ m 2 0) (Int32.ofNat i) = 0 := fun w => (m_isLand M2 _).mp w hr
  have kx : LOK3 x.2.1 x.2.2.1 x.2.2.2 := hk.1 x (List.mem_of_getElem? hi)
  obtain ⟨p1, p2, p3⟩ := l_land (o := o) hL hi
  obtain ⟨pp, e1, e2, e3, e4⟩ := lst_get hL.2.2.1 (by omega) hp
  have ipl := get_lt hp
  have bd : cOk xp.2.1 := (hk.2.2.1 xp (List.mem_of_getElem? hp)).1
  have lb : gL σ (f_J2_get (c + 5) 6 σ (Int32.ofNat ip)) 1 = xp.2.1 := by rw [e1]; exact e4.2.2.2.1
  have lo : OB 8 (f_J2_get (c + 5) 6 σ (Int32.ofNat ip)) σ := by rw [e1]; exact e4.2.1
  have mb : gL (pI τ m 2 0) (m + 10) (Int32.ofNat ip).toNatClampNeg = xp.2.1 := by
    rw [nat_c (by omega), show ip = 6 * 0 + ip by omega]
    exact (M2.1.2.2.1 ip xp hp).2.1
  have mv : vp_in (Int32.ofNat ip) 12 := nat_v (by omega) (by omega)
  have dd := m_landAt M2 hi
  -- LongYears up to the two years
  have pl : ∀ (Q : Int64 → Prop), ((d < xp.2.1 → Q (-1)) ∧ (¬ d < xp.2.1 → (yrA x xp.2.1 = -1 → Q (-1)) ∧ (¬ yrA x xp.2.1 = -1 → wp_X8_day (f_X1_land o c σ (Int32.ofNat i)) σ xp.2.1 (fun r22 => (ok_X8_lastWith (f_X1_land o c σ (Int32.ofNat i)) σ r22) ∧ ((yrA x d = (-1) → (ok_X8_last (f_X1_land o c σ (Int32.ofNat i)) σ) ∧ (wj_X1_age_127 o c σ d (f_X1_land o c σ (Int32.ofNat i)) (yrA x xp.2.1) (yrA x d) r22 (f_X8_last (f_X1_land o c σ (Int32.ofNat i)) σ) (f_X8_lastWith (f_X1_land o c σ (Int32.ofNat i)) σ r22) Q)) ∧ (¬ yrA x d = (-1) → wj_X1_age_127 o c σ d (f_X1_land o c σ (Int32.ofNat i)) (yrA x xp.2.1) (yrA x d) r22 (yrA x d) (f_X8_lastWith (f_X1_land o c σ (Int32.ofNat i)) σ r22) Q)))))) → wp_X1_age o c σ (Int32.ofNat ip) d (Int32.ofNat i) Q := fun Q h => by
    refine ⟨in_01 _ _ _, cF a1 ⟨in_01 _ _ _, cF nl1 ⟨in_01 _ _ _, cF a2 ⟨e2, lo, fun v hv => ⟨p1, p2, ?_⟩⟩⟩⟩⟩
    rw [lb] at hv
    subst hv
    exact wp_year p3 kx bd.1 bd.2 (wp_year p3 kx q1.1 q1.2 h)
  by_cases q2 : d < xp.2.1
  · refine ⟨-1, fun Q hQ => pl Q (cT q2 hQ), fun Q hQ => cF b1 (cF nm1 (cF b2 ⟨mv, ?_⟩))⟩
    rw [mb]
    exact cT q2 (hQ _ Ch.t0 t0_2)
  by_cases q3 : yrA x xp.2.1 = -1
  · refine ⟨-1, fun Q hQ => pl Q (cF q2 (cT q3 hQ)), fun Q hQ => cF b1 (cF nm1 (cF b2 ⟨mv, ?_⟩))⟩
    rw [mb]
    refine cF q2 ⟨mv, ?_⟩
    exact wp_date1 dd kx bd.1 bd.2 (fun e σ' hd => cT rfl (hQ _ (Ch.t0.tr hd.chq) (by rw [(DS.tr hd (Or.inl rfl)).gi (by omega)]; exact t0_2))) (fun e => absurd q3 e)
  -- both dated, or the second behind the last year
  obtain ⟨y1, y2, y3, y4, y5⟩ := dy_i kx bd q3
  have q2' := q2
  rw [l2_lt] at q2'
  have yb := y1.b kx bd.2
  obtain ⟨z1, z2, z3, z4⟩ := y1
  obtain ⟨k1, k2, k3, k4, k5, k6⟩ := kx
  have bb1 := bd.1
  have bb2 := bd.2
  have dd2 := q1.2
  have lend : lenI x.2.1.toInt x.2.2.1.toInt (yrA x xp.2.1).toInt ≤ x.2.1.toInt ∨ 0 ≤ x.2.2.1.toInt := by
    by_cases g0 : 0 ≤ x.2.2.1.toInt
    · exact Or.inr g0
    · refine Or.inl ?_
      unfold lenI
      have := Int.mul_nonneg (show 0 ≤ -x.2.2.1.toInt by omega) (show 0 ≤ (yrA x xp.2.1).toInt - 1 by omega)
      rw [Int.neg_mul] at this
      omega
  have Li : x.2.1.toInt64.toInt = x.2.1.toInt := i2_l _
  have gi : x.2.2.1.toInt64.toInt = x.2.2.1.toInt := i2_l _
  have ng : (-x.2.2.1).toInt = -x.2.2.1.toInt := i3_neg rfl (by omega)
  have ngl : (-x.2.2.1).toInt64.toInt = -x.2.2.1.toInt := i3_l ng
  have nlg : (-x.2.2.1.toInt64).toInt = -x.2.2.1.toInt := l3_neg gi (by omega)
  have g3 : (0 : Int32) ≤ x.2.2.1 ↔ 0 ≤ x.2.2.1.toInt := i3_le (by rfl) rfl
  have hqd : 0 ≤ x.2.2.1.toInt ∨ ((0 ≤ (x.2.1.toInt - (dyA x xp.2.1).toInt) / -x.2.2.1.toInt ∧ (x.2.1.toInt - (dyA x xp.2.1).toInt) / -x.2.2.1.toInt ≤ x.2.1.toInt - (dyA x xp.2.1).toInt) ∧ x.2.2.1.toInt < 0 ∧ (dyA x xp.2.1).toInt ≤ x.2.1.toInt) := by
    by_cases g0 : 0 ≤ x.2.2.1.toInt
    · exact Or.inl g0
    · have : (dyA x xp.2.1).toInt ≤ x.2.1.toInt := by rw [y2]; omega
      exact Or.inr ⟨ediv_b (by omega) (by omega), by omega, this⟩
  have oklw : ok_X8_lastWith (f_X1_land o c σ (Int32.ofNat i)) σ (dyA x xp.2.1) := by
    refine ⟨fun _ => trivial, fun q => ⟨fun _ => ?_, fun _ => trivial⟩⟩
    rw [p3.2.1] at q ⊢
    rw [g3] at q
    rw [l3_eq ngl (y := 0) (by rfl)]; omega
  have lwv : (f_X8_lastWith (f_X1_land o c σ (Int32.ofNat i)) σ (dyA x xp.2.1)).toInt = if x.2.2.1.toInt < 0 then (x.2.1.toInt - (dyA x xp.2.1).toInt) / -x.2.2.1.toInt + 1 else 9223372036854775807 := by
    unfold f_X8_lastWith
    rw [p3.1, p3.2.1]
    rcases hqd with g0 | ⟨u1, u2, u3⟩
    · rw [if_pos (g3.mpr g0), if_neg (by omega)]; rfl
    · rw [if_neg (by rw [g3]; omega), if_pos ((l3_le rfl Li).mpr u3), if_pos u2]
      exact l3_add (l3_div (l3_sub Li rfl (by omega) (by omega)) ngl (by omega) (by omega)) (by rfl) (by omega) (by omega)
  obtain ⟨lt, hlt⟩ : ∃ lt : Int, lt = if yrA x d = -1 then (mLast x.2.1 x.2.2.1).toInt else if dyA x d < dyA x xp.2.1 then (yrA x d).toInt - 1 else (yrA x d).toInt := ⟨_, rfl⟩
  have kx : LOK3 x.2.1 x.2.2.1 x.2.2.2 := ⟨k1, k2, k3, k4, k5, k6⟩
  have fd : x.2.2.2.toInt ≤ d.toInt := by
    have := YP.from k1 ⟨z1, z2, z3, z4⟩
    omega
  have ltb : 0 ≤ lt ∧ lt ≤ 1000000000001 := by
    rw [hlt]
    by_cases yd : yrA x d = -1
    · rw [if_pos yd]
      have := mLast_b kx (yr_neg kx q1.1 q1.2 fd yd)
      omega
    · rw [if_neg yd]
      obtain ⟨w1, -⟩ := dy_i kx q1 yd
      have wb := w1.b kx q1.2
      split <;> omega
  have avb : 0 ≤ ageI x.2.1.toInt x.2.2.1.toInt (dyA x xp.2.1).toInt (yrA x xp.2.1).toInt lt ∧ ageI x.2.1.toInt x.2.2.1.toInt (dyA x xp.2.1).toInt (yrA x xp.2.1).toInt lt ≤ 1000000000001 := by
    unfold ageI
    rcases hqd with g0 | ⟨u1, u2, u3⟩
    · rw [if_neg (by omega)]; omega
    · rw [if_pos u2]; omega
  have av := l2_ofInt (n := ageI x.2.1.toInt x.2.2.1.toInt (dyA x xp.2.1).toInt (yrA x xp.2.1).toInt lt) (by omega) (by omega)
  refine ⟨Int64.ofInt (ageI x.2.1.toInt x.2.2.1.toInt (dyA x xp.2.1).toInt (yrA x xp.2.1).toInt lt), fun Q hQ => pl Q (cF q2 (cF q3 (wp_year p3 kx bd.1 bd.2 ?_))), fun Q hQ => cF b1 (cF nm1 (cF b2 ⟨mv, ?_⟩))⟩
  · rw [fl_start p3]
    show ok_X8_lastWith _ σ (dyA x xp.2.1) ∧ (_ → _ ∧ wj_X1_age_127 o c σ d _ _ _ (dyA x xp.2.1) _ (f_X8_lastWith _ σ (dyA x xp.2.1)) Q) ∧ (_ → wj_X1_age_127 o c σ d _ _ _ (dyA x xp.2.1) _ (f_X8_lastWith _ σ (dyA x xp.2.1)) Q)
    have fin : ∀ v : Int64, v.toInt = ageI x.2.1.toInt x.2.2.1.toInt (dyA x xp.2.1).toInt (yrA x xp.2.1).toInt lt → Q v := fun v hv => by
      rw [show v = Int64.ofInt (ageI x.2.1.toInt x.2.2.1.toInt (dyA x xp.2.1).toInt (yrA x xp.2.1).toInt lt) by rw [l2_eq, av, hv]]; exact hQ
    have z0 : (0 : Int64).toInt = 0 := rfl
    have zm : (-1 : Int64).toInt = -1 := rfl
    refine ⟨oklw, fun yd => ⟨ok_last p3 kx, ?_⟩, fun yd => ?_⟩
    · have gn := yr_neg kx q1.1 q1.2 fd yd
      have lb := mLast_b kx gn
      obtain ⟨u1, u2, u3⟩ := hqd.elim (fun q => absurd q (by omega)) id
      rw [if_pos u2] at lwv
      rw [fl_last p3]
      have em := min2_i lwv (rfl : (mLast x.2.1 x.2.2.1).toInt = _)
      rw [if_pos yd] at hlt
      refine cF (fun q => ?_) (fin _ ?_)
      · rw [l3_eq em (y := -1) (by rw [yd]; rfl)] at q
        omega
      · rw [max2_i z0 (l3_sub em rfl (by omega) (by omega))]
        unfold ageI
        rw [if_pos u2, hlt]
        omega
    · obtain ⟨w1, w2, w3, w4, w5⟩ := dy_i kx q1 yd
      have wb := w1.b kx q1.2
      rw [if_neg yd] at hlt
      have em := min2_i lwv (rfl : (yrA x d).toInt = _)
      obtain ⟨wa, wc, wd, we⟩ := w1
      have key : (f_J7_min_2 (f_X8_lastWith (f_X1_land o c σ (Int32.ofNat i)) σ (dyA x xp.2.1)) (yrA x d) = yrA x d → f_J7_min_2 (f_X8_lastWith (f_X1_land o c σ (Int32.ofNat i)) σ (dyA x xp.2.1)) (yrA x d) = yrA x d) := id
      generalize hM2 : f_J7_min_2 (f_X8_lastWith (f_X1_land o c σ (Int32.ofNat i)) σ (dyA x xp.2.1)) (yrA x d) = mm at em
      have mmb : 1 ≤ mm.toInt ∧ mm.toInt ≤ (yrA x d).toInt := by
        rw [em]
        rcases hqd with g0 | ⟨u1, u2, u3⟩
        · rw [if_neg (by omega)]; omega
        · rw [if_pos u2]; omega
      unfold wj_X1_age_127
      rw [hM2]
      refine ⟨fun q => ⟨p2, ?_, ?_⟩, fun q => fin _ ?_⟩
      · intro c1
        subst q
        rw [fl_start p3] at c1
        have e9 : ((mStart x.2.1 x.2.2.1 x.2.2.2 (yrA x d) + dyA x xp.2.1) - 1).toInt = begI x.2.1.toInt x.2.2.1.toInt x.2.2.2.toInt (yrA x d).toInt + (dyA x xp.2.1).toInt - 1 := l3_sub (l3_add w4 rfl (by omega) (by omega)) (by rfl) (by omega) (by omega)
        rw [l3_le e9 rfl] at c1
        rw [if_neg (by rw [l2_lt]; omega)] at hlt
        refine fin _ ?_
        rw [max2_i z0 (l3_sub em rfl (by omega) (by omega))]
        unfold ageI
        rw [hlt]
        rcases hqd with g0 | ⟨u1, u2, u3⟩
        · rw [if_neg (by omega)] at em; rw [if_neg (by omega), if_neg (by omega)]; omega
        · rw [if_pos u2] at em; rw [if_pos u2, if_pos u2]; omega
      · intro c1
        subst q
        rw [fl_start p3] at c1
        have e9 : ((mStart x.2.1 x.2.2.1 x.2.2.2 (yrA x d) + dyA x xp.2.1) - 1).toInt = begI x.2.1.toInt x.2.2.1.toInt x.2.2.2.toInt (yrA x d).toInt + (dyA x xp.2.1).toInt - 1 := l3_sub (l3_add w4 rfl (by omega) (by omega)) (by rfl) (by omega) (by omega)
        rw [l3_le e9 rfl] at c1
        rw [if_pos (by rw [l2_lt]; omega)] at hlt
        refine fin _ ?_
        rw [max2_i z0 (l3_sub (l3_sub (a := yrA x d) (b := 1) rfl (y := 1) (by rfl) (by omega) (by omega)) rfl (by omega) (by omega))]
        unfold ageI
        rw [hlt]
        rcases hqd with g0 | ⟨u1, u2, u3⟩
        · rw [if_neg (by omega)] at em; rw [if_neg (by omega)]
        · rw [if_pos u2] at em; rw [if_pos u2]; omega
      · rw [l2_eq] at q
        rw [max2_i z0 (l3_sub rfl rfl (by omega) (by omega))]
        unfold ageI
        rcases hqd with g0 | ⟨u1, u2, u3⟩
        · rw [if_neg (by omega)] at em; omega
        · rw [if_pos u2] at em; rw [if_pos u2, hlt]
          split <;> omega
  · rw [mb]
    refine cF q2 ⟨mv, ?_⟩
    refine wp_dateA dd kx bd (fun e => absurd e q3) (fun _ τ1 hd f53 f54 => cF (by decide) ?_)
    have u1 := Ch.t0.tr hd.chq
    have u2 := hd.two t0_2
    have d2 := dd.ds hd
    refine ⟨dd.2.1, fun v18 hv => ?_⟩
    rw [d2.2.2.2.2.1] at hv
    subst hv
    rw [f53, f54]
    have gge : 0 ≤ x.2.2.1.toInt64 ↔ 0 ≤ x.2.2.1.toInt := l3_le (by rfl) gi
    have fin : ∀ (v : Int64) τ2, Ch (SMq m) τ τ2 → gI τ2 m 2 = 0 → v.toInt = ageI x.2.1.toInt x.2.2.1.toInt (dyA x xp.2.1).toInt (yrA x xp.2.1).toInt lt → Q v τ2 := fun v τ2 c1 c2 hv => by
      rw [show v = Int64.ofInt (ageI x.2.1.toInt x.2.2.1.toInt (dyA x xp.2.1).toInt (yrA x xp.2.1).toInt lt) by rw [l2_eq, av, hv]]; exact hQ _ c1 c2
    have z0 : (0 : Int64).toInt = 0 := rfl
    have j178 : ∀ (τ2 : Hp) (w0 : Int64), Ch (SMq m) τ τ2 → gI τ2 m 2 = 0 → 0 ≤ w0.toInt → w0.toInt = (if x.2.2.1.toInt < 0 then min lt ((x.2.1.toInt - (dyA x xp.2.1).toInt) / -x.2.2.1.toInt + 1) else lt) → wj_X6_age_178 m τ2 (yrA x xp.2.1) w0 Q := fun τ2 w0 c1 c2 h0 hw => by
      refine ⟨fun q => fin _ _ c1 c2 ?_, fun q => fin _ _ c1 c2 ?_⟩
      · rw [l2_le] at q
        unfold ageI
        rw [← hw, z0]; omega
      · rw [l2_le] at q
        unfold ageI
        rw [← hw, l3_sub rfl rfl (by omega) (by have := l2_b w0; omega)]; omega
    have j131 : ∀ (τ2 : Hp) (w0 : Int64), MDo m τ2 (Int32.ofNat i) x.2.1 x.2.2.1 x.2.2.2 → Ch (SMq m) τ τ2 → gI τ2 m 2 = 0 → w0.toInt = lt → wj_X6_age_131 m τ2 (Int32.ofNat i) (yrA x xp.2.1) (dyA x xp.2.1) x.2.2.1.toInt64 w0 Q := fun τ2 w0 d3 c1 c2 hw => by
      refine ⟨fun q => ?_, fun q => ⟨d3.2.2.1, ?_, fun v hv => ?_⟩⟩
      · rw [gge] at q
        exact j178 _ _ c1 c2 (by omega) (by rw [if_neg (by omega)]; exact hw)
      · rw [gge] at q
        rw [l3_eq nlg (y := 0) (by rfl)]; omega
      · rw [gge] at q
        rw [d3.2.2.2.1] at hv
        obtain ⟨s1, s2, s3⟩ := hqd.elim (fun g => absurd g q) id
        have ev : v.toInt = (x.2.1.toInt - (dyA x xp.2.1).toInt) / -x.2.2.1.toInt + 1 := by
          rw [hv]
          exact l3_add (l3_div (l3_sub Li rfl (by omega) (by omega)) nlg (by omega) (by omega)) (by rfl) (by omega) (by omega)
        refine ⟨fun z => ?_, fun z => ?_⟩
        · rw [l3_le ev hw] at z
          exact j178 _ _ c1 c2 (by omega) (by rw [if_pos s2, ev]; omega)
        · rw [l3_le ev hw] at z
          exact j178 _ _ c1 c2 (by omega) (by rw [if_pos s2, hw]; omega)
    refine wp_dateA d2 kx q1 (fun e σ' hd' => cT rfl ?_) (fun e τ3 hd' g53 g54 => cF (by decide) ?_)
    · have gn := yr_neg kx q1.1 q1.2 fd e
      have d3 := d2.ds hd'
      rw [if_pos (show yrA x d = -1 from e)] at hlt
      exact ⟨om_end d3 kx gn, j131 _ _ d3 (u1.tr hd'.chq) (hd'.two u2) (by rw [fm_end d3, mEnd_i kx gn, hlt])⟩
    · have v1 := u1.tr hd'.chq
      have v2 := hd'.two u2
      have d3 := d2.ds hd'
      rw [g53, g54]
      have yd : ¬ yrA x d = -1 := e
      rw [if_neg yd] at hlt
      obtain ⟨w1, -⟩ := dy_i kx q1 yd
      have wb := w1.b kx q1.2
      refine ⟨fun z => j131 _ _ d3 v1 v2 ?_, fun z => j131 _ _ d3 v1 v2 ?_⟩
      · rw [if_pos z] at hlt
        rw [hlt]
        exact l3_sub rfl (by rfl) (by omega) (by omega)
      · rw [if_neg z] at hlt
        exact hlt.symm
