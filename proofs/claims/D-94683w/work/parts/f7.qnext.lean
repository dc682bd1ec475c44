set_option maxRecDepth 100000
/-! NEXT, ALIKE -/
/-- the year of a count by the first land -/
theorem l_year0 {c : Nat} {σ : Hp} {R : RlA} {d : Int64} {Q : Int64 → Prop} (hL : LRl c σ R) (hk : ROk R) (hd : cOk d) (h0 : aL R = [] → Q (-1)) (h1 : ∀ x, (aL R)[0]? = some x → Q (yrA x d)) : wp_X3_year c σ d Q := by
  have h4 := hL.1.2.1
  have e : f_J2_isEmpty (c + 1) 4 σ = 0 ↔ ¬ aL R = [] := by
    have e1 : gI σ (c + 1) 2 = Int32.ofNat (aL R).length := hL.1.1
    unfold f_J2_isEmpty
    rw [e1]
    cases hl : aL R with
    | nil => simp
    | cons x l =>
      rw [hl] at h4
      rw [if_neg (fun q => by rw [show (0 : Int32) = Int32.ofNat 0 from rfl, nat_e (by omega) (by omega)] at q; simp at q)]
      simp
  refine ⟨fun q => ?_, fun q => h0 (Classical.byContradiction (fun z => q (e.mpr z)))⟩
  have hne := e.mp q
  cases hl : aL R with
  | nil => exact absurd hl hne
  | cons x l =>
    have hi : (aL R)[0]? = some x := by rw [hl]; rfl
    obtain ⟨p1, p2, p3⟩ := l_land (o := 0) hL hi
    exact ⟨p1.1, p2, wp_year p3 (hk.1 x (List.mem_of_getElem? hi)) hd.1 hd.2 (h1 x hi)⟩
/-- the land 0, if there is one -/
theorem land0 {R : RlA} {x : LandA} (h : (aL R)[0]? = some x) : 1 ≤ (aL R).length := by
  have := get_lt h
  omega
theorem m_lands {m : Nat} {τ : Hp} {R : RlA} (h : MKr m τ R) : gI τ m 12 ≤ 0 ↔ aL R = [] := by
  rw [h.2.2.1, show (0 : Int32) = Int32.ofNat 0 from rfl, nat_le (by have := h.2.1.1; omega) (by omega)]
  constructor
  · intro q; exact List.eq_nil_of_length_eq_zero (by omega)
  · intro q; rw [q]; exact Nat.le_refl _
def nxDay (R : RlA) (day : Int32) (d : Int64) : Prop := ∃ x, (aL R)[0]? = some x ∧ yrA x d ≠ -1 ∧ dyA x d = day.toInt64
def nxHit (R : RlA) (day week moon : Int32) (d : Int64) : Prop := (week = -1 ∨ skW (aS R) d = week) ∧ (moon = -1 ∨ skM (aS R) d = moon) ∧ (day = -1 ∨ nxDay R day d)
theorem q_next {o c m : Nat} {σ τ : Hp} {R : RlA} {day week moon : Int32} {d : Int64} (hL : LRl c σ R) (hM : MKr m τ R) (hk : ROk R) : ∃ v, QL (wp_X1_next o c σ d day week moon) v ∧ QM m τ (wp_X6_next m τ d day week moon) v := by
  have M2 : MKr m (pI τ m 2 0) R := hM.ch Ch.t0
  have zm : (-1 : Int32).toInt = -1 := rfl
  have k0 := hk.2.1.1
  rcases (Classical.em (cOk d)).symm with q1 | q1
  · exact ⟨-1, fun Q hQ => ⟨in_01 _ _ _, cT ((l_cnt d).mpr q1) hQ⟩, fun Q hQ => cT ((m_cnt d).mpr q1) (hQ _ Ch.t0 t0_2)⟩
  have dl : f_X1_in day.toInt64 1 99999 = 0 ↔ ¬ (1 ≤ day.toInt ∧ day.toInt ≤ 99999) := in_iff (i2_l day) (by rfl) (by rfl)
  have dm : f_X6_isIn day 1 99999 = 0 ↔ ¬ (1 ≤ day.toInt ∧ day.toInt ≤ 99999) := isIn_iff day 1 99999
  have s0 : gI σ c 5 = aS R 0 := hL.2.2.2.2.2.1
  have w1 : (aS R 0 - 1).toInt = (aS R 0).toInt - 1 := i3_sub rfl (by rfl) (by omega) (by omega)
  have wl : f_X1_in week.toInt64 0 ((gI σ c 5 - 1).toInt64) = 0 ↔ ¬ (0 ≤ week.toInt ∧ week.toInt ≤ (aS R 0).toInt - 1) := in_iff (i2_l week) (by rfl) (by rw [s0]; exact i3_l w1)
  have m0 : gI (pI τ m 2 0) (m + 3) 0 = aS R 0 := m_sky M2 (by omega)
  have wm : f_X6_isIn week (-1) (gI (pI τ m 2 0) (m + 3) 0 - 1) = 0 ↔ ¬ (-1 ≤ week.toInt ∧ week.toInt ≤ (aS R 0).toInt - 1) := by
    rw [m0, isIn_iff, w1]; exact Iff.rfl
  have ol : f_X1_in moon.toInt64 0 7 = 0 ↔ ¬ (0 ≤ moon.toInt ∧ moon.toInt ≤ 7) := in_iff (i2_l moon) (by rfl) (by rfl)
  have om : f_X6_isIn moon (-1) 7 = 0 ↔ ¬ (-1 ≤ moon.toInt ∧ moon.toInt ≤ 7) := isIn_iff moon (-1) 7
  have dn : day = -1 ↔ day.toInt = -1 := i3_eq rfl rfl
  have wn : week = -1 ↔ week.toInt = -1 := i3_eq rfl rfl
  have on : moon = -1 ↔ moon.toInt = -1 := i3_eq rfl rfl
  rcases (Classical.em (day = -1 ∨ (1 ≤ day.toInt ∧ day.toInt ≤ 99999))).symm with q2 | q2
  · have a1 : ¬ day = -1 := fun z => q2 (Or.inl z)
    have a2 : ¬ (1 ≤ day.toInt ∧ day.toInt ≤ 99999) := fun z => q2 (Or.inr z)
    exact ⟨-1, fun Q hQ => ⟨in_01 _ _ _, cF (fun z => (l_cnt d).mp z q1) (cF a1 (cT (dl.mpr a2) hQ))⟩, fun Q hQ => cF (fun z => (m_cnt d).mp z q1) (cF a1 (cT (dm.mpr a2) (hQ _ Ch.t0 t0_2)))⟩
  -- the day's checks passed
  have stl : ∀ (P Z : Prop), P → ((day = -1 → P) ∧ (¬ day = -1 → (f_X1_in day.toInt64 1 99999 = 0 → Z) ∧ (¬ f_X1_in day.toInt64 1 99999 = 0 → P))) := fun P Z hP => ⟨fun _ => hP, fun z => ⟨fun y => absurd (q2.elim (fun u => absurd u z) id) (dl.mp y), fun _ => hP⟩⟩
  have stm : ∀ (P Z : Prop), P → ((day = -1 → P) ∧ (¬ day = -1 → (f_X6_isIn day 1 99999 = 0 → Z) ∧ (¬ f_X6_isIn day 1 99999 = 0 → P))) := fun P Z hP => ⟨fun _ => hP, fun z => ⟨fun y => absurd (q2.elim (fun u => absurd u z) id) (dm.mp y), fun _ => hP⟩⟩
  rcases (Classical.em (-1 ≤ week.toInt ∧ week.toInt ≤ (aS R 0).toInt - 1)).symm with q3 | q3
  · have a1 : ¬ week = -1 := fun z => q3 (by rw [wn] at z; omega)
    have a2 : ¬ (0 ≤ week.toInt ∧ week.toInt ≤ (aS R 0).toInt - 1) := fun z => q3 (by omega)
    exact ⟨-1, fun Q hQ => ⟨in_01 _ _ _, cF (fun z => (l_cnt d).mp z q1) (stl _ _ (cF a1 (cT (wl.mpr a2) hQ)))⟩, fun Q hQ => cF (fun z => (m_cnt d).mp z q1) (stm _ _ (cT (wm.mpr q3) (hQ _ Ch.t0 t0_2)))⟩
  have stw : ∀ (P Z : Prop), P → ((week = -1 → P) ∧ (¬ week = -1 → (f_X1_in week.toInt64 0 ((gI σ c 5 - 1).toInt64) = 0 → Z) ∧ (¬ f_X1_in week.toInt64 0 ((gI σ c 5 - 1).toInt64) = 0 → P))) := fun P Z hP => ⟨fun _ => hP, fun z => ⟨fun y => absurd ⟨by rw [wn] at z; omega, q3.2⟩ (wl.mp y), fun _ => hP⟩⟩
  rcases (Classical.em (-1 ≤ moon.toInt ∧ moon.toInt ≤ 7)).symm with q4 | q4
  · have a1 : ¬ moon = -1 := fun z => q4 (by rw [on] at z; omega)
    have a2 : ¬ (0 ≤ moon.toInt ∧ moon.toInt ≤ 7) := fun z => q4 (by omega)
    exact ⟨-1, fun Q hQ => ⟨in_01 _ _ _, cF (fun z => (l_cnt d).mp z q1) (stl _ _ (stw _ _ (cF a1 (cT (ol.mpr a2) hQ))))⟩, fun Q hQ => cF (fun z => (m_cnt d).mp z q1) (stm _ _ (cF (fun z => wm.mp z q3) (cT (om.mpr q4) (hQ _ Ch.t0 t0_2))))⟩
  have sto : ∀ (P Z : Prop), P → ((moon = -1 → P) ∧ (¬ moon = -1 → (f_X1_in moon.toInt64 0 7 = 0 → Z) ∧ (¬ f_X1_in moon.toInt64 0 7 = 0 → P))) := fun P Z hP => ⟨fun _ => hP, fun z => ⟨fun y => absurd ⟨by rw [on] at z; omega, q4.2⟩ (ol.mp y), fun _ => hP⟩⟩
  have d1 := q1.1
  have d2 := q1.2
  have e2 : (d + 20000).toInt = d.toInt + 20000 := l3_add rfl (by rfl) (by omega) (by omega)
  obtain ⟨r, er⟩ : ∃ r, srV (fun z => d + 20000 ≤ z ∨ 1000000000000 < z) (nxHit R day week moon) 20000 d = r := ⟨_, rfl⟩
  have lL : ∀ z : Int64, 1000000000000 < z ↔ (1000000000000 : Int) < z.toInt := fun z => l3_lt (by rfl) rfl
  refine ⟨srL r, fun Q hQ => ⟨in_01 _ _ _, cF (fun z => (l_cnt d).mp z q1) (stl _ _ (stw _ _ (sto _ _ ?_)))⟩, fun Q hQ => cF (fun z => (m_cnt d).mp z q1) (stm _ _ (cF (fun z => wm.mp z q3) (cF (fun z => om.mp z q4) ?_)))⟩
  · refine sr_lp (fun n z u => u = z ∧ z.toInt + n = d.toInt + 20000 ∧ d.toInt ≤ z.toInt) _ (fun z u hI => Or.inl (by rw [l3_le e2 rfl]; omega)) ?_ ⟨rfl, rfl, Int.le_refl _⟩ er
    rintro K n z u ⟨rfl, hn, h1⟩ hK hs hh
    show (_ → _) ∧ (_ → _)
    refine ⟨fun c1 => ?_, fun c1 => ⟨fun c2 => ?_, fun c2 => ?_⟩⟩
    · have e := hs (Or.inl c1); rw [e] at hQ; exact hQ
    · have e := hs (Or.inr c2); rw [e] at hQ; exact hQ
    have ns : ¬ (d + 20000 ≤ u ∨ 1000000000000 < u) := fun z => z.elim c1 c2
    rw [l3_le e2 rfl] at c1
    rw [lL] at c2
    have cu : cOk u := ⟨by omega, by omega⟩
    have no : ¬ nxHit R day week moon u → K (u + 1) := fun nh => hK (n - 1) _ (by omega) ns nh ⟨rfl, by rw [l3_add (a := u) (b := 1) rfl (y := 1) (by rfl) (by omega) (by omega)]; omega, by rw [l3_add (a := u) (b := 1) rfl (y := 1) (by rfl) (by omega) (by omega)]; omega⟩
    have yes : nxHit R day week moon u → Q u := fun hh' => by have e := hh ns hh'; rw [e] at hQ; exact hQ
    have j3 : (week = -1 ∨ skW (aS R) u = week) → (moon = -1 ∨ skM (aS R) u = moon) → wj_X1_next_139 o c σ d day week moon u Q K := fun g1 g2 => by
      refine l_year0 hL hk cu (fun hl => ⟨fun y => yes ⟨g1, g2, Or.inl y⟩, fun y => cT rfl (no (fun hh' => hh'.2.2.elim y (fun ⟨x, hx, _⟩ => by rw [hl] at hx; cases hx)))⟩) (fun x hx => ⟨fun y => yes ⟨g1, g2, Or.inl y⟩, fun y => ⟨fun v => no (fun hh' => hh'.2.2.elim y (fun ⟨x', hx', a1, a2⟩ => by rw [hx] at hx'; cases hx'; exact a1 v)), fun v => ?_⟩⟩)
      obtain ⟨p1, p2, p3⟩ := l_land (o := o) hL hx
      refine ⟨p1, p2, ?_⟩
      have ef := fl_start p3 (yrA x u)
      rw [show Int32.ofNat 0 = 0 from rfl] at ef
      rw [ef]
      exact ⟨fun w => yes ⟨g1, g2, Or.inr ⟨x, hx, v, w⟩⟩, fun w => no (fun hh' => hh'.2.2.elim y (fun ⟨x', hx', a1, a2⟩ => by rw [hx] at hx'; cases hx'; exact w a2))⟩
    have j2 : (week = -1 ∨ skW (aS R) u = week) → wj_X1_next_116 o c σ d day week moon u Q K := fun g1 => by
      refine ⟨fun y => j3 g1 (Or.inl y), fun y => ⟨(l_moon hL hk u).1, ?_⟩⟩
      rw [(l_moon hL hk u).2]
      exact ⟨fun v => j3 g1 (Or.inr v), fun v => no (fun hh' => hh'.2.1.elim y v)⟩
    refine ⟨fun y => j2 (Or.inl y), fun y => ⟨(l_week hL hk u).1, ?_⟩⟩
    rw [(l_week hL hk u).2]
    exact ⟨fun v => j2 (Or.inr v), fun v => no (fun hh' => hh'.1.elim y v)⟩
  · refine sr_lp (fun n z u => ∃ τ', u = (z, τ') ∧ Ch (SMq m) τ τ' ∧ gI τ' m 2 = 0 ∧ z.toInt + n = d.toInt + 20000 ∧ d.toInt ≤ z.toInt) _ (fun z u ⟨τ', _, _, _, hI, _⟩ => Or.inl (by rw [l3_le e2 rfl]; omega)) ?_ ⟨_, rfl, Ch.t0, t0_2, rfl, Int.le_refl _⟩ er
    rintro K n z u ⟨τ', rfl, t1, t2, hn, h1⟩ hK hs hh
    have M3 := hM.ch t1
    show (_ → _) ∧ (_ → _)
    refine ⟨fun c1 => ?_, fun c1 => ⟨fun c2 => ?_, fun c2 => ?_⟩⟩
    · have e := hs (Or.inl c1); rw [e] at hQ; exact hQ _ t1 t2
    · have e := hs (Or.inr c2); rw [e] at hQ; exact hQ _ t1 t2
    have ns : ¬ (d + 20000 ≤ z ∨ 1000000000000 < z) := fun z => z.elim c1 c2
    rw [l3_le e2 rfl] at c1
    rw [lL] at c2
    have cu : cOk z := ⟨by omega, by omega⟩
    have no : ¬ nxHit R day week moon z → ∀ τ2, Ch (SMq m) τ τ2 → gI τ2 m 2 = 0 → K (z + 1, τ2) := fun nh τ2 u1 u2 => hK (n - 1) _ (by omega) ns nh ⟨τ2, rfl, u1, u2, by rw [l3_add (a := z) (b := 1) rfl (y := 1) (by rfl) (by omega) (by omega)]; omega, by rw [l3_add (a := z) (b := 1) rfl (y := 1) (by rfl) (by omega) (by omega)]; omega⟩
    have yes : nxHit R day week moon z → ∀ τ2, Ch (SMq m) τ τ2 → gI τ2 m 2 = 0 → Q z τ2 := fun hh' τ2 u1 u2 => by have e := hh ns hh'; rw [e] at hQ; exact hQ τ2 u1 u2
    have neg : ∀ x : Int32, -1 ≤ x.toInt → (x < 0 ↔ x = -1) := fun x hx => by
      rw [i3_lt rfl (y := 0) (by rfl), i3_eq rfl zm]; omega
    have nd := neg day (q2.elim (fun y => by rw [dn] at y; omega) (fun y => by omega))
    have nw := neg week q3.1
    have nm := neg moon q4.1
    have j0 : ¬ nxHit R day week moon z → wj_X6_next_120 m τ' d day week moon z Q K := fun nh => cT rfl (no nh τ' t1 t2)
    have j1 : (week = -1 ∨ skW (aS R) z = week) → (moon = -1 ∨ skM (aS R) z = moon) → wj_X6_next_116 m τ' d day week moon z Q K := fun g1 g2 => by
      refine cF (by decide) ⟨fun y => yes ⟨g1, g2, Or.inl (nd.mp y)⟩ τ' t1 t2, fun y => ?_⟩
      rw [m_lands M3]
      refine ⟨fun hl => no (fun hh' => hh'.2.2.elim (fun v => y (nd.mpr v)) (fun ⟨x, hx, _⟩ => by rw [hl] at hx; cases hx)) τ' t1 t2, fun hl => ?_⟩
      cases hl' : aL R with
      | nil => exact absurd hl' hl
      | cons x l =>
        have hx : (aL R)[0]? = some x := by rw [hl']; rfl
        have dd : MDo m τ' 0 x.2.1 x.2.2.1 x.2.2.2 := m_landAt M3 hx
        refine wp_date1 dd (hk.1 x (List.mem_of_getElem? hx)) cu.1 cu.2 (fun e σ' hd => cT rfl (no (fun hh' => hh'.2.2.elim (fun v => y (nd.mpr v)) (fun ⟨x', hx', a1, a2⟩ => by rw [hx] at hx'; cases hx'; exact a1 e)) σ' (t1.tr hd.chq) (by rw [(DS.tr hd (Or.inl rfl)).gi (by omega)]; exact t2))) (fun e => cF (by decide) ?_)
        have hd : DS m τ' (pL (pL τ' m 53 (yrA x z)) m 54 (dyA x z)) := Or.inr ⟨_, _, rfl⟩
        have e54 : gL (pL (pL τ' m 53 (yrA x z)) m 54 (dyA x z)) m 54 = dyA x z := by rw [gL_pL, if_pos ⟨rfl, rfl⟩]
        have u1 := t1.tr hd.chq
        have u2 : gI (pL (pL τ' m 53 (yrA x z)) m 54 (dyA x z)) m 2 = 0 := t2
        show (gL (pL (pL τ' m 53 (yrA x z)) m 54 (dyA x z)) m 54 = _ → _) ∧ (¬ gL (pL (pL τ' m 53 (yrA x z)) m 54 (dyA x z)) m 54 = _ → _)
        rw [e54]
        exact ⟨fun w => yes ⟨g1, g2, Or.inr ⟨x, hx, e, w⟩⟩ _ u1 u2, fun w => no (fun hh' => hh'.2.2.elim (fun v => y (nd.mpr v)) (fun ⟨x', hx', a1, a2⟩ => by rw [hx] at hx'; cases hx'; exact w a2)) _ u1 u2⟩
    have j2 : (week = -1 ∨ skW (aS R) z = week) → wj_X6_next_99 m τ' d day week moon z Q K := fun g1 => by
      refine ⟨fun y => j1 g1 (Or.inl (nm.mp y)), fun y => ⟨(m_rnd M3 hk z 1).1, ?_⟩⟩
      rw [(m_rnd M3 hk z 1).2]
      exact ⟨fun v => j1 g1 (Or.inr v), fun v => j0 (fun hh' => hh'.2.1.elim (fun w => y (nm.mpr w)) v)⟩
    refine ⟨fun y => j2 (Or.inl (nw.mp y)), fun y => ⟨(m_rnd M3 hk z 0).1, ?_⟩⟩
    rw [(m_rnd M3 hk z 0).2]
    exact ⟨fun v => j2 (Or.inr v), fun v => j0 (fun hh' => hh'.1.elim (fun w => y (nw.mpr w)) v)⟩
