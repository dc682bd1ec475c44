set_option maxRecDepth 100000
theorem op_cases {n : Nat} {t : Tok} (hv : TV n t) : (tKd t = 1 ∧ tWh t = 16 ∧ opOf t = 3) ∨ (tKd t = 1 ∧ tWh t = 17 ∧ opOf t = 4) ∨ (tKd t = 5 ∧ 5 ≤ opOf t ∧ opOf t ≤ 10) ∨ (tKd t = 4 ∧ tWh t = 43 ∧ opOf t = 11) ∨ (tKd t = 4 ∧ tWh t = 45 ∧ opOf t = 12) ∨ (tKd t = 4 ∧ tWh t = 42 ∧ opOf t = 13) ∨ (tKd t = 4 ∧ tWh t = 47 ∧ opOf t = 14) ∨ (tKd t = 4 ∧ tWh t = 37 ∧ opOf t = 15) ∨ (opOf t = 0 ∧ tKd t ≠ 5 ∧ (tKd t = 1 → tWh t ≠ 16 ∧ tWh t ≠ 17) ∧ (tKd t = 4 → tWh t ≠ 43 ∧ tWh t ≠ 45 ∧ tWh t ≠ 42 ∧ tWh t ≠ 47 ∧ tWh t ≠ 37)) := by
  unfold opOf tIsKey tIsSign
  by_cases k1 : tKd t = 1
  · by_cases w1 : tWh t = 16
    · simp [k1, w1]
    by_cases w2 : tWh t = 17
    · simp [k1, w2]
    simp [k1, w1, w2]
  by_cases k5 : tKd t = 5
  · have b := hv.2.2.2.2.1 k5
    have e : (tWh t).toNatClampNeg ≤ 5 := by rw [cl_i]; omega
    simp [k5]
    omega
  by_cases k4 : tKd t = 4
  · by_cases w1 : tWh t = 43
    · simp [k4, w1]
    by_cases w2 : tWh t = 45
    · simp [k4, w2]
    by_cases w3 : tWh t = 42
    · simp [k4, w3]
    by_cases w4 : tWh t = 47
    · simp [k4, w4]
    by_cases w5 : tWh t = 37
    · simp [k4, w5]
    simp [k4, w1, w2, w3, w4, w5]
  simp [k1, k5, k4]
theorem rk_cmp {k : Nat} (h1 : 5 ≤ k) (h2 : k ≤ 10) : rk k = 4 := by
  unfold rk
  rw [if_neg (by omega), if_neg (by omega), if_pos h1]
theorem op6 {n : Nat} {t : Tok} (hv : TV n t) : rk (opOf t) = 6 ↔ ¬ (tIsSign t 42 = false ∧ tIsSign t 47 = false ∧ tIsSign t 37 = false) := by
  rcases op_cases hv with ⟨k, w, e⟩ | ⟨k, w, e⟩ | ⟨k, e, e2⟩ | ⟨k, w, e⟩ | ⟨k, w, e⟩ | ⟨k, w, e⟩ | ⟨k, w, e⟩ | ⟨k, w, e⟩ | ⟨e, k5, k1, k4⟩
  all_goals first | rw [e] | rw [rk_cmp e e2]
  all_goals unfold tIsSign
  all_goals first | (rw [k]; simp [rk]; done) | (rw [k, w]; simp [rk]; done) | skip
  by_cases k : tKd t = 4
  · have := k4 k
    simp [k, this, rk]
  · simp [k, rk]
theorem op5 {n : Nat} {t : Tok} (hv : TV n t) : rk (opOf t) = 5 ↔ ¬ (tIsSign t 43 = false ∧ tIsSign t 45 = false) := by
  rcases op_cases hv with ⟨k, w, e⟩ | ⟨k, w, e⟩ | ⟨k, e, e2⟩ | ⟨k, w, e⟩ | ⟨k, w, e⟩ | ⟨k, w, e⟩ | ⟨k, w, e⟩ | ⟨k, w, e⟩ | ⟨e, k5, k1, k4⟩
  all_goals first | rw [e] | rw [rk_cmp e e2]
  all_goals unfold tIsSign
  all_goals first | (rw [k]; simp [rk]; done) | (rw [k, w]; simp [rk]; done) | skip
  by_cases k : tKd t = 4
  · have := k4 k
    simp [k, this, rk]
  · simp [k, rk]
theorem op4 {n : Nat} {t : Tok} (hv : TV n t) : rk (opOf t) = 4 ↔ tKd t = 5 := by
  rcases op_cases hv with ⟨k, w, e⟩ | ⟨k, w, e⟩ | ⟨k, e, e2⟩ | ⟨k, w, e⟩ | ⟨k, w, e⟩ | ⟨k, w, e⟩ | ⟨k, w, e⟩ | ⟨k, w, e⟩ | ⟨e, k5, k1, k4⟩
  all_goals first | rw [e] | rw [rk_cmp e e2]
  all_goals first | (rw [k]; simp [rk]; done) | skip
  simp [k5, rk]
theorem op2 {n : Nat} {t : Tok} (hv : TV n t) : rk (opOf t) = 2 ↔ tIsKey t 16 = true := by
  rcases op_cases hv with ⟨k, w, e⟩ | ⟨k, w, e⟩ | ⟨k, e, e2⟩ | ⟨k, w, e⟩ | ⟨k, w, e⟩ | ⟨k, w, e⟩ | ⟨k, w, e⟩ | ⟨k, w, e⟩ | ⟨e, k5, k1, k4⟩
  all_goals first | rw [e] | rw [rk_cmp e e2]
  all_goals unfold tIsKey
  all_goals first | (rw [k]; simp [rk]; done) | (rw [k, w]; simp [rk]; done) | skip
  by_cases k : tKd t = 1
  · have := k1 k
    simp [k, this, rk]
  · simp [k, rk]
theorem op1 {n : Nat} {t : Tok} (hv : TV n t) : rk (opOf t) = 1 ↔ tIsKey t 17 = true := by
  rcases op_cases hv with ⟨k, w, e⟩ | ⟨k, w, e⟩ | ⟨k, e, e2⟩ | ⟨k, w, e⟩ | ⟨k, w, e⟩ | ⟨k, w, e⟩ | ⟨k, w, e⟩ | ⟨k, w, e⟩ | ⟨e, k5, k1, k4⟩
  all_goals first | rw [e] | rw [rk_cmp e e2]
  all_goals unfold tIsKey
  all_goals first | (rw [k]; simp [rk]; done) | (rw [k, w]; simp [rk]; done) | skip
  by_cases k : tKd t = 1
  · have := k1 k
    simp [k, this, rk]
  · simp [k, rk]
theorem op_ne {t : Tok} {r : Nat} (h : rk (opOf t) = r) (hr : r ≠ 0) : opOf t ≠ 0 := fun q => by rw [q] at h; exact hr h.symm
theorem pl_i {o c d : Nat} {b : Nat → Int32} {n : Nat} {σ : Hp} {t : Tok} {brk cnt : Nat} (h : RDR o c d b n σ t brk cnt) : (gI σ o 2).toNatClampNeg = tPl t ∧ tPl t ≤ n := by
  have hv := h.2.2.1
  have h1 := hv.1
  have h2 := hv.2.1
  have h9 := h.1.2.1
  rw [h.2.1.2.1, nat_c (by omega)]
  omega
/-- a level of signs that bind to the left -/
theorem rd_left {o c d : Nat} {b : Nat → Int32} {n B0 r q tb brk c0 Mx : Nat} {pm : Bool → Tok → Prop} {SUB : Hp → (Nat → Hp → Prop) → (Nat → Hp → Prop) → Prop} {mv : Bool} {lb : (Nat → Hp → Prop) → (Nat → Hp → Prop) → (Nat × Hp → Prop) → Nat × Hp → Prop}
    (hM : B0 + 4 * n + 8 ≤ Mx) (hsub : LvS o c d b n B0 q tb brk c0 pm SUB) (hrq : q = r + 1) (hr1 : 1 ≤ r) (hr3 : r ≠ 3) (hr4 : r ≠ 4) (hmv : mv = decide (r < 3)) (hpm : ∀ t, pm mv t) (htb : r < tb)
    (hlb : ∀ (Q E : Nat → Hp → Prop) (K : Nat × Hp → Prop) (p : Nat) (σ : Hp) (t : Tok) (cnt : Nat), RDR o c d b n σ t brk cnt → (rk (opOf t) ≠ r → Q p σ) → (rk (opOf t) = r → BB o c d Mx SUB E K (p, σ)) → lb Q E K (p, σ))
    {σ : Hp} {w : List Nat} {h : List Ev} {cnt : Nat} {mn : Bool} {t : Tok} {Q E : Nat → Hp → Prop} {p : Nat} {σ1 : Hp} (hst : o < d ∧ d + 11 ≤ gS σ) (hc0 : c0 ≤ cnt) (htr : tr w < r) (hok : LvOk o c d b n B0 r σ w h brk cnt mn t Q) (hbad : LvBad o d b n σ w h brk cnt mn t E) (hI : LI o c d b n B0 q q σ w h brk cnt mn t (p, σ1)) : lp (lb Q E) (p, σ1) := by
  subst hrq
  refine lp_of (LI o c d b n B0 r (r + 1) σ w h brk cnt mn t) (fun z => n + 1 - (gI z.2 o 2).toNatClampNeg) ?_ ?_
  · rintro K ⟨p, σ1⟩ ⟨t', cnt', w', h', v, mn', i1, i2, i3, i4, i5, i6, i7, i8, i9⟩ hK
    have hv := i1.2.2.1
    refine hlb Q E K p σ1 t' cnt' i1 (fun hn => ?_) (fun hr => ?_)
    · refine hok p σ1 t' cnt' w' h' v mn' i1 i2 i3 i4 i5 i6 i7 ?_ i9
      rcases i8 with q | q | q
      · exact Or.inl q
      · exact Or.inr (Or.inl (by omega))
      · exact Or.inr (Or.inr q)
    · have h0 := op_ne hr (by omega)
      refine rd_two hM hst hsub (by omega) hc0 hbad i1 i2 i3 i4 i5 i6 i9 h0 hr hr3 hpm htb (by rw [hmv, ← hr]; exact sy_op hv h0 (by rw [hr]; exact hr4) (by rw [hr]; exact i7) (by rw [hr]; exact htr)) ?_
      rintro ⟨p2, σ2⟩ t2 cnt2 w2 h2 v2 mn2 g1 g2 g3 g4 g5 g6 g7 g8 g9
      refine hK _ ⟨t2, cnt2, w2, h2, _, mn2, g1, g2, g3, g4, g5, g6, ?_, g8, by omega⟩ ?_
      · rw [bnd_eqv (show r ≤ r + 1 by omega) g7, bnd_two (by rw [hr]; omega) (fun q => by rw [q] at hr; exact hr3 hr.symm)]
      · have a1 := pl_i g1
        have a2 := pl_i i1
        simp only at a1 a2 ⊢
        rw [a1.1, a2.1]
        omega
  · obtain ⟨t', cnt', w', h', v, mn', i1, i2, i3, i4, i5, i6, i7, i8, i9⟩ := hI
    exact ⟨t', cnt', w', h', v, mn', i1, i2, i3, i4, i5, i6, bnd_eqv (by omega) i7, i8, i9⟩
theorem rd_product {o c d : Nat} {b : Nat → Int32} {n B0 brk c0 Mx : Nat} {OR : Hp → (Nat → Hp → Prop) → (Nat → Hp → Prop) → Prop} (hM : B0 + 4 * n + 8 ≤ Mx) (hone : LvS o c d b n B0 7 7 brk c0 pmA (fun σ Q E => wp_X2_one o c d σ Mx Q E OR)) : LvS o c d b n B0 6 6 brk c0 pmA (fun σ Q E => wp_X2_product o c d σ Mx Q E OR) := by
  intro σ t cnt w h mn Q E hc0 hR hpm htr hg hok hbad
  refine hone σ t cnt w h mn _ E hc0 hR hpm (by omega) hg ?_ hbad
  intro p σ1 t' cnt' w' h' v mn' g1 g2 g3 g4 g5 g6 g7 g8 g9 _
  refine rd_left (lb := fun Q E => lb_X2_product_5 o c d Mx Q E OR) hM hone rfl (by omega) (by omega) (by omega) (mv := false) (by decide) (fun _ _ => rfl) (by omega) ?_ ⟨hR.2.2.2.2.2.2.2.1, hR.2.2.2.2.2.2.2.2.2⟩ hc0 htr hok hbad ⟨t', cnt', w', h', v, mn', g1, g2, g3, g4, g5, g6, g7, g8, g9⟩
  intro Q E K p σ t cnt hR h1 h2
  rw [ne_eq, op6 hR.2.2.1] at h1
  rw [op6 hR.2.2.1] at h2
  have s := fun x hx => lsign (c := c) (d := d) hR.2.1 hR.2.2.1 (x := x) hx
  show (_ → _) ∧ (_ → _)
  rw [s 42 (by decide), s 47 (by decide), s 37 (by decide)]
  exact ⟨fun q1 => ⟨fun q2 => ⟨fun q3 => h1 (fun w => w ⟨q1, q2, q3⟩), fun q3 => h2 (fun w => q3 w.2.2)⟩, fun q2 => h2 (fun w => q2 w.2.1)⟩, fun q1 => h2 (fun w => q1 w.1)⟩
theorem rd_sum {o c d : Nat} {b : Nat → Int32} {n B0 brk c0 Mx : Nat} {OR : Hp → (Nat → Hp → Prop) → (Nat → Hp → Prop) → Prop} (hM : B0 + 4 * n + 8 ≤ Mx) (hsub : LvS o c d b n B0 6 6 brk c0 pmA (fun σ Q E => wp_X2_product o c d σ Mx Q E OR)) : LvS o c d b n B0 5 5 brk c0 pmA (fun σ Q E => wp_X2_sum o c d σ Mx Q E OR) := by
  intro σ t cnt w h mn Q E hc0 hR hpm htr hg hok hbad
  refine hsub σ t cnt w h mn _ E hc0 hR hpm (by omega) hg ?_ hbad
  intro p σ1 t' cnt' w' h' v mn' g1 g2 g3 g4 g5 g6 g7 g8 g9 _
  refine rd_left (lb := fun Q E => lb_X2_sum_5 o c d Mx Q E OR) hM hsub rfl (by omega) (by omega) (by omega) (mv := false) (by decide) (fun _ _ => rfl) (by omega) ?_ ⟨hR.2.2.2.2.2.2.2.1, hR.2.2.2.2.2.2.2.2.2⟩ hc0 htr hok hbad ⟨t', cnt', w', h', v, mn', g1, g2, g3, g4, g5, g6, g7, g8, g9⟩
  intro Q E K p σ t cnt hR h1 h2
  rw [ne_eq, op5 hR.2.2.1] at h1
  rw [op5 hR.2.2.1] at h2
  have s := fun x hx => lsign (c := c) (d := d) hR.2.1 hR.2.2.1 (x := x) hx
  show (_ → _) ∧ (_ → _)
  rw [s 43 (by decide), s 45 (by decide)]
  exact ⟨fun q1 => ⟨fun q2 => h1 (fun w => w ⟨q1, q2⟩), fun q2 => h2 (fun w => q2 w.2)⟩, fun q1 => h2 (fun w => q1 w.1)⟩
theorem rd_compare {o c d : Nat} {b : Nat → Int32} {n B0 brk c0 Mx : Nat} {OR : Hp → (Nat → Hp → Prop) → (Nat → Hp → Prop) → Prop} (hM : B0 + 4 * n + 8 ≤ Mx) (hsub : LvS o c d b n B0 5 5 brk c0 pmA (fun σ Q E => wp_X2_sum o c d σ Mx Q E OR)) : LvS o c d b n B0 4 4 brk c0 pmA (fun σ Q E => wp_X2_compare o c d σ Mx Q E OR) := by
  intro σ t cnt w h mn Q E hc0 hR hpm htr hg hok hbad
  refine hsub σ t cnt w h mn _ E hc0 hR hpm (by omega) hg ?_ hbad
  intro p σ1 t' cnt' w' h' v mn' g1 g2 g3 g4 g5 g6 g7 g8 g9 _
  have hv := g1.2.2.1
  have hc := lcmp (c := c) (d := d) g1.2.1 hv
  have plain : tKd t' ≠ 5 → Q p σ1 := by
    intro k5
    refine hok p σ1 t' cnt' w' h' v mn' g1 g2 g3 g4 g5 g6 (bnd_eqv (by omega) g7) ?_ g9
    have n4 : rk (opOf t') ≠ 4 := fun q => k5 ((op4 hv).mp q)
    rcases g8 with q | q | q
    · exact Or.inl q
    · exact Or.inr (Or.inl (by omega))
    · exact absurd q.1 n4
  have cmp : tKd t' = 5 → wj_X2_compare_52 o c d σ1 p Mx Q E OR := by
    intro k5
    have r4 := (op4 hv).mpr k5
    refine rd_two (z := (p, σ1)) (K := fun y => Q y.1 y.2) hM ⟨hR.2.2.2.2.2.2.2.1, hR.2.2.2.2.2.2.2.2.2⟩ hsub (show 4 ≤ 5 by omega) hc0 hbad g1 g2 g3 g4 g5 g6 g9 (op_ne r4 (by omega)) r4 (by omega) (mv := false) (fun _ _ => rfl) (by omega) (sy_cmp hv r4 g7 htr) ?_
    rintro ⟨p2, σ2⟩ t2 cnt2 w2 h2 v2 mn2 e1 e2 e3 e4 e5 e6 e7 e8 e9
    refine hok p2 σ2 t2 cnt2 w2 h2 _ mn2 e1 e2 e3 e4 e5 e6 ?_ ?_ (by omega)
    · rw [bnd_eqv (show 4 ≤ 5 by omega) e7, bnd_two (by rw [r4]; omega) (fun q => by rw [q] at r4; cases r4)]
    · rcases e8 with q | q | q
      · exact Or.inl q
      · by_cases q4 : rk (opOf t2) = 4
        · refine Or.inr (Or.inr ⟨q4, ?_⟩)
          rw [e7, bnd_stop (by omega) (by show rk (opOf t') < 5; omega)]
          exact r4
        · exact Or.inr (Or.inl (by omega))
      · exact Or.inr (Or.inr q)
  refine ⟨fun q1 => ⟨fun q2 => ⟨fun q3 => ⟨fun q4 => ⟨fun q5 => cmp ?_, fun q5 => plain ?_⟩, fun q4 => plain ?_⟩, fun q3 => cmp ?_⟩, fun q2 => cmp ?_⟩, fun q1 => cmp ?_⟩
  · exact Classical.byContradiction (fun k => (hc.mpr k).2.2.2 ⟨q4, q5⟩)
  · exact hc.mp ⟨q1, q2, q3, fun w => q5 w.2⟩
  · exact hc.mp ⟨q1, q2, q3, fun w => q4 w.1⟩
  · exact Classical.byContradiction (fun k => q3 (hc.mpr k).2.2.1)
  · exact Classical.byContradiction (fun k => q2 (hc.mpr k).2.1)
  · exact Classical.byContradiction (fun k => q1 (hc.mpr k).1)
theorem rd_and {o c d : Nat} {b : Nat → Int32} {n B0 brk c0 Mx : Nat} {OR NOT : Hp → (Nat → Hp → Prop) → (Nat → Hp → Prop) → Prop} (hM : B0 + 4 * n + 8 ≤ Mx) (hsub : LvS o c d b n B0 3 4 brk c0 pmB NOT) : LvS o c d b n B0 2 2 brk c0 pmB (fun σ Q E => wp_X2_and o c d σ Mx Q E OR NOT) := by
  intro σ t cnt w h mn Q E hc0 hR hpm htr hg hok hbad
  refine hsub σ t cnt w h mn _ E hc0 hR hpm (by omega) hg ?_ hbad
  intro p σ1 t' cnt' w' h' v mn' g1 g2 g3 g4 g5 g6 g7 g8 g9 _
  refine rd_left (lb := fun Q E => lb_X2_and_5 o c d Mx Q E OR NOT) hM hsub rfl (by omega) (by omega) (by omega) (mv := true) (by decide) (fun _ => rfl) (by omega) ?_ ⟨hR.2.2.2.2.2.2.2.1, hR.2.2.2.2.2.2.2.2.2⟩ hc0 htr hok hbad ⟨t', cnt', w', h', v, mn', g1, g2, g3, g4, g5, g6, g7, g8, g9⟩
  intro Q E K p σ t cnt hR h1 h2
  rw [ne_eq, op2 hR.2.2.1] at h1
  rw [op2 hR.2.2.1] at h2
  show (_ → _) ∧ (_ → _)
  rw [lword1 hR.2.1 hR.2.2.1 (k := 16) (fun w hw => (pi_inj w hw).2.1) (by omega)]
  exact ⟨fun q => h1 (fun w => absurd (w.symm.trans q) (by decide)), fun q => h2 (bt q)⟩
theorem rd_or {o c d : Nat} {b : Nat → Int32} {n B0 brk c0 Mx : Nat} {OR NOT : Hp → (Nat → Hp → Prop) → (Nat → Hp → Prop) → Prop} (hM : B0 + 4 * n + 8 ≤ Mx) (hsub : LvS o c d b n B0 2 2 brk c0 pmB (fun σ Q E => wp_X2_and o c d σ Mx Q E OR NOT)) : LvS o c d b n B0 1 1 brk c0 pmB (fun σ Q E => wp_X2_or o c d σ Mx Q E OR NOT) := by
  intro σ t cnt w h mn Q E hc0 hR hpm htr hg hok hbad
  refine hsub σ t cnt w h mn _ E hc0 hR hpm (by omega) hg ?_ hbad
  intro p σ1 t' cnt' w' h' v mn' g1 g2 g3 g4 g5 g6 g7 g8 g9 _
  refine rd_left (lb := fun Q E => lb_X2_or_5 o c d Mx Q E OR NOT) hM hsub rfl (by omega) (by omega) (by omega) (mv := true) (by decide) (fun _ => rfl) (by omega) ?_ ⟨hR.2.2.2.2.2.2.2.1, hR.2.2.2.2.2.2.2.2.2⟩ hc0 htr hok hbad ⟨t', cnt', w', h', v, mn', g1, g2, g3, g4, g5, g6, g7, g8, g9⟩
  intro Q E K p σ t cnt hR h1 h2
  rw [ne_eq, op1 hR.2.2.1] at h1
  rw [op1 hR.2.2.1] at h2
  show (_ → _) ∧ (_ → _)
  rw [lword1 hR.2.1 hR.2.2.1 (k := 17) (fun w hw => (pi_inj w hw).2.2) (by omega)]
  exact ⟨fun q => h1 (fun w => absurd (w.symm.trans q) (by decide)), fun q => h2 (bt q)⟩
