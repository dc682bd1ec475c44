set_option maxRecDepth 100000
theorem srV_some {stop hit : Int64 → Prop} : ∀ (n : Nat) (y z : Int64), y.toInt + n ≤ 5000000000000 → 0 ≤ y.toInt → srV stop hit n y = some z → ¬ stop z ∧ y.toInt ≤ z.toInt := by
  intro n
  induction n with
  | zero => intro y z _ _ h; cases h
  | succ n ih =>
    intro y z h1 h2 h
    unfold srV at h
    have e : (y + 1).toInt = y.toInt + 1 := l3_add rfl (by rfl) (by omega) (by omega)
    by_cases c : stop y
    · rw [if_pos c] at h; cases h
    · rw [if_neg c] at h
      by_cases c2 : hit y
      · rw [if_pos c2] at h; cases h; exact ⟨c, Int.le_refl _⟩
      · rw [if_neg c2] at h
        have := ih (y + 1) z (by omega) (by omega) h
        exact ⟨this.1, by omega⟩
theorem ffV_ok {y : FeastA} {R : RlA} {d : Int64} (h0 : 0 ≤ d.toInt) (h1 : d.toInt ≤ 1000000000001) : wOk (ffV y R d) := by
  unfold ffV
  cases h : srV (fun z => d + 20000 ≤ z ∨ 1000000000000 < z) (fun z => fsV (y.2 (nuS R z))) 20000 d with
  | none => exact Or.inr (Or.inl rfl)
  | some z =>
    obtain ⟨a, b⟩ := srV_some _ _ _ (by omega) h0 h
    have a2 : ¬ 1000000000000 < z := fun q => a (Or.inr q)
    rw [l3_lt (x := 1000000000000) (by rfl) rfl] at a2
    exact Or.inr (Or.inr ⟨by show 0 ≤ z.toInt; omega, by show z.toInt ≤ _; omega⟩)
theorem q_deed {o c m : Nat} {σ : Hp} {R : RlA} {p l w : Int32} (hL : LRx o c σ R) (hk : ROk R) : ∃ v, QLh o σ (wp_X1_deed o c σ p l w) v ∧ ∀ τ, MKr m τ R → QM m τ (wp_X6_deed m τ p l w) v := by
  have M2 : ∀ τ, MKr m τ R → MKr m (pI τ m 2 0) R := fun τ hM => hM.ch Ch.t0
  have h4 := hL.1.1.2.1
  have h5 := hL.1.2.2.2.1.2.1
  have hd := lst_in hL.1.2.2.2.1 (by omega) p
  have md : ∀ τ, MKr m τ R → ((p < 0 ∨ gI τ m 15 ≤ p) ↔ ¬ (0 ≤ p.toInt ∧ p.toInt < (aD R).length)) := fun τ hM => by
    rw [show gI τ m 15 = Int32.ofNat (aD R).length from hM.2.2.2.2.2.1, i3_lt rfl (y := 0) (by rfl), i3_le (nat_i (by omega)) rfl]; omega
  rcases at_cases (aD R) p (by omega) with nd | ⟨i, y, rfl, hi, hr⟩
  · refine ⟨-1, fun Q hQ => cT (hd.mpr nd) (hQ _ Ch.rf), fun τ hM Q hQ => ⟨fun _ => hQ _ Ch.t0 t0_2, fun z => cT (((md τ hM).mpr nd).elim (fun u => absurd u z) id) (hQ _ Ch.t0 t0_2)⟩⟩
  have a0 : ¬ f_X1_in (Int32.ofNat i).toInt64 0 (((f_J2_size (c + 7) 4 σ) - 1).toInt64) = 0 := fun z => hd.mp z hr
  have b0 : ¬ Int32.ofNat i < 0 := fun z => by
    rw [i3_lt rfl (y := 0) (by rfl)] at z
    have := hr.1
    omega
  have b1 : ∀ τ, MKr m τ R → ¬ gI τ m 15 ≤ Int32.ofNat i := fun τ hM z => (md τ hM).mp (Or.inr z) hr
  rcases at_cases (aL R) l (by omega) with nl | ⟨j, x, rfl, hj, hrj⟩
  · exact ⟨-1, fun Q hQ => cF a0 ⟨in_01 _ _ _, cT ((l_isLand hL.1 l).mpr nl) (hQ _ Ch.rf)⟩, fun τ hM Q hQ => cF b0 (cF (b1 τ hM) (cT ((m_isLand (M2 τ hM) l).mpr nl) (hQ _ Ch.t0 t0_2)))⟩
  have a2 : ¬ f_X1_isLand o c σ (Int32.ofNat j) = 0 := fun z => (l_isLand hL.1 _).mp z hrj
  have b2 : ∀ τ, MKr m τ R → ¬ f_X6_isLand m (pI τ m 2 0) (Int32.ofNat j) = 0 := fun τ hM z => (m_isLand (M2 τ hM) _).mp z hrj
  have wl : f_X1_in w.toInt64 0 2 = 0 ↔ ¬ (0 ≤ w.toInt ∧ w.toInt ≤ 2) := in_iff (i2_l w) (by rfl) (by rfl)
  have wm : f_X6_isIn w 0 2 = 0 ↔ ¬ (0 ≤ w.toInt ∧ w.toInt ≤ 2) := isIn_iff w 0 2
  rcases (Classical.em (0 ≤ w.toInt ∧ w.toInt ≤ 2)).symm with q1 | q1
  · exact ⟨-1, fun Q hQ => cF a0 ⟨in_01 _ _ _, cF a2 (cT (wl.mpr q1) (hQ _ Ch.rf))⟩, fun τ hM Q hQ => cF b0 (cF (b1 τ hM) (cF (b2 τ hM) (cT (wm.mpr q1) (hQ _ Ch.t0 t0_2))))⟩
  have a3 : ¬ f_X1_in w.toInt64 0 2 = 0 := fun z => wl.mp z q1
  have b3 : ¬ f_X6_isIn w 0 2 = 0 := fun z => wm.mp z q1
  have kx : LOK3 x.2.1 x.2.2.1 x.2.2.2 := hk.1 x (List.mem_of_getElem? hj)
  have yk := hk.2.2.2.1 y (List.mem_of_getElem? hi)
  have hc := yk.1
  have il := get_lt hi
  -- LongYears' cells
  obtain ⟨pp, p1, p2, p3, p4⟩ := lst_get hL.1.2.2.2.1 (by omega) hi
  have pc : o + 110 ≤ c := hL.2.2.elim id (fun z => by rw [z.2.2.2.2.1] at hi; cases hi)
  obtain ⟨u1, u2, u3⟩ := l_land (o := o) hL.1 hj
  have ppg : ∀ s, Ch (SLq o) σ s → gL s pp 1 = y.2.1 ∧ gI s pp 3 = y.2.2.2.2 := fun s hs => ⟨by rw [hs.gl (by unfold SLq; omega)]; exact p4.2.2.2.1, by rw [hs.gi (by unfold SLq; omega)]; exact p4.2.2.2.2.2⟩
  -- the reference's rows
  have v8 : vp_in (Int32.ofNat i) 8 := nat_v (by omega) (by omega)
  have m0 : (3 : Int32) * Int32.ofNat i = Int32.ofNat (3 * i) := by rw [show (3 : Int32) = Int32.ofNat 3 from rfl, nat_m (by omega) (by omega) (by omega)]
  have m1 : Int32.ofNat (3 * i) + 1 = Int32.ofNat (3 * i + 1) := nat_s (by omega)
  have m2 : Int32.ofNat (3 * i) + 2 = Int32.ofNat (3 * i + 2) := nat_a (q := 2) (by omega)
  have mr : ∀ s, MKr m s R → gL s (m + 13) (Int32.ofNat i).toNatClampNeg = y.2.1 ∧ gI s (m + 14) ((3 : Int32) * Int32.ofNat i).toNatClampNeg = y.2.2.1 ∧ gI s (m + 14) ((3 : Int32) * Int32.ofNat i + 1).toNatClampNeg = y.2.2.2.1 ∧ gI s (m + 14) ((3 : Int32) * Int32.ofNat i + 2).toNatClampNeg = y.2.2.2.2 := fun s h => by
    obtain ⟨-, r1, r2, r3, r4⟩ := h.1.2.2.2.1 i y hi
    rw [m0, m1, m2, nat_c (by omega), nat_c (by omega), nat_c (by omega), nat_c (by omega)]
    rw [show 4 * 0 + i = i by omega] at r1
    rw [show 12 * 0 + 3 * i = 3 * i by omega] at r2 r3 r4
    exact ⟨r1, r2, r3, r4⟩
  have vm0 : vp_in ((3 : Int32) * Int32.ofNat i) 24 := by rw [m0]; exact nat_v (by omega) (by omega)
  have vm1 : vp_in ((3 : Int32) * Int32.ofNat i + 1) 24 := by rw [m0, m1]; exact nat_v (by omega) (by omega)
  have vm2 : vp_in ((3 : Int32) * Int32.ofNat i + 2) 24 := by rw [m0, m2]; exact nat_v (by omega) (by omega)
  have dd := fun τ hM => m_landAt (M2 τ hM) hj
  have gp : gL σ (f_J2_get (c + 7) 4 σ (Int32.ofNat i)) 1 = y.2.1 := by rw [p1]; exact p4.2.2.2.1
  have isd : isDd σ (f_J2_get (c + 7) 4 σ (Int32.ofNat i)) := by rw [p1]; exact ⟨_, (dCl_m _).2, p4.2.1⟩
  have gmo : ∀ τ, MKr m τ R → gL (pI τ m 2 0) (m + 13) (Int32.ofNat i).toNatClampNeg = y.2.1 := fun τ hM => (mr _ (M2 τ hM)).1
  by_cases q2 : yrA x y.2.1 = -1
  · refine ⟨-1, fun Q hQ => cF a0 ⟨in_01 _ _ _, cF a2 (cF a3 ⟨p2, isd, u1, u2, ?_⟩)⟩, fun τ hM Q hQ => cF b0 (cF (b1 τ hM) (cF (b2 τ hM) (cF b3 ⟨v8, ?_⟩)))⟩
    · rw [gp]
      exact wp_year u3 kx hc.1 hc.2 (cT q2 (hQ _ Ch.rf))
    · rw [gmo τ hM]
      exact wp_dateA (dd τ hM) kx hc (fun _ s ds => cT rfl (hQ _ (Ch.t0.tr ds.chq) (ds.two t0_2))) (fun e => absurd q2 e)
  by_cases q3 : w = 0
  · refine ⟨y.2.1, fun Q hQ => cF a0 ⟨in_01 _ _ _, cF a2 (cF a3 ⟨p2, isd, u1, u2, ?_⟩)⟩, fun τ hM Q hQ => cF b0 (cF (b1 τ hM) (cF (b2 τ hM) (cF b3 ⟨v8, ?_⟩)))⟩
    · rw [gp]
      exact wp_year u3 kx hc.1 hc.2 (cF q2 (cT q3 (hQ _ Ch.rf)))
    · rw [gmo τ hM]
      refine wp_dateA (dd τ hM) kx hc (fun e => absurd e q2) (fun _ s ds _ _ => cF (by decide) (cT q3 ⟨v8, ?_⟩))
      rw [(mr s ((M2 τ hM).ch ds.chq)).1]
      exact hQ _ (Ch.t0.tr ds.chq) (ds.two t0_2)
  obtain ⟨y1, y2, y3, y4, y5⟩ := dy_i kx hc q2
  have yb := y1.b kx hc.2
  obtain ⟨z1, z2, z3, z4⟩ := y1
  have hc1 := hc.1
  have hc2 := hc.2
  -- what falls due, by both
  have due : ∃ w9 : Int64, wOk w9 ∧ (∀ (P1 : Int64 → Prop) (P : Int64 → Hp → Prop), P1 w9 → (∀ s, Ch (SLq o) σ s → P w9 s) → (gT σ pp = some (.inl 9) → ∀ v24 : Int64, v24 = f_X10_due pp σ o c (f_X1_land o c σ (Int32.ofNat j)) → P1 v24) ∧ (gT σ pp = some (.inl 10) → wp_X11_due pp σ o c (f_X1_land o c σ (Int32.ofNat j)) P1) ∧ (gT σ pp = some (.inl 11) → wp_X12_due pp σ o c (f_X1_land o c σ (Int32.ofNat j)) P)) ∧ (∀ (P : Int64 → Hp → Prop) (s : Hp), MKr m s R → gL s m 53 = yrA x y.2.1 → gL s m 54 = dyA x y.2.1 → (∀ t, Ch (SMq m) s t → gI t m 2 = gI s m 2 → P w9 t) → wp_X6_dueOf m s (Int32.ofNat i) (Int32.ofNat j) P) := by
    have tp := p4.2.1
    have g2 := p4.2.2.2.2.1
    have g1 := p4.2.2.2.1
    rcases yk.2 with ⟨k0, t1, t2⟩ | ⟨k0, t1, t2⟩ | ⟨k0, t1, t2⟩
    · have tp : gT σ pp = some (.inl 10) := by rw [tp, k0]; rfl
      have te : (yrA x y.2.1 + y.2.2.2.1.toInt64).toInt = (yrA x y.2.1).toInt + y.2.2.2.1.toInt := l3_add rfl (i2_l _) (by omega) (by omega)
      refine ⟨laterV x (yrA x y.2.1 + y.2.2.2.1.toInt64) (dyA x y.2.1), later_ok kx (by omega) (by omega) (by omega) (by omega), fun P1 P hP1 hP => ⟨fun z => (by rw [tp] at z; cases z), fun _ => l_later u3 kx g1 g2 hc hP1, fun z => (by rw [tp] at z; cases z)⟩, fun P s hs s53 s54 hP => ?_⟩
      obtain ⟨r1, r2, r3, r4⟩ := mr s hs
      have lt := m_later (D := dyA x y.2.1) (m_landAt hs hj) kx (Y := yrA x y.2.1 + y.2.2.2.1.toInt64) (by omega) (by omega) (by omega) (by omega)
      refine ⟨vm1, fun v2 hv => ⟨vm0, ?_⟩⟩
      rw [r3] at hv
      subst hv
      rw [r2, s53, s54, lt.2]
      exact cT k0 ⟨lt.1, hP _ Ch.rf rfl⟩
    · have tp : gT σ pp = some (.inl 9) := by rw [tp, k0]; rfl
      have te : (y.2.1 + y.2.2.2.1.toInt64).toInt = y.2.1.toInt + y.2.2.2.1.toInt := l3_add rfl (i2_l _) (by omega) (by omega)
      refine ⟨f_X10_counted (y.2.1 + y.2.2.2.1.toInt64), counted_ok (by omega), fun P1 P hP1 hP => ⟨fun _ v hv => ?_, fun z => (by rw [tp] at z; cases z), fun z => (by rw [tp] at z; cases z)⟩, fun P s hs s53 s54 hP => ?_⟩
      · rw [hv]
        unfold f_X10_due
        rw [g1, g2]
        exact hP1
      · obtain ⟨r1, r2, r3, r4⟩ := mr s hs
        refine ⟨vm1, fun v2 hv => ⟨vm0, ?_⟩⟩
        rw [r3] at hv
        subst hv
        rw [r2, r1, k0]
        refine cF (by decide) ⟨vm0, cF (by decide) ⟨v8, ?_⟩⟩
        have hP := hP _ Ch.rf rfl
        unfold f_X10_counted at hP
        refine ⟨fun z => ⟨v8, ?_⟩, fun z => ?_⟩
        · rw [if_pos z] at hP; exact hP
        · rw [if_neg z] at hP; exact hP
    · have tp : gT σ pp = some (.inl 11) := by rw [tp, k0]; rfl
      obtain ⟨n, hn, en⟩ := idx ⟨t1, t2⟩ (by have := hL.1.2.1.2.1; omega)
      have hf : (aF R)[n]? = some ((aF R)[n]) := List.getElem?_eq_getElem hn
      have te : (y.2.1 + 1).toInt = y.2.1.toInt + 1 := l3_add rfl (by rfl) (by omega) (by omega)
      refine ⟨ffV ((aF R)[n]) R (y.2.1 + 1), ?_, fun P1 P hP1 hP => ⟨fun z => (by rw [tp] at z; cases z), fun z => (by rw [tp] at z; cases z), fun _ => ?_⟩, fun P s hs s53 s54 hP => ?_⟩
      · exact ffV_ok (by omega) (by omega)
      · unfold wp_X12_due
        rw [g1, g2, en]
        exact l_first hL hk hf ⟨by omega, by omega⟩ hP
      · obtain ⟨r1, r2, r3, r4⟩ := mr s hs
        refine ⟨vm1, fun v2 hv => ⟨vm0, ?_⟩⟩
        rw [r3] at hv
        subst hv
        rw [r2, r1, k0, en]
        exact cF (by decide) ⟨vm0, cT rfl ⟨v8, m_first hs hk hf ⟨by omega, by omega⟩ hP⟩⟩
  obtain ⟨w9, wk, dl, dm⟩ := due
  refine ⟨if w = 1 ∨ w9 < 0 then w9 else y.2.2.2.2.toInt64 * (endA x w9 - endA x y.2.1), fun Q hQ => cF a0 ⟨in_01 _ _ _, cF a2 (cF a3 ⟨p2, isd, u1, u2, ?_⟩)⟩, fun τ hM Q hQ => cF b0 (cF (b1 τ hM) (cF (b2 τ hM) (cF b3 ⟨v8, ?_⟩)))⟩
  · rw [gp, p1]
    refine wp_year u3 kx hc.1 hc.2 (cF q2 (cF q3 ⟨u1, ?_⟩))
    have g3 := p4.2.2.2.2.2
    have w0 : 0 ≤ w9 ↔ ¬ w9 < 0 := by rw [lt_nle, Classical.not_not]
    have cw : 0 ≤ w9 → cOk w9 := fun z => wk.elim (fun e => absurd z (by rw [e]; decide)) (fun e => e.elim (fun e => absurd z (by rw [e]; decide)) id)
    refine dl _ _ ?_ (fun s hs => ?_)
    · have hQ := hQ σ Ch.rf
      rw [g3]
      refine ⟨fun z => ?_, fun z => ⟨fun z2 => ?_, fun z2 => ?_⟩⟩
      · rw [if_pos (Or.inl z)] at hQ; exact hQ
      · rw [if_neg (fun u => u.elim z (w0.mp z2))] at hQ
        exact ⟨u1, l_ended u3 kx (cw z2) ⟨u1, l_ended u3 kx hc hQ⟩⟩
      · rw [if_pos (Or.inr (Classical.byContradiction (fun u => z2 (w0.mpr u))))] at hQ; exact hQ
    · have hQ := hQ s hs
      refine ⟨fun z => ?_, fun z => ⟨fun z2 => ?_, fun z2 => ?_⟩⟩
      · rw [if_pos (Or.inl z)] at hQ; exact hQ
      · rw [if_neg (fun u => u.elim z (w0.mp z2))] at hQ
        obtain ⟨x1, x2, x3⟩ := l_land (o := o) (hL.q hs).1 hj
        rw [(ppg s hs).1, (ppg s hs).2]
        exact ⟨x1, x2, l_ended x3 kx (cw z2) ⟨x1, l_ended x3 kx hc hQ⟩⟩
      · rw [if_pos (Or.inr (Classical.byContradiction (fun u => z2 (w0.mpr u))))] at hQ; exact hQ
  · rw [gmo τ hM]
    refine wp_dateA (dd τ hM) kx hc (fun e => absurd e q2) (fun _ s ds s53 s54 => cF (by decide) (cF q3 ?_))
    have M3 := (M2 τ hM).ch ds.chq
    refine dm _ s M3 s53 s54 (fun t ht h2 => ?_)
    have M4 := M3.ch ht
    have t1 : Ch (SMq m) τ t := Ch.t0.tr (ds.chq.tr ht)
    have t2 : gI t m 2 = 0 := h2.trans (ds.two t0_2)
    refine ⟨fun z => ?_, fun z => ⟨fun z2 => ?_, fun z2 => ⟨vm2, ?_⟩⟩⟩
    · have hQ := hQ t t1 t2
      rw [if_pos (Or.inr z)] at hQ; exact hQ
    · have hQ := hQ t t1 t2
      rw [if_pos (Or.inl z2)] at hQ; exact hQ
    · rw [(mr t M4).2.2.2]
      have cw : cOk w9 := wk.elim (fun e => absurd (by rw [e]; decide) z) (fun e => e.elim (fun e => absurd (by rw [e]; decide) z) id)
      have d4 := m_landAt M4 hj
      refine m_ended d4 kx cw (fun s1 v1 => ⟨v8, ?_⟩)
      rw [(mr s1 (M4.ch v1.chq)).1]
      refine m_ended (d4.ds v1) kx hc (fun s2 v2 => ?_)
      have hQ := hQ s2 (t1.tr (v1.chq.tr v2.chq)) (v2.two (v1.two t2))
      rw [if_neg (fun u => u.elim z2 z)] at hQ; exact hQ
