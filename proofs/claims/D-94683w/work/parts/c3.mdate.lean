set_option maxRecDepth 100000
def Sd (m a k : Nat) : Prop := Sp m a k ∨ (a = m ∧ k = 44)
theorem MT.l {m : Nat} {b : Nat → Int32} {n : Nat} {σ : Hp} {t : Tok} {a k : Nat} {v : Int64} (h : MT m b n σ t) : MT m b n (pL σ a k v) t := h
/-- no land told puts a told day beyond what is counted -/
theorem told_b {L g f : Int32} (kl : LOK3 L g f) {y : Int} (h1 : 1 ≤ y) (h2 : y ≤ 99999) (hl : 1 ≤ lenI L.toInt g.toInt y) : begI L.toInt g.toInt f.toInt y ≤ 600000000000 ∧ 0 ≤ begI L.toInt g.toInt f.toInt y ∧ (0 ≤ g.toInt ∨ y ≤ 9999) ∧ lenI L.toInt g.toInt y ≤ 10000000 := by
  obtain ⟨k1, k2, k3, k4, k5, k6⟩ := kl
  have m2 := tri_nn (n := y - 1) (by omega)
  have m3 : tri (y - 1) ≤ 4999750003 := by
    by_cases q : y - 1 = 0
    · rw [q]; decide
    · have := tri_up (n := y - 1) (k := 99998) (by omega) (by omega)
      have e : tri 99998 = 4999750003 := by decide
      omega
  refine ⟨?_, ?_, ?_, ?_⟩
  · unfold begI
    have m1 := mul_bd (a := L.toInt) (b := y - 1) (by omega) k2 (by omega) (show y - 1 ≤ 99998 by omega)
    have m4 : g.toInt * tri (y - 1) ≤ 99 * 4999750003 := by
      by_cases hg : 0 ≤ g.toInt
      · exact (mul_bd hg k4 m2 m3).2
      · have := (mul_ng (A := 99) k3 (show g.toInt ≤ 0 by omega) m2 m3).2
        omega
    omega
  · by_cases e : y = 1
    · rw [e, beg_one]; exact k5
    · have := beg_lt (L := L.toInt) (g := g.toInt) (f := f.toInt) (y := 1) (z := y) k1 (Int.le_refl _) (by omega) (Or.inr (len_dn k1 (by omega) (by omega) (Or.inr hl)))
      rw [beg_one] at this
      omega
  · by_cases hg : 0 ≤ g.toInt
    · exact Or.inl hg
    · have := (last_iff (L := L.toInt) (g := g.toInt) (y := y) (by omega)).mpr hl
      have b' := ediv_b (a := L.toInt - 1) (b := -g.toInt) (by omega) (by omega)
      exact Or.inr (by omega)
  · unfold lenI
    by_cases hg : 0 ≤ g.toInt
    · have := (mul_bd hg k4 (show 0 ≤ y - 1 by omega) (show y - 1 ≤ 99998 by omega)).2
      omega
    · have := (mul_ng (A := 99) k3 (show g.toInt ≤ 0 by omega) (show 0 ≤ y - 1 by omega) (show y - 1 ≤ 99998 by omega)).2
      omega
theorem m_date {m : Nat} {b : Nat → Int32} {n : Nat} {σ : Hp} {R : RlA} {t : Tok} {lo : Int64} {Q : Int32 → Hp → Prop} (hT : MT m b n σ t) (hR : MRl m 1 σ R) (h18 : gI σ m 18 = Int32.ofNat (aL R).length) (hc4 : (aL R).length ≤ 4) (hk : LsOk (aL R)) (hg : MG m b n (Sd m) σ (dateS b n (aL R) lo t) (fun v σ' => gL σ' m 44 = v) Q) : wp_X6_dateRead m σ lo Q := by
  obtain ⟨g1, g2⟩ := hg
  have spu : ∀ a k, Sp m a k → Sd m a k := fun a k q => Or.inl q
  refine m_number hT ⟨fun y t1 s1 e1 a1 a2 a3 => ⟨fun w => (by cases w), fun _ => ?_⟩, fun k pl σ' e c1 c2 c3 => ⟨fun _ => g2 k pl σ' (by unfold dateS; rw [e]; rfl) (c1.up spu) c2 c3, fun w => absurd rfl w⟩⟩
  have yb := num_b e1
  have a3 : gI s1 m 11 = y := a3
  have k0 : Ch (Sd m) σ s1 := a1.up spu
  have ex : dateS b n (aL R) lo t = if tKd t1 = 3 then (if (tWh t1).toInt ≤ 99999 then (match aL R with
    | [] => .inr (5, tPl t1)
    | l :: _ => if 1 ≤ y.toInt ∧ 1 ≤ lenI l.2.1.toInt l.2.2.1.toInt y.toInt ∧ 1 ≤ (tWh t1).toInt ∧ (tWh t1).toInt ≤ lenI l.2.1.toInt l.2.2.1.toInt y.toInt ∧ lo.toInt ≤ begI l.2.1.toInt l.2.2.1.toInt l.2.2.2.toInt y.toInt + (tWh t1).toInt - 1 then .inl (mStart l.2.1 l.2.2.1 l.2.2.2 y.toInt64 + (tWh t1).toInt64 - 1, adv b n t1) else .inr (5, tPl t1)) else .inr (2, tPl t1)) else .inr (1, tPl t1) := by
    unfold dateS
    rw [e1]
    rfl
  have hv1 := a2.2.2
  have num2 : numS b n 0 99999 t1 = if tKd t1 = 3 then (if (tWh t1).toInt ≤ 99999 then .inl (tWh t1, adv b n t1) else .inr (2, tPl t1)) else .inr (1, tPl t1) := by
    unfold numS
    by_cases k3 : tKd t1 = 3
    · rw [if_pos k3, if_pos k3]
      have := (hv1.2.2.2.2.2.2.2.2 k3).1
      by_cases k9 : (tWh t1).toInt ≤ 99999
      · rw [if_pos k9, if_pos ⟨this, k9⟩]
      · rw [if_neg k9, if_neg (fun z => k9 z.2)]
    · rw [if_neg k3, if_neg k3]
  generalize dateS b n (aL R) lo t = X at *
  refine m_number a2 ⟨fun dd t2 s5 e2 b1 b2 b3 => ⟨fun w => (by cases w), fun _ => ?_⟩, fun k pl σ' e c1 c2 c3 => ⟨fun _ => g2 k pl σ' ?_ (k0.tr (c1.up spu)) c2 c3, fun w => absurd rfl w⟩⟩
  case refine_2 =>
    rw [num2] at e
    rw [ex]
    by_cases k3 : tKd t1 = 3
    · rw [if_pos k3] at e ⊢
      by_cases k9 : (tWh t1).toInt ≤ 99999
      · rw [if_pos k9] at e; cases e
      · rw [if_neg k9] at e ⊢; cases e; rfl
    · rw [if_neg k3] at e ⊢; cases e; rfl
  rw [num2] at e2
  by_cases k3 : tKd t1 = 3
  case neg => rw [if_neg k3] at e2; cases e2
  rw [if_pos k3] at e2 ex
  by_cases k9 : (tWh t1).toInt ≤ 99999
  case neg => rw [if_neg k9] at e2; cases e2
  rw [if_pos k9] at e2 ex
  cases e2
  have wb := (hv1.2.2.2.2.2.2.2.2 k3).1
  have b3 : gI s5 m 11 = tWh t1 := b3
  have k5 := k0.tr (b1.up spu)
  have p10 : gI s1 m 10 = Int32.ofNat (tPl t1) := a2.2.1.2.1
  have i18 : gI s5 m 18 = Int32.ofNat (aL R).length := by rw [k5.gi (by unfold Sd Sp; omega)]; exact h18
  -- a date that is none
  have bad : ∀ w0, X = .inr (5, tPl t1) → ∀ (r : Int32) (s : Hp), (r, s) = f_X6_wrong m (pI (pL s5 m 44 w0) m 10 (gI s1 m 10)) 5 → (r = 0 ∨ r = 1) ∧ (Q r s) := fun w0 e => wrong_of (g2 _ _ _ e ((((k5.l (Or.inr ⟨rfl, rfl⟩)).i (Or.inl (by unfold Sp; omega))).i (Or.inl (by unfold Sp; omega))).i (Or.inl (by unfold Sp; omega))) (by simp [gI_pI]) (by simp [gI_pI, p10]))
  rw [i18]
  cases hl : aL R with
  | nil =>
    rw [hl] at ex
    refine ⟨fun _ => ⟨fun _ => bad _ ex, fun w => absurd (by decide) w⟩, fun w => absurd (by decide) w⟩
  | cons l ls =>
    rw [hl] at ex
    have hll : ls.length + 1 ≤ 4 := by rw [hl] at hc4; exact hc4
    have hne : ¬ Int32.ofNat (l :: ls).length = 0 := by
      simp only [List.length_cons]
      exact fun w => by rw [show (0 : Int32) = Int32.ofNat 0 from rfl, nat_e (by omega) (by omega)] at w; omega
    have kl : LOK3 l.2.1 l.2.2.1 l.2.2.2 := hk l (by rw [hl]; exact List.mem_cons_self)
    have r1 := hR.1 0 l (by rw [hl]; rfl)
    have hD : MDo m s5 4 l.2.1 l.2.2.1 l.2.2.2 := by
      refine ⟨vp_of (by decide) (by decide), vp_of (by decide) (by decide), vp_of (by decide) (by decide), ?_, ?_, ?_⟩
      · rw [show ((3 : Int32) * 4).toNatClampNeg = 12 by decide, k5.gi (by unfold Sd Sp; omega)]; exact r1.2.1
      · rw [show ((3 : Int32) * 4 + 1).toNatClampNeg = 13 by decide, k5.gi (by unfold Sd Sp; omega)]; exact r1.2.2.1
      · rw [show ((3 : Int32) * 4 + 2).toNatClampNeg = 14 by decide, k5.gi (by unfold Sd Sp; omega)]; exact r1.2.2.2
    have y64 : y.toInt64.toInt = y.toInt := i2_l y
    have d64 : (tWh t1).toInt64.toInt = (tWh t1).toInt := i2_l _
    have c0 : (0 : Int32).toInt = 0 := rfl
    have c9 : (99999 : Int32).toInt = 99999 := rfl
    rw [a3, b3]
    refine ⟨fun w => absurd w hne, fun _ => ⟨⟨om_isYear hD _, fun _ => trivial, fun _ => ⟨fun _ => trivial, fun _ => ⟨om_len hD _, fun _ => om_beg hD _, fun _ => trivial⟩⟩⟩, ?_⟩⟩
    unfold f_X6_countOf
    have hy := (fm_isYear hD kl (y := y.toInt64) (by omega)).1
    unfold hasY at hy
    rw [y64] at hy
    rw [fm_len hD, fm_beg hD]
    by_cases w : 1 ≤ y.toInt ∧ 1 ≤ lenI l.2.1.toInt l.2.2.1.toInt y.toInt
    case neg =>
      rw [if_pos (hy.mpr w)]
      exact ⟨fun _ => bad _ (by rw [ex]; exact if_neg (fun z => w ⟨z.1, z.2.1⟩)), fun z => absurd (by decide) z⟩
    rw [if_neg (fun z => hy.mp z w)]
    obtain ⟨q1, q2, q3, q4⟩ := told_b kl w.1 (by omega) w.2
    have elen := mLen_i kl (y := y.toInt64) (by omega) (by omega)
    rw [y64] at elen
    by_cases w2 : (tWh t1).toInt < 1
    · rw [if_pos ((l3_lt d64 (y := 1) (by rfl)).mpr w2)]
      exact ⟨fun _ => bad _ (by rw [ex]; exact if_neg (fun z => by omega)), fun z => absurd (by decide) z⟩
    rw [if_neg (fun z => w2 ((l3_lt d64 (y := 1) (by rfl)).mp z))]
    by_cases w3 : (tWh t1).toInt ≤ lenI l.2.1.toInt l.2.2.1.toInt y.toInt
    case neg =>
      rw [if_neg (fun z => w3 ((l3_le d64 elen).mp z))]
      exact ⟨fun _ => bad _ (by rw [ex]; exact if_neg (fun z => w3 z.2.2.2.1)), fun z => absurd (by decide) z⟩
    rw [if_pos ((l3_le d64 elen).mpr w3)]
    obtain ⟨s1', s2'⟩ := st_beg kl (c := 0) (by decide) (y := y.toInt64) (by omega) (by omega) (by omega) (by rw [y64]; omega)
    rw [y64] at s2'
    rw [s1']
    have esum : ((mStart l.2.1 l.2.2.1 l.2.2.2 y.toInt64 + (tWh t1).toInt64) - 1).toInt = begI l.2.1.toInt l.2.2.1.toInt l.2.2.2.toInt y.toInt + (tWh t1).toInt - 1 := l3_sub (l3_add s2' d64 (by omega) (by omega)) (by rfl) (by omega) (by omega)
    rw [if_pos ((l3_le esum (y := 1000000000000) (by rfl)).mpr (by omega))]
    unfold wj_X6_dateRead_61
    rw [l3_lt esum (y := 0) (by rfl), l3_le rfl esum]
    refine ⟨fun z => by omega, fun _ => ⟨fun w4 => ?_, fun w4 => bad _ (by rw [ex]; exact if_neg (fun z => w4 z.2.2.2.2))⟩⟩
    exact g1 _ (adv b n t1) _ (by rw [ex]; exact if_pos ⟨w.1, w.2, by omega, w3, w4⟩) (k5.l (Or.inr ⟨rfl, rfl⟩)) b2.l (by show gL (pL s5 m 44 _) m 44 = _; rw [gL_pL, if_pos ⟨rfl, rfl⟩])
