set_option maxRecDepth 100000
/-! OFTEN -/
def oft (A B : Int) : Int := if A ≤ B then B - A + 1 else 0
theorem of_l {o c : Nat} {σ : Hp} {r6 : Nat} {x3 : Int32} {y4 w0 w1 : Int64} {F T A : Int} (hF : w0.toInt = F) (hT : (f_X8_lastWith r6 σ y4).toInt = T) (hA : w1.toInt = A) (hA1 : 1 ≤ A) (hA2 : A ≤ 1000000000) (hF1 : 1 ≤ F) (hT0 : 0 ≤ T) (hB : 1 ≤ x3.toInt) : (fj_X1_often_82 o c σ x3 y4 r6 w0 w1).toInt = oft (max A F) (min x3.toInt T) := by
  unfold fj_X1_often_82 oft
  have e1 := max2_i hA hF
  have e2 := min2_i (i2_l x3) hT
  have xb := i2_b x3
  have tb := l2_b (f_X8_lastWith r6 σ y4)
  have fb := l2_b w0
  have z0 : (0 : Int64).toInt = 0 := rfl
  by_cases q : f_J7_max_2 w1 w0 ≤ f_J7_min_2 x3.toInt64 (f_X8_lastWith r6 σ y4)
  · rw [if_pos q]
    rw [l3_le e1 e2] at q
    rw [if_pos q]
    have e3 := l3_add (l3_sub e2 e1 (by omega) (by omega)) (b := 1) (y := 1) (by rfl) (by omega) (by omega)
    rw [max2_i z0 e3]
    omega
  · rw [if_neg q]
    rw [l3_le e1 e2] at q
    rw [if_neg q]
    rw [max2_i z0 z0]
    omega
theorem of_m {o : Nat} {σ : Hp} {a b : Int64} {A B : Int} (hA : a.toInt = A) (hB : b.toInt = B) (h1 : 0 ≤ A) (h2 : 0 ≤ B) : fj_X6_often_185 o σ a b = (Int64.ofInt (oft A B), σ) := by
  unfold fj_X6_often_185 oft
  have ab := l2_b a
  have bb := l2_b b
  by_cases q : a ≤ b
  · rw [if_pos q]
    rw [l3_le hA hB] at q
    rw [if_pos q]
    congr 1
    by_cases z : B - A + 1 ≤ 9223372036854775807
    · rw [l2_eq, l2_ofInt (by omega) (by omega)]
      exact l3_add (l3_sub hB hA (by omega) (by omega)) (by rfl) (by omega) (by omega)
    · have : B = 9223372036854775807 := by omega
      have : A = 0 := by omega
      subst hA; subst hB
      have e1 : b = 9223372036854775807 := by rw [l2_eq]; assumption
      have e2 : a = 0 := by rw [l2_eq]; assumption
      subst e1; subst e2
      rfl
  · rw [if_neg q]
    rw [l3_le hA hB] at q
    rw [if_neg q]
    rfl
theorem oft_b {A B : Int} (h1 : 0 ≤ A) (h2 : B ≤ 1000000000) : 0 ≤ oft A B ∧ oft A B ≤ 1000000001 := by
  unfold oft
  split <;> omega
theorem q_often {o c m : Nat} {σ τ : Hp} {R : RlA} {l a b : Int32} {n : Int64} (hL : LRl c σ R) (hM : MKr m τ R) (hk : ROk R) : ok_X1_often o c σ l a b n ∧ ok_X6_often m τ l a b n ∧ f_X6_often m τ l a b n = (f_X1_often o c σ l a b n, pI τ m 2 0) := by
  have M2 : MKr m (pI τ m 2 0) R := hM.ch Ch.t0
  have h4 := hM.2.1.1
  rcases at_cases (aL R) l (by omega) with nl | ⟨i, x, rfl, hi, hr⟩
  · have a1 : f_X1_isLand o c σ l = 0 := (l_isLand hL l).mpr nl
    have b1 : f_X6_isLand m (pI τ m 2 0) l = 0 := (m_isLand M2 l).mpr nl
    refine ⟨⟨in_01 _ _ _, cT a1 trivial⟩, cT b1 trivial, ?_⟩
    unfold f_X6_often f_X1_often
    rw [if_pos b1, if_pos a1]
  have a1 : ¬ f_X1_isLand o c σ (Int32.ofNat i) = 0 := fun w => (l_isLand hL _).mp w hr
  have b1 : ¬ f_X6_isLand m (pI τ m 2 0) (Int32.ofNat i) = 0 := fun w => (m_isLand M2 _).mp w hr
  obtain ⟨p1, p2, p3⟩ := l_land (o := o) hL hi
  have d := m_landAt M2 hi
  have kx : LOK3 x.2.1 x.2.2.1 x.2.2.2 := hk.1 x (List.mem_of_getElem? hi)
  obtain ⟨k1, k2, k3, k4, k5, k6⟩ := kx
  have hg : ∀ p : Prop, (0 < x.2.2.1.toInt → p) → (x.2.2.1.toInt = 0 → p) → (x.2.2.1.toInt < 0 → p) → p := fun p q1 q2 q3 => by
    by_cases u : 0 < x.2.2.1.toInt
    · exact q1 u
    · by_cases v : x.2.2.1.toInt = 0
      · exact q2 v
      · exact q3 (by omega)
  have gi : x.2.2.1.toInt64.toInt = x.2.2.1.toInt := i2_l _
  have Li : x.2.1.toInt64.toInt = x.2.1.toInt := i2_l _
  have ng : (-x.2.2.1).toInt = -x.2.2.1.toInt := i3_neg rfl (by omega)
  have ngl : (-x.2.2.1).toInt64.toInt = -x.2.2.1.toInt := i3_l ng
  have nlg : (-x.2.2.1.toInt64).toInt = -x.2.2.1.toInt := l3_neg gi (by omega)
  have w1 : f_X1_in a.toInt64 1 1000000000 = 0 ↔ ¬ (1 ≤ a.toInt ∧ a.toInt ≤ 1000000000) := in_iff (i2_l a) (by rfl) (by rfl)
  have w2 : f_X1_in b.toInt64 a.toInt64 1000000000 = 0 ↔ ¬ (a.toInt ≤ b.toInt ∧ b.toInt ≤ 1000000000) := in_iff (i2_l b) (i2_l a) (by rfl)
  have v1 : a < 1 ↔ a.toInt < 1 := i3_lt rfl (by rfl)
  have v2 : 1000000000 < b ↔ 1000000000 < b.toInt := i3_lt (by rfl) rfl
  have v3 : b < a ↔ b.toInt < a.toInt := i3_lt rfl rfl
  have v4 : 1 ≤ n ↔ 1 ≤ n.toInt := l3_le (by rfl) rfl
  have okl : ok_X1_often o c σ (Int32.ofNat i) a b n := by
    refine ⟨in_01 _ _ _, cF a1 ⟨fun _ => trivial, fun _ => ⟨fun _ => trivial, fun _ => ⟨fun _ => ⟨p1, p2, ?_, ?_⟩, fun _ => trivial⟩⟩⟩⟩
    · intro _
      refine ⟨⟨fun _ => ⟨fun q => ?_, fun _ => trivial⟩, fun _ => trivial⟩, p2, ⟨fun _ => trivial, fun q => ⟨fun _ => ?_, fun _ => trivial⟩⟩⟩
      · rw [p3.2.1] at q ⊢
        rw [i3_lt (x := 0) (by rfl) rfl] at q
        rw [l3_eq gi (y := 0) (by rfl)]; omega
      · rw [p3.2.1] at q ⊢
        rw [i3_le (x := 0) (by rfl) rfl] at q
        rw [l3_eq ngl (y := 0) (by rfl)]; omega
    · intro _
      refine ⟨p2, fun _ => trivial, fun q => ⟨fun _ => ?_, fun _ => trivial⟩⟩
      rw [p3.2.1] at q ⊢
      rw [i3_le (x := 0) (by rfl) rfl] at q
      rw [l3_eq ngl (y := 0) (by rfl)]; omega
  have okm138 : ∀ y10 y12, oj_X6_often_138 m (pI τ m 2 0) n x.2.1.toInt64 x.2.2.1.toInt64 y10 y12 := fun y10 y12 => by
    refine ⟨fun _ => trivial, fun q => ⟨fun _ => ?_, fun _ => trivial⟩⟩
    rw [l3_le (x := 0) (by rfl) gi] at q
    rw [l3_eq nlg (y := 0) (by rfl)]; omega
  have okm90 : ∀ y10 y12, oj_X6_often_90 m (pI τ m 2 0) n x.2.1.toInt64 x.2.2.1.toInt64 y10 y12 := fun y10 y12 => by
    refine ⟨fun _ => okm138 _ _, fun q => ⟨fun _ => okm138 _ _, fun _ => ⟨?_, fun _ => okm138 _ _, fun _ => okm138 _ _⟩⟩⟩
    rw [l3_le gi (y := 0) (by rfl)] at q
    rw [l3_eq gi (y := 0) (by rfl)]; omega
  have okm : ok_X6_often m τ (Int32.ofNat i) a b n := by
    refine cF b1 ⟨fun _ => trivial, fun _ => ⟨fun _ => trivial, fun _ => ⟨fun _ => trivial, fun _ => ⟨fun _ => ⟨d.2.2.1, d.2.1, ?_⟩, fun _ => trivial⟩⟩⟩⟩
    rw [d.2.2.2.1, d.2.2.2.2.1]
    exact ⟨fun _ => ⟨fun _ => okm90 _ _, fun _ => trivial⟩, fun _ => okm90 _ _⟩
  refine ⟨okl, okm, ?_⟩
  unfold f_X6_often f_X1_often
  rw [if_neg b1, if_neg a1, d.2.2.2.1, d.2.2.2.2.1, p3.1]
  by_cases c1 : 1 ≤ a.toInt ∧ a.toInt ≤ 1000000000
  · rw [if_neg (fun z => w1.mp z c1), if_neg (by rw [v1]; omega)]
    by_cases c2 : a.toInt ≤ b.toInt ∧ b.toInt ≤ 1000000000
    · rw [if_neg (fun z => w2.mp z c2), if_neg (by rw [v2]; omega), if_neg (by rw [v3]; omega)]
      by_cases c3 : 1 ≤ n
      · rw [if_pos c3, if_pos c3]
        rw [v4] at c3
        have nb := l2_b n
        have sub : (n - x.2.1.toInt64).toInt = n.toInt - x.2.1.toInt := l3_sub rfl Li (by omega) (by omega)
        have v5 : n - x.2.1.toInt64 ≤ 99000000000 ↔ n.toInt - x.2.1.toInt ≤ 99000000000 := l3_le sub (by rfl)
        have v6 : n ≤ x.2.1.toInt64 ↔ n.toInt ≤ x.2.1.toInt := l3_le rfl Li
        have v7 : x.2.1.toInt64 < n ↔ x.2.1.toInt < n.toInt := l3_lt Li rfl
        have g0 : x.2.2.1.toInt64 = 0 ↔ x.2.2.1.toInt = 0 := l3_eq gi (by rfl)
        have gle : x.2.2.1.toInt64 ≤ 0 ↔ x.2.2.1.toInt ≤ 0 := l3_le gi (by rfl)
        have gge : 0 ≤ x.2.2.1.toInt64 ↔ 0 ≤ x.2.2.1.toInt := l3_le (by rfl) gi
        have g3 : (0 : Int32) ≤ x.2.2.1 ↔ 0 ≤ x.2.2.1.toInt := i3_le (by rfl) rfl
        have g4 : (0 : Int32) < x.2.2.1 ↔ 0 < x.2.2.1.toInt := i3_lt (by rfl) rfl
        have MX : (9223372036854775807 : Int64).toInt = 9223372036854775807 := rfl
        have fin : ∀ (u v : Int64) (K : Int), u.toInt = K → 0 ≤ K → K ≤ 1000000001 → v = Int64.ofInt K → (v, pI τ m 2 0) = (u, pI τ m 2 0) := fun u v K e1 e2 e3 e4 => by
          congr 1
          rw [e4, l2_eq, e1, l2_ofInt (by omega) (by omega)]
        refine hg _ (fun gp => ?_) (fun gz => ?_) (fun gn => ?_)
        · have T : (f_X8_lastWith (f_X1_land o c σ (Int32.ofNat i)) σ n).toInt = 9223372036854775807 := by
            unfold f_X8_lastWith
            rw [p3.2.1, if_pos (g3.mpr (by omega))]; rfl
          rw [if_neg (by rw [g0]; omega)]
          unfold fj_X6_often_90 fj_X6_often_136 fj_X6_often_138
          rw [if_neg (by rw [gle]; omega), if_pos (gge.mpr (by omega)), if_pos (gge.mpr (by omega))]
          by_cases q : n.toInt ≤ x.2.1.toInt
          · have F : (f_X8_firstWith (f_X1_land o c σ (Int32.ofNat i)) σ n).toInt = 1 := by
              unfold f_X8_firstWith
              rw [p3.1, if_neg (by rw [v7]; omega)]; rfl
            rw [if_pos (v6.mpr q), if_pos (v5.mpr (by omega)), of_m (i2_l a) (i2_l b) (by omega) (by omega)]
            refine fin _ _ _ (of_l F T (i2_l a) (by omega) (by omega) (by omega) (by omega) (by omega)) (oft_b (by omega) (by omega)).1 (oft_b (by omega) (by omega)).2 ?_
            congr 2 <;> omega
          · have qs := ediv_b (a := n.toInt - x.2.1.toInt - 1) (b := x.2.2.1.toInt) (by omega) gp
            have eM : ((((n - x.2.1.toInt64) - 1) / x.2.2.1.toInt64) + 2).toInt = (n.toInt - x.2.1.toInt - 1) / x.2.2.1.toInt + 2 := l3_add (l3_div (l3_sub sub (by rfl) (by omega) (by omega)) gi (by omega) gp) (by rfl) (by omega) (by omega)
            have ed : (n.toInt - x.2.1.toInt + x.2.2.1.toInt - 1) / x.2.2.1.toInt = (n.toInt - x.2.1.toInt - 1) / x.2.2.1.toInt + 1 := by
              rw [show n.toInt - x.2.1.toInt + x.2.2.1.toInt - 1 = n.toInt - x.2.1.toInt - 1 + 1 * x.2.2.1.toInt by omega, Int.add_mul_ediv_right _ _ (by omega)]
            rw [if_neg (by rw [v6]; omega)]
            have low : ∀ (Z : Int64 × Hp), (if a.toInt64 ≤ (((n - x.2.1.toInt64) - 1) / x.2.2.1.toInt64) + 2 then fj_X6_often_185 m (pI τ m 2 0) ((((n - x.2.1.toInt64) - 1) / x.2.2.1.toInt64) + 2) b.toInt64 else fj_X6_often_185 m (pI τ m 2 0) a.toInt64 b.toInt64) = (Int64.ofInt (oft (max a.toInt ((n.toInt - x.2.1.toInt - 1) / x.2.2.1.toInt + 2)) b.toInt), pI τ m 2 0) := fun Z => by
              by_cases z : a.toInt64 ≤ (((n - x.2.1.toInt64) - 1) / x.2.2.1.toInt64) + 2
              · rw [if_pos z, of_m eM (i2_l b) (by omega) (by omega)]
                rw [l3_le (i2_l a) eM] at z
                congr 3; omega
              · rw [if_neg z, of_m (i2_l a) (i2_l b) (by omega) (by omega)]
                rw [l3_le (i2_l a) eM] at z
                congr 3; omega
            rw [low (0, τ)]
            by_cases z : n.toInt - x.2.1.toInt ≤ 99000000000
            · have F : (f_X8_firstWith (f_X1_land o c σ (Int32.ofNat i)) σ n).toInt = (n.toInt - x.2.1.toInt - 1) / x.2.2.1.toInt + 2 := by
                unfold f_X8_firstWith
                rw [p3.1, p3.2.1, if_pos (v7.mpr (by omega)), if_pos (g4.mpr gp)]
                have := l3_add (l3_div (l3_sub (l3_add sub gi (by omega) (by omega)) (b := 1) (y := 1) (by rfl) (by omega) (by omega)) gi (by omega) gp) (b := 1) (y := 1) (by rfl) (by rw [ed]; omega) (by rw [ed]; omega)
                rw [this, ed]; omega
              rw [if_pos (v5.mpr z)]
              refine fin _ _ _ (of_l F T (i2_l a) (by omega) (by omega) (by omega) (by omega) (by omega)) (oft_b (by omega) (by omega)).1 (oft_b (by omega) (by omega)).2 ?_
              congr 2; omega
            · rw [if_neg (by rw [v5]; exact z)]
              have big : 1000000000 ≤ (n.toInt - x.2.1.toInt - 1) / x.2.2.1.toInt := by
                rw [Int.le_ediv_iff_mul_le gp]
                omega
              refine fin _ _ _ (of_l MX T (i2_l a) (by omega) (by omega) (by omega) (by omega) (by omega)) (oft_b (by omega) (by omega)).1 (oft_b (by omega) (by omega)).2 ?_
              congr 1
              unfold oft
              rw [if_neg (by omega), if_neg (by omega)]
        · have T : (f_X8_lastWith (f_X1_land o c σ (Int32.ofNat i)) σ n).toInt = 9223372036854775807 := by
            unfold f_X8_lastWith
            rw [p3.2.1, if_pos (g3.mpr (by omega))]; rfl
          rw [if_pos (g0.mpr gz)]
          by_cases q : n.toInt ≤ x.2.1.toInt
          · have F : (f_X8_firstWith (f_X1_land o c σ (Int32.ofNat i)) σ n).toInt = 1 := by
              unfold f_X8_firstWith
              rw [p3.1, if_neg (by rw [v7]; omega)]; rfl
            rw [if_pos (v6.mpr q), if_pos (v5.mpr (by omega))]
            unfold fj_X6_often_90 fj_X6_often_138
            rw [if_pos (gle.mpr (by omega)), if_pos (gge.mpr (by omega)), of_m (i2_l a) (i2_l b) (by omega) (by omega)]
            refine fin _ _ _ (of_l F T (i2_l a) (by omega) (by omega) (by omega) (by omega) (by omega)) (oft_b (by omega) (by omega)).1 (oft_b (by omega) (by omega)).2 ?_
            congr 2 <;> omega
          · rw [if_neg (by rw [v6]; exact q)]
            have F : ∀ w0 : Int64, w0.toInt = 9223372036854775807 → (fj_X1_often_82 o c σ b n (f_X1_land o c σ (Int32.ofNat i)) w0 a.toInt64).toInt = 0 := fun w0 hw => by
              rw [of_l hw T (i2_l a) (by omega) (by omega) (by omega) (by omega) (by omega)]
              unfold oft
              rw [if_neg (by omega)]
            have F1 : (f_X8_firstWith (f_X1_land o c σ (Int32.ofNat i)) σ n).toInt = 9223372036854775807 := by
              unfold f_X8_firstWith
              rw [p3.1, p3.2.1, if_pos (v7.mpr (by omega)), if_neg (by rw [g4]; omega)]; rfl
            split
            · exact fin _ _ _ (F _ F1) (by omega) (by omega) rfl
            · exact fin _ _ _ (F _ rfl) (by omega) (by omega) rfl
        · rw [if_neg (by rw [g0]; omega)]
          unfold fj_X6_often_90 fj_X6_often_138
          rw [if_pos (gle.mpr (by omega)), if_neg (by rw [gge]; omega)]
          by_cases q : n.toInt ≤ x.2.1.toInt
          · have F : (f_X8_firstWith (f_X1_land o c σ (Int32.ofNat i)) σ n).toInt = 1 := by
              unfold f_X8_firstWith
              rw [p3.1, if_neg (by rw [v7]; omega)]; rfl
            have qs := ediv_b (a := x.2.1.toInt - n.toInt) (b := -x.2.2.1.toInt) (by omega) (by omega)
            have T : (f_X8_lastWith (f_X1_land o c σ (Int32.ofNat i)) σ n).toInt = (x.2.1.toInt - n.toInt) / -x.2.2.1.toInt + 1 := by
              unfold f_X8_lastWith
              rw [p3.1, p3.2.1, if_neg (by rw [g3]; omega), if_pos (v6.mpr q)]
              exact l3_add (l3_div (l3_sub Li rfl (by omega) (by omega)) ngl (by omega) (by omega)) (by rfl) (by omega) (by omega)
            have eM : (((x.2.1.toInt64 - n) / (-x.2.2.1.toInt64)) + 1).toInt = (x.2.1.toInt - n.toInt) / -x.2.2.1.toInt + 1 := l3_add (l3_div (l3_sub Li rfl (by omega) (by omega)) nlg (by omega) (by omega)) (by rfl) (by omega) (by omega)
            rw [if_pos (v6.mpr q), if_pos (v5.mpr (by omega))]
            unfold fj_X6_often_183
            have hi2 : (if (((x.2.1.toInt64 - n) / (-x.2.2.1.toInt64)) + 1) ≤ b.toInt64 then fj_X6_often_185 m (pI τ m 2 0) a.toInt64 (((x.2.1.toInt64 - n) / (-x.2.2.1.toInt64)) + 1) else fj_X6_often_185 m (pI τ m 2 0) a.toInt64 b.toInt64) = (Int64.ofInt (oft a.toInt (min b.toInt ((x.2.1.toInt - n.toInt) / -x.2.2.1.toInt + 1))), pI τ m 2 0) := by
              by_cases z : (((x.2.1.toInt64 - n) / (-x.2.2.1.toInt64)) + 1) ≤ b.toInt64
              · rw [if_pos z, of_m (i2_l a) eM (by omega) (by omega)]
                rw [l3_le eM (i2_l b)] at z
                congr 3; omega
              · rw [if_neg z, of_m (i2_l a) (i2_l b) (by omega) (by omega)]
                rw [l3_le eM (i2_l b)] at z
                congr 3; omega
            rw [hi2]
            refine fin _ _ _ (of_l F T (i2_l a) (by omega) (by omega) (by omega) (by omega) (by omega)) (oft_b (by omega) (by omega)).1 (oft_b (by omega) (by omega)).2 ?_
            congr 2; omega
          · have T : (f_X8_lastWith (f_X1_land o c σ (Int32.ofNat i)) σ n).toInt = 0 := by
              unfold f_X8_lastWith
              rw [p3.1, p3.2.1, if_neg (by rw [g3]; omega), if_neg (by rw [v6]; omega)]; rfl
            have F : ∀ w0 : Int64, 1 ≤ w0.toInt → (fj_X1_often_82 o c σ b n (f_X1_land o c σ (Int32.ofNat i)) w0 a.toInt64).toInt = 0 := fun w0 hw => by
              rw [of_l rfl T (i2_l a) (by omega) (by omega) hw (by omega) (by omega)]
              unfold oft
              rw [if_neg (by omega)]
            have F1 : (f_X8_firstWith (f_X1_land o c σ (Int32.ofNat i)) σ n).toInt = 9223372036854775807 := by
              unfold f_X8_firstWith
              rw [p3.1, p3.2.1, if_pos (v7.mpr (by omega)), if_neg (by rw [g4]; omega)]; rfl
            rw [if_neg (by rw [v6]; exact q)]
            split
            · exact fin _ _ _ (F _ (by omega)) (by omega) (by omega) rfl
            · exact fin _ _ _ (F _ (by decide)) (by omega) (by omega) rfl
      · rw [if_neg c3, if_neg c3]
    · rw [if_pos (w2.mpr c2)]
      by_cases z : 1000000000 < b
      · rw [if_pos z]
      · rw [if_neg z]
        by_cases z2 : b < a
        · rw [if_pos z2]
        · rw [v2] at z; rw [v3] at z2; exact absurd ⟨by omega, by omega⟩ c2
  · rw [if_pos (w1.mpr c1)]
    by_cases z : a < 1
    · rw [if_pos z]
    · rw [if_neg z]
      rw [v1] at z
      by_cases z2 : 1000000000 < b
      · rw [if_pos z2]
      · rw [if_neg z2, if_pos (by rw [v3]; rw [v2] at z2; omega)]
