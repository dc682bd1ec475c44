set_option maxRecDepth 100000
/-! LongYears' SUM READER: what it shows, what it writes -/
theorem lsign {o c d n : Nat} {σ : Hp} {t : Tok} (h : TKL o σ t) (hv : TV n t) {x : Int32} (hx : x ≠ 60 ∧ x ≠ 61 ∧ x ≠ 62 ∧ x ≠ 256 ∧ x ≠ 257 ∧ x ≠ 258) : f_X2_isSign o c d σ x = 0 ↔ tIsSign t x = false := by
  obtain ⟨x1, x2, x3, x4, x5, x6⟩ := hx
  unfold f_X2_isSign tIsSign
  rw [h.2.2.1]
  rcases hv.2.2.2.2.2.2.1 with k | k | k | k | k | k | k
  all_goals rw [k]
  all_goals simp [sortL]
  · rw [h.2.2.2 (by rw [k]; decide) (by rw [k]; decide)]
    simp [valL, k]
  · rw [h.2.2.2 (by rw [k]; decide) (by rw [k]; decide)]
    have e1 : ¬ (5 : Int32) = 1 := by decide
    simp only [valL, k, if_neg e1, if_true, cmpL]
    repeat' split
    all_goals first | exact fun q => x1 q.symm | exact fun q => x2 q.symm | exact fun q => x3 q.symm | exact fun q => x4 q.symm | exact fun q => x5 q.symm | exact fun q => x6 q.symm
theorem lcmp {o c d n : Nat} {σ : Hp} {t : Tok} (h : TKL o σ t) (hv : TV n t) : (f_X2_isSign o c d σ 60 = 0 ∧ f_X2_isSign o c d σ 62 = 0 ∧ f_X2_isSign o c d σ 61 = 0 ∧ ¬ (gI σ o 3 = 3 ∧ 256 ≤ gI σ o 4)) ↔ tKd t ≠ 5 := by
  unfold f_X2_isSign
  rw [h.2.2.1]
  rcases hv.2.2.2.2.2.2.1 with k | k | k | k | k | k | k
  all_goals rw [k]
  all_goals simp [sortL]
  · rw [h.2.2.2 (by rw [k]; decide) (by rw [k]; decide)]
    have hs := hv.2.2.2.2.2.2.2.1 k
    simp only [valL, k, sgOk, Bool.or_eq_true, decide_eq_true_iff] at hs ⊢
    have e1 : ¬ (4 : Int32) = 1 := by decide
    have e5 : ¬ (4 : Int32) = 5 := by decide
    rw [if_neg e1, if_neg e5]
    rcases hs with ((((((hs | hs) | hs) | hs) | hs) | hs) | hs) | hs
    all_goals rw [hs]; decide
  · rw [h.2.2.2 (by rw [k]; decide) (by rw [k]; decide)]
    simp only [valL, k, cmpL]
    repeat' split
    all_goals simp_all
theorem pi_inj : ∀ w, w < 23 → (piL (Int32.ofNat w) = 18 ↔ w = 18) ∧ (piL (Int32.ofNat w) = 17 ↔ w = 16) ∧ (piL (Int32.ofNat w) = 16 ↔ w = 17) := by decide +kernel
theorem wh_nat {t : Tok} {n : Nat} (hv : TV n t) (k : tKd t = 1) : ∃ w, w < 23 ∧ tWh t = Int32.ofNat w := by
  have b := hv.2.2.2.2.2.1 k
  refine ⟨(tWh t).toInt.toNat, by omega, ?_⟩
  rw [i2_eq, nat_i (by omega)]
  omega
theorem pi_b : ∀ w, w < 23 → 0 ≤ (piL (Int32.ofNat w)).toInt ∧ (piL (Int32.ofNat w)).toInt < 23 := by decide +kernel
/-- a word from lo to hi stands there -/
theorem lword {o c d n : Nat} {σ : Hp} {t : Tok} (h : TKL o σ t) (hv : TV n t) {lo hi : Int32} : f_X2_isWord o c d σ lo hi = 0 ↔ ¬ (tKd t = 1 ∧ lo.toInt ≤ (piL (tWh t)).toInt ∧ (piL (tWh t)).toInt ≤ hi.toInt) := by
  unfold f_X2_isWord
  rw [h.2.2.1]
  by_cases k : tKd t = 1
  · rw [k, h.2.2.2 (by rw [k]; decide) (by rw [k]; decide)]
    have e : valL t = piL (tWh t) := by simp [valL, k]
    rw [e, if_pos (by decide)]
    have i := in_iff (i2_l (piL (tWh t))) (i2_l lo) (i2_l hi)
    by_cases w : f_X1_in (piL (tWh t)).toInt64 lo.toInt64 hi.toInt64 = 0
    · rw [if_pos w]
      exact ⟨fun _ q => (i.mp w) q.2, fun _ => rfl⟩
    · rw [if_neg w]
      exact ⟨fun q => (by cases q), fun q => absurd (i.mpr (fun z => q ⟨rfl, z⟩)) w⟩
  · have e : ¬ sortL (tKd t) = 0 := by
      unfold sortL
      repeat' split
      all_goals first | decide | contradiction
    rw [if_neg e]
    exact ⟨fun _ q => k q.1, fun _ => rfl⟩
theorem lword1 {o c d n : Nat} {σ : Hp} {t : Tok} (h : TKL o σ t) (hv : TV n t) {kl : Int32} {k : Nat} (hk : ∀ w, w < 23 → (piL (Int32.ofNat w) = kl ↔ w = k)) (hk2 : k < 23) : f_X2_isWord o c d σ kl kl = 0 ↔ tIsKey t (Int32.ofNat k) = false := by
  rw [lword h hv]
  unfold tIsKey
  by_cases q : tKd t = 1
  · obtain ⟨w, hw, e⟩ := wh_nat hv q
    rw [e]
    have := hk w hw
    have e2 : Int32.ofNat w = Int32.ofNat k ↔ w = k := nat_e (by omega) (by omega)
    have e3 : (piL (Int32.ofNat w) = kl) ↔ kl.toInt ≤ (piL (Int32.ofNat w)).toInt ∧ (piL (Int32.ofNat w)).toInt ≤ kl.toInt := by
      rw [i2_eq]; omega
    rw [← e3, this]
    simp [q, e2]
  · simp [q]
def pnL (i : Nat) : Nat := if i = 0 then 2 else if i = 1 then 3 else if i = 2 then 0 else if i = 3 then 1 else i
def nmL (r : Option Nat) : Int32 := match r with
  | some i => Int32.ofNat (pnL i)
  | none => -1
theorem nm_all : ∀ w, w < 23 → (if piL (Int32.ofNat w) = 6 then (0 : Int32) else if piL (Int32.ofNat w) = 7 then 1 else if piL (Int32.ofNat w) = 19 then 2 else if piL (Int32.ofNat w) = 20 then 3 else if piL (Int32.ofNat w) = 21 then 4 else if piL (Int32.ofNat w) = 22 then 5 else -1) = nmL (nmOf (0, 0, 1, Int32.ofNat w)) := by decide +kernel
theorem lname {o c d n : Nat} {σ : Hp} {t : Tok} (h : TKL o σ t) (hv : TV n t) : f_X2_nameAtHand o c d σ = nmL (nmOf t) := by
  unfold f_X2_nameAtHand
  rw [h.2.2.1]
  by_cases k : tKd t = 1
  · obtain ⟨w, hw, e⟩ := wh_nat hv k
    have e1 : valL t = piL (tWh t) := by simp [valL, k]
    rw [k, h.2.2.2 (by rw [k]; decide) (by rw [k]; decide), if_pos (by decide), e1, e, nm_all w hw]
    have : nmOf t = nmOf (0, 0, 1, Int32.ofNat w) := by
      unfold nmOf tKd tWh at *
      rw [k, e]
    rw [this]
  · have e : ¬ sortL (tKd t) = 0 := by
      unfold sortL
      repeat' split
      all_goals first | decide | contradiction
    rw [if_neg e]
    unfold nmOf
    rw [if_neg k]
    rfl
def sgnL (k : Nat) : Int32 := if k = 3 then 17 else if k = 4 then 16 else if k = 5 then 60 else if k = 6 then 256 else if k = 7 then 61 else if k = 8 then 258 else if k = 9 then 257 else if k = 10 then 62 else if k = 11 then 43 else if k = 12 then 45 else if k = 13 then 42 else if k = 14 then 47 else 37
theorem val_op {n : Nat} {t : Tok} (hv : TV n t) (h : opOf t ≠ 0) : valL t = sgnL (opOf t) ∧ tKd t ≠ 0 ∧ tKd t ≠ 6 ∧ tIsSign t 59 = false ∧ tIsSign t 41 = false := by
  unfold opOf at h ⊢
  by_cases q1 : tIsKey t 16 = true
  · have k : tKd t = 1 ∧ tWh t = 16 := by unfold tIsKey at q1; simpa using q1
    simp [q1, sgnL, valL, tIsSign, k]; decide
  · by_cases q2 : tIsKey t 17 = true
    · have k : tKd t = 1 ∧ tWh t = 17 := by unfold tIsKey at q2; simpa using q2
      simp [q1, q2, sgnL, valL, tIsSign, k]; decide
    · by_cases q3 : tKd t = 5
      · have b := hv.2.2.2.2.1 q3
        have ⟨w, hw, e⟩ : ∃ w, w < 6 ∧ tWh t = Int32.ofNat w := by
          refine ⟨(tWh t).toInt.toNat, by omega, ?_⟩
          rw [i2_eq, nat_i (by omega)]
          omega
        have hc : ∀ w, w < 6 → cmpL (Int32.ofNat w) = sgnL (5 + w) := by decide +kernel
        simp only [q1, q2, q3, if_false, Bool.false_eq_true, if_true, valL, e, nat_c (show w ≤ 2147483647 by omega), tIsSign]
        rw [← hc w hw]
        simp
      · have k4 : tKd t = 4 ∧ (tWh t = 43 ∨ tWh t = 45 ∨ tWh t = 42 ∨ tWh t = 47 ∨ tWh t = 37) := by
          simp only [q1, q2, if_neg q3, Bool.false_eq_true, if_false, tIsSign] at h
          by_cases k : tKd t = 4
          · refine ⟨k, ?_⟩
            simp [k] at h
            by_cases w1 : tWh t = 43
            · exact Or.inl w1
            by_cases w2 : tWh t = 45
            · exact Or.inr (Or.inl w2)
            by_cases w3 : tWh t = 42
            · exact Or.inr (Or.inr (Or.inl w3))
            by_cases w4 : tWh t = 47
            · exact Or.inr (Or.inr (Or.inr (Or.inl w4)))
            by_cases w5 : tWh t = 37
            · exact Or.inr (Or.inr (Or.inr (Or.inr w5)))
            simp [w1, w2, w3, w4, w5] at h
          · simp [k] at h
        obtain ⟨k, w⟩ := k4
        rcases w with w | w | w | w | w
        all_goals simp [q1, q2, tIsSign, k, w, valL, sgnL]
