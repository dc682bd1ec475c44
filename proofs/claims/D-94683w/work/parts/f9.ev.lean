set_option maxRecDepth 100000
/-! WHAT A SUM ANSWERS: the tree -/
def bd (v : Int64) : Prop := -1000000000000 ≤ v.toInt ∧ v.toInt ≤ 1000000000000
theorem lt_nle (x y : Int64) : x < y ↔ ¬ y ≤ x := by rw [l2_lt, l2_le]; omega
theorem bd_is (b : Bool) {r : Int64} (h : vIs b = some r) : bd r := by
  unfold vIs at h
  cases h
  unfold bd
  cases b <;> decide
theorem bd_sure {v r : Int64} (h : vSure v = some r) : bd r := by
  unfold vSure at h
  split at h
  · cases h
  · split at h
    · cases h
      rename_i a b
      rw [l3_lt (x := 1000000000000) (by rfl) rfl] at a
      rw [l3_le (x := -1000000000000) (by rfl) rfl] at b
      unfold bd
      omega
    · cases h
theorem abs_i {x : Int64} (h : bd x) : (f_J7_abs x).toInt = x.toInt.natAbs := by
  unfold f_J7_abs
  have z : (0 : Int64).toInt = 0 := rfl
  unfold bd at h
  by_cases c : 0 ≤ x
  · rw [if_pos c]
    rw [l2_le, z] at c
    omega
  · rw [if_neg c]
    rw [l2_le, z] at c
    rw [l3_neg rfl (by omega)]
    omega
theorem bd_times {x y r : Int64} (hx : bd x) (hy : bd y) (h : vTimes x y = some r) : bd r := by
  unfold vTimes at h
  split at h
  · cases h
    rename_i c
    subst c
    rw [Int64.zero_mul]
    unfold bd; decide
  · rename_i c0
    split at h
    · cases h
      rename_i c
      have ax := abs_i hx
      have ay := abs_i hy
      have xn : x.toInt ≠ 0 := fun q => c0 (by rw [l2_eq, q]; rfl)
      have ed := l3_div (a := 1000000000000) (x := 1000000000000) (by rfl) ax (by omega) (by omega)
      rw [l3_le ay ed] at c
      rw [Int.le_ediv_iff_mul_le (by omega)] at c
      have nn : ((x.toInt * y.toInt).natAbs : Int) ≤ 1000000000000 := by
        rw [Int.natAbs_mul]
        have : ((x.toInt.natAbs * y.toInt.natAbs : Nat) : Int) = (y.toInt.natAbs : Int) * (x.toInt.natAbs : Int) := by rw [Int.mul_comm]; rfl
        omega
      unfold bd
      rw [l3_mul (a := x) (b := y) rfl rfl (by omega) (by omega)]
      omega
    · cases h
theorem td_i {x y : Int64} (hx : bd x) : (x / y).toInt = x.toInt.tdiv y.toInt ∧ (x.toInt.tdiv y.toInt).natAbs ≤ x.toInt.natAbs := by
  have e : (x.toInt.tdiv y.toInt).natAbs ≤ x.toInt.natAbs := by
    rw [Int.natAbs_tdiv]
    exact Nat.div_le_self _ _
  unfold bd at hx
  refine ⟨?_, e⟩
  rw [Int64.toInt_div]
  exact bm64 (by omega) (by omega)
theorem bd_div {x y : Int64} (hx : bd x) : bd (x / y) := by
  have := td_i (y := y) hx
  unfold bd at *
  omega
theorem bd_mod {x y : Int64} (hx : bd x) : bd (x - x / y * y) := by
  obtain ⟨e1, e2⟩ := td_i (y := y) hx
  have e3 := Int.tmod_def x.toInt y.toInt
  have e4 : (x.toInt.tmod y.toInt).natAbs ≤ x.toInt.natAbs := by
    rw [Int.natAbs_tmod]
    exact Nat.mod_le _ _
  have e5 : y.toInt * x.toInt.tdiv y.toInt = x.toInt.tdiv y.toInt * y.toInt := Int.mul_comm _ _
  unfold bd at *
  have e6 := l3_mul (a := x / y) (b := y) e1 rfl (by omega) (by omega)
  rw [l3_sub (a := x) rfl e6 (by omega) (by omega)]
  omega
theorem bd_two {k : Nat} {x y r : Int64} (hx : bd x) (hy : bd y) (h : vTwo k x y = some r) : bd r := by
  unfold vTwo at h
  by_cases c3 : k = 3
  · rw [if_pos c3] at h; exact bd_is _ h
  rw [if_neg c3] at h
  by_cases c4 : k = 4
  · rw [if_pos c4] at h; exact bd_is _ h
  rw [if_neg c4] at h
  by_cases c5 : k = 5
  · rw [if_pos c5] at h; exact bd_is _ h
  rw [if_neg c5] at h
  by_cases c6 : k = 6
  · rw [if_pos c6] at h; exact bd_is _ h
  rw [if_neg c6] at h
  by_cases c7 : k = 7
  · rw [if_pos c7] at h; exact bd_is _ h
  rw [if_neg c7] at h
  by_cases c8 : k = 8
  · rw [if_pos c8] at h; exact bd_is _ h
  rw [if_neg c8] at h
  by_cases c9 : k = 9
  · rw [if_pos c9] at h; exact bd_is _ h
  rw [if_neg c9] at h
  by_cases c10 : k = 10
  · rw [if_pos c10] at h; exact bd_is _ h
  rw [if_neg c10] at h
  by_cases c11 : k = 11
  · rw [if_pos c11] at h; exact bd_sure h
  rw [if_neg c11] at h
  by_cases c12 : k = 12
  · rw [if_pos c12] at h; exact bd_sure h
  rw [if_neg c12] at h
  by_cases c13 : k = 13
  · rw [if_pos c13] at h; exact bd_times hx hy h
  rw [if_neg c13] at h
  by_cases c14 : k = 14
  · rw [if_pos c14] at h
    by_cases y0 : y = 0
    · rw [if_pos y0] at h; cases h
    · rw [if_neg y0] at h; cases h; exact bd_div hx
  rw [if_neg c14] at h
  by_cases y0 : y = 0
  · rw [if_pos y0] at h; cases h
  · rw [if_neg y0] at h; cases h; exact bd_mod hx
theorem pnL_b : ∀ i, i < 6 → pnL i < 6 := by decide
theorem abs_ne {x : Int64} (h : ¬ x = 0) : ¬ f_J7_abs x = 0 := by
  unfold f_J7_abs
  split
  · exact h
  · intro q; exact h (by grind)

/-- a sign between two, by LongYears -/
theorem l_two {p : Nat} {σ : Hp} {nm j a a' : Nat} {u u' : Ev} {ν : Nat → Int64} {EV : Nat → (Int64 → Prop) → Prop → Prop} {Q : Int64 → Prop} {E : Prop} (hj : 3 ≤ j ∧ j ≤ 15) (r0 : gR σ p 0 = some a) (r2 : gR σ p 2 = some a') (s : gI σ p 1 = sgnL j)
    (h1 : ∀ Q E, (∀ r, u ν = some r → bd r → Q r) → (u ν = none → E) → EV a Q E) (h2 : ∀ Q E, (∀ r, u' ν = some r → bd r → Q r) → (u' ν = none → E) → EV a' Q E) (hQ : ∀ r, eTwo j u u' ν = some r → bd r → Q r) (hE : eTwo j u u' ν = none → E) : wp_X18_of p σ nm 6 Q E EV := by
  unfold wp_X18_of
  have e0 : rf σ p 0 = a := by unfold rf; rw [r0]; rfl
  have e2 : rf σ p 2 = a' := by unfold rf; rw [r2]; rfl
  rw [e0, e2, s, r0, r2]
  refine ⟨fun q => (by cases q), h1 _ _ (fun x hx bx => ⟨fun q => (by cases q), h2 _ _ (fun y hy by' => ?_) (fun hy => hE (by unfold eTwo; rw [hx]; simp only [hy]))⟩) (fun hx => hE (by unfold eTwo; rw [hx]))⟩
  have hv : eTwo j u u' ν = vTwo j x y := by unfold eTwo; rw [hx]; simp only [hy]
  rw [hv] at hQ hE
  have hQ : ∀ r, vTwo j x y = some r → Q r := fun r e => hQ r e (bd_two bx by' e)
  have i0 : f_X18_is 0 = 0 := rfl
  have i1 : f_X18_is 1 = 1 := rfl
  rw [i0, i1]
  have hk : j = 3 ∨ j = 4 ∨ j = 5 ∨ j = 6 ∨ j = 7 ∨ j = 8 ∨ j = 9 ∨ j = 10 ∨ j = 11 ∨ j = 12 ∨ j = 13 ∨ j = 14 ∨ j = 15 := by omega
  rcases hk with rfl | rfl | rfl | rfl | rfl | rfl | rfl | rfl | rfl | rfl | rfl | rfl | rfl
  · exact cT rfl (⟨fun g => hQ _ (by simp [vTwo, vIs, g]), fun g => ⟨fun g2 => hQ _ (by simp [vTwo, vIs, g2]), fun g2 => hQ _ (by simp [vTwo, vIs, g, g2])⟩⟩)
  · exact cF (by decide) (cF (by decide) (cF (by decide) (cF (by decide) (cF (by decide) (cF (by decide) (cF (by decide) (cF (by decide) (cF (by decide) (cF (by decide) (cF (by decide) (cF (by decide) (⟨fun g => ⟨fun g2 => hQ _ (by simp [vTwo, vIs, g, g2]), fun g2 => hQ _ (by simp [vTwo, vIs, g2])⟩, fun g => hQ _ (by simp [vTwo, vIs, g])⟩))))))))))))
  · exact cF (by decide) (cF (by decide) (cF (by decide) (cF (by decide) (cF (by decide) (cF (by decide) (cT rfl (⟨fun g => hQ _ (by simp [vTwo, vIs, lt_nle, g]), fun g => hQ _ (by simp [vTwo, vIs, lt_nle, g])⟩)))))))
  · exact cF (by decide) (cF (by decide) (cF (by decide) (cF (by decide) (cF (by decide) (cF (by decide) (cF (by decide) (cF (by decide) (cF (by decide) (cT rfl (⟨fun g => hQ _ (by rw [lt_nle] at g; simp [vTwo, vIs, g]), fun g => hQ _ (by rw [lt_nle, Classical.not_not] at g; simp [vTwo, vIs, g])⟩))))))))))
  · exact cF (by decide) (cF (by decide) (cF (by decide) (cF (by decide) (cF (by decide) (cF (by decide) (cF (by decide) (cT rfl (⟨fun g => hQ _ (by simp [vTwo, vIs, g]), fun g => hQ _ (by simp [vTwo, vIs, g])⟩))))))))
  · exact cF (by decide) (cF (by decide) (cF (by decide) (cF (by decide) (cF (by decide) (cF (by decide) (cF (by decide) (cF (by decide) (cF (by decide) (cF (by decide) (cF (by decide) (cT rfl (⟨fun g => hQ _ (by simp [vTwo, vIs, g]), fun g => hQ _ (by simp [vTwo, vIs, g])⟩))))))))))))
  · exact cF (by decide) (cF (by decide) (cF (by decide) (cF (by decide) (cF (by decide) (cF (by decide) (cF (by decide) (cF (by decide) (cF (by decide) (cF (by decide) (cT rfl (⟨fun g => hQ _ (by rw [lt_nle] at g; simp [vTwo, vIs, g]), fun g => hQ _ (by rw [lt_nle, Classical.not_not] at g; simp [vTwo, vIs, g])⟩)))))))))))
  · exact cF (by decide) (cF (by decide) (cF (by decide) (cF (by decide) (cF (by decide) (cF (by decide) (cF (by decide) (cF (by decide) (cT rfl (⟨fun g => hQ _ (by simp [vTwo, vIs, lt_nle, g]), fun g => hQ _ (by simp [vTwo, vIs, lt_nle, g])⟩)))))))))
  · exact cF (by decide) (cF (by decide) (cF (by decide) (cT rfl (⟨fun g => hE (by simp [vTwo, vSure, g]), fun g => ⟨fun g2 => hQ _ (by simp [vTwo, vSure, g, g2]), fun g2 => hE (by simp [vTwo, vSure, g2])⟩⟩))))
  · exact cF (by decide) (cF (by decide) (cF (by decide) (cF (by decide) (cT rfl (⟨fun g => hE (by simp [vTwo, vSure, g]), fun g => ⟨fun g2 => hQ _ (by simp [vTwo, vSure, g, g2]), fun g2 => hE (by simp [vTwo, vSure, g2])⟩⟩)))))
  · exact cF (by decide) (cF (by decide) (cT rfl (⟨fun g => hQ _ (by simp [vTwo, vTimes, g]), fun g => ⟨abs_ne g, fun g2 => hQ _ (by simp [vTwo, vTimes, g, g2]), fun g2 => hE (by simp [vTwo, vTimes, g, g2])⟩⟩)))
  · exact cF (by decide) (cF (by decide) (cF (by decide) (cF (by decide) (cF (by decide) (cT rfl (⟨fun g => hE (by simp [vTwo, g]), fun g => ⟨g, hQ _ (by simp [vTwo, g])⟩⟩))))))
  · exact cF (by decide) (cT rfl (⟨fun g => hE (by simp [vTwo, g]), fun g => ⟨g, hQ _ (by simp [vTwo, g])⟩⟩))
theorem ev_tr {σ : Hp} {lo nm : Nat} {ν : Nat → Int64} (hν : ∀ i, i < 6 → gL σ nm (pnL i) = ν i) : ∀ (k : Nat) {n p : Nat} {v : Ev} {Q : Int64 → Prop} {E : Prop}, TR σ lo k p v → k ≤ n → (∀ r, v ν = some r → bd r → Q r) → (v ν = none → E) → EVn σ nm n p Q E := by
  intro k
  induction k with
  | zero => intro n p v Q E h; exact h.elim
  | succ k ih =>
    intro n p v Q E h hn hQ hE
    obtain ⟨n, rfl⟩ : ∃ n', n = n' + 1 := ⟨n - 1, by omega⟩
    obtain ⟨-, -, h⟩ := h
    rcases h with ⟨ht, rfl⟩ | ⟨ht, i, hi, hg, rfl⟩ | ⟨ht, a, u, ha, hu, rfl⟩ | ⟨ht, a, u, a', u', j, j1, j2, ha, ha', hs, hu, hu', rfl⟩
    · refine Or.inl ⟨ht, hQ _ rfl ?_⟩
      unfold bd
      have := i2_b (gI σ p 0)
      rw [i2_l]
      omega
    · refine Or.inr (Or.inl ⟨ht, ?_, ?_⟩)
      · rw [hg]
        exact nat_v (pnL_b i hi) (by have := pnL_b i hi; omega)
      · rw [hg, nat_c (by have := pnL_b i hi; omega), hν i hi]
        have hQ : ∀ r, vSure (ν i) = some r → Q r := fun r e => hQ r e (bd_sure e)
        have hE : vSure (ν i) = none → E := hE
        exact ⟨fun g => hE (by simp [vSure, g]), fun g => ⟨fun g2 => hQ _ (by simp [vSure, g, g2]), fun g2 => hE (by simp [vSure, g2])⟩⟩
    · refine Or.inr (Or.inr (Or.inl ⟨ht, ?_⟩))
      unfold wp_X17_of
      have e0 : rf σ p 0 = a := by unfold rf; rw [ha]; rfl
      rw [e0, ha]
      refine ⟨fun q => (by cases q), ih hu (by omega) (fun r hr br => ⟨fun g => hQ _ (by simp [eNot, hr, g]) (by unfold bd; decide), fun g => hQ _ (by simp [eNot, hr, g]) (by unfold bd; decide)⟩) (fun hr => hE (by simp [eNot, hr]))⟩
    · exact Or.inr (Or.inr (Or.inr ⟨ht, l_two (ν := ν) ⟨j1, j2⟩ ha ha' hs (fun Q E q1 q2 => ih hu (by omega) q1 q2) (fun Q E q1 q2 => ih hu' (by omega) q1 q2) hQ hE⟩))
