set_option maxRecDepth 100000
abbrev rm_X1_sure : Room := { frames := 0, cells := 0, slots := 0, locals := 0 }
def wp_X1_sure (y0 : Int64) (Q : Int64 → Prop) (E : Prop) : Prop := (1000000000000 < y0 → E) ∧ (¬ 1000000000000 < y0 → ((-1000000000000) ≤ y0 → Q y0) ∧ (¬ (-1000000000000) ≤ y0 → E))
theorem met_X1_sure (σ : Hp) (y0 : Int64) (Q : Int64 → Prop) (E : Prop)  (h : wp_X1_sure y0 Q E) : MetY yX1_sure cX1_sure 2 (some .long)  rm_X1_sure σ [.long y0] (oL (fun r σ' => σ' = σ ∧ Q r)) (fun q C σ' => C = "LongYears$Trouble" ∧ σ' = σ ∧ E) 0 0 := by
  refine metY_of (own := RX1) (lvs := [(0, .long y0)]) (by decide) rfl (Nat.le_of_ble_eq_true rfl) rfl (fun G rq => ?_)
  unfold wp_X1_sure at h
  refine x_lload_n dX1_sure_0 (n := 1) rfl rfl 0 rfl ?_
  refine x_ldc2 dX1_sure_1 (n := 4) rfl q1067 ?_
  refine x_lcmp_gt (tgt := 16) dX1_sure_4 (pc1 := 5) rfl dX1_sure_5 rfl (n := 8) rfl (fun c1 => ?_) (fun c1 => ?_)
  · have h := h.1 c1
    exact y_trouble (Or.inl q1144) dX1_sure_16 (n := 19) rfl dX1_sure_19 (fun q => t_out rq (fun _ h => (List.not_mem_nil h).elim) ⟨rfl, rfl, h⟩ (Nat.le_refl _) (Nat.le_refl _))
  · have h := h.2 c1
    refine x_lload_n dX1_sure_8 (n := 9) rfl rfl 0 rfl ?_
    refine x_ldc2 dX1_sure_9 (n := 12) rfl q1143 ?_
    refine x_lcmp_ge (tgt := 20) dX1_sure_12 (pc1 := 13) rfl dX1_sure_13 rfl (n := 16) rfl (fun c2 => ?_) (fun c2 => ?_)
    · have h := h.1 c2
      refine x_lload_n dX1_sure_20 (n := 21) rfl rfl 0 rfl ?_
      exact y_lret rq ⟨rfl, h⟩ dX1_sure_21
    · have h := h.2 c2
      exact y_trouble (Or.inl q1144) dX1_sure_16 (n := 19) rfl dX1_sure_19 (fun q => t_out rq (fun _ h => (List.not_mem_nil h).elim) ⟨rfl, rfl, h⟩ (Nat.le_refl _) (Nat.le_refl _))
abbrev rm_X18_some : Room := { frames := 0, cells := 0, slots := 0, locals := 0 }
def wp_X18_some (y0 : Int64) (Q : Int64 → Prop) (E : Prop) : Prop := (y0 = 0 → E) ∧ (¬ y0 = 0 → Q y0)
theorem met_X18_some (σ : Hp) (y0 : Int64) (Q : Int64 → Prop) (E : Prop)  (h : wp_X18_some y0 Q E) : MetY yX18_some cX18_some 2 (some .long)  rm_X18_some σ [.long y0] (oL (fun r σ' => σ' = σ ∧ Q r)) (fun q C σ' => C = "LongYears$Trouble" ∧ σ' = σ ∧ E) 0 0 := by
  refine metY_of (own := RX18) (lvs := [(0, .long y0)]) (by decide) rfl (Nat.le_of_ble_eq_true rfl) rfl (fun G rq => ?_)
  unfold wp_X18_some at h
  refine x_lload_n dX18_some_0 (n := 1) rfl rfl 0 rfl ?_
  refine x_lconst dX18_some_1 (n := 2) rfl lc_0 ?_
  refine x_lcmp_ne (tgt := 10) dX18_some_2 (pc1 := 3) rfl dX18_some_3 rfl (n := 6) rfl (fun c1 => ?_) (fun c1 => ?_)
  · have h := h.2 c1
    refine x_lload_n dX18_some_10 (n := 11) rfl rfl 0 rfl ?_
    exact y_lret rq ⟨rfl, h⟩ dX18_some_11
  · have h := h.1 c1
    exact y_trouble (Or.inr ⟨"LongYears", q1163⟩) dX18_some_6 (n := 9) rfl dX18_some_9 (fun q => t_out rq (fun _ h => (List.not_mem_nil h).elim) ⟨rfl, rfl, h⟩ (Nat.le_refl _) (Nat.le_refl _))
abbrev rm_X18_times : Room := { frames := 1, cells := 0, slots := 0, locals := 21 }
def wp_X18_times (y0 : Int64) (y2 : Int64) (Q : Int64 → Prop) (E : Prop) : Prop := (y0 = 0 → Q (y0 * y2)) ∧ (¬ y0 = 0 → (¬ (f_J7_abs y0) = 0) ∧ (((f_J7_abs y2) ≤ (1000000000000 / (f_J7_abs y0)) → Q (y0 * y2)) ∧ (¬ (f_J7_abs y2) ≤ (1000000000000 / (f_J7_abs y0)) → E)))
theorem met_X18_times (σ : Hp) (y0 : Int64) (y2 : Int64) (Q : Int64 → Prop) (E : Prop)  (h : wp_X18_times y0 y2 Q E) : MetY yX18_times cX18_times 4 (some .long)  rm_X18_times σ [.long y0, .long y2] (oL (fun r σ' => σ' = σ ∧ Q r)) (fun q C σ' => C = "LongYears$Trouble" ∧ σ' = σ ∧ E) 0 0 := by
  refine metY_of (own := RX18) (lvs := [(0, .long y0), (2, .long y2)]) (by decide) rfl (Nat.le_of_ble_eq_true rfl) rfl (fun G rq => ?_)
  unfold wp_X18_times at h
  refine x_lload_n dX18_times_0 (n := 1) rfl rfl 0 rfl ?_
  refine x_lconst dX18_times_1 (n := 2) rfl lc_0 ?_
  refine x_lcmp_eq (tgt := 26) dX18_times_2 (pc1 := 3) rfl dX18_times_3 rfl (n := 6) rfl (fun c1 => ?_) (fun c1 => ?_)
  · have h := h.1 c1
    refine x_lload_n dX18_times_26 (n := 27) rfl rfl 0 rfl ?_
    refine x_lload_n dX18_times_27 (n := 28) rfl rfl 1 rfl ?_
    refine x_lmul dX18_times_28 (n := 29) rfl ?_
    exact y_lret rq ⟨rfl, h⟩ dX18_times_29
  · have h := h.2 c1
    refine x_lload_n dX18_times_6 (n := 7) rfl rfl 1 rfl ?_
    refine x_cSlp (As := [.long y2]) (rest := []) cs_X18_47 (met_J7_abs σ y2 ) (by decide) rfl rfl rfl dX18_times_7 (n := 10) rfl (fun r3 q => ?_)
    subst q
    refine x_ldc2 dX18_times_10 (n := 13) rfl q1162 ?_
    refine x_lload_n dX18_times_13 (n := 14) rfl rfl 0 rfl ?_
    refine x_cSlp (As := [.long y0]) (rest := [.long 1000000000000, .long (f_J7_abs y2)]) cs_X18_47 (met_J7_abs σ y0 ) (by decide) rfl rfl rfl dX18_times_14 (n := 17) rfl (fun r5 q => ?_)
    subst q
    obtain ⟨b6, h⟩ := h
    refine x_ldiv dX18_times_17 (n := 18) rfl b6 ?_
    refine x_lcmp_le (tgt := 26) dX18_times_18 (pc1 := 19) rfl dX18_times_19 rfl (n := 22) rfl (fun c7 => ?_) (fun c7 => ?_)
    · have h := h.1 c7
      refine x_lload_n dX18_times_26 (n := 27) rfl rfl 0 rfl ?_
      refine x_lload_n dX18_times_27 (n := 28) rfl rfl 1 rfl ?_
      refine x_lmul dX18_times_28 (n := 29) rfl ?_
      exact y_lret rq ⟨rfl, h⟩ dX18_times_29
    · have h := h.2 c7
      exact y_trouble (Or.inr ⟨"LongYears", q1163⟩) dX18_times_22 (n := 25) rfl dX18_times_25 (fun q => t_out rq (fun _ h => (List.not_mem_nil h).elim) ⟨rfl, rfl, h⟩ (Nat.le_refl _) (Nat.le_refl _))
abbrev rm_X18_is : Room := { frames := 0, cells := 0, slots := 0, locals := 0 }
def f_X18_is (x0 : Int32) : Int64 := if x0 = 0 then 0 else 1
theorem met_X18_is (σ : Hp) (x0 : Int32)  : MetX yX18_is cX18_is 1 (some .long) rm_X18_is σ [.int x0] (oL (fun r σ' => σ' = σ ∧ r = (f_X18_is x0))) 0 0 := by
  refine metX_of (own := RX18) (lvs := [(0, .int x0)]) (by decide) rfl (Nat.le_of_ble_eq_true rfl) rfl (fun G rq => ?_)
  have hv : (f_X18_is x0) = _ := f_X18_is.eq_1 _
  refine x_iload_n dX18_is_0 (n := 1) rfl rfl 0 rfl ?_
  refine x_if_eq (tgt := 8) dX18_is_1 rfl (n := 4) rfl (fun c1 => ?_) (fun c1 => ?_)
  · have hv := hv.trans (if_pos c1)
    refine x_lconst dX18_is_8 (n := 9) rfl lc_0 ?_
    exact x_lret rq ⟨rfl, hv.symm⟩ dX18_is_9
  · have hv := hv.trans (if_neg c1)
    refine x_lconst dX18_is_4 (n := 5) rfl lc_1 ?_
    refine x_goto (tgt := 9) dX18_is_5 rfl ?_
    exact x_lret rq ⟨rfl, hv.symm⟩ dX18_is_9
abbrev rm_X15_of : Room := { frames := 0, cells := 0, slots := 0, locals := 0 }
def wp_X15_of (o : Nat) (σ : Hp) (a1 n1 : Nat) (Q : Int64 → Prop) (E : Prop) (EV : Nat → (Int64 → Prop) → Prop → Prop) : Prop := Q ((gI σ o 0).toInt64)
theorem met_X15_of (d : Nat) (o : Nat) (σ : Hp) (a1 n1 : Nat) (Q : Int64 → Prop) (E : Prop) (EV : Nat → (Int64 → Prop) → Prop → Prop) (hB : OB 12 o σ) (ha1 : gT σ a1 = some (.inr (.long, n1))) (hEV : ∀ p Q E, EV p Q E → PM d σ a1 p Q E) (h : wp_X15_of o σ a1 n1 Q E EV) : MetY yX15_of cX15_of 2 (some .long)  (rmP (d + 1)) σ [.ref o, .ref a1] (oL (fun r σ' => σ' = σ ∧ Q r)) (fun q C σ' => C = "LongYears$Trouble" ∧ σ' = σ ∧ E) 0 0 := by
  refine metY_of (own := RX15) (lvs := [(0, .ref o), (1, .ref a1)]) (by decide) rfl (Nat.le_of_ble_eq_true rfl) rfl (fun G rq => ?_)
  unfold wp_X15_of at h
  refine x_aload_n dX15_of_0 (n := 1) rfl rfl 0 rfl ?_
  refine x_geti fl_X15_7_12 rfl hB rfl dX15_of_1 (n := 4) rfl ?_
  refine x_i2l dX15_of_4 (n := 5) rfl ?_
  exact y_lret rq ⟨rfl, h⟩ dX15_of_5
abbrev rm_X16_of : Room := { frames := 1, cells := 0, slots := 0, locals := 21 }
def wp_X16_of (o : Nat) (σ : Hp) (a1 n1 : Nat) (Q : Int64 → Prop) (E : Prop) (EV : Nat → (Int64 → Prop) → Prop → Prop) : Prop := (vp_in (gI σ o 0) n1) ∧ (wp_X1_sure (gL σ a1 (gI σ o 0).toNatClampNeg) (fun r2 => Q r2) E)
theorem met_X16_of (d : Nat) (o : Nat) (σ : Hp) (a1 n1 : Nat) (Q : Int64 → Prop) (E : Prop) (EV : Nat → (Int64 → Prop) → Prop → Prop) (hB : OB 13 o σ) (ha1 : gT σ a1 = some (.inr (.long, n1))) (hEV : ∀ p Q E, EV p Q E → PM d σ a1 p Q E) (h : wp_X16_of o σ a1 n1 Q E EV) : MetY yX16_of cX16_of 2 (some .long)  (rmP (d + 1)) σ [.ref o, .ref a1] (oL (fun r σ' => σ' = σ ∧ Q r)) (fun q C σ' => C = "LongYears$Trouble" ∧ σ' = σ ∧ E) 0 0 := by
  refine metY_of (own := RX16) (lvs := [(0, .ref o), (1, .ref a1)]) (by decide) rfl (Nat.le_of_ble_eq_true rfl) rfl (fun G rq => ?_)
  unfold wp_X16_of at h
  refine x_aload_n dX16_of_0 (n := 1) rfl rfl 1 rfl ?_
  refine x_aload_n dX16_of_1 (n := 2) rfl rfl 0 rfl ?_
  refine x_geti fl_X16_7_13 rfl hB rfl dX16_of_2 (n := 5) rfl ?_
  obtain ⟨b1, h⟩ := h
  refine x_lald ha1 b1 rfl dX16_of_5 (n := 6) rfl ?_
  refine y_cSlT (As := [.long (gL σ a1 (gI σ o 0).toNatClampNeg)]) (rest := []) cs_X16_13 (met_X1_sure σ (gL σ a1 (gI σ o 0).toNatClampNeg) _ _  h) (by refine ⟨rfl, rfl, ?_, ?_, ?_, ?_⟩ <;> simp [rmP] <;> omega) rfl rfl rfl dX16_of_6 (n := 9) rfl (fun e3 q => ?_) (fun r2 h => ?_)
  · exact t_out rq (fun _ h => (List.not_mem_nil h).elim) ⟨rfl, rfl, e3⟩ (Nat.le_refl _) (Nat.le_refl _)
  exact y_lret rq ⟨rfl, h⟩ dX16_of_9
abbrev rm_X17_of : Room := { frames := 0, cells := 0, slots := 0, locals := 0 }
def wp_X17_of (o : Nat) (σ : Hp) (a1 n1 : Nat) (Q : Int64 → Prop) (E : Prop) (EV : Nat → (Int64 → Prop) → Prop → Prop) : Prop := (gR σ o 0 ≠ none) ∧ (EV (rf σ o 0) (fun r2 => (r2 = 0 → Q 1) ∧ (¬ r2 = 0 → Q 0)) E)
theorem met_X17_of (d : Nat) (o : Nat) (σ : Hp) (a1 n1 : Nat) (Q : Int64 → Prop) (E : Prop) (EV : Nat → (Int64 → Prop) → Prop → Prop) (hB : OB 14 o σ) (ha1 : gT σ a1 = some (.inr (.long, n1))) (hEV : ∀ p Q E, EV p Q E → PM d σ a1 p Q E) (h : wp_X17_of o σ a1 n1 Q E EV) : MetY yX17_of cX17_of 2 (some .long)  (rmP (d + 1)) σ [.ref o, .ref a1] (oL (fun r σ' => σ' = σ ∧ Q r)) (fun q C σ' => C = "LongYears$Trouble" ∧ σ' = σ ∧ E) 0 0 := by
  refine metY_of (own := RX17) (lvs := [(0, .ref o), (1, .ref a1)]) (by decide) rfl (Nat.le_of_ble_eq_true rfl) rfl (fun G rq => ?_)
  unfold wp_X17_of at h
  refine x_aload_n dX17_of_0 (n := 1) rfl rfl 0 rfl ?_
  obtain ⟨b1, h⟩ := h
  refine x_getrn fl_X17_7_14 rfl hB b1 rfl dX17_of_1 (n := 4) rfl ?_
  refine x_aload_n dX17_of_4 (n := 5) rfl rfl 1 rfl ?_
  refine y_part (rest := []) cu_X17_13 (hEV _ _ _ h) (by refine ⟨?_, ?_, ?_, ?_⟩ <;> simp [rmP] <;> omega) rfl rfl dX17_of_5 (n := 8) rfl (fun e3 q => ?_) (fun r2 h => ?_)
  · exact t_out rq (fun _ h => (List.not_mem_nil h).elim) ⟨rfl, rfl, e3⟩ (Nat.le_refl _) (Nat.le_refl _)
  refine x_lconst dX17_of_8 (n := 9) rfl lc_0 ?_
  refine x_lcmp_ne (tgt := 17) dX17_of_9 (pc1 := 10) rfl dX17_of_10 rfl (n := 13) rfl (fun c4 => ?_) (fun c4 => ?_)
  · have h := h.2 c4
    refine x_lconst dX17_of_17 (n := 18) rfl lc_0 ?_
    exact y_lret rq ⟨rfl, h⟩ dX17_of_18
  · have h := h.1 c4
    refine x_lconst dX17_of_13 (n := 14) rfl lc_1 ?_
    refine x_goto (tgt := 18) dX17_of_14 rfl ?_
    exact y_lret rq ⟨rfl, h⟩ dX17_of_18
abbrev rm_X18_of : Room := { frames := 2, cells := 0, slots := 0, locals := 44 }
def wp_X18_of (o : Nat) (σ : Hp) (a1 n1 : Nat) (Q : Int64 → Prop) (E : Prop) (EV : Nat → (Int64 → Prop) → Prop → Prop) : Prop := (gR σ o 0 ≠ none) ∧ (EV (rf σ o 0) (fun r2 => (gR σ o 2 ≠ none) ∧ (EV (rf σ o 2) (fun r5 => ((gI σ o 1) = 17 → (r2 = 0 → Q (f_X18_is 0)) ∧ (¬ r2 = 0 → (r5 = 0 → Q (f_X18_is 0)) ∧ (¬ r5 = 0 → Q (f_X18_is 1)))) ∧ (¬ (gI σ o 1) = 17 → ((gI σ o 1) = 37 → wp_X18_some r5 (fun r17 => (¬ r17 = 0) ∧ (Q (r2 - r2 / r17 * r17))) E) ∧ (¬ (gI σ o 1) = 37 → ((gI σ o 1) = 42 → wp_X18_times r2 r5 (fun r21 => Q r21) E) ∧ (¬ (gI σ o 1) = 42 → ((gI σ o 1) = 43 → wp_X1_sure (r2 + r5) (fun r24 => Q r24) E) ∧ (¬ (gI σ o 1) = 43 → ((gI σ o 1) = 45 → wp_X1_sure (r2 - r5) (fun r27 => Q r27) E) ∧ (¬ (gI σ o 1) = 45 → ((gI σ o 1) = 47 → wp_X18_some r5 (fun r30 => (¬ r30 = 0) ∧ (Q (r2 / r30))) E) ∧ (¬ (gI σ o 1) = 47 → ((gI σ o 1) = 60 → (r5 ≤ r2 → Q (f_X18_is 0)) ∧ (¬ r5 ≤ r2 → Q (f_X18_is 1))) ∧ (¬ (gI σ o 1) = 60 → ((gI σ o 1) = 61 → (r2 = r5 → Q (f_X18_is 1)) ∧ (¬ r2 = r5 → Q (f_X18_is 0))) ∧ (¬ (gI σ o 1) = 61 → ((gI σ o 1) = 62 → (r2 ≤ r5 → Q (f_X18_is 0)) ∧ (¬ r2 ≤ r5 → Q (f_X18_is 1))) ∧ (¬ (gI σ o 1) = 62 → ((gI σ o 1) = 256 → (r5 < r2 → Q (f_X18_is 0)) ∧ (¬ r5 < r2 → Q (f_X18_is 1))) ∧ (¬ (gI σ o 1) = 256 → ((gI σ o 1) = 257 → (r2 < r5 → Q (f_X18_is 0)) ∧ (¬ r2 < r5 → Q (f_X18_is 1))) ∧ (¬ (gI σ o 1) = 257 → ((gI σ o 1) = 258 → (r2 = r5 → Q (f_X18_is 0)) ∧ (¬ r2 = r5 → Q (f_X18_is 1))) ∧ (¬ (gI σ o 1) = 258 → (r2 = 0 → (r5 = 0 → Q (f_X18_is 0)) ∧ (¬ r5 = 0 → Q (f_X18_is 1))) ∧ (¬ r2 = 0 → Q (f_X18_is 1))))))))))))))) E)) E)
theorem met_X18_of (d : Nat) (o : Nat) (σ : Hp) (a1 n1 : Nat) (Q : Int64 → Prop) (E : Prop) (EV : Nat → (Int64 → Prop) → Prop → Prop) (hB : OB 15 o σ) (ha1 : gT σ a1 = some (.inr (.long, n1))) (hEV : ∀ p Q E, EV p Q E → PM d σ a1 p Q E) (h : wp_X18_of o σ a1 n1 Q E EV) : MetY yX18_of cX18_of 6 (some .long)  (rmP (d + 1)) σ [.ref o, .ref a1] (oL (fun r σ' => σ' = σ ∧ Q r)) (fun q C σ' => C = "LongYears$Trouble" ∧ σ' = σ ∧ E) 0 0 := by
  refine metY_of (own := RX18) (lvs := [(0, .ref o), (1, .ref a1)]) (by decide) rfl (Nat.le_of_ble_eq_true rfl) rfl (fun G rq => ?_)
  unfold wp_X18_of at h
  refine x_aload_n dX18_of_0 (n := 1) rfl rfl 0 rfl ?_
  obtain ⟨b1, h⟩ := h
  refine x_getrn fl_X18_19_15 rfl hB b1 rfl dX18_of_1 (n := 4) rfl ?_
  refine x_aload_n dX18_of_4 (n := 5) rfl rfl 1 rfl ?_
  refine y_part (rest := []) cu_X18_22 (hEV _ _ _ h) (by refine ⟨?_, ?_, ?_, ?_⟩ <;> simp [rmP] <;> omega) rfl rfl dX18_of_5 (n := 8) rfl (fun e3 q => ?_) (fun r2 h => ?_)
  · exact t_out rq (fun _ h => (List.not_mem_nil h).elim) ⟨rfl, rfl, e3⟩ (Nat.le_refl _) (Nat.le_refl _)
  refine x_lstore_n (lvs' := [(2, .long r2), (0, .ref o), (1, .ref a1)]) dX18_of_8 (n := 9) rfl rfl (by decide) rfl ?_
  refine x_aload_n dX18_of_9 (n := 10) rfl rfl 1 rfl ?_
  obtain ⟨b4, h⟩ := h
  refine x_getrn fl_X18_15_15 rfl hB b4 rfl dX18_of_10 (n := 13) rfl ?_
  refine x_aload_n dX18_of_13 (n := 14) rfl rfl 2 rfl ?_
  refine y_part (rest := []) cu_X18_22 (hEV _ _ _ h) (by refine ⟨?_, ?_, ?_, ?_⟩ <;> simp [rmP] <;> omega) rfl rfl dX18_of_14 (n := 17) rfl (fun e6 q => ?_) (fun r5 h => ?_)
  · exact t_out rq (fun _ h => (List.not_mem_nil h).elim) ⟨rfl, rfl, e6⟩ (Nat.le_refl _) (Nat.le_refl _)
  refine x_lstore (lvs' := [(4, .long r5), (2, .long r2), (0, .ref o), (1, .ref a1)]) dX18_of_17 (n := 19) rfl (by decide) rfl ?_
  refine x_aload_n dX18_of_19 (n := 20) rfl rfl 2 rfl ?_
  refine x_geti fl_X18_9_15 rfl hB rfl dX18_of_20 (n := 23) rfl ?_
  refine x_by ((gI σ o 1) = 17) (fun c7 => ?_) (fun c7 => ?_)
  · have h := h.1 c7
    have z7 : ((gI σ o 1)).toInt = 17 := by rw [c7]; decide
    refine x_lsw (off := 240) (tgt := 263) dX18_of_23 (by decide) (by rw [z7]; decide) rfl ?_
    refine x_lload_n dX18_of_263 (n := 264) rfl rfl 1 rfl ?_
    refine x_lconst dX18_of_264 (n := 265) rfl lc_0 ?_
    refine x_lcmp_eq (tgt := 280) dX18_of_265 (pc1 := 266) rfl dX18_of_266 rfl (n := 269) rfl (fun c8 => ?_) (fun c8 => ?_)
    · have h := h.1 c8
      refine x_iconst dX18_of_280 (n := 281) rfl ic_0 ?_
      refine x_cSlp (As := [.int 0]) (rest := []) cs_X18_39 (met_X18_is σ 0 ) (by refine ⟨rfl, rfl, ?_, ?_, ?_, ?_⟩ <;> simp [rmP] <;> omega) rfl rfl rfl dX18_of_281 (n := 284) rfl (fun r10 q => ?_)
      subst q
      exact y_lret rq ⟨rfl, h⟩ dX18_of_284
    · have h := h.2 c8
      refine x_lload dX18_of_269 (n := 271) rfl 0 rfl ?_
      refine x_lconst dX18_of_271 (n := 272) rfl lc_0 ?_
      refine x_lcmp_eq (tgt := 280) dX18_of_272 (pc1 := 273) rfl dX18_of_273 rfl (n := 276) rfl (fun c11 => ?_) (fun c11 => ?_)
      · have h := h.1 c11
        refine x_iconst dX18_of_280 (n := 281) rfl ic_0 ?_
        refine x_cSlp (As := [.int 0]) (rest := []) cs_X18_39 (met_X18_is σ 0 ) (by refine ⟨rfl, rfl, ?_, ?_, ?_, ?_⟩ <;> simp [rmP] <;> omega) rfl rfl rfl dX18_of_281 (n := 284) rfl (fun r13 q => ?_)
        subst q
        exact y_lret rq ⟨rfl, h⟩ dX18_of_284
      · have h := h.2 c11
        refine x_iconst dX18_of_276 (n := 277) rfl ic_1 ?_
        refine x_goto (tgt := 281) dX18_of_277 rfl ?_
        refine x_cSlp (As := [.int 1]) (rest := []) cs_X18_39 (met_X18_is σ 1 ) (by refine ⟨rfl, rfl, ?_, ?_, ?_, ?_⟩ <;> simp [rmP] <;> omega) rfl rfl rfl dX18_of_281 (n := 284) rfl (fun r15 q => ?_)
        subst q
        exact y_lret rq ⟨rfl, h⟩ dX18_of_284
  · have h := h.2 c7
    refine x_by ((gI σ o 1) = 37) (fun c16 => ?_) (fun c16 => ?_)
    · have h := h.1 c16
      have z16 : ((gI σ o 1)).toInt = 37 := by rw [c16]; decide
      refine x_lsw (off := 136) (tgt := 159) dX18_of_23 (by decide) (by rw [z16]; decide) rfl ?_
      refine x_lload_n dX18_of_159 (n := 160) rfl rfl 1 rfl ?_
      refine x_lload dX18_of_160 (n := 162) rfl 0 rfl ?_
      refine y_cSlT (As := [.long r5]) (rest := [.long r2]) cs_X18_36 (met_X18_some σ r5 _ _  h) (by refine ⟨rfl, rfl, ?_, ?_, ?_, ?_⟩ <;> simp [rmP] <;> omega) rfl rfl rfl dX18_of_162 (n := 165) rfl (fun e19 q => ?_) (fun r17 h => ?_)
      · exact t_out rq (fun _ h => (List.not_mem_nil h).elim) ⟨rfl, rfl, e19⟩ (Nat.le_refl _) (Nat.le_refl _)
      obtain ⟨b18, h⟩ := h
      refine x_lrem dX18_of_165 (n := 166) rfl b18 ?_
      exact y_lret rq ⟨rfl, h⟩ dX18_of_166
    · have h := h.2 c16
      refine x_by ((gI σ o 1) = 42) (fun c20 => ?_) (fun c20 => ?_)
      · have h := h.1 c20
        have z20 : ((gI σ o 1)).toInt = 42 := by rw [c20]; decide
        refine x_lsw (off := 121) (tgt := 144) dX18_of_23 (by decide) (by rw [z20]; decide) rfl ?_
        refine x_lload_n dX18_of_144 (n := 145) rfl rfl 1 rfl ?_
        refine x_lload dX18_of_145 (n := 147) rfl 0 rfl ?_
        refine y_cSlT (As := [.long r2, .long r5]) (rest := []) cs_X18_32 (met_X18_times σ r2 r5 _ _  h) (by refine ⟨rfl, rfl, ?_, ?_, ?_, ?_⟩ <;> simp [rmP] <;> omega) rfl rfl rfl dX18_of_147 (n := 150) rfl (fun e22 q => ?_) (fun r21 h => ?_)
        · exact t_out rq (fun _ h => (List.not_mem_nil h).elim) ⟨rfl, rfl, e22⟩ (Nat.le_refl _) (Nat.le_refl _)
        exact y_lret rq ⟨rfl, h⟩ dX18_of_150
      · have h := h.2 c20
        refine x_by ((gI σ o 1) = 43) (fun c23 => ?_) (fun c23 => ?_)
        · have h := h.1 c23
          have z23 : ((gI σ o 1)).toInt = 43 := by rw [c23]; decide
          refine x_lsw (off := 105) (tgt := 128) dX18_of_23 (by decide) (by rw [z23]; decide) rfl ?_
          refine x_lload_n dX18_of_128 (n := 129) rfl rfl 1 rfl ?_
          refine x_lload dX18_of_129 (n := 131) rfl 0 rfl ?_
          refine x_ladd dX18_of_131 (n := 132) rfl ?_
          refine y_cSlT (As := [.long (r2 + r5)]) (rest := []) cs_X18_28 (met_X1_sure σ (r2 + r5) _ _  h) (by refine ⟨rfl, rfl, ?_, ?_, ?_, ?_⟩ <;> simp [rmP] <;> omega) rfl rfl rfl dX18_of_132 (n := 135) rfl (fun e25 q => ?_) (fun r24 h => ?_)
          · exact t_out rq (fun _ h => (List.not_mem_nil h).elim) ⟨rfl, rfl, e25⟩ (Nat.le_refl _) (Nat.le_refl _)
          exact y_lret rq ⟨rfl, h⟩ dX18_of_135
        · have h := h.2 c23
          refine x_by ((gI σ o 1) = 45) (fun c26 => ?_) (fun c26 => ?_)
          · have h := h.1 c26
            have z26 : ((gI σ o 1)).toInt = 45 := by rw [c26]; decide
            refine x_lsw (off := 113) (tgt := 136) dX18_of_23 (by decide) (by rw [z26]; decide) rfl ?_
            refine x_lload_n dX18_of_136 (n := 137) rfl rfl 1 rfl ?_
            refine x_lload dX18_of_137 (n := 139) rfl 0 rfl ?_
            refine x_lsub dX18_of_139 (n := 140) rfl ?_
            refine y_cSlT (As := [.long (r2 - r5)]) (rest := []) cs_X18_28 (met_X1_sure σ (r2 - r5) _ _  h) (by refine ⟨rfl, rfl, ?_, ?_, ?_, ?_⟩ <;> simp [rmP] <;> omega) rfl rfl rfl dX18_of_140 (n := 143) rfl (fun e28 q => ?_) (fun r27 h => ?_)
            · exact t_out rq (fun _ h => (List.not_mem_nil h).elim) ⟨rfl, rfl, e28⟩ (Nat.le_refl _) (Nat.le_refl _)
            exact y_lret rq ⟨rfl, h⟩ dX18_of_143
          · have h := h.2 c26
            refine x_by ((gI σ o 1) = 47) (fun c29 => ?_) (fun c29 => ?_)
            · have h := h.1 c29
              have z29 : ((gI σ o 1)).toInt = 47 := by rw [c29]; decide
              refine x_lsw (off := 128) (tgt := 151) dX18_of_23 (by decide) (by rw [z29]; decide) rfl ?_
              refine x_lload_n dX18_of_151 (n := 152) rfl rfl 1 rfl ?_
              refine x_lload dX18_of_152 (n := 154) rfl 0 rfl ?_
              refine y_cSlT (As := [.long r5]) (rest := [.long r2]) cs_X18_36 (met_X18_some σ r5 _ _  h) (by refine ⟨rfl, rfl, ?_, ?_, ?_, ?_⟩ <;> simp [rmP] <;> omega) rfl rfl rfl dX18_of_154 (n := 157) rfl (fun e32 q => ?_) (fun r30 h => ?_)
              · exact t_out rq (fun _ h => (List.not_mem_nil h).elim) ⟨rfl, rfl, e32⟩ (Nat.le_refl _) (Nat.le_refl _)
              obtain ⟨b31, h⟩ := h
              refine x_ldiv dX18_of_157 (n := 158) rfl b31 ?_
              exact y_lret rq ⟨rfl, h⟩ dX18_of_158
            · have h := h.2 c29
              refine x_by ((gI σ o 1) = 60) (fun c33 => ?_) (fun c33 => ?_)
              · have h := h.1 c33
                have z33 : ((gI σ o 1)).toInt = 60 := by rw [c33]; decide
                refine x_lsw (off := 144) (tgt := 167) dX18_of_23 (by decide) (by rw [z33]; decide) rfl ?_
                refine x_lload_n dX18_of_167 (n := 168) rfl rfl 1 rfl ?_
                refine x_lload dX18_of_168 (n := 170) rfl 0 rfl ?_
                refine x_lcmp_ge (tgt := 178) dX18_of_170 (pc1 := 171) rfl dX18_of_171 rfl (n := 174) rfl (fun c34 => ?_) (fun c34 => ?_)
                · have h := h.1 c34
                  refine x_iconst dX18_of_178 (n := 179) rfl ic_0 ?_
                  refine x_cSlp (As := [.int 0]) (rest := []) cs_X18_39 (met_X18_is σ 0 ) (by refine ⟨rfl, rfl, ?_, ?_, ?_, ?_⟩ <;> simp [rmP] <;> omega) rfl rfl rfl dX18_of_179 (n := 182) rfl (fun r36 q => ?_)
                  subst q
                  exact y_lret rq ⟨rfl, h⟩ dX18_of_182
                · have h := h.2 c34
                  refine x_iconst dX18_of_174 (n := 175) rfl ic_1 ?_
                  refine x_goto (tgt := 179) dX18_of_175 rfl ?_
                  refine x_cSlp (As := [.int 1]) (rest := []) cs_X18_39 (met_X18_is σ 1 ) (by refine ⟨rfl, rfl, ?_, ?_, ?_, ?_⟩ <;> simp [rmP] <;> omega) rfl rfl rfl dX18_of_179 (n := 182) rfl (fun r38 q => ?_)
                  subst q
                  exact y_lret rq ⟨rfl, h⟩ dX18_of_182
              · have h := h.2 c33
                refine x_by ((gI σ o 1) = 61) (fun c39 => ?_) (fun c39 => ?_)
                · have h := h.1 c39
                  have z39 : ((gI σ o 1)).toInt = 61 := by rw [c39]; decide
                  refine x_lsw (off := 176) (tgt := 199) dX18_of_23 (by decide) (by rw [z39]; decide) rfl ?_
                  refine x_lload_n dX18_of_199 (n := 200) rfl rfl 1 rfl ?_
                  refine x_lload dX18_of_200 (n := 202) rfl 0 rfl ?_
                  refine x_lcmp_ne (tgt := 210) dX18_of_202 (pc1 := 203) rfl dX18_of_203 rfl (n := 206) rfl (fun c40 => ?_) (fun c40 => ?_)
                  · have h := h.2 c40
                    refine x_iconst dX18_of_210 (n := 211) rfl ic_0 ?_
                    refine x_cSlp (As := [.int 0]) (rest := []) cs_X18_39 (met_X18_is σ 0 ) (by refine ⟨rfl, rfl, ?_, ?_, ?_, ?_⟩ <;> simp [rmP] <;> omega) rfl rfl rfl dX18_of_211 (n := 214) rfl (fun r42 q => ?_)
                    subst q
                    exact y_lret rq ⟨rfl, h⟩ dX18_of_214
                  · have h := h.1 c40
                    refine x_iconst dX18_of_206 (n := 207) rfl ic_1 ?_
                    refine x_goto (tgt := 211) dX18_of_207 rfl ?_
                    refine x_cSlp (As := [.int 1]) (rest := []) cs_X18_39 (met_X18_is σ 1 ) (by refine ⟨rfl, rfl, ?_, ?_, ?_, ?_⟩ <;> simp [rmP] <;> omega) rfl rfl rfl dX18_of_211 (n := 214) rfl (fun r44 q => ?_)
                    subst q
                    exact y_lret rq ⟨rfl, h⟩ dX18_of_214
                · have h := h.2 c39
                  refine x_by ((gI σ o 1) = 62) (fun c45 => ?_) (fun c45 => ?_)
                  · have h := h.1 c45
                    have z45 : ((gI σ o 1)).toInt = 62 := by rw [c45]; decide
                    refine x_lsw (off := 160) (tgt := 183) dX18_of_23 (by decide) (by rw [z45]; decide) rfl ?_
                    refine x_lload_n dX18_of_183 (n := 184) rfl rfl 1 rfl ?_
                    refine x_lload dX18_of_184 (n := 186) rfl 0 rfl ?_
                    refine x_lcmp_le (tgt := 194) dX18_of_186 (pc1 := 187) rfl dX18_of_187 rfl (n := 190) rfl (fun c46 => ?_) (fun c46 => ?_)
                    · have h := h.1 c46
                      refine x_iconst dX18_of_194 (n := 195) rfl ic_0 ?_
                      refine x_cSlp (As := [.int 0]) (rest := []) cs_X18_39 (met_X18_is σ 0 ) (by refine ⟨rfl, rfl, ?_, ?_, ?_, ?_⟩ <;> simp [rmP] <;> omega) rfl rfl rfl dX18_of_195 (n := 198) rfl (fun r48 q => ?_)
                      subst q
                      exact y_lret rq ⟨rfl, h⟩ dX18_of_198
                    · have h := h.2 c46
                      refine x_iconst dX18_of_190 (n := 191) rfl ic_1 ?_
                      refine x_goto (tgt := 195) dX18_of_191 rfl ?_
                      refine x_cSlp (As := [.int 1]) (rest := []) cs_X18_39 (met_X18_is σ 1 ) (by refine ⟨rfl, rfl, ?_, ?_, ?_, ?_⟩ <;> simp [rmP] <;> omega) rfl rfl rfl dX18_of_195 (n := 198) rfl (fun r50 q => ?_)
                      subst q
                      exact y_lret rq ⟨rfl, h⟩ dX18_of_198
                  · have h := h.2 c45
                    refine x_by ((gI σ o 1) = 256) (fun c51 => ?_) (fun c51 => ?_)
                    · have h := h.1 c51
                      have z51 : ((gI σ o 1)).toInt = 256 := by rw [c51]; decide
                      refine x_lsw (off := 192) (tgt := 215) dX18_of_23 (by decide) (by rw [z51]; decide) rfl ?_
                      refine x_lload_n dX18_of_215 (n := 216) rfl rfl 1 rfl ?_
                      refine x_lload dX18_of_216 (n := 218) rfl 0 rfl ?_
                      refine x_lcmp_gt (tgt := 226) dX18_of_218 (pc1 := 219) rfl dX18_of_219 rfl (n := 222) rfl (fun c52 => ?_) (fun c52 => ?_)
                      · have h := h.1 c52
                        refine x_iconst dX18_of_226 (n := 227) rfl ic_0 ?_
                        refine x_cSlp (As := [.int 0]) (rest := []) cs_X18_39 (met_X18_is σ 0 ) (by refine ⟨rfl, rfl, ?_, ?_, ?_, ?_⟩ <;> simp [rmP] <;> omega) rfl rfl rfl dX18_of_227 (n := 230) rfl (fun r54 q => ?_)
                        subst q
                        exact y_lret rq ⟨rfl, h⟩ dX18_of_230
                      · have h := h.2 c52
                        refine x_iconst dX18_of_222 (n := 223) rfl ic_1 ?_
                        refine x_goto (tgt := 227) dX18_of_223 rfl ?_
                        refine x_cSlp (As := [.int 1]) (rest := []) cs_X18_39 (met_X18_is σ 1 ) (by refine ⟨rfl, rfl, ?_, ?_, ?_, ?_⟩ <;> simp [rmP] <;> omega) rfl rfl rfl dX18_of_227 (n := 230) rfl (fun r56 q => ?_)
                        subst q
                        exact y_lret rq ⟨rfl, h⟩ dX18_of_230
                    · have h := h.2 c51
                      refine x_by ((gI σ o 1) = 257) (fun c57 => ?_) (fun c57 => ?_)
                      · have h := h.1 c57
                        have z57 : ((gI σ o 1)).toInt = 257 := by rw [c57]; decide
                        refine x_lsw (off := 208) (tgt := 231) dX18_of_23 (by decide) (by rw [z57]; decide) rfl ?_
                        refine x_lload_n dX18_of_231 (n := 232) rfl rfl 1 rfl ?_
                        refine x_lload dX18_of_232 (n := 234) rfl 0 rfl ?_
                        refine x_lcmp_lt (tgt := 242) dX18_of_234 (pc1 := 235) rfl dX18_of_235 rfl (n := 238) rfl (fun c58 => ?_) (fun c58 => ?_)
                        · have h := h.1 c58
                          refine x_iconst dX18_of_242 (n := 243) rfl ic_0 ?_
                          refine x_cSlp (As := [.int 0]) (rest := []) cs_X18_39 (met_X18_is σ 0 ) (by refine ⟨rfl, rfl, ?_, ?_, ?_, ?_⟩ <;> simp [rmP] <;> omega) rfl rfl rfl dX18_of_243 (n := 246) rfl (fun r60 q => ?_)
                          subst q
                          exact y_lret rq ⟨rfl, h⟩ dX18_of_246
                        · have h := h.2 c58
                          refine x_iconst dX18_of_238 (n := 239) rfl ic_1 ?_
                          refine x_goto (tgt := 243) dX18_of_239 rfl ?_
                          refine x_cSlp (As := [.int 1]) (rest := []) cs_X18_39 (met_X18_is σ 1 ) (by refine ⟨rfl, rfl, ?_, ?_, ?_, ?_⟩ <;> simp [rmP] <;> omega) rfl rfl rfl dX18_of_243 (n := 246) rfl (fun r62 q => ?_)
                          subst q
                          exact y_lret rq ⟨rfl, h⟩ dX18_of_246
                      · have h := h.2 c57
                        refine x_by ((gI σ o 1) = 258) (fun c63 => ?_) (fun c63 => ?_)
                        · have h := h.1 c63
                          have z63 : ((gI σ o 1)).toInt = 258 := by rw [c63]; decide
                          refine x_lsw (off := 224) (tgt := 247) dX18_of_23 (by decide) (by rw [z63]; decide) rfl ?_
                          refine x_lload_n dX18_of_247 (n := 248) rfl rfl 1 rfl ?_
                          refine x_lload dX18_of_248 (n := 250) rfl 0 rfl ?_
                          refine x_lcmp_eq (tgt := 258) dX18_of_250 (pc1 := 251) rfl dX18_of_251 rfl (n := 254) rfl (fun c64 => ?_) (fun c64 => ?_)
                          · have h := h.1 c64
                            refine x_iconst dX18_of_258 (n := 259) rfl ic_0 ?_
                            refine x_cSlp (As := [.int 0]) (rest := []) cs_X18_39 (met_X18_is σ 0 ) (by refine ⟨rfl, rfl, ?_, ?_, ?_, ?_⟩ <;> simp [rmP] <;> omega) rfl rfl rfl dX18_of_259 (n := 262) rfl (fun r66 q => ?_)
                            subst q
                            exact y_lret rq ⟨rfl, h⟩ dX18_of_262
                          · have h := h.2 c64
                            refine x_iconst dX18_of_254 (n := 255) rfl ic_1 ?_
                            refine x_goto (tgt := 259) dX18_of_255 rfl ?_
                            refine x_cSlp (As := [.int 1]) (rest := []) cs_X18_39 (met_X18_is σ 1 ) (by refine ⟨rfl, rfl, ?_, ?_, ?_, ?_⟩ <;> simp [rmP] <;> omega) rfl rfl rfl dX18_of_259 (n := 262) rfl (fun r68 q => ?_)
                            subst q
                            exact y_lret rq ⟨rfl, h⟩ dX18_of_262
                        · have h := h.2 c63
                          refine x_lsw (off := 262) (tgt := 285) dX18_of_23 (by decide) ((lv_osw c7 (by decide)).trans ((lv_osw c16 (by decide)).trans ((lv_osw c20 (by decide)).trans ((lv_osw c23 (by decide)).trans ((lv_osw c26 (by decide)).trans ((lv_osw c29 (by decide)).trans ((lv_osw c33 (by decide)).trans ((lv_osw c39 (by decide)).trans ((lv_osw c45 (by decide)).trans ((lv_osw c51 (by decide)).trans ((lv_osw c57 (by decide)).trans ((lv_osw c63 (by decide)).trans (rfl))))))))))))) rfl ?_
                          refine x_lload_n dX18_of_285 (n := 286) rfl rfl 1 rfl ?_
                          refine x_lconst dX18_of_286 (n := 287) rfl lc_0 ?_
                          refine x_lcmp_ne (tgt := 298) dX18_of_287 (pc1 := 288) rfl dX18_of_288 rfl (n := 291) rfl (fun c69 => ?_) (fun c69 => ?_)
                          · have h := h.2 c69
                            refine x_iconst dX18_of_298 (n := 299) rfl ic_1 ?_
                            refine x_goto (tgt := 303) dX18_of_299 rfl ?_
                            refine x_cSlp (As := [.int 1]) (rest := []) cs_X18_39 (met_X18_is σ 1 ) (by refine ⟨rfl, rfl, ?_, ?_, ?_, ?_⟩ <;> simp [rmP] <;> omega) rfl rfl rfl dX18_of_303 (n := 306) rfl (fun r71 q => ?_)
                            subst q
                            exact y_lret rq ⟨rfl, h⟩ dX18_of_306
                          · have h := h.1 c69
                            refine x_lload dX18_of_291 (n := 293) rfl 0 rfl ?_
                            refine x_lconst dX18_of_293 (n := 294) rfl lc_0 ?_
                            refine x_lcmp_eq (tgt := 302) dX18_of_294 (pc1 := 295) rfl dX18_of_295 rfl (n := 298) rfl (fun c72 => ?_) (fun c72 => ?_)
                            · have h := h.1 c72
                              refine x_iconst dX18_of_302 (n := 303) rfl ic_0 ?_
                              refine x_cSlp (As := [.int 0]) (rest := []) cs_X18_39 (met_X18_is σ 0 ) (by refine ⟨rfl, rfl, ?_, ?_, ?_, ?_⟩ <;> simp [rmP] <;> omega) rfl rfl rfl dX18_of_303 (n := 306) rfl (fun r74 q => ?_)
                              subst q
                              exact y_lret rq ⟨rfl, h⟩ dX18_of_306
                            · have h := h.2 c72
                              refine x_iconst dX18_of_298 (n := 299) rfl ic_1 ?_
                              refine x_goto (tgt := 303) dX18_of_299 rfl ?_
                              refine x_cSlp (As := [.int 1]) (rest := []) cs_X18_39 (met_X18_is σ 1 ) (by refine ⟨rfl, rfl, ?_, ?_, ?_, ?_⟩ <;> simp [rmP] <;> omega) rfl rfl rfl dX18_of_303 (n := 306) rfl (fun r76 q => ?_)
                              subst q
                              exact y_lret rq ⟨rfl, h⟩ dX18_of_306
