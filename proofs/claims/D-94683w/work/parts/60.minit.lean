set_option maxRecDepth 100000
/-- the reference's words -/
def ws1 : List Int32 := [108, 97, 110, 100, 32, 102, 101, 97, 115, 116, 32, 112, 101, 114, 115, 111, 110, 32, 100, 101, 101, 100, 32, 110, 111, 116, 101, 32, 115, 117, 110, 32, 119, 101, 101, 107, 32, 109, 111, 111, 110, 32, 102, 114, 111, 109, 32, 100, 105, 101, 100, 32, 121, 101, 97, 114, 115, 32, 100, 97, 121, 115, 32, 116, 105, 108, 108, 32, 112, 97, 121, 32, 97, 108, 105, 118, 101, 32, 97, 102, 116, 101, 114, 32, 97, 110, 100, 32, 111, 114, 32, 110, 111, 116, 32, 100, 97, 121, 32, 121, 101, 97, 114, 32, 115, 101, 97, 115, 111, 110, 32, 108, 101, 110, 103, 116, 104, 32]
def pIs (σ : Hp) (a : Nat) : Nat → List Int32 → Hp
  | _, [] => σ
  | k, v :: r => pIs (pI σ a k v) a (k + 1) r
theorem pIs_S : ∀ (r : List Int32) (σ : Hp) (a k : Nat), gS (pIs σ a k r) = gS σ ∧ gT (pIs σ a k r) = gT σ ∧ gR (pIs σ a k r) = gR σ ∧ gL (pIs σ a k r) = gL σ
  | [], _, _, _ => ⟨rfl, rfl, rfl, rfl⟩
  | v :: r, σ, a, k => pIs_S r (pI σ a k v) a (k + 1)
theorem pIs_o : ∀ (r : List Int32) (σ : Hp) (a k b i : Nat), b ≠ a → gI (pIs σ a k r) b i = gI σ b i
  | [], _, _, _, _, _, _ => rfl
  | v :: r, σ, a, k, b, i, h => (pIs_o r (pI σ a k v) a (k + 1) b i h).trans (gIo h)
theorem pIs_a : ∀ (r : List Int32) (σ : Hp) (a k i : Nat), gI (pIs σ a k r) a i = if i < k then gI σ a i else if i < k + r.length then r.getD (i - k) 0 else gI σ a i
  | [], σ, a, k, i => by
    show gI σ a i = _
    split
    · rfl
    · rw [if_neg (by simp; omega)]
  | v :: r, σ, a, k, i => by
    show gI (pIs (pI σ a k v) a (k + 1) r) a i = _
    rw [pIs_a r (pI σ a k v) a (k + 1) i]
    by_cases h1 : i < k
    · rw [if_pos (by omega), if_pos h1, gIn (by omega)]
    · by_cases h2 : i = k
      · subst h2
        rw [if_pos (by omega), if_neg (by omega), if_pos (by simp), gIs]; simp
      · rw [if_neg (by omega), if_neg h1]
        by_cases h3 : i < k + 1 + r.length
        · rw [if_pos h3, if_pos (by simp; omega)]
          rw [show i - k = (i - (k + 1)) + 1 by omega]; rfl
        · rw [if_neg h3, if_neg (by simp; omega), gIn h2]
/-- the object o with its first k arrays laid: all nought but the words and the fault's place -/
def MI (o k : Nat) (wl : List Int32) (fp : Int32) (σ0 σ : Hp) : Prop := gS σ = o + 1 + k ∧ gT σ o = some (.inl 0) ∧ (∀ q ∈ mbTab.take k, gR σ o q.1 = some (o + q.2.1) ∧ gT σ (o + q.2.1) = some (.inr q.2.2)) ∧ (∀ a i, a < gS σ → o ≤ a → gI σ a i = if a = o + 2 then wl.getD i 0 else if a = o ∧ i = 5 then fp else 0) ∧ (∀ a i, a < gS σ → o ≤ a → gL σ a i = 0) ∧ (∀ a, a < o → gT σ a = gT σ0 a ∧ ∀ i, gR σ a i = gR σ0 a i ∧ gI σ a i = gI σ0 a i ∧ gL σ a i = gL σ0 a i) ∧ (WF σ0 → ∀ a, gS σ ≤ a → gT σ a = none)
theorem MI.oT {o k : Nat} {wl : List Int32} {fp : Int32} {σ0 σ : Hp} (h : MI o k wl fp σ0 σ) {t : Nat ⊕ (FieldType × Nat)} : gT (pN σ t) o = some (.inl 0) := (gT_old (by have := h.1; omega)).trans h.2.1
theorem MI.mb {o : Nat} {wl : List Int32} {fp : Int32} {σ0 σ : Hp} (h : MI o 32 wl fp σ0 σ) : MB o σ := ⟨h.2.1, h.2.2.1⟩
theorem MI.fault {o k : Nat} {wl : List Int32} {fp : Int32} {σ0 σ : Hp} (h : MI o k wl fp σ0 σ) {v : Int32} : MI o k wl v σ0 (pI σ o 5 v) := by
  refine ⟨h.1, h.2.1, h.2.2.1, fun a i h1 h2 => ?_, h.2.2.2.2.1, fun a ha => ⟨(h.2.2.2.2.2.1 a ha).1, fun i => ⟨((h.2.2.2.2.2.1 a ha).2 i).1, ?_, ((h.2.2.2.2.2.1 a ha).2 i).2.2⟩⟩, h.2.2.2.2.2.2⟩
  · have := h.2.2.2.1 a i h1 h2
    by_cases ha : a = o
    · subst ha
      rw [if_neg (by omega)] at this ⊢
      by_cases hi : i = 5
      · subst hi; rw [gIs]; simp
      · rw [gIn hi, this]; simp [hi]
    · rw [gIo ha, this]; simp [ha]
  · rw [gIo (by omega)]; exact ((h.2.2.2.2.2.1 a ha).2 i).2.1
theorem MI.step {o k f N : Nat} {ty : FieldType} {wl : List Int32} {fp : Int32} {σ0 σ : Hp} (h : MI o k wl fp σ0 σ) (hq : mbTab[k]? = some (f, k + 1, ty, N)) (hk : k ≠ 1) (hd : ∀ q ∈ mbTab.take k, q.1 ≠ f ∧ q.2.1 ≤ k) : MI o (k + 1) wl fp σ0 (pR (pN σ (.inr (ty, N))) o f (some (gS σ))) := by
  obtain ⟨h1, h2, h3, h4, h5, h6, h7⟩ := h
  have ho : o ≠ gS σ := by omega
  refine ⟨by show gS σ + 1 = _; omega, (gT_old ho).trans h2, fun q hq' => ?_, fun a i q1 q2 => ?_, fun a i q1 q2 => ?_, fun a ha => ⟨(gT_old (by omega)).trans (h6 a ha).1, fun i => ⟨?_, ?_, ?_⟩⟩, fun w a ha => ?_⟩
  · rw [List.take_add_one, hq] at hq'
    rcases List.mem_append.mp hq' with hq' | hq'
    · have e := hd q hq'
      refine ⟨(gR_ne e.1).trans ((gR_old ho).trans (h3 q hq').1), (gT_old (by omega)).trans (h3 q hq').2⟩
    · have e : q = (f, k + 1, ty, N) := by simpa using hq'
      subst e
      refine ⟨?_, ?_⟩
      · show gR (pR _ o f _) o f = _
        rw [gRs, h1]
        show some (o + 1 + k) = some (o + (k + 1))
        congr 1; omega
      · show gT (pN σ (.inr (ty, N))) (o + (k + 1)) = _
        rw [show o + (k + 1) = gS σ by omega]; exact gT_new
  · have q1 : a < gS σ + 1 := q1
    show gI (pN σ (.inr (ty, N))) a i = _
    by_cases ha : a = gS σ
    · rw [ha, if_neg (by omega), if_neg (by omega)]; simp [gI, pN, u1, gS]
    · rw [gI_old ha]; exact h4 a i (by omega) q2
  · have q1 : a < gS σ + 1 := q1
    show gL (pN σ (.inr (ty, N))) a i = _
    by_cases ha : a = gS σ
    · rw [ha]; simp [gL, pN, u1, gS]
    · rw [gL_old ha]; exact h5 a i (by omega) q2
  · exact (gR_off (by omega)).trans ((gR_old (t := .inr (ty, N)) (by omega)).trans ((h6 a ha).2 i).1)
  · exact (gI_old (t := .inr (ty, N)) (by omega)).trans ((h6 a ha).2 i).2.1
  · exact (gL_old (t := .inr (ty, N)) (by omega)).trans ((h6 a ha).2 i).2.2
  · have ha : gS σ + 1 ≤ a := ha
    exact (gT_old (by omega)).trans (h7 w a (by omega))
theorem MI.words {ws : List Int32} {o : Nat} {σ0 σ s : Hp} (h : MI o 1 [] 0 σ0 σ) (e : s = pR (pIs (pN σ (.inr (.int, 118))) (gS σ) 0 ws) o 3 (some (gS σ))) : MI o 2 ws 0 σ0 s := by
  subst e
  obtain ⟨h1, h2, h3, h4, h5, h6, h7⟩ := h
  have ho : o ≠ gS σ := by omega
  obtain ⟨e1, e2, e3, e4⟩ := pIs_S ws (pN σ (.inr (.int, 118))) (gS σ) 0
  have eS : gS (pR (pIs (pN σ (.inr (.int, 118))) (gS σ) 0 ws) o 3 (some (gS σ))) = gS σ + 1 := e1
  have eT : ∀ a, gT (pR (pIs (pN σ (.inr (.int, 118))) (gS σ) 0 ws) o 3 (some (gS σ))) a = gT (pN σ (.inr (.int, 118))) a := fun a => congrFun e2 a
  refine ⟨by rw [eS]; omega, by rw [eT]; exact (gT_old ho).trans h2, fun q hq' => ?_, fun a i q1 q2 => ?_, fun a i q1 q2 => ?_, fun a ha => ⟨by rw [eT]; exact (gT_old (by omega)).trans (h6 a ha).1, fun i => ⟨?_, ?_, ?_⟩⟩, fun w a ha => ?_⟩
  · have hq2 : q ∈ mbTab.take 1 ∨ q = (3, 2, .int, 118) := by
      have : mbTab.take 2 = mbTab.take 1 ++ [(3, 2, .int, 118)] := rfl
      rw [this] at hq'
      rcases List.mem_append.mp hq' with h | h
      · exact Or.inl h
      · exact Or.inr (by simpa using h)
    rcases hq2 with hq2 | hq2
    · have e := (by decide : ∀ q ∈ mbTab.take 1, q.1 ≠ 3 ∧ q.2.1 ≤ 1) q hq2
      refine ⟨(gR_ne e.1).trans ?_, by rw [eT]; exact (gT_old (by omega)).trans (h3 q hq2).2⟩
      rw [e3]; exact (gR_old ho).trans (h3 q hq2).1
    · subst hq2
      refine ⟨?_, ?_⟩
      · show gR (pR _ o 3 _) o 3 = some (o + 2)
        rw [gRs, h1]
      · rw [eT]
        show gT (pN σ _) (o + 2) = _
        rw [show o + 2 = gS σ by omega]; exact gT_new
  · rw [eS] at q1
    show gI (pIs (pN σ _) (gS σ) 0 ws) a i = _
    by_cases ha : a = gS σ
    · rw [ha, if_pos (by omega), pIs_a, if_neg (by omega)]
      by_cases hi : i < 0 + ws.length
      · rw [if_pos hi]; simp
      · rw [if_neg hi]
        rw [List.getD_eq_getElem?_getD, List.getElem?_eq_none (by omega)]
        simp [gI, pN, u1, gS]
    · have h9 : ¬ a = o + 2 := by omega
      rw [pIs_o _ _ _ _ _ _ ha, gI_old ha, h4 a i (by omega) q2]
      simp [h9]
  · rw [eS] at q1
    show gL (pIs (pN σ _) (gS σ) 0 ws) a i = _
    rw [e4]
    by_cases ha : a = gS σ
    · rw [ha]; simp [gL, pN, u1, gS]
    · rw [gL_old ha]; exact h5 a i (by omega) q2
  · refine (gR_off (by omega)).trans ?_
    rw [e3]; exact (gR_old (by omega)).trans ((h6 a ha).2 i).1
  · show gI (pIs (pN σ _) (gS σ) 0 ws) a i = _
    rw [pIs_o _ _ _ _ _ _ (by omega)]; exact (gI_old (by omega)).trans ((h6 a ha).2 i).2.1
  · show gL (pIs (pN σ _) (gS σ) 0 ws) a i = _
    rw [e4]; exact (gL_old (by omega)).trans ((h6 a ha).2 i).2.2
  · rw [eS] at ha
    rw [eT]; exact (gT_old (by omega)).trans (h7 w a (by omega))
abbrev rm_X6_init : Room := { frames := 2, cells := 32, slots := 242450, locals := 42 }
theorem met_X6_init (o : Nat) (σ0 σ : Hp) (Q : Hp → Prop) (m0 : MI o 0 [] 0 σ0 σ) (h : ∀ s, MI o 32 ws1 (-1) σ0 s → wp_X6_keepText o (f_X6_plain o s) Q) : MetX yX6_init cX6_init 1 none rm_X6_init σ [.ref o] (oV (fun σ' => ∃ s, MI o 32 ws1 (-1) σ0 s ∧ SH s σ' ∧ Q σ')) 32 242450 := by
  refine metI_of (own := RX6) (lvs := [(0, .ref o)]) (by decide) rfl rfl (Nat.le_of_ble_eq_true rfl) rfl (fun G rq hin => ?_)
  refine x_aload_n dX6_init_0 (n := 1) rfl rfl 0 rfl ?_
  refine x_oinit q1509 q174 q175 (by decide) dX6_init_1 (n := 4) rfl ?_
  refine x_aload_n dX6_init_4 (n := 5) rfl rfl 0 rfl ?_
  refine x_sipush dX6_init_5 (n := 8) rfl sp_900 ?_
  refine x_newa (atype := .int) (N := 900) q339 rfl at_int ⟨rfl, by decide, by decide⟩ (by decide) (by decide) (by decide) (by decide) dX6_init_8 (n := 10) rfl ?_
  refine x_putFr hin ff_X6_7_0 rfl m0.oT dX6_init_10 (n := 13) rfl ?_
  refine x_tops (fun s1 e1 => ?_)
  have m1 : MI o 1 [] 0 σ0 s1 := by rw [e1]; exact MI.step (f := 0) (ty := .int) (N := 900) m0 rfl (by decide) (by decide)
  clear e1
  refine x_aload_n dX6_init_13 (n := 14) rfl rfl 0 rfl ?_
  refine x_bipush dX6_init_14 (n := 16) rfl bp_118 ?_
  refine x_newa (atype := .int) (N := 118) q339 rfl at_int ⟨rfl, by decide, by decide⟩ (by decide) (by decide) (by decide) (by decide) dX6_init_16 (n := 18) rfl ?_
  refine x_dup dX6_init_18 (n := 19) rfl rfl ?_
  refine x_iconst dX6_init_19 (n := 20) rfl ic_0 ?_
  refine x_bipush dX6_init_20 (n := 22) rfl bp_108 ?_
  refine x_iast (gT_new (σ := s1) (t := .inr (.int, 118))) (vin_of (by decide) tn_0 rfl) tn_0 dX6_init_22 (n := 23) rfl ?_
  refine x_dup dX6_init_23 (n := 24) rfl rfl ?_
  refine x_iconst dX6_init_24 (n := 25) rfl ic_1 ?_
  refine x_bipush dX6_init_25 (n := 27) rfl bp_97 ?_
  refine x_iast (gT_new (σ := s1) (t := .inr (.int, 118))) (vin_of (by decide) tn_1 rfl) tn_1 dX6_init_27 (n := 28) rfl ?_
  refine x_dup dX6_init_28 (n := 29) rfl rfl ?_
  refine x_iconst dX6_init_29 (n := 30) rfl ic_2 ?_
  refine x_bipush dX6_init_30 (n := 32) rfl bp_110 ?_
  refine x_iast (gT_new (σ := s1) (t := .inr (.int, 118))) (vin_of (by decide) tn_2 rfl) tn_2 dX6_init_32 (n := 33) rfl ?_
  refine x_dup dX6_init_33 (n := 34) rfl rfl ?_
  refine x_iconst dX6_init_34 (n := 35) rfl ic_3 ?_
  refine x_bipush dX6_init_35 (n := 37) rfl bp_100 ?_
  refine x_iast (gT_new (σ := s1) (t := .inr (.int, 118))) (vin_of (by decide) tn_3 rfl) tn_3 dX6_init_37 (n := 38) rfl ?_
  refine x_dup dX6_init_38 (n := 39) rfl rfl ?_
  refine x_iconst dX6_init_39 (n := 40) rfl ic_4 ?_
  refine x_bipush dX6_init_40 (n := 42) rfl bp_32 ?_
  refine x_iast (gT_new (σ := s1) (t := .inr (.int, 118))) (vin_of (by decide) tn_4 rfl) tn_4 dX6_init_42 (n := 43) rfl ?_
  refine x_dup dX6_init_43 (n := 44) rfl rfl ?_
  refine x_iconst dX6_init_44 (n := 45) rfl ic_5 ?_
  refine x_bipush dX6_init_45 (n := 47) rfl bp_102 ?_
  refine x_iast (gT_new (σ := s1) (t := .inr (.int, 118))) (vin_of (by decide) tn_5 rfl) tn_5 dX6_init_47 (n := 48) rfl ?_
  refine x_dup dX6_init_48 (n := 49) rfl rfl ?_
  refine x_bipush dX6_init_49 (n := 51) rfl bp_6 ?_
  refine x_bipush dX6_init_51 (n := 53) rfl bp_101 ?_
  refine x_iast (gT_new (σ := s1) (t := .inr (.int, 118))) (vin_of (by decide) tn_6 rfl) tn_6 dX6_init_53 (n := 54) rfl ?_
  refine x_dup dX6_init_54 (n := 55) rfl rfl ?_
  refine x_bipush dX6_init_55 (n := 57) rfl bp_7 ?_
  refine x_bipush dX6_init_57 (n := 59) rfl bp_97 ?_
  refine x_iast (gT_new (σ := s1) (t := .inr (.int, 118))) (vin_of (by decide) tn_7 rfl) tn_7 dX6_init_59 (n := 60) rfl ?_
  refine x_dup dX6_init_60 (n := 61) rfl rfl ?_
  refine x_bipush dX6_init_61 (n := 63) rfl bp_8 ?_
  refine x_bipush dX6_init_63 (n := 65) rfl bp_115 ?_
  refine x_iast (gT_new (σ := s1) (t := .inr (.int, 118))) (vin_of (by decide) tn_8 rfl) tn_8 dX6_init_65 (n := 66) rfl ?_
  refine x_dup dX6_init_66 (n := 67) rfl rfl ?_
  refine x_bipush dX6_init_67 (n := 69) rfl bp_9 ?_
  refine x_bipush dX6_init_69 (n := 71) rfl bp_116 ?_
  refine x_iast (gT_new (σ := s1) (t := .inr (.int, 118))) (vin_of (by decide) tn_9 rfl) tn_9 dX6_init_71 (n := 72) rfl ?_
  refine x_dup dX6_init_72 (n := 73) rfl rfl ?_
  refine x_bipush dX6_init_73 (n := 75) rfl bp_10 ?_
  refine x_bipush dX6_init_75 (n := 77) rfl bp_32 ?_
  refine x_iast (gT_new (σ := s1) (t := .inr (.int, 118))) (vin_of (by decide) tn_10 rfl) tn_10 dX6_init_77 (n := 78) rfl ?_
  refine x_dup dX6_init_78 (n := 79) rfl rfl ?_
  refine x_bipush dX6_init_79 (n := 81) rfl bp_11 ?_
  refine x_bipush dX6_init_81 (n := 83) rfl bp_112 ?_
  refine x_iast (gT_new (σ := s1) (t := .inr (.int, 118))) (vin_of (by decide) tn_11 rfl) tn_11 dX6_init_83 (n := 84) rfl ?_
  refine x_dup dX6_init_84 (n := 85) rfl rfl ?_
  refine x_bipush dX6_init_85 (n := 87) rfl bp_12 ?_
  refine x_bipush dX6_init_87 (n := 89) rfl bp_101 ?_
  refine x_iast (gT_new (σ := s1) (t := .inr (.int, 118))) (vin_of (by decide) tn_12 rfl) tn_12 dX6_init_89 (n := 90) rfl ?_
  refine x_dup dX6_init_90 (n := 91) rfl rfl ?_
  refine x_bipush dX6_init_91 (n := 93) rfl bp_13 ?_
  refine x_bipush dX6_init_93 (n := 95) rfl bp_114 ?_
  refine x_iast (gT_new (σ := s1) (t := .inr (.int, 118))) (vin_of (by decide) tn_13 rfl) tn_13 dX6_init_95 (n := 96) rfl ?_
  refine x_dup dX6_init_96 (n := 97) rfl rfl ?_
  refine x_bipush dX6_init_97 (n := 99) rfl bp_14 ?_
  refine x_bipush dX6_init_99 (n := 101) rfl bp_115 ?_
  refine x_iast (gT_new (σ := s1) (t := .inr (.int, 118))) (vin_of (by decide) tn_14 rfl) tn_14 dX6_init_101 (n := 102) rfl ?_
  refine x_dup dX6_init_102 (n := 103) rfl rfl ?_
  refine x_bipush dX6_init_103 (n := 105) rfl bp_15 ?_
  refine x_bipush dX6_init_105 (n := 107) rfl bp_111 ?_
  refine x_iast (gT_new (σ := s1) (t := .inr (.int, 118))) (vin_of (by decide) tn_15 rfl) tn_15 dX6_init_107 (n := 108) rfl ?_
  refine x_dup dX6_init_108 (n := 109) rfl rfl ?_
  refine x_bipush dX6_init_109 (n := 111) rfl bp_16 ?_
  refine x_bipush dX6_init_111 (n := 113) rfl bp_110 ?_
  refine x_iast (gT_new (σ := s1) (t := .inr (.int, 118))) (vin_of (by decide) tn_16 rfl) tn_16 dX6_init_113 (n := 114) rfl ?_
  refine x_dup dX6_init_114 (n := 115) rfl rfl ?_
  refine x_bipush dX6_init_115 (n := 117) rfl bp_17 ?_
  refine x_bipush dX6_init_117 (n := 119) rfl bp_32 ?_
  refine x_iast (gT_new (σ := s1) (t := .inr (.int, 118))) (vin_of (by decide) tn_17 rfl) tn_17 dX6_init_119 (n := 120) rfl ?_
  refine x_dup dX6_init_120 (n := 121) rfl rfl ?_
  refine x_bipush dX6_init_121 (n := 123) rfl bp_18 ?_
  refine x_bipush dX6_init_123 (n := 125) rfl bp_100 ?_
  refine x_iast (gT_new (σ := s1) (t := .inr (.int, 118))) (vin_of (by decide) tn_18 rfl) tn_18 dX6_init_125 (n := 126) rfl ?_
  refine x_dup dX6_init_126 (n := 127) rfl rfl ?_
  refine x_bipush dX6_init_127 (n := 129) rfl bp_19 ?_
  refine x_bipush dX6_init_129 (n := 131) rfl bp_101 ?_
  refine x_iast (gT_new (σ := s1) (t := .inr (.int, 118))) (vin_of (by decide) tn_19 rfl) tn_19 dX6_init_131 (n := 132) rfl ?_
  refine x_dup dX6_init_132 (n := 133) rfl rfl ?_
  refine x_bipush dX6_init_133 (n := 135) rfl bp_20 ?_
  refine x_bipush dX6_init_135 (n := 137) rfl bp_101 ?_
  refine x_iast (gT_new (σ := s1) (t := .inr (.int, 118))) (vin_of (by decide) tn_20 rfl) tn_20 dX6_init_137 (n := 138) rfl ?_
  refine x_dup dX6_init_138 (n := 139) rfl rfl ?_
  refine x_bipush dX6_init_139 (n := 141) rfl bp_21 ?_
  refine x_bipush dX6_init_141 (n := 143) rfl bp_100 ?_
  refine x_iast (gT_new (σ := s1) (t := .inr (.int, 118))) (vin_of (by decide) tn_21 rfl) tn_21 dX6_init_143 (n := 144) rfl ?_
  refine x_dup dX6_init_144 (n := 145) rfl rfl ?_
  refine x_bipush dX6_init_145 (n := 147) rfl bp_22 ?_
  refine x_bipush dX6_init_147 (n := 149) rfl bp_32 ?_
  refine x_iast (gT_new (σ := s1) (t := .inr (.int, 118))) (vin_of (by decide) tn_22 rfl) tn_22 dX6_init_149 (n := 150) rfl ?_
  refine x_dup dX6_init_150 (n := 151) rfl rfl ?_
  refine x_bipush dX6_init_151 (n := 153) rfl bp_23 ?_
  refine x_bipush dX6_init_153 (n := 155) rfl bp_110 ?_
  refine x_iast (gT_new (σ := s1) (t := .inr (.int, 118))) (vin_of (by decide) tn_23 rfl) tn_23 dX6_init_155 (n := 156) rfl ?_
  refine x_dup dX6_init_156 (n := 157) rfl rfl ?_
  refine x_bipush dX6_init_157 (n := 159) rfl bp_24 ?_
  refine x_bipush dX6_init_159 (n := 161) rfl bp_111 ?_
  refine x_iast (gT_new (σ := s1) (t := .inr (.int, 118))) (vin_of (by decide) tn_24 rfl) tn_24 dX6_init_161 (n := 162) rfl ?_
  refine x_dup dX6_init_162 (n := 163) rfl rfl ?_
  refine x_bipush dX6_init_163 (n := 165) rfl bp_25 ?_
  refine x_bipush dX6_init_165 (n := 167) rfl bp_116 ?_
  refine x_iast (gT_new (σ := s1) (t := .inr (.int, 118))) (vin_of (by decide) tn_25 rfl) tn_25 dX6_init_167 (n := 168) rfl ?_
  refine x_dup dX6_init_168 (n := 169) rfl rfl ?_
  refine x_bipush dX6_init_169 (n := 171) rfl bp_26 ?_
  refine x_bipush dX6_init_171 (n := 173) rfl bp_101 ?_
  refine x_iast (gT_new (σ := s1) (t := .inr (.int, 118))) (vin_of (by decide) tn_26 rfl) tn_26 dX6_init_173 (n := 174) rfl ?_
  refine x_dup dX6_init_174 (n := 175) rfl rfl ?_
  refine x_bipush dX6_init_175 (n := 177) rfl bp_27 ?_
  refine x_bipush dX6_init_177 (n := 179) rfl bp_32 ?_
  refine x_iast (gT_new (σ := s1) (t := .inr (.int, 118))) (vin_of (by decide) tn_27 rfl) tn_27 dX6_init_179 (n := 180) rfl ?_
  refine x_dup dX6_init_180 (n := 181) rfl rfl ?_
  refine x_bipush dX6_init_181 (n := 183) rfl bp_28 ?_
  refine x_bipush dX6_init_183 (n := 185) rfl bp_115 ?_
  refine x_iast (gT_new (σ := s1) (t := .inr (.int, 118))) (vin_of (by decide) tn_28 rfl) tn_28 dX6_init_185 (n := 186) rfl ?_
  refine x_dup dX6_init_186 (n := 187) rfl rfl ?_
  refine x_bipush dX6_init_187 (n := 189) rfl bp_29 ?_
  refine x_bipush dX6_init_189 (n := 191) rfl bp_117 ?_
  refine x_iast (gT_new (σ := s1) (t := .inr (.int, 118))) (vin_of (by decide) tn_29 rfl) tn_29 dX6_init_191 (n := 192) rfl ?_
  refine x_dup dX6_init_192 (n := 193) rfl rfl ?_
  refine x_bipush dX6_init_193 (n := 195) rfl bp_30 ?_
  refine x_bipush dX6_init_195 (n := 197) rfl bp_110 ?_
  refine x_iast (gT_new (σ := s1) (t := .inr (.int, 118))) (vin_of (by decide) tn_30 rfl) tn_30 dX6_init_197 (n := 198) rfl ?_
  refine x_dup dX6_init_198 (n := 199) rfl rfl ?_
  refine x_bipush dX6_init_199 (n := 201) rfl bp_31 ?_
  refine x_bipush dX6_init_201 (n := 203) rfl bp_32 ?_
  refine x_iast (gT_new (σ := s1) (t := .inr (.int, 118))) (vin_of (by decide) tn_31 rfl) tn_31 dX6_init_203 (n := 204) rfl ?_
  refine x_dup dX6_init_204 (n := 205) rfl rfl ?_
  refine x_bipush dX6_init_205 (n := 207) rfl bp_32 ?_
  refine x_bipush dX6_init_207 (n := 209) rfl bp_119 ?_
  refine x_iast (gT_new (σ := s1) (t := .inr (.int, 118))) (vin_of (by decide) tn_32 rfl) tn_32 dX6_init_209 (n := 210) rfl ?_
  refine x_dup dX6_init_210 (n := 211) rfl rfl ?_
  refine x_bipush dX6_init_211 (n := 213) rfl bp_33 ?_
  refine x_bipush dX6_init_213 (n := 215) rfl bp_101 ?_
  refine x_iast (gT_new (σ := s1) (t := .inr (.int, 118))) (vin_of (by decide) tn_33 rfl) tn_33 dX6_init_215 (n := 216) rfl ?_
  refine x_dup dX6_init_216 (n := 217) rfl rfl ?_
  refine x_bipush dX6_init_217 (n := 219) rfl bp_34 ?_
  refine x_bipush dX6_init_219 (n := 221) rfl bp_101 ?_
  refine x_iast (gT_new (σ := s1) (t := .inr (.int, 118))) (vin_of (by decide) tn_34 rfl) tn_34 dX6_init_221 (n := 222) rfl ?_
  refine x_dup dX6_init_222 (n := 223) rfl rfl ?_
  refine x_bipush dX6_init_223 (n := 225) rfl bp_35 ?_
  refine x_bipush dX6_init_225 (n := 227) rfl bp_107 ?_
  refine x_iast (gT_new (σ := s1) (t := .inr (.int, 118))) (vin_of (by decide) tn_35 rfl) tn_35 dX6_init_227 (n := 228) rfl ?_
  refine x_dup dX6_init_228 (n := 229) rfl rfl ?_
  refine x_bipush dX6_init_229 (n := 231) rfl bp_36 ?_
  refine x_bipush dX6_init_231 (n := 233) rfl bp_32 ?_
  refine x_iast (gT_new (σ := s1) (t := .inr (.int, 118))) (vin_of (by decide) tn_36 rfl) tn_36 dX6_init_233 (n := 234) rfl ?_
  refine x_dup dX6_init_234 (n := 235) rfl rfl ?_
  refine x_bipush dX6_init_235 (n := 237) rfl bp_37 ?_
  refine x_bipush dX6_init_237 (n := 239) rfl bp_109 ?_
  refine x_iast (gT_new (σ := s1) (t := .inr (.int, 118))) (vin_of (by decide) tn_37 rfl) tn_37 dX6_init_239 (n := 240) rfl ?_
  refine x_dup dX6_init_240 (n := 241) rfl rfl ?_
  refine x_bipush dX6_init_241 (n := 243) rfl bp_38 ?_
  refine x_bipush dX6_init_243 (n := 245) rfl bp_111 ?_
  refine x_iast (gT_new (σ := s1) (t := .inr (.int, 118))) (vin_of (by decide) tn_38 rfl) tn_38 dX6_init_245 (n := 246) rfl ?_
  refine x_dup dX6_init_246 (n := 247) rfl rfl ?_
  refine x_bipush dX6_init_247 (n := 249) rfl bp_39 ?_
  refine x_bipush dX6_init_249 (n := 251) rfl bp_111 ?_
  refine x_iast (gT_new (σ := s1) (t := .inr (.int, 118))) (vin_of (by decide) tn_39 rfl) tn_39 dX6_init_251 (n := 252) rfl ?_
  refine x_dup dX6_init_252 (n := 253) rfl rfl ?_
  refine x_bipush dX6_init_253 (n := 255) rfl bp_40 ?_
  refine x_bipush dX6_init_255 (n := 257) rfl bp_110 ?_
  refine x_iast (gT_new (σ := s1) (t := .inr (.int, 118))) (vin_of (by decide) tn_40 rfl) tn_40 dX6_init_257 (n := 258) rfl ?_
  refine x_dup dX6_init_258 (n := 259) rfl rfl ?_
  refine x_bipush dX6_init_259 (n := 261) rfl bp_41 ?_
  refine x_bipush dX6_init_261 (n := 263) rfl bp_32 ?_
  refine x_iast (gT_new (σ := s1) (t := .inr (.int, 118))) (vin_of (by decide) tn_41 rfl) tn_41 dX6_init_263 (n := 264) rfl ?_
  refine x_dup dX6_init_264 (n := 265) rfl rfl ?_
  refine x_bipush dX6_init_265 (n := 267) rfl bp_42 ?_
  refine x_bipush dX6_init_267 (n := 269) rfl bp_102 ?_
  refine x_iast (gT_new (σ := s1) (t := .inr (.int, 118))) (vin_of (by decide) tn_42 rfl) tn_42 dX6_init_269 (n := 270) rfl ?_
  refine x_dup dX6_init_270 (n := 271) rfl rfl ?_
  refine x_bipush dX6_init_271 (n := 273) rfl bp_43 ?_
  refine x_bipush dX6_init_273 (n := 275) rfl bp_114 ?_
  refine x_iast (gT_new (σ := s1) (t := .inr (.int, 118))) (vin_of (by decide) tn_43 rfl) tn_43 dX6_init_275 (n := 276) rfl ?_
  refine x_dup dX6_init_276 (n := 277) rfl rfl ?_
  refine x_bipush dX6_init_277 (n := 279) rfl bp_44 ?_
  refine x_bipush dX6_init_279 (n := 281) rfl bp_111 ?_
  refine x_iast (gT_new (σ := s1) (t := .inr (.int, 118))) (vin_of (by decide) tn_44 rfl) tn_44 dX6_init_281 (n := 282) rfl ?_
  refine x_dup dX6_init_282 (n := 283) rfl rfl ?_
  refine x_bipush dX6_init_283 (n := 285) rfl bp_45 ?_
  refine x_bipush dX6_init_285 (n := 287) rfl bp_109 ?_
  refine x_iast (gT_new (σ := s1) (t := .inr (.int, 118))) (vin_of (by decide) tn_45 rfl) tn_45 dX6_init_287 (n := 288) rfl ?_
  refine x_dup dX6_init_288 (n := 289) rfl rfl ?_
  refine x_bipush dX6_init_289 (n := 291) rfl bp_46 ?_
  refine x_bipush dX6_init_291 (n := 293) rfl bp_32 ?_
  refine x_iast (gT_new (σ := s1) (t := .inr (.int, 118))) (vin_of (by decide) tn_46 rfl) tn_46 dX6_init_293 (n := 294) rfl ?_
  refine x_dup dX6_init_294 (n := 295) rfl rfl ?_
  refine x_bipush dX6_init_295 (n := 297) rfl bp_47 ?_
  refine x_bipush dX6_init_297 (n := 299) rfl bp_100 ?_
  refine x_iast (gT_new (σ := s1) (t := .inr (.int, 118))) (vin_of (by decide) tn_47 rfl) tn_47 dX6_init_299 (n := 300) rfl ?_
  refine x_dup dX6_init_300 (n := 301) rfl rfl ?_
  refine x_bipush dX6_init_301 (n := 303) rfl bp_48 ?_
  refine x_bipush dX6_init_303 (n := 305) rfl bp_105 ?_
  refine x_iast (gT_new (σ := s1) (t := .inr (.int, 118))) (vin_of (by decide) tn_48 rfl) tn_48 dX6_init_305 (n := 306) rfl ?_
  refine x_dup dX6_init_306 (n := 307) rfl rfl ?_
  refine x_bipush dX6_init_307 (n := 309) rfl bp_49 ?_
  refine x_bipush dX6_init_309 (n := 311) rfl bp_101 ?_
  refine x_iast (gT_new (σ := s1) (t := .inr (.int, 118))) (vin_of (by decide) tn_49 rfl) tn_49 dX6_init_311 (n := 312) rfl ?_
  refine x_dup dX6_init_312 (n := 313) rfl rfl ?_
  refine x_bipush dX6_init_313 (n := 315) rfl bp_50 ?_
  refine x_bipush dX6_init_315 (n := 317) rfl bp_100 ?_
  refine x_iast (gT_new (σ := s1) (t := .inr (.int, 118))) (vin_of (by decide) tn_50 rfl) tn_50 dX6_init_317 (n := 318) rfl ?_
  refine x_dup dX6_init_318 (n := 319) rfl rfl ?_
  refine x_bipush dX6_init_319 (n := 321) rfl bp_51 ?_
  refine x_bipush dX6_init_321 (n := 323) rfl bp_32 ?_
  refine x_iast (gT_new (σ := s1) (t := .inr (.int, 118))) (vin_of (by decide) tn_51 rfl) tn_51 dX6_init_323 (n := 324) rfl ?_
  refine x_dup dX6_init_324 (n := 325) rfl rfl ?_
  refine x_bipush dX6_init_325 (n := 327) rfl bp_52 ?_
  refine x_bipush dX6_init_327 (n := 329) rfl bp_121 ?_
  refine x_iast (gT_new (σ := s1) (t := .inr (.int, 118))) (vin_of (by decide) tn_52 rfl) tn_52 dX6_init_329 (n := 330) rfl ?_
  refine x_dup dX6_init_330 (n := 331) rfl rfl ?_
  refine x_bipush dX6_init_331 (n := 333) rfl bp_53 ?_
  refine x_bipush dX6_init_333 (n := 335) rfl bp_101 ?_
  refine x_iast (gT_new (σ := s1) (t := .inr (.int, 118))) (vin_of (by decide) tn_53 rfl) tn_53 dX6_init_335 (n := 336) rfl ?_
  refine x_dup dX6_init_336 (n := 337) rfl rfl ?_
  refine x_bipush dX6_init_337 (n := 339) rfl bp_54 ?_
  refine x_bipush dX6_init_339 (n := 341) rfl bp_97 ?_
  refine x_iast (gT_new (σ := s1) (t := .inr (.int, 118))) (vin_of (by decide) tn_54 rfl) tn_54 dX6_init_341 (n := 342) rfl ?_
  refine x_dup dX6_init_342 (n := 343) rfl rfl ?_
  refine x_bipush dX6_init_343 (n := 345) rfl bp_55 ?_
  refine x_bipush dX6_init_345 (n := 347) rfl bp_114 ?_
  refine x_iast (gT_new (σ := s1) (t := .inr (.int, 118))) (vin_of (by decide) tn_55 rfl) tn_55 dX6_init_347 (n := 348) rfl ?_
  refine x_dup dX6_init_348 (n := 349) rfl rfl ?_
  refine x_bipush dX6_init_349 (n := 351) rfl bp_56 ?_
  refine x_bipush dX6_init_351 (n := 353) rfl bp_115 ?_
  refine x_iast (gT_new (σ := s1) (t := .inr (.int, 118))) (vin_of (by decide) tn_56 rfl) tn_56 dX6_init_353 (n := 354) rfl ?_
  refine x_dup dX6_init_354 (n := 355) rfl rfl ?_
  refine x_bipush dX6_init_355 (n := 357) rfl bp_57 ?_
  refine x_bipush dX6_init_357 (n := 359) rfl bp_32 ?_
  refine x_iast (gT_new (σ := s1) (t := .inr (.int, 118))) (vin_of (by decide) tn_57 rfl) tn_57 dX6_init_359 (n := 360) rfl ?_
  refine x_dup dX6_init_360 (n := 361) rfl rfl ?_
  refine x_bipush dX6_init_361 (n := 363) rfl bp_58 ?_
  refine x_bipush dX6_init_363 (n := 365) rfl bp_100 ?_
  refine x_iast (gT_new (σ := s1) (t := .inr (.int, 118))) (vin_of (by decide) tn_58 rfl) tn_58 dX6_init_365 (n := 366) rfl ?_
  refine x_dup dX6_init_366 (n := 367) rfl rfl ?_
  refine x_bipush dX6_init_367 (n := 369) rfl bp_59 ?_
  refine x_bipush dX6_init_369 (n := 371) rfl bp_97 ?_
  refine x_iast (gT_new (σ := s1) (t := .inr (.int, 118))) (vin_of (by decide) tn_59 rfl) tn_59 dX6_init_371 (n := 372) rfl ?_
  refine x_dup dX6_init_372 (n := 373) rfl rfl ?_
  refine x_bipush dX6_init_373 (n := 375) rfl bp_60 ?_
  refine x_bipush dX6_init_375 (n := 377) rfl bp_121 ?_
  refine x_iast (gT_new (σ := s1) (t := .inr (.int, 118))) (vin_of (by decide) tn_60 rfl) tn_60 dX6_init_377 (n := 378) rfl ?_
  refine x_dup dX6_init_378 (n := 379) rfl rfl ?_
  refine x_bipush dX6_init_379 (n := 381) rfl bp_61 ?_
  refine x_bipush dX6_init_381 (n := 383) rfl bp_115 ?_
  refine x_iast (gT_new (σ := s1) (t := .inr (.int, 118))) (vin_of (by decide) tn_61 rfl) tn_61 dX6_init_383 (n := 384) rfl ?_
  refine x_dup dX6_init_384 (n := 385) rfl rfl ?_
  refine x_bipush dX6_init_385 (n := 387) rfl bp_62 ?_
  refine x_bipush dX6_init_387 (n := 389) rfl bp_32 ?_
  refine x_iast (gT_new (σ := s1) (t := .inr (.int, 118))) (vin_of (by decide) tn_62 rfl) tn_62 dX6_init_389 (n := 390) rfl ?_
  refine x_dup dX6_init_390 (n := 391) rfl rfl ?_
  refine x_bipush dX6_init_391 (n := 393) rfl bp_63 ?_
  refine x_bipush dX6_init_393 (n := 395) rfl bp_116 ?_
  refine x_iast (gT_new (σ := s1) (t := .inr (.int, 118))) (vin_of (by decide) tn_63 rfl) tn_63 dX6_init_395 (n := 396) rfl ?_
  refine x_dup dX6_init_396 (n := 397) rfl rfl ?_
  refine x_bipush dX6_init_397 (n := 399) rfl bp_64 ?_
  refine x_bipush dX6_init_399 (n := 401) rfl bp_105 ?_
  refine x_iast (gT_new (σ := s1) (t := .inr (.int, 118))) (vin_of (by decide) tn_64 rfl) tn_64 dX6_init_401 (n := 402) rfl ?_
  refine x_dup dX6_init_402 (n := 403) rfl rfl ?_
  refine x_bipush dX6_init_403 (n := 405) rfl bp_65 ?_
  refine x_bipush dX6_init_405 (n := 407) rfl bp_108 ?_
  refine x_iast (gT_new (σ := s1) (t := .inr (.int, 118))) (vin_of (by decide) tn_65 rfl) tn_65 dX6_init_407 (n := 408) rfl ?_
  refine x_dup dX6_init_408 (n := 409) rfl rfl ?_
  refine x_bipush dX6_init_409 (n := 411) rfl bp_66 ?_
  refine x_bipush dX6_init_411 (n := 413) rfl bp_108 ?_
  refine x_iast (gT_new (σ := s1) (t := .inr (.int, 118))) (vin_of (by decide) tn_66 rfl) tn_66 dX6_init_413 (n := 414) rfl ?_
  refine x_dup dX6_init_414 (n := 415) rfl rfl ?_
  refine x_bipush dX6_init_415 (n := 417) rfl bp_67 ?_
  refine x_bipush dX6_init_417 (n := 419) rfl bp_32 ?_
  refine x_iast (gT_new (σ := s1) (t := .inr (.int, 118))) (vin_of (by decide) tn_67 rfl) tn_67 dX6_init_419 (n := 420) rfl ?_
  refine x_dup dX6_init_420 (n := 421) rfl rfl ?_
  refine x_bipush dX6_init_421 (n := 423) rfl bp_68 ?_
  refine x_bipush dX6_init_423 (n := 425) rfl bp_112 ?_
  refine x_iast (gT_new (σ := s1) (t := .inr (.int, 118))) (vin_of (by decide) tn_68 rfl) tn_68 dX6_init_425 (n := 426) rfl ?_
  refine x_dup dX6_init_426 (n := 427) rfl rfl ?_
  refine x_bipush dX6_init_427 (n := 429) rfl bp_69 ?_
  refine x_bipush dX6_init_429 (n := 431) rfl bp_97 ?_
  refine x_iast (gT_new (σ := s1) (t := .inr (.int, 118))) (vin_of (by decide) tn_69 rfl) tn_69 dX6_init_431 (n := 432) rfl ?_
  refine x_dup dX6_init_432 (n := 433) rfl rfl ?_
  refine x_bipush dX6_init_433 (n := 435) rfl bp_70 ?_
  refine x_bipush dX6_init_435 (n := 437) rfl bp_121 ?_
  refine x_iast (gT_new (σ := s1) (t := .inr (.int, 118))) (vin_of (by decide) tn_70 rfl) tn_70 dX6_init_437 (n := 438) rfl ?_
  refine x_dup dX6_init_438 (n := 439) rfl rfl ?_
  refine x_bipush dX6_init_439 (n := 441) rfl bp_71 ?_
  refine x_bipush dX6_init_441 (n := 443) rfl bp_32 ?_
  refine x_iast (gT_new (σ := s1) (t := .inr (.int, 118))) (vin_of (by decide) tn_71 rfl) tn_71 dX6_init_443 (n := 444) rfl ?_
  refine x_dup dX6_init_444 (n := 445) rfl rfl ?_
  refine x_bipush dX6_init_445 (n := 447) rfl bp_72 ?_
  refine x_bipush dX6_init_447 (n := 449) rfl bp_97 ?_
  refine x_iast (gT_new (σ := s1) (t := .inr (.int, 118))) (vin_of (by decide) tn_72 rfl) tn_72 dX6_init_449 (n := 450) rfl ?_
  refine x_dup dX6_init_450 (n := 451) rfl rfl ?_
  refine x_bipush dX6_init_451 (n := 453) rfl bp_73 ?_
  refine x_bipush dX6_init_453 (n := 455) rfl bp_108 ?_
  refine x_iast (gT_new (σ := s1) (t := .inr (.int, 118))) (vin_of (by decide) tn_73 rfl) tn_73 dX6_init_455 (n := 456) rfl ?_
  refine x_dup dX6_init_456 (n := 457) rfl rfl ?_
  refine x_bipush dX6_init_457 (n := 459) rfl bp_74 ?_
  refine x_bipush dX6_init_459 (n := 461) rfl bp_105 ?_
  refine x_iast (gT_new (σ := s1) (t := .inr (.int, 118))) (vin_of (by decide) tn_74 rfl) tn_74 dX6_init_461 (n := 462) rfl ?_
  refine x_dup dX6_init_462 (n := 463) rfl rfl ?_
  refine x_bipush dX6_init_463 (n := 465) rfl bp_75 ?_
  refine x_bipush dX6_init_465 (n := 467) rfl bp_118 ?_
  refine x_iast (gT_new (σ := s1) (t := .inr (.int, 118))) (vin_of (by decide) tn_75 rfl) tn_75 dX6_init_467 (n := 468) rfl ?_
  refine x_dup dX6_init_468 (n := 469) rfl rfl ?_
  refine x_bipush dX6_init_469 (n := 471) rfl bp_76 ?_
  refine x_bipush dX6_init_471 (n := 473) rfl bp_101 ?_
  refine x_iast (gT_new (σ := s1) (t := .inr (.int, 118))) (vin_of (by decide) tn_76 rfl) tn_76 dX6_init_473 (n := 474) rfl ?_
  refine x_dup dX6_init_474 (n := 475) rfl rfl ?_
  refine x_bipush dX6_init_475 (n := 477) rfl bp_77 ?_
  refine x_bipush dX6_init_477 (n := 479) rfl bp_32 ?_
  refine x_iast (gT_new (σ := s1) (t := .inr (.int, 118))) (vin_of (by decide) tn_77 rfl) tn_77 dX6_init_479 (n := 480) rfl ?_
  refine x_dup dX6_init_480 (n := 481) rfl rfl ?_
  refine x_bipush dX6_init_481 (n := 483) rfl bp_78 ?_
  refine x_bipush dX6_init_483 (n := 485) rfl bp_97 ?_
  refine x_iast (gT_new (σ := s1) (t := .inr (.int, 118))) (vin_of (by decide) tn_78 rfl) tn_78 dX6_init_485 (n := 486) rfl ?_
  refine x_dup dX6_init_486 (n := 487) rfl rfl ?_
  refine x_bipush dX6_init_487 (n := 489) rfl bp_79 ?_
  refine x_bipush dX6_init_489 (n := 491) rfl bp_102 ?_
  refine x_iast (gT_new (σ := s1) (t := .inr (.int, 118))) (vin_of (by decide) tn_79 rfl) tn_79 dX6_init_491 (n := 492) rfl ?_
  refine x_dup dX6_init_492 (n := 493) rfl rfl ?_
  refine x_bipush dX6_init_493 (n := 495) rfl bp_80 ?_
  refine x_bipush dX6_init_495 (n := 497) rfl bp_116 ?_
  refine x_iast (gT_new (σ := s1) (t := .inr (.int, 118))) (vin_of (by decide) tn_80 rfl) tn_80 dX6_init_497 (n := 498) rfl ?_
  refine x_dup dX6_init_498 (n := 499) rfl rfl ?_
  refine x_bipush dX6_init_499 (n := 501) rfl bp_81 ?_
  refine x_bipush dX6_init_501 (n := 503) rfl bp_101 ?_
  refine x_iast (gT_new (σ := s1) (t := .inr (.int, 118))) (vin_of (by decide) tn_81 rfl) tn_81 dX6_init_503 (n := 504) rfl ?_
  refine x_dup dX6_init_504 (n := 505) rfl rfl ?_
  refine x_bipush dX6_init_505 (n := 507) rfl bp_82 ?_
  refine x_bipush dX6_init_507 (n := 509) rfl bp_114 ?_
  refine x_iast (gT_new (σ := s1) (t := .inr (.int, 118))) (vin_of (by decide) tn_82 rfl) tn_82 dX6_init_509 (n := 510) rfl ?_
  refine x_dup dX6_init_510 (n := 511) rfl rfl ?_
  refine x_bipush dX6_init_511 (n := 513) rfl bp_83 ?_
  refine x_bipush dX6_init_513 (n := 515) rfl bp_32 ?_
  refine x_iast (gT_new (σ := s1) (t := .inr (.int, 118))) (vin_of (by decide) tn_83 rfl) tn_83 dX6_init_515 (n := 516) rfl ?_
  refine x_dup dX6_init_516 (n := 517) rfl rfl ?_
  refine x_bipush dX6_init_517 (n := 519) rfl bp_84 ?_
  refine x_bipush dX6_init_519 (n := 521) rfl bp_97 ?_
  refine x_iast (gT_new (σ := s1) (t := .inr (.int, 118))) (vin_of (by decide) tn_84 rfl) tn_84 dX6_init_521 (n := 522) rfl ?_
  refine x_dup dX6_init_522 (n := 523) rfl rfl ?_
  refine x_bipush dX6_init_523 (n := 525) rfl bp_85 ?_
  refine x_bipush dX6_init_525 (n := 527) rfl bp_110 ?_
  refine x_iast (gT_new (σ := s1) (t := .inr (.int, 118))) (vin_of (by decide) tn_85 rfl) tn_85 dX6_init_527 (n := 528) rfl ?_
  refine x_dup dX6_init_528 (n := 529) rfl rfl ?_
  refine x_bipush dX6_init_529 (n := 531) rfl bp_86 ?_
  refine x_bipush dX6_init_531 (n := 533) rfl bp_100 ?_
  refine x_iast (gT_new (σ := s1) (t := .inr (.int, 118))) (vin_of (by decide) tn_86 rfl) tn_86 dX6_init_533 (n := 534) rfl ?_
  refine x_dup dX6_init_534 (n := 535) rfl rfl ?_
  refine x_bipush dX6_init_535 (n := 537) rfl bp_87 ?_
  refine x_bipush dX6_init_537 (n := 539) rfl bp_32 ?_
  refine x_iast (gT_new (σ := s1) (t := .inr (.int, 118))) (vin_of (by decide) tn_87 rfl) tn_87 dX6_init_539 (n := 540) rfl ?_
  refine x_dup dX6_init_540 (n := 541) rfl rfl ?_
  refine x_bipush dX6_init_541 (n := 543) rfl bp_88 ?_
  refine x_bipush dX6_init_543 (n := 545) rfl bp_111 ?_
  refine x_iast (gT_new (σ := s1) (t := .inr (.int, 118))) (vin_of (by decide) tn_88 rfl) tn_88 dX6_init_545 (n := 546) rfl ?_
  refine x_dup dX6_init_546 (n := 547) rfl rfl ?_
  refine x_bipush dX6_init_547 (n := 549) rfl bp_89 ?_
  refine x_bipush dX6_init_549 (n := 551) rfl bp_114 ?_
  refine x_iast (gT_new (σ := s1) (t := .inr (.int, 118))) (vin_of (by decide) tn_89 rfl) tn_89 dX6_init_551 (n := 552) rfl ?_
  refine x_dup dX6_init_552 (n := 553) rfl rfl ?_
  refine x_bipush dX6_init_553 (n := 555) rfl bp_90 ?_
  refine x_bipush dX6_init_555 (n := 557) rfl bp_32 ?_
  refine x_iast (gT_new (σ := s1) (t := .inr (.int, 118))) (vin_of (by decide) tn_90 rfl) tn_90 dX6_init_557 (n := 558) rfl ?_
  refine x_dup dX6_init_558 (n := 559) rfl rfl ?_
  refine x_bipush dX6_init_559 (n := 561) rfl bp_91 ?_
  refine x_bipush dX6_init_561 (n := 563) rfl bp_110 ?_
  refine x_iast (gT_new (σ := s1) (t := .inr (.int, 118))) (vin_of (by decide) tn_91 rfl) tn_91 dX6_init_563 (n := 564) rfl ?_
  refine x_dup dX6_init_564 (n := 565) rfl rfl ?_
  refine x_bipush dX6_init_565 (n := 567) rfl bp_92 ?_
  refine x_bipush dX6_init_567 (n := 569) rfl bp_111 ?_
  refine x_iast (gT_new (σ := s1) (t := .inr (.int, 118))) (vin_of (by decide) tn_92 rfl) tn_92 dX6_init_569 (n := 570) rfl ?_
  refine x_dup dX6_init_570 (n := 571) rfl rfl ?_
  refine x_bipush dX6_init_571 (n := 573) rfl bp_93 ?_
  refine x_bipush dX6_init_573 (n := 575) rfl bp_116 ?_
  refine x_iast (gT_new (σ := s1) (t := .inr (.int, 118))) (vin_of (by decide) tn_93 rfl) tn_93 dX6_init_575 (n := 576) rfl ?_
  refine x_dup dX6_init_576 (n := 577) rfl rfl ?_
  refine x_bipush dX6_init_577 (n := 579) rfl bp_94 ?_
  refine x_bipush dX6_init_579 (n := 581) rfl bp_32 ?_
  refine x_iast (gT_new (σ := s1) (t := .inr (.int, 118))) (vin_of (by decide) tn_94 rfl) tn_94 dX6_init_581 (n := 582) rfl ?_
  refine x_dup dX6_init_582 (n := 583) rfl rfl ?_
  refine x_bipush dX6_init_583 (n := 585) rfl bp_95 ?_
  refine x_bipush dX6_init_585 (n := 587) rfl bp_100 ?_
  refine x_iast (gT_new (σ := s1) (t := .inr (.int, 118))) (vin_of (by decide) tn_95 rfl) tn_95 dX6_init_587 (n := 588) rfl ?_
  refine x_dup dX6_init_588 (n := 589) rfl rfl ?_
  refine x_bipush dX6_init_589 (n := 591) rfl bp_96 ?_
  refine x_bipush dX6_init_591 (n := 593) rfl bp_97 ?_
  refine x_iast (gT_new (σ := s1) (t := .inr (.int, 118))) (vin_of (by decide) tn_96 rfl) tn_96 dX6_init_593 (n := 594) rfl ?_
  refine x_dup dX6_init_594 (n := 595) rfl rfl ?_
  refine x_bipush dX6_init_595 (n := 597) rfl bp_97 ?_
  refine x_bipush dX6_init_597 (n := 599) rfl bp_121 ?_
  refine x_iast (gT_new (σ := s1) (t := .inr (.int, 118))) (vin_of (by decide) tn_97 rfl) tn_97 dX6_init_599 (n := 600) rfl ?_
  refine x_dup dX6_init_600 (n := 601) rfl rfl ?_
  refine x_bipush dX6_init_601 (n := 603) rfl bp_98 ?_
  refine x_bipush dX6_init_603 (n := 605) rfl bp_32 ?_
  refine x_iast (gT_new (σ := s1) (t := .inr (.int, 118))) (vin_of (by decide) tn_98 rfl) tn_98 dX6_init_605 (n := 606) rfl ?_
  refine x_dup dX6_init_606 (n := 607) rfl rfl ?_
  refine x_bipush dX6_init_607 (n := 609) rfl bp_99 ?_
  refine x_bipush dX6_init_609 (n := 611) rfl bp_121 ?_
  refine x_iast (gT_new (σ := s1) (t := .inr (.int, 118))) (vin_of (by decide) tn_99 rfl) tn_99 dX6_init_611 (n := 612) rfl ?_
  refine x_dup dX6_init_612 (n := 613) rfl rfl ?_
  refine x_bipush dX6_init_613 (n := 615) rfl bp_100 ?_
  refine x_bipush dX6_init_615 (n := 617) rfl bp_101 ?_
  refine x_iast (gT_new (σ := s1) (t := .inr (.int, 118))) (vin_of (by decide) tn_100 rfl) tn_100 dX6_init_617 (n := 618) rfl ?_
  refine x_dup dX6_init_618 (n := 619) rfl rfl ?_
  refine x_bipush dX6_init_619 (n := 621) rfl bp_101 ?_
  refine x_bipush dX6_init_621 (n := 623) rfl bp_97 ?_
  refine x_iast (gT_new (σ := s1) (t := .inr (.int, 118))) (vin_of (by decide) tn_101 rfl) tn_101 dX6_init_623 (n := 624) rfl ?_
  refine x_dup dX6_init_624 (n := 625) rfl rfl ?_
  refine x_bipush dX6_init_625 (n := 627) rfl bp_102 ?_
  refine x_bipush dX6_init_627 (n := 629) rfl bp_114 ?_
  refine x_iast (gT_new (σ := s1) (t := .inr (.int, 118))) (vin_of (by decide) tn_102 rfl) tn_102 dX6_init_629 (n := 630) rfl ?_
  refine x_dup dX6_init_630 (n := 631) rfl rfl ?_
  refine x_bipush dX6_init_631 (n := 633) rfl bp_103 ?_
  refine x_bipush dX6_init_633 (n := 635) rfl bp_32 ?_
  refine x_iast (gT_new (σ := s1) (t := .inr (.int, 118))) (vin_of (by decide) tn_103 rfl) tn_103 dX6_init_635 (n := 636) rfl ?_
  refine x_dup dX6_init_636 (n := 637) rfl rfl ?_
  refine x_bipush dX6_init_637 (n := 639) rfl bp_104 ?_
  refine x_bipush dX6_init_639 (n := 641) rfl bp_115 ?_
  refine x_iast (gT_new (σ := s1) (t := .inr (.int, 118))) (vin_of (by decide) tn_104 rfl) tn_104 dX6_init_641 (n := 642) rfl ?_
  refine x_dup dX6_init_642 (n := 643) rfl rfl ?_
  refine x_bipush dX6_init_643 (n := 645) rfl bp_105 ?_
  refine x_bipush dX6_init_645 (n := 647) rfl bp_101 ?_
  refine x_iast (gT_new (σ := s1) (t := .inr (.int, 118))) (vin_of (by decide) tn_105 rfl) tn_105 dX6_init_647 (n := 648) rfl ?_
  refine x_dup dX6_init_648 (n := 649) rfl rfl ?_
  refine x_bipush dX6_init_649 (n := 651) rfl bp_106 ?_
  refine x_bipush dX6_init_651 (n := 653) rfl bp_97 ?_
  refine x_iast (gT_new (σ := s1) (t := .inr (.int, 118))) (vin_of (by decide) tn_106 rfl) tn_106 dX6_init_653 (n := 654) rfl ?_
  refine x_dup dX6_init_654 (n := 655) rfl rfl ?_
  refine x_bipush dX6_init_655 (n := 657) rfl bp_107 ?_
  refine x_bipush dX6_init_657 (n := 659) rfl bp_115 ?_
  refine x_iast (gT_new (σ := s1) (t := .inr (.int, 118))) (vin_of (by decide) tn_107 rfl) tn_107 dX6_init_659 (n := 660) rfl ?_
  refine x_dup dX6_init_660 (n := 661) rfl rfl ?_
  refine x_bipush dX6_init_661 (n := 663) rfl bp_108 ?_
  refine x_bipush dX6_init_663 (n := 665) rfl bp_111 ?_
  refine x_iast (gT_new (σ := s1) (t := .inr (.int, 118))) (vin_of (by decide) tn_108 rfl) tn_108 dX6_init_665 (n := 666) rfl ?_
  refine x_dup dX6_init_666 (n := 667) rfl rfl ?_
  refine x_bipush dX6_init_667 (n := 669) rfl bp_109 ?_
  refine x_bipush dX6_init_669 (n := 671) rfl bp_110 ?_
  refine x_iast (gT_new (σ := s1) (t := .inr (.int, 118))) (vin_of (by decide) tn_109 rfl) tn_109 dX6_init_671 (n := 672) rfl ?_
  refine x_dup dX6_init_672 (n := 673) rfl rfl ?_
  refine x_bipush dX6_init_673 (n := 675) rfl bp_110 ?_
  refine x_bipush dX6_init_675 (n := 677) rfl bp_32 ?_
  refine x_iast (gT_new (σ := s1) (t := .inr (.int, 118))) (vin_of (by decide) tn_110 rfl) tn_110 dX6_init_677 (n := 678) rfl ?_
  refine x_dup dX6_init_678 (n := 679) rfl rfl ?_
  refine x_bipush dX6_init_679 (n := 681) rfl bp_111 ?_
  refine x_bipush dX6_init_681 (n := 683) rfl bp_108 ?_
  refine x_iast (gT_new (σ := s1) (t := .inr (.int, 118))) (vin_of (by decide) tn_111 rfl) tn_111 dX6_init_683 (n := 684) rfl ?_
  refine x_dup dX6_init_684 (n := 685) rfl rfl ?_
  refine x_bipush dX6_init_685 (n := 687) rfl bp_112 ?_
  refine x_bipush dX6_init_687 (n := 689) rfl bp_101 ?_
  refine x_iast (gT_new (σ := s1) (t := .inr (.int, 118))) (vin_of (by decide) tn_112 rfl) tn_112 dX6_init_689 (n := 690) rfl ?_
  refine x_dup dX6_init_690 (n := 691) rfl rfl ?_
  refine x_bipush dX6_init_691 (n := 693) rfl bp_113 ?_
  refine x_bipush dX6_init_693 (n := 695) rfl bp_110 ?_
  refine x_iast (gT_new (σ := s1) (t := .inr (.int, 118))) (vin_of (by decide) tn_113 rfl) tn_113 dX6_init_695 (n := 696) rfl ?_
  refine x_dup dX6_init_696 (n := 697) rfl rfl ?_
  refine x_bipush dX6_init_697 (n := 699) rfl bp_114 ?_
  refine x_bipush dX6_init_699 (n := 701) rfl bp_103 ?_
  refine x_iast (gT_new (σ := s1) (t := .inr (.int, 118))) (vin_of (by decide) tn_114 rfl) tn_114 dX6_init_701 (n := 702) rfl ?_
  refine x_dup dX6_init_702 (n := 703) rfl rfl ?_
  refine x_bipush dX6_init_703 (n := 705) rfl bp_115 ?_
  refine x_bipush dX6_init_705 (n := 707) rfl bp_116 ?_
  refine x_iast (gT_new (σ := s1) (t := .inr (.int, 118))) (vin_of (by decide) tn_115 rfl) tn_115 dX6_init_707 (n := 708) rfl ?_
  refine x_dup dX6_init_708 (n := 709) rfl rfl ?_
  refine x_bipush dX6_init_709 (n := 711) rfl bp_116 ?_
  refine x_bipush dX6_init_711 (n := 713) rfl bp_104 ?_
  refine x_iast (gT_new (σ := s1) (t := .inr (.int, 118))) (vin_of (by decide) tn_116 rfl) tn_116 dX6_init_713 (n := 714) rfl ?_
  refine x_dup dX6_init_714 (n := 715) rfl rfl ?_
  refine x_bipush dX6_init_715 (n := 717) rfl bp_117 ?_
  refine x_bipush dX6_init_717 (n := 719) rfl bp_32 ?_
  refine x_iast (gT_new (σ := s1) (t := .inr (.int, 118))) (vin_of (by decide) tn_117 rfl) tn_117 dX6_init_719 (n := 720) rfl ?_
  refine x_putFr hin ff_X6_13_0 rfl m1.oT dX6_init_720 (n := 723) rfl ?_
  refine x_tops (fun s2 e2 => ?_)
  have m2 : MI o 2 ws1 0 σ0 s2 := by rw [e2]; exact MI.words (ws := ws1) m1 rfl
  clear e2
  refine x_aload_n dX6_init_723 (n := 724) rfl rfl 0 rfl ?_
  refine x_iconst dX6_init_724 (n := 725) rfl ic_m1 ?_
  refine x_puti fp_X6_16_0 rfl m2.2.1 dX6_init_725 (n := 728) rfl ?_
  refine x_tops (fun s2b e2 => ?_)
  have m2 : MI o 2 ws1 (-1) σ0 s2b := by rw [e2]; exact m2.fault
  clear e2
  refine x_aload_n dX6_init_728 (n := 729) rfl rfl 0 rfl ?_
  refine x_bipush dX6_init_729 (n := 731) rfl bp_14 ?_
  refine x_newa (atype := .int) (N := 14) q339 rfl at_int ⟨rfl, by decide, by decide⟩ (by decide) (by decide) (by decide) (by decide) dX6_init_731 (n := 733) rfl ?_
  refine x_putFr hin ff_X6_20_0 rfl m2.oT dX6_init_733 (n := 736) rfl ?_
  refine x_tops (fun s3 e3 => ?_)
  have m3 : MI o 3 ws1 (-1) σ0 s3 := by rw [e3]; exact MI.step (f := 24) (ty := .int) (N := 14) m2 rfl (by decide) (by decide)
  clear e3
  refine x_aload_n dX6_init_736 (n := 737) rfl rfl 0 rfl ?_
  refine x_bipush dX6_init_737 (n := 739) rfl bp_8 ?_
  refine x_newa (atype := .int) (N := 8) q339 rfl at_int ⟨rfl, by decide, by decide⟩ (by decide) (by decide) (by decide) (by decide) dX6_init_739 (n := 741) rfl ?_
  refine x_putFr hin ff_X6_23_0 rfl m3.oT dX6_init_741 (n := 744) rfl ?_
  refine x_tops (fun s4 e4 => ?_)
  have m4 : MI o 4 ws1 (-1) σ0 s4 := by rw [e4]; exact MI.step (f := 28) (ty := .int) (N := 8) m3 rfl (by decide) (by decide)
  clear e4
  refine x_aload_n dX6_init_744 (n := 745) rfl rfl 0 rfl ?_
  refine x_bipush dX6_init_745 (n := 747) rfl bp_24 ?_
  refine x_newa (atype := .int) (N := 24) q339 rfl at_int ⟨rfl, by decide, by decide⟩ (by decide) (by decide) (by decide) (by decide) dX6_init_747 (n := 749) rfl ?_
  refine x_putFr hin ff_X6_26_0 rfl m4.oT dX6_init_749 (n := 752) rfl ?_
  refine x_tops (fun s5 e5 => ?_)
  have m5 : MI o 5 ws1 (-1) σ0 s5 := by rw [e5]; exact MI.step (f := 29) (ty := .int) (N := 24) m4 rfl (by decide) (by decide)
  clear e5
  refine x_aload_n dX6_init_752 (n := 753) rfl rfl 0 rfl ?_
  refine x_bipush dX6_init_753 (n := 755) rfl bp_8 ?_
  refine x_newa (atype := .int) (N := 8) q339 rfl at_int ⟨rfl, by decide, by decide⟩ (by decide) (by decide) (by decide) (by decide) dX6_init_755 (n := 757) rfl ?_
  refine x_putFr hin ff_X6_29_0 rfl m5.oT dX6_init_757 (n := 760) rfl ?_
  refine x_tops (fun s6 e6 => ?_)
  have m6 : MI o 6 ws1 (-1) σ0 s6 := by rw [e6]; exact MI.step (f := 30) (ty := .int) (N := 8) m5 rfl (by decide) (by decide)
  clear e6
  refine x_aload_n dX6_init_760 (n := 761) rfl rfl 0 rfl ?_
  refine x_bipush dX6_init_761 (n := 763) rfl bp_8 ?_
  refine x_newa (atype := .int) (N := 8) q339 rfl at_int ⟨rfl, by decide, by decide⟩ (by decide) (by decide) (by decide) (by decide) dX6_init_763 (n := 765) rfl ?_
  refine x_putFr hin ff_X6_32_0 rfl m6.oT dX6_init_765 (n := 768) rfl ?_
  refine x_tops (fun s7 e7 => ?_)
  have m7 : MI o 7 ws1 (-1) σ0 s7 := by rw [e7]; exact MI.step (f := 31) (ty := .int) (N := 8) m6 rfl (by decide) (by decide)
  clear e7
  refine x_aload_n dX6_init_768 (n := 769) rfl rfl 0 rfl ?_
  refine x_bipush dX6_init_769 (n := 771) rfl bp_8 ?_
  refine x_newa (atype := .int) (N := 8) q339 rfl at_int ⟨rfl, by decide, by decide⟩ (by decide) (by decide) (by decide) (by decide) dX6_init_771 (n := 773) rfl ?_
  refine x_putFr hin ff_X6_35_0 rfl m7.oT dX6_init_773 (n := 776) rfl ?_
  refine x_tops (fun s8 e8 => ?_)
  have m8 : MI o 8 ws1 (-1) σ0 s8 := by rw [e8]; exact MI.step (f := 32) (ty := .int) (N := 8) m7 rfl (by decide) (by decide)
  clear e8
  refine x_aload_n dX6_init_776 (n := 777) rfl rfl 0 rfl ?_
  refine x_bipush dX6_init_777 (n := 779) rfl bp_12 ?_
  refine x_newa (atype := .int) (N := 12) q339 rfl at_int ⟨rfl, by decide, by decide⟩ (by decide) (by decide) (by decide) (by decide) dX6_init_779 (n := 781) rfl ?_
  refine x_putFr hin ff_X6_38_0 rfl m8.oT dX6_init_781 (n := 784) rfl ?_
  refine x_tops (fun s9 e9 => ?_)
  have m9 : MI o 9 ws1 (-1) σ0 s9 := by rw [e9]; exact MI.step (f := 33) (ty := .int) (N := 12) m8 rfl (by decide) (by decide)
  clear e9
  refine x_aload_n dX6_init_784 (n := 785) rfl rfl 0 rfl ?_
  refine x_bipush dX6_init_785 (n := 787) rfl bp_12 ?_
  refine x_newa (atype := .long) (N := 12) q338 rfl at_long ⟨rfl, by decide, by decide⟩ (by decide) (by decide) (by decide) (by decide) dX6_init_787 (n := 789) rfl ?_
  refine x_putFr hin ff_X6_41_0 rfl m9.oT dX6_init_789 (n := 792) rfl ?_
  refine x_tops (fun s10 e10 => ?_)
  have m10 : MI o 10 ws1 (-1) σ0 s10 := by rw [e10]; exact MI.step (f := 34) (ty := .long) (N := 12) m9 rfl (by decide) (by decide)
  clear e10
  refine x_aload_n dX6_init_792 (n := 793) rfl rfl 0 rfl ?_
  refine x_bipush dX6_init_793 (n := 795) rfl bp_12 ?_
  refine x_newa (atype := .long) (N := 12) q338 rfl at_long ⟨rfl, by decide, by decide⟩ (by decide) (by decide) (by decide) (by decide) dX6_init_795 (n := 797) rfl ?_
  refine x_putFr hin ff_X6_45_0 rfl m10.oT dX6_init_797 (n := 800) rfl ?_
  refine x_tops (fun s11 e11 => ?_)
  have m11 : MI o 11 ws1 (-1) σ0 s11 := by rw [e11]; exact MI.step (f := 35) (ty := .long) (N := 12) m10 rfl (by decide) (by decide)
  clear e11
  refine x_aload_n dX6_init_800 (n := 801) rfl rfl 0 rfl ?_
  refine x_bipush dX6_init_801 (n := 803) rfl bp_8 ?_
  refine x_newa (atype := .int) (N := 8) q339 rfl at_int ⟨rfl, by decide, by decide⟩ (by decide) (by decide) (by decide) (by decide) dX6_init_803 (n := 805) rfl ?_
  refine x_putFr hin ff_X6_48_0 rfl m11.oT dX6_init_805 (n := 808) rfl ?_
  refine x_tops (fun s12 e12 => ?_)
  have m12 : MI o 12 ws1 (-1) σ0 s12 := by rw [e12]; exact MI.step (f := 36) (ty := .int) (N := 8) m11 rfl (by decide) (by decide)
  clear e12
  refine x_aload_n dX6_init_808 (n := 809) rfl rfl 0 rfl ?_
  refine x_bipush dX6_init_809 (n := 811) rfl bp_8 ?_
  refine x_newa (atype := .long) (N := 8) q338 rfl at_long ⟨rfl, by decide, by decide⟩ (by decide) (by decide) (by decide) (by decide) dX6_init_811 (n := 813) rfl ?_
  refine x_putFr hin ff_X6_51_0 rfl m12.oT dX6_init_813 (n := 816) rfl ?_
  refine x_tops (fun s13 e13 => ?_)
  have m13 : MI o 13 ws1 (-1) σ0 s13 := by rw [e13]; exact MI.step (f := 37) (ty := .long) (N := 8) m12 rfl (by decide) (by decide)
  clear e13
  refine x_aload_n dX6_init_816 (n := 817) rfl rfl 0 rfl ?_
  refine x_bipush dX6_init_817 (n := 819) rfl bp_24 ?_
  refine x_newa (atype := .int) (N := 24) q339 rfl at_int ⟨rfl, by decide, by decide⟩ (by decide) (by decide) (by decide) (by decide) dX6_init_819 (n := 821) rfl ?_
  refine x_putFr hin ff_X6_54_0 rfl m13.oT dX6_init_821 (n := 824) rfl ?_
  refine x_tops (fun s14 e14 => ?_)
  have m14 : MI o 14 ws1 (-1) σ0 s14 := by rw [e14]; exact MI.step (f := 38) (ty := .int) (N := 24) m13 rfl (by decide) (by decide)
  clear e14
  refine x_aload_n dX6_init_824 (n := 825) rfl rfl 0 rfl ?_
  refine x_bipush dX6_init_825 (n := 827) rfl bp_12 ?_
  refine x_newa (atype := .int) (N := 12) q339 rfl at_int ⟨rfl, by decide, by decide⟩ (by decide) (by decide) (by decide) (by decide) dX6_init_827 (n := 829) rfl ?_
  refine x_putFr hin ff_X6_57_0 rfl m14.oT dX6_init_829 (n := 832) rfl ?_
  refine x_tops (fun s15 e15 => ?_)
  have m15 : MI o 15 ws1 (-1) σ0 s15 := by rw [e15]; exact MI.step (f := 39) (ty := .int) (N := 12) m14 rfl (by decide) (by decide)
  clear e15
  refine x_aload_n dX6_init_832 (n := 833) rfl rfl 0 rfl ?_
  refine x_sipush dX6_init_833 (n := 836) rfl sp_264 ?_
  refine x_newa (atype := .int) (N := 264) q339 rfl at_int ⟨rfl, by decide, by decide⟩ (by decide) (by decide) (by decide) (by decide) dX6_init_836 (n := 838) rfl ?_
  refine x_putFr hin ff_X6_60_0 rfl m15.oT dX6_init_838 (n := 841) rfl ?_
  refine x_tops (fun s16 e16 => ?_)
  have m16 : MI o 16 ws1 (-1) σ0 s16 := by rw [e16]; exact MI.step (f := 40) (ty := .int) (N := 264) m15 rfl (by decide) (by decide)
  clear e16
  refine x_aload_n dX6_init_841 (n := 842) rfl rfl 0 rfl ?_
  refine x_sipush dX6_init_842 (n := 845) rfl sp_128 ?_
  refine x_newa (atype := .int) (N := 128) q339 rfl at_int ⟨rfl, by decide, by decide⟩ (by decide) (by decide) (by decide) (by decide) dX6_init_845 (n := 847) rfl ?_
  refine x_putFr hin ff_X6_63_0 rfl m16.oT dX6_init_847 (n := 850) rfl ?_
  refine x_tops (fun s17 e17 => ?_)
  have m17 : MI o 17 ws1 (-1) σ0 s17 := by rw [e17]; exact MI.step (f := 41) (ty := .int) (N := 128) m16 rfl (by decide) (by decide)
  clear e17
  refine x_aload_n dX6_init_850 (n := 851) rfl rfl 0 rfl ?_
  refine x_sipush dX6_init_851 (n := 854) rfl sp_128 ?_
  refine x_newa (atype := .int) (N := 128) q339 rfl at_int ⟨rfl, by decide, by decide⟩ (by decide) (by decide) (by decide) (by decide) dX6_init_854 (n := 856) rfl ?_
  refine x_putFr hin ff_X6_66_0 rfl m17.oT dX6_init_856 (n := 859) rfl ?_
  refine x_tops (fun s18 e18 => ?_)
  have m18 : MI o 18 ws1 (-1) σ0 s18 := by rw [e18]; exact MI.step (f := 42) (ty := .int) (N := 128) m17 rfl (by decide) (by decide)
  clear e18
  refine x_aload_n dX6_init_859 (n := 860) rfl rfl 0 rfl ?_
  refine x_sipush dX6_init_860 (n := 863) rfl sp_128 ?_
  refine x_newa (atype := .int) (N := 128) q339 rfl at_int ⟨rfl, by decide, by decide⟩ (by decide) (by decide) (by decide) (by decide) dX6_init_863 (n := 865) rfl ?_
  refine x_putFr hin ff_X6_69_0 rfl m18.oT dX6_init_865 (n := 868) rfl ?_
  refine x_tops (fun s19 e19 => ?_)
  have m19 : MI o 19 ws1 (-1) σ0 s19 := by rw [e19]; exact MI.step (f := 43) (ty := .int) (N := 128) m18 rfl (by decide) (by decide)
  clear e19
  refine x_aload_n dX6_init_868 (n := 869) rfl rfl 0 rfl ?_
  refine x_bipush dX6_init_869 (n := 871) rfl bp_96 ?_
  refine x_newa (atype := .int) (N := 96) q339 rfl at_int ⟨rfl, by decide, by decide⟩ (by decide) (by decide) (by decide) (by decide) dX6_init_871 (n := 873) rfl ?_
  refine x_putFr hin ff_X6_72_0 rfl m19.oT dX6_init_873 (n := 876) rfl ?_
  refine x_tops (fun s20 e20 => ?_)
  have m20 : MI o 20 ws1 (-1) σ0 s20 := by rw [e20]; exact MI.step (f := 45) (ty := .int) (N := 96) m19 rfl (by decide) (by decide)
  clear e20
  refine x_aload_n dX6_init_876 (n := 877) rfl rfl 0 rfl ?_
  refine x_bipush dX6_init_877 (n := 879) rfl bp_96 ?_
  refine x_newa (atype := .int) (N := 96) q339 rfl at_int ⟨rfl, by decide, by decide⟩ (by decide) (by decide) (by decide) (by decide) dX6_init_879 (n := 881) rfl ?_
  refine x_putFr hin ff_X6_75_0 rfl m20.oT dX6_init_881 (n := 884) rfl ?_
  refine x_tops (fun s21 e21 => ?_)
  have m21 : MI o 21 ws1 (-1) σ0 s21 := by rw [e21]; exact MI.step (f := 46) (ty := .int) (N := 96) m20 rfl (by decide) (by decide)
  clear e21
  refine x_aload_n dX6_init_884 (n := 885) rfl rfl 0 rfl ?_
  refine x_bipush dX6_init_885 (n := 887) rfl bp_6 ?_
  refine x_newa (atype := .long) (N := 6) q338 rfl at_long ⟨rfl, by decide, by decide⟩ (by decide) (by decide) (by decide) (by decide) dX6_init_887 (n := 889) rfl ?_
  refine x_putFr hin ff_X6_78_0 rfl m21.oT dX6_init_889 (n := 892) rfl ?_
  refine x_tops (fun s22 e22 => ?_)
  have m22 : MI o 22 ws1 (-1) σ0 s22 := by rw [e22]; exact MI.step (f := 55) (ty := .long) (N := 6) m21 rfl (by decide) (by decide)
  clear e22
  refine x_aload_n dX6_init_892 (n := 893) rfl rfl 0 rfl ?_
  refine x_bipush dX6_init_893 (n := 895) rfl bp_64 ?_
  refine x_newa (atype := .long) (N := 64) q338 rfl at_long ⟨rfl, by decide, by decide⟩ (by decide) (by decide) (by decide) (by decide) dX6_init_895 (n := 897) rfl ?_
  refine x_putFr hin ff_X6_81_0 rfl m22.oT dX6_init_897 (n := 900) rfl ?_
  refine x_tops (fun s23 e23 => ?_)
  have m23 : MI o 23 ws1 (-1) σ0 s23 := by rw [e23]; exact MI.step (f := 56) (ty := .long) (N := 64) m22 rfl (by decide) (by decide)
  clear e23
  refine x_aload_n dX6_init_900 (n := 901) rfl rfl 0 rfl ?_
  refine x_sipush dX6_init_901 (n := 904) rfl sp_128 ?_
  refine x_newa (atype := .int) (N := 128) q339 rfl at_int ⟨rfl, by decide, by decide⟩ (by decide) (by decide) (by decide) (by decide) dX6_init_904 (n := 906) rfl ?_
  refine x_putFr hin ff_X6_84_0 rfl m23.oT dX6_init_906 (n := 909) rfl ?_
  refine x_tops (fun s24 e24 => ?_)
  have m24 : MI o 24 ws1 (-1) σ0 s24 := by rw [e24]; exact MI.step (f := 60) (ty := .int) (N := 128) m23 rfl (by decide) (by decide)
  clear e24
  refine x_aload_n dX6_init_909 (n := 910) rfl rfl 0 rfl ?_
  refine x_ldc dX6_init_910 (n := 912) rfl q1510 ?_
  refine x_newa (atype := .boolean) (N := 240000) q340 rfl at_bool ⟨rfl, by decide, by decide⟩ (by decide) (by decide) (by decide) (by decide) dX6_init_912 (n := 914) rfl ?_
  refine x_putFr hin ff_X6_88_0 rfl m24.oT dX6_init_914 (n := 917) rfl ?_
  refine x_tops (fun s25 e25 => ?_)
  have m25 : MI o 25 ws1 (-1) σ0 s25 := by rw [e25]; exact MI.step (f := 61) (ty := .boolean) (N := 240000) m24 rfl (by decide) (by decide)
  clear e25
  refine x_aload_n dX6_init_917 (n := 918) rfl rfl 0 rfl ?_
  refine x_bipush dX6_init_918 (n := 920) rfl bp_12 ?_
  refine x_newa (atype := .int) (N := 12) q339 rfl at_int ⟨rfl, by decide, by decide⟩ (by decide) (by decide) (by decide) (by decide) dX6_init_920 (n := 922) rfl ?_
  refine x_putFr hin ff_X6_92_0 rfl m25.oT dX6_init_922 (n := 925) rfl ?_
  refine x_tops (fun s26 e26 => ?_)
  have m26 : MI o 26 ws1 (-1) σ0 s26 := by rw [e26]; exact MI.step (f := 65) (ty := .int) (N := 12) m25 rfl (by decide) (by decide)
  clear e26
  refine x_aload_n dX6_init_925 (n := 926) rfl rfl 0 rfl ?_
  refine x_bipush dX6_init_926 (n := 928) rfl bp_12 ?_
  refine x_newa (atype := .int) (N := 12) q339 rfl at_int ⟨rfl, by decide, by decide⟩ (by decide) (by decide) (by decide) (by decide) dX6_init_928 (n := 930) rfl ?_
  refine x_putFr hin ff_X6_95_0 rfl m26.oT dX6_init_930 (n := 933) rfl ?_
  refine x_tops (fun s27 e27 => ?_)
  have m27 : MI o 27 ws1 (-1) σ0 s27 := by rw [e27]; exact MI.step (f := 66) (ty := .int) (N := 12) m26 rfl (by decide) (by decide)
  clear e27
  refine x_aload_n dX6_init_933 (n := 934) rfl rfl 0 rfl ?_
  refine x_bipush dX6_init_934 (n := 936) rfl bp_20 ?_
  refine x_newa (atype := .int) (N := 20) q339 rfl at_int ⟨rfl, by decide, by decide⟩ (by decide) (by decide) (by decide) (by decide) dX6_init_936 (n := 938) rfl ?_
  refine x_putFr hin ff_X6_98_0 rfl m27.oT dX6_init_938 (n := 941) rfl ?_
  refine x_tops (fun s28 e28 => ?_)
  have m28 : MI o 28 ws1 (-1) σ0 s28 := by rw [e28]; exact MI.step (f := 68) (ty := .int) (N := 20) m27 rfl (by decide) (by decide)
  clear e28
  refine x_aload_n dX6_init_941 (n := 942) rfl rfl 0 rfl ?_
  refine x_bipush dX6_init_942 (n := 944) rfl bp_20 ?_
  refine x_newa (atype := .int) (N := 20) q339 rfl at_int ⟨rfl, by decide, by decide⟩ (by decide) (by decide) (by decide) (by decide) dX6_init_944 (n := 946) rfl ?_
  refine x_putFr hin ff_X6_101_0 rfl m28.oT dX6_init_946 (n := 949) rfl ?_
  refine x_tops (fun s29 e29 => ?_)
  have m29 : MI o 29 ws1 (-1) σ0 s29 := by rw [e29]; exact MI.step (f := 69) (ty := .int) (N := 20) m28 rfl (by decide) (by decide)
  clear e29
  refine x_aload_n dX6_init_949 (n := 950) rfl rfl 0 rfl ?_
  refine x_sipush dX6_init_950 (n := 953) rfl sp_132 ?_
  refine x_newa (atype := .int) (N := 132) q339 rfl at_int ⟨rfl, by decide, by decide⟩ (by decide) (by decide) (by decide) (by decide) dX6_init_953 (n := 955) rfl ?_
  refine x_putFr hin ff_X6_104_0 rfl m29.oT dX6_init_955 (n := 958) rfl ?_
  refine x_tops (fun s30 e30 => ?_)
  have m30 : MI o 30 ws1 (-1) σ0 s30 := by rw [e30]; exact MI.step (f := 73) (ty := .int) (N := 132) m29 rfl (by decide) (by decide)
  clear e30
  refine x_aload_n dX6_init_958 (n := 959) rfl rfl 0 rfl ?_
  refine x_bipush dX6_init_959 (n := 961) rfl bp_20 ?_
  refine x_newa (atype := .int) (N := 20) q339 rfl at_int ⟨rfl, by decide, by decide⟩ (by decide) (by decide) (by decide) (by decide) dX6_init_961 (n := 963) rfl ?_
  refine x_putFr hin ff_X6_107_0 rfl m30.oT dX6_init_963 (n := 966) rfl ?_
  refine x_tops (fun s31 e31 => ?_)
  have m31 : MI o 31 ws1 (-1) σ0 s31 := by rw [e31]; exact MI.step (f := 74) (ty := .int) (N := 20) m30 rfl (by decide) (by decide)
  clear e31
  refine x_aload_n dX6_init_966 (n := 967) rfl rfl 0 rfl ?_
  refine x_bipush dX6_init_967 (n := 969) rfl bp_20 ?_
  refine x_newa (atype := .int) (N := 20) q339 rfl at_int ⟨rfl, by decide, by decide⟩ (by decide) (by decide) (by decide) (by decide) dX6_init_969 (n := 971) rfl ?_
  refine x_putFr hin ff_X6_110_0 rfl m31.oT dX6_init_971 (n := 974) rfl ?_
  refine x_tops (fun s32 e32 => ?_)
  have m32 : MI o 32 ws1 (-1) σ0 s32 := by rw [e32]; exact MI.step (f := 75) (ty := .int) (N := 20) m31 rfl (by decide) (by decide)
  clear e32
  refine x_aload_n dX6_init_974 (n := 975) rfl rfl 0 rfl ?_
  have hB := m32.mb
  have h := h s32 m32
  refine x_cVvm (As := []) (rest := []) cv_X6_113 ck0 (met_X6_plain o s32 hB) hB.1 (by decide) rfl rfl rfl dX6_init_975 (n := 978) rfl (fun t1 ht1 e => ?_)
  subst e
  refine x_aload_n dX6_init_978 (n := 979) rfl rfl 0 rfl ?_
  refine x_cVvm (As := []) (rest := []) cv_X6_116 ck0 (met_X6_keepText o _ _ (hB.sh ht1) h) (hB.sh ht1).1 (by decide) rfl rfl rfl dX6_init_979 (n := 982) rfl (fun t2 ht2 h => ?_)
  exact x_widen (k1 := 32) (k2 := 242450) (by decide) (by decide) (x_vret rq ⟨s32, m32, ht1.tr ht2, h⟩ dX6_init_982)
