set_option maxRecDepth 100000
/-! LongYears' reader: numbers, names -/
theorem srt {o n : Nat} {σ : Hp} {t : Tok} (h : TKL o σ t) (hv : TV n t) : (gI σ o 3 = 2 ↔ tKd t = 3) ∧ (gI σ o 3 = 1 ↔ tKd t = 2) ∧ (gI σ o 3 = 0 ↔ tKd t = 1) ∧ (gI σ o 3 = 4 ↔ tKd t = 0) := by
  rw [h.2.2.1]
  rcases hv.2.2.2.2.2.2.1 with k | k | k | k | k | k | k
  all_goals rw [k]; decide
theorem RDR.nx {o c d : Nat} {b : Nat → Int32} {n : Nat} {σ : Hp} {t : Tok} {brk cnt : Nat} {Q : Hp → Prop} (h : RDR o c d b n σ t brk cnt) (hQ : ∀ σ', FR (S5 o d) σ σ' → gS σ' = gS σ → RDR o c d b n σ' (adv b n t) brk cnt → Q σ') : wp_X2_next o c d σ Q := by
  obtain ⟨h1, h2, h3, h4, h5, h6, h7, h8, h9, h10⟩ := h
  exact rd_next h1 h2.1 h3 h4 h5 ⟨h6, h7, h8, h9, h10⟩ hQ
/-- a reading by its word: it goes on, or throws -/
def LG {α : Type} (o c d : Nat) (b : Nat → Int32) (n : Nat) (brk cnt : Nat) (σ : Hp) (x : PR α) (Q : α → Hp → Prop) (E : Nat → Hp → Prop) : Prop := (∀ v t' σ', x = .inl (v, t') → FR (S5 o d) σ σ' → gS σ' = gS σ → RDR o c d b n σ' t' brk cnt → Q v σ') ∧ (∀ k pl q σ', x = .inr (k, pl) → FR (S5 o d) σ σ' → FLT σ' q k pl → E q σ')
theorem rd_number {o c d : Nat} {b : Nat → Int32} {n : Nat} {σ : Hp} {t : Tok} {brk cnt Mx : Nat} {lo hi : Int32} {Q : Int32 → Hp → Prop} {E : Nat → Hp → Prop} (h : RDR o c d b n σ t brk cnt) (hM : gS σ + 1 ≤ Mx) (hg : LG o c d b n brk cnt σ (numS b n lo hi t) Q E) : wp_X2_number o c d σ lo hi Mx Q E := by
  have hv := h.2.2.1
  have h2 := h.2.1
  have ho : o < gS σ := by have := h.2.2.2.2.2.2.2.1; have := h.2.2.2.2.2.2.2.2.2; omega
  obtain ⟨g1, g2⟩ := hg
  unfold wp_X2_number
  rw [(srt h2 hv).1]
  unfold numS at g1 g2
  refine ⟨fun k => ?_, fun k => ?_⟩
  · rw [if_pos k] at g1 g2
    have e4 : gI σ o 4 = tWh t := by
      rw [h2.2.2.2 (by rw [k]; decide) (by rw [k]; decide)]
      simp [valL, k]
    rw [e4, in_iff (i2_l _) (i2_l _) (i2_l _)]
    refine ⟨fun w => ?_, fun w => ?_⟩
    · rw [if_neg w] at g2
      exact rd_throw h2 ho hM (fun q σ' f1 f2 => g2 _ _ q σ' rfl f1 f2)
    · rw [if_pos (Classical.byContradiction w)] at g1
      exact h.nx (fun σ' f1 f2 f3 _ => g1 _ _ σ' rfl f1 f2 f3)
  · rw [if_neg k] at g2
    exact rd_throw h2 ho hM (fun q σ' f1 f2 => g2 _ _ q σ' rfl f1 f2)
theorem rd_signed {o c d : Nat} {b : Nat → Int32} {n : Nat} {σ : Hp} {t : Tok} {brk cnt Mx : Nat} {hi : Int32} {Q : Int32 → Hp → Prop} {E : Nat → Hp → Prop} (h : RDR o c d b n σ t brk cnt) (hM : gS σ + 1 ≤ Mx) (hg : LG o c d b n brk cnt σ (sgdS b n hi t) Q E) : wp_X2_signed o c d σ hi Mx Q E := by
  have hv := h.2.2.1
  have h2 := h.2.1
  obtain ⟨g1, g2⟩ := hg
  unfold wp_X2_signed
  have s := lsign (c := c) (d := d) h2 hv (x := 45) (by decide)
  unfold sgdS at g1 g2
  refine ⟨fun k => ?_, fun k => ?_⟩
  · rw [if_neg (by rw [s.mp k]; exact Bool.false_ne_true)] at g1 g2
    exact rd_number h hM ⟨fun v t' σ' e f1 f2 f3 _ => ⟨fun _ => g1 v t' σ' e f1 f2 f3, fun w => absurd k w⟩, g2⟩
  · rw [if_pos (bt (fun w => k (s.mpr w)))] at g1 g2
    refine h.nx (fun s4 f1 f2 f3 _ => ?_)
    refine rd_number f3 (by rw [f2]; exact hM) ⟨fun v t' σ' e e1 e2 e3 _ => ⟨fun w => absurd w k, fun _ => g1 _ t' σ' ?_ (f1.tr e1) (e2.trans f2) e3⟩, fun kk pl q σ' e e1 e2 => g2 kk pl q σ' ?_ (f1.tr e1) e2⟩
    · rw [e]; rfl
    · rw [e]; rfl
/-- the names of a list -/
def NML (a0 c0 : Nat) (names : List Int32) (σ : Hp) : Prop := gI σ a0 2 = Int32.ofNat names.length ∧ names.length ≤ c0 ∧ c0 ≤ 6 ∧ ∀ i x, names[i]? = some x → ∃ p, gR σ (a0 + 1) i = some p ∧ isNm σ p ∧ gI σ p 0 = x
def fndI (r : Option Nat) : Int32 := match r with
  | some k => Int32.ofNat k
  | none => -1
theorem fnd_st {x : Int32} {l : List Int32} {k : Nat} (h : k < l.length) : fnd x (l.drop k) k = if l[k]'h = x then some k else fnd x (l.drop (k + 1)) (k + 1) := by
  rw [List.drop_eq_getElem_cons h, fnd]
theorem rd_find {σ : Hp} {a0 c0 : Nat} {names : List Int32} {x : Int32} {Q : Int32 → Prop} (h : NML a0 c0 names σ) (hQ : Q (fndI (fnd x names 0))) : wp_X4_find σ a0 c0 x Q := by
  obtain ⟨h1, h2, h3, h4⟩ := h
  refine lp_of (fun y => ∃ k, k ≤ names.length ∧ y = Int32.ofNat k ∧ fnd x names 0 = fnd x (names.drop k) k) (fun y => names.length - y.toNatClampNeg) ?_ ⟨0, by omega, rfl, rfl⟩
  rintro K y ⟨k, hk, rfl, hw⟩ hK
  have es : f_J2_size a0 c0 σ = Int32.ofNat names.length := h1
  unfold lb_X4_find_2
  rw [es, nat_le (by omega) (by omega)]
  refine ⟨fun q => ?_, fun q => ?_⟩
  · have : k = names.length := by omega
    subst this
    rw [hw, List.drop_eq_nil_of_le (Nat.le_refl _)] at hQ
    exact hQ
  · have hlt : k < names.length := by omega
    obtain ⟨p, p1, p2, p3⟩ := h4 k _ (List.getElem?_eq_getElem hlt)
    have eg : f_J2_get a0 c0 σ (Int32.ofNat k) = p := by
      unfold f_J2_get f_J2_elementData rf
      rw [nat_c (by omega), p1]; rfl
    rw [eg, p3]
    rw [hw, fnd_st hlt] at hQ
    refine ⟨⟨⟨fun w => ?_, fun _ => ⟨fun _ => trivial, fun w => ?_⟩⟩, nat_v (by omega) (by omega), ?_⟩, p2, fun w => ?_, fun w => ?_⟩
    · rw [i3_lt (nat_i (by omega)) (y := 0) (by rfl)] at w; omega
    · rw [h1, i3_lt (nat_i (by omega)) (nat_i (by omega))] at w; omega
    · rw [nat_c (by omega), p1]; exact Option.some_ne_none _
    · rw [if_pos w] at hQ; exact hQ
    · rw [nat_s (by omega)]
      refine hK _ ⟨k + 1, by omega, rfl, by rw [hw, fnd_st hlt, if_neg w]⟩ ?_
      rw [nat_c (by omega), nat_c (by omega)]; omega
theorem fnd_lt {x : Int32} : ∀ (l : List Int32) (k j : Nat), fnd x l k = some j → k ≤ j ∧ j < k + l.length := by
  intro l
  induction l with
  | nil => intro k j h; cases h
  | cons y l ih =>
    intro k j h
    rw [fnd] at h
    split at h
    · cases h; simp
    · have := ih _ _ h
      simp only [List.length_cons]; omega
theorem rd_fresh {o c d : Nat} {b : Nat → Int32} {n : Nat} {σ : Hp} {t : Tok} {brk cnt Mx a0 c0 : Nat} {names : List Int32} {Q : Int32 → Hp → Prop} {E : Nat → Hp → Prop} (h : RDR o c d b n σ t brk cnt) (hN : NML a0 c0 names σ) (hM : gS σ + 1 ≤ Mx) (hg : LG o c d b n brk cnt σ (frS b n names t) Q E) : wp_X2_fresh o c d σ a0 c0 Mx Q E := by
  have hv := h.2.2.1
  have h2 := h.2.1
  have ho : o < gS σ := by have := h.2.2.2.2.2.2.2.1; have := h.2.2.2.2.2.2.2.2.2; omega
  obtain ⟨g1, g2⟩ := hg
  unfold wp_X2_fresh
  rw [(srt h2 hv).2.1]
  unfold frS at g1 g2
  refine ⟨fun k => ?_, fun k => ?_⟩
  · rw [if_pos k] at g1 g2
    have e4 : gI σ o 4 = tWh t := by
      rw [h2.2.2.2 (by rw [k]; decide) (by rw [k]; decide)]
      simp [valL, k]
    rw [e4]
    refine rd_find hN ?_
    cases hf : fnd (tWh t) names 0 with
    | none =>
      rw [hf] at g1
      exact ⟨fun _ => h.nx (fun σ' f1 f2 f3 _ => g1 _ _ σ' rfl f1 f2 f3), fun w => absurd rfl w⟩
    | some j =>
      rw [hf] at g2
      have hj := fnd_lt _ _ _ hf
      have := hN.2.1
      have := hN.2.2.1
      exact ⟨fun w => absurd w (ofNat_ne (by omega)), fun _ => rd_throw h2 ho hM (fun q σ' f1 f2 => g2 _ _ q σ' rfl f1 f2)⟩
  · rw [if_neg k] at g2
    exact rd_throw h2 ho hM (fun q σ' f1 f2 => g2 _ _ q σ' rfl f1 f2)
theorem rd_ahead {o c d : Nat} {b : Nat → Int32} {n : Nat} {σ : Hp} {t : Tok} {brk cnt Mx a0 c0 : Nat} {names : List Int32} {Q : Int32 → Hp → Prop} {E : Nat → Hp → Prop} (h : RDR o c d b n σ t brk cnt) (hN : NML a0 c0 names σ) (hM : gS σ + 1 ≤ Mx) (hg : LG o c d b n brk cnt σ (ahS b n names t) Q E) : wp_X2_ahead o c d σ a0 c0 Mx Q E := by
  have hv := h.2.2.1
  have h2 := h.2.1
  have ho : o < gS σ := by have := h.2.2.2.2.2.2.2.1; have := h.2.2.2.2.2.2.2.2.2; omega
  obtain ⟨g1, g2⟩ := hg
  unfold wp_X2_ahead
  rw [(srt h2 hv).2.1]
  unfold ahS at g1 g2
  refine ⟨fun k => ?_, fun k => ?_⟩
  · rw [if_pos k] at g1 g2
    have e4 : gI σ o 4 = tWh t := by
      rw [h2.2.2.2 (by rw [k]; decide) (by rw [k]; decide)]
      simp [valL, k]
    rw [e4]
    refine rd_find hN ?_
    cases hf : fnd (tWh t) names 0 with
    | none =>
      rw [hf] at g2
      exact ⟨fun _ => rd_throw h2 ho hM (fun q σ' f1 f2 => g2 _ _ q σ' rfl f1 f2), fun w => absurd rfl w⟩
    | some j =>
      rw [hf] at g1
      have hj := fnd_lt _ _ _ hf
      have := hN.2.1
      have := hN.2.2.1
      exact ⟨fun w => absurd w (ofNat_ne (by omega)), fun _ => h.nx (fun σ' f1 f2 f3 _ => g1 _ _ σ' rfl f1 f2 f3)⟩
  · rw [if_neg k] at g2
    exact rd_throw h2 ho hM (fun q σ' f1 f2 => g2 _ _ q σ' rfl f1 f2)
