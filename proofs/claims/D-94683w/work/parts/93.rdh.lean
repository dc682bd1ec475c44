set_option maxRecDepth 100000
/-- what the sum reader writes of what is old -/
def S5 (o d a k : Nat) : Prop := (a = o ∧ (k = 0 ∨ k = 2 ∨ k = 3 ∨ k = 4 ∨ k = 5)) ∨ (a = d ∧ k = 10)
/-- grown; what was there stands, but for places in S -/
def FR (S : Nat → Nat → Prop) (σ σ' : Hp) : Prop := gS σ ≤ gS σ' ∧ ∀ a, a < gS σ → gT σ' a = gT σ a ∧ ∀ k, gR σ' a k = gR σ a k ∧ (¬ S a k → gI σ' a k = gI σ a k ∧ gL σ' a k = gL σ a k)
theorem FR.rf {S : Nat → Nat → Prop} {σ : Hp} : FR S σ σ := ⟨Nat.le_refl _, fun _ _ => ⟨rfl, fun _ => ⟨rfl, fun _ => ⟨rfl, rfl⟩⟩⟩⟩
theorem FR.gi {S : Nat → Nat → Prop} {σ σ' : Hp} (h : FR S σ σ') {a k : Nat} (ha : a < gS σ) (hs : ¬ S a k) : gI σ' a k = gI σ a k := (((h.2 a ha).2 k).2 hs).1
theorem FR.gr {S : Nat → Nat → Prop} {σ σ' : Hp} (h : FR S σ σ') {a k : Nat} (ha : a < gS σ) : gR σ' a k = gR σ a k := ((h.2 a ha).2 k).1
theorem FR.gl {S : Nat → Nat → Prop} {σ σ' : Hp} (h : FR S σ σ') {a k : Nat} (ha : a < gS σ) (hs : ¬ S a k) : gL σ' a k = gL σ a k := (((h.2 a ha).2 k).2 hs).2
theorem FR.gt {S : Nat → Nat → Prop} {σ σ' : Hp} (h : FR S σ σ') {a : Nat} (ha : a < gS σ) : gT σ' a = gT σ a := (h.2 a ha).1
theorem FR.tr {S : Nat → Nat → Prop} {σ σ' τ : Hp} (h : FR S σ σ') (h2 : FR S σ' τ) : FR S σ τ := by
  refine ⟨Nat.le_trans h.1 h2.1, fun a ha => ?_⟩
  have hb := Nat.lt_of_lt_of_le ha h.1
  exact ⟨(h2.gt hb).trans (h.gt ha), fun k => ⟨(h2.gr hb).trans (h.gr ha), fun q => ⟨(h2.gi hb q).trans (h.gi ha q), (h2.gl hb q).trans (h.gl ha q)⟩⟩⟩
theorem FR.up {S S' : Nat → Nat → Prop} {σ σ' : Hp} (h : FR S σ σ') (hs : ∀ a k, S a k → S' a k) : FR S' σ σ' := ⟨h.1, fun a ha => ⟨h.gt ha, fun k => ⟨h.gr ha, fun q => ⟨h.gi ha (fun w => q (hs a k w)), h.gl ha (fun w => q (hs a k w))⟩⟩⟩⟩
theorem FR.n {S : Nat → Nat → Prop} {σ : Hp} {t : Nat ⊕ (FieldType × Nat)} : FR S σ (pN σ t) := ⟨by rw [gS_pN]; omega, fun a ha => ⟨by rw [gT_pN, if_neg (by omega)], fun k => ⟨by rw [gR_pN, if_neg (by omega)], fun _ => ⟨by rw [gI_pN, if_neg (by omega)], by rw [gL_pN, if_neg (by omega)]⟩⟩⟩⟩
theorem FR.ofCh {S S' : Nat → Nat → Prop} {σ σ' : Hp} (h : Ch S' σ σ') (hs : ∀ a k, S' a k → S a k) : FR S σ σ' := ⟨by rw [h.gs]; exact Nat.le_refl _, fun a _ => ⟨h.gt, fun k => ⟨h.gr, fun q => ⟨h.gi (fun w => q (hs a k w)), h.gl (fun w => q (hs a k w))⟩⟩⟩⟩
/-- writes to a cell that was not there, or to a place of S -/
theorem FR.i {S : Nat → Nat → Prop} {σ σ' : Hp} (h : FR S σ σ') {a k : Nat} {v : Int32} (hs : gS σ ≤ a ∨ S a k) : FR S σ (pI σ' a k v) := by
  refine ⟨h.1, fun b hb => ⟨h.gt hb, fun j => ⟨h.gr hb, fun q => ⟨?_, h.gl hb q⟩⟩⟩⟩
  rw [gI_pI, if_neg (fun w => ?_)]
  · exact h.gi hb q
  · obtain ⟨rfl, rfl⟩ := w
    rcases hs with w | w
    · omega
    · exact q w
theorem FR.r {S : Nat → Nat → Prop} {σ σ' : Hp} (h : FR S σ σ') {a k : Nat} {v : Option Nat} (hs : gS σ ≤ a) : FR S σ (pR σ' a k v) := ⟨h.1, fun b hb => ⟨h.gt hb, fun j => ⟨by rw [gR_pR, if_neg (by omega)]; exact h.gr hb, fun q => ⟨h.gi hb q, h.gl hb q⟩⟩⟩⟩
theorem FR.l {S : Nat → Nat → Prop} {σ σ' : Hp} (h : FR S σ σ') {a k : Nat} {v : Int64} (hs : gS σ ≤ a ∨ S a k) : FR S σ (pL σ' a k v) := by
  refine ⟨h.1, fun b hb => ⟨h.gt hb, fun j => ⟨h.gr hb, fun q => ⟨h.gi hb q, ?_⟩⟩⟩⟩
  rw [gL_pL, if_neg (fun w => ?_)]
  · exact h.gl hb q
  · obtain ⟨rfl, rfl⟩ := w
    rcases hs with w | w
    · omega
    · exact q w
/-- the reader o of c, at work at the realm d: the token t, open brackets, knots -/
def RDR (o c d : Nat) (b : Nat → Int32) (n : Nat) (σ : Hp) (t : Tok) (brk cnt : Nat) : Prop := TB o c b n σ ∧ TKL o σ t ∧ TV n t ∧ gI σ o 5 = Int32.ofNat brk ∧ gI σ d 10 = Int32.ofNat cnt ∧ brk ≤ 8 ∧ cnt ≤ 64 ∧ o < d ∧ c + 1 < d ∧ d + 11 ≤ gS σ
/-- nothing of the reader's is touched -/
theorem RDR.fr {o c d : Nat} {b : Nat → Int32} {n : Nat} {σ σ' : Hp} {t : Tok} {brk cnt : Nat} (h : RDR o c d b n σ t brk cnt) (hf : FR (fun _ _ => False) σ σ') : RDR o c d b n σ' t brk cnt := by
  obtain ⟨h1, h2, h3, h4, h5, h6, h7, h8, h9, h10⟩ := h
  have f : ∀ a k, a < gS σ → gI σ' a k = gI σ a k := fun a k ha => hf.gi ha id
  refine ⟨⟨?_, h1.2.1, h1.2.2.1, fun i hi => ?_⟩, ⟨?_, ?_, ?_, fun q1 q2 => ?_⟩, h3, ?_, ?_, h6, h7, h8, h9, Nat.le_trans h10 hf.1⟩
  · rw [f _ _ (by omega)]; exact h1.1
  · rw [f _ _ (by omega)]; exact h1.2.2.2 i hi
  · rw [f _ _ (by omega)]; exact h2.1
  · rw [f _ _ (by omega)]; exact h2.2.1
  · rw [f _ _ (by omega)]; exact h2.2.2.1
  · rw [f _ _ (by omega)]; exact h2.2.2.2 q1 q2
  · rw [f _ _ (by omega)]; exact h4
  · rw [f _ _ (by omega)]; exact h5
theorem S4_S5 {o d a k : Nat} (h : S4 o a k) : S5 o d a k := by unfold S4 at h; unfold S5; omega
/-- the next token -/
theorem rd_next {o c d : Nat} {b : Nat → Int32} {n : Nat} {σ : Hp} {t : Tok} {brk cnt : Nat} {Q : Hp → Prop} (hB : TB o c b n σ) (h0 : gI σ o 0 = Int32.ofNat (tNx t)) (hv : TV n t) (h5 : gI σ o 5 = Int32.ofNat brk) (h10 : gI σ d 10 = Int32.ofNat cnt) (hb : brk ≤ 8 ∧ cnt ≤ 64 ∧ o < d ∧ c + 1 < d ∧ d + 11 ≤ gS σ) (hQ : ∀ σ', FR (S5 o d) σ σ' → gS σ' = gS σ → RDR o c d b n σ' (adv b n t) brk cnt → Q σ') : wp_X2_next o c d σ Q := by
  refine wp_next hB h0 hv.1 (fun σ' c1 c2 => hQ σ' (FR.ofCh c1 (fun a k => S4_S5)) c1.gs ⟨hB.ch c1, c2, tv_tk hv.1, ?_, ?_, hb.1, hb.2.1, hb.2.2.1, hb.2.2.2.1, by rw [c1.gs]; exact hb.2.2.2.2⟩)
  · rw [c1.gi (by unfold S4; omega)]; exact h5
  · rw [c1.gi (by unfold S4; omega)]; exact h10
/-- a fault is thrown -/
def FLT (σ : Hp) (q : Nat) (k : Int32) (pl : Nat) : Prop := gT σ q = some (.inl 16) ∧ gI σ q 6 = k ∧ gI σ q 7 = Int32.ofNat pl
theorem rd_wrong {o c d : Nat} {S : Nat → Nat → Prop} {σ : Hp} {t : Tok} {x : Int32} {Mx : Nat} {Q E : Nat → Hp → Prop} (ht : TKL o σ t) (ho : o < gS σ) (hM : gS σ + 1 ≤ Mx) (hQ : ∀ σ', FR S σ σ' → FLT σ' (gS σ) x (tPl t) → Q (gS σ) σ') : wp_X2_wrong o c d σ x Mx Q E := by
  refine ⟨hM, fun s hs => ?_⟩
  subst hs
  rw [gI_pN, if_neg (by omega), ht.2.1]
  unfold f_X7_init f_J10_init f_J9_init_2
  refine hQ _ ((((((FR.n.r (Nat.le_refl _)).r (Nat.le_refl _)).r (Nat.le_refl _)).r (Nat.le_refl _)).i (Or.inl (Nat.le_refl _))).i (Or.inl (Nat.le_refl _))) ⟨?_, ?_, ?_⟩
  · show gT (pN σ (.inl 16)) (gS σ) = _
    exact gT_new
  · simp [gI_pI]
  · simp [gI_pI]
/-- .. as the reader's methods throw it -/
theorem rd_throw {o c d : Nat} {S : Nat → Nat → Prop} {σ : Hp} {t : Tok} {x : Int32} {Mx : Nat} {E : Nat → Hp → Prop} (ht : TKL o σ t) (ho : o < gS σ) (hM : gS σ + 1 ≤ Mx) (hE : ∀ q σ', FR S σ σ' → FLT σ' q x (tPl t) → E q σ') : wp_X2_wrong o c d σ x Mx (fun r s => GX σ s → (OB 16 r s) ∧ (E r s)) E :=
  rd_wrong ht ho hM (fun σ' f g _ => ⟨g.1, hE _ σ' f g⟩)
/-- a knot more -/
theorem rd_knot {o c d : Nat} {b : Nat → Int32} {n : Nat} {σ : Hp} {t : Tok} {brk cnt Mx : Nat} {Q : Int32 → Hp → Prop} {E : Nat → Hp → Prop} (h : RDR o c d b n σ t brk cnt) (hM : gS σ + 1 ≤ Mx) (hE : cnt = 64 → ∀ q σ', FR (S5 o d) σ σ' → FLT σ' q 2 (tPl t) → E q σ')
    (hQ : cnt ≠ 64 → ∀ σ', FR (S5 o d) σ σ' → gS σ' = gS σ → RDR o c d b n σ' (adv b n t) brk (cnt + 1) → Q (gI σ o 4) σ') : wp_X2_knot o c d σ Mx Q E := by
  obtain ⟨h1, h2, h3, h4, h5, h6, h7, h8, h9, h10⟩ := h
  unfold wp_X2_knot
  rw [h5, show (64 : Int32) = Int32.ofNat 64 from rfl, nat_e (by omega) (by omega), nat_s (by omega)]
  refine ⟨fun q => rd_throw h2 (by omega) hM (hE q), fun q v hv => ?_⟩
  rw [pIo (by omega)] at hv
  subst hv
  refine rd_next (t := t) (brk := brk) (cnt := cnt + 1) ⟨?_, h1.2.1, h1.2.2.1, fun i hi => ?_⟩ ?_ h3 ?_ ?_ ⟨h6, by omega, h8, h9, h10⟩ (fun σ' f1 f2 f3 _ => hQ q σ' ((FR.rf.i (Or.inr (by unfold S5; omega))).tr f1) f2 f3)
  · rw [pIo (by omega)]; exact h1.1
  · rw [pIo (by omega)]; exact h1.2.2.2 i hi
  · rw [pIo (by omega)]; exact h2.1
  · rw [pIo (by omega)]; exact h4
  · simp [gI_pI]
/-- the tree at p means v; its cells lie from lo on; it is at most k deep -/
def TR (σ : Hp) (lo : Nat) : Nat → Nat → Ev → Prop
  | 0, _, _ => False
  | k + 1, p, v => lo ≤ p ∧ p < gS σ ∧ ((gT σ p = some (.inl 12) ∧ v = eNum (gI σ p 0)) ∨ (gT σ p = some (.inl 13) ∧ ∃ i, i < 6 ∧ gI σ p 0 = Int32.ofNat (pnL i) ∧ v = eName i) ∨ (gT σ p = some (.inl 14) ∧ ∃ a u, gR σ p 0 = some a ∧ TR σ lo k a u ∧ v = eNot u) ∨ (gT σ p = some (.inl 15) ∧ ∃ a u a' u' j, 3 ≤ j ∧ j ≤ 15 ∧ gR σ p 0 = some a ∧ gR σ p 2 = some a' ∧ gI σ p 1 = sgnL j ∧ TR σ lo k a u ∧ TR σ lo k a' u' ∧ v = eTwo j u u'))
theorem TR.up {σ : Hp} {lo : Nat} : ∀ {k k' p : Nat} {v : Ev}, k ≤ k' → TR σ lo k p v → TR σ lo k' p v := by
  intro k
  induction k with
  | zero => intro k' p v _ h; exact h.elim
  | succ k ih =>
    intro k' p v hk h
    obtain ⟨k', rfl⟩ : ∃ g, k' = g + 1 := ⟨k' - 1, by omega⟩
    obtain ⟨h1, h2, h⟩ := h
    refine ⟨h1, h2, ?_⟩
    rcases h with h | h | ⟨h3, a, u, h4, h5, h6⟩ | ⟨h3, a, u, a', u', j, g1, g2, h4, h5, h6, h7, h8, h9⟩
    · exact Or.inl h
    · exact Or.inr (Or.inl h)
    · exact Or.inr (Or.inr (Or.inl ⟨h3, a, u, h4, ih (by omega) h5, h6⟩))
    · exact Or.inr (Or.inr (Or.inr ⟨h3, a, u, a', u', j, g1, g2, h4, h5, h6, ih (by omega) h7, ih (by omega) h8, h9⟩))
theorem TR.cg {σ σ' : Hp} {lo : Nat} (hz : gS σ ≤ gS σ') (hc : ∀ x, lo ≤ x → x < gS σ → gT σ' x = gT σ x ∧ ∀ i, gR σ' x i = gR σ x i ∧ gI σ' x i = gI σ x i) : ∀ {k p : Nat} {v : Ev}, TR σ lo k p v → TR σ' lo k p v := by
  intro k
  induction k with
  | zero => intro p v h; exact h.elim
  | succ k ih =>
    intro p v h
    obtain ⟨h1, h2, h⟩ := h
    refine ⟨h1, Nat.lt_of_lt_of_le h2 hz, ?_⟩
    obtain ⟨c1, c2⟩ := hc p h1 h2
    rw [c1, (c2 0).1, (c2 2).1, (c2 0).2, (c2 1).2]
    rcases h with h | h | ⟨h3, a, u, h4, h5, h6⟩ | ⟨h3, a, u, a', u', j, g1, g2, h4, h5, h6, h7, h8, h9⟩
    · exact Or.inl h
    · exact Or.inr (Or.inl h)
    · exact Or.inr (Or.inr (Or.inl ⟨h3, a, u, h4, ih h5, h6⟩))
    · exact Or.inr (Or.inr (Or.inr ⟨h3, a, u, a', u', j, g1, g2, h4, h5, h6, ih h7, ih h8, h9⟩))
theorem TR.fr {S : Nat → Nat → Prop} {σ σ' : Hp} {lo : Nat} (hf : FR S σ σ') (hs : ∀ a k, lo ≤ a → ¬ S a k) {k p : Nat} {v : Ev} (h : TR σ lo k p v) : TR σ' lo k p v :=
  h.cg hf.1 (fun x h1 h2 => ⟨hf.gt h2, fun i => ⟨hf.gr h2, hf.gi h2 (hs _ _ h1)⟩⟩)
theorem TR.lo {σ : Hp} {lo lo' : Nat} (hl : lo' ≤ lo) : ∀ {k p : Nat} {v : Ev}, TR σ lo k p v → TR σ lo' k p v := by
  intro k
  induction k with
  | zero => intro p v h; exact h.elim
  | succ k ih =>
    intro p v h
    obtain ⟨h1, h2, h⟩ := h
    refine ⟨by omega, h2, ?_⟩
    rcases h with h | h | ⟨h3, a, u, h4, h5, h6⟩ | ⟨h3, a, u, a', u', j, g1, g2, h4, h5, h6, h7, h8, h9⟩
    · exact Or.inl h
    · exact Or.inr (Or.inl h)
    · exact Or.inr (Or.inr (Or.inl ⟨h3, a, u, h4, ih h5, h6⟩))
    · exact Or.inr (Or.inr (Or.inr ⟨h3, a, u, a', u', j, g1, g2, h4, h5, h6, ih h7, ih h8, h9⟩))
theorem TR.bd {σ : Hp} {lo : Nat} {k p : Nat} {v : Ev} (h : TR σ lo k p v) : lo ≤ p ∧ p < gS σ ∧ 1 ≤ k := by
  cases k with
  | zero => exact h.elim
  | succ k => exact ⟨h.1, h.2.1, by omega⟩
theorem S5_lo {o d a k : Nat} (ho : o < d) (h : d + 11 ≤ a) : ¬ S5 o d a k := by unfold S5; omega
