set_option maxRecDepth 100000
/-! WHAT LongYears' REALM HOLDS -/
/-- cells from lo on stand -/
def AG (lo : Nat) (σ σ' : Hp) : Prop := gS σ ≤ gS σ' ∧ ∀ a, lo ≤ a → a < gS σ → gT σ' a = gT σ a ∧ ∀ k, gR σ' a k = gR σ a k ∧ gI σ' a k = gI σ a k ∧ gL σ' a k = gL σ a k
theorem AG.rf {lo : Nat} {σ : Hp} : AG lo σ σ := ⟨Nat.le_refl _, fun _ _ _ => ⟨rfl, fun _ => ⟨rfl, rfl, rfl⟩⟩⟩
theorem AG.tr {lo : Nat} {σ σ' τ : Hp} (h : AG lo σ σ') (h2 : AG lo σ' τ) : AG lo σ τ := by
  refine ⟨Nat.le_trans h.1 h2.1, fun a h1 h3 => ?_⟩
  obtain ⟨a1, a2⟩ := h.2 a h1 h3
  obtain ⟨b1, b2⟩ := h2.2 a h1 (Nat.lt_of_lt_of_le h3 h.1)
  exact ⟨b1.trans a1, fun k => ⟨(b2 k).1.trans (a2 k).1, (b2 k).2.1.trans (a2 k).2.1, (b2 k).2.2.trans (a2 k).2.2⟩⟩
theorem FR.ag {S : Nat → Nat → Prop} {lo : Nat} {σ σ' : Hp} (h : FR S σ σ') (hs : ∀ a k, lo ≤ a → ¬ S a k) : AG lo σ σ' := ⟨h.1, fun a h1 h2 => ⟨h.gt h2, fun k => ⟨h.gr h2, h.gi h2 (hs a k h1), h.gl h2 (hs a k h1)⟩⟩⟩
def pLand (σ : Hp) (p : Nat) (x : LandA) : Prop := p < gS σ ∧ gT σ p = some (.inl 6) ∧ gI σ p 0 = x.1 ∧ gI σ p 1 = x.2.1 ∧ gI σ p 2 = x.2.2.1 ∧ gI σ p 3 = x.2.2.2
def pFeast (lo : Nat) (σ : Hp) (p : Nat) (x : FeastA) : Prop := p < gS σ ∧ gT σ p = some (.inl 7) ∧ gI σ p 0 = x.1 ∧ ∃ q, gR σ p 1 = some q ∧ TR σ lo 64 q x.2
def pPers (σ : Hp) (p : Nat) (x : PersA) : Prop := p < gS σ ∧ gT σ p = some (.inl 8) ∧ gI σ p 0 = x.1 ∧ gL σ p 1 = x.2.1 ∧ gL σ p 2 = x.2.2
def dCl (k : Int32) : Nat := if k = 0 then 10 else if k = 1 then 9 else 11
def pDeed (σ : Hp) (p : Nat) (x : DeedA) : Prop := p < gS σ ∧ gT σ p = some (.inl (dCl x.2.2.1)) ∧ gI σ p 0 = x.1 ∧ gL σ p 1 = x.2.1 ∧ gI σ p 2 = x.2.2.2.1 ∧ gI σ p 3 = x.2.2.2.2
def pNw (σ : Hp) (p : Nat) (w : NoteW) : Prop := gI σ p 1 = w.1 ∧ ∀ k, k < 8 → nHas w.1 k = true → gI σ (p + 1) k = w.2.1 k ∧ (k = 0 ∨ k = 7 → gI σ (p + 2) k = w.2.2 k)
def pNote (σ : Hp) (p : Nat) (x : NoteA) : Prop := p + 3 ≤ gS σ ∧ NB p σ ∧ gI σ p 0 = x.1 ∧ pNw σ p x.2
theorem pLand.ag {lo : Nat} {σ σ' : Hp} {p : Nat} {x : LandA} (h : pLand σ p x) (hl : lo ≤ p) (ha : AG lo σ σ') : pLand σ' p x := by
  obtain ⟨h0, h1, h2⟩ := h
  obtain ⟨a1, a2⟩ := ha.2 p hl h0
  refine ⟨Nat.lt_of_lt_of_le h0 ha.1, a1.trans h1, ?_⟩
  rw [(a2 0).2.1, (a2 1).2.1, (a2 2).2.1, (a2 3).2.1]
  exact h2
theorem pFeast.ag {lo : Nat} {σ σ' : Hp} {p : Nat} {x : FeastA} (h : pFeast lo σ p x) (hl : lo ≤ p) (ha : AG lo σ σ') : pFeast lo σ' p x := by
  obtain ⟨h0, h1, h2, q, h3, h4⟩ := h
  obtain ⟨a1, a2⟩ := ha.2 p hl h0
  refine ⟨Nat.lt_of_lt_of_le h0 ha.1, a1.trans h1, (a2 0).2.1.trans h2, q, (a2 1).1.trans h3, h4.cg ha.1 (fun y y1 y2 => ?_)⟩
  obtain ⟨b1, b2⟩ := ha.2 y y1 y2
  exact ⟨b1, fun i => ⟨(b2 i).1, (b2 i).2.1⟩⟩
theorem pPers.ag {lo : Nat} {σ σ' : Hp} {p : Nat} {x : PersA} (h : pPers σ p x) (hl : lo ≤ p) (ha : AG lo σ σ') : pPers σ' p x := by
  obtain ⟨h0, h1, h2⟩ := h
  obtain ⟨a1, a2⟩ := ha.2 p hl h0
  refine ⟨Nat.lt_of_lt_of_le h0 ha.1, a1.trans h1, ?_⟩
  rw [(a2 0).2.1, (a2 1).2.2, (a2 2).2.2]
  exact h2
theorem pDeed.ag {lo : Nat} {σ σ' : Hp} {p : Nat} {x : DeedA} (h : pDeed σ p x) (hl : lo ≤ p) (ha : AG lo σ σ') : pDeed σ' p x := by
  obtain ⟨h0, h1, h2⟩ := h
  obtain ⟨a1, a2⟩ := ha.2 p hl h0
  refine ⟨Nat.lt_of_lt_of_le h0 ha.1, a1.trans h1, ?_⟩
  rw [(a2 0).2.1, (a2 1).2.2, (a2 2).2.1, (a2 3).2.1]
  exact h2
theorem pNw.ag {lo : Nat} {σ σ' : Hp} {p : Nat} {x : NoteW} (h : pNw σ p x) (hz : p + 3 ≤ gS σ) (hl : lo ≤ p) (ha : AG lo σ σ') : pNw σ' p x := by
  obtain ⟨h1, h2⟩ := h
  have f : ∀ a k, p ≤ a → a < p + 3 → gI σ' a k = gI σ a k := fun a k q1 q2 => ((ha.2 a (by omega) (by omega)).2 k).2.1
  refine ⟨by rw [f _ _ (by omega) (by omega)]; exact h1, fun k hk hh => ?_⟩
  rw [f _ _ (by omega) (by omega), f _ _ (by omega) (by omega)]
  exact h2 k hk hh
theorem pNote.ag {lo : Nat} {σ σ' : Hp} {p : Nat} {x : NoteA} (h : pNote σ p x) (hl : lo ≤ p) (ha : AG lo σ σ') : pNote σ' p x := by
  obtain ⟨h0, h1, h2, h3⟩ := h
  have g := fun a (q1 : p ≤ a) (q2 : a < p + 3) => ha.2 a (by omega) (by omega)
  refine ⟨Nat.le_trans h0 ha.1, ⟨(g p (by omega) (by omega)).1.trans h1.1, ((g p (by omega) (by omega)).2 2).1.trans h1.2.1, (g (p + 1) (by omega) (by omega)).1.trans h1.2.2.1, ((g p (by omega) (by omega)).2 3).1.trans h1.2.2.2.1, (g (p + 2) (by omega) (by omega)).1.trans h1.2.2.2.2⟩, ((g p (by omega) (by omega)).2 0).2.1.trans h2, h3.ag h0 hl ha⟩
/-- a list of the realm d, at its place -/
def LST {α : Type} (d off cap : Nat) (P : Hp → Nat → α → Prop) (l : List α) (σ : Hp) : Prop := gI σ (d + off) 2 = Int32.ofNat l.length ∧ l.length ≤ cap ∧ ∀ i x, l[i]? = some x → ∃ p, gR σ (d + off + 1) i = some p ∧ d + 11 ≤ p ∧ P σ p x
def aSky (d : Nat) (σ : Hp) (s : Nat → Int32) : Prop := gI σ d 5 = s 0 ∧ gI σ d 6 = s 1 ∧ gL σ d 12 = (s 2).toInt64 ∧ gI σ d 8 = s 3 ∧ gI σ d 7 = s 4 ∧ gL σ d 13 = (s 5).toInt64 ∧ gI σ d 9 = s 6
def LRl (d : Nat) (σ : Hp) (R : RlA) : Prop := LST d 1 4 pLand (aL R) σ ∧ LST d 3 4 (pFeast (d + 11)) (aF R) σ ∧ LST d 5 6 pPers (aP R) σ ∧ LST d 7 4 pDeed (aD R) σ ∧ LST d 9 6 pNote (aN R) σ ∧ aSky d σ (aS R)
theorem LST.ag {α : Type} {d off cap : Nat} {P : Hp → Nat → α → Prop} {l : List α} {σ σ' : Hp} (h : LST d off cap P l σ) (hP : ∀ p x, d + 11 ≤ p → P σ p x → P σ' p x) (h2 : gI σ' (d + off) 2 = gI σ (d + off) 2) (hr : ∀ i, gR σ' (d + off + 1) i = gR σ (d + off + 1) i) : LST d off cap P l σ' := by
  obtain ⟨a1, a2, a3⟩ := h
  refine ⟨h2.trans a1, a2, fun i x hi => ?_⟩
  obtain ⟨p, p1, p2, p3⟩ := a3 i x hi
  exact ⟨p, (hr i).trans p1, p2, hP p x p2 p3⟩
/-- the realm stands where none of it is written -/
theorem LRl.ag {d : Nat} {σ σ' : Hp} {R : RlA} (h : LRl d σ R) (ha : AG (d + 11) σ σ') (hi : ∀ a k, d ≤ a → a < d + 11 → (a = d → k ≠ 10 ∧ k ≠ 11) → (a ≠ d → k = 2) → gI σ' a k = gI σ a k) (hl : ∀ k, k = 12 ∨ k = 13 → gL σ' d k = gL σ d k) (hr : ∀ a k, d ≤ a → a < d + 11 → gR σ' a k = gR σ a k) : LRl d σ' R := by
  obtain ⟨h1, h2, h3, h4, h5, h6⟩ := h
  refine ⟨h1.ag (fun p x q1 q2 => q2.ag q1 ha) (hi _ _ (by omega) (by omega) (by omega) (by omega)) (fun i => hr _ _ (by omega) (by omega)), h2.ag (fun p x q1 q2 => q2.ag q1 ha) (hi _ _ (by omega) (by omega) (by omega) (by omega)) (fun i => hr _ _ (by omega) (by omega)), h3.ag (fun p x q1 q2 => q2.ag q1 ha) (hi _ _ (by omega) (by omega) (by omega) (by omega)) (fun i => hr _ _ (by omega) (by omega)), h4.ag (fun p x q1 q2 => q2.ag q1 ha) (hi _ _ (by omega) (by omega) (by omega) (by omega)) (fun i => hr _ _ (by omega) (by omega)), h5.ag (fun p x q1 q2 => q2.ag q1 ha) (hi _ _ (by omega) (by omega) (by omega) (by omega)) (fun i => hr _ _ (by omega) (by omega)), ?_⟩
  unfold aSky
  rw [hi _ _ (by omega) (by omega) (by omega) (by omega), hi _ _ (by omega) (by omega) (by omega) (by omega), hl _ (by omega), hi _ _ (by omega) (by omega) (by omega) (by omega), hi _ _ (by omega) (by omega) (by omega) (by omega), hl _ (by omega), hi _ _ (by omega) (by omega) (by omega) (by omega)]
  exact h6
theorem LRl.fr {o d : Nat} {σ σ' : Hp} {R : RlA} (h : LRl d σ R) (hf : FR (S5 o d) σ σ') (ho : o < d) (hd : d + 11 ≤ gS σ) : LRl d σ' R :=
  h.ag (hf.ag (fun a k ha => S5_lo ho ha)) (fun a k q1 q2 q3 q4 => hf.gi (by omega) (by unfold S5; omega)) (fun k hk => hf.gl (by omega) (by unfold S5; omega)) (fun a k q1 q2 => hf.gr (by omega))
theorem LST.nml {α : Type} {d off cap : Nat} {P : Hp → Nat → α → Prop} {l : List α} {σ : Hp} {f : α → Int32} (h : LST d off cap P l σ) (hc : cap ≤ 6) (hP : ∀ p x, P σ p x → isNm σ p ∧ gI σ p 0 = f x) : NML (d + off) cap (l.map f) σ := by
  obtain ⟨h1, h2, h3⟩ := h
  refine ⟨by rw [List.length_map]; exact h1, by rw [List.length_map]; exact h2, hc, fun i y hi => ?_⟩
  rw [List.getElem?_map] at hi
  cases hl : l[i]? with
  | none => rw [hl] at hi; cases hi
  | some x =>
    rw [hl] at hi
    cases hi
    obtain ⟨p, p1, p2, p3⟩ := h3 i x hl
    exact ⟨p, p1, hP p x p3⟩
theorem LRl.n1 {d : Nat} {σ : Hp} {R : RlA} (h : LRl d σ R) : NML (d + 1) 4 (nms1 R) σ := h.1.nml (by omega) (fun p x q => ⟨⟨6, by decide, q.2.1⟩, q.2.2.1⟩)
theorem LRl.n2 {d : Nat} {σ : Hp} {R : RlA} (h : LRl d σ R) : NML (d + 3) 4 (nms2 R) σ := h.2.1.nml (by omega) (fun p x q => ⟨⟨7, by decide, q.2.1⟩, q.2.2.1⟩)
theorem LRl.n3 {d : Nat} {σ : Hp} {R : RlA} (h : LRl d σ R) : NML (d + 5) 6 (nms3 R) σ := h.2.2.1.nml (by omega) (fun p x q => ⟨⟨8, by decide, q.2.1⟩, q.2.2.1⟩)
theorem dCl_m (k : Int32) : dCl k ∈ nmd ∧ dCl k ∈ dds := by
  unfold dCl
  repeat' split
  all_goals decide
theorem LRl.n4 {d : Nat} {σ : Hp} {R : RlA} (h : LRl d σ R) : NML (d + 7) 4 (nms4 R) σ := h.2.2.2.1.nml (by omega) (fun p x q => ⟨⟨dCl x.2.2.1, (dCl_m _).1, q.2.1⟩, q.2.2.1⟩)
theorem LRl.n5 {d : Nat} {σ : Hp} {R : RlA} (h : LRl d σ R) : NML (d + 9) 6 (nms5 R) σ := h.2.2.2.2.1.nml (by omega) (fun p x q => ⟨⟨5, by decide, q.2.1.1⟩, q.2.2.1⟩)
/-- one more at a list's end -/
def addH (a p : Nat) (σ : Hp) : Hp := pI (pR (pI σ a 0 (gI σ a 0 + 1)) (a + 1) (gI σ a 2).toNatClampNeg (some p)) a 2 (gI σ a 2 + 1)
theorem addH_i {a p : Nat} {σ : Hp} {x k : Nat} (h : x ≠ a) : gI (addH a p σ) x k = gI σ x k := by
  unfold addH
  rw [pIo (Or.inl h), gI_pR, pIo (Or.inl h)]
theorem addH_l {a p : Nat} {σ : Hp} {x k : Nat} : gL (addH a p σ) x k = gL σ x k := rfl
theorem addH_r {a p : Nat} {σ : Hp} {x k : Nat} (h : x ≠ a + 1) : gR (addH a p σ) x k = gR σ x k := by
  unfold addH
  rw [gR_pI, gR_pR, if_neg (fun q => h q.1), gR_pI]
theorem addH_ag {d off p : Nat} {σ : Hp} (h : off + 1 < 11) : AG (d + 11) σ (addH (d + off) p σ) := ⟨Nat.le_refl _, fun a h1 _ => ⟨rfl, fun k => ⟨addH_r (by omega), addH_i (by omega), rfl⟩⟩⟩
theorem LST.add {α : Type} {d off cap : Nat} {P : Hp → Nat → α → Prop} {l : List α} {σ : Hp} {p : Nat} {x : α} (h : LST d off cap P l σ) (hc : cap ≤ 6) (ho : off + 1 < 11) (hl : l.length ≠ cap) (hp : d + 11 ≤ p) (hx : P (addH (d + off) p σ) p x) (hP : ∀ q y, d + 11 ≤ q → P σ q y → P (addH (d + off) p σ) q y) : LST d off cap P (l ++ [x]) (addH (d + off) p σ) := by
  obtain ⟨h1, h2, h3⟩ := h
  refine ⟨?_, by rw [List.length_append]; simp; omega, fun i y hi => ?_⟩
  · unfold addH
    rw [gI_pI, if_pos ⟨rfl, rfl⟩, h1, nat_s (by omega)]
    simp
  · by_cases hil : i < l.length
    · rw [List.getElem?_append_left hil] at hi
      obtain ⟨q, q1, q2, q3⟩ := h3 i y hi
      refine ⟨q, ?_, q2, hP q y q2 q3⟩
      unfold addH
      rw [gR_pI, gR_pR, if_neg (fun w => ?_), gR_pI]
      · exact q1
      · rw [h1, nat_c (by omega)] at w; omega
    · have e : i = l.length := by
        have := (List.getElem?_eq_some_iff.mp hi).1
        simp at this
        omega
      subst e
      rw [List.getElem?_append_right (Nat.le_refl _)] at hi
      simp at hi
      subst hi
      refine ⟨p, ?_, hp, hx⟩
      unfold addH
      rw [gR_pI, gR_pR, if_pos ⟨rfl, by rw [h1, nat_c (by omega)]⟩]
theorem rd_add {α : Type} {d off cap : Nat} {P : Hp → Nat → α → Prop} {l : List α} {σ : Hp} {p Mx : Nat} {Q : Int32 → Hp → Prop} {E : Nat → Hp → Prop} (h : LST d off cap P l σ) (hc : cap ≤ 6) (hl : l.length ≠ cap) (hn : isNm σ p) (hQ : Q 1 (addH (d + off) p σ)) : wp_J2_add (d + off) cap σ p Mx Q E := by
  obtain ⟨h1, h2, h3⟩ := h
  unfold wp_J2_add wp_J2_add_2
  refine ⟨fun q => ?_, fun q => ⟨?_, hn, fun _ => hQ⟩⟩
  · rw [h1, nat_e (by omega) (by omega)] at q
    exact hl q
  · rw [h1]
    exact nat_v (by omega) (by omega)
