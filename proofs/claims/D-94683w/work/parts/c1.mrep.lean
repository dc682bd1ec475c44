set_option maxRecDepth 100000
/-! WHAT THE REFERENCE's ROWS HOLD: u = 0 what is kept, u = 1 what is read -/
def mNw (m : Nat) (σ : Hp) (p : Nat) (w : NoteW) : Prop := gI σ (m + 16) p = w.1 ∧ ∀ k, k < 8 → nHas w.1 k = true → gI σ (m + 16) (p + (if k = 0 then 1 else 2 + k)) = w.2.1 k ∧ (k = 0 → gI σ (m + 16) (p + 2) = w.2.2 k) ∧ (k = 7 → gI σ (m + 16) (p + 10) = w.2.2 k)
def MRl (m u : Nat) (σ : Hp) (R : RlA) : Prop :=
  (∀ i x, (aL R)[i]? = some x → gI σ (m + 4) (4 * u + i) = x.1 ∧ gI σ (m + 5) (12 * u + 3 * i) = x.2.1 ∧ gI σ (m + 5) (12 * u + 3 * i + 1) = x.2.2.1 ∧ gI σ (m + 5) (12 * u + 3 * i + 2) = x.2.2.2) ∧
  (∀ i x, (aF R)[i]? = some x → gI σ (m + 6) (4 * u + i) = x.1 ∧ ∃ a e, gI σ (m + 7) (4 * u + i) = Int32.ofNat a ∧ gI σ (m + 8) (4 * u + i) = Int32.ofNat e ∧ e ≤ aK R ∧ SegE (kN m σ u) (kP m σ u) (kO m σ u) a e x.2) ∧
  (∀ i x, (aP R)[i]? = some x → gI σ (m + 9) (6 * u + i) = x.1 ∧ gL σ (m + 10) (6 * u + i) = x.2.1 ∧ gL σ (m + 11) (6 * u + i) = x.2.2) ∧
  (∀ i x, (aD R)[i]? = some x → gI σ (m + 12) (4 * u + i) = x.1 ∧ gL σ (m + 13) (4 * u + i) = x.2.1 ∧ gI σ (m + 14) (12 * u + 3 * i) = x.2.2.1 ∧ gI σ (m + 14) (12 * u + 3 * i + 1) = x.2.2.2.1 ∧ gI σ (m + 14) (12 * u + 3 * i + 2) = x.2.2.2.2) ∧
  (∀ i x, (aN R)[i]? = some x → gI σ (m + 15) (6 * u + i) = x.1 ∧ mNw m σ (132 * u + 11 * i) x.2) ∧
  (∀ j, j < 7 → gI σ (m + 3) (7 * u + j) = aS R j)
/-- the places that hold it -/
def US (m u : Nat) (R : RlA) (a k : Nat) : Prop := (a = m + 4 ∧ 4 * u ≤ k ∧ k < 4 * u + (aL R).length) ∨ (a = m + 5 ∧ 12 * u ≤ k ∧ k < 12 * u + 3 * (aL R).length) ∨ ((a = m + 6 ∨ a = m + 7 ∨ a = m + 8) ∧ 4 * u ≤ k ∧ k < 4 * u + (aF R).length) ∨ ((a = m + 9 ∨ a = m + 10 ∨ a = m + 11) ∧ 6 * u ≤ k ∧ k < 6 * u + (aP R).length) ∨ ((a = m + 12 ∨ a = m + 13) ∧ 4 * u ≤ k ∧ k < 4 * u + (aD R).length) ∨ (a = m + 14 ∧ 12 * u ≤ k ∧ k < 12 * u + 3 * (aD R).length) ∨ (a = m + 15 ∧ 6 * u ≤ k ∧ k < 6 * u + (aN R).length) ∨ (a = m + 16 ∧ 132 * u ≤ k ∧ k < 132 * u + 11 * (aN R).length) ∨ (a = m + 3 ∧ 7 * u ≤ k ∧ k < 7 * u + 7) ∨ ((a = m + 17 ∨ a = m + 18 ∨ a = m + 19) ∧ 64 * u ≤ k ∧ k < 64 * u + aK R)
theorem get_lt {α : Type} {l : List α} {i : Nat} {x : α} (h : l[i]? = some x) : i < l.length := (List.getElem?_eq_some_iff.mp h).1
theorem mNw.fr {m : Nat} {σ σ' : Hp} {p : Nat} {w : NoteW} (h : mNw m σ p w) (hf : ∀ k, p ≤ k → k < p + 11 → gI σ' (m + 16) k = gI σ (m + 16) k) : mNw m σ' p w := by
  refine ⟨by rw [hf _ (by omega) (by omega)]; exact h.1, fun k hk hh => ?_⟩
  have e : p + (if k = 0 then 1 else 2 + k) < p + 11 ∧ p ≤ p + (if k = 0 then 1 else 2 + k) := by
    split <;> omega
  rw [hf _ e.2 e.1, hf _ (by omega) (by omega), hf _ (by omega) (by omega)]
  exact h.2 k hk hh
theorem us1 {m u : Nat} {R : RlA} {k : Nat} (h1 : 4 * u ≤ k) (h2 : k < 4 * u + (aL R).length) : US m u R (m + 4) k := Or.inl ⟨rfl, h1, h2⟩
theorem us2 {m u : Nat} {R : RlA} {k : Nat} (h1 : 12 * u ≤ k) (h2 : k < 12 * u + 3 * (aL R).length) : US m u R (m + 5) k := Or.inr (Or.inl ⟨rfl, h1, h2⟩)
theorem us3 {m u : Nat} {R : RlA} {a k : Nat} (h0 : a = m + 6 ∨ a = m + 7 ∨ a = m + 8) (h1 : 4 * u ≤ k) (h2 : k < 4 * u + (aF R).length) : US m u R a k := Or.inr (Or.inr (Or.inl ⟨h0, h1, h2⟩))
theorem us4 {m u : Nat} {R : RlA} {a k : Nat} (h0 : a = m + 9 ∨ a = m + 10 ∨ a = m + 11) (h1 : 6 * u ≤ k) (h2 : k < 6 * u + (aP R).length) : US m u R a k := Or.inr (Or.inr (Or.inr (Or.inl ⟨h0, h1, h2⟩)))
theorem us5 {m u : Nat} {R : RlA} {a k : Nat} (h0 : a = m + 12 ∨ a = m + 13) (h1 : 4 * u ≤ k) (h2 : k < 4 * u + (aD R).length) : US m u R a k := Or.inr (Or.inr (Or.inr (Or.inr (Or.inl ⟨h0, h1, h2⟩))))
theorem us6 {m u : Nat} {R : RlA} {k : Nat} (h1 : 12 * u ≤ k) (h2 : k < 12 * u + 3 * (aD R).length) : US m u R (m + 14) k := Or.inr (Or.inr (Or.inr (Or.inr (Or.inr (Or.inl ⟨rfl, h1, h2⟩)))))
theorem us7 {m u : Nat} {R : RlA} {k : Nat} (h1 : 6 * u ≤ k) (h2 : k < 6 * u + (aN R).length) : US m u R (m + 15) k := Or.inr (Or.inr (Or.inr (Or.inr (Or.inr (Or.inr (Or.inl ⟨rfl, h1, h2⟩))))))
theorem us8 {m u : Nat} {R : RlA} {k : Nat} (h1 : 132 * u ≤ k) (h2 : k < 132 * u + 11 * (aN R).length) : US m u R (m + 16) k := Or.inr (Or.inr (Or.inr (Or.inr (Or.inr (Or.inr (Or.inr (Or.inl ⟨rfl, h1, h2⟩)))))))
theorem us9 {m u : Nat} {R : RlA} {k : Nat} (h1 : 7 * u ≤ k) (h2 : k < 7 * u + 7) : US m u R (m + 3) k := Or.inr (Or.inr (Or.inr (Or.inr (Or.inr (Or.inr (Or.inr (Or.inr (Or.inl ⟨rfl, h1, h2⟩))))))))
theorem us10 {m u : Nat} {R : RlA} {a k : Nat} (h0 : a = m + 17 ∨ a = m + 18 ∨ a = m + 19) (h1 : 64 * u ≤ k) (h2 : k < 64 * u + aK R) : US m u R a k := Or.inr (Or.inr (Or.inr (Or.inr (Or.inr (Or.inr (Or.inr (Or.inr (Or.inr ⟨h0, h1, h2⟩))))))))
theorem MRl.fr {m u : Nat} {σ σ' : Hp} {R : RlA} (h : MRl m u σ R) (hf : ∀ a k, US m u R a k → gI σ' a k = gI σ a k ∧ gL σ' a k = gL σ a k) : MRl m u σ' R := by
  obtain ⟨h1, h2, h3, h4, h5, h6⟩ := h
  have fi : ∀ a k, US m u R a k → gI σ' a k = gI σ a k := fun a k q => (hf a k q).1
  have fl : ∀ a k, US m u R a k → gL σ' a k = gL σ a k := fun a k q => (hf a k q).2
  refine ⟨fun i x hi => ?_, fun i x hi => ?_, fun i x hi => ?_, fun i x hi => ?_, fun i x hi => ?_, fun j hj => ?_⟩
  · have := get_lt hi
    rw [fi _ _ (us1 (by omega) (by omega)), fi _ _ (us2 (by omega) (by omega)), fi _ _ (us2 (by omega) (by omega)), fi _ _ (us2 (by omega) (by omega))]
    exact h1 i x hi
  · have := get_lt hi
    obtain ⟨q1, a, e, q2, q3, q4, q5⟩ := h2 i x hi
    rw [fi _ _ (us3 (by omega) (by omega) (by omega)), fi _ _ (us3 (by omega) (by omega) (by omega)), fi _ _ (us3 (by omega) (by omega) (by omega))]
    refine ⟨q1, a, e, q2, q3, q4, q5.cg (fun j j1 j2 => ?_)⟩
    unfold kN kP kO
    exact ⟨fi _ _ (us10 (by omega) (by omega) (by omega)), fi _ _ (us10 (by omega) (by omega) (by omega)), fi _ _ (us10 (by omega) (by omega) (by omega))⟩
  · have := get_lt hi
    rw [fi _ _ (us4 (by omega) (by omega) (by omega)), fl _ _ (us4 (by omega) (by omega) (by omega)), fl _ _ (us4 (by omega) (by omega) (by omega))]
    exact h3 i x hi
  · have := get_lt hi
    rw [fi _ _ (us5 (by omega) (by omega) (by omega)), fl _ _ (us5 (by omega) (by omega) (by omega)), fi _ _ (us6 (by omega) (by omega)), fi _ _ (us6 (by omega) (by omega)), fi _ _ (us6 (by omega) (by omega))]
    exact h4 i x hi
  · have := get_lt hi
    rw [fi _ _ (us7 (by omega) (by omega))]
    exact ⟨(h5 i x hi).1, (h5 i x hi).2.fr (fun k q1 q2 => fi _ _ (us8 (by omega) (by omega)))⟩
  · rw [fi _ _ (us9 (by omega) (by omega))]
    exact h6 j hj
/-- .. by cases -/
theorem US.by {m u : Nat} {R : RlA} {S : Nat → Nat → Prop} {a k : Nat} (h : US m u R a k) (k1 : ∀ k, 4 * u ≤ k → k < 4 * u + (aL R).length → ¬ S (m + 4) k) (k2 : ∀ k, 12 * u ≤ k → k < 12 * u + 3 * (aL R).length → ¬ S (m + 5) k) (k3 : ∀ k, 4 * u ≤ k → k < 4 * u + (aF R).length → ¬ S (m + 6) k ∧ ¬ S (m + 7) k ∧ ¬ S (m + 8) k) (k4 : ∀ k, 6 * u ≤ k → k < 6 * u + (aP R).length → ¬ S (m + 9) k ∧ ¬ S (m + 10) k ∧ ¬ S (m + 11) k) (k5 : ∀ k, 4 * u ≤ k → k < 4 * u + (aD R).length → ¬ S (m + 12) k ∧ ¬ S (m + 13) k) (k6 : ∀ k, 12 * u ≤ k → k < 12 * u + 3 * (aD R).length → ¬ S (m + 14) k) (k7 : ∀ k, 6 * u ≤ k → k < 6 * u + (aN R).length → ¬ S (m + 15) k) (k8 : ∀ k, 132 * u ≤ k → k < 132 * u + 11 * (aN R).length → ¬ S (m + 16) k) (k9 : ∀ k, 7 * u ≤ k → k < 7 * u + 7 → ¬ S (m + 3) k) (k10 : ∀ k, 64 * u ≤ k → k < 64 * u + aK R → ¬ S (m + 17) k ∧ ¬ S (m + 18) k ∧ ¬ S (m + 19) k) : ¬ S a k := by
  rcases h with ⟨rfl, q1, q2⟩ | ⟨rfl, q1, q2⟩ | ⟨q0, q1, q2⟩ | ⟨q0, q1, q2⟩ | ⟨q0, q1, q2⟩ | ⟨rfl, q1, q2⟩ | ⟨rfl, q1, q2⟩ | ⟨rfl, q1, q2⟩ | ⟨rfl, q1, q2⟩ | ⟨q0, q1, q2⟩
  · exact k1 k q1 q2
  · exact k2 k q1 q2
  · rcases q0 with rfl | rfl | rfl
    · exact (k3 k q1 q2).1
    · exact (k3 k q1 q2).2.1
    · exact (k3 k q1 q2).2.2
  · rcases q0 with rfl | rfl | rfl
    · exact (k4 k q1 q2).1
    · exact (k4 k q1 q2).2.1
    · exact (k4 k q1 q2).2.2
  · rcases q0 with rfl | rfl
    · exact (k5 k q1 q2).1
    · exact (k5 k q1 q2).2
  · exact k6 k q1 q2
  · exact k7 k q1 q2
  · exact k8 k q1 q2
  · exact k9 k q1 q2
  · rcases q0 with rfl | rfl | rfl
    · exact (k10 k q1 q2).1
    · exact (k10 k q1 q2).2.1
    · exact (k10 k q1 q2).2.2
/-- how many are read, and what is told -/
def MC (m : Nat) (σ : Hp) (P : PSt) : Prop := (gI σ m 18 = Int32.ofNat (aL P.1).length ∧ (aL P.1).length ≤ 4) ∧ (gI σ m 19 = Int32.ofNat (aF P.1).length ∧ (aF P.1).length ≤ 4) ∧ (gI σ m 20 = Int32.ofNat (aP P.1).length ∧ (aP P.1).length ≤ 6) ∧ (gI σ m 21 = Int32.ofNat (aD P.1).length ∧ (aD P.1).length ≤ 4) ∧ (gI σ m 22 = Int32.ofNat (aN P.1).length ∧ (aN P.1).length ≤ 6) ∧ (gI σ m 23 = Int32.ofNat (aK P.1) ∧ gI σ m 50 = Int32.ofNat (aK P.1) ∧ aK P.1 ≤ 64) ∧ gI σ m 25 = bI P.2.1 ∧ gI σ m 26 = bI P.2.2.1 ∧ gI σ m 27 = bI P.2.2.2
/-- all that reading a text writes -/
def SRd (m a k : Nat) : Prop := (a = m ∧ (k = 4 ∨ k = 5 ∨ k = 7 ∨ k = 8 ∨ k = 9 ∨ k = 10 ∨ k = 11 ∨ (18 ≤ k ∧ k ≤ 23) ∨ (25 ≤ k ∧ k ≤ 27) ∨ k = 44 ∨ (47 ≤ k ∧ k ≤ 52))) ∨ (a = m + 3 ∧ 7 ≤ k) ∨ (a = m + 4 ∧ 4 ≤ k) ∨ (a = m + 5 ∧ 12 ≤ k) ∨ ((a = m + 6 ∨ a = m + 7 ∨ a = m + 8) ∧ 4 ≤ k) ∨ ((a = m + 9 ∨ a = m + 10 ∨ a = m + 11) ∧ 6 ≤ k) ∨ ((a = m + 12 ∨ a = m + 13) ∧ 4 ≤ k) ∨ (a = m + 14 ∧ 12 ≤ k) ∨ (a = m + 15 ∧ 6 ≤ k) ∨ (a = m + 16 ∧ 132 ≤ k) ∨ ((a = m + 17 ∨ a = m + 18 ∨ a = m + 19) ∧ 64 ≤ k) ∨ a = m + 20 ∨ a = m + 21
/-- a line of the reference, by its word -/
def MLn {α : Type} (m : Nat) (b : Nat → Int32) (n : Nat) (σ : Hp) (x : PR α) (P' : α → PSt) (Q : Int32 → Hp → Prop) : Prop := (∀ v t' σ', x = .inl (v, t') → Ch (SRd m) σ σ' → MT m b n σ' t' → MRl m 1 σ' (P' v).1 → MC m σ' (P' v) → Q 1 σ') ∧ (∀ k pl σ', x = .inr (k, pl) → Ch (SRd m) σ σ' → gI σ' m 4 = k → gI σ' m 5 = Int32.ofNat pl → Q 0 σ')
theorem Sp_SRd {m a k : Nat} (h : Sp m a k) : SRd m a k := by
  obtain ⟨h1, h2⟩ := h
  exact Or.inl ⟨h1, by omega⟩
theorem mnms1 {m : Nat} {σ : Hp} {R : RlA} (h : MRl m 1 σ R) : ∀ i y, (nms1 R)[i]? = some y → gI σ (m + 4) (4 + i) = y := by
  intro i y hi
  unfold nms1 at hi
  rw [List.getElem?_map] at hi
  cases hl : (aL R)[i]? with
  | none => rw [hl] at hi; cases hi
  | some x => rw [hl] at hi; cases hi; exact (h.1 i x hl).1
theorem mnms2 {m : Nat} {σ : Hp} {R : RlA} (h : MRl m 1 σ R) : ∀ i y, (nms2 R)[i]? = some y → gI σ (m + 6) (4 + i) = y := by
  intro i y hi
  unfold nms2 at hi
  rw [List.getElem?_map] at hi
  cases hl : (aF R)[i]? with
  | none => rw [hl] at hi; cases hi
  | some x => rw [hl] at hi; cases hi; exact (h.2.1 i x hl).1
theorem mnms3 {m : Nat} {σ : Hp} {R : RlA} (h : MRl m 1 σ R) : ∀ i y, (nms3 R)[i]? = some y → gI σ (m + 9) (6 + i) = y := by
  intro i y hi
  unfold nms3 at hi
  rw [List.getElem?_map] at hi
  cases hl : (aP R)[i]? with
  | none => rw [hl] at hi; cases hi
  | some x => rw [hl] at hi; cases hi; exact (h.2.2.1 i x hl).1
theorem mnms4 {m : Nat} {σ : Hp} {R : RlA} (h : MRl m 1 σ R) : ∀ i y, (nms4 R)[i]? = some y → gI σ (m + 12) (4 + i) = y := by
  intro i y hi
  unfold nms4 at hi
  rw [List.getElem?_map] at hi
  cases hl : (aD R)[i]? with
  | none => rw [hl] at hi; cases hi
  | some x => rw [hl] at hi; cases hi; exact (h.2.2.2.1 i x hl).1
theorem mnms5 {m : Nat} {σ : Hp} {R : RlA} (h : MRl m 1 σ R) : ∀ i y, (nms5 R)[i]? = some y → gI σ (m + 15) (6 + i) = y := by
  intro i y hi
  unfold nms5 at hi
  rw [List.getElem?_map] at hi
  cases hl : (aN R)[i]? with
  | none => rw [hl] at hi; cases hi
  | some x => rw [hl] at hi; cases hi; exact (h.2.2.2.2.1 i x hl).1
/-- the last of a list that one was put to -/
theorem put_get {α : Type} {l : List α} {x y : α} {i : Nat} (h : (l ++ [x])[i]? = some y) : (i < l.length ∧ l[i]? = some y) ∨ (i = l.length ∧ y = x) := by
  by_cases hi : i < l.length
  · rw [List.getElem?_append_left hi] at h
    exact Or.inl ⟨hi, h⟩
  · have hl := get_lt h
    simp at hl
    have e : i = l.length := by omega
    subst e
    rw [List.getElem?_append_right (Nat.le_refl _)] at h
    simp at h
    exact Or.inr ⟨rfl, h.symm⟩
/-- what a land's line writes -/
def SLa (m ln a k : Nat) : Prop := Sp m a k ∨ (a = m ∧ k = 18) ∨ (a = m + 4 ∧ k = 4 + ln) ∨ (a = m + 5 ∧ 12 + 3 * ln ≤ k ∧ k < 15 + 3 * ln)
theorem m_putL {m : Nat} {σ σ' : Hp} {P : PSt} {x : LandA} (h : MRl m 1 σ P.1) (hC : MC m σ P) (hl : (aL P.1).length ≠ 4) (hc : Ch (SLa m (aL P.1).length) σ σ') (h18 : gI σ' m 18 = Int32.ofNat ((aL P.1).length + 1)) (x0 : gI σ' (m + 4) (4 + (aL P.1).length) = x.1) (x1 : gI σ' (m + 5) (12 + 3 * (aL P.1).length) = x.2.1) (x2 : gI σ' (m + 5) (12 + 3 * (aL P.1).length + 1) = x.2.2.1) (x3 : gI σ' (m + 5) (12 + 3 * (aL P.1).length + 2) = x.2.2.2) : MRl m 1 σ' (putL P.1 x) ∧ MC m σ' (putL P.1 x, P.2) := by
  have hu : ∀ a k, US m 1 P.1 a k → ¬ SLa m (aL P.1).length a k := fun a k q => q.by (fun k _ _ => by unfold SLa Sp; omega) (fun k _ _ => by unfold SLa Sp; omega) (fun k _ _ => by unfold SLa Sp; omega) (fun k _ _ => by unfold SLa Sp; omega) (fun k _ _ => by unfold SLa Sp; omega) (fun k _ _ => by unfold SLa Sp; omega) (fun k _ _ => by unfold SLa Sp; omega) (fun k _ _ => by unfold SLa Sp; omega) (fun k _ _ => by unfold SLa Sp; omega) (fun k _ _ => by unfold SLa Sp; omega)
  have h' : MRl m 1 σ' P.1 := h.fr (fun a k q => ⟨hc.gi (hu a k q), hc.gl (hu a k q)⟩)
  obtain ⟨c1, c2, c3, c4, c5, c6, c7, c8, c9⟩ := hC
  have f : ∀ k, k ≠ 18 → 12 ≤ k → gI σ' m k = gI σ m k := fun k q1 q2 => hc.gi (by unfold SLa Sp; omega)
  refine ⟨⟨fun i y hi => ?_, h'.2⟩, ⟨?_, ?_⟩, ?_, ?_, ?_, ?_, ?_, ?_⟩
  · rcases put_get (show (aL P.1 ++ [x])[i]? = some y from hi) with ⟨q1, q2⟩ | ⟨q1, q2⟩
    · exact h'.1 i y q2
    · subst q1; subst q2
      exact ⟨x0, x1, x2, x3⟩
  · rw [h18]; show _ = Int32.ofNat (aL P.1 ++ [x]).length; simp
  · show (aL P.1 ++ [x]).length ≤ 4; simp; omega
  · rw [f _ (by omega) (by omega)]; exact c2
  · rw [f _ (by omega) (by omega)]; exact c3
  · rw [f _ (by omega) (by omega)]; exact c4
  · rw [f _ (by omega) (by omega)]; exact c5
  · rw [f _ (by omega) (by omega), f _ (by omega) (by omega)]; exact c6
  · rw [f _ (by omega) (by omega), f _ (by omega) (by omega), f _ (by omega) (by omega)]; exact ⟨c7, c8, c9⟩
