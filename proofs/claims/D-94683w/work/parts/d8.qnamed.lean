set_option maxRecDepth 100000
def nameS (R : RlA) (w x : Int32) : Int32 := if w = 0 then fndI (fnd x (nms1 R) 0) else if w = 1 then fndI (fnd x (nms2 R) 0) else if w = 2 then fndI (fnd x (nms3 R) 0) else if w = 3 then fndI (fnd x (nms4 R) 0) else if w = 4 then fndI (fnd x (nms5 R) 0) else -1
theorem ql_named {o c : Nat} {σ : Hp} {R : RlA} {w x : Int32} {Q : Int32 → Prop} (hL : LRl c σ R) (hQ : Q (nameS R w x)) : wp_X1_named o c σ w x Q := by
  unfold nameS at hQ
  unfold wp_X1_named
  refine ⟨fun q => ?_, fun q => ?_⟩
  · rw [if_pos q] at hQ; exact rd_find hL.n1 hQ
  rw [if_neg q] at hQ
  refine ⟨fun q => ?_, fun q => ?_⟩
  · rw [if_pos q] at hQ; exact rd_find hL.n2 hQ
  rw [if_neg q] at hQ
  refine ⟨fun q => ?_, fun q => ?_⟩
  · rw [if_pos q] at hQ; exact rd_find hL.n3 hQ
  rw [if_neg q] at hQ
  refine ⟨fun q => ?_, fun q => ?_⟩
  · rw [if_pos q] at hQ; exact rd_find hL.n4 hQ
  rw [if_neg q] at hQ
  refine ⟨fun q => ?_, fun q => ?_⟩
  · rw [if_pos q] at hQ; exact rd_find hL.n5 hQ
  rw [if_neg q] at hQ
  exact hQ
theorem mk_n1 {m : Nat} {σ : Hp} {R : RlA} (h : MKr m σ R) : ∀ i z, (nms1 R)[i]? = some z → gI σ (m + 4) (0 + i) = z := by
  intro i z hi
  unfold nms1 at hi
  rw [List.getElem?_map] at hi
  cases hl : (aL R)[i]? with
  | none => rw [hl] at hi; cases hi
  | some y =>
    rw [hl] at hi; cases hi
    rw [show 0 + i = 4 * 0 + i by omega]
    exact (h.1.1 i y hl).1
theorem mk_n2 {m : Nat} {σ : Hp} {R : RlA} (h : MKr m σ R) : ∀ i z, (nms2 R)[i]? = some z → gI σ (m + 6) (0 + i) = z := by
  intro i z hi
  unfold nms2 at hi
  rw [List.getElem?_map] at hi
  cases hl : (aF R)[i]? with
  | none => rw [hl] at hi; cases hi
  | some y =>
    rw [hl] at hi; cases hi
    rw [show 0 + i = 4 * 0 + i by omega]
    exact (h.1.2.1 i y hl).1
theorem mk_n3 {m : Nat} {σ : Hp} {R : RlA} (h : MKr m σ R) : ∀ i z, (nms3 R)[i]? = some z → gI σ (m + 9) (0 + i) = z := by
  intro i z hi
  unfold nms3 at hi
  rw [List.getElem?_map] at hi
  cases hl : (aP R)[i]? with
  | none => rw [hl] at hi; cases hi
  | some y =>
    rw [hl] at hi; cases hi
    rw [show 0 + i = 6 * 0 + i by omega]
    exact (h.1.2.2.1 i y hl).1
theorem mk_n4 {m : Nat} {σ : Hp} {R : RlA} (h : MKr m σ R) : ∀ i z, (nms4 R)[i]? = some z → gI σ (m + 12) (0 + i) = z := by
  intro i z hi
  unfold nms4 at hi
  rw [List.getElem?_map] at hi
  cases hl : (aD R)[i]? with
  | none => rw [hl] at hi; cases hi
  | some y =>
    rw [hl] at hi; cases hi
    rw [show 0 + i = 4 * 0 + i by omega]
    exact (h.1.2.2.2.1 i y hl).1
theorem mk_n5 {m : Nat} {σ : Hp} {R : RlA} (h : MKr m σ R) : ∀ i z, (nms5 R)[i]? = some z → gI σ (m + 15) (0 + i) = z := by
  intro i z hi
  unfold nms5 at hi
  rw [List.getElem?_map] at hi
  cases hl : (aN R)[i]? with
  | none => rw [hl] at hi; cases hi
  | some y =>
    rw [hl] at hi; cases hi
    rw [Nat.zero_add]
    exact h.2.2.2.2.2.2.2.2 i y hl
theorem qm_named {m : Nat} {σ : Hp} {R : RlA} {w x : Int32} {Q : Int32 → Hp → Prop} (hM : MKr m σ R) (hQ : Q (nameS R w x) (pI σ m 2 0)) : wp_X6_named m σ w x Q := by
  have M2 : MKr m (pI σ m 2 0) R := hM.o (by omega)
  obtain ⟨b1, b2, b3, b4, b5, -⟩ := hM.2.1
  have l1 : (nms1 R).length = (aL R).length := by unfold nms1; rw [List.length_map]
  have l2 : (nms2 R).length = (aF R).length := by unfold nms2; rw [List.length_map]
  have l3 : (nms3 R).length = (aP R).length := by unfold nms3; rw [List.length_map]
  have l4 : (nms4 R).length = (aD R).length := by unfold nms4; rw [List.length_map]
  have l5 : (nms5 R).length = (aN R).length := by unfold nms5; rw [List.length_map]
  unfold nameS at hQ
  unfold wp_X6_named
  rw [hM.2.2.1, hM.2.2.2.1, hM.2.2.2.2.1, hM.2.2.2.2.2.1, hM.2.2.2.2.2.2.1, ← l1, ← l2, ← l3, ← l4, ← l5]
  refine ⟨fun q => ?_, fun q => ?_⟩
  · rw [if_pos q] at hQ; exact m_find (fr := 0) (mk_n1 M2) (by omega) (by omega) hQ
  rw [if_neg q] at hQ
  refine ⟨fun q => ?_, fun q => ?_⟩
  · rw [if_pos q] at hQ; exact m_find (fr := 0) (mk_n2 M2) (by omega) (by omega) hQ
  rw [if_neg q] at hQ
  refine ⟨fun q => ?_, fun q => ?_⟩
  · rw [if_pos q] at hQ; exact m_find (fr := 0) (mk_n3 M2) (by omega) (by omega) hQ
  rw [if_neg q] at hQ
  refine ⟨fun q => ?_, fun q => ?_⟩
  · rw [if_pos q] at hQ; exact m_find (fr := 0) (mk_n4 M2) (by omega) (by omega) hQ
  rw [if_neg q] at hQ
  refine ⟨fun q => ?_, fun q => ?_⟩
  · rw [if_pos q] at hQ; exact m_find (fr := 0) (mk_n5 M2) (by omega) (by omega) hQ
  rw [if_neg q] at hQ
  exact hQ
