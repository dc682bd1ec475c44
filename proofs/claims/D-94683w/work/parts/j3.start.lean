set_option maxRecDepth 100000
/-! BOTH STAND BESIDE EACH OTHER; HOW THEY BEGIN -/
/-- all of some cells as before -/
def KP (P : Nat → Prop) (σ σ' : Hp) : Prop := gS σ ≤ gS σ' ∧ ∀ a, a < gS σ → P a → gT σ' a = gT σ a ∧ ∀ i, gR σ' a i = gR σ a i ∧ gI σ' a i = gI σ a i ∧ gL σ' a i = gL σ a i
theorem Ch.kp {S : Nat → Nat → Prop} {P : Nat → Prop} {σ σ' : Hp} (h : Ch S σ σ') (hs : ∀ a k, P a → ¬ S a k) : KP P σ σ' := ⟨by rw [h.gs]; exact Nat.le_refl _, fun a _ hp => ⟨h.gt, fun k => ⟨h.gr, h.gi (hs a k hp), h.gl (hs a k hp)⟩⟩⟩
theorem mb_lt : ∀ q ∈ mbTab, q.2.1 < 33 := by decide
theorem RepM.fr {m : Nat} {τ τ' : Hp} {S : PlS} (h : RepM m τ S) (hc : KP (fun a => m ≤ a ∧ a < m + 33) τ τ') : RepM m τ' S := by
  obtain ⟨mb, mz, ws, q, f, t, u, i⟩ := h
  obtain ⟨c1, c2⟩ := hc
  have gi : ∀ a k, m ≤ a → a < m + 33 → gI τ' a k = gI τ a k := fun a k q1 q2 => ((c2 a (by omega) ⟨q1, q2⟩).2 k).2.1
  have gl : ∀ a k, m ≤ a → a < m + 33 → gL τ' a k = gL τ a k := fun a k q1 q2 => ((c2 a (by omega) ⟨q1, q2⟩).2 k).2.2
  have kr : MKr m τ' (yR S) := by
    obtain ⟨h1, h2, c1, c2, c3, c4, c5, c6, c7⟩ := q.1
    have hu : ∀ a k, US m 0 (rnN (yR S)) a k → m ≤ a ∧ a < m + 33 := fun a k q => Classical.not_not.mp (q.by (S := fun a _ => ¬ (m ≤ a ∧ a < m + 33)) (fun k _ _ => by omega) (fun k _ _ => by omega) (fun k _ _ => by omega) (fun k _ _ => by omega) (fun k _ _ => by omega) (fun k _ _ => by omega) (fun k _ _ => by omega) (fun k _ _ => by omega) (fun k _ _ => by omega) (fun k _ _ => by omega))
    refine ⟨h1.fr (fun a k q => ⟨gi a k (hu a k q).1 (hu a k q).2, gl a k (hu a k q).1 (hu a k q).2⟩), h2, ?_, ?_, ?_, ?_, ?_, ?_, fun i x hi => ?_⟩
    · rw [gi _ _ (by omega) (by omega)]; exact c1
    · rw [gi _ _ (by omega) (by omega)]; exact c2
    · rw [gi _ _ (by omega) (by omega)]; exact c3
    · rw [gi _ _ (by omega) (by omega)]; exact c4
    · rw [gi _ _ (by omega) (by omega)]; exact c5
    · rw [gi _ _ (by omega) (by omega)]; exact c6
    · rw [gi _ _ (by omega) (by omega)]; exact c7 i x hi
  refine ⟨⟨((c2 m (by omega) (by omega)).1).trans mb.1, fun q hq => ?_⟩, by omega, fun i hi => by rw [gi _ _ (by omega) (by omega)]; exact ws i hi, ⟨kr, q.2.fr (gi _ _ (by omega) (by omega)) (fun k => gi _ _ (by omega) (by omega))⟩, f.fr (fun k _ => gi _ _ (by omega) (by omega)) (fun k => gi _ _ (by omega) (by omega)), t.fr (gi _ _ (by omega) (by omega)) (fun k => gi _ _ (by omega) (by omega)) (fun k => gi _ _ (by omega) (by omega)), u.fr (gi _ _ (by omega) (by omega)) (fun k => gi _ _ (by omega) (by omega)), i.fr (fun k _ _ => gi _ _ (by omega) (by omega)) (fun k => ⟨gi _ _ (by omega) (by omega), gi _ _ (by omega) (by omega), gi _ _ (by omega) (by omega)⟩)⟩
  have e := mb_lt q hq
  exact ⟨(((c2 m (by omega) (by omega)).2 q.1).1).trans (mb.2 q hq).1, ((c2 (m + q.2.1) (by omega) (by omega)).1).trans (mb.2 q hq).2⟩
theorem LRx.fz {o c z : Nat} {σ σ' : Hp} {R : RlA} (h : LRx o c σ R) (hz : c = o + 3 ∨ z ≤ c) (hs : gS σ ≤ gS σ') (hc : ∀ a, (z ≤ a ∨ (o + 3 ≤ a ∧ a < o + 14)) → a < gS σ → gT σ' a = gT σ a ∧ ∀ k, gR σ' a k = gR σ a k ∧ gI σ' a k = gI σ a k ∧ gL σ' a k = gL σ a k) : LRx o c σ' R := by
  obtain ⟨h1, h2, h3⟩ := h
  refine ⟨?_, by omega, h3⟩
  rcases h3 with h3 | ⟨h3, n1, n2, n3, n4, n5⟩
  · exact h1.ag ⟨hs, fun a q1 q2 => hc a (by omega) q2⟩ (fun a k q1 q2 _ _ => ((hc a (by omega) (by omega)).2 k).2.1) (fun k _ => ((hc c (by omega) (by omega)).2 k).2.2) (fun a k q1 q2 => ((hc a (by omega) (by omega)).2 k).1)
  · have gi : ∀ a k, c ≤ a → a < c + 11 → gI σ' a k = gI σ a k := fun a k q1 q2 => ((hc a (by omega) (by omega)).2 k).2.1
    have gl : ∀ k, gL σ' c k = gL σ c k := fun k => ((hc c (by omega) (by omega)).2 k).2.2
    obtain ⟨l1, l2, l3, l4, l5, l6⟩ := h1
    refine ⟨l1.nil n1 (gi _ _ (by omega) (by omega)), l2.nil n2 (gi _ _ (by omega) (by omega)), l3.nil n3 (gi _ _ (by omega) (by omega)), l4.nil n4 (gi _ _ (by omega) (by omega)), l5.nil n5 (gi _ _ (by omega) (by omega)), ?_⟩
    unfold aSky
    rw [gi _ _ (by omega) (by omega), gi _ _ (by omega) (by omega), gi _ _ (by omega) (by omega), gi _ _ (by omega) (by omega), gi _ _ (by omega) (by omega), gl, gl]
    exact l6
theorem lb_lt : ∀ q ∈ lbTab, q.2.1 < 110 := by decide
theorem RepL.fr {o c z : Nat} {σ σ' : Hp} {S : PlS} (h : RepL o c z σ S) (hc : KP (fun a => (o ≤ a ∧ a < o + 110) ∨ z ≤ a) σ σ') : RepL o c z σ' S := by
  obtain ⟨lb, lz, cz, q, c10, f, t, u, i⟩ := h
  obtain ⟨c1, c2⟩ := hc
  have ck := q.1.2.1
  have gi : ∀ a k, o ≤ a → a < o + 110 → gI σ' a k = gI σ a k := fun a k q1 q2 => ((c2 a (by omega) (Or.inl ⟨q1, q2⟩)).2 k).2.1
  have gl : ∀ a k, o ≤ a → a < o + 110 → gL σ' a k = gL σ a k := fun a k q1 q2 => ((c2 a (by omega) (Or.inl ⟨q1, q2⟩)).2 k).2.2
  have gr : ∀ a k {x : Option Nat}, o ≤ a → a < o + 110 → gR σ a k = x → gR σ' a k = x := fun a k x q1 q2 q => (((c2 a (by omega) (Or.inl ⟨q1, q2⟩)).2 k).1).trans q
  have gt : ∀ a {x : CT}, o ≤ a → a < o + 110 → gT σ a = x → gT σ' a = x := fun a x q1 q2 q => ((c2 a (by omega) (Or.inl ⟨q1, q2⟩)).1).trans q
  have lb' : LB o c σ' := by
    obtain ⟨b1, b2, b3, b4, b5, b6, b7⟩ := lb
    refine ⟨gt _ (by omega) (by omega) b1, fun q hq => ?_, ⟨gr _ _ (by omega) (by omega) b3.1, gt _ (by omega) (by omega) b3.2.1, gr _ _ (by omega) (by omega) b3.2.2⟩, ⟨gr _ _ (by omega) (by omega) b4.1, b4.2.up (fun a q1 q2 => ?_)⟩, fun k hk => ⟨gr _ _ (by omega) (by omega) (b5 k hk).1, (b5 k hk).2.up (fun a q1 q2 => ⟨(c2 a (by omega) (by omega)).1, fun i => ((c2 a (by omega) (by omega)).2 i).1⟩)⟩, fun k hk => ⟨gr _ _ (by omega) (by omega) (b6 k hk).1, (b6 k hk).2.up (fun a q1 q2 => ⟨(c2 a (by omega) (by omega)).1, fun i => ((c2 a (by omega) (by omega)).2 i).1⟩)⟩, fun k hk => ⟨gr _ _ (by omega) (by omega) (b7 k hk).1, gt _ (by omega) (by omega) (b7 k hk).2⟩⟩
    · have e := lb_lt q hq
      exact ⟨gr _ _ (by omega) (by omega) (b2 q hq).1, gt _ (by omega) (by omega) (b2 q hq).2⟩
    · exact ⟨(c2 a (by omega) (by omega)).1, fun i => ((c2 a (by omega) (by omega)).2 i).1⟩
  refine ⟨lb', by omega, cz, ⟨q.1.fz cz c1 (fun a w1 w2 => c2 a w2 (by omega)), q.2.fr2 (gi _ _ (by omega) (by omega)) (fun i a k _ _ _ => gi _ _ (by omega) (by omega)) (fun k => gi _ _ (by omega) (by omega)) (fun a k _ _ => gl _ _ (by omega) (by omega))⟩, ?_, f.fr (fun k _ _ => gi _ _ (by omega) (by omega)) (fun k => gi _ _ (by omega) (by omega)), t.fr (gi _ _ (by omega) (by omega)) (fun k => gi _ _ (by omega) (by omega)) (fun k => gi _ _ (by omega) (by omega)), u.fr (gi _ _ (by omega) (by omega)) (fun k => gi _ _ (by omega) (by omega)), i.fr (fun k _ => gi _ _ (by omega) (by omega)) (fun k => ⟨gi _ _ (by omega) (by omega), gi _ _ (by omega) (by omega)⟩) (fun i a k _ _ _ => gi _ _ (by omega) (by omega))⟩
  rw [((c2 c (by omega) (by omega)).2 10).2.1]; exact c10
/-- the play's beginning -/
def S00 : PlS := ((0, fun _ => 0), (0, -1), rl0, [], [], none, [])
theorem ok00 : PlOk 0 S00 := ⟨rok0, ⟨Nat.zero_le _, fun i t h => (by cases h)⟩, fun IN IT h => (by cases h), trivial, Nat.zero_le _⟩
theorem repL0 {o z : Nat} {σ0 σ : Hp} (h : NL o 12 0 σ0 σ) : RepL o (o + 3) z σ S00 := by
  have lb := h.lb
  obtain ⟨⟨u1, u2, u3, u4, u5, u6, u7, u8⟩, h2, h3⟩ := h
  have g : ∀ i, i ≠ 3 → gI σ o i = 0 := fun i hi => by rw [u6, if_neg hi]
  exact ⟨lb, by omega, Or.inl rfl, ⟨u5.2.2.1, ⟨g 9 (by omega), Nat.zero_le _, fun i w hi => (by cases hi), fun i w hi => (by cases hi)⟩⟩, u5.2.2.2, ⟨g 1 (by omega), ⟨Nat.zero_le _, fun i hi => absurd hi (Nat.not_lt_zero _)⟩, g 2 (by omega), by rw [u6, if_pos rfl]; rfl⟩, ⟨g 11 (by omega), fun i t hi => (by cases hi)⟩, ⟨g 14 (by omega), fun i t hi => (by cases hi)⟩, g 15 (by omega)⟩
theorem mi0 {σ0 : Hp} (w : WF σ0) : MI (gS σ0) 0 [] 0 σ0 (pN σ0 (.inl 0)) := by
  refine ⟨rfl, gT_new, fun q hq => (by cases hq), fun a i q1 q2 => ?_, fun a i q1 q2 => ?_, fun a ha => ⟨by rw [gT_pN, if_neg (by omega)], fun i => ⟨by rw [gR_pN, if_neg (by omega)], by rw [gI_pN, if_neg (by omega)], by rw [gL_pN, if_neg (by omega)]⟩⟩, fun _ a ha => ?_⟩
  · have q1 : a < gS σ0 + 1 := q1
    rw [gI_pN, if_pos (by omega)]
    simp
  · have q1 : a < gS σ0 + 1 := q1
    rw [gL_pN, if_pos (by omega)]
  · have ha : gS σ0 + 1 ≤ a := ha
    rw [gT_pN, if_neg (by omega)]
    exact w a (by omega)
theorem repM0 {m : Nat} {σ0 s : Hp} (h : MI m 32 ws1 (-1) σ0 s) {Q : Hp → Prop} (hQ : ∀ σ', SH s σ' → RepM m σ' S00 → (∀ a, a < m → gT σ' a = gT σ0 a ∧ ∀ i, gR σ' a i = gR σ0 a i ∧ gI σ' a i = gI σ0 a i ∧ gL σ' a i = gL σ0 a i) → Q σ') : wp_X6_keepText m (f_X6_plain m s) Q := by
  obtain ⟨h1, h2, h3, h4, h5, h6, h7⟩ := id h
  have C3 : MC m (f_X6_plain m s) (rl0, false, false, false) := by
    unfold f_X6_plain
    refine ⟨⟨?_, Nat.zero_le _⟩, ⟨?_, Nat.zero_le _⟩, ⟨?_, Nat.zero_le _⟩, ⟨?_, Nat.zero_le _⟩, ⟨?_, Nat.zero_le _⟩, ⟨?_, ?_, Nat.zero_le _⟩, ?_, ?_, ?_⟩ <;> simp [gI_pI] <;> rfl
  have R3 : MRl m 1 (f_X6_plain m s) rl0 := by
    refine ⟨fun i x hi => (by cases hi), fun i x hi => (by cases hi), fun i x hi => (by cases hi), fun i x hi => (by cases hi), fun i x hi => (by cases hi), fun j hj => ?_⟩
    unfold f_X6_plain
    rcases (show j = 0 ∨ j = 1 ∨ j = 2 ∨ j = 3 ∨ j = 4 ∨ j = 5 ∨ j = 6 by omega) with rfl | rfl | rfl | rfl | rfl | rfl | rfl <;> simp [gI_pI] <;> rfl
  have kp : Ch (fun a k => (a = m ∧ (18 ≤ k ∧ k ≤ 27 ∨ k = 50)) ∨ a = m + 3) s (f_X6_plain m s) := by
    unfold f_X6_plain
    have i0 : ∀ k, (18 ≤ k ∧ k ≤ 27 ∨ k = 50) → ((m = m ∧ (18 ≤ k ∧ k ≤ 27 ∨ k = 50)) ∨ m = m + 3) := fun k q => Or.inl ⟨rfl, q⟩
    exact ((((((((((((((((Ch.rf.i (i0 18 (by omega))).i (i0 19 (by omega))).i (i0 20 (by omega))).i (i0 21 (by omega))).i (i0 22 (by omega))).i (i0 23 (by omega))).i (i0 50 (by omega))).i (i0 25 (by omega))).i (i0 26 (by omega))).i (i0 27 (by omega))).i (Or.inr rfl)).i (Or.inr rfl)).i (Or.inr rfl)).i (Or.inr rfl)).i (Or.inr rfl)).i (Or.inr rfl)).i (Or.inr rfl)
  refine m_keep R3 C3 (fun σ' c1 c2 c3 c4 c5 c6 => ?_)
  have nS : ∀ a k, SKp m a k → m ≤ a ∧ a < m + 20 ∧ (a = m → (12 ≤ k ∧ k ≤ 17) ∨ k = 58 ∨ k = 59 ∨ k = 67 ∨ k = 70) ∧ a ≠ m + 2 := by
    rintro a k (⟨q1, q2⟩ | ⟨r, q1, q2, q3, _⟩) <;> omega
  have lo : ∀ k, k < 12 → gI σ' m k = gI s m k := fun k hk => by
    rw [c1.gi (fun w => by have := (nS _ _ w).2.2.1 rfl; omega), kp.gi (by omega)]
  have sm : ∀ i, gI s m i = if i = 5 then -1 else 0 := fun i => by
    rw [h4 m i (by omega) (Nat.le_refl _), if_neg (by omega)]; simp
  have sh : SH s σ' := kp.1.tr c1.1
  refine hQ σ' sh ⟨h.mb.sh sh, by rw [sh.1]; omega, fun i hi => ?_, ⟨c2.r c3, ⟨c2.2.2.2.2.2.2.1, Nat.zero_le _, fun i w hi => (by cases hi)⟩⟩, ⟨by rw [lo 1 (by omega), sm]; rfl, fun i hi => absurd hi (Nat.not_lt_zero _), by rw [lo 4 (by omega), sm]; rfl, by rw [lo 5 (by omega), sm]; rfl⟩, ⟨c4, fun i t hi => (by cases hi)⟩, ⟨c5, fun i t hi => (by cases hi)⟩, c6⟩ (fun a ha => ?_)
  · rw [c1.gi (fun w => (nS _ _ w).2.2.2 rfl), kp.gi (by omega), h4 (m + 2) i (by omega) (by omega), if_pos rfl]
  · refine ⟨by rw [sh.2.1]; exact (h6 a ha).1, fun i => ?_⟩
    rw [c1.gi (fun w => by have := (nS _ _ w).1; omega), kp.gi (by omega), c1.gl (fun w => by have := (nS _ _ w).1; omega), kp.gl (by omega), sh.2.2]
    exact (h6 a ha).2 i
