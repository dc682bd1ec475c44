set_option maxRecDepth 100000
/-! QUERIES OF BOTH: one value, found by either -/
theorem cT {P A B : Prop} (h : P) (a : A) : (P → A) ∧ (¬ P → B) := ⟨fun _ => a, fun n => absurd h n⟩
theorem cF {P A B : Prop} (h : ¬ P) (b : B) : (P → A) ∧ (¬ P → B) := ⟨fun q => absurd q h, fun _ => b⟩
/-- what a query of the reference may write -/
def SMq (m a k : Nat) : Prop := (a = m ∧ (k = 2 ∨ k = 53 ∨ k = 54 ∨ k = 57)) ∨ a = m + 22 ∨ a = m + 23
def QL {α : Type} (w : (α → Prop) → Prop) (v : α) : Prop := ∀ Q : α → Prop, Q v → w Q
def QM {α : Type} (m : Nat) (τ : Hp) (w : (α → Hp → Prop) → Prop) (v : α) : Prop := ∀ Q : α → Hp → Prop, (∀ τ', Ch (SMq m) τ τ' → gI τ' m 2 = 0 → Q v τ') → w Q
theorem Ch.t0 {m : Nat} {τ : Hp} {v : Int32} : Ch (SMq m) τ (pI τ m 2 v) := Ch.rf.i (Or.inl ⟨rfl, by omega⟩)
theorem t0_2 {m : Nat} {τ : Hp} : gI (pI τ m 2 0) m 2 = 0 := by rw [gI_pI, if_pos ⟨rfl, rfl⟩]
theorem MKr.ch {m : Nat} {τ τ' : Hp} {R : RlA} (h : MKr m τ R) (hc : Ch (SMq m) τ τ') : MKr m τ' R := by
  obtain ⟨h1, h2, c1, c2, c3, c4, c5, c6, c7⟩ := h
  have hu : ∀ a k, US m 0 (rnN R) a k → ¬ SMq m a k := fun a k q => q.by (fun k _ _ => by unfold SMq; omega) (fun k _ _ => by unfold SMq; omega) (fun k _ _ => by unfold SMq; omega) (fun k _ _ => by unfold SMq; omega) (fun k _ _ => by unfold SMq; omega) (fun k _ _ => by unfold SMq; omega) (fun k _ _ => by unfold SMq; omega) (fun k _ _ => by unfold SMq; omega) (fun k _ _ => by unfold SMq; omega) (fun k _ _ => by unfold SMq; omega)
  refine ⟨h1.fr (fun a k q => hc.2 a k (hu a k q)), h2, ?_, ?_, ?_, ?_, ?_, ?_, fun i x hi => ?_⟩
  · rw [hc.gi (by unfold SMq; omega)]; exact c1
  · rw [hc.gi (by unfold SMq; omega)]; exact c2
  · rw [hc.gi (by unfold SMq; omega)]; exact c3
  · rw [hc.gi (by unfold SMq; omega)]; exact c4
  · rw [hc.gi (by unfold SMq; omega)]; exact c5
  · rw [hc.gi (by unfold SMq; omega)]; exact c6
  · rw [hc.gi (by unfold SMq; omega)]; exact c7 i x hi
theorem DS.chq {m : Nat} {σ σ' : Hp} (h : DS m σ σ') : Ch (SMq m) σ σ' := h.ch.up (fun a k q => Or.inl ⟨q.1, by have := q.2; omega⟩)
/-- the first of some numbers, one behind another -/
noncomputable def srV (stop hit : Int64 → Prop) : Nat → Int64 → Option Int64
  | 0, _ => none
  | n + 1, y => @ite _ (stop y) (Classical.propDecidable _) none (@ite _ (hit y) (Classical.propDecidable _) (some y) (srV stop hit n (y + 1)))
theorem sr_lp {α : Type} {body : (α → Prop) → α → Prop} {stop hit : Int64 → Prop} (I : Nat → Int64 → α → Prop) (r : Option Int64) (h0 : ∀ y x, I 0 y x → stop y)
    (h : ∀ (K : α → Prop) (n : Nat) (y : Int64) (x : α), I n y x → (∀ n' x', n = n' + 1 → ¬ stop y → ¬ hit y → I n' (y + 1) x' → K x') → (stop y → r = none) → (¬ stop y → hit y → r = some y) → body K x)
    {N : Nat} {y0 : Int64} {x0 : α} (hI : I N y0 x0) (hr : srV stop hit N y0 = r) : lp body x0 := by
  refine lp_step (fun k x => ∃ y, I k y x ∧ srV stop hit k y = r) ?_ (k := N) ⟨y0, hI, hr⟩
  rintro k K x ⟨y, hI, hr⟩ hK
  refine h K k y x hI (fun n' x' e ns nh hI' => ?_) (fun hs => ?_) (fun ns hh => ?_)
  · subst e
    refine hK n' x' (Nat.lt_succ_self _) ⟨y + 1, hI', ?_⟩
    unfold srV at hr
    rw [if_neg ns, if_neg nh] at hr
    exact hr
  · cases k with
    | zero => exact hr.symm
    | succ k =>
      unfold srV at hr
      rw [if_pos hs] at hr
      exact hr.symm
  · cases k with
    | zero => exact absurd (h0 y x hI) ns
    | succ k =>
      unfold srV at hr
      rw [if_neg ns, if_pos hh] at hr
      exact hr.symm
def srI (r : Option Int64) : Int32 := match r with
  | none => -2
  | some y => y.toInt32
def srL (r : Option Int64) : Int64 := match r with
  | none => -2
  | some y => y
theorem q_months {o c m : Nat} {σ τ : Hp} {R : RlA} {l y w : Int32} (hL : LRl c σ R) (hM : MKr m τ R) (hk : ROk R) : ∃ v, QL (wp_X1_months o c σ l y w) v ∧ QM m τ (wp_X6_months m τ l y w) v := by
  have M2 : MKr m (pI τ m 2 0) R := hM.ch Ch.t0
  have h4 := hL.1.2.1
  have wl : f_X1_in w.toInt64 1 99 = 0 ↔ ¬ (1 ≤ w.toInt ∧ w.toInt ≤ 99) := in_iff (by rw [Int32.toInt_toInt64]) (by rfl) (by rfl)
  have wm : f_X6_isIn w 1 99 = 0 ↔ ¬ (1 ≤ w.toInt ∧ w.toInt ≤ 99) := isIn_iff w 1 99
  rcases at_cases (aL R) l (by omega) with nl | ⟨i, x, rfl, hi, hr⟩
  · have a : f_X1_isLand o c σ l = 0 := (l_isLand hL l).mpr nl
    have b : f_X6_isLand m (pI τ m 2 0) l = 0 := (m_isLand M2 l).mpr nl
    have a2 : f_X1_isYear o c σ l y = 0 := by unfold f_X1_isYear; rw [if_pos a]
    exact ⟨-1, fun Q hQ => ⟨⟨in_01 _ _ _, cT a trivial⟩, cT a2 hQ⟩, fun Q hQ => cT b (hQ _ Ch.t0 t0_2)⟩
  have b : ¬ f_X6_isLand m (pI τ m 2 0) (Int32.ofNat i) = 0 := fun w => (m_isLand M2 _).mp w hr
  obtain ⟨p1, p2, p3⟩ := l_land (o := o) hL hi
  obtain ⟨a1, a2⟩ := l_isYear (o := o) (y := y) hL hk.1 hi hr
  obtain ⟨b1, b2⟩ := m_isAsked (y := y.toInt64) M2 hk.1 hi
  have d := m_landAt M2 hi
  have kx := hk.1 x (List.mem_of_getElem? hi)
  by_cases q : askY x y.toInt64
  · by_cases ww : 1 ≤ w.toInt ∧ w.toInt ≤ 99
    · have w0 : ¬ w.toInt64 = 0 := by rw [l3_eq (i2_l w) (y := 0) (by rfl)]; omega
      have q1 := q.1
      have q2 := q.2.1
      have ye : y.toInt64.toInt = y.toInt := by rw [Int32.toInt_toInt64]
      have e1000 : (y.toInt64 + 1000).toInt = y.toInt64.toInt + 1000 := l3_add rfl (by rfl) (by omega) (by omega)
      obtain ⟨r, er⟩ : ∃ r, srV (fun z => y.toInt64 + 1000 ≤ z ∨ ¬ askY x z) (fun z => mLen x.2.1 x.2.2.1 z - mLen x.2.1 x.2.2.1 z / w.toInt64 * w.toInt64 = 0) 1000 y.toInt64 = r := ⟨_, rfl⟩
      refine ⟨srI r, fun Q hQ => ⟨a1, cF (fun z => a2.mp z q) (cF (fun z => wl.mp z ww) ?_)⟩, fun Q hQ => cF b ⟨b1, cF (fun z => b2.mp z q) (cF (fun z => wm.mp z ww) ?_)⟩⟩
      · refine sr_lp (fun n z u => u = z ∧ z.toInt + n = y.toInt64.toInt + 1000 ∧ 1 ≤ z.toInt) _ (fun z u hI => Or.inl (by rw [l3_le e1000 rfl]; omega)) ?_ ⟨rfl, rfl, q2⟩ er
        rintro K n z u ⟨rfl, hn, h1⟩ hK hs hh
        have hz := fl_has p3 kx u
        have az : 1000000000 < u ↔ (1000000000 : Int) < u.toInt := l3_lt (by rfl) rfl
        show (_ → _) ∧ (_ → _)
        refine ⟨fun c1 => ?_, fun c1 => ⟨fun c2 => ?_, fun c2 => ⟨p1, p2, ⟨fun _ => trivial, fun _ => ok_last p3 kx⟩, fun c3 => ?_, fun c3 => ⟨p1, w0, ?_⟩⟩⟩⟩
        · have e := hs (Or.inl c1); rw [e] at hQ; exact hQ
        · have e := hs (Or.inr (fun z => by rw [az] at c2; have := z.1; omega)); rw [e] at hQ; exact hQ
        · have e := hs (Or.inr (fun z => hz.1.mp c3 z.2)); rw [e] at hQ; exact hQ
        · have ns : ¬ (y.toInt64 + 1000 ≤ u ∨ ¬ askY x u) := fun z => z.elim c1 (fun z => z ⟨by rw [az] at c2; omega, Classical.byContradiction (fun v => c3 (hz.1.mpr v))⟩)
          rw [fl_len p3]
          refine ⟨fun c4 => ?_, fun c4 => ?_⟩
          · have e := hh ns c4; rw [e] at hQ; exact hQ
          · rw [l3_le e1000 rfl] at c1
            exact hK (n - 1) _ (by omega) ns c4 ⟨rfl, by rw [l3_add (a := u) (b := 1) rfl (y := 1) (by rfl) (by omega) (by omega)]; omega, by rw [l3_add (a := u) (b := 1) rfl (y := 1) (by rfl) (by omega) (by omega)]; omega⟩
      · have hQ := hQ _ Ch.t0 t0_2
        refine sr_lp (fun n z u => u = (z, pI τ m 2 0) ∧ z.toInt + n = y.toInt64.toInt + 1000 ∧ 1 ≤ z.toInt) _ (fun z u hI => Or.inl (by rw [l3_le e1000 rfl]; omega)) ?_ ⟨rfl, rfl, q2⟩ er
        rintro K n z u ⟨rfl, hn, h1⟩ hK hs hh
        obtain ⟨b1, b2⟩ := m_isAsked (y := z) M2 hk.1 hi
        show (_ → _) ∧ (_ → _)
        refine ⟨fun c1 => ?_, fun c1 => ⟨b1, fun c2 => ?_, fun c2 => ⟨om_len d _, w0, ?_⟩⟩⟩
        · have e := hs (Or.inl c1); rw [e] at hQ; exact hQ
        · have e := hs (Or.inr (b2.mp c2)); rw [e] at hQ; exact hQ
        · have ns : ¬ (y.toInt64 + 1000 ≤ z ∨ ¬ askY x z) := fun u => u.elim c1 (fun u => c2 (b2.mpr u))
          rw [fm_len d]
          refine ⟨fun c4 => ?_, fun c4 => ?_⟩
          · have e := hh ns c4; rw [e] at hQ; exact hQ
          · rw [l3_le e1000 rfl] at c1
            exact hK (n - 1) _ (by omega) ns c4 ⟨rfl, by rw [l3_add (a := z) (b := 1) rfl (y := 1) (by rfl) (by omega) (by omega)]; omega, by rw [l3_add (a := z) (b := 1) rfl (y := 1) (by rfl) (by omega) (by omega)]; omega⟩
    · exact ⟨-1, fun Q hQ => ⟨a1, cF (fun z => a2.mp z q) (cT (wl.mpr ww) hQ)⟩, fun Q hQ => cF b ⟨b1, cF (fun z => b2.mp z q) (cT (wm.mpr ww) (hQ _ Ch.t0 t0_2))⟩⟩
  · exact ⟨-1, fun Q hQ => ⟨a1, cT (a2.mpr q) hQ⟩, fun Q hQ => cF b ⟨b1, cT (b2.mpr q) (hQ _ Ch.t0 t0_2)⟩⟩
