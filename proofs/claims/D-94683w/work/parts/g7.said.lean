set_option maxRecDepth 100000
/-! WHAT A NOTE SAYS OF A COUNT -/
def sd0 (R : RlA) (w : NoteW) (d : Int64) : Prop := nHas w.1 0 = true → ∃ x, (aL R)[0]? = some x ∧ yrA x d ≠ -1 ∧ (w.2.1 0).toInt64 ≤ yrA x d ∧ yrA x d ≤ (w.2.2 0).toInt64
def sd1 (R : RlA) (w : NoteW) (d : Int64) : Prop := nHas w.1 1 = true → ∃ x, (aL R)[0]? = some x ∧ yrA x d ≠ -1 ∧ dyA x d = (w.2.1 1).toInt64
def sd2 (R : RlA) (w : NoteW) (d : Int64) : Prop := nHas w.1 2 = true → skW (aS R) d = w.2.1 2
def sd3 (R : RlA) (w : NoteW) (d : Int64) : Prop := nHas w.1 3 = true → skM (aS R) d = w.2.1 3
def sd4 (R : RlA) (w : NoteW) (d : Int64) : Prop := nHas w.1 4 = true → skN (aS R) d = w.2.1 4
def sd5 (R : RlA) (w : NoteW) (d : Int64) : Prop := nHas w.1 5 = true → ∃ j y, w.2.1 5 = Int32.ofNat j ∧ (aP R)[j]? = some y ∧ y.2.1 ≤ d ∧ (y.2.2 = -1 ∨ d ≤ y.2.2)
def sd6 (R : RlA) (w : NoteW) (d : Int64) : Prop := nHas w.1 6 = true → ∃ j y, w.2.1 6 = Int32.ofNat j ∧ (aF R)[j]? = some y ∧ fsV (y.2 (nuS R d))
def said (R : RlA) (w : NoteW) (d : Int64) : Prop := sd0 R w d ∧ sd1 R w d ∧ sd2 R w d ∧ sd3 R w d ∧ sd4 R w d ∧ sd5 R w d ∧ sd6 R w d
theorem at_get {α : Type} {l : List α} {v : Int32} (h : 0 ≤ v.toInt ∧ v.toInt < l.length) (hl : l.length ≤ 1000) : ∃ j y, v = Int32.ofNat j ∧ l[j]? = some y := by
  obtain ⟨j, h1, h2⟩ := idx (n := l.length) h (by omega)
  exact ⟨j, l[j], h2, List.getElem?_eq_getElem h1⟩
theorem at_u {α : Type} {l : List α} {v : Int32} {j j' : Nat} {y y' : α} (hl : l.length ≤ 1000) (e : v = Int32.ofNat j) (h : l[j]? = some y) (e' : v = Int32.ofNat j') (h' : l[j']? = some y') : y' = y := by
  have a := get_lt h
  have b := get_lt h'
  rw [e, nat_e (by omega) (by omega)] at e'
  subst e'
  rw [h] at h'
  cases h'
  rfl
def DQ (S : Nat → Nat → Prop) (σ : Hp) (P : Prop) (Q : Int32 → Hp → Prop) : Prop := (P → ∀ σ', Ch S σ σ' → Q 1 σ') ∧ (¬ P → ∀ σ', Ch S σ σ' → Q 0 σ')
theorem DQ.t {S : Nat → Nat → Prop} {σ : Hp} {P P' : Prop} {Q : Int32 → Hp → Prop} (h : DQ S σ (P ∧ P') Q) (hp : P) : DQ S σ P' Q := ⟨fun q => h.1 ⟨hp, q⟩, fun q => h.2 (fun z => q z.2)⟩
theorem DQ.f {S : Nat → Nat → Prop} {σ : Hp} {P P' : Prop} {Q : Int32 → Hp → Prop} (h : DQ S σ (P ∧ P') Q) (hp : ¬ P) : Q 0 σ := h.2 (fun z => hp z.1) σ Ch.rf
theorem hs0 {p : Nat} {σ : Hp} {w : NoteW} (h : pNw σ p w) {k : Nat} (hk : k < 32) : f_X5_has p σ (Int32.ofNat k) = 0 ↔ nHas w.1 k = false := by rw [has5 hk, h.1]
theorem no_hs {x : Bool} {P : Prop} (h : x = false) : x = true → P := fun z => by rw [h] at z; cases z
section
variable {o c p i : Nat} {σ : Hp} {R : RlA} {w : NoteW} {x2 : Int32} {Q : Int32 → Hp → Prop}
theorem l_sd6 (hL : LRx o c σ R) (hk : ROk R) (hN : pNw σ p w) (hW : NwOk (aP R).length (aF R).length i w) (hd : cOk x2.toInt64) (hQ : DQ (SLq o) σ (sd6 R w x2.toInt64) Q) : wj_X1_isSaid_209 o c p σ x2 Q := by
  have h6 : f_X5_has p σ 6 = 0 ↔ nHas w.1 6 = false := hs0 (k := 6) hN (by omega)
  have hl := hL.1.2.1.2.1
  refine ⟨fun q => hQ.1 (no_hs (h6.mp q)) σ Ch.rf, fun q => ?_⟩
  have hs : nHas w.1 6 = true := bt (fun z => q (h6.mpr z))
  have e1 := (hN.2 6 (by omega) hs).1
  obtain ⟨j, y, ev, hy⟩ := at_get (hW.2.1 hs) (by omega)
  rw [e1, ev]
  exact l_festive hL hk hy hd (fun z σ' hc => cF (fun a => (by cases a)) (hQ.1 (fun _ => ⟨j, y, ev, hy, z⟩) σ' hc)) (fun z σ' hc => cT rfl (hQ.2 (fun f => by
    obtain ⟨j', y', ev', hy', z'⟩ := f hs
    rw [at_u (by omega) ev hy ev' hy'] at z'
    exact z z') σ' hc))
theorem l_sd5 (hL : LRx o c σ R) (hk : ROk R) (hN : pNw σ p w) (hW : NwOk (aP R).length (aF R).length i w) (hd : cOk x2.toInt64) (hQ : DQ (SLq o) σ (sd5 R w x2.toInt64 ∧ sd6 R w x2.toInt64) Q) : wj_X1_isSaid_172 o c p σ x2 Q := by
  have h5 : f_X5_has p σ 5 = 0 ↔ nHas w.1 5 = false := hs0 (k := 5) hN (by omega)
  have hl := hL.1.2.2.1.2.1
  refine ⟨fun q => l_sd6 hL hk hN hW hd (hQ.t (no_hs (h5.mp q))), fun q => ?_⟩
  have hs : nHas w.1 5 = true := bt (fun z => q (h5.mpr z))
  have e1 := (hN.2 5 (by omega) hs).1
  obtain ⟨j, y, ev, hy⟩ := at_get (hW.1 hs) (by omega)
  obtain ⟨a, p1, p2, p3, p4⟩ := lst_get hL.1.2.2.1 (by omega) hy
  rw [e1, ev, p1]
  obtain ⟨q0, q1, q2, q3, q4⟩ := p4
  have al : f_X9_isAlive a σ x2.toInt64 = 0 ↔ ¬ (y.2.1 ≤ x2.toInt64 ∧ (y.2.2 = -1 ∨ x2.toInt64 ≤ y.2.2)) := by
    unfold f_X9_isAlive
    rw [q3, q4]
    by_cases c1 : x2.toInt64 < y.2.1
    · rw [if_pos c1]
      rw [l2_lt] at c1
      exact ⟨fun _ z => by have := z.1; rw [l2_le] at this; omega, fun _ => rfl⟩
    · rw [if_neg c1]
      have c1' : y.2.1 ≤ x2.toInt64 := by rw [l2_lt] at c1; rw [l2_le]; omega
      by_cases c2 : y.2.2 = -1
      · rw [if_pos c2]
        exact ⟨fun z => (by cases z), fun z => absurd ⟨c1', Or.inl c2⟩ z⟩
      · rw [if_neg c2]
        by_cases c3 : y.2.2 < x2.toInt64
        · rw [if_pos c3]
          rw [l2_lt] at c3
          exact ⟨fun _ z => z.2.elim c2 (fun z => by rw [l2_le] at z; omega), fun _ => rfl⟩
        · rw [if_neg c3]
          have c3' : x2.toInt64 ≤ y.2.2 := by rw [l2_lt] at c3; rw [l2_le]; omega
          exact ⟨fun z => (by cases z), fun z => absurd ⟨c1', Or.inr c3'⟩ z⟩
  refine ⟨p2, q1, fun z => hQ.f (fun f => ?_), fun z => l_sd6 hL hk hN hW hd (hQ.t (fun _ => ?_))⟩
  · obtain ⟨j', y', ev', hy', z'⟩ := f hs
    rw [at_u (by omega) ev hy ev' hy'] at z'
    exact al.mp z z'
  · exact ⟨j, y, ev, hy, Classical.byContradiction (fun u => z (al.mpr u))⟩
theorem l_sd4 (hL : LRx o c σ R) (hk : ROk R) (hN : pNw σ p w) (hW : NwOk (aP R).length (aF R).length i w) (hd : cOk x2.toInt64) (hQ : DQ (SLq o) σ (sd4 R w x2.toInt64 ∧ sd5 R w x2.toInt64 ∧ sd6 R w x2.toInt64) Q) : wj_X1_isSaid_144 o c p σ x2 Q := by
  have h5 : f_X5_has p σ 4 = 0 ↔ nHas w.1 4 = false := hs0 (k := 4) hN (by omega)
  refine ⟨fun q => l_sd5 hL hk hN hW hd (hQ.t (no_hs (h5.mp q))), fun q => ?_⟩
  have hs : nHas w.1 4 = true := bt (fun z => q (h5.mpr z))
  have e1 := (hN.2 4 (by omega) hs).1
  obtain ⟨a1, a2⟩ := l_season hL.1 hk x2.toInt64
  rw [e1, a2]
  exact ⟨a1, fun z => l_sd5 hL hk hN hW hd (hQ.t (fun _ => z)), fun z => hQ.f (fun f => z (f hs))⟩
theorem l_sd3 (hL : LRx o c σ R) (hk : ROk R) (hN : pNw σ p w) (hW : NwOk (aP R).length (aF R).length i w) (hd : cOk x2.toInt64) (hQ : DQ (SLq o) σ (sd3 R w x2.toInt64 ∧ sd4 R w x2.toInt64 ∧ sd5 R w x2.toInt64 ∧ sd6 R w x2.toInt64) Q) : wj_X1_isSaid_118 o c p σ x2 Q := by
  have h5 : f_X5_has p σ 3 = 0 ↔ nHas w.1 3 = false := hs0 (k := 3) hN (by omega)
  refine ⟨fun q => l_sd4 hL hk hN hW hd (hQ.t (no_hs (h5.mp q))), fun q => ?_⟩
  have hs : nHas w.1 3 = true := bt (fun z => q (h5.mpr z))
  have e1 := (hN.2 3 (by omega) hs).1
  obtain ⟨a1, a2⟩ := l_moon hL.1 hk x2.toInt64
  rw [e1, a2]
  exact ⟨a1, fun z => l_sd4 hL hk hN hW hd (hQ.t (fun _ => z)), fun z => hQ.f (fun f => z (f hs))⟩
theorem l_sd2 (hL : LRx o c σ R) (hk : ROk R) (hN : pNw σ p w) (hW : NwOk (aP R).length (aF R).length i w) (hd : cOk x2.toInt64) (hQ : DQ (SLq o) σ (sd2 R w x2.toInt64 ∧ sd3 R w x2.toInt64 ∧ sd4 R w x2.toInt64 ∧ sd5 R w x2.toInt64 ∧ sd6 R w x2.toInt64) Q) : wj_X1_isSaid_92 o c p σ x2 Q := by
  have h5 : f_X5_has p σ 2 = 0 ↔ nHas w.1 2 = false := hs0 (k := 2) hN (by omega)
  refine ⟨fun q => l_sd3 hL hk hN hW hd (hQ.t (no_hs (h5.mp q))), fun q => ?_⟩
  have hs : nHas w.1 2 = true := bt (fun z => q (h5.mpr z))
  have e1 := (hN.2 2 (by omega) hs).1
  obtain ⟨a1, a2⟩ := l_week hL.1 hk x2.toInt64
  rw [e1, a2]
  exact ⟨a1, fun z => l_sd3 hL hk hN hW hd (hQ.t (fun _ => z)), fun z => hQ.f (fun f => z (f hs))⟩
theorem l_sd1 {y3 : Int64} (hL : LRx o c σ R) (hk : ROk R) (hN : pNw σ p w) (hW : NwOk (aP R).length (aF R).length i w) (hd : cOk x2.toInt64) (hy : (aL R = [] ∧ y3 = -1) ∨ ∃ x, (aL R)[0]? = some x ∧ y3 = yrA x x2.toInt64) (hQ : DQ (SLq o) σ (sd1 R w x2.toInt64 ∧ sd2 R w x2.toInt64 ∧ sd3 R w x2.toInt64 ∧ sd4 R w x2.toInt64 ∧ sd5 R w x2.toInt64 ∧ sd6 R w x2.toInt64) Q) : wj_X1_isSaid_49 o c p σ x2 y3 Q := by
  have h5 : f_X5_has p σ 1 = 0 ↔ nHas w.1 1 = false := hs0 (k := 1) hN (by omega)
  refine ⟨fun q => l_sd2 hL hk hN hW hd (hQ.t (no_hs (h5.mp q))), fun q => ?_⟩
  have hs : nHas w.1 1 = true := bt (fun z => q (h5.mpr z))
  have e1 := (hN.2 1 (by omega) hs).1
  rcases hy with ⟨hy1, hy2⟩ | ⟨x, hx, hy⟩
  · exact cT hy2 (hQ.f (fun f => by obtain ⟨x, hx, _⟩ := f hs; rw [hy1] at hx; cases hx))
  · refine ⟨fun z => hQ.f (fun f => ?_), fun z => ?_⟩
    · obtain ⟨x', hx', f2, _⟩ := f hs
      rw [hx] at hx'; cases hx'
      exact f2 (hy.symm.trans z)
    · obtain ⟨p1, p2, p3⟩ := l_land (o := o) hL.1 hx
      refine ⟨p1, p2, ?_⟩
      rw [e1, show (0 : Int32) = Int32.ofNat 0 from rfl, fl_start p3, hy]
      refine ⟨fun u => l_sd2 hL hk hN hW hd (hQ.t (fun _ => ⟨x, hx, fun v => z (hy.trans v), u⟩)), fun u => hQ.f (fun f => ?_)⟩
      obtain ⟨x', hx', _, f3⟩ := f hs
      rw [hx] at hx'; cases hx'
      exact u f3
theorem l_isSaid (hL : LRx o c σ R) (hk : ROk R) (hN : pNw σ p w) (hW : NwOk (aP R).length (aF R).length i w) (hd : cOk x2.toInt64) (hQ : DQ (SLq o) σ (said R w x2.toInt64) Q) : wp_X1_isSaid o c σ p x2 Q := by
  have h5 : f_X5_has p σ 0 = 0 ↔ nHas w.1 0 = false := hs0 (k := 0) hN (by omega)
  refine l_year0 hL.1 hk hd (fun hn => ⟨fun q => l_sd1 hL hk hN hW hd (Or.inl ⟨hn, rfl⟩) (hQ.t (no_hs (h5.mp q))), fun q => cT rfl (hQ.f (fun f => ?_))⟩) (fun x hx => ⟨fun q => l_sd1 hL hk hN hW hd (Or.inr ⟨x, hx, rfl⟩) (hQ.t (no_hs (h5.mp q))), fun q => ?_⟩)
  · obtain ⟨x, hx, _⟩ := f (bt (fun z => q (h5.mpr z)))
    rw [hn] at hx; cases hx
  · have hs : nHas w.1 0 = true := bt (fun z => q (h5.mpr z))
    obtain ⟨e1, e2⟩ := hN.2 0 (by omega) hs
    have e2 := e2 (Or.inl rfl)
    rw [e1, e2]
    refine ⟨fun z => hQ.f (fun f => ?_), fun z => ?_⟩
    · obtain ⟨x', hx', f2, _⟩ := f hs
      rw [hx] at hx'; cases hx'
      exact f2 z
    · have iv : f_X1_in (yrA x x2.toInt64) (w.2.1 0).toInt64 (w.2.2 0).toInt64 = 0 ↔ ¬ ((w.2.1 0).toInt64 ≤ yrA x x2.toInt64 ∧ yrA x x2.toInt64 ≤ (w.2.2 0).toInt64) := by
        rw [in_iff rfl rfl rfl, l2_le, l2_le]
      refine ⟨fun u => hQ.f (fun f => ?_), fun u => l_sd1 hL hk hN hW hd (Or.inr ⟨x, hx, rfl⟩) (hQ.t (fun _ => ⟨x, hx, z, Classical.byContradiction (fun v => u (iv.mpr v))⟩))⟩
      obtain ⟨x', hx', _, f3⟩ := f hs
      rw [hx] at hx'; cases hx'
      exact iv.mp u f3
end
