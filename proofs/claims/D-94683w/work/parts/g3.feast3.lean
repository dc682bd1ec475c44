set_option maxRecDepth 100000
/-! FEASTS by LongYears -/
/-- LongYears' realm, the first one (empty) or one read later -/
def LRx (o c : Nat) (σ : Hp) (R : RlA) : Prop := LRl c σ R ∧ c + 11 ≤ gS σ ∧ (o + 110 ≤ c ∨ (c = o + 3 ∧ aL R = [] ∧ aF R = [] ∧ aP R = [] ∧ aD R = [] ∧ aN R = []))
theorem LST.nil {α : Type} {d off cap : Nat} {P : Hp → Nat → α → Prop} {l : List α} {σ σ' : Hp} (h : LST d off cap P l σ) (hl : l = []) (h2 : gI σ' (d + off) 2 = gI σ (d + off) 2) : LST d off cap P l σ' := by
  subst hl
  exact ⟨h2.trans h.1, h.2.1, fun i x hi => (by cases hi)⟩
theorem LRx.fr {o c : Nat} {σ σ' : Hp} {R : RlA} (h : LRx o c σ R) (hs : gS σ ≤ gS σ') (hc : ∀ a, (o + 110 ≤ a ∨ (o + 3 ≤ a ∧ a < o + 14)) → a < gS σ → gT σ' a = gT σ a ∧ ∀ k, gR σ' a k = gR σ a k ∧ gI σ' a k = gI σ a k ∧ gL σ' a k = gL σ a k) : LRx o c σ' R := by
  obtain ⟨h1, h2, h3⟩ := h
  refine ⟨?_, by omega, h3⟩
  rcases h3 with h3 | ⟨h3, n1, n2, n3, n4, n5⟩
  · exact h1.ag ⟨hs, fun a q1 q2 => hc a (by omega) q2⟩ (fun a k q1 q2 _ _ => ((hc a (by omega) (by omega)).2 k).2.1) (fun k _ => ((hc c (by omega) (by omega)).2 k).2.2) (fun a k q1 q2 => ((hc a (by omega) (by omega)).2 k).1)
  · have gi : ∀ a k, c ≤ a → a < c + 11 → gI σ' a k = gI σ a k := fun a k q1 q2 => ((hc a (by omega) (by omega)).2 k).2.1
    have gl : ∀ k, gL σ' c k = gL σ c k := fun k => ((hc c (by omega) (by omega)).2 k).2.2
    obtain ⟨l1, l2, l3, l4, l5, l6⟩ := h1
    refine ⟨l1.nil n1 (gi _ _ (by omega) (by omega)), l2.nil n2 (gi _ _ (by omega) (by omega)), l3.nil n3 (gi _ _ (by omega) (by omega)), l4.nil n4 (gi _ _ (by omega) (by omega)), l5.nil n5 (gi _ _ (by omega) (by omega)), ?_⟩
    unfold aSky
    rw [gi _ _ (by omega) (by omega), gi _ _ (by omega) (by omega), gi _ _ (by omega) (by omega), gi _ _ (by omega) (by omega), gi _ _ (by omega) (by omega), gl, gl]
    exact l6
/-- what LongYears' queries write: the names of a sum -/
def SLq (o a k : Nat) : Prop := a = o + 14
theorem LRx.q {o c : Nat} {σ σ' : Hp} {R : RlA} (h : LRx o c σ R) (hc : Ch (SLq o) σ σ') : LRx o c σ' R :=
  h.fr (by rw [hc.gs]; exact Nat.le_refl _) (fun a q _ => ⟨hc.gt, fun k => ⟨hc.gr, hc.gi (by unfold SLq; omega), hc.gl (by unfold SLq; omega)⟩⟩)
def rV (v : Option Int64) : Int64 := match v with
  | some q => q
  | none => -9223372036854775808
theorem l_ruled {o c i : Nat} {σ : Hp} {R : RlA} {y : FeastA} {d : Int64} {Q : Int64 → Hp → Prop} (hL : LRx o c σ R) (hk : ROk R) (hi : (aF R)[i]? = some y) (hd : cOk d) (hQ : ∀ σ', Ch (SLq o) σ σ' → (∀ q, y.2 (nuS R d) = some q → bd q) → Q (rV (y.2 (nuS R d))) σ') : wp_X1_ruled o c σ (Int32.ofNat i) d Q := by
  have st : ∀ (s : Hp) (k : Nat) (v : Int64), LRx o c s R → Ch (SLq o) σ s → LRx o c (pL s (o + 14) k v) R ∧ Ch (SLq o) σ (pL s (o + 14) k v) := fun s k v a b => ⟨a.q (Ch.rf.l (show SLq o (o + 14) k from rfl)), b.l (show SLq o (o + 14) k from rfl)⟩
  -- the tail: all names laid but the length
  have t137 : ∀ (s : Hp) (w0 : Int64), LRx o c s R → Ch (SLq o) σ s → (∀ j, j < 5 → gL s (o + 14) (pnL j) = nuS R d j) → w0 = nuS R d 5 → wj_X1_ruled_137 o c s (Int32.ofNat i) w0 Q := fun s w0 a b hν h5 => by
    obtain ⟨a1, b1⟩ := st s 5 w0 a b
    have eν : ∀ j, j < 6 → gL (pL s (o + 14) 5 w0) (o + 14) (pnL j) = nuS R d j := fun j hj => by
      rw [gL_pL]
      have : j = 0 ∨ j = 1 ∨ j = 2 ∨ j = 3 ∨ j = 4 ∨ j = 5 := by omega
      rcases this with rfl | rfl | rfl | rfl | rfl | rfl
      · rw [if_neg (fun w => absurd w.2 (by decide))]; exact hν 0 (by omega)
      · rw [if_neg (fun w => absurd w.2 (by decide))]; exact hν 1 (by omega)
      · rw [if_neg (fun w => absurd w.2 (by decide))]; exact hν 2 (by omega)
      · rw [if_neg (fun w => absurd w.2 (by decide))]; exact hν 3 (by omega)
      · rw [if_neg (fun w => absurd w.2 (by decide))]; exact hν 4 (by omega)
      · rw [if_pos ⟨rfl, rfl⟩]; exact h5
    unfold wj_X1_ruled_137
    generalize pL s (o + 14) 5 w0 = s1 at a1 b1 eν
    obtain ⟨p, p1, p2, p3, p4⟩ := lst_get a1.1.2.1 (by omega) hi
    obtain ⟨q0, q1, q2, t, q3, q4⟩ := p4
    rw [p1]
    have er : rf s1 p 1 = t := by unfold rf; rw [q3]; rfl
    rw [er, q3]
    refine ⟨p2, q1, fun z => (by cases z), ev_tr eν 64 q4 (by omega) (fun r hr br => ?_) (fun hn => ?_)⟩
    · have := hQ s1 b1 (fun q hq => by rw [hr] at hq; cases hq; exact br)
      rw [hr] at this
      exact this
    · have := hQ s1 b1 (fun q hq => by rw [hn] at hq; cases hq)
      rw [hn] at this
      exact this
  have t75 : ∀ (s : Hp) (y4 w0 : Int64), LRx o c s R → Ch (SLq o) σ s → gL s (o + 14) 0 = nuS R d 2 → gL s (o + 14) 1 = nuS R d 3 → gL s (o + 14) 4 = nuS R d 4 → w0 = nuS R d 1 → (y4 = -1 → nuS R d 0 = 0 ∧ nuS R d 5 = 0) → (¬ y4 = -1 → ∃ x, (aL R)[0]? = some x ∧ y4 = yrA x d) → wj_X1_ruled_75 o c s (Int32.ofNat i) d y4 w0 Q := fun s y4 w0 a b n2 n3 n4 h1 hn hy => by
    obtain ⟨a1, b1⟩ := st s 3 w0 a b
    have e2 : gL (pL s (o + 14) 3 w0) (o + 14) 0 = nuS R d 2 := by rw [gL_pL, if_neg (by omega)]; exact n2
    have e3 : gL (pL s (o + 14) 3 w0) (o + 14) 1 = nuS R d 3 := by rw [gL_pL, if_neg (by omega)]; exact n3
    have e4 : gL (pL s (o + 14) 3 w0) (o + 14) 4 = nuS R d 4 := by rw [gL_pL, if_neg (by omega)]; exact n4
    have e1 : gL (pL s (o + 14) 3 w0) (o + 14) 3 = nuS R d 1 := by rw [gL_pL, if_pos ⟨rfl, rfl⟩]; exact h1
    unfold wj_X1_ruled_75
    generalize pL s (o + 14) 3 w0 = s1 at a1 b1 e1 e2 e3 e4
    have t108 : ∀ w1 : Int64, w1 = nuS R d 0 → wj_X1_ruled_108 o c s1 (Int32.ofNat i) y4 w1 Q := fun w1 h0 => by
      obtain ⟨a2, b2⟩ := st s1 2 w1 a1 b1
      have f2 : gL (pL s1 (o + 14) 2 w1) (o + 14) 0 = nuS R d 2 := by rw [gL_pL, if_neg (by omega)]; exact e2
      have f3 : gL (pL s1 (o + 14) 2 w1) (o + 14) 1 = nuS R d 3 := by rw [gL_pL, if_neg (by omega)]; exact e3
      have f4 : gL (pL s1 (o + 14) 2 w1) (o + 14) 4 = nuS R d 4 := by rw [gL_pL, if_neg (by omega)]; exact e4
      have f1 : gL (pL s1 (o + 14) 2 w1) (o + 14) 3 = nuS R d 1 := by rw [gL_pL, if_neg (by omega)]; exact e1
      have f0 : gL (pL s1 (o + 14) 2 w1) (o + 14) 2 = nuS R d 0 := by rw [gL_pL, if_pos ⟨rfl, rfl⟩]; exact h0
      unfold wj_X1_ruled_108
      generalize pL s1 (o + 14) 2 w1 = s2 at a2 b2 f0 f1 f2 f3 f4
      have hν : ∀ j, j < 5 → gL s2 (o + 14) (pnL j) = nuS R d j := fun j hj => by
        have : j = 0 ∨ j = 1 ∨ j = 2 ∨ j = 3 ∨ j = 4 := by omega
        rcases this with rfl | rfl | rfl | rfl | rfl
        · exact f0
        · exact f1
        · exact f2
        · exact f3
        · exact f4
      refine ⟨fun z => t137 s2 0 a2 b2 hν (hn z).2.symm, fun z => ?_⟩
      obtain ⟨x, hx, ey⟩ := hy z
      obtain ⟨p1, p2, p3⟩ := l_land (o := o) a2.1 hx
      refine ⟨p1, p2, t137 s2 _ a2 b2 hν ?_⟩
      have ef := fl_len p3 y4
      rw [show Int32.ofNat 0 = 0 from rfl] at ef
      rw [ef]
      unfold nuS
      rw [hx]
      rw [ey] at z ⊢
      simp [z]
    refine ⟨fun z => t108 0 (hn z).1.symm, fun z => ?_⟩
    obtain ⟨x, hx, ey⟩ := hy z
    obtain ⟨p1, p2, p3⟩ := l_land (o := o) a1.1 hx
    refine ⟨p1, p2, t108 _ ?_⟩
    have ef := fl_start p3 y4
    rw [show Int32.ofNat 0 = 0 from rfl] at ef
    rw [ef]
    unfold nuS
    rw [hx]
    rw [ey] at z ⊢
    simp [z, dyA]
  have top : ∀ r1 : Int64, (r1 = -1 → nuS R d 0 = 0 ∧ nuS R d 1 = 0 ∧ nuS R d 5 = 0) → (¬ r1 = -1 → ∃ x, (aL R)[0]? = some x ∧ r1 = yrA x d) → _ := fun r1 hn hy => by
    exact (show (ok_X3_week c σ d) ∧ ((ok_X3_moon c (pL σ (o + 14) 0 ((f_X3_week c σ d).toInt64)) d) ∧ ((ok_X3_season c (pL (pL σ (o + 14) 0 ((f_X3_week c σ d).toInt64)) (o + 14) 1 ((f_X3_moon c (pL σ (o + 14) 0 ((f_X3_week c σ d).toInt64)) d).toInt64)) d) ∧ ((r1 = (-1) → wj_X1_ruled_75 o c (pL (pL (pL σ (o + 14) 0 ((f_X3_week c σ d).toInt64)) (o + 14) 1 ((f_X3_moon c (pL σ (o + 14) 0 ((f_X3_week c σ d).toInt64)) d).toInt64)) (o + 14) 4 ((f_X3_season c (pL (pL σ (o + 14) 0 ((f_X3_week c σ d).toInt64)) (o + 14) 1 ((f_X3_moon c (pL σ (o + 14) 0 ((f_X3_week c σ d).toInt64)) d).toInt64)) d).toInt64)) (Int32.ofNat i) d r1 0 Q) ∧ (¬ r1 = (-1) → wj_X1_ruled_75 o c (pL (pL (pL σ (o + 14) 0 ((f_X3_week c σ d).toInt64)) (o + 14) 1 ((f_X3_moon c (pL σ (o + 14) 0 ((f_X3_week c σ d).toInt64)) d).toInt64)) (o + 14) 4 ((f_X3_season c (pL (pL σ (o + 14) 0 ((f_X3_week c σ d).toInt64)) (o + 14) 1 ((f_X3_moon c (pL σ (o + 14) 0 ((f_X3_week c σ d).toInt64)) d).toInt64)) d).toInt64)) (Int32.ofNat i) d r1 r1 Q)))) from by
      rw [(l_week hL.1 hk d).2]
      obtain ⟨a1, b1⟩ := st σ 0 (skW (aS R) d).toInt64 hL Ch.rf
      have e0 : gL (pL σ (o + 14) 0 (skW (aS R) d).toInt64) (o + 14) 0 = nuS R d 2 := by rw [gL_pL, if_pos ⟨rfl, rfl⟩]; rfl
      refine ⟨(l_week hL.1 hk d).1, ?_⟩
      generalize pL σ (o + 14) 0 (skW (aS R) d).toInt64 = s1 at a1 b1 e0
      rw [(l_moon a1.1 hk d).2]
      obtain ⟨a2, b2⟩ := st s1 1 (skM (aS R) d).toInt64 a1 b1
      have f0 : gL (pL s1 (o + 14) 1 (skM (aS R) d).toInt64) (o + 14) 0 = nuS R d 2 := by rw [gL_pL, if_neg (by omega)]; exact e0
      have f1 : gL (pL s1 (o + 14) 1 (skM (aS R) d).toInt64) (o + 14) 1 = nuS R d 3 := by rw [gL_pL, if_pos ⟨rfl, rfl⟩]; rfl
      refine ⟨(l_moon a1.1 hk d).1, ?_⟩
      generalize pL s1 (o + 14) 1 (skM (aS R) d).toInt64 = s2 at a2 b2 f0 f1
      rw [(l_season a2.1 hk d).2]
      obtain ⟨a3, b3⟩ := st s2 4 (skN (aS R) d).toInt64 a2 b2
      have g0 : gL (pL s2 (o + 14) 4 (skN (aS R) d).toInt64) (o + 14) 0 = nuS R d 2 := by rw [gL_pL, if_neg (by omega)]; exact f0
      have g1 : gL (pL s2 (o + 14) 4 (skN (aS R) d).toInt64) (o + 14) 1 = nuS R d 3 := by rw [gL_pL, if_neg (by omega)]; exact f1
      have g4 : gL (pL s2 (o + 14) 4 (skN (aS R) d).toInt64) (o + 14) 4 = nuS R d 4 := by rw [gL_pL, if_pos ⟨rfl, rfl⟩]; rfl
      refine ⟨(l_season a2.1 hk d).1, ?_⟩
      generalize pL s2 (o + 14) 4 (skN (aS R) d).toInt64 = s3 at a3 b3 g0 g1 g4
      refine ⟨fun z => t75 s3 r1 0 a3 b3 g0 g1 g4 (hn z).2.1.symm (fun z => ⟨(hn z).1, (hn z).2.2⟩) hy, fun z => t75 s3 r1 r1 a3 b3 g0 g1 g4 ?_ (fun z => ⟨(hn z).1, (hn z).2.2⟩) hy⟩
      obtain ⟨x, hx, ey⟩ := hy z
      unfold nuS
      rw [hx]
      rw [ey] at z ⊢
      simp [z])
  refine l_year0 hL.1 hk hd (fun hl => top (-1) (fun _ => ?_) (fun z => absurd rfl z)) (fun x hx => top (yrA x d) (fun z => ?_) (fun z => ⟨x, hx, rfl⟩))
  · have e : (aL R)[0]? = none := by rw [hl]; rfl
    exact ⟨by unfold nuS; rw [e]; simp, by unfold nuS; rw [e]; simp, by unfold nuS; rw [e]; simp⟩
  · exact ⟨by unfold nuS; rw [hx]; simp [z], by unfold nuS; rw [hx]; simp [z], by unfold nuS; rw [hx]; simp [z]⟩
