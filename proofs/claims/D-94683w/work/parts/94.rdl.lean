set_option maxRecDepth 100000
/-! LongYears' SUM READER, LEVEL BY LEVEL, against the machine of waiting signs -/
def tokc (r : Nat) (w : List Nat) (h : List Ev) (t : Tok) : Prop := opOf t = 0 ∨ rk (opOf t) < r ∨ (rk (opOf t) = 4 ∧ tr (bnd 5 w h).1 = 4)
def LvOk (o c d : Nat) (b : Nat → Int32) (n B0 r : Nat) (σ : Hp) (w : List Nat) (h : List Ev) (brk cnt : Nat) (mn : Bool) (t : Tok) (Q : Nat → Hp → Prop) : Prop := ∀ (p : Nat) (σ' : Hp) (t' : Tok) (cnt' : Nat) (w' : List Nat) (h' : List Ev) (v : Ev) (mn' : Bool), RDR o c d b n σ' t' brk cnt' → FR (S5 o d) σ σ' → TR σ' (gS σ) (cnt' - cnt) p v → cnt ≤ cnt' → gS σ' ≤ B0 + 4 * tPl t' → Rc (syStep (adv b n)) (w, h, brk, cnt, true, mn, t) (w', h', brk, cnt', false, mn', t') → bnd r w' h' = bnd r w (v :: h) → tokc r w' h' t' → tPl t < tPl t' → Q p σ'
def LvBad (o d : Nat) (b : Nat → Int32) (n : Nat) (σ : Hp) (w : List Nat) (h : List Ev) (brk cnt : Nat) (mn : Bool) (t : Tok) (E : Nat → Hp → Prop) : Prop := ∀ (q : Nat) (σ' : Hp) (k : Int32) (pl : Nat), FR (S5 o d) σ σ' → FLT σ' q k pl → Rn (syStep (adv b n)) (w, h, brk, cnt, true, mn, t) (.inr (k, pl)) → E q σ'
def LvS (o c d : Nat) (b : Nat → Int32) (n B0 r tb brk c0 : Nat) (pm : Bool → Tok → Prop) (W : Hp → (Nat → Hp → Prop) → (Nat → Hp → Prop) → Prop) : Prop := ∀ (σ : Hp) (t : Tok) (cnt : Nat) (w : List Nat) (h : List Ev) (mn : Bool) (Q E : Nat → Hp → Prop), c0 ≤ cnt → RDR o c d b n σ t brk cnt → pm mn t → tr w < tb → gS σ ≤ B0 + 4 * tPl t → LvOk o c d b n B0 r σ w h brk cnt mn t Q → LvBad o d b n σ w h brk cnt mn t E → W σ Q E
/-- no not may stand there where one stands -/
def pmA (mn : Bool) (t : Tok) : Prop := tIsKey t 18 = true → mn = false
def pmB (mn : Bool) (_ : Tok) : Prop := mn = true
theorem adv_pl {b : Nat → Int32} {n : Nat} {t : Tok} (h : TV n t) (hk : tKd t ≠ 0) : tPl t < tPl (adv b n t) ∧ tPl (adv b n t) ≤ n := by
  have h1 := h.2.2.2.1 hk
  have h2 := tk_b (b := b) h.1
  unfold adv
  omega
theorem bnd7 (w : List Nat) (h : List Ev) : bnd 7 w h = (w, h) := by
  cases w with
  | nil => rfl
  | cons k w => unfold bnd; rw [if_pos (by have := rk_b k; omega)]
/-- the sign is met: it waits -/
theorem sy_op {b : Nat → Int32} {n : Nat} {w' w : List Nat} {h' h : List Ev} {v : Ev} {brk cnt : Nat} {mn : Bool} {t : Tok} (hv : TV n t) (h0 : opOf t ≠ 0) (h4 : rk (opOf t) ≠ 4) (he : bnd (rk (opOf t)) w' h' = bnd (rk (opOf t)) w (v :: h)) (htr : tr w < rk (opOf t)) : syStep (adv b n) (w', h', brk, cnt, false, mn, t) = if cnt = 64 then .inr (.inr (2, tPl t)) else .inl (opOf t :: w, v :: h, brk, cnt + 1, true, decide (rk (opOf t) < 3), adv b n t) := by
  obtain ⟨a1, a2, a3, a4, a5⟩ := val_op hv h0
  rw [syStep_eq, if_neg (by rw [a4]; simp), if_neg (by decide)]
  unfold sySign
  rw [if_neg (by rw [a5]; simp), if_neg h0, if_neg h4, he, bnd_stop (by omega) htr]
theorem sy_cmp {b : Nat → Int32} {n : Nat} {w' w : List Nat} {h' h : List Ev} {v : Ev} {brk cnt : Nat} {mn : Bool} {t : Tok} (hv : TV n t) (h4 : rk (opOf t) = 4) (he : bnd 5 w' h' = bnd 5 w (v :: h)) (htr : tr w < 4) : syStep (adv b n) (w', h', brk, cnt, false, mn, t) = if cnt = 64 then .inr (.inr (2, tPl t)) else .inl (opOf t :: w, v :: h, brk, cnt + 1, true, false, adv b n t) := by
  have h0 : opOf t ≠ 0 := fun q => by rw [q] at h4; cases h4
  obtain ⟨a1, a2, a3, a4, a5⟩ := val_op hv h0
  rw [syStep_eq, if_neg (by rw [a4]; simp), if_neg (by decide)]
  unfold sySign
  rw [if_neg (by rw [a5]; simp), if_neg h0, if_pos h4, he, bnd_stop (by omega) (by omega), if_neg (by show ¬ tr w = 4; omega)]
/-- a level's round: the sign, a knot, the other part -/
def BB (o c d Mx : Nat) (SUB : Hp → (Nat → Hp → Prop) → (Nat → Hp → Prop) → Prop) (E : Nat → Hp → Prop) (K : Nat × Hp → Prop) (z : Nat × Hp) : Prop := wp_X2_knot o c d z.2 Mx (fun r17 s14 => GX z.2 s14 → (gS s14 + 1 ≤ Mx) ∧ (SUB (pN s14 (.inl 15)) (fun r24 s21 => GX (pN s14 (.inl 15)) s21 → ∀ s27 : Hp, s27 = f_X18_init (gS s14) s21 r17 z.1 r24 → K (gS s14, s27)) E)) E
/-- where a level stands between two rounds -/
def LI (o c d : Nat) (b : Nat → Int32) (n B0 r rq : Nat) (σ : Hp) (w : List Nat) (h : List Ev) (brk cnt : Nat) (mn : Bool) (t : Tok) (z : Nat × Hp) : Prop := ∃ (t' : Tok) (cnt' : Nat) (w' : List Nat) (h' : List Ev) (v : Ev) (mn' : Bool), RDR o c d b n z.2 t' brk cnt' ∧ FR (S5 o d) σ z.2 ∧ TR z.2 (gS σ) (cnt' - cnt) z.1 v ∧ cnt ≤ cnt' ∧ gS z.2 ≤ B0 + 4 * tPl t' ∧ Rc (syStep (adv b n)) (w, h, brk, cnt, true, mn, t) (w', h', brk, cnt', false, mn', t') ∧ bnd r w' h' = bnd r w (v :: h) ∧ tokc rq w' h' t' ∧ tPl t < tPl t'
theorem rd_two {o c d : Nat} {b : Nat → Int32} {n B0 r q tb brk c0 Mx : Nat} {pm : Bool → Tok → Prop} {SUB : Hp → (Nat → Hp → Prop) → (Nat → Hp → Prop) → Prop} {σ : Hp} {w : List Nat} {h : List Ev} {cnt : Nat} {mn : Bool} {t : Tok} {E : Nat → Hp → Prop} {K : Nat × Hp → Prop} {z : Nat × Hp}
    (hM : B0 + 4 * n + 8 ≤ Mx) (hst : o < d ∧ d + 11 ≤ gS σ) (hsub : LvS o c d b n B0 q tb brk c0 pm SUB) (hrq : r ≤ q) (hc0 : c0 ≤ cnt) (hbad : LvBad o d b n σ w h brk cnt mn t E)
    {t' : Tok} {cnt' : Nat} {w' : List Nat} {h' : List Ev} {v : Ev} {mn' mv : Bool} (i1 : RDR o c d b n z.2 t' brk cnt') (i2 : FR (S5 o d) σ z.2) (i3 : TR z.2 (gS σ) (cnt' - cnt) z.1 v) (i4 : cnt ≤ cnt') (i5 : gS z.2 ≤ B0 + 4 * tPl t') (i6 : Rc (syStep (adv b n)) (w, h, brk, cnt, true, mn, t) (w', h', brk, cnt', false, mn', t')) (i9 : tPl t < tPl t')
    (hop : opOf t' ≠ 0) (hr : rk (opOf t') = r) (hr2 : r ≠ 3) (hpm : ∀ t, pm mv t) (htb : r < tb)
    (hsy : syStep (adv b n) (w', h', brk, cnt', false, mn', t') = if cnt' = 64 then .inr (.inr (2, tPl t')) else .inl (opOf t' :: w, v :: h, brk, cnt' + 1, true, mv, adv b n t'))
    (hK : ∀ y t2 cnt2 w2 h2 v2 mn2, RDR o c d b n y.2 t2 brk cnt2 → FR (S5 o d) σ y.2 → TR y.2 (gS σ) (cnt2 - cnt) y.1 (eTwo (opOf t') v v2) → cnt ≤ cnt2 → gS y.2 ≤ B0 + 4 * tPl t2 → Rc (syStep (adv b n)) (w, h, brk, cnt, true, mn, t) (w2, h2, brk, cnt2, false, mn2, t2) → bnd q w2 h2 = bnd q (opOf t' :: w) (v2 :: v :: h) → tokc q w2 h2 t2 → tPl t' < tPl t2 → K y) : BB o c d Mx SUB E K z := by
  obtain ⟨p, σ1⟩ := z
  simp only at i1 i2 i3 i5
  have hpl : tPl t' ≤ n := by have := i1.2.2.1; have := this.1; have := i1.2.2.1.2.1; omega
  have hv := i1.2.2.1
  obtain ⟨a1, a2, a3, a4, a5⟩ := val_op hv hop
  have hz := i2.1
  have hodm : o < d := i1.2.2.2.2.2.2.2.1
  have hdz : d + 11 ≤ gS σ1 := i1.2.2.2.2.2.2.2.2.2
  refine rd_knot i1 (by show gS σ1 + 1 ≤ Mx; omega) (fun q64 q σ' f1 f2 => ?_) (fun q64 s14 f1 f2 f3 _ => ⟨?_, ?_⟩)
  · rw [if_pos q64] at hsy
    exact hbad q σ' 2 _ (i2.tr f1) f2 (i6 _ (Rn.en hsy))
  · rw [f2]
    show gS σ1 + 1 ≤ Mx
    omega
  · rw [if_neg q64] at hsy
    have hadv := adv_pl (b := b) hv a2
    have f2 : gS s14 = gS σ1 := f2
    have hval : gI σ1 o 4 = sgnL (opOf t') := by rw [i1.2.1.2.2.2 a2 a3, a1]
    have fn : FR (S5 o d) σ1 (pN s14 (.inl 15)) := f1.tr FR.n
    refine hsub (pN s14 (.inl 15)) (adv b n t') (cnt' + 1) (opOf t' :: w) (v :: h) mv _ E (by omega) (f3.fr FR.n) (hpm _) (by show rk (opOf t') < tb; omega) (by rw [gS_pN, f2]; omega) ?_ ?_
    · intro p2 σ2 t2 cnt2 w2 h2 v2 mn2 g1 g2 g3 g4 g5 g6 g7 g8 g9 _ s27 hs
      subst hs
      have hg2z := g2.1
      rw [gS_pN] at hg2z
      have fAll : FR (S5 o d) σ1 σ2 := fn.tr g2
      have hd2 : d < gS s14 := by omega
      have fin : FR (S5 o d) σ1 (f_X18_init (gS s14) σ2 (gI σ1 o 4) p p2) := by
        unfold f_X18_init f_X17_init
        exact ((fAll.r (by omega)).i (Or.inl (by omega))).r (by omega)
      have tb3 := g3.bd
      rw [gS_pN] at tb3
      refine hK (gS s14, f_X18_init (gS s14) σ2 (gI σ1 o 4) p p2) t2 cnt2 w2 h2 v2 mn2 ?_ (i2.tr fin) ?_ (by omega) ?_ (i6.tr ((Rc.one hsy).tr g6)) g7 g8 (by omega)
      · -- the reader's own stand
        obtain ⟨k1, k2, k3, k4, k5, k6, k7, k8, k9, k10⟩ := g1
        have f : ∀ a k, a < gS s14 → gI (f_X18_init (gS s14) σ2 (gI σ1 o 4) p p2) a k = gI σ2 a k := fun a k ha => by
          unfold f_X18_init f_X17_init
          rw [gI_pR, pIo (by omega), gI_pR]
        refine ⟨⟨?_, k1.2.1, k1.2.2.1, fun i hi => ?_⟩, ⟨?_, ?_, ?_, fun q1 q2 => ?_⟩, k3, ?_, ?_, k6, k7, k8, k9, k10⟩
        · rw [f _ _ (by omega)]; exact k1.1
        · rw [f _ _ (by omega)]; exact k1.2.2.2 i hi
        · rw [f _ _ (by omega)]; exact k2.1
        · rw [f _ _ (by omega)]; exact k2.2.1
        · rw [f _ _ (by omega)]; exact k2.2.2.1
        · rw [f _ _ (by omega)]; exact k2.2.2.2 q1 q2
        · rw [f _ _ (by omega)]; exact k4
        · rw [f _ _ (by omega)]; exact k5
      · -- the tree
        have t1 : TR (f_X18_init (gS s14) σ2 (gI σ1 o 4) p p2) (gS σ) (cnt' - cnt) p v := i3.fr fin (fun a k ha => S5_lo hst.1 (by omega))
        have t2' : TR (f_X18_init (gS s14) σ2 (gI σ1 o 4) p p2) (gS s14 + 1) (cnt2 - (cnt' + 1)) p2 v2 := by
          refine TR.cg (σ := σ2) (σ' := f_X18_init (gS s14) σ2 (gI σ1 o 4) p p2) (lo := gS s14 + 1) (Nat.le_refl _) (fun x hx1 hx2 => ⟨rfl, fun i => ?_⟩) g3
          unfold f_X18_init f_X17_init
          rw [gR_pR, if_neg (by omega), gR_pI, gR_pR, if_neg (by omega), gI_pR, pIo (by omega), gI_pR]
          exact ⟨rfl, rfl⟩
        have ek : cnt2 - cnt = (cnt2 - cnt - 1) + 1 := by omega
        rw [ek]
        refine ⟨by omega, by show gS s14 < gS σ2; omega, Or.inr (Or.inr (Or.inr ⟨?_, p, v, p2, v2, opOf t', ?_, ?_, ?_, ?_, ?_, t1.up (by omega), (t2'.lo (by omega)).up (by omega), rfl⟩))⟩
        · show gT σ2 (gS s14) = _
          rw [g2.gt (by rw [gS_pN]; omega)]
          exact gT_new
        · have := (opOf_b hv).2; omega
        · exact (opOf_b hv).1
        · unfold f_X18_init f_X17_init; simp [gR_pR, gR_pI]
        · unfold f_X18_init f_X17_init; simp [gR_pR]
        · unfold f_X18_init f_X17_init; rw [gI_pR, gI_pI, if_pos ⟨rfl, rfl⟩]; exact hval
      · show gS σ2 ≤ _
        exact g5
    · intro q σ' k pl g1 g2 g3
      exact hbad q σ' k pl (i2.tr (fn.tr g1)) g2 ((i6.tr (Rc.one hsy)) _ g3)
