set_option maxRecDepth 100000
/-! WHAT IS TOLD, AND JUDGED -/
abbrev Tld : Type := Int32 × Int32
def TOk (T : List Tld) : Prop := T.length ≤ 20 ∧ ∀ (i : Nat) (t : Tld), T[i]? = some t → (0 ≤ t.1.toInt ∧ t.1.toInt < 12) ∧ (0 ≤ t.2.toInt ∧ t.2.toInt ≤ 19999)
/-- rows of what is told: the notes, the counts -/
def TR2 (σ : Hp) (a b : Nat) (T : List Tld) : Prop := ∀ (i : Nat) (t : Tld), T[i]? = some t → gI σ a i = t.1 ∧ gI σ b i = t.2
/-- the last count told of a note, among the first ones -/
def laT (T : List Tld) (v : Int32) : Nat → Option Int32
  | 0 => none
  | k + 1 => match T[k]? with
    | some t => if t.1 = v then some t.2 else laT T v k
    | none => laT T v k
theorem la_y {T : List Tld} {v : Int32} {k : Nat} {t : Tld} (h : T[k]? = some t) (e : t.1 = v) : laT T v (k + 1) = some t.2 := by
  show (match T[k]? with | some t => if t.1 = v then some t.2 else laT T v k | none => laT T v k) = _
  rw [h]; exact if_pos e
theorem la_n {T : List Tld} {v : Int32} {k : Nat} {t : Tld} (h : T[k]? = some t) (e : ¬ t.1 = v) : laT T v (k + 1) = laT T v k := by
  show (match T[k]? with | some t => if t.1 = v then some t.2 else laT T v k | none => laT T v k) = _
  rw [h]; exact if_neg e
def soA (T : List Tld) (w : NoteW) (t : Tld) (k : Nat) : Prop := nHas w.1 7 = true → ∀ c', laT T (w.2.1 7) k = some c' → t.2 = c' + w.2.2 7
def soP (R : RlA) (N : List NoteW) (T : List Tld) (k : Nat) : Prop := ∃ t j w, T[k]? = some t ∧ t.1 = Int32.ofNat j ∧ N[j]? = some w ∧ canP R w t.2.toInt ∧ soA T w t k
theorem TR2.fr {σ σ' : Hp} {a b : Nat} {T : List Tld} (h : TR2 σ a b T) (ha : ∀ k, gI σ' a k = gI σ a k) (hb : ∀ k, gI σ' b k = gI σ b k) : TR2 σ' a b T := fun i t hi => by rw [ha, hb]; exact h i t hi
theorem l_isTrue {o c k j : Nat} {σ : Hp} {R : RlA} {N : List NoteW} {T : List Tld} {t : Tld} {w : NoteW} {Q : Int32 → Hp → Prop} (hk : ROk R) (hL : LQ o c R N σ) (hO : TOk T) (hT : TR2 σ (o + 18) (o + 19) T) (ht : T[k]? = some t) (hj : t.1 = Int32.ofNat j) (hw : N[j]? = some w) (hQ : DL (SLn o) o c R N σ (canP R w t.2.toInt ∧ soA T w t k) Q) : wp_X1_isTrue o c σ (Int32.ofNat k) Q := by
  have n12 := hL.2.2.1
  have kl := get_lt ht
  have jl := get_lt hw
  have t20 := hO.1
  obtain ⟨e1, e2⟩ := hT k t ht
  have vk : vp_in (Int32.ofNat k) 20 := nat_v (by omega) (by omega)
  unfold wp_X1_isTrue
  rw [nat_c (by omega), e1, e2, hj, nat_c (by omega)]
  refine ⟨vk, nat_v (by omega) (by omega), vk, vk, ?_⟩
  have tl : t.2.toInt64.toInt = t.2.toInt := i2_l t.2
  refine l_can hk hL hw ⟨fun y s g1 hs => cF (fun a => (by cases a)) ?_, fun y s g1 hs => cT rfl (hQ.2 (fun f => y (by rw [tl]; exact f.1)) s g1 hs)⟩
  rw [tl] at y
  have hTs : TR2 s (o + 18) (o + 19) T := hT.fr (fun k => g1.gi (by unfold SLn; omega)) (fun k => g1.gi (by unfold SLn; omega))
  obtain ⟨hW, hP⟩ := hs.2.2.2.1 j w hw
  have h7 : f_X5_has (o + 38 + 6 * j) s 7 = 0 ↔ nHas w.1 7 = false := hs0 (k := 7) hP (by omega)
  have k1 : (Int32.ofNat k - 1).toInt = (k : Int) - 1 := i3_sub (nat_i (by omega)) (by rfl) (by omega) (by omega)
  refine lp_of (fun z => ∃ p : Nat, p ≤ k ∧ z.1.toInt = (p : Int) - 1 ∧ z.2 = s ∧ laT T (w.2.1 7) k = laT T (w.2.1 7) p) (fun z => (z.1.toInt + 1).toNat) ?_ ⟨k, Nat.le_refl _, k1, rfl, rfl⟩
  rintro K ⟨x3, s'⟩ ⟨p, hp, hx, hse, hla⟩ hK
  simp only at hx hse
  subst hse
  show (_ → _) ∧ (_ → _)
  rw [i3_lt hx (y := 0) (by rfl)]
  refine ⟨fun z => hQ.1 ⟨y, fun _ c' hc' => ?_⟩ s' g1 hs, fun z => ⟨fun u => hQ.1 ⟨y, no_hs (h7.mp u)⟩ s' g1 hs, fun u => ?_⟩⟩
  · rw [hla, show p = 0 by omega] at hc'
    cases hc'
  obtain ⟨p, rfl⟩ : ∃ i, p = i + 1 := ⟨p - 1, by omega⟩
  have ex : x3 = Int32.ofNat p := by rw [i2_eq, hx, nat_i (by omega)]; omega
  subst ex
  have s7 : nHas w.1 7 = true := bt (fun v => u (h7.mpr v))
  obtain ⟨f1, f2⟩ := hP.2 7 (by omega) s7
  have f2 := f2 (Or.inr rfl)
  have pl : p < T.length := by omega
  have hpt := List.getElem?_eq_getElem pl
  obtain ⟨d1, d2⟩ := hTs p _ hpt
  obtain ⟨d3, d4⟩ := hTs k t ht
  rw [nat_c (by omega), nat_c (by omega), d1, d2, d4, f1, f2]
  refine ⟨nat_v (by omega) (by omega), fun v => ⟨vk, nat_v (by omega) (by omega), fun e => hQ.1 ⟨y, fun _ c' hc' => ?_⟩ s' g1 hs, fun e => hQ.2 (fun f => e (f.2 s7 _ ?_)) s' g1 hs⟩, fun v => hK _ ⟨p, by omega, ?_, rfl, ?_⟩ ?_⟩
  · rw [hla, la_y hpt v] at hc'
    cases hc'
    exact e
  · rw [hla, la_y hpt v]
  · show (Int32.ofNat p + -1).toInt = (p : Int) - 1
    rw [i3_add (nat_i (p := p) (by omega)) (b := -1) (y := -1) (by rfl) (by omega) (by omega)]
    omega
  · rw [hla, la_n hpt v]
  · show ((Int32.ofNat p + -1).toInt + 1).toNat < ((Int32.ofNat p).toInt + 1).toNat
    rw [i3_add (nat_i (p := p) (by omega)) (b := -1) (y := -1) (by rfl) (by omega) (by omega), nat_i (by omega)]
    omega
theorem m_isSo {m k : Nat} {τ : Hp} {R : RlA} {N : List NoteW} {T : List Tld} {Q : Int32 → Hp → Prop} (hk : ROk R) (hM : MQt m R N τ) (hO : TOk T) (hT : TR2 τ (m + 28) (m + 29) T) (kl : k < T.length) (hQ : DM m τ (soP R N T k) Q) : wp_X6_isSo m τ (Int32.ofNat k) Q := by
  have n12 := hM.2.2.1
  have t20 := hO.1
  have ht := List.getElem?_eq_getElem kl
  generalize T[k] = t at ht
  obtain ⟨e1, e2⟩ := hT k t ht
  have vk : vp_in (Int32.ofNat k) 20 := nat_v (by omega) (by omega)
  have tb := hO.2 k t ht
  unfold wp_X6_isSo
  rw [nat_c (by omega), e1, e2]
  refine ⟨vk, fun v2 hv2 => ?_⟩
  subst hv2
  have im := m_isNote hM t.1
  refine ⟨fun z => hQ.2 (fun ⟨t', j, w, a1, a2, a3, _⟩ => ?_) τ Ch.rf rfl, fun z => ⟨vk, ?_⟩⟩
  · rw [ht] at a1
    cases a1
    have := get_lt a3
    refine im.mp z ?_
    rw [a2, nat_i (by omega)]
    omega
  have q1 : 0 ≤ t.1.toInt ∧ t.1.toInt < N.length := Classical.byContradiction (fun u => z (im.mpr u))
  obtain ⟨j, w, ej, hw⟩ := at_get q1 (by omega)
  have jl := get_lt hw
  obtain ⟨hW, hP⟩ := hM.2.2.2 j w hw
  have uq : soP R N T k ↔ (canP R w t.2.toInt ∧ soA T w t k) := by
    constructor
    · rintro ⟨t', j', w', a1, a2, a3, a4⟩
      rw [ht] at a1
      cases a1
      have := at_u (by omega) ej hw a2 a3
      subst this
      exact a4
    · intro a
      exact ⟨t, j, w, ht, ej, hw, a⟩
  have hd : cOk t.2.toInt64 := ⟨by rw [i2_l]; omega, by rw [i2_l]; omega⟩
  have tc : said R w t.2.toInt64 ↔ canP R w t.2.toInt := by
    have et : t.2.toInt64 = Int64.ofInt t.2.toInt := by rw [l2_eq, i2_l, l2_ofInt (by omega) (by omega)]
    unfold canP
    rw [et]
    exact ⟨fun a => ⟨by omega, by omega, a⟩, fun a => a.2.2⟩
  rw [ej]
  refine m_canBe hM.1 hk (by omega) hP hW hd ⟨fun y s g1 g2 => cF (fun a => (by cases a)) ?_, fun y s g1 g2 => cT rfl (hQ.2 (fun f => y (tc.mpr (uq.mp f).1)) s g1 g2)⟩
  have y := tc.mp y
  have hPs : mNw m s (11 * j) w := hP.q g1
  have hTs : TR2 s (m + 28) (m + 29) T := hT.fr (fun k => g1.gi (by unfold SMq; omega)) (fun k => g1.gi (by unfold SMq; omega))
  have e0 : gI s (m + 16) ((11 : Int32) * Int32.ofNat j).toNatClampNeg = w.1 := by rw [mn_0 (by omega), nat_c (by omega)]; exact hPs.1
  have h7 : f_X6_isOf w.1 7 = 0 ↔ nHas w.1 7 = false := isOf_iff (k := 7) (by omega)
  rw [e0]
  refine ⟨by rw [mn_0 (by omega)]; exact nat_v (by omega) (by omega), fun u => hQ.1 (uq.mpr ⟨y, no_hs (h7.mp u)⟩) s g1 g2, fun u => ?_⟩
  have s7 : nHas w.1 7 = true := bt (fun v => u (h7.mpr v))
  obtain ⟨f1, -, f2⟩ := hPs.2 7 (by omega) s7
  have f2 := f2 rfl
  rw [if_neg (by omega)] at f1
  have i9 : (11 : Int32) * Int32.ofNat j + 9 = Int32.ofNat (11 * j + 9) := mn_i (k := 9) (by omega) (by omega)
  have i10 : (11 : Int32) * Int32.ofNat j + 10 = Int32.ofNat (11 * j + 10) := mn_i (k := 10) (by omega) (by omega)
  refine lp_of (fun z => ∃ i, i ≤ k ∧ z.2 = (Int32.ofNat i, s) ∧ ((laT T (w.2.1 7) i = none ∧ z.1 = -1) ∨ (∃ c', laT T (w.2.1 7) i = some c' ∧ z.1 = c' ∧ 0 ≤ c'.toInt))) (fun z => k - z.2.1.toNatClampNeg) ?_ ⟨0, by omega, rfl, Or.inl ⟨rfl, rfl⟩⟩
  rintro K ⟨x3, x4, s'⟩ ⟨i, hi, hz, hla⟩ hK
  cases hz
  simp only at hla
  show (_ → _) ∧ (_ → _)
  rw [nat_le (by omega) (by omega), i9, i10, nat_c (p := k) (by omega), nat_c (p := i) (by omega), nat_c (p := 11 * j + 9) (by omega), nat_c (p := 11 * j + 10) (by omega), nat_s (p := i) (by omega), f1, f2, (hTs k t ht).2]
  refine ⟨fun z => ?_, fun z => ?_⟩
  · have e : i = k := by omega
    subst e
    rcases hla with ⟨a, b⟩ | ⟨c', a, b, d⟩
    · have b : x3 = -1 := b
      subst b
      exact cT (by decide) (hQ.1 (uq.mpr ⟨y, fun _ c' hc' => by rw [a] at hc'; cases hc'⟩) s g1 g2)
    · have b : x3 = c' := b
      subst b
      refine cF (fun z => by rw [i3_lt rfl (y := 0) (by rfl)] at z; omega) ⟨vk, nat_v (by omega) (by omega), fun e => hQ.1 (uq.mpr ⟨y, fun _ c'' hc' => ?_⟩) s g1 g2, fun e => hQ.2 (fun f => e ((uq.mp f).2 s7 _ a)) s g1 g2⟩
      rw [a] at hc'
      cases hc'
      exact e
  · have il : i < T.length := by omega
    have hit := List.getElem?_eq_getElem il
    obtain ⟨d1, d2⟩ := hTs i _ hit
    have ib := hO.2 i _ hit
    have nx : k - (Int32.ofNat (i + 1)).toNatClampNeg < k - (Int32.ofNat i).toNatClampNeg := by rw [nat_c (by omega), nat_c (by omega)]; omega
    rw [d1, d2]
    refine ⟨nat_v (by omega) (by omega), nat_v (by omega) (by omega), fun v => ⟨nat_v (by omega) (by omega), hK _ ⟨i + 1, by omega, rfl, Or.inr ⟨_, la_y hit v, rfl, ib.2.1⟩⟩ nx⟩, fun v => hK _ ⟨i + 1, by omega, rfl, ?_⟩ nx⟩
    rw [la_n hit v]
    exact hla
noncomputable def jdV (R : RlA) (N : List NoteW) (T : List Tld) : Int32 := match sN (fun k => ¬ soP R N T k) T.length 0 with
  | none => Int32.ofNat T.length
  | some k => Int32.ofNat k
theorem q_judged {o c m : Nat} {σ : Hp} {R : RlA} {N : List NoteW} {T : List Tld} (hk : ROk R) (hL : LQ o c R N σ) (hO : TOk T) (l11 : gI σ o 11 = Int32.ofNat T.length) (hTL : TR2 σ (o + 18) (o + 19) T) : ∃ v, QLn o c R N σ (wp_X1_judged o c σ) v ∧ ∀ τ, MQt m R N τ → gI τ m 67 = Int32.ofNat T.length → TR2 τ (m + 28) (m + 29) T → QMn m τ (wp_X6_judged m τ) v := by
  have n12 := hL.2.2.1
  have t20 := hO.1
  refine ⟨jdV R N T, fun Q hQ => ?_, fun τ hM m67 hTM Q hQ => ?_⟩
  · refine lp_of (fun z => ∃ k, k ≤ T.length ∧ z.1 = Int32.ofNat k ∧ Ch (SLn o) σ z.2 ∧ LQ o c R N z.2 ∧ sN (fun k => ¬ soP R N T k) (T.length - k) k = sN (fun k => ¬ soP R N T k) T.length 0) (fun z => T.length - z.1.toNatClampNeg) ?_ ⟨0, by omega, rfl, Ch.rf, hL, rfl⟩
    rintro K ⟨x, s⟩ ⟨k, hk2, rfl, g1, hs, hr⟩ hK
    simp only at g1 hs
    have hTs : TR2 s (o + 18) (o + 19) T := hTL.fr (fun k => g1.gi (by unfold SLn; omega)) (fun k => g1.gi (by unfold SLn; omega))
    have s11 : gI s o 11 = Int32.ofNat T.length := by rw [g1.gi (by unfold SLn; omega)]; exact l11
    have fin : ∀ s', Ch (SLn o) s s' → LQ o c R N s' → k < T.length → ¬ soP R N T k → Q (Int32.ofNat k) s' := fun s' a b d e => by
      have := hQ s' (g1.tr a).nf b
      unfold jdV at this
      rw [show T.length - k = (T.length - k - 1) + 1 by omega, sN_y (P := fun k => ¬ soP R N T k) e] at hr
      rw [← hr] at this
      exact this
    show (_ → _) ∧ (_ → _)
    rw [s11, nat_le (by omega) (by omega), nat_c (p := k) (by omega), nat_s (p := k) (by omega)]
    refine ⟨fun z => ?_, fun z => ?_⟩
    · rw [show T.length - k = 0 by omega] at hr
      have := hQ s g1.nf hs
      unfold jdV at this
      rw [← hr] at this
      exact this
    have kl : k < T.length := by omega
    have ht := List.getElem?_eq_getElem kl
    generalize T[k] = t at ht
    have tb := hO.2 k t ht
    rw [(hTs k t ht).1]
    have il := l_isNote hs t.1
    refine ⟨nat_v (by omega) (by omega), in_01 _ _ _, fun u => fin s Ch.rf hs kl (fun ⟨t', j, w, a1, a2, a3, _⟩ => ?_), fun u => ?_⟩
    · rw [ht] at a1
      cases a1
      have := get_lt a3
      refine il.mp u ?_
      rw [a2, nat_i (by omega)]
      omega
    have q1 : 0 ≤ t.1.toInt ∧ t.1.toInt < N.length := Classical.byContradiction (fun v => u (il.mpr v))
    obtain ⟨j, w, ej, hw⟩ := at_get q1 (by omega)
    refine l_isTrue hk hs hO hTs ht ej hw ⟨fun y s' a b => cF (fun a => (by cases a)) (hK _ ⟨k + 1, by omega, rfl, g1.tr a, b, ?_⟩ ?_), fun y s' a b => cT rfl (fin s' a b kl (fun f => y ?_))⟩
    · rw [show T.length - k = (T.length - (k + 1)) + 1 by omega, sN_n (P := fun k => ¬ soP R N T k) (fun f => f ⟨t, j, w, ht, ej, hw, y⟩)] at hr
      exact hr
    · show T.length - (Int32.ofNat (k + 1)).toNatClampNeg < T.length - (Int32.ofNat k).toNatClampNeg
      rw [nat_c (by omega), nat_c (by omega)]; omega
    · obtain ⟨t', j', w', a1, a2, a3, a4⟩ := f
      rw [ht] at a1
      cases a1
      have := at_u (by omega) ej hw a2 a3
      subst this
      exact a4
  · have M2 : MQt m R N (pI τ m 2 0) := hM.n t0n
    refine lp_of (fun z => ∃ k, k ≤ T.length ∧ z.1 = Int32.ofNat k ∧ Ch (SMq m) (pI τ m 2 0) z.2 ∧ gI z.2 m 2 = 0 ∧ sN (fun k => ¬ soP R N T k) (T.length - k) k = sN (fun k => ¬ soP R N T k) T.length 0) (fun z => T.length - z.1.toNatClampNeg) ?_ ⟨0, by omega, rfl, Ch.rf, t0_2, rfl⟩
    rintro K ⟨x, s⟩ ⟨k, hk2, rfl, g1, g2, hr⟩ hK
    simp only at g1 g2
    have hs : MQt m R N s := M2.n (g1.up (fun a k q => Or.inl q))
    have hTs : TR2 s (m + 28) (m + 29) T := hTM.fr (fun k => by rw [g1.gi (by unfold SMq; omega), pIo (by omega)]) (fun k => by rw [g1.gi (by unfold SMq; omega), pIo (by omega)])
    have s67 : gI s m 67 = Int32.ofNat T.length := by rw [g1.gi (by unfold SMq; omega), pIo (by omega)]; exact m67
    have cu : ∀ s', Ch (SMq m) s s' → Ch (SMn m) τ s' := fun s' a => t0n.tr ((g1.tr a).up (fun a k q => Or.inl q))
    show (_ → _) ∧ (_ → _)
    rw [s67, nat_le (by omega) (by omega), nat_s (p := k) (by omega)]
    refine ⟨fun z => ?_, fun z => ?_⟩
    · rw [show T.length - k = 0 by omega] at hr
      have := hQ s (cu s Ch.rf) g2
      unfold jdV at this
      rw [← hr] at this
      exact this
    have kl : k < T.length := by omega
    refine m_isSo hk hs hO hTs kl ⟨fun y s' a b => cF (fun a => (by cases a)) (hK _ ⟨k + 1, by omega, rfl, g1.tr a, b.trans g2, ?_⟩ ?_), fun y s' a b => cT rfl ?_⟩
    · rw [show T.length - k = (T.length - (k + 1)) + 1 by omega, sN_n (P := fun k => ¬ soP R N T k) (fun f => f y)] at hr
      exact hr
    · show T.length - (Int32.ofNat (k + 1)).toNatClampNeg < T.length - (Int32.ofNat k).toNatClampNeg
      rw [nat_c (by omega), nat_c (by omega)]; omega
    · have := hQ s' (cu s' a) (b.trans g2)
      unfold jdV at this
      rw [show T.length - k = (T.length - k - 1) + 1 by omega, sN_y (P := fun k => ¬ soP R N T k) y] at hr
      rw [← hr] at this
      exact this
