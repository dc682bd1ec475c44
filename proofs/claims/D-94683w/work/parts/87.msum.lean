set_option maxRecDepth 100000
/-! THE REFERENCE's KNOTS: a row of them, the parts ahead of the whole -/
def Seg (kn pt ot : Nat → Int32) : Nat → Nat → Nat → Ev → Prop
  | 0, _, _, _ => False
  | f + 1, a, e, v => a < e ∧ ((kn (e - 1) = 0 ∧ e = a + 1 ∧ v = eNum (pt (e - 1))) ∨ (kn (e - 1) = 1 ∧ e = a + 1 ∧ ∃ i, i < 6 ∧ pt (e - 1) = Int32.ofNat i ∧ v = eName i) ∨ (kn (e - 1) = 2 ∧ pt (e - 1) = Int32.ofNat (e - 2) ∧ ∃ u, Seg kn pt ot f a (e - 1) u ∧ v = eNot u) ∨ (∃ k s u u', 3 ≤ k ∧ k ≤ 15 ∧ kn (e - 1) = Int32.ofNat k ∧ pt (e - 1) = Int32.ofNat (s - 1) ∧ ot (e - 1) = Int32.ofNat (e - 2) ∧ Seg kn pt ot f a s u ∧ Seg kn pt ot f s (e - 1) u' ∧ v = eTwo k u u'))
theorem Seg.lt {kn pt ot : Nat → Int32} {f a e : Nat} {v : Ev} (h : Seg kn pt ot f a e v) : a < e := by
  cases f with
  | zero => exact h.elim
  | succ f => exact h.1
theorem Seg.up {kn pt ot : Nat → Int32} : ∀ {f f' a e : Nat} {v : Ev}, f ≤ f' → Seg kn pt ot f a e v → Seg kn pt ot f' a e v := by
  intro f
  induction f with
  | zero => intro f' a e v _ h; exact h.elim
  | succ f ih =>
    intro f' a e v hf h
    obtain ⟨f', rfl⟩ : ∃ g, f' = g + 1 := ⟨f' - 1, by omega⟩
    obtain ⟨h0, h⟩ := h
    refine ⟨h0, ?_⟩
    rcases h with h | h | ⟨h1, h2, u, h3, h4⟩ | ⟨k, s, u, u', h1, h2, h3, h4, h5, h6, h7, h8⟩
    · exact Or.inl h
    · exact Or.inr (Or.inl h)
    · exact Or.inr (Or.inr (Or.inl ⟨h1, h2, u, ih (by omega) h3, h4⟩))
    · exact Or.inr (Or.inr (Or.inr ⟨k, s, u, u', h1, h2, h3, h4, h5, ih (by omega) h6, ih (by omega) h7, h8⟩))
theorem Seg.cg {kn pt ot kn' pt' ot' : Nat → Int32} : ∀ {f a e : Nat} {v : Ev}, (∀ i, a ≤ i → i < e → kn' i = kn i ∧ pt' i = pt i ∧ ot' i = ot i) → Seg kn pt ot f a e v → Seg kn' pt' ot' f a e v := by
  intro f
  induction f with
  | zero => intro a e v _ h; exact h.elim
  | succ f ih =>
    intro a e v hc h
    obtain ⟨h0, h⟩ := h
    obtain ⟨c1, c2, c3⟩ := hc (e - 1) (by omega) (by omega)
    refine ⟨h0, ?_⟩
    rw [c1, c2, c3]
    rcases h with h | h | ⟨h1, h2, u, h3, h4⟩ | ⟨k, s, u, u', h1, h2, h3, h4, h5, h6, h7, h8⟩
    · exact Or.inl h
    · exact Or.inr (Or.inl h)
    · exact Or.inr (Or.inr (Or.inl ⟨h1, h2, u, ih (fun i q1 q2 => hc i q1 (by omega)) h3, h4⟩))
    · have l1 := h6.lt
      have l2 := h7.lt
      exact Or.inr (Or.inr (Or.inr ⟨k, s, u, u', h1, h2, h3, h4, h5, ih (fun i q1 q2 => hc i q1 (by omega)) h6, ih (fun i q1 q2 => hc i (by omega) (by omega)) h7, h8⟩))
def SegE (kn pt ot : Nat → Int32) (a e : Nat) (v : Ev) : Prop := ∃ f, Seg kn pt ot f a e v
theorem SegE.lt {kn pt ot : Nat → Int32} {a e : Nat} {v : Ev} (h : SegE kn pt ot a e v) : a < e := h.elim fun _ q => q.lt
theorem SegE.cg {kn pt ot kn' pt' ot' : Nat → Int32} {a e : Nat} {v : Ev} (hc : ∀ i, a ≤ i → i < e → kn' i = kn i ∧ pt' i = pt i ∧ ot' i = ot i) (h : SegE kn pt ot a e v) : SegE kn' pt' ot' a e v := h.elim fun f q => ⟨f, q.cg hc⟩
theorem SegE.num {kn pt ot : Nat → Int32} {e : Nat} {v : Int32} (h1 : kn e = 0) (h2 : pt e = v) : SegE kn pt ot e (e + 1) (eNum v) := ⟨1, by omega, Or.inl ⟨by rw [Nat.add_sub_cancel]; exact h1, rfl, by rw [Nat.add_sub_cancel, h2]⟩⟩
theorem SegE.name {kn pt ot : Nat → Int32} {e i : Nat} (h0 : i < 6) (h1 : kn e = 1) (h2 : pt e = Int32.ofNat i) : SegE kn pt ot e (e + 1) (eName i) := ⟨1, by omega, Or.inr (Or.inl ⟨by rw [Nat.add_sub_cancel]; exact h1, rfl, i, h0, by rw [Nat.add_sub_cancel]; exact h2, rfl⟩)⟩
theorem SegE.not {kn pt ot : Nat → Int32} {a e : Nat} {u : Ev} (h1 : kn e = 2) (h2 : pt e = Int32.ofNat (e - 1)) (h : SegE kn pt ot a e u) : SegE kn pt ot a (e + 1) (eNot u) := by
  obtain ⟨f, h⟩ := h
  have := h.lt
  exact ⟨f + 1, by omega, Or.inr (Or.inr (Or.inl ⟨by rw [Nat.add_sub_cancel]; exact h1, by rw [Nat.add_sub_cancel]; exact h2, u, by rw [Nat.add_sub_cancel]; exact h, rfl⟩))⟩
theorem SegE.two {kn pt ot : Nat → Int32} {a s e k : Nat} {u u' : Ev} (hk : 3 ≤ k ∧ k ≤ 15) (h1 : kn e = Int32.ofNat k) (h2 : pt e = Int32.ofNat (s - 1)) (h3 : ot e = Int32.ofNat (e - 1)) (h : SegE kn pt ot a s u) (h' : SegE kn pt ot s e u') : SegE kn pt ot a (e + 1) (eTwo k u u') := by
  obtain ⟨f, h⟩ := h
  obtain ⟨g, h'⟩ := h'
  have := h.lt
  have := h'.lt
  refine ⟨f + g + 1, by omega, Or.inr (Or.inr (Or.inr ⟨k, s, u, u', hk.1, hk.2, ?_, ?_, ?_, h.up (by omega), ?_, rfl⟩))⟩
  all_goals rw [Nat.add_sub_cancel]
  · exact h1
  · exact h2
  · exact h3
  · exact h'.up (by omega)
/-- the knots that are read: behind the sixty-four that are kept -/
def kN (m : Nat) (σ : Hp) (u i : Nat) : Int32 := gI σ (m + 17) (64 * u + i)
def kP (m : Nat) (σ : Hp) (u i : Nat) : Int32 := gI σ (m + 18) (64 * u + i)
def kO (m : Nat) (σ : Hp) (u i : Nat) : Int32 := gI σ (m + 19) (64 * u + i)
/-- the signs that wait -/
def WR (m : Nat) (σ : Hp) : List Nat → Prop
  | [] => True
  | k :: w => gI σ (m + 20) w.length = Int32.ofNat k ∧ k ≤ 15 ∧ k ≠ 1 ∧ WR m σ w
theorem WR.cg {m : Nat} {σ σ' : Hp} : ∀ {w : List Nat}, (∀ i, i < w.length → gI σ' (m + 20) i = gI σ (m + 20) i) → WR m σ w → WR m σ' w := by
  intro w
  induction w with
  | nil => exact fun _ _ => trivial
  | cons k w ih =>
    intro hc h
    exact ⟨by rw [hc _ (by simp)]; exact h.1, h.2.1, h.2.2.1, ih (fun i hi => hc i (by simp; omega)) h.2.2.2⟩
/-- what is held, each a row of knots; the last ends at e, the first begins at s0 -/
def HR (m : Nat) (σ : Hp) (s0 : Nat) : List Ev → Nat → Prop
  | [], e => e = s0
  | v :: h, e => ∃ s, gI σ (m + 21) h.length = Int32.ofNat (e - 1) ∧ SegE (kN m σ 1) (kP m σ 1) (kO m σ 1) s e v ∧ HR m σ s0 h s
theorem HR.le {m : Nat} {σ : Hp} {s0 : Nat} : ∀ {h : List Ev} {e : Nat}, HR m σ s0 h e → s0 + h.length ≤ e := by
  intro h
  induction h with
  | nil => intro e q; rw [show e = s0 from q]; simp
  | cons v h ih =>
    intro e q
    obtain ⟨s, -, h1, h2⟩ := q
    have := ih h2
    have := h1.lt
    simp only [List.length_cons]
    omega
theorem HR.cg {m : Nat} {σ σ' : Hp} {s0 : Nat} : ∀ {h : List Ev} {e : Nat}, (∀ i, i < h.length → gI σ' (m + 21) i = gI σ (m + 21) i) → (∀ i, s0 ≤ i → i < e → kN m σ' 1 i = kN m σ 1 i ∧ kP m σ' 1 i = kP m σ 1 i ∧ kO m σ' 1 i = kO m σ 1 i) → HR m σ s0 h e → HR m σ' s0 h e := by
  intro h
  induction h with
  | nil => exact fun _ _ q => q
  | cons v h ih =>
    intro e hc hk q
    obtain ⟨s, h1, h2, h3⟩ := q
    have l1 := h2.lt
    have l2 := h3.le
    exact ⟨s, by rw [hc _ (by simp)]; exact h1, h2.cg (fun i q1 q2 => hk i (by omega) q2), ih (fun i hi => hc i (by simp; omega)) (fun i q1 q2 => hk i q1 (by omega)) h3⟩
def nop : List Nat → Nat
  | [] => 0
  | k :: w => (if k = 0 then 0 else 1) + nop w
def nbr : List Nat → Nat
  | [] => 0
  | k :: w => (if k = 0 then 1 else 0) + nbr w
def nbi : List Nat → Nat
  | [] => 0
  | k :: w => (if 3 ≤ k then 1 else 0) + nbi w
theorem nop_nbr : ∀ w : List Nat, w.length = nop w + nbr w := by
  intro w
  induction w with
  | nil => rfl
  | cons k w ih =>
    simp only [List.length_cons, nop, nbr]
    split <;> omega
/-- both stacks, as the reference has them -/
def STK (m : Nat) (σ : Hp) (s0 : Nat) (w : List Nat) (h : List Ev) (cnt : Nat) : Prop := gI σ m 47 = Int32.ofNat w.length ∧ WR m σ w ∧ gI σ m 48 = Int32.ofNat h.length ∧ nbr w ≤ 8 ∧ cnt ≤ 64 ∧ ∃ e, gI σ m 23 = Int32.ofNat e ∧ HR m σ s0 h e ∧ e + nop w = cnt
/-- what binding writes -/
def SB (m s0 a k : Nat) : Prop := (a = m ∧ (k = 23 ∨ k = 47 ∨ k = 48)) ∨ ((a = m + 17 ∨ a = m + 18 ∨ a = m + 19) ∧ 64 + s0 ≤ k) ∨ a = m + 21
theorem rk_i : ∀ k, k < 16 → f_X6_rank (Int32.ofNat k) = Int32.ofNat (rk k) := by decide +kernel
theorem rk_b (k : Nat) : rk k ≤ 6 := by
  unfold rk
  repeat' split
  all_goals omega
theorem wp_bind {m s0 r : Nat} {σ : Hp} {w : List Nat} {h : List Ev} {cnt : Nat} {Q : Hp → Prop} (hS : STK m σ s0 w h cnt) (hl : h.length = nbi w + 1) (hr1 : 1 ≤ r) (hr : r ≤ 6)
    (hQ : ∀ σ', Ch (SB m s0) σ σ' → STK m σ' s0 (bnd r w h).1 (bnd r w h).2 cnt → (bnd r w h).2.length = nbi (bnd r w h).1 + 1 → Q σ') : wp_X6_bind m σ (Int32.ofNat r) Q := by
  refine lp_of (fun τ => ∃ w' h', Ch (SB m s0) σ τ ∧ STK m τ s0 w' h' cnt ∧ h'.length = nbi w' + 1 ∧ bnd r w' h' = bnd r w h) (fun τ => (gI τ m 47).toNatClampNeg) ?_ ⟨w, h, Ch.rf, hS, hl, rfl⟩
  rintro K τ ⟨w, h, hc, ⟨k1, k2, k3, k4, k5, e, k6, k7, k8⟩, hl, hb⟩ hK
  rw [← hb] at hQ
  have hwl := nop_nbr w
  have hhl := k7.le
  unfold lb_X6_bind_0
  cases w with
  | nil =>
    rw [k1]
    refine ⟨fun _ => hQ τ hc ⟨k1, k2, k3, k4, k5, e, k6, k7, k8⟩ hl, fun q => absurd (by decide) q⟩
  | cons k w =>
    obtain ⟨w1, w2, w3, w4⟩ := k2
    simp only [List.length_cons] at k1 hwl
    have e1 : gI τ m 47 - 1 = Int32.ofNat w.length := by
      rw [k1, show (1 : Int32) = Int32.ofNat 1 from rfl, nat_d (by omega) (by omega)]; congr 1
    rw [e1, nat_c (by omega), w1, rk_i k (by omega), k1]
    refine ⟨fun q => ?_, fun _ => ⟨nat_v (by omega) (by omega), fun q => ?_, fun q => ⟨nat_v (by omega) (by omega), fun v hv => ?_⟩⟩⟩
    · rw [i3_le (nat_i (by omega)) (y := 0) (by rfl)] at q; omega
    · rw [i3_lt (nat_i (by have := rk_b k; omega)) (nat_i (by omega))] at q
      have eb : bnd r (k :: w) h = (k :: w, h) := by unfold bnd; rw [if_pos (by omega)]
      rw [eb] at hQ
      exact hQ τ hc ⟨k1, ⟨w1, w2, w3, w4⟩, k3, k4, k5, e, k6, k7, k8⟩ hl
    · rw [i3_lt (nat_i (by have := rk_b k; omega)) (nat_i (by omega))] at q
      have hrk : ¬ rk k < r := by omega
      rw [gI_pI, if_neg (by omega), w1] at hv
      subst hv
      have ek2 : Int32.ofNat k = 2 ↔ k = 2 := nat_e (q := 2) (by omega) (by omega)
      -- what is common to both: the new knot
      have grow : ∀ (τ1 : Hp) (L s2 : Nat) (h' : List Ev) (v' : Ev) (pa pb : Int32), h'.length = L → Ch (SB m s0) σ τ1 → gI τ1 m 47 = Int32.ofNat w.length → (∀ i, i < w.length → gI τ1 (m + 20) i = gI τ (m + 20) i) → gI τ1 m 48 = Int32.ofNat L → gI τ1 m 23 = Int32.ofNat e → (∀ i, i < L → gI τ1 (m + 21) i = gI τ (m + 21) i) → (∀ i, kN m τ1 1 i = kN m τ 1 i ∧ kP m τ1 1 i = kP m τ 1 i ∧ kO m τ1 1 i = kO m τ 1 i) → HR m τ s0 h' s2 → s2 ≤ e → e + nop w + 1 ≤ cnt → h'.length = nbi w →
          (∀ kn pt ot : Nat → Int32, (∀ i, i < e → kn i = kN m τ 1 i ∧ pt i = kP m τ 1 i ∧ ot i = kO m τ 1 i) → kn e = Int32.ofNat k → pt e = pa → ot e = pb → SegE kn pt ot s2 (e + 1) v') → e + 1 + nop w = cnt → nbr w ≤ 8 → bnd r w (v' :: h') = bnd r (k :: w) h →
          (ok_X6_grown m τ1 (Int32.ofNat k) pa pb) ∧ (∀ s20 : Hp, s20 = f_X6_grown m τ1 (Int32.ofNat k) pa pb → K s20) := by
        intro τ1 L s2 h' v' pa pb hL c1 g47 g20 g48 g23 g21 gk hH hse hcn hnb hseg hcnt hbr hbnd
        have hle := hH.le
        have e64 : (64 : Int32) + gI τ1 m 23 = Int32.ofNat (64 + e) := by rw [g23]; exact nat_a (p := 64) (by omega)
        have es1 : gI τ1 m 48 + 1 = Int32.ofNat (L + 1) := by rw [g48, nat_s (by omega)]
        have es2 : gI τ1 m 23 + 1 = Int32.ofNat (e + 1) := by rw [g23, nat_s (by omega)]
        constructor
        · unfold ok_X6_grown
          rw [e64, g48]
          exact ⟨nat_v (by omega) (by omega), nat_v (by omega) (by omega), nat_v (by omega) (by omega), nat_v (by omega) (by omega)⟩
        · intro s20 hs20
          unfold f_X6_grown at hs20
          rw [e64, es1, es2, g48, g23, nat_c (by omega), nat_c (by omega)] at hs20
          subst hs20
          refine hK _ ⟨w, v' :: h', (((((c1.i ?_).i ?_).i ?_).i ?_).i ?_).i ?_, ⟨?_, ?_, ?_, hbr, k5, e + 1, ?_, ?_, hcnt⟩, by simp only [List.length_cons]; omega, hbnd.trans hb⟩ ?_
          · unfold SB; omega
          · unfold SB; omega
          · unfold SB; omega
          · unfold SB; omega
          · unfold SB; omega
          · unfold SB; omega
          · simp [gI_pI, g47]
          · refine w4.cg (fun i hi => ?_)
            rw [← g20 i hi]
            simp [gI_pI]
          · simp [gI_pI, hL]
          · simp [gI_pI]
          · refine ⟨s2, ?_, hseg _ _ _ (fun i hi => ?_) ?_ ?_ ?_, hH.cg (fun i hi => ?_) (fun i q1 q2 => ?_)⟩
            · simp [gI_pI, hL]
            · obtain ⟨a1, a2, a3⟩ := gk i
              rw [← a1, ← a2, ← a3]
              unfold kN kP kO
              simp [gI_pI, show 64 + i ≠ 64 + e by omega]
              omega
            · unfold kN; simp [gI_pI]
            · unfold kP; simp [gI_pI]
            · unfold kO; simp [gI_pI]
            · rw [← g21 i (by omega)]
              simp [gI_pI]
              omega
            · obtain ⟨a1, a2, a3⟩ := gk i
              rw [← a1, ← a2, ← a3]
              unfold kN kP kO
              simp [gI_pI]
              omega
          · simp only [gI_pI]
            simp [g47, k1, -Int32.ofNat_add]
            rw [nat_c (by omega), nat_c (by omega)]
            omega
      have c47 : Ch (SB m s0) σ (pI τ m 47 (Int32.ofNat w.length)) := hc.i (by unfold SB; omega)
      have drop : ∀ (τ1 : Hp) (L x : Nat), gI τ1 m 48 = Int32.ofNat (L + 1) → L < 96 → gI τ1 (m + 21) L = Int32.ofNat x → ok_X6_dropHeld m τ1 ∧ f_X6_dropHeld m τ1 = (Int32.ofNat x, pI τ1 m 48 (Int32.ofNat L)) := by
        intro τ1 L x g1 hL g2
        have e1 : gI τ1 m 48 - 1 = Int32.ofNat L := by
          rw [g1, show (1 : Int32) = Int32.ofNat 1 from rfl, nat_d (by omega) (by omega)]; congr 1
        unfold ok_X6_dropHeld f_X6_dropHeld
        rw [e1, nat_c (by omega), gI_pI, if_neg (by omega), g2]
        exact ⟨nat_v hL (by omega), rfl⟩
      refine ⟨fun q2 => ?_, fun q2 => ?_⟩
      · have hk2 : k = 2 := ek2.mp q2
        subst hk2
        match h, hl, k3, k7 with
        | [], hl, _, _ => simp [nbi] at hl
        | a :: h', hl, k3, k7 =>
          obtain ⟨s, hh, hseg, hH⟩ := k7
          have l1 := hseg.lt
          have l2 := hH.le
          simp only [List.length_cons, nbi, nop, nbr] at hl k3 k8 k4 hhl hwl
          simp at hl k8 k4
          obtain ⟨d1, d2⟩ := drop (pI τ m 47 (Int32.ofNat w.length)) h'.length (e - 1) (by simp [gI_pI, k3]) (by omega) (by rw [gI_pI, if_neg (by omega)]; exact hh)
          refine ⟨d1, fun r19 s15 he => ?_⟩
          rw [d2] at he
          cases he
          refine grow _ h'.length s h' (eNot a) _ _ rfl (c47.i (by unfold SB; omega)) (by simp [gI_pI]) (fun i hi => by simp [gI_pI]) (by simp [gI_pI]) (by simp [gI_pI, k6]) (fun i hi => by simp [gI_pI]) (fun i => by unfold kN kP kO; simp [gI_pI]) hH (by omega) (by omega) (by omega) ?_ (by omega) (by omega) (by rw [bnd_not (by exact hrk)])
          intro kn pt ot hc h1 h2 h3
          exact SegE.not h1 h2 (hseg.cg (fun i q1 q2 => hc i q2))
      · have hk2 : k ≠ 2 := fun q => q2 (ek2.mpr q)
        have hk3 : 3 ≤ k := by
          have : k ≠ 0 := fun q => by subst q; exact hrk (by show 0 < r; omega)
          omega
        have hnb : nbi (k :: w) = 1 + nbi w := by simp [nbi, hk3]
        have hno : nop (k :: w) = 1 + nop w := by simp [nop, show k ≠ 0 by omega]
        have hnr : nbr (k :: w) = nbr w := by simp [nbr, show k ≠ 0 by omega]
        match h, hl, k3, k7, hrk with
        | [], hl, _, _, _ => rw [hnb] at hl; simp at hl
        | [a], hl, _, _, _ => rw [hnb] at hl; simp at hl
        | b :: a :: h', hl, k3, k7, hrk =>
          obtain ⟨s, hh, hseg, s2, hh2, hseg2, hH⟩ := k7
          have l1 := hseg.lt
          have l2 := hH.le
          have l3 := hseg2.lt
          rw [hno] at k8
          rw [hnr] at k4
          rw [hnb] at hl
          simp only [List.length_cons] at hl k3 hhl hh
          obtain ⟨d1, d2⟩ := drop (pI τ m 47 (Int32.ofNat w.length)) (h'.length + 1) (e - 1) (by simp [gI_pI, k3]) (by omega) (by rw [gI_pI, if_neg (by omega)]; exact hh)
          refine ⟨d1, fun r14 s10 he => ?_⟩
          rw [d2] at he
          cases he
          obtain ⟨d3, d4⟩ := drop (pI (pI τ m 47 (Int32.ofNat w.length)) m 48 (Int32.ofNat (h'.length + 1))) h'.length (s - 1) (by rw [gI_pI, if_pos ⟨rfl, rfl⟩]) (by omega) (by rw [gI_pI, if_neg (by omega), gI_pI, if_neg (by omega)]; exact hh2)
          refine ⟨d3, fun r19 s15 he => ?_⟩
          rw [d4] at he
          cases he
          refine grow _ h'.length s2 h' (eTwo k a b) _ _ rfl ((c47.i (by unfold SB; omega)).i (by unfold SB; omega)) (by simp [gI_pI]) (fun i hi => by simp [gI_pI]) (by simp [gI_pI]) (by simp [gI_pI, k6]) (fun i hi => by simp [gI_pI]) (fun i => by unfold kN kP kO; simp [gI_pI]) hH (by omega) (by omega) (by omega) ?_ (by omega) (by omega) (by rw [bnd_two hrk hk2])
          intro kn pt ot hc h1 h2 h3
          exact SegE.two ⟨hk3, w2⟩ h1 h2 h3 (hseg2.cg (fun i q1 q2 => hc i (by omega))) (hseg.cg (fun i q1 q2 => hc i q2))
