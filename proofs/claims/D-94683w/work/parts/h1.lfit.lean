set_option maxRecDepth 100000
/-! SETS OF NOTES (LongYears) -/
theorem bv_has0 (x : BitVec 32) {k : Nat} (hk : k < 32) : (x.sshiftRight k &&& 1#32 = 0#32) ↔ x.getLsbD k = false := by
  constructor
  · intro h
    have := congrArg (fun y => y.getLsbD 0) h
    simp only [BitVec.getLsbD_and, BitVec.getLsbD_sshiftRight] at this
    simpa [hk] using this
  · intro h
    apply BitVec.eq_of_getLsbD_eq
    intro i hi
    by_cases h0 : i = 0
    · subst h0
      have e : (x.sshiftRight k).getLsbD 0 = false := by rw [BitVec.getLsbD_sshiftRight, if_pos (show k + 0 < 32 by omega), Nat.add_zero, h]; rfl
      rw [BitVec.getLsbD_and, e]; rfl
    · simp [h0]
theorem has0_iff (w : Int32) {k : Nat} (hk : k < 32) : ((w >>> (Int32.ofNat k &&& 31)) &&& 1) = 0 ↔ nHas w k = false := by
  rw [← Int32.toBitVec_inj, Int32.toBitVec_and, Int32.toBitVec_shiftRight, sh_k k hk]
  unfold nHas
  rw [← bv_has0 w.toBitVec hk]
  have : (BitVec.ofNat 32 k).toNat = k := by simp; omega
  rw [BitVec.sshiftRight', this]
  rfl
def rL (N : List NoteW) (s : Nat → Bool) (k : Nat) : Nat × Int := if s k = true then rtA N s k else (k, 0)
/-- what the arrays of roots hold -/
def HRl (o : Nat) (σ : Hp) (N : List NoteW) (r : Nat → Nat × Int) : Prop := ∀ k, k < N.length → gI σ (o + 36) k = Int32.ofNat (r k).1 ∧ (gI σ (o + 37) k).toInt = (r k).2 ∧ (r k).1 < 12 ∧ -200000 ≤ (r k).2 ∧ (r k).2 ≤ 200000
def SLk (o a k : Nat) : Prop := a = o + 36 ∨ a = o + 37 ∨ (a = o ∧ 24 ≤ k ∧ k ≤ 26)
def SLf (o a k : Nat) : Prop := SLn o a k ∨ SLk o a k
theorem Ch.kf {o : Nat} {σ σ' : Hp} (h : Ch (SLk o) σ σ') : Ch (SLf o) σ σ' := h.up (fun a k q => Or.inr q)
theorem Ch.nf {o : Nat} {σ σ' : Hp} (h : Ch (SLn o) σ σ') : Ch (SLf o) σ σ' := h.up (fun a k q => Or.inl q)
theorem LQ.k {o c : Nat} {R : RlA} {N : List NoteW} {σ σ' : Hp} (h : LQ o c R N σ) (hc : Ch (SLk o) σ σ') : LQ o c R N σ' := by
  refine ⟨h.1.fr (by rw [hc.gs]; exact Nat.le_refl _) (fun a q _ => ⟨hc.gt, fun k => ⟨hc.gr, hc.gi (by unfold SLk; omega), hc.gl (by unfold SLk; omega)⟩⟩), h.2.fr (hc.gi (by unfold SLk; omega)) (fun a k q1 q2 => hc.gi (by unfold SLk; omega)) (fun i w hi hl => ?_)⟩
  have il := get_lt hi
  have n12 := h.2.2.1
  rw [hc.gi (by unfold SLk; omega)] at hl
  exact (h.2.2.2.2 i w hi hl).fr (fun k => hc.gl (by unfold SLk; omega))
theorem LQ.ok {o c : Nat} {R : RlA} {N : List NoteW} {σ : Hp} (h : LQ o c R N σ) : NOk R N := ⟨h.2.2.1, fun i w hi => (h.2.2.2.1 i w hi).1⟩
theorem HRl.n {o : Nat} {N : List NoteW} {r : Nat → Nat × Int} {σ σ' : Hp} (h : HRl o σ N r) (hc : Ch (SLn o) σ σ') : HRl o σ' N r := fun k hk => by
  rw [hc.gi (by unfold SLn; omega), hc.gi (by unfold SLn; omega)]
  exact h k hk
def holdsP (R : RlA) (N : List NoteW) (s : Nat → Bool) (r : Nat → Nat × Int) (q : Nat) (y : Int) : Prop := ∀ k w, N[k]? = some w → s k = true → (r k).1 = q → canP R w (y + (r k).2)
theorem holdsP_cg {R : RlA} {N : List NoteW} {s : Nat → Bool} {r r' : Nat → Nat × Int} {q : Nat} {y : Int} (h : ∀ k, s k = true → r k = r' k) : holdsP R N s r q y ↔ holdsP R N s r' q y := by
  constructor
  · intro a k w hw hs hr
    rw [← h k hs] at hr ⊢
    exact a k w hw hs hr
  · intro a k w hw hs hr
    rw [h k hs] at hr ⊢
    exact a k w hw hs hr
section
variable {o c : Nat} {σ : Hp} {R : RlA} {N : List NoteW} {x1 : Int32}
theorem l_link {Q : Hp → Prop} (hL : LQ o c R N σ) (hQ : ∀ σ', Ch (SLk o) σ σ' → LQ o c R N σ' → HRl o σ' N (rL N (nHas x1)) → Q σ') : wp_X1_link o c σ x1 Q := by
  have n12 := hL.2.2.1
  have hO := hL.ok
  refine lp_of (fun z => ∃ k, k ≤ N.length ∧ z.1 = Int32.ofNat k ∧ Ch (SLk o) σ z.2 ∧ ∀ j, j < k → gI z.2 (o + 36) j = Int32.ofNat (rL N (nHas x1) j).1 ∧ (gI z.2 (o + 37) j).toInt = (rL N (nHas x1) j).2) (fun z => N.length - z.1.toNatClampNeg) ?_ ⟨0, by omega, rfl, Ch.rf, fun j q => absurd q (by omega)⟩
  rintro K ⟨x2, s⟩ ⟨k, hk2, rfl, g1, g2⟩ hK
  simp only at g1 g2
  have hs := hL.k g1
  show (_ → _) ∧ (_ → _)
  rw [hs.2.1, nat_le (by omega) (by omega), nat_c (by omega), nat_s (by omega)]
  refine ⟨fun q => hQ s g1 hs (fun j hj => ?_), fun q => ?_⟩
  · have := g2 j (by omega)
    have b := rt_b hO (nHas x1) (j + 1) j (by omega) hj
    refine ⟨this.1, this.2, ?_⟩
    unfold rL
    split
    · omega
    · simp only; omega
  have hlt : k < N.length := by omega
  have hw := List.getElem?_eq_getElem hlt
  generalize hwe : N[k] = w at hw
  have vk : vp_in (Int32.ofNat k) 12 := nat_v (by omega) (by omega)
  have nx : N.length - (Int32.ofNat (k + 1)).toNatClampNeg < N.length - (Int32.ofNat k).toNatClampNeg := by rw [nat_c (by omega), nat_c (by omega)]; omega
  have c1 : Ch (SLk o) σ (pI (pI s (o + 36) k (Int32.ofNat k)) (o + 37) k 0) := (g1.i (Or.inl rfl)).i (Or.inr (Or.inl rfl))
  have hs1 := hL.k c1
  have old1 : ∀ j, j < k → gI (pI (pI s (o + 36) k (Int32.ofNat k)) (o + 37) k 0) (o + 36) j = Int32.ofNat (rL N (nHas x1) j).1 ∧ (gI (pI (pI s (o + 36) k (Int32.ofNat k)) (o + 37) k 0) (o + 37) j).toInt = (rL N (nHas x1) j).2 := fun j hj => by
    rw [pIo (by omega), pIo (by omega), pIo (by omega), pIo (by omega)]; exact g2 j hj
  have new1 : gI (pI (pI s (o + 36) k (Int32.ofNat k)) (o + 37) k 0) (o + 36) k = Int32.ofNat k ∧ (gI (pI (pI s (o + 36) k (Int32.ofNat k)) (o + 37) k 0) (o + 37) k).toInt = 0 := ⟨by rw [pIo (by omega), gI_pI, if_pos ⟨rfl, rfl⟩], by rw [gI_pI, if_pos ⟨rfl, rfl⟩]; rfl⟩
  generalize pI (pI s (o + 36) k (Int32.ofNat k)) (o + 37) k 0 = s1 at c1 hs1 old1 new1 ⊢
  -- nothing told of another one in the set
  have fin : rL N (nHas x1) k = (k, 0) → K (Int32.ofNat (k + 1), s1) := fun hr => hK _ ⟨k + 1, by omega, rfl, c1, fun j hj => by
    show gI s1 (o + 36) j = _ ∧ (gI s1 (o + 37) j).toInt = _
    by_cases cj : j = k
    · subst cj
      rw [hr]; exact new1
    · exact old1 j (by omega)⟩ nx
  obtain ⟨hW, hP⟩ := hs1.2.2.2.1 k w hw
  have h7 : f_X5_has (o + 38 + 6 * k) s1 7 = 0 ↔ nHas w.1 7 = false := hs0 (k := 7) hP (by omega)
  have hb := has0_iff x1 (k := k) (by omega)
  refine ⟨vk, vk, fun z => fin ?_, fun z => ⟨vk, fun z2 => fin ?_, fun z2 => ⟨vk, ?_⟩⟩⟩
  · unfold rL; rw [hb.mp z]; rfl
  · have rn : rtA N (nHas x1) k = (k, 0) := by rw [rt_eq hO _ hw, if_neg (fun u => by rw [h7.mp z2] at u; cases u.1)]
    unfold rL; rw [rn]; split <;> rfl
  have sk : nHas x1 k = true := bt (fun u => z (hb.mpr u))
  have s7 : nHas w.1 7 = true := bt (fun u => z2 (h7.mpr u))
  obtain ⟨e1, e2⟩ := hP.2 7 (by omega) s7
  have e2 := e2 (Or.inr rfl)
  have al := aft_lt hW s7
  have ale : w.2.1 7 = Int32.ofNat (aft w) := al.elim (fun a => a.2) (fun a => absurd a (by omega))
  have all : aft w < k := by omega
  have hb2 := has0_iff x1 (k := aft w) (by omega)
  rw [e1, ale]
  refine ⟨fun z3 => fin ?_, fun z3 => ?_⟩
  · have rn : rtA N (nHas x1) k = (k, 0) := by rw [rt_eq hO _ hw, if_neg (fun u => by rw [hb2.mp z3] at u; cases u.2)]
    unfold rL; rw [rn]; split <;> rfl
  have sa : nHas x1 (aft w) = true := bt (fun u => z3 (hb2.mpr u))
  have va : vp_in (Int32.ofNat (aft w)) 12 := nat_v (by omega) (by omega)
  have f1 : ∀ v, gI (pI s1 (o + 36) k v) (o + 38 + 6 * k + 1) 7 = w.2.1 7 := fun v => by rw [pIo (by omega)]; exact e1
  have f2 : ∀ v, gI (pI s1 (o + 36) k v) (o + 38 + 6 * k + 2) 7 = w.2.2 7 := fun v => by rw [pIo (by omega)]; exact e2
  rw [f1, f2, ale, nat_c (by omega)]
  have ob := old1 (aft w) all
  have rk : rL N (nHas x1) k = ((rL N (nHas x1) (aft w)).1, (rL N (nHas x1) (aft w)).2 + (w.2.2 7).toInt) := by
    unfold rL
    rw [if_pos sk, if_pos sa, rt_eq hO _ hw, if_pos ⟨s7, sa⟩]
  have rb := rt_b hO (nHas x1) (aft w + 1) (aft w) (by omega) (by omega)
  have ra : rL N (nHas x1) (aft w) = rtA N (nHas x1) (aft w) := by unfold rL; rw [if_pos sa]
  have bb := (hW.2.2 s7).2
  refine ⟨vk, va, vk, vk, va, vk, vk, hK _ ⟨k + 1, by omega, rfl, (c1.i (Or.inl rfl)).i (Or.inr (Or.inl rfl)), fun j hj => ?_⟩ nx⟩
  show gI (pI (pI s1 (o + 36) k _) (o + 37) k _) (o + 36) j = _ ∧ (gI (pI (pI s1 (o + 36) k _) (o + 37) k _) (o + 37) j).toInt = _
  by_cases cj : j = k
  · subst cj
    rw [rk]
    refine ⟨by rw [pIo (by omega), gI_pI, if_pos ⟨rfl, rfl⟩]; exact ob.1, ?_⟩
    rw [gI_pI, if_pos ⟨rfl, rfl⟩, pIo (by omega)]
    exact i3_add ob.2 rfl (by rw [ra]; omega) (by rw [ra]; omega)
  · rw [pIo (by omega), pIo (by omega), pIo (by omega), pIo (by omega)]
    exact old1 j (by omega)
variable {r : Nat → Nat × Int} {q : Nat}
theorem l_hold {e : Nat} {Q : Int32 → Hp → Prop} (hk : ROk R) (hL : LQ o c R N σ) (hR : HRl o σ N r) (hq : q < 12) (he : e < 20000) (hQ : DL (SLn o) o c R N σ (holdsP R N (nHas x1) r q (e : Int)) Q) : wp_X1_holds o c σ x1 (Int32.ofNat q) (Int32.ofNat e) Q := by
  have n12 := hL.2.2.1
  refine lp_of (fun z => ∃ k, k ≤ N.length ∧ z.1 = Int32.ofNat k ∧ Ch (SLn o) σ z.2 ∧ LQ o c R N z.2 ∧ ∀ j w, j < k → N[j]? = some w → nHas x1 j = true → (r j).1 = q → canP R w ((e : Int) + (r j).2)) (fun z => N.length - z.1.toNatClampNeg) ?_ ⟨0, by omega, rfl, Ch.rf, hL, fun j w q => absurd q (by omega)⟩
  rintro K ⟨x2, s⟩ ⟨k, hk2, rfl, g1, hs, g2⟩ hK
  simp only at g1 hs g2
  have hRs := hR.n g1
  show (_ → _) ∧ (_ → _)
  rw [hs.2.1, nat_le (by omega) (by omega), nat_c (by omega), nat_s (by omega)]
  refine ⟨fun z => hQ.1 (fun j w hj => g2 j w (by have := get_lt hj; omega) hj) s g1 hs, fun z => ?_⟩
  have hlt : k < N.length := by omega
  have hw := List.getElem?_eq_getElem hlt
  generalize hwe : N[k] = w at hw
  have vk : vp_in (Int32.ofNat k) 12 := nat_v (by omega) (by omega)
  have nx : N.length - (Int32.ofNat (k + 1)).toNatClampNeg < N.length - (Int32.ofNat k).toNatClampNeg := by rw [nat_c (by omega), nat_c (by omega)]; omega
  obtain ⟨r1, r2, r3, r4, r5⟩ := hRs k hlt
  have nxt : ∀ s', Ch (SLn o) σ s' → LQ o c R N s' → (nHas x1 k = true → (r k).1 = q → canP R w ((e : Int) + (r k).2)) → K (Int32.ofNat (k + 1), s') := fun s' h1 h2 h3 => hK _ ⟨k + 1, by omega, rfl, h1, h2, fun j w' hj hw' => by
    by_cases cj : j = k
    · subst cj
      rw [hw] at hw'
      cases hw'
      exact h3
    · exact g2 j w' (by omega) hw'⟩ nx
  rw [has_iff x1 (k := k) (by omega), r1, nat_e (by omega) (by omega)]
  refine ⟨fun u => ⟨vk, fun v => ⟨vk, ?_⟩, fun v => nxt s g1 hs (fun _ z => absurd z v)⟩, fun u => nxt s g1 hs (fun z => absurd z u)⟩
  have ey : ((Int32.ofNat e).toInt64 + (gI s (o + 37) k).toInt64).toInt = (e : Int) + (r k).2 := l3_add (dN_i (by omega)) (i3_l r2) (by omega) (by omega)
  refine l_can hk hs hw ⟨fun y s' h1 h2 => cF (fun a => (by cases a)) (nxt s' (g1.tr h1) h2 (fun _ _ => by rw [ey] at y; exact y)), fun y s' h1 h2 => cT rfl (hQ.2 (fun f => y ?_) s' (g1.tr h1) h2)⟩
  rw [ey]
  exact f k w hw u v
def F3 (a : Nat) (k : Nat) (σ : Hp) (t : Nat × Int × Int) : Prop := gI σ a k = Int32.ofNat t.1 ∧ (gI σ a (k + 1)).toInt = t.2.1 ∧ (gI σ a (k + 2)).toInt = t.2.2
theorem l_fit {Q : Int32 → Hp → Prop} (hk : ROk R) (hL : LQ o c R N σ) (hR : HRl o σ N r) (hq : q < 12) (hQ : ∀ v σ', Ch (SLf o) σ σ' → LQ o c R N σ' → HRl o σ' N r → F3 o 24 σ' (ftA (fun e => holdsP R N (nHas x1) r q (e : Int)) 20000) → Q v σ') : wp_X1_fit o c σ x1 (Int32.ofNat q) Q := by
  generalize hP : (fun e : Nat => holdsP R N (nHas x1) r q (e : Int)) = P at hQ
  have c0 : Ch (SLk o) σ (pI (pI (pI σ o 24 0) o 25 (-1)) o 26 (-1)) := ((Ch.rf.i (Or.inr (Or.inr ⟨rfl, by omega, by omega⟩))).i (Or.inr (Or.inr ⟨rfl, by omega, by omega⟩))).i (Or.inr (Or.inr ⟨rfl, by omega, by omega⟩))
  have hr0 : ∀ s, Ch (SLf o) σ s → (∀ k, gI s (o + 36) k = gI σ (o + 36) k ∧ gI s (o + 37) k = gI σ (o + 37) k) → HRl o s N r := fun s _ h k hk => by
    rw [(h k).1, (h k).2]; exact hR k hk
  refine lp_of (fun z => ∃ k, k ≤ 20000 ∧ z.1 = Int32.ofNat k ∧ Ch (SLf o) σ z.2 ∧ LQ o c R N z.2 ∧ HRl o z.2 N r ∧ F3 o 24 z.2 (ftA P k)) (fun z => 20000 - z.1.toNatClampNeg) ?_ ⟨0, by omega, rfl, c0.kf, hL.k c0, hr0 _ (c0.kf) (fun k => ⟨by rw [pIo (by omega), pIo (by omega), pIo (by omega)], by rw [pIo (by omega), pIo (by omega), pIo (by omega)]⟩), ?_⟩
  rotate_left
  · refine ⟨?_, ?_, ?_⟩ <;> simp [gI_pI, ftA]
  rintro K ⟨x2, s⟩ ⟨k, hk2, rfl, g1, hs, hRs, g2⟩ hK
  simp only at g1 hs hRs g2
  show (_ → _) ∧ (_ → _)
  rw [show (20000 ≤ Int32.ofNat k) ↔ 20000 ≤ k from nat_le (p := 20000) (by omega) (by omega), nat_s (p := k) (by omega)]
  refine ⟨fun z => ?_, fun z => ?_⟩
  · have e : k = 20000 := by omega
    subst e
    exact hQ _ s g1 hs hRs g2
  have nx : 20000 - (Int32.ofNat (k + 1)).toNatClampNeg < 20000 - (Int32.ofNat k).toNatClampNeg := by rw [nat_c (by omega), nat_c (by omega)]; omega
  have bb := ft_b P k
  have keep : ∀ s', Ch (SLn o) s s' → F3 o 24 s' (ftA P k) := fun s' h => by
    unfold F3
    rw [h.gi (by unfold SLn; omega), h.gi (by unfold SLn; omega), h.gi (by unfold SLn; omega)]
    exact g2
  refine l_hold hk hs hRs hq (by omega) ⟨fun y s' h1 h2 => cF (fun a => (by cases a)) ?_, fun y s' h1 h2 => cT rfl (hK _ ⟨k + 1, by omega, rfl, g1.tr (h1.nf), h2, hRs.n h1, ?_⟩ nx)⟩
  · have hPk : P k := by rw [← hP]; exact y
    have f3 := keep s' h1
    have g1' : Ch (SLf o) σ s' := g1.tr (h1.nf)
    rw [f3.1, show (Int32.ofNat (ftA P k).1 = 0) ↔ (ftA P k).1 = 0 from nat_e (q := 0) (by omega) (by omega)]
    have i24 : ∀ j, 24 ≤ j → j ≤ 26 → SLf o o j := fun j a b => Or.inr (Or.inr (Or.inr ⟨rfl, a, b⟩))
    have k24 : ∀ j, 24 ≤ j → j ≤ 26 → SLk o o j := fun j a b => Or.inr (Or.inr ⟨rfl, a, b⟩)
    refine ⟨fun z0 => ?_, fun z0 => ?_⟩
    · unfold wj_X1_fit_49
      rw [nat_s (by omega)]
      have cc : Ch (SLk o) s' (pI (pI (pI s' o 25 (Int32.ofNat k)) o 26 (Int32.ofNat k)) o 24 (gI (pI s' o 25 (Int32.ofNat k)) o 24 + 1)) := ((Ch.rf.i (k24 25 (by omega) (by omega))).i (k24 26 (by omega) (by omega))).i (k24 24 (by omega) (by omega))
      refine hK _ ⟨k + 1, by omega, rfl, g1'.tr (cc.kf), h2.k cc, fun j hj => ?_, ?_⟩ nx
      · show gI (pI (pI (pI s' o 25 (Int32.ofNat k)) o 26 (Int32.ofNat k)) o 24 _) (o + 36) j = _ ∧ (gI (pI (pI (pI s' o 25 (Int32.ofNat k)) o 26 (Int32.ofNat k)) o 24 _) (o + 37) j).toInt = _ ∧ _
        rw [pIo (by omega), pIo (by omega), pIo (by omega), pIo (by omega), pIo (by omega), pIo (by omega)]
        exact hRs.n h1 j hj
      · show F3 o 24 (pI (pI (pI s' o 25 (Int32.ofNat k)) o 26 (Int32.ofNat k)) o 24 (gI (pI s' o 25 (Int32.ofNat k)) o 24 + 1)) (ftA P (k + 1))
        rw [ft_y hPk, z0]
        refine ⟨?_, ?_, ?_⟩
        · rw [gI_pI, if_pos ⟨rfl, rfl⟩, pIo (by omega), f3.1, z0]; rfl
        · rw [pIo (by omega), pIo (by omega), gI_pI, if_pos ⟨rfl, rfl⟩]; exact nat_i (by omega)
        · rw [pIo (by omega), gI_pI, if_pos ⟨rfl, rfl⟩]; exact nat_i (by omega)
    · unfold wj_X1_fit_49
      rw [nat_s (by omega)]
      have cc : Ch (SLk o) s' (pI (pI s' o 26 (Int32.ofNat k)) o 24 (gI s' o 24 + 1)) := (Ch.rf.i (k24 26 (by omega) (by omega))).i (k24 24 (by omega) (by omega))
      refine hK _ ⟨k + 1, by omega, rfl, g1'.tr (cc.kf), h2.k cc, fun j hj => ?_, ?_⟩ nx
      · show gI (pI (pI s' o 26 (Int32.ofNat k)) o 24 _) (o + 36) j = _ ∧ (gI (pI (pI s' o 26 (Int32.ofNat k)) o 24 _) (o + 37) j).toInt = _ ∧ _
        rw [pIo (by omega), pIo (by omega), pIo (by omega), pIo (by omega)]
        exact hRs.n h1 j hj
      · show F3 o 24 (pI (pI s' o 26 (Int32.ofNat k)) o 24 (gI s' o 24 + 1)) (ftA P (k + 1))
        rw [ft_y hPk, if_neg z0]
        refine ⟨?_, ?_, ?_⟩
        · rw [gI_pI, if_pos ⟨rfl, rfl⟩, f3.1, nat_s (by omega)]
        · rw [pIo (by omega), pIo (by omega)]; exact f3.2.1
        · rw [pIo (by omega), gI_pI, if_pos ⟨rfl, rfl⟩]; exact nat_i (by omega)
  · rw [ft_n (show ¬ P k by rw [← hP]; exact y)]
    exact keep s' h1
theorem l_isFit {Q : Int32 → Hp → Prop} (hk : ROk R) (hL : LQ o c R N σ) (hR : HRl o σ N r) (hq : q < 12) (hQ : DL (SLn o) o c R N σ (∃ e : Nat, e < 20000 ∧ holdsP R N (nHas x1) r q (e : Int)) Q) : wp_X1_isFit o c σ x1 (Int32.ofNat q) Q := by
  refine lp_of (fun z => ∃ k, k ≤ 20000 ∧ z.1 = Int32.ofNat k ∧ Ch (SLn o) σ z.2 ∧ LQ o c R N z.2 ∧ ∀ e : Nat, e < k → ¬ holdsP R N (nHas x1) r q (e : Int)) (fun z => 20000 - z.1.toNatClampNeg) ?_ ⟨0, by omega, rfl, Ch.rf, hL, fun j q => absurd q (by omega)⟩
  rintro K ⟨x2, s⟩ ⟨k, hk2, rfl, g1, hs, g2⟩ hK
  simp only at g1 hs g2
  show (_ → _) ∧ (_ → _)
  rw [show (20000 ≤ Int32.ofNat k) ↔ 20000 ≤ k from nat_le (p := 20000) (by omega) (by omega), nat_s (p := k) (by omega)]
  refine ⟨fun z => hQ.2 (fun ⟨e, h1, h2⟩ => g2 e (by omega) h2) s g1 hs, fun z => ?_⟩
  have nx : 20000 - (Int32.ofNat (k + 1)).toNatClampNeg < 20000 - (Int32.ofNat k).toNatClampNeg := by rw [nat_c (by omega), nat_c (by omega)]; omega
  refine l_hold hk hs (hR.n g1) hq (by omega) ⟨fun y s' h1 h2 => cF (fun a => (by cases a)) (hQ.1 ⟨k, by omega, y⟩ s' (g1.tr h1) h2), fun y s' h1 h2 => cT rfl (hK _ ⟨k + 1, by omega, rfl, g1.tr h1, h2, fun e he => ?_⟩ nx)⟩
  by_cases ce : e = k
  · rw [ce]; exact y
  · exact g2 e (by omega)
/-- all first ones of a set can be -/
def hAll (R : RlA) (N : List NoteW) (s : Nat → Bool) : Prop := ∀ k, k < N.length → s k = true → (rtA N s k).1 = k → ∃ e : Nat, e < 20000 ∧ holdsP R N s (rtA N s) k (e : Int)
theorem rL_m {N : List NoteW} {s : Nat → Bool} {k : Nat} (h : s k = true) : rL N s k = rtA N s k := by unfold rL; rw [if_pos h]
theorem l_holdsAll {Q : Int32 → Hp → Prop} (hk : ROk R) (hL : LQ o c R N σ) (h1 : hAll R N (nHas x1) → ∀ σ', Ch (SLf o) σ σ' → LQ o c R N σ' → HRl o σ' N (rL N (nHas x1)) → Q 1 σ') (h0 : ¬ hAll R N (nHas x1) → ∀ σ', Ch (SLf o) σ σ' → LQ o c R N σ' → Q 0 σ') : wp_X1_holdsAll o c σ x1 Q := by
  have n12 := hL.2.2.1
  refine l_link hL (fun s0 k0 hs0 hr0 => ?_)
  have f0 : Ch (SLf o) σ s0 := k0.kf
  refine lp_of (fun z => ∃ k, k ≤ N.length ∧ z.1 = Int32.ofNat k ∧ Ch (SLn o) s0 z.2 ∧ LQ o c R N z.2 ∧ ∀ j, j < k → nHas x1 j = true → (rtA N (nHas x1) j).1 = j → ∃ e : Nat, e < 20000 ∧ holdsP R N (nHas x1) (rtA N (nHas x1)) j (e : Int)) (fun z => N.length - z.1.toNatClampNeg) ?_ ⟨0, by omega, rfl, Ch.rf, hs0, fun j q => absurd q (by omega)⟩
  rintro K ⟨x2, s⟩ ⟨k, hk2, rfl, g1, hs, g2⟩ hK
  simp only at g1 hs g2
  show (_ → _) ∧ (_ → _)
  rw [hs.2.1, nat_le (by omega) (by omega), nat_c (by omega), nat_s (by omega)]
  have fs : Ch (SLf o) σ s := f0.tr (g1.nf)
  refine ⟨fun z => h1 (fun j hj => g2 j (by omega)) s fs hs (hr0.n g1), fun z => ?_⟩
  have nx : N.length - (Int32.ofNat (k + 1)).toNatClampNeg < N.length - (Int32.ofNat k).toNatClampNeg := by rw [nat_c (by omega), nat_c (by omega)]; omega
  have hlt : k < N.length := by omega
  obtain ⟨r1, r2, r3, r4, r5⟩ := hr0.n g1 k hlt
  have nxt : ∀ s', Ch (SLn o) s0 s' → LQ o c R N s' → (nHas x1 k = true → (rtA N (nHas x1) k).1 = k → ∃ e : Nat, e < 20000 ∧ holdsP R N (nHas x1) (rtA N (nHas x1)) k (e : Int)) → K (Int32.ofNat (k + 1), s') := fun s' a b d => hK _ ⟨k + 1, by omega, rfl, a, b, fun j hj => by
    by_cases cj : j = k
    · rw [cj]; exact d
    · exact g2 j (by omega)⟩ nx
  rw [has_iff x1 (k := k) (by omega), r1, nat_e (by omega) (by omega)]
  refine ⟨fun u => ⟨nat_v (by omega) (by omega), fun v => ?_, fun v => nxt s g1 hs (fun _ z => absurd (by rw [rL_m u]; exact z) v)⟩, fun u => nxt s g1 hs (fun z => absurd z u)⟩
  have eq : (∃ e : Nat, e < 20000 ∧ holdsP R N (nHas x1) (rL N (nHas x1)) k (e : Int)) ↔ (∃ e : Nat, e < 20000 ∧ holdsP R N (nHas x1) (rtA N (nHas x1)) k (e : Int)) :=
    ⟨fun ⟨e, a, b⟩ => ⟨e, a, (holdsP_cg (fun k hk => rL_m hk)).mp b⟩, fun ⟨e, a, b⟩ => ⟨e, a, (holdsP_cg (fun k hk => rL_m hk)).mpr b⟩⟩
  refine l_isFit hk hs (hr0.n g1) (by omega) ⟨fun y s' a b => cF (fun a => (by cases a)) (nxt s' (g1.tr a) b (fun _ _ => eq.mp y)), fun y s' a b => cT rfl (h0 (fun f => y (eq.mpr (f k hlt u ?_))) s' (fs.tr (a.nf)) b)⟩
  rw [← rL_m u]; exact v
/-- how many first ones a set has -/
noncomputable def roots (N : List NoteW) (s : Nat → Bool) (k : Nat) : Nat × Int × Int := ftA (fun j => s j = true ∧ (rtA N s j).1 = j) k
theorem l_isOne {Q : Int32 → Hp → Prop} (hL : LQ o c R N σ) (h1 : (roots N (nHas x1) N.length).1 = 1 → ∀ σ', Ch (SLf o) σ σ' → LQ o c R N σ' → Q 1 σ') (h0 : ¬ (roots N (nHas x1) N.length).1 = 1 → ∀ σ', Ch (SLf o) σ σ' → LQ o c R N σ' → Q 0 σ') : wp_X1_isOne o c σ x1 Q := by
  have n12 := hL.2.2.1
  refine l_link hL (fun s0 k0 hs0 hr0 => ?_)
  have f0 : Ch (SLf o) σ s0 := k0.kf
  refine lp_of (fun z => ∃ k, k ≤ N.length ∧ z = (Int32.ofNat (roots N (nHas x1) k).1, Int32.ofNat k, s0)) (fun z => N.length - z.2.1.toNatClampNeg) ?_ ⟨0, by omega, rfl⟩
  rintro K z ⟨k, hk2, rfl⟩ hK
  show (_ → _) ∧ (_ → _)
  have rb := (ft_b (fun j => nHas x1 j = true ∧ (rtA N (nHas x1) j).1 = j) k).1
  rw [hs0.2.1, nat_le (by omega) (by omega), nat_c (by omega), nat_s (p := k) (by omega), show (Int32.ofNat (roots N (nHas x1) k).1 = 1) ↔ (roots N (nHas x1) k).1 = 1 from nat_e (q := 1) (by unfold roots; omega) (by omega)]
  refine ⟨fun z => ?_, fun z => ?_⟩
  · have e : k = N.length := by omega
    subst e
    exact ⟨fun u => h1 u s0 f0 hs0, fun u => h0 u s0 f0 hs0⟩
  have nx : N.length - (Int32.ofNat (k + 1)).toNatClampNeg < N.length - (Int32.ofNat k).toNatClampNeg := by rw [nat_c (by omega), nat_c (by omega)]; omega
  have hlt : k < N.length := by omega
  obtain ⟨r1, r2, r3, r4, r5⟩ := hr0 k hlt
  have no : ¬ (nHas x1 k = true ∧ (rtA N (nHas x1) k).1 = k) → K (Int32.ofNat (roots N (nHas x1) k).1 + 0, Int32.ofNat (k + 1), s0) := fun u => by
    refine hK _ ⟨k + 1, by omega, ?_⟩ nx
    unfold roots
    rw [ft_n u]
    simp
  rw [has_iff x1 (k := k) (by omega), r1, nat_e (by omega) (by omega)]
  refine ⟨fun u => ⟨nat_v (by omega) (by omega), fun v => ?_, fun v => no (fun z => v (by rw [rL_m u]; exact z.2))⟩, fun u => no (fun z => u z.1)⟩
  refine hK _ ⟨k + 1, by omega, ?_⟩ nx
  have hy : nHas x1 k = true ∧ (rtA N (nHas x1) k).1 = k := ⟨u, by rw [← rL_m u]; exact v⟩
  unfold roots
  rw [ft_y hy, nat_s (by omega)]
end
