set_option maxRecDepth 100000
/-! SETS OF NOTES (the reference) -/
def HRm (m : Nat) (τ : Hp) (N : List NoteW) (r : Nat → Nat × Int) : Prop := ∀ k, k < N.length → gI τ (m + 26) k = Int32.ofNat (r k).1 ∧ (gI τ (m + 27) k).toInt = (r k).2 ∧ (r k).1 < 12 ∧ -200000 ≤ (r k).2 ∧ (r k).2 ≤ 200000
def SMk (m a k : Nat) : Prop := a = m + 26 ∨ a = m + 27
def SMg (m a k : Nat) : Prop := a = m ∧ 62 ≤ k ∧ k ≤ 64
theorem SMk.n {m a k : Nat} (h : SMk m a k) : SMn m a k := h.elim (fun h => Or.inr (Or.inr (Or.inr (Or.inl h)))) (fun h => Or.inr (Or.inr (Or.inr (Or.inr h))))
theorem SMg.n {m a k : Nat} (h : SMg m a k) : SMn m a k := Or.inr (Or.inl h)
theorem MQt.ok {m : Nat} {R : RlA} {N : List NoteW} {τ : Hp} (h : MQt m R N τ) : NOk R N := ⟨h.2.2.1, fun i w hi => (h.2.2.2 i w hi).1⟩
def RwM (τ : Hp) (m : Nat) (R : RlA) (N : List NoteW) : Prop := ∀ i w, N[i]? = some w → RowM τ m i R w
theorem RwM.fr {τ τ' : Hp} {m : Nat} {R : RlA} {N : List NoteW} (h : RwM τ m R N) (hf : ∀ k, gI τ' (m + 25) k = gI τ (m + 25) k) : RwM τ' m R N := fun i w hi e he => by
  rw [hf]; exact h i w hi e he
section
variable {m : Nat} {τ : Hp} {R : RlA} {N : List NoteW} {x1 : Int32}
theorem m_layRoots {Q : Hp → Prop} (hM : MQt m R N τ) (hQ : ∀ τ', Ch (SMk m) τ τ' → MQt m R N τ' → HRm m τ' N (rtA N (nHas x1)) → Q τ') : wp_X6_layRoots m τ x1 Q := by
  have n12 := hM.2.2.1
  have hO := hM.ok
  refine lp_of (fun z => ∃ k, k ≤ N.length ∧ z.1 = Int32.ofNat k ∧ Ch (SMk m) τ z.2 ∧ ∀ j, j < k → gI z.2 (m + 26) j = Int32.ofNat (rtA N (nHas x1) j).1 ∧ (gI z.2 (m + 27) j).toInt = (rtA N (nHas x1) j).2) (fun z => N.length - z.1.toNatClampNeg) ?_ ⟨0, by omega, rfl, Ch.rf, fun j q => absurd q (by omega)⟩
  rintro K ⟨x2, s⟩ ⟨k, hk2, rfl, g1, g2⟩ hK
  simp only at g1 g2
  have hs := hM.n (g1.up (fun a k q => q.n))
  show (_ → _) ∧ (_ → _)
  rw [hs.2.1, nat_le (by omega) (by omega)]
  refine ⟨fun q => hQ s g1 hs (fun j hj => ?_), fun q => ?_⟩
  · have := g2 j (by omega)
    have b := rt_b hO (nHas x1) (j + 1) j (by omega) hj
    exact ⟨this.1, this.2, by omega⟩
  have hlt : k < N.length := by omega
  have hw := List.getElem?_eq_getElem hlt
  generalize hwe : N[k] = w at hw
  have k12 : k < 12 := by omega
  have vk : vp_in (Int32.ofNat k) 12 := nat_v (by omega) (by omega)
  have nx : N.length - (Int32.ofNat (k + 1)).toNatClampNeg < N.length - (Int32.ofNat k).toNatClampNeg := by rw [nat_c (by omega), nat_c (by omega)]; omega
  obtain ⟨hW, hP⟩ := hs.2.2.2 k w hw
  have i9 : (11 : Int32) * Int32.ofNat k + 9 = Int32.ofNat (11 * k + 9) := mn_i (k := 9) k12 (by omega)
  have i10 : (11 : Int32) * Int32.ofNat k + 10 = Int32.ofNat (11 * k + 10) := mn_i (k := 10) k12 (by omega)
  have e0 : gI s (m + 16) ((11 : Int32) * Int32.ofNat k).toNatClampNeg = w.1 := by rw [mn_0 k12, nat_c (by omega)]; exact hP.1
  have v0 : vp_in ((11 : Int32) * Int32.ofNat k) 264 := by rw [mn_0 k12]; exact nat_v (by omega) (by omega)
  rw [e0, i9]
  refine ⟨nat_v (by omega) (by omega), fun v3 hv3 => ⟨v0, ?_⟩⟩
  rw [nat_c (by omega)] at hv3
  have h7 : f_X6_isOf w.1 7 = 0 ↔ nHas w.1 7 = false := isOf_iff (k := 7) (by omega)
  have fin : rtA N (nHas x1) k = (k, 0) → wj_X6_layRoots_52 m s x1 (Int32.ofNat k) v3 Q K := fun hr => by
    refine cT rfl ⟨vk, cT rfl ⟨vk, ?_⟩⟩
    rw [nat_c (by omega), nat_s (by omega)]
    refine hK _ ⟨k + 1, by omega, rfl, (g1.i (Or.inl rfl)).i (Or.inr rfl), fun j hj => ?_⟩ nx
    show gI (pI (pI s (m + 26) k _) (m + 27) k 0) (m + 26) j = _ ∧ (gI (pI (pI s (m + 26) k _) (m + 27) k 0) (m + 27) j).toInt = _
    by_cases cj : j = k
    · subst cj
      rw [hr]
      exact ⟨by rw [pIo (by omega), gI_pI, if_pos ⟨rfl, rfl⟩], by rw [gI_pI, if_pos ⟨rfl, rfl⟩]; rfl⟩
    · rw [pIo (by omega), pIo (by omega), pIo (by omega), pIo (by omega)]; exact g2 j (by omega)
  refine ⟨fun z => fin ?_, fun z => ?_⟩
  · rw [rt_eq hO _ hw, if_neg (fun u => by rw [h7.mp z] at u; cases u.1)]
  have s7 : nHas w.1 7 = true := bt (fun u => z (h7.mpr u))
  obtain ⟨e1, -, e2⟩ := hP.2 7 (by omega) s7
  have e2 := e2 rfl
  rw [if_neg (by omega)] at e1
  have al := aft_lt hW s7
  have ale : w.2.1 7 = Int32.ofNat (aft w) := al.elim (fun a => a.2) (fun a => absurd a (by omega))
  have all : aft w < k := by omega
  have ev : v3 = Int32.ofNat (aft w) := hv3.trans (e1.trans ale)
  subst ev
  have hb2 : f_X6_isOf x1 (Int32.ofNat (aft w)) = 0 ↔ nHas x1 (aft w) = false := isOf_iff (k := aft w) (by omega)
  refine ⟨fun z3 => fin ?_, fun z3 => ?_⟩
  · rw [rt_eq hO _ hw, if_neg (fun u => by rw [hb2.mp z3] at u; cases u.2)]
  have sa : nHas x1 (aft w) = true := bt (fun u => z3 (hb2.mpr u))
  have va : vp_in (Int32.ofNat (aft w)) 12 := nat_v (by omega) (by omega)
  have ob := g2 (aft w) all
  have rk : rtA N (nHas x1) k = ((rtA N (nHas x1) (aft w)).1, (rtA N (nHas x1) (aft w)).2 + (w.2.2 7).toInt) := by
    rw [rt_eq hO _ hw, if_pos ⟨s7, sa⟩]
  have rb := rt_b hO (nHas x1) (aft w + 1) (aft w) (by omega) (by omega)
  have bb := (hW.2.2 s7).2
  refine cF (fun a => (by cases a)) ⟨va, vk, cF (fun a => (by cases a)) ⟨va, ?_, vk, ?_⟩⟩
  · rw [i10]; exact nat_v (by omega) (by omega)
  rw [i10, nat_c (p := k) (by omega), nat_c (p := aft w) (by omega), nat_c (p := 11 * k + 10) (by omega), nat_s (by omega)]
  refine hK _ ⟨k + 1, by omega, rfl, (g1.i (Or.inl rfl)).i (Or.inr rfl), fun j hj => ?_⟩ nx
  show gI (pI (pI s (m + 26) k _) (m + 27) k _) (m + 26) j = _ ∧ (gI (pI (pI s (m + 26) k _) (m + 27) k _) (m + 27) j).toInt = _
  by_cases cj : j = k
  · subst cj
    rw [rk]
    refine ⟨by rw [pIo (by omega), gI_pI, if_pos ⟨rfl, rfl⟩]; exact ob.1, ?_⟩
    rw [gI_pI, if_pos ⟨rfl, rfl⟩, pIo (by omega), pIo (by omega), e2]
    exact i3_add ob.2 rfl (by omega) (by omega)
  · rw [pIo (by omega), pIo (by omega), pIo (by omega), pIo (by omega)]
    exact g2 j (by omega)
variable {r : Nat → Nat × Int} {q : Nat}
theorem m_allCan {e : Nat} {Q : Int32 → Prop} (hM : MQt m R N τ) (hC : RwM τ m R N) (hR : HRm m τ N r) (hq : q < 12) (he : e < 20000) (h1 : holdsP R N (nHas x1) r q (e : Int) → Q 1) (h0 : ¬ holdsP R N (nHas x1) r q (e : Int) → Q 0) : wp_X6_allCan m τ x1 (Int32.ofNat q) (Int32.ofNat e) Q := by
  have n12 := hM.2.2.1
  refine lp_of (fun z => ∃ k, k ≤ N.length ∧ z = Int32.ofNat k ∧ ∀ j w, j < k → N[j]? = some w → nHas x1 j = true → (r j).1 = q → canP R w ((e : Int) + (r j).2)) (fun z => N.length - z.toNatClampNeg) ?_ ⟨0, by omega, rfl, fun j w q => absurd q (by omega)⟩
  rintro K z ⟨k, hk2, rfl, g2⟩ hK
  show (_ → _) ∧ (_ → _)
  rw [hM.2.1, nat_le (by omega) (by omega), nat_c (by omega), nat_s (by omega)]
  refine ⟨fun z => h1 (fun j w hj => g2 j w (by have := get_lt hj; omega) hj), fun z => ?_⟩
  have hlt : k < N.length := by omega
  have hw := List.getElem?_eq_getElem hlt
  generalize hwe : N[k] = w at hw
  have vk : vp_in (Int32.ofNat k) 12 := nat_v (by omega) (by omega)
  have nx : N.length - (Int32.ofNat (k + 1)).toNatClampNeg < N.length - (Int32.ofNat k).toNatClampNeg := by rw [nat_c (by omega), nat_c (by omega)]; omega
  obtain ⟨r1, r2, r3, r4, r5⟩ := hR k hlt
  have nxt : (nHas x1 k = true → (r k).1 = q → canP R w ((e : Int) + (r k).2)) → K (Int32.ofNat (k + 1)) := fun h3 => hK _ ⟨k + 1, by omega, rfl, fun j w' hj hw' => by
    by_cases cj : j = k
    · subst cj
      rw [hw] at hw'
      cases hw'
      exact h3
    · exact g2 j w' (by omega) hw'⟩ nx
  rw [isOf_iff (k := k) (by omega), r1, nat_e (by omega) (by omega)]
  refine ⟨fun u => nxt (no_hs u), fun u => ⟨vk, fun v => ⟨vk, fun v8 hv8 => ?_⟩, fun v => nxt (fun _ z => absurd z v)⟩⟩
  have u : nHas x1 k = true := bt u
  have ey : v8.toInt = (e : Int) + (r k).2 := by rw [hv8]; exact i3_add (nat_i (by omega)) r2 (by omega) (by omega)
  have no : ¬ canP R w ((e : Int) + (r k).2) → Q 0 := fun z => h0 (fun f => z (f k w hw u v))
  rw [i3_lt ey (y := 0) (by rfl), i3_lt (x := 19999) (by rfl) ey]
  refine ⟨fun a => no (fun z => by have := z.1; omega), fun a => ⟨fun b => no (fun z => by have := z.2.1; omega), fun b => ?_⟩⟩
  obtain ⟨f, hf⟩ : ∃ f : Nat, (e : Int) + (r k).2 = f := ⟨((e : Int) + (r k).2).toNat, by omega⟩
  have e8 : v8 = Int32.ofNat f := by rw [i2_eq, ey, nat_i (by omega), hf]
  rw [e8, i20k (by omega) (by omega), nat_c (by omega)]
  have hc := hC k w hw f (by omega)
  rw [hf] at no nxt
  exact ⟨nat_v (by omega) (by omega), fun a => no (fun z => hc.mpr z a), fun a => nxt (fun _ _ => hc.mp a)⟩
/-- how far the count of counts goes: to the end, or to the first -/
theorem m_layRoot {en : Int32} {Q : Hp → Prop} (hM : MQt m R N τ) (hC : RwM τ m R N) (hR : HRm m τ N r) (hq : q < 12) (hQ : ∀ τ', Ch (SMg m) τ τ' → (en = 0 → F3 m 62 τ' (ftA (fun e => holdsP R N (nHas x1) r q (e : Int)) 20000)) → (gI τ' m 62 = 0 ↔ ¬ ∃ e : Nat, e < 20000 ∧ holdsP R N (nHas x1) r q (e : Int)) → Q τ') : wp_X6_layRoot m τ x1 (Int32.ofNat q) en Q := by
  generalize hP : (fun e : Nat => holdsP R N (nHas x1) r q (e : Int)) = P at hQ
  have hP' : ∀ e : Nat, holdsP R N (nHas x1) r q (e : Int) ↔ P e := fun e => by rw [← hP]
  have i62 : ∀ j, 62 ≤ j → j ≤ 64 → SMg m m j := fun j a b => ⟨rfl, a, b⟩
  have c0 : Ch (SMg m) τ (pI (pI (pI τ m 62 0) m 63 (-1)) m 64 (-1)) := ((Ch.rf.i (i62 _ (by omega) (by omega))).i (i62 _ (by omega) (by omega))).i (i62 _ (by omega) (by omega))
  refine lp_of (fun z => ∃ k, k ≤ 20000 ∧ z.1 = Int32.ofNat k ∧ Ch (SMg m) τ z.2 ∧ F3 m 62 z.2 (ftA P k)) (fun z => 20000 - z.1.toNatClampNeg) ?_ ⟨0, by omega, rfl, c0, by refine ⟨?_, ?_, ?_⟩ <;> simp [gI_pI, ftA]⟩
  rintro K ⟨x2, s⟩ ⟨k, hk2, rfl, g1, g2⟩ hK
  simp only at g1 g2
  have hs := hM.n (g1.up (fun a k q => q.n))
  have hCs : RwM s m R N := hC.fr (fun k => g1.gi (by unfold SMg; omega))
  have hRs : HRm m s N r := fun k hk => by rw [g1.gi (by unfold SMg; omega), g1.gi (by unfold SMg; omega)]; exact hR k hk
  have bb := ft_b P k
  have e0 : gI s m 62 = 0 ↔ (ftA P k).1 = 0 := by rw [g2.1]; exact nat_e (q := 0) (by omega) (by omega)
  show (_ → _) ∧ (_ → _)
  rw [show (20000 ≤ Int32.ofNat k) ↔ 20000 ≤ k from nat_le (p := 20000) (by omega) (by omega)]
  have go : wj_X6_layRoot_37 m s x1 (Int32.ofNat q) en (Int32.ofNat k) Q K ∨ k = 20000 := by
    by_cases hk9 : k = 20000
    · exact Or.inr hk9
    have nx : 20000 - (Int32.ofNat (k + 1)).toNatClampNeg < 20000 - (Int32.ofNat k).toNatClampNeg := by rw [nat_c (by omega), nat_c (by omega)]; omega
    refine Or.inl (m_allCan hs hCs hRs hq (by omega) (fun y => cF (fun a => (by cases a)) ?_) (fun y => cT rfl ?_))
    · have hPk : P k := (hP' k).mp y
      have f63 : 0 ≤ gI s m 63 ↔ ¬ (ftA P k).1 = 0 := by
        rw [i3_le (x := 0) (by rfl) g2.2.1]
        constructor
        · intro a b
          have := (bb.2.1 b).1
          omega
        · intro a
          exact (bb.2.2.1 a).1
      rw [f63, nat_s (p := k) (by omega), g2.1, nat_s (by omega)]
      refine ⟨fun z0 => hK _ ⟨k + 1, by omega, rfl, (g1.i (i62 _ (by omega) (by omega))).i (i62 _ (by omega) (by omega)), ?_⟩ nx, fun z0 => hK _ ⟨k + 1, by omega, rfl, ((g1.i (i62 _ (by omega) (by omega))).i (i62 _ (by omega) (by omega))).i (i62 _ (by omega) (by omega)), ?_⟩ nx⟩
      · show F3 m 62 (pI (pI s m 62 _) m 64 _) (ftA P (k + 1))
        rw [ft_y hPk, if_neg z0]
        refine ⟨?_, ?_, ?_⟩
        · rw [pIo (by omega), gI_pI, if_pos ⟨rfl, rfl⟩]
        · rw [pIo (by omega), pIo (by omega)]; exact g2.2.1
        · rw [gI_pI, if_pos ⟨rfl, rfl⟩]; exact nat_i (by omega)
      · show F3 m 62 (pI (pI (pI s m 62 _) m 63 _) m 64 _) (ftA P (k + 1))
        have z0 : (ftA P k).1 = 0 := Classical.byContradiction z0
        rw [ft_y hPk, if_pos z0]
        refine ⟨?_, ?_, ?_⟩
        · rw [pIo (by omega), pIo (by omega), gI_pI, if_pos ⟨rfl, rfl⟩]
        · rw [pIo (by omega), gI_pI, if_pos ⟨rfl, rfl⟩]; exact nat_i (by omega)
        · rw [gI_pI, if_pos ⟨rfl, rfl⟩]; exact nat_i (by omega)
    · rw [nat_s (p := k) (by omega)]
      refine hK _ ⟨k + 1, by omega, rfl, g1, ?_⟩ nx
      show F3 m 62 s (ftA P (k + 1))
      rw [ft_n (fun z => y ((hP' k).mpr z))]
      exact g2
  refine ⟨fun z => ?_, fun z => ?_⟩
  · have e : k = 20000 := by omega
    subst e
    refine hQ s g1 (fun _ => g2) (e0.trans (bb.2.2.2.trans ⟨fun a ⟨e, b, d⟩ => a e b ((hP' e).mp d), fun a e b d => a ⟨e, b, (hP' e).mpr d⟩⟩))
  · have go := go.resolve_right (by omega)
    refine ⟨fun _ => go, fun en0 => ⟨fun z1 => hQ s g1 (fun a => absurd a en0) ?_, fun _ => go⟩⟩
    have n0 : ¬ (ftA P k).1 = 0 := fun a => by
      rw [g2.1, a] at z1
      exact absurd z1 (by decide)
    refine ⟨fun a => absurd (e0.mp a) n0, fun a => absurd ?_ n0⟩
    exact bb.2.2.2.mpr (fun e b d => a ⟨e, by omega, (hP' e).mpr d⟩)
end
