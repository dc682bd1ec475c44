set_option maxRecDepth 100000
/-- a row of N rows of M places, new -/
def pM (σ : Hp) (ty : FieldType) (N M : Nat) : Hp := (gS σ + 1 + N, (fun a => if a = gS σ then some (.inr (.array ty, N)) else if gS σ < a ∧ a < gS σ + 1 + N then some (.inr (ty, M)) else gT σ a), (fun a i => if a = gS σ then (if i < N then some (gS σ + 1 + i) else none) else if gS σ < a ∧ a < gS σ + 1 + N then none else gR σ a i), (fun a i => if gS σ ≤ a ∧ a < gS σ + 1 + N then 0 else gI σ a i), (fun a i => if gS σ ≤ a ∧ a < gS σ + 1 + N then 0 else gL σ a i))
theorem pM_T0 {σ : Hp} {ty : FieldType} {N M : Nat} : gT (pM σ ty N M) (gS σ) = some (.inr (.array ty, N)) := by simp [gT, pM]
theorem pM_T1 {σ : Hp} {ty : FieldType} {N M j : Nat} (h : j < N) : gT (pM σ ty N M) (gS σ + 1 + j) = some (.inr (ty, M)) := by
  show (if _ then _ else _) = _
  rw [if_neg (by omega), if_pos (by omega)]
theorem pM_T {σ : Hp} {ty : FieldType} {N M a : Nat} (h : a < gS σ ∨ gS σ + 1 + N ≤ a) : gT (pM σ ty N M) a = gT σ a := by
  show (if _ then _ else _) = _
  rw [if_neg (by omega), if_neg (by omega)]
theorem pM_R0 {σ : Hp} {ty : FieldType} {N M i : Nat} (h : i < N) : gR (pM σ ty N M) (gS σ) i = some (gS σ + 1 + i) := by
  show (if _ then _ else _) = _
  rw [if_pos rfl, if_pos h]
theorem pM_R {σ : Hp} {ty : FieldType} {N M a i : Nat} (h : a < gS σ ∨ gS σ + 1 + N ≤ a) : gR (pM σ ty N M) a i = gR σ a i := by
  show (if _ then _ else _) = _
  rw [if_neg (by omega), if_neg (by omega)]
theorem pM_I {σ : Hp} {ty : FieldType} {N M a i : Nat} : gI (pM σ ty N M) a i = if gS σ ≤ a ∧ a < gS σ + 1 + N then 0 else gI σ a i := rfl
theorem pM_L {σ : Hp} {ty : FieldType} {N M a i : Nat} : gL (pM σ ty N M) a i = if gS σ ≤ a ∧ a < gS σ + 1 + N then 0 else gL σ a i := rfl
theorem outer_eta (cA : ClassId) (N h0 : Nat) : ∀ i, Jvm.Free.Multi.outerC cA N h0 i = { cls := cA, slots := (Jvm.Free.Multi.outerC cA N h0 i).slots, vm := .none }
  | 0 => rfl
  | i + 1 => by
    have ih := outer_eta cA N h0 i
    show (Jvm.Free.Multi.outerC cA N h0 i).setSlot i (.ref (h0 + 1 + i)) = ({ cls := cA, slots := ((Jvm.Free.Multi.outerC cA N h0 i).setSlot i (.ref (h0 + 1 + i))).slots, vm := .none } : Cell)
    rw [ih]
    rfl
theorem outer_arr (cA : ClassId) (N h0 : Nat) (f : Nat → Value) (hf : ∀ j, j < N → f j = .ref (h0 + 1 + j)) : Jvm.Free.Multi.outerC cA N h0 N = arrV cA N f := by
  obtain ⟨c1, c2, c3⟩ := Jvm.Free.Multi.outerC_facts cA N h0 N
  rw [outer_eta]
  have hs : (Jvm.Free.Multi.outerC cA N h0 N).slots = (arrV cA N f).slots := by
    apply Array.ext_getElem?
    intro i
    by_cases h : i < N
    · rw [Jvm.Free.Multi.outerC_slot cA N h0 N i h, if_pos h, arrV_read _ _ h, hf i h]
    · rw [Array.getElem?_eq_none (by rw [c3]; omega), Array.getElem?_eq_none (by rw [arrV_size]; omega)]
  rw [hs]
  rfl
section XM
variable {G : XE} {rm : Room} {cc : ByteArray} {own : String} {nL : Nat} {ret : Option FieldType} {σ : Hp} {cells slots pc n : Nat} {lvs : List (Nat × Value)} {st : List Value}
theorem x_manew {index N M : Nat} {m k : Int32} (hcl : Cond.classLink own index ("[" ++ (FieldType.array .long).toString) ∈ lw_all) (hov : Cond.arrayOver (.array .long) ∈ lw_tbl) (har : Cond.arrayClass .long ∈ lw_all) (hm : ¬ m < 0) (hk : ¬ k < 0) (hN : m.toNatClampNeg = N) (hM : k.toNatClampNeg = M) (hb : N * 4 ≤ 536870912 ∧ M * 8 ≤ 536870912) (hR : cells + (1 + N) ≤ rm.cells ∧ slots + (N + N * M) ≤ rm.slots) (hd : decode cc pc = .ok (.multianewarray index 2, 4)) (hn : pc + 4 = n) (kk : X G rm cc own nL ret (pM σ .long N M) (cells + 1 + N) (slots + N + N * M) n lvs (.ref (gS σ) :: st)) : X G rm cc own nL ret σ cells slots pc lvs (.int k :: .int m :: st) := by
  subst hn
  subst hN
  subst hM
  intro hF H locs ls hB hl T hT X0
  have hover : (Cond.arrayOver (.array .long)).before G.2.2.2.2.2.1 G.2.2.2.1 = true := by
    obtain ⟨s0, b0, g1, g2, g3, g4, g5⟩ := hB.2.2.2.2.2.2.2
    have h1 := g1 _ hov
    rw [← Cond.arrayOver_setVmC g3.alike] at h1
    exact h1
  obtain ⟨vm₁, cA, comp, hW, hfA, hfC, hO, hI, X1, step⟩ := X0.multianewarray2F hF.1 hF.2.2.2.1 (hF.2.2.2.2.1 _ hcl) hover (hF.2.2.2.2.1 _ har) (g := F0 G.2.2.2.2.1 pc ls (.int k :: .int m :: st)) rfl (by rw [hF.2.1]; exact hd) rfl hm hk hb.1 hb.2 (by have := hb.2; omega) rfl rfl hR.1 hR.2
  have hz : T.heap.size = gS σ := by rw [hT]; exact hB.2.1.1
  have ff := Jvm.Free.Multi.fill_facts (T.setVm vm₁) cA comp m.toNatClampNeg k.toNatClampNeg (defaultValue .long) m.toNatClampNeg
  have fo := fun (a : Nat) (ha : a < T.heap.size) => Jvm.Free.Multi.fill_old (T.setVm vm₁) cA comp m.toNatClampNeg k.toNatClampNeg (defaultValue .long) (a := a) ha m.toNatClampNeg
  have fi := Jvm.Free.Multi.fill_inner (T.setVm vm₁) cA comp m.toNatClampNeg k.toNatClampNeg (defaultValue .long) m.toNatClampNeg
  generalize Jvm.Free.Multi.fill (T.setVm vm₁) cA comp m.toNatClampNeg k.toNatClampNeg (defaultValue .long) m.toNatClampNeg = U at *
  have hs0 : (T.setVm vm₁).heap.size = gS σ := hz
  rw [hs0] at ff fi
  have hcA : G.2.2.2.2.2.2.2.2.2.2.1.2.2 (.array .long) = cA := Option.some.inj ((hB.1.2 6 _ (at_larr _)).2.symm.trans hfA)
  have hcI : G.2.2.2.2.2.2.2.2.2.2.1.2.2 .long = comp := Option.some.inj ((hB.1.2 1 _ (at_long _)).2.symm.trans hfC)
  have hHP : HP G.2.2.2.2.2.2.2.2.2.2.1 (pM σ .long m.toNatClampNeg k.toNatClampNeg) U.heap := by
    refine ⟨ff.1, fun a => ?_⟩
    by_cases h0 : a = gS σ
    · subst h0
      unfold HPc
      rw [pM_T0]
      show U.heap[gS σ]? = some _
      rw [ff.2.1, hcA]
      congr 1
      exact outer_arr cA _ _ _ (fun j hj => by rw [gv_R rfl, pM_R0 hj]; rfl)
    · by_cases h1 : gS σ < a ∧ a < gS σ + 1 + m.toNatClampNeg
      · obtain ⟨j, rfl⟩ : ∃ j, a = gS σ + 1 + j := ⟨a - (gS σ + 1), by omega⟩
        have hj : j < m.toNatClampNeg := by omega
        unfold HPc
        rw [pM_T1 hj]
        show U.heap[gS σ + 1 + j]? = some _
        rw [fi j hj, hcI]
        congr 1
        show ({ cls := comp, slots := Array.replicate k.toNatClampNeg (defaultValue .long), vm := .none } : Cell) = _
        rw [arrV_new]
        congr 1
        funext i
        rw [gv_L, pM_L, if_pos (by omega)]
        rfl
      · by_cases h2 : a < gS σ
        · have he : U.heap[a]? = H[a]? := by rw [fo a (by rw [hz]; exact h2)]; show T.heap[a]? = _; rw [hT]
          refine (hB.2.1.2 a).kept (pM_T (Or.inl h2)) (fun ty i => ?_) he
          have e1 : gL (pM σ .long m.toNatClampNeg k.toNatClampNeg) a i = gL σ a i := by rw [pM_L, if_neg (by omega)]
          have e2 : gR (pM σ .long m.toNatClampNeg k.toNatClampNeg) a i = gR σ a i := pM_R (Or.inl h2)
          have e3 : gI (pM σ .long m.toNatClampNeg k.toNatClampNeg) a i = gI σ a i := by rw [pM_I, if_neg (by omega)]
          cases ty <;> simp [gv, e1, e2, e3]
        · have e0 : gT σ a = none := by
            cases hc : gT σ a with
            | none => rfl
            | some t0 => exact absurd (hB.2.1.lt hc) h2
          unfold HPc
          rw [pM_T (Or.inr (by omega)), e0]
          trivial
  have hb1 : ∀ a t, gT (pM σ .long m.toNatClampNeg k.toNatClampNeg) a = some t → G.2.2.2.2.2.2.2.2.2.1 ≤ a := fun a t q => by
    by_cases h2 : a < gS σ
    · exact hB.2.2.1 a t (by rw [← pM_T (ty := .long) (N := m.toNatClampNeg) (M := k.toNatClampNeg) (Or.inl h2)]; exact q)
    · have := hB.2.2.2.1
      have := hB.2.2.2.2.1
      have := hB.2.1.1
      omega
  have hb2 : ∀ q, q < G.2.2.2.2.2.2.2.2.2.1 → U.heap[q]? = G.2.2.2.1.heap[q]? := fun q hq => by
    have := hB.2.2.2.1
    have := hB.2.2.2.2.1
    rw [fo q (by rw [hT]; omega)]
    show T.heap[q]? = _
    rw [hT]
    exact hB.2.2.2.2.2.1 q hq
  obtain ⟨t, a1, b1⟩ := kk hF U.heap locs ls ⟨hB.1, hHP, hb1, hB.2.2.2.1, by have := hB.2.2.2.2.1; rw [ff.1, ← hz, hT]; omega, hb2, hB.2.2.2.2.2.2.1, hB.2.2.2.2.2.2.2⟩ hl U rfl X1
  exact ⟨t, step t (by rw [hz]; exact a1), b1⟩
end XM
