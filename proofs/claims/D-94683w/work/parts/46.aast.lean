set_option maxRecDepth 100000
/-- an object of the class ci goes into an array over E -/
def AX (ci : Nat) (E : String) : Prop := ∃ (C : String) (T : u_T) (N : Nat), CK ci C T N ∧ (C = E ∨ Cond.castable C E ∈ lw_tbl)
section XA
variable {G : XE} {rm : Room} {cc : ByteArray} {own : String} {nL : Nat} {ret : Option FieldType} {σ : Hp} {cells slots pc n : Nat} {lvs : List (Nat × Value)} {st : List Value}
theorem x_aast {t0 a v ci N k : Nat} {E : String} {i : Int32} (at0 : AT t0 (.object E)) (ax : AX ci E) (hv : gT σ v = some (.inl ci)) (ht : gT σ a = some (.inr (.object E, N))) (hin : vp_in i N) (hk : i.toNatClampNeg = k) (hd : decode cc pc = .ok (.aastore, 1)) (hn : pc + 1 = n) (kk : X G rm cc own nL ret (pR σ a k (some v)) cells slots n lvs st) : X G rm cc own nL ret σ cells slots pc lvs (.ref v :: .int i :: .ref a :: st) := by
  subst hn
  subst hk
  obtain ⟨C, T, M, ck, hca⟩ := ax
  intro hF H locs ls hB hl
  have hlt : i.toNatClampNeg < N := Nat.not_le.mp fun q => hin (Or.inr q)
  have h0 : ¬ i < 0 := fun q => hin (Or.inl q)
  obtain ⟨r, h1, cellV, g1, g2, g3, -⟩ := hB.2.1.obj hv
  obtain ⟨hS, hfc, kC, hkC, -⟩ := hB.1.1 ci _ ck.1
  obtain ⟨kA, comp, k1, k2, k3, -⟩ := (hB.1.2 t0 _ (at0 _)).2
  obtain ⟨kE, hkE, -⟩ := Vm.findClass_spec k3
  have hasg : G.2.2.2.1.vm.assignable (G.2.2.2.2.2.2.2.2.2.2.1.1 ci) comp = true := by
    rcases hca with hc | hc
    · subst hc
      have : comp = G.2.2.2.2.2.2.2.2.2.2.1.1 ci := Option.some.inj (k3.symm.trans hfc)
      subst this
      exact va_assign (hB.1.1 ci _ ck.1).2
    · obtain ⟨c0, t1, f1, f2, f3⟩ := Cond.castable_spec (va_Nw.use (A := G.2.2.2.2.2.1) rfl (hB.cast hc))
      cases hfc.symm.trans f1
      cases k3.symm.trans f2
      exact f3
  refine W.aast hF.1 hF.2.1 (hB.2.1.arr ht) (fun q h => by cases h) (fun h => by cases h) k1 k2 rfl hkE ⟨h0, by show _ < (arrV _ _ _).slots.size; rw [arrV_size]; exact hlt⟩ g1 (fun q h => by rw [g3] at h; cases h) (by rw [g2]; exact hkC) (by rw [g2]; exact hasg) rfl rfl hd fun H1 e z oq => ?_
  refine kk hF H1 _ ls (hB.write ht rfl z oq (hB.2.1.write (a := a) rfl rfl z oq (fun b hb ty j => gvR_off hb j) ?_)) hl
  unfold HPc
  rw [show gT (pR σ a i.toNatClampNeg (some v)) a = some (.inr (.object E, N)) from ht]
  show H1[a]? = _
  rw [e, arrV_store]
  congr 2
  funext j
  by_cases hj : j = i.toNatClampNeg
  · subst hj
    simp [updV, gv, gRs, va_rf]
  · simp only [updV, if_neg hj]
    exact (gvR_ne j hj).symm
theorem x_aastM {t0 a v N k : Nat} {E : String} {i : Int32} (cis : List Nat) (at0 : AT t0 (.object E)) (ax : ∀ ci ∈ cis, AX ci E) (hv : ∃ ci ∈ cis, gT σ v = some (.inl ci)) (ht : gT σ a = some (.inr (.object E, N))) (hin : vp_in i N) (hk : i.toNatClampNeg = k) (hd : decode cc pc = .ok (.aastore, 1)) (hn : pc + 1 = n) (kk : X G rm cc own nL ret (pR σ a k (some v)) cells slots n lvs st) : X G rm cc own nL ret σ cells slots pc lvs (.ref v :: .int i :: .ref a :: st) := by
  obtain ⟨ci, h1, h2⟩ := hv
  exact x_aast at0 (ax ci h1) h2 ht hin hk hd hn kk
end XA

theorem axm : ∀ ci ∈ nmd, AX ci "java/lang/Object" := List.forall_mem_cons.mpr ⟨⟨RX5, TX5, 4, ck5, Or.inr q2242⟩, List.forall_mem_cons.mpr ⟨⟨RX8, TX8, 4, ck6, Or.inr q2250⟩, List.forall_mem_cons.mpr ⟨⟨RX13, TX13, 2, ck7, Or.inr q2255⟩, List.forall_mem_cons.mpr ⟨⟨RX9, TX9, 3, ck8, Or.inr q2251⟩, List.forall_mem_cons.mpr ⟨⟨RX10, TX10, 4, ck9, Or.inr q2253⟩, List.forall_mem_cons.mpr ⟨⟨RX11, TX11, 4, ck10, Or.inr q2252⟩, List.forall_mem_cons.mpr ⟨⟨RX12, TX12, 4, ck11, Or.inr q2254⟩, fun _ h => (List.not_mem_nil h).elim⟩⟩⟩⟩⟩⟩⟩
theorem ax_note : AX 5 "LongYears$Note" := ⟨RX5, TX5, 4, ck5, Or.inl rfl⟩
