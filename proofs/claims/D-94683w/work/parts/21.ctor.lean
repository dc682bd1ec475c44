set_option maxRecDepth 100000
/-- what a constructor of o leaves: grown over whatever held no o -/
def KX (o : Nat) (σ σ' : Hp) : Prop := (WF σ → WF σ') ∧ ∀ τ, WF τ → GX τ σ → gT τ o = none → WF σ → GX τ σ'
theorem metI_of {y : MethodName} {cc : ByteArray} {own : String} {nL : Nat} {ret : Option FieldType} {rm : Room} {σ : Hp} {av : List Value} {lvs : List (Nat × Value)} {Post : Option Value → Hp → Prop} {mc ms : Nat}
    (hy : plainName y.cls = true) (hni : y.name = "<init>") (ho : y.cls = own) (hn : (lg_sl av).length ≤ nL) (hlv : lv_args 0 av = lvs)
    (body : ∀ G : XE, RQ G mc ms Post → G.2.2.2.2.2.2.2.1.name = "<init>" → X G rm cc own nL ret σ 0 0 0 lvs []) : MetX y cc nL ret rm σ av Post mc ms := by
  subst ho
  subst hlv
  intro l B D hfl
  refine Met.ofWF (cc := cc) (maxL := nL) (ret := ret) (plainFor_of_name hy) rfl ?_
  intro p e s m args below meth c s₁ Bd hml hv
  obtain ⟨rfl, hK, hH, hdom, hB, hSX⟩ := hv
  have hts := atoms_spec (ws := ws_ y cc nL ret) Bd.pre
  have hl := lv_entry av (n := nL) hn
  have hx := body (p, l, e, s, m, av.toArray, below, meth, c, B, D, MQ below (QX B D Post) av.toArray s mc ms (fun q => B ≤ q)) rfl ((name_of_methodNamed Bd.named Bd.method).1.trans hni)
  rw [lg_entry_eq]
  exact hx ⟨Bd.exec, Bd.bytes, hml, findClass_of_methodNamed Bd.named, fun w h => hts w (List.mem_cons_of_mem _ h), Bd.returns, Bd.notSynchronized, hfl⟩ s.heap [] _ ⟨hK, hH, hdom, hB, Nat.le_refl _, fun _ _ => rfl, fun _ h => (List.not_mem_nil h).elim, hSX⟩ hl
section XI
variable {G : XE} {rm : Room} {cc : ByteArray} {own : String} {nL : Nat} {ret : Option FieldType} {σ : Hp} {cells slots pc n : Nat} {lvs : List (Nat × Value)} {st : List Value}
theorem x_putFi {index ci k a : Nat} {x : Int32} (hin2 : G.2.2.2.2.2.2.2.1.name = "<init>") (fp : FF own index ci k) (hty : clTy ci k = .int) (ht : gT σ a = some (.inl ci)) (hd : decode cc pc = .ok (.putfield index, 3)) (hn : pc + 3 = n) (kk : X G rm cc own nL ret (pI σ a k x) cells slots n lvs st) : X G rm cc own nL ret σ cells slots pc lvs (.int x :: .ref a :: st) :=
  x_putF (σ' := pI σ a k x) fp hin2 ht (by rw [hty]; rfl) (by rw [hty]; rfl) rfl rfl (fun b hb ty j => gvI_off hb j) (fun j hj ty => gvI_ne j hj) (by rw [hty]; show Value.int _ = _; rw [gIs]) hd hn kk
theorem x_putFl {index ci k a : Nat} {x : Int64} (hin2 : G.2.2.2.2.2.2.2.1.name = "<init>") (fp : FF own index ci k) (hty : clTy ci k = .long) (ht : gT σ a = some (.inl ci)) (hd : decode cc pc = .ok (.putfield index, 3)) (hn : pc + 3 = n) (kk : X G rm cc own nL ret (pL σ a k x) cells slots n lvs st) : X G rm cc own nL ret σ cells slots pc lvs (.long x :: .ref a :: st) :=
  x_putF (σ' := pL σ a k x) fp hin2 ht (by rw [hty]; rfl) (by rw [hty]; rfl) rfl rfl (fun b hb ty j => gvL_off hb j) (fun j hj ty => gvL_ne j hj) (by rw [hty]; show Value.long _ = _; rw [gLs]) hd hn kk
theorem x_putFr {index ci k a b : Nat} (hin2 : G.2.2.2.2.2.2.2.1.name = "<init>") (fp : FF own index ci k) (hty : isR (clTy ci k) = true) (ht : gT σ a = some (.inl ci)) (hd : decode cc pc = .ok (.putfield index, 3)) (hn : pc + 3 = n) (kk : X G rm cc own nL ret (pR σ a k (some b)) cells slots n lvs st) : X G rm cc own nL ret σ cells slots pc lvs (.ref b :: .ref a :: st) :=
  x_putF (σ' := pR σ a k (some b)) fp hin2 ht (rf_fit hty b).1 (rf_fit hty b).2 rfl rfl (fun b hb ty j => gvR_off hb j) (fun j hj ty => gvR_ne j hj) (by rw [gv_R hty, gRs]; rfl) hd hn kk
end XI
theorem thr_eq (σ : Hp) (o : Nat) (r1 r2 : Option Nat) : pR (pR (pR (pR (pR (pR (pR σ o 0 (some o)) o 1 r1) o 2 r2) o 1 none) o 3 none) o 0 none) o 2 none = pR (pR (pR (pR σ o 0 none) o 1 none) o 2 none) o 3 none := by
  simp only [pR, Prod.mk.injEq, true_and, and_true]
  funext b j
  unfold u2
  by_cases hb : b = o <;> simp only [hb, if_true, if_false]
  by_cases h0 : j = 0
  · subst h0; simp
  · by_cases h1 : j = 1
    · subst h1; simp
    · by_cases h2 : j = 2
      · subst h2; simp
      · by_cases h3 : j = 3
        · subst h3; simp
        · simp [h0, h1, h2, h3]

def pts : List Nat := [12, 13, 14, 15]
def nots : List Nat := [14, 15]
theorem sub_dds : ∀ ci ∈ dds, ci ∈ nmd := by decide
theorem sub_nots : ∀ ci ∈ nots, ci ∈ pts := by decide
theorem ffm_X4_9 : ∀ ci ∈ nmd, FF RX4 9 ci 0 ∧ clTy ci 0 = .int := List.forall_mem_cons.mpr ⟨⟨ff_X4_9_5, rfl⟩, List.forall_mem_cons.mpr ⟨⟨ff_X4_9_6, rfl⟩, List.forall_mem_cons.mpr ⟨⟨ff_X4_9_7, rfl⟩, List.forall_mem_cons.mpr ⟨⟨ff_X4_9_8, rfl⟩, List.forall_mem_cons.mpr ⟨⟨ff_X4_9_9, rfl⟩, List.forall_mem_cons.mpr ⟨⟨ff_X4_9_10, rfl⟩, List.forall_mem_cons.mpr ⟨⟨ff_X4_9_11, rfl⟩, fun _ h => (List.not_mem_nil h).elim⟩⟩⟩⟩⟩⟩⟩
theorem ffm_X10_9 : ∀ ci ∈ dds, FF RX10 9 ci 1 ∧ clTy ci 1 = .long := List.forall_mem_cons.mpr ⟨⟨ff_X10_9_9, rfl⟩, List.forall_mem_cons.mpr ⟨⟨ff_X10_9_10, rfl⟩, List.forall_mem_cons.mpr ⟨⟨ff_X10_9_11, rfl⟩, fun _ h => (List.not_mem_nil h).elim⟩⟩⟩
theorem ffm_X10_15 : ∀ ci ∈ dds, FF RX10 15 ci 2 ∧ clTy ci 2 = .int := List.forall_mem_cons.mpr ⟨⟨ff_X10_15_9, rfl⟩, List.forall_mem_cons.mpr ⟨⟨ff_X10_15_10, rfl⟩, List.forall_mem_cons.mpr ⟨⟨ff_X10_15_11, rfl⟩, fun _ h => (List.not_mem_nil h).elim⟩⟩⟩
theorem ffm_X17_7 : ∀ ci ∈ nots, FF RX17 7 ci 0 ∧ isR (clTy ci 0) = true := List.forall_mem_cons.mpr ⟨⟨ff_X17_7_14, rfl⟩, List.forall_mem_cons.mpr ⟨⟨ff_X17_7_15, rfl⟩, fun _ h => (List.not_mem_nil h).elim⟩⟩
def f_X4_init (o : Nat) (σ : Hp) (x1 : Int32) : Hp := pI σ o 0 x1
abbrev rm_X4_init : Room := { frames := 1, cells := 0, slots := 0, locals := 20 }
theorem met_X4_init (o : Nat) (σ : Hp) (x1 : Int32) (ci : Nat) (hm : ci ∈ nmd) (ht : gT σ o = some (.inl ci))  : MetX yX4_init cX4_init 2 none rm_X4_init σ [.ref o, .int x1] (oV (fun σ' => KX o σ σ' ∧ σ' = f_X4_init o σ x1)) 0 0 := by
  refine metI_of (own := RX4) (lvs := [(0, .ref o), (1, .int x1)]) (by decide) rfl rfl (Nat.le_of_ble_eq_true rfl) rfl (fun G rq hin => ?_)
  refine x_aload_n dX4_init_0 (n := 1) rfl rfl 0 rfl ?_
  refine x_oinit q321 q174 q175 (by decide) dX4_init_1 (n := 4) rfl ?_
  refine x_aload_n dX4_init_4 (n := 5) rfl rfl 0 rfl ?_
  refine x_iload_n dX4_init_5 (n := 6) rfl rfl 1 rfl ?_
  refine x_putFi hin (ffm_X4_9 ci hm).1 (ffm_X4_9 ci hm).2 ht dX4_init_6 (n := 9) rfl ?_
  refine x_wf (fun wE => ?_)
  exact x_widen (k1 := 0) (k2 := 0) (by decide) (by decide) (x_vret rq ⟨⟨fun _ => wE, fun τ wt hg hf hw => hg.i⟩, rfl⟩ dX4_init_9)
def f_X8_init (o : Nat) (σ : Hp) (x1 : Int32) (x2 : Int32) (x3 : Int32) : Hp := pI (pI (f_X4_init o σ x1) o 1 x2) o 2 x3
abbrev rm_X8_init : Room := { frames := 2, cells := 0, slots := 0, locals := 41 }
theorem met_X8_init (o : Nat) (σ : Hp) (x1 : Int32) (x2 : Int32) (x3 : Int32) (ht : gT σ o = some (.inl 6))  : MetX yX8_init cX8_init 4 none rm_X8_init σ [.ref o, .int x1, .int x2, .int x3] (oV (fun σ' => KX o σ σ' ∧ σ' = f_X8_init o σ x1 x2 x3)) 0 0 := by
  refine metI_of (own := RX8) (lvs := [(0, .ref o), (1, .int x1), (2, .int x2), (3, .int x3)]) (by decide) rfl rfl (Nat.le_of_ble_eq_true rfl) rfl (fun G rq hin => ?_)
  refine x_aload_n dX8_init_0 (n := 1) rfl rfl 0 rfl ?_
  refine x_iload_n dX8_init_1 (n := 2) rfl rfl 1 rfl ?_
  refine x_wf (fun w1 => ?_)
  refine x_callI (mc := 0) (ms := 0) (As := [.int x1]) (rest := []) ci_X8_3 (met_X4_init o σ x1 6 (by decide) ht) (by decide) rfl rfl rfl dX8_init_2 (n := 5) rfl (fun s hp => ?_)
  obtain ⟨hk2, e⟩ := hp
  subst e
  refine x_aload_n dX8_init_5 (n := 6) rfl rfl 0 rfl ?_
  refine x_iload_n dX8_init_6 (n := 7) rfl rfl 2 rfl ?_
  refine x_putFi hin ff_X8_9_6 rfl (show gT (f_X4_init o σ x1) o = some (.inl 6) from ht) dX8_init_7 (n := 10) rfl ?_
  refine x_aload_n dX8_init_10 (n := 11) rfl rfl 0 rfl ?_
  refine x_iload_n dX8_init_11 (n := 12) rfl rfl 3 rfl ?_
  refine x_putFi hin ff_X8_15_6 rfl (show gT (f_X4_init o σ x1) o = some (.inl 6) from ht) dX8_init_12 (n := 15) rfl ?_
  refine x_wf (fun wE => ?_)
  exact x_widen (k1 := 0) (k2 := 0) (by decide) (by decide) (x_vret rq ⟨⟨fun _ => wE, fun τ wt hg hf hw => (hk2.2 τ wt hg hf w1).i.i⟩, rfl⟩ dX8_init_15)
def f_X13_init (o : Nat) (σ : Hp) (x1 : Int32) (a2 : Nat) : Hp := pR (f_X4_init o σ x1) o 1 (some a2)
abbrev rm_X13_init : Room := { frames := 2, cells := 0, slots := 0, locals := 41 }
theorem met_X13_init (o : Nat) (σ : Hp) (x1 : Int32) (a2 : Nat) (ht : gT σ o = some (.inl 7))  : MetX yX13_init cX13_init 3 none rm_X13_init σ [.ref o, .int x1, .ref a2] (oV (fun σ' => KX o σ σ' ∧ σ' = f_X13_init o σ x1 a2)) 0 0 := by
  refine metI_of (own := RX13) (lvs := [(0, .ref o), (1, .int x1), (2, .ref a2)]) (by decide) rfl rfl (Nat.le_of_ble_eq_true rfl) rfl (fun G rq hin => ?_)
  refine x_aload_n dX13_init_0 (n := 1) rfl rfl 0 rfl ?_
  refine x_iload_n dX13_init_1 (n := 2) rfl rfl 1 rfl ?_
  refine x_wf (fun w1 => ?_)
  refine x_callI (mc := 0) (ms := 0) (As := [.int x1]) (rest := []) ci_X13_1 (met_X4_init o σ x1 7 (by decide) ht) (by decide) rfl rfl rfl dX13_init_2 (n := 5) rfl (fun s hp => ?_)
  obtain ⟨hk2, e⟩ := hp
  subst e
  refine x_aload_n dX13_init_5 (n := 6) rfl rfl 0 rfl ?_
  refine x_aload_n dX13_init_6 (n := 7) rfl rfl 2 rfl ?_
  refine x_putFr hin ff_X13_7_7 rfl (show gT (f_X4_init o σ x1) o = some (.inl 7) from ht) dX13_init_7 (n := 10) rfl ?_
  refine x_wf (fun wE => ?_)
  exact x_widen (k1 := 0) (k2 := 0) (by decide) (by decide) (x_vret rq ⟨⟨fun _ => wE, fun τ wt hg hf hw => ((hk2.2 τ wt hg hf w1).r (Or.inl hf))⟩, rfl⟩ dX13_init_10)
def f_X9_init (o : Nat) (σ : Hp) (x1 : Int32) (y2 : Int64) : Hp := pL (pL (f_X4_init o σ x1) o 2 (-1)) o 1 y2
abbrev rm_X9_init : Room := { frames := 2, cells := 0, slots := 0, locals := 41 }
theorem met_X9_init (o : Nat) (σ : Hp) (x1 : Int32) (y2 : Int64) (ht : gT σ o = some (.inl 8))  : MetX yX9_init cX9_init 4 none rm_X9_init σ [.ref o, .int x1, .long y2] (oV (fun σ' => KX o σ σ' ∧ σ' = f_X9_init o σ x1 y2)) 0 0 := by
  refine metI_of (own := RX9) (lvs := [(0, .ref o), (1, .int x1), (2, .long y2)]) (by decide) rfl rfl (Nat.le_of_ble_eq_true rfl) rfl (fun G rq hin => ?_)
  refine x_aload_n dX9_init_0 (n := 1) rfl rfl 0 rfl ?_
  refine x_iload_n dX9_init_1 (n := 2) rfl rfl 1 rfl ?_
  refine x_wf (fun w1 => ?_)
  refine x_callI (mc := 0) (ms := 0) (As := [.int x1]) (rest := []) ci_X9_3 (met_X4_init o σ x1 8 (by decide) ht) (by decide) rfl rfl rfl dX9_init_2 (n := 5) rfl (fun s hp => ?_)
  obtain ⟨hk2, e⟩ := hp
  subst e
  refine x_aload_n dX9_init_5 (n := 6) rfl rfl 0 rfl ?_
  refine x_ldc2 dX9_init_6 (n := 9) rfl q834 ?_
  refine x_putl fp_X9_11_8 rfl (show gT (f_X4_init o σ x1) o = some (.inl 8) from ht) dX9_init_9 (n := 12) rfl ?_
  refine x_aload_n dX9_init_12 (n := 13) rfl rfl 0 rfl ?_
  refine x_lload_n dX9_init_13 (n := 14) rfl rfl 2 rfl ?_
  refine x_putFl hin ff_X9_17_8 rfl (show gT (f_X4_init o σ x1) o = some (.inl 8) from ht) dX9_init_14 (n := 17) rfl ?_
  refine x_wf (fun wE => ?_)
  exact x_widen (k1 := 0) (k2 := 0) (by decide) (by decide) (x_vret rq ⟨⟨fun _ => wE, fun τ wt hg hf hw => (hk2.2 τ wt hg hf w1).l.l⟩, rfl⟩ dX9_init_17)
def f_X10_init (o : Nat) (σ : Hp) (x1 : Int32) (y2 : Int64) (x4 : Int32) : Hp := pI (pL (f_X4_init o σ x1) o 1 y2) o 2 x4
abbrev rm_X10_init : Room := { frames := 2, cells := 0, slots := 0, locals := 41 }
theorem met_X10_init (o : Nat) (σ : Hp) (x1 : Int32) (y2 : Int64) (x4 : Int32) (ci : Nat) (hm : ci ∈ dds) (ht : gT σ o = some (.inl ci))  : MetX yX10_init cX10_init 5 none rm_X10_init σ [.ref o, .int x1, .long y2, .int x4] (oV (fun σ' => KX o σ σ' ∧ σ' = f_X10_init o σ x1 y2 x4)) 0 0 := by
  refine metI_of (own := RX10) (lvs := [(0, .ref o), (1, .int x1), (2, .long y2), (4, .int x4)]) (by decide) rfl rfl (Nat.le_of_ble_eq_true rfl) rfl (fun G rq hin => ?_)
  refine x_aload_n dX10_init_0 (n := 1) rfl rfl 0 rfl ?_
  refine x_iload_n dX10_init_1 (n := 2) rfl rfl 1 rfl ?_
  refine x_wf (fun w1 => ?_)
  refine x_callI (mc := 0) (ms := 0) (As := [.int x1]) (rest := []) ci_X10_3 (met_X4_init o σ x1 ci (sub_dds ci hm) ht) (by decide) rfl rfl rfl dX10_init_2 (n := 5) rfl (fun s hp => ?_)
  obtain ⟨hk2, e⟩ := hp
  subst e
  refine x_aload_n dX10_init_5 (n := 6) rfl rfl 0 rfl ?_
  refine x_lload_n dX10_init_6 (n := 7) rfl rfl 2 rfl ?_
  refine x_putFl hin (ffm_X10_9 ci hm).1 (ffm_X10_9 ci hm).2 (show gT (f_X4_init o σ x1) o = some (.inl ci) from ht) dX10_init_7 (n := 10) rfl ?_
  refine x_aload_n dX10_init_10 (n := 11) rfl rfl 0 rfl ?_
  refine x_iload dX10_init_11 (n := 13) rfl 3 rfl ?_
  refine x_putFi hin (ffm_X10_15 ci hm).1 (ffm_X10_15 ci hm).2 (show gT (f_X4_init o σ x1) o = some (.inl ci) from ht) dX10_init_13 (n := 16) rfl ?_
  refine x_wf (fun wE => ?_)
  exact x_widen (k1 := 0) (k2 := 0) (by decide) (by decide) (x_vret rq ⟨⟨fun _ => wE, fun τ wt hg hf hw => (hk2.2 τ wt hg hf w1).l.i⟩, rfl⟩ dX10_init_16)
def f_X11_init (o : Nat) (σ : Hp) (x1 : Int32) (y2 : Int64) (x4 : Int32) : Hp := f_X10_init o σ x1 y2 x4
abbrev rm_X11_init : Room := { frames := 3, cells := 0, slots := 0, locals := 65 }
theorem met_X11_init (o : Nat) (σ : Hp) (x1 : Int32) (y2 : Int64) (x4 : Int32) (ht : gT σ o = some (.inl 10))  : MetX yX11_init cX11_init 5 none rm_X11_init σ [.ref o, .int x1, .long y2, .int x4] (oV (fun σ' => KX o σ σ' ∧ σ' = f_X11_init o σ x1 y2 x4)) 0 0 := by
  refine metI_of (own := RX11) (lvs := [(0, .ref o), (1, .int x1), (2, .long y2), (4, .int x4)]) (by decide) rfl rfl (Nat.le_of_ble_eq_true rfl) rfl (fun G rq hin => ?_)
  refine x_aload_n dX11_init_0 (n := 1) rfl rfl 0 rfl ?_
  refine x_iload_n dX11_init_1 (n := 2) rfl rfl 1 rfl ?_
  refine x_lload_n dX11_init_2 (n := 3) rfl rfl 2 rfl ?_
  refine x_iload dX11_init_3 (n := 5) rfl 3 rfl ?_
  refine x_wf (fun w1 => ?_)
  refine x_callI (mc := 0) (ms := 0) (As := [.int x1, .long y2, .int x4]) (rest := []) ci_X11_3 (met_X10_init o σ x1 y2 x4 10 (by decide) ht) (by decide) rfl rfl rfl dX11_init_5 (n := 8) rfl (fun s hp => ?_)
  obtain ⟨hk2, e⟩ := hp
  subst e
  refine x_wf (fun wE => ?_)
  exact x_widen (k1 := 0) (k2 := 0) (by decide) (by decide) (x_vret rq ⟨⟨fun _ => wE, fun τ wt hg hf hw => (hk2.2 τ wt hg hf w1)⟩, rfl⟩ dX11_init_8)
def f_X12_init (o : Nat) (σ : Hp) (x1 : Int32) (y2 : Int64) (x4 : Int32) : Hp := f_X10_init o σ x1 y2 x4
abbrev rm_X12_init : Room := { frames := 3, cells := 0, slots := 0, locals := 65 }
theorem met_X12_init (o : Nat) (σ : Hp) (x1 : Int32) (y2 : Int64) (x4 : Int32) (ht : gT σ o = some (.inl 11))  : MetX yX12_init cX12_init 5 none rm_X12_init σ [.ref o, .int x1, .long y2, .int x4] (oV (fun σ' => KX o σ σ' ∧ σ' = f_X12_init o σ x1 y2 x4)) 0 0 := by
  refine metI_of (own := RX12) (lvs := [(0, .ref o), (1, .int x1), (2, .long y2), (4, .int x4)]) (by decide) rfl rfl (Nat.le_of_ble_eq_true rfl) rfl (fun G rq hin => ?_)
  refine x_aload_n dX12_init_0 (n := 1) rfl rfl 0 rfl ?_
  refine x_iload_n dX12_init_1 (n := 2) rfl rfl 1 rfl ?_
  refine x_lload_n dX12_init_2 (n := 3) rfl rfl 2 rfl ?_
  refine x_iload dX12_init_3 (n := 5) rfl 3 rfl ?_
  refine x_wf (fun w1 => ?_)
  refine x_callI (mc := 0) (ms := 0) (As := [.int x1, .long y2, .int x4]) (rest := []) ci_X12_1 (met_X10_init o σ x1 y2 x4 11 (by decide) ht) (by decide) rfl rfl rfl dX12_init_5 (n := 8) rfl (fun s hp => ?_)
  obtain ⟨hk2, e⟩ := hp
  subst e
  refine x_wf (fun wE => ?_)
  exact x_widen (k1 := 0) (k2 := 0) (by decide) (by decide) (x_vret rq ⟨⟨fun _ => wE, fun τ wt hg hf hw => (hk2.2 τ wt hg hf w1)⟩, rfl⟩ dX12_init_8)
def f_X14_init (o : Nat) (σ : Hp)  : Hp := σ
abbrev rm_X14_init : Room := { frames := 1, cells := 0, slots := 0, locals := 20 }
theorem met_X14_init (o : Nat) (σ : Hp)  (ci : Nat) (hm : ci ∈ pts) (ht : gT σ o = some (.inl ci))  : MetX yX14_init cX14_init 1 none rm_X14_init σ [.ref o] (oV (fun σ' => KX o σ σ' ∧ σ' = f_X14_init o σ )) 0 0 := by
  refine metI_of (own := RX14) (lvs := [(0, .ref o)]) (by decide) rfl rfl (Nat.le_of_ble_eq_true rfl) rfl (fun G rq hin => ?_)
  refine x_aload_n dX14_init_0 (n := 1) rfl rfl 0 rfl ?_
  refine x_oinit q965 q174 q175 (by decide) dX14_init_1 (n := 4) rfl ?_
  refine x_wf (fun wE => ?_)
  exact x_widen (k1 := 0) (k2 := 0) (by decide) (by decide) (x_vret rq ⟨⟨fun _ => wE, fun τ wt hg hf hw => hg⟩, rfl⟩ dX14_init_4)
def f_X15_init (o : Nat) (σ : Hp) (x1 : Int32) : Hp := pI σ o 0 x1
abbrev rm_X15_init : Room := { frames := 2, cells := 0, slots := 0, locals := 40 }
theorem met_X15_init (o : Nat) (σ : Hp) (x1 : Int32) (ht : gT σ o = some (.inl 12))  : MetX yX15_init cX15_init 2 none rm_X15_init σ [.ref o, .int x1] (oV (fun σ' => KX o σ σ' ∧ σ' = f_X15_init o σ x1)) 0 0 := by
  refine metI_of (own := RX15) (lvs := [(0, .ref o), (1, .int x1)]) (by decide) rfl rfl (Nat.le_of_ble_eq_true rfl) rfl (fun G rq hin => ?_)
  refine x_aload_n dX15_init_0 (n := 1) rfl rfl 0 rfl ?_
  refine x_wf (fun w1 => ?_)
  refine x_callI (mc := 0) (ms := 0) (As := []) (rest := []) ci_X15_1 (met_X14_init o σ  12 (by decide) ht) (by decide) rfl rfl rfl dX15_init_1 (n := 4) rfl (fun s hp => ?_)
  obtain ⟨hk2, e⟩ := hp
  have e : σ = s := e.symm
  subst e
  refine x_aload_n dX15_init_4 (n := 5) rfl rfl 0 rfl ?_
  refine x_iload_n dX15_init_5 (n := 6) rfl rfl 1 rfl ?_
  refine x_putFi hin ff_X15_7_12 rfl (show gT σ o = some (.inl 12) from ht) dX15_init_6 (n := 9) rfl ?_
  refine x_wf (fun wE => ?_)
  exact x_widen (k1 := 0) (k2 := 0) (by decide) (by decide) (x_vret rq ⟨⟨fun _ => wE, fun τ wt hg hf hw => (hk2.2 τ wt hg hf w1).i⟩, rfl⟩ dX15_init_9)
def f_X16_init (o : Nat) (σ : Hp) (x1 : Int32) : Hp := pI σ o 0 x1
abbrev rm_X16_init : Room := { frames := 2, cells := 0, slots := 0, locals := 40 }
theorem met_X16_init (o : Nat) (σ : Hp) (x1 : Int32) (ht : gT σ o = some (.inl 13))  : MetX yX16_init cX16_init 2 none rm_X16_init σ [.ref o, .int x1] (oV (fun σ' => KX o σ σ' ∧ σ' = f_X16_init o σ x1)) 0 0 := by
  refine metI_of (own := RX16) (lvs := [(0, .ref o), (1, .int x1)]) (by decide) rfl rfl (Nat.le_of_ble_eq_true rfl) rfl (fun G rq hin => ?_)
  refine x_aload_n dX16_init_0 (n := 1) rfl rfl 0 rfl ?_
  refine x_wf (fun w1 => ?_)
  refine x_callI (mc := 0) (ms := 0) (As := []) (rest := []) ci_X16_1 (met_X14_init o σ  13 (by decide) ht) (by decide) rfl rfl rfl dX16_init_1 (n := 4) rfl (fun s hp => ?_)
  obtain ⟨hk2, e⟩ := hp
  have e : σ = s := e.symm
  subst e
  refine x_aload_n dX16_init_4 (n := 5) rfl rfl 0 rfl ?_
  refine x_iload_n dX16_init_5 (n := 6) rfl rfl 1 rfl ?_
  refine x_putFi hin ff_X16_7_13 rfl (show gT σ o = some (.inl 13) from ht) dX16_init_6 (n := 9) rfl ?_
  refine x_wf (fun wE => ?_)
  exact x_widen (k1 := 0) (k2 := 0) (by decide) (by decide) (x_vret rq ⟨⟨fun _ => wE, fun τ wt hg hf hw => (hk2.2 τ wt hg hf w1).i⟩, rfl⟩ dX16_init_9)
def f_X17_init (o : Nat) (σ : Hp) (a1 : Nat) : Hp := pR σ o 0 (some a1)
abbrev rm_X17_init : Room := { frames := 2, cells := 0, slots := 0, locals := 40 }
theorem met_X17_init (o : Nat) (σ : Hp) (a1 : Nat) (ci : Nat) (hm : ci ∈ nots) (ht : gT σ o = some (.inl ci))  : MetX yX17_init cX17_init 2 none rm_X17_init σ [.ref o, .ref a1] (oV (fun σ' => KX o σ σ' ∧ σ' = f_X17_init o σ a1)) 0 0 := by
  refine metI_of (own := RX17) (lvs := [(0, .ref o), (1, .ref a1)]) (by decide) rfl rfl (Nat.le_of_ble_eq_true rfl) rfl (fun G rq hin => ?_)
  refine x_aload_n dX17_init_0 (n := 1) rfl rfl 0 rfl ?_
  refine x_wf (fun w1 => ?_)
  refine x_callI (mc := 0) (ms := 0) (As := []) (rest := []) ci_X17_1 (met_X14_init o σ  ci (sub_nots ci hm) ht) (by decide) rfl rfl rfl dX17_init_1 (n := 4) rfl (fun s hp => ?_)
  obtain ⟨hk2, e⟩ := hp
  have e : σ = s := e.symm
  subst e
  refine x_aload_n dX17_init_4 (n := 5) rfl rfl 0 rfl ?_
  refine x_aload_n dX17_init_5 (n := 6) rfl rfl 1 rfl ?_
  refine x_putFr hin (ffm_X17_7 ci hm).1 (ffm_X17_7 ci hm).2 (show gT σ o = some (.inl ci) from ht) dX17_init_6 (n := 9) rfl ?_
  refine x_wf (fun wE => ?_)
  exact x_widen (k1 := 0) (k2 := 0) (by decide) (by decide) (x_vret rq ⟨⟨fun _ => wE, fun τ wt hg hf hw => ((hk2.2 τ wt hg hf w1).r (Or.inl hf))⟩, rfl⟩ dX17_init_9)
def f_X18_init (o : Nat) (σ : Hp) (x1 : Int32) (a2 : Nat) (a3 : Nat) : Hp := pR (pI (f_X17_init o σ a2) o 1 x1) o 2 (some a3)
abbrev rm_X18_init : Room := { frames := 3, cells := 0, slots := 0, locals := 61 }
theorem met_X18_init (o : Nat) (σ : Hp) (x1 : Int32) (a2 : Nat) (a3 : Nat) (ht : gT σ o = some (.inl 15))  : MetX yX18_init cX18_init 4 none rm_X18_init σ [.ref o, .int x1, .ref a2, .ref a3] (oV (fun σ' => KX o σ σ' ∧ σ' = f_X18_init o σ x1 a2 a3)) 0 0 := by
  refine metI_of (own := RX18) (lvs := [(0, .ref o), (1, .int x1), (2, .ref a2), (3, .ref a3)]) (by decide) rfl rfl (Nat.le_of_ble_eq_true rfl) rfl (fun G rq hin => ?_)
  refine x_aload_n dX18_init_0 (n := 1) rfl rfl 0 rfl ?_
  refine x_aload_n dX18_init_1 (n := 2) rfl rfl 2 rfl ?_
  refine x_wf (fun w1 => ?_)
  refine x_callI (mc := 0) (ms := 0) (As := [.ref a2]) (rest := []) ci_X18_3 (met_X17_init o σ a2 15 (by decide) ht) (by decide) rfl rfl rfl dX18_init_2 (n := 5) rfl (fun s hp => ?_)
  obtain ⟨hk2, e⟩ := hp
  subst e
  refine x_aload_n dX18_init_5 (n := 6) rfl rfl 0 rfl ?_
  refine x_iload_n dX18_init_6 (n := 7) rfl rfl 1 rfl ?_
  refine x_putFi hin ff_X18_9_15 rfl (show gT (f_X17_init o σ a2) o = some (.inl 15) from ht) dX18_init_7 (n := 10) rfl ?_
  refine x_aload_n dX18_init_10 (n := 11) rfl rfl 0 rfl ?_
  refine x_aload_n dX18_init_11 (n := 12) rfl rfl 3 rfl ?_
  refine x_putFr hin ff_X18_15_15 rfl (show gT (f_X17_init o σ a2) o = some (.inl 15) from ht) dX18_init_12 (n := 15) rfl ?_
  refine x_wf (fun wE => ?_)
  exact x_widen (k1 := 0) (k2 := 0) (by decide) (by decide) (x_vret rq ⟨⟨fun _ => wE, fun τ wt hg hf hw => ((hk2.2 τ wt hg hf w1).i.r (Or.inl hf))⟩, rfl⟩ dX18_init_15)
def f_X5_init (o : Nat) (σ : Hp) (x1 : Int32) : Hp := pR (pN (pR (pN (f_X4_init o σ x1) (.inr (.int, 8))) o 2 (some (gS (f_X4_init o σ x1)))) (.inr (.int, 8))) o 3 (some (gS (pR (pN (f_X4_init o σ x1) (.inr (.int, 8))) o 2 (some (gS (f_X4_init o σ x1))))))
abbrev rm_X5_init : Room := { frames := 2, cells := 2, slots := 16, locals := 41 }
theorem met_X5_init (o : Nat) (σ : Hp) (x1 : Int32) (ht : gT σ o = some (.inl 5))  : MetX yX5_init cX5_init 2 none rm_X5_init σ [.ref o, .int x1] (oV (fun σ' => KX o σ σ' ∧ σ' = f_X5_init o σ x1)) 2 16 := by
  refine metI_of (own := RX5) (lvs := [(0, .ref o), (1, .int x1)]) (by decide) rfl rfl (Nat.le_of_ble_eq_true rfl) rfl (fun G rq hin => ?_)
  refine x_aload_n dX5_init_0 (n := 1) rfl rfl 0 rfl ?_
  refine x_iload_n dX5_init_1 (n := 2) rfl rfl 1 rfl ?_
  refine x_wf (fun w1 => ?_)
  refine x_callI (mc := 0) (ms := 0) (As := [.int x1]) (rest := []) ci_X5_3 (met_X4_init o σ x1 5 (by decide) ht) (by decide) rfl rfl rfl dX5_init_2 (n := 5) rfl (fun s hp => ?_)
  obtain ⟨hk2, e⟩ := hp
  subst e
  refine x_aload_n dX5_init_5 (n := 6) rfl rfl 0 rfl ?_
  refine x_bipush dX5_init_6 (n := 8) rfl bp_8 ?_
  refine x_wf (fun w3 => ?_)
  refine x_newa (atype := .int) (N := 8) q339 rfl at_int ⟨rfl, by decide, by decide⟩ (by decide) rfl (by decide) (by decide) dX5_init_8 (n := 10) rfl ?_
  refine x_putFr hin ff_X5_9_5 rfl ((gT_old (Nat.ne_of_lt (WF.lt w3 (show gT (f_X4_init o σ x1) o = some (.inl 5) from ht)))).trans (show gT (f_X4_init o σ x1) o = some (.inl 5) from ht)) dX5_init_10 (n := 13) rfl ?_
  refine x_aload_n dX5_init_13 (n := 14) rfl rfl 0 rfl ?_
  refine x_bipush dX5_init_14 (n := 16) rfl bp_8 ?_
  refine x_wf (fun w4 => ?_)
  refine x_newa (atype := .int) (N := 8) q339 rfl at_int ⟨rfl, by decide, by decide⟩ (by decide) rfl (by decide) (by decide) dX5_init_16 (n := 18) rfl ?_
  refine x_putFr hin ff_X5_15_5 rfl ((gT_old (Nat.ne_of_lt (WF.lt w4 ((gT_old (Nat.ne_of_lt (WF.lt w3 (show gT (f_X4_init o σ x1) o = some (.inl 5) from ht)))).trans (show gT (f_X4_init o σ x1) o = some (.inl 5) from ht))))).trans ((gT_old (Nat.ne_of_lt (WF.lt w3 (show gT (f_X4_init o σ x1) o = some (.inl 5) from ht)))).trans (show gT (f_X4_init o σ x1) o = some (.inl 5) from ht))) dX5_init_18 (n := 21) rfl ?_
  refine x_wf (fun wE => ?_)
  exact x_widen (k1 := 2) (k2 := 16) (by decide) (by decide) (x_vret rq ⟨⟨fun _ => wE, fun τ wt hg hf hw => (((((hk2.2 τ wt hg hf w1).n w3 (by decide)).r (Or.inl hf)).n w4 (by decide)).r (Or.inl hf))⟩, rfl⟩ dX5_init_21)
def f_J0_init (o : Nat) (σ : Hp)  : Hp := σ
abbrev rm_J0_init : Room := { frames := 1, cells := 0, slots := 0, locals := 20 }
theorem met_J0_init (o : Nat) (σ : Hp)  (ht : gT σ o = some (.inl 4))  : MetX yJ0_init cJ0_init 1 none rm_J0_init σ [.ref o] (oV (fun σ' => KX o σ σ' ∧ σ' = f_J0_init o σ )) 0 0 := by
  refine metI_of (own := RJ0) (lvs := [(0, .ref o)]) (by decide) rfl rfl (Nat.le_of_ble_eq_true rfl) rfl (fun G rq hin => ?_)
  refine x_aload_n dJ0_init_0 (n := 1) rfl rfl 0 rfl ?_
  refine x_oinit q228 q174 q175 (by decide) dJ0_init_1 (n := 4) rfl ?_
  refine x_wf (fun wE => ?_)
  exact x_widen (k1 := 0) (k2 := 0) (by decide) (by decide) (x_vret rq ⟨⟨fun _ => wE, fun τ wt hg hf hw => hg⟩, rfl⟩ dJ0_init_4)
def f_J1_init (o : Nat) (σ : Hp)  : Hp := pI σ o 0 0
abbrev rm_J1_init : Room := { frames := 2, cells := 0, slots := 0, locals := 40 }
theorem met_J1_init (o : Nat) (σ : Hp)  (ht : gT σ o = some (.inl 4))  : MetX yJ1_init cJ1_init 1 none rm_J1_init σ [.ref o] (oV (fun σ' => KX o σ σ' ∧ σ' = f_J1_init o σ )) 0 0 := by
  refine metI_of (own := RJ1) (lvs := [(0, .ref o)]) (by decide) rfl rfl (Nat.le_of_ble_eq_true rfl) rfl (fun G rq hin => ?_)
  refine x_aload_n dJ1_init_0 (n := 1) rfl rfl 0 rfl ?_
  refine x_wf (fun w1 => ?_)
  refine x_callI (mc := 0) (ms := 0) (As := []) (rest := []) ci_J1_1 (met_J0_init o σ  ht) (by decide) rfl rfl rfl dJ1_init_1 (n := 4) rfl (fun s hp => ?_)
  obtain ⟨hk2, e⟩ := hp
  have e : σ = s := e.symm
  subst e
  refine x_aload_n dJ1_init_4 (n := 5) rfl rfl 0 rfl ?_
  refine x_iconst dJ1_init_5 (n := 6) rfl ic_0 ?_
  refine x_puti fp_J1_7_4 rfl (show gT σ o = some (.inl 4) from ht) dJ1_init_6 (n := 9) rfl ?_
  refine x_wf (fun wE => ?_)
  exact x_widen (k1 := 0) (k2 := 0) (by decide) (by decide) (x_vret rq ⟨⟨fun _ => wE, fun τ wt hg hf hw => (hk2.2 τ wt hg hf w1).i⟩, rfl⟩ dJ1_init_9)
def f_J2_init (o : Nat) (σ : Hp) (x1 : Int32) (N : Nat) : Hp := pR (pN (f_J1_init o σ) (.inr (.object "java/lang/Object", N))) o 1 (some (gS (f_J1_init o σ)))
abbrev rm_J2_init : Room := { frames := 3, cells := 1, slots := 16, locals := 60 }
theorem met_J2_init (o : Nat) (σ : Hp) (x1 : Int32) (N : Nat) (ht : gT σ o = some (.inl 4)) (hx : ¬ x1 ≤ 0) (hN : x1.toNatClampNeg = N) (h16 : N ≤ 16) : MetX yJ2_init cJ2_init 2 none rm_J2_init σ [.ref o, .int x1] (oV (fun σ' => KX o σ σ' ∧ σ' = f_J2_init o σ x1 N)) 1 16 := by
  refine metI_of (own := RJ2) (lvs := [(0, .ref o), (1, .int x1)]) (by decide) rfl rfl (Nat.le_of_ble_eq_true rfl) rfl (fun G rq hin => ?_)
  refine x_aload_n dJ2_init_0 (n := 1) rfl rfl 0 rfl ?_
  refine x_wf (fun w1 => ?_)
  refine x_callI (mc := 0) (ms := 0) (As := []) (rest := []) ci_J2_1 (met_J1_init o σ  ht) (by decide) rfl rfl rfl dJ2_init_1 (n := 4) rfl (fun s hp => ?_)
  obtain ⟨hk2, e⟩ := hp
  subst e
  refine x_iload_n dJ2_init_4 (n := 5) rfl rfl 1 rfl ?_
  refine x_if_le (tgt := 19) dJ2_init_5 rfl (n := 8) rfl (fun q => absurd q hx) (fun _ => ?_)
  refine x_aload_n dJ2_init_8 (n := 9) rfl rfl 0 rfl ?_
  refine x_iload_n dJ2_init_9 (n := 10) rfl rfl 1 rfl ?_
  refine x_wf (fun w3 => ?_)
  refine x_widen (k1 := 0) (k2 := 16 - N) (by decide) (Nat.zero_le _) ?_
  refine x_anew (N := N) q229 q230 at_obj (fun h => hx (Int32.le_of_lt h)) hN (by omega) ⟨by decide, by show 16 - N + N ≤ 16; omega⟩ dJ2_init_10 (n := 13) rfl ?_
  refine x_widen (k1 := 1) (k2 := 16) (by decide) (by omega) ?_
  refine x_putr fp_J2_9_4 rfl ((gT_old (Nat.ne_of_lt (WF.lt w3 (show gT (f_J1_init o σ) o = some (.inl 4) from ht)))).trans (show gT (f_J1_init o σ) o = some (.inl 4) from ht)) dJ2_init_13 (n := 16) rfl ?_
  refine x_goto (tgt := 60) dJ2_init_16 rfl ?_
  refine x_wf (fun wE => ?_)
  exact x_widen (k1 := 1) (k2 := 16) (by decide) (by decide) (x_vret rq ⟨⟨fun _ => wE, fun τ wt hg hf hw => (((hk2.2 τ wt hg hf w1).n (q := .inr (.object "java/lang/Object", N)) w3 h16).r (Or.inl hf))⟩, rfl⟩ dJ2_init_60)
def f_X2_init (o : Nat) (σ : Hp) (a1 : Nat) : Hp := pR σ o 8 (some a1)
abbrev rm_X2_init : Room := { frames := 1, cells := 0, slots := 0, locals := 20 }
theorem met_X2_init (o : Nat) (σ : Hp) (a1 : Nat) (ht : gT σ o = some (.inl 2))  : MetX yX2_init cX2_init 2 none rm_X2_init σ [.ref o, .ref a1] (oV (fun σ' => KX o σ σ' ∧ σ' = f_X2_init o σ a1)) 0 0 := by
  refine metI_of (own := RX2) (lvs := [(0, .ref o), (1, .ref a1)]) (by decide) rfl rfl (Nat.le_of_ble_eq_true rfl) rfl (fun G rq hin => ?_)
  refine x_aload_n dX2_init_0 (n := 1) rfl rfl 0 rfl ?_
  refine x_aload_n dX2_init_1 (n := 2) rfl rfl 1 rfl ?_
  refine x_putFr hin ff_X2_3_2 rfl ht dX2_init_2 (n := 5) rfl ?_
  refine x_aload_n dX2_init_5 (n := 6) rfl rfl 0 rfl ?_
  refine x_oinit q181 q174 q175 (by decide) dX2_init_6 (n := 9) rfl ?_
  refine x_wf (fun wE => ?_)
  exact x_widen (k1 := 0) (k2 := 0) (by decide) (by decide) (x_vret rq ⟨⟨fun _ => wE, fun τ wt hg hf hw => (hg.r (Or.inl hf))⟩, rfl⟩ dX2_init_9)
def f_J9_init_2 (o : Nat) (σ : Hp)  : Hp := pR (pR (pR (pR σ o 0 none) o 1 none) o 2 none) o 3 none
abbrev rm_J9_init_2 : Room := { frames := 1, cells := 0, slots := 0, locals := 20 }
theorem met_J9_init_2 (o : Nat) (σ : Hp)  (ht : gT σ o = some (.inl 16))  : MetX yJ9_init_2 cJ9_init_2 5 none rm_J9_init_2 σ [.ref o, .null, .null, .int 0, .int 0] (oV (fun σ' => KX o σ σ' ∧ σ' = f_J9_init_2 o σ )) 0 0 := by
  refine metI_of (own := RJ9) (lvs := [(0, .ref o), (1, .null), (2, .null), (3, .int 0), (4, .int 0)]) (by decide) rfl rfl (Nat.le_of_ble_eq_true rfl) rfl (fun G rq hin => ?_)
  refine x_aload_n dJ9_init_2_0 (n := 1) rfl rfl 0 rfl ?_
  refine x_oinit q617 q174 q175 (by decide) dJ9_init_2_1 (n := 4) rfl ?_
  refine x_aload_n dJ9_init_2_4 (n := 5) rfl rfl 0 rfl ?_
  refine x_aload_n dJ9_init_2_5 (n := 6) rfl rfl 0 rfl ?_
  refine x_putr fp_J9_7_16 rfl ht dJ9_init_2_6 (n := 9) rfl ?_
  refine x_aload_n dJ9_init_2_9 (n := 10) rfl rfl 0 rfl ?_
  refine x_getsq q618 q619 q145 (by decide +kernel) dJ9_init_2_10 (n := 13) rfl (fun r1 => ?_)
  refine x_putrf (r := r1) fp_J9_17_16 rfl ht dJ9_init_2_13 (n := 16) rfl ?_
  refine x_aload_n dJ9_init_2_16 (n := 17) rfl rfl 0 rfl ?_
  refine x_getsq q620 q621 q145 (by decide +kernel) dJ9_init_2_17 (n := 20) rfl (fun r2 => ?_)
  refine x_putrf (r := r2) fp_J9_24_16 rfl ht dJ9_init_2_20 (n := 23) rfl ?_
  refine x_iload dJ9_init_2_23 (n := 25) rfl 4 rfl ?_
  refine x_if_eq (tgt := 36) dJ9_init_2_25 rfl (n := 28) rfl (fun _ => ?_) (fun q => absurd q (by decide))
  refine x_aload_n dJ9_init_2_36 (n := 37) rfl rfl 0 rfl ?_
  refine x_null dJ9_init_2_37 (n := 38) rfl ?_
  refine x_putrf (r := none) fp_J9_17_16 rfl ht dJ9_init_2_38 (n := 41) rfl ?_
  refine x_aload_n dJ9_init_2_41 (n := 42) rfl rfl 0 rfl ?_
  refine x_aload_nN dJ9_init_2_42 (n := 43) rfl rfl 1 rfl ?_
  refine x_putrf (r := none) fp_J9_31_16 rfl ht dJ9_init_2_43 (n := 46) rfl ?_
  refine x_aload_n dJ9_init_2_46 (n := 47) rfl rfl 0 rfl ?_
  refine x_aload_nN dJ9_init_2_47 (n := 48) rfl rfl 2 rfl ?_
  refine x_putrf (r := none) fp_J9_7_16 rfl ht dJ9_init_2_48 (n := 51) rfl ?_
  refine x_iload_n dJ9_init_2_51 (n := 52) rfl rfl 3 rfl ?_
  refine x_if_ne (tgt := 60) dJ9_init_2_52 rfl (n := 55) rfl (fun q => absurd q (by decide)) (fun _ => ?_)
  refine x_aload_n dJ9_init_2_55 (n := 56) rfl rfl 0 rfl ?_
  refine x_null dJ9_init_2_56 (n := 57) rfl ?_
  refine x_putrf (r := none) fp_J9_24_16 rfl ht dJ9_init_2_57 (n := 60) rfl ?_
  refine x_wf (fun wE => ?_)
  exact x_widen (k1 := 0) (k2 := 0) (by decide) (by decide) (x_vret rq ⟨⟨fun _ => wE, fun τ wt hg hf hw => (((((((hg.r (Or.inl hf)).r (Or.inl hf)).r (Or.inl hf)).r (Or.inl hf)).r (Or.inl hf)).r (Or.inl hf)).r (Or.inl hf))⟩, thr_eq σ o _ _⟩ dJ9_init_2_60)
def f_J10_init (o : Nat) (σ : Hp)  : Hp := f_J9_init_2 o σ
abbrev rm_J10_init : Room := { frames := 2, cells := 0, slots := 0, locals := 44 }
theorem met_J10_init (o : Nat) (σ : Hp)  (ht : gT σ o = some (.inl 16))  : MetX yJ10_init cJ10_init 5 none rm_J10_init σ [.ref o, .null, .null, .int 0, .int 0] (oV (fun σ' => KX o σ σ' ∧ σ' = f_J10_init o σ )) 0 0 := by
  refine metI_of (own := RJ10) (lvs := [(0, .ref o), (1, .null), (2, .null), (3, .int 0), (4, .int 0)]) (by decide) rfl rfl (Nat.le_of_ble_eq_true rfl) rfl (fun G rq hin => ?_)
  refine x_aload_n dJ10_init_0 (n := 1) rfl rfl 0 rfl ?_
  refine x_aload_nN dJ10_init_1 (n := 2) rfl rfl 1 rfl ?_
  refine x_aload_nN dJ10_init_2 (n := 3) rfl rfl 2 rfl ?_
  refine x_iload_n dJ10_init_3 (n := 4) rfl rfl 3 rfl ?_
  refine x_iload dJ10_init_4 (n := 6) rfl 4 rfl ?_
  refine x_wf (fun w1 => ?_)
  refine x_callI (mc := 0) (ms := 0) (As := [.null, .null, .int 0, .int 0]) (rest := []) ci_J10_16 (met_J9_init_2 o σ  ht) (by decide) rfl rfl rfl dJ10_init_6 (n := 9) rfl (fun s hp => ?_)
  obtain ⟨hk2, e⟩ := hp
  subst e
  refine x_wf (fun wE => ?_)
  exact x_widen (k1 := 0) (k2 := 0) (by decide) (by decide) (x_vret rq ⟨⟨fun _ => wE, fun τ wt hg hf hw => (hk2.2 τ wt hg hf w1)⟩, rfl⟩ dJ10_init_9)
def f_X7_init (o : Nat) (σ : Hp) (x1 : Int32) (x2 : Int32) : Hp := pI (pI (f_J10_init o σ) o 6 x1) o 7 x2
abbrev rm_X7_init : Room := { frames := 3, cells := 0, slots := 0, locals := 68 }
theorem met_X7_init (o : Nat) (σ : Hp) (x1 : Int32) (x2 : Int32) (ht : gT σ o = some (.inl 16))  : MetX yX7_init cX7_init 3 none rm_X7_init σ [.ref o, .int x1, .int x2] (oV (fun σ' => KX o σ σ' ∧ σ' = f_X7_init o σ x1 x2)) 0 0 := by
  refine metI_of (own := RX7) (lvs := [(0, .ref o), (1, .int x1), (2, .int x2)]) (by decide) rfl rfl (Nat.le_of_ble_eq_true rfl) rfl (fun G rq hin => ?_)
  refine x_aload_n dX7_init_0 (n := 1) rfl rfl 0 rfl ?_
  refine x_null dX7_init_1 (n := 2) rfl ?_
  refine x_null dX7_init_2 (n := 3) rfl ?_
  refine x_iconst dX7_init_3 (n := 4) rfl ic_0 ?_
  refine x_iconst dX7_init_4 (n := 5) rfl ic_0 ?_
  refine x_wf (fun w1 => ?_)
  refine x_callI (mc := 0) (ms := 0) (As := [.null, .null, .int 0, .int 0]) (rest := []) ci_X7_1 (met_J10_init o σ  ht) (by decide) rfl rfl rfl dX7_init_5 (n := 8) rfl (fun s hp => ?_)
  obtain ⟨hk2, e⟩ := hp
  subst e
  refine x_aload_n dX7_init_8 (n := 9) rfl rfl 0 rfl ?_
  refine x_iload_n dX7_init_9 (n := 10) rfl rfl 1 rfl ?_
  refine x_putFi hin ff_X7_7_16 rfl (show gT (f_J10_init o σ) o = some (.inl 16) from ht) dX7_init_10 (n := 13) rfl ?_
  refine x_aload_n dX7_init_13 (n := 14) rfl rfl 0 rfl ?_
  refine x_iload_n dX7_init_14 (n := 15) rfl rfl 2 rfl ?_
  refine x_putFi hin ff_X7_13_16 rfl (show gT (f_J10_init o σ) o = some (.inl 16) from ht) dX7_init_15 (n := 18) rfl ?_
  refine x_wf (fun wE => ?_)
  exact x_widen (k1 := 0) (k2 := 0) (by decide) (by decide) (x_vret rq ⟨⟨fun _ => wE, fun τ wt hg hf hw => (hk2.2 τ wt hg hf w1).i.i⟩, rfl⟩ dX7_init_18)
def f_X3_init (o : Nat) (σ : Hp)  : Hp := pL (pL (pI (pI (pI (pR (f_J2_init (gS (pR (f_J2_init (gS (pR (f_J2_init (gS (pR (f_J2_init (gS (pR (f_J2_init (gS σ) (pN σ (.inl 4)) 4 4) o 0 (some (gS σ)))) (pN (pR (f_J2_init (gS σ) (pN σ (.inl 4)) 4 4) o 0 (some (gS σ))) (.inl 4)) 4 4) o 1 (some (gS (pR (f_J2_init (gS σ) (pN σ (.inl 4)) 4 4) o 0 (some (gS σ))))))) (pN (pR (f_J2_init (gS (pR (f_J2_init (gS σ) (pN σ (.inl 4)) 4 4) o 0 (some (gS σ)))) (pN (pR (f_J2_init (gS σ) (pN σ (.inl 4)) 4 4) o 0 (some (gS σ))) (.inl 4)) 4 4) o 1 (some (gS (pR (f_J2_init (gS σ) (pN σ (.inl 4)) 4 4) o 0 (some (gS σ)))))) (.inl 4)) 6 6) o 2 (some (gS (pR (f_J2_init (gS (pR (f_J2_init (gS σ) (pN σ (.inl 4)) 4 4) o 0 (some (gS σ)))) (pN (pR (f_J2_init (gS σ) (pN σ (.inl 4)) 4 4) o 0 (some (gS σ))) (.inl 4)) 4 4) o 1 (some (gS (pR (f_J2_init (gS σ) (pN σ (.inl 4)) 4 4) o 0 (some (gS σ)))))))))) (pN (pR (f_J2_init (gS (pR (f_J2_init (gS (pR (f_J2_init (gS σ) (pN σ (.inl 4)) 4 4) o 0 (some (gS σ)))) (pN (pR (f_J2_init (gS σ) (pN σ (.inl 4)) 4 4) o 0 (some (gS σ))) (.inl 4)) 4 4) o 1 (some (gS (pR (f_J2_init (gS σ) (pN σ (.inl 4)) 4 4) o 0 (some (gS σ))))))) (pN (pR (f_J2_init (gS (pR (f_J2_init (gS σ) (pN σ (.inl 4)) 4 4) o 0 (some (gS σ)))) (pN (pR (f_J2_init (gS σ) (pN σ (.inl 4)) 4 4) o 0 (some (gS σ))) (.inl 4)) 4 4) o 1 (some (gS (pR (f_J2_init (gS σ) (pN σ (.inl 4)) 4 4) o 0 (some (gS σ)))))) (.inl 4)) 6 6) o 2 (some (gS (pR (f_J2_init (gS (pR (f_J2_init (gS σ) (pN σ (.inl 4)) 4 4) o 0 (some (gS σ)))) (pN (pR (f_J2_init (gS σ) (pN σ (.inl 4)) 4 4) o 0 (some (gS σ))) (.inl 4)) 4 4) o 1 (some (gS (pR (f_J2_init (gS σ) (pN σ (.inl 4)) 4 4) o 0 (some (gS σ))))))))) (.inl 4)) 4 4) o 3 (some (gS (pR (f_J2_init (gS (pR (f_J2_init (gS (pR (f_J2_init (gS σ) (pN σ (.inl 4)) 4 4) o 0 (some (gS σ)))) (pN (pR (f_J2_init (gS σ) (pN σ (.inl 4)) 4 4) o 0 (some (gS σ))) (.inl 4)) 4 4) o 1 (some (gS (pR (f_J2_init (gS σ) (pN σ (.inl 4)) 4 4) o 0 (some (gS σ))))))) (pN (pR (f_J2_init (gS (pR (f_J2_init (gS σ) (pN σ (.inl 4)) 4 4) o 0 (some (gS σ)))) (pN (pR (f_J2_init (gS σ) (pN σ (.inl 4)) 4 4) o 0 (some (gS σ))) (.inl 4)) 4 4) o 1 (some (gS (pR (f_J2_init (gS σ) (pN σ (.inl 4)) 4 4) o 0 (some (gS σ)))))) (.inl 4)) 6 6) o 2 (some (gS (pR (f_J2_init (gS (pR (f_J2_init (gS σ) (pN σ (.inl 4)) 4 4) o 0 (some (gS σ)))) (pN (pR (f_J2_init (gS σ) (pN σ (.inl 4)) 4 4) o 0 (some (gS σ))) (.inl 4)) 4 4) o 1 (some (gS (pR (f_J2_init (gS σ) (pN σ (.inl 4)) 4 4) o 0 (some (gS σ))))))))))))) (pN (pR (f_J2_init (gS (pR (f_J2_init (gS (pR (f_J2_init (gS (pR (f_J2_init (gS σ) (pN σ (.inl 4)) 4 4) o 0 (some (gS σ)))) (pN (pR (f_J2_init (gS σ) (pN σ (.inl 4)) 4 4) o 0 (some (gS σ))) (.inl 4)) 4 4) o 1 (some (gS (pR (f_J2_init (gS σ) (pN σ (.inl 4)) 4 4) o 0 (some (gS σ))))))) (pN (pR (f_J2_init (gS (pR (f_J2_init (gS σ) (pN σ (.inl 4)) 4 4) o 0 (some (gS σ)))) (pN (pR (f_J2_init (gS σ) (pN σ (.inl 4)) 4 4) o 0 (some (gS σ))) (.inl 4)) 4 4) o 1 (some (gS (pR (f_J2_init (gS σ) (pN σ (.inl 4)) 4 4) o 0 (some (gS σ)))))) (.inl 4)) 6 6) o 2 (some (gS (pR (f_J2_init (gS (pR (f_J2_init (gS σ) (pN σ (.inl 4)) 4 4) o 0 (some (gS σ)))) (pN (pR (f_J2_init (gS σ) (pN σ (.inl 4)) 4 4) o 0 (some (gS σ))) (.inl 4)) 4 4) o 1 (some (gS (pR (f_J2_init (gS σ) (pN σ (.inl 4)) 4 4) o 0 (some (gS σ)))))))))) (pN (pR (f_J2_init (gS (pR (f_J2_init (gS (pR (f_J2_init (gS σ) (pN σ (.inl 4)) 4 4) o 0 (some (gS σ)))) (pN (pR (f_J2_init (gS σ) (pN σ (.inl 4)) 4 4) o 0 (some (gS σ))) (.inl 4)) 4 4) o 1 (some (gS (pR (f_J2_init (gS σ) (pN σ (.inl 4)) 4 4) o 0 (some (gS σ))))))) (pN (pR (f_J2_init (gS (pR (f_J2_init (gS σ) (pN σ (.inl 4)) 4 4) o 0 (some (gS σ)))) (pN (pR (f_J2_init (gS σ) (pN σ (.inl 4)) 4 4) o 0 (some (gS σ))) (.inl 4)) 4 4) o 1 (some (gS (pR (f_J2_init (gS σ) (pN σ (.inl 4)) 4 4) o 0 (some (gS σ)))))) (.inl 4)) 6 6) o 2 (some (gS (pR (f_J2_init (gS (pR (f_J2_init (gS σ) (pN σ (.inl 4)) 4 4) o 0 (some (gS σ)))) (pN (pR (f_J2_init (gS σ) (pN σ (.inl 4)) 4 4) o 0 (some (gS σ))) (.inl 4)) 4 4) o 1 (some (gS (pR (f_J2_init (gS σ) (pN σ (.inl 4)) 4 4) o 0 (some (gS σ))))))))) (.inl 4)) 4 4) o 3 (some (gS (pR (f_J2_init (gS (pR (f_J2_init (gS (pR (f_J2_init (gS σ) (pN σ (.inl 4)) 4 4) o 0 (some (gS σ)))) (pN (pR (f_J2_init (gS σ) (pN σ (.inl 4)) 4 4) o 0 (some (gS σ))) (.inl 4)) 4 4) o 1 (some (gS (pR (f_J2_init (gS σ) (pN σ (.inl 4)) 4 4) o 0 (some (gS σ))))))) (pN (pR (f_J2_init (gS (pR (f_J2_init (gS σ) (pN σ (.inl 4)) 4 4) o 0 (some (gS σ)))) (pN (pR (f_J2_init (gS σ) (pN σ (.inl 4)) 4 4) o 0 (some (gS σ))) (.inl 4)) 4 4) o 1 (some (gS (pR (f_J2_init (gS σ) (pN σ (.inl 4)) 4 4) o 0 (some (gS σ)))))) (.inl 4)) 6 6) o 2 (some (gS (pR (f_J2_init (gS (pR (f_J2_init (gS σ) (pN σ (.inl 4)) 4 4) o 0 (some (gS σ)))) (pN (pR (f_J2_init (gS σ) (pN σ (.inl 4)) 4 4) o 0 (some (gS σ))) (.inl 4)) 4 4) o 1 (some (gS (pR (f_J2_init (gS σ) (pN σ (.inl 4)) 4 4) o 0 (some (gS σ)))))))))))) (.inl 4)) 6 6) o 4 (some (gS (pR (f_J2_init (gS (pR (f_J2_init (gS (pR (f_J2_init (gS (pR (f_J2_init (gS σ) (pN σ (.inl 4)) 4 4) o 0 (some (gS σ)))) (pN (pR (f_J2_init (gS σ) (pN σ (.inl 4)) 4 4) o 0 (some (gS σ))) (.inl 4)) 4 4) o 1 (some (gS (pR (f_J2_init (gS σ) (pN σ (.inl 4)) 4 4) o 0 (some (gS σ))))))) (pN (pR (f_J2_init (gS (pR (f_J2_init (gS σ) (pN σ (.inl 4)) 4 4) o 0 (some (gS σ)))) (pN (pR (f_J2_init (gS σ) (pN σ (.inl 4)) 4 4) o 0 (some (gS σ))) (.inl 4)) 4 4) o 1 (some (gS (pR (f_J2_init (gS σ) (pN σ (.inl 4)) 4 4) o 0 (some (gS σ)))))) (.inl 4)) 6 6) o 2 (some (gS (pR (f_J2_init (gS (pR (f_J2_init (gS σ) (pN σ (.inl 4)) 4 4) o 0 (some (gS σ)))) (pN (pR (f_J2_init (gS σ) (pN σ (.inl 4)) 4 4) o 0 (some (gS σ))) (.inl 4)) 4 4) o 1 (some (gS (pR (f_J2_init (gS σ) (pN σ (.inl 4)) 4 4) o 0 (some (gS σ)))))))))) (pN (pR (f_J2_init (gS (pR (f_J2_init (gS (pR (f_J2_init (gS σ) (pN σ (.inl 4)) 4 4) o 0 (some (gS σ)))) (pN (pR (f_J2_init (gS σ) (pN σ (.inl 4)) 4 4) o 0 (some (gS σ))) (.inl 4)) 4 4) o 1 (some (gS (pR (f_J2_init (gS σ) (pN σ (.inl 4)) 4 4) o 0 (some (gS σ))))))) (pN (pR (f_J2_init (gS (pR (f_J2_init (gS σ) (pN σ (.inl 4)) 4 4) o 0 (some (gS σ)))) (pN (pR (f_J2_init (gS σ) (pN σ (.inl 4)) 4 4) o 0 (some (gS σ))) (.inl 4)) 4 4) o 1 (some (gS (pR (f_J2_init (gS σ) (pN σ (.inl 4)) 4 4) o 0 (some (gS σ)))))) (.inl 4)) 6 6) o 2 (some (gS (pR (f_J2_init (gS (pR (f_J2_init (gS σ) (pN σ (.inl 4)) 4 4) o 0 (some (gS σ)))) (pN (pR (f_J2_init (gS σ) (pN σ (.inl 4)) 4 4) o 0 (some (gS σ))) (.inl 4)) 4 4) o 1 (some (gS (pR (f_J2_init (gS σ) (pN σ (.inl 4)) 4 4) o 0 (some (gS σ))))))))) (.inl 4)) 4 4) o 3 (some (gS (pR (f_J2_init (gS (pR (f_J2_init (gS (pR (f_J2_init (gS σ) (pN σ (.inl 4)) 4 4) o 0 (some (gS σ)))) (pN (pR (f_J2_init (gS σ) (pN σ (.inl 4)) 4 4) o 0 (some (gS σ))) (.inl 4)) 4 4) o 1 (some (gS (pR (f_J2_init (gS σ) (pN σ (.inl 4)) 4 4) o 0 (some (gS σ))))))) (pN (pR (f_J2_init (gS (pR (f_J2_init (gS σ) (pN σ (.inl 4)) 4 4) o 0 (some (gS σ)))) (pN (pR (f_J2_init (gS σ) (pN σ (.inl 4)) 4 4) o 0 (some (gS σ))) (.inl 4)) 4 4) o 1 (some (gS (pR (f_J2_init (gS σ) (pN σ (.inl 4)) 4 4) o 0 (some (gS σ)))))) (.inl 4)) 6 6) o 2 (some (gS (pR (f_J2_init (gS (pR (f_J2_init (gS σ) (pN σ (.inl 4)) 4 4) o 0 (some (gS σ)))) (pN (pR (f_J2_init (gS σ) (pN σ (.inl 4)) 4 4) o 0 (some (gS σ))) (.inl 4)) 4 4) o 1 (some (gS (pR (f_J2_init (gS σ) (pN σ (.inl 4)) 4 4) o 0 (some (gS σ))))))))))))))) o 5 7) o 8 2) o 9 4) o 12 59) o 13 1461
abbrev rm_X3_init : Room := { frames := 4, cells := 10, slots := 95, locals := 81 }
theorem met_X3_init (o : Nat) (σ : Hp)  (ht : gT σ o = some (.inl 3))  : MetX yX3_init cX3_init 1 none rm_X3_init σ [.ref o] (oV (fun σ' => KX o σ σ' ∧ σ' = f_X3_init o σ )) 10 95 := by
  refine metI_of (own := RX3) (lvs := [(0, .ref o)]) (by decide) rfl rfl (Nat.le_of_ble_eq_true rfl) rfl (fun G rq hin => ?_)
  refine x_aload_n dX3_init_0 (n := 1) rfl rfl 0 rfl ?_
  refine x_oinit q216 q174 q175 (by decide) dX3_init_1 (n := 4) rfl ?_
  refine x_aload_n dX3_init_4 (n := 5) rfl rfl 0 rfl ?_
  refine x_wf (fun w1 => ?_)
  refine x_new nx_X3_9 (by decide) dX3_init_5 (n := 8) rfl ?_
  refine x_dup dX3_init_8 (n := 9) rfl rfl ?_
  refine x_iconst dX3_init_9 (n := 10) rfl ic_4 ?_
  refine x_wf (fun w2 => ?_)
  refine x_callI (mc := 1) (ms := 16) (As := [.int 4]) (rest := [.ref (gS σ), .ref o]) ci_X3_11 (met_J2_init (gS σ) (pN σ (.inl 4)) 4 4 (gT_new (σ := σ)) (by decide) rfl (by decide)) (by decide) rfl rfl rfl dX3_init_10 (n := 13) rfl (fun s hp => ?_)
  obtain ⟨hk3, e⟩ := hp
  subst e
  refine x_putFr hin ff_X3_14_3 rfl (GX.t (hk3.2 _ w1 (GX.rf.n w1 (by decide)) (w1 _ (Nat.le_refl _)) w2) ht) dX3_init_13 (n := 16) rfl ?_
  refine x_aload_n dX3_init_16 (n := 17) rfl rfl 0 rfl ?_
  refine x_wf (fun w4 => ?_)
  refine x_new nx_X3_9 (by decide) dX3_init_17 (n := 20) rfl ?_
  refine x_dup dX3_init_20 (n := 21) rfl rfl ?_
  refine x_iconst dX3_init_21 (n := 22) rfl ic_4 ?_
  refine x_wf (fun w5 => ?_)
  refine x_callI (mc := 1) (ms := 16) (As := [.int 4]) (rest := [.ref (gS (pR (f_J2_init (gS σ) (pN σ (.inl 4)) 4 4) o 0 (some (gS σ)))), .ref o]) ci_X3_11 (met_J2_init (gS (pR (f_J2_init (gS σ) (pN σ (.inl 4)) 4 4) o 0 (some (gS σ)))) (pN (pR (f_J2_init (gS σ) (pN σ (.inl 4)) 4 4) o 0 (some (gS σ))) (.inl 4)) 4 4 (gT_new (σ := pR (f_J2_init (gS σ) (pN σ (.inl 4)) 4 4) o 0 (some (gS σ)))) (by decide) rfl (by decide)) (by decide) rfl rfl rfl dX3_init_22 (n := 25) rfl (fun s hp => ?_)
  obtain ⟨hk6, e⟩ := hp
  subst e
  refine x_putFr hin ff_X3_20_3 rfl (GX.t (hk6.2 _ w4 (GX.rf.n w4 (by decide)) (w4 _ (Nat.le_refl _)) w5) (GX.t (hk3.2 _ w1 (GX.rf.n w1 (by decide)) (w1 _ (Nat.le_refl _)) w2) ht)) dX3_init_25 (n := 28) rfl ?_
  refine x_aload_n dX3_init_28 (n := 29) rfl rfl 0 rfl ?_
  refine x_wf (fun w7 => ?_)
  refine x_new nx_X3_9 (by decide) dX3_init_29 (n := 32) rfl ?_
  refine x_dup dX3_init_32 (n := 33) rfl rfl ?_
  refine x_bipush dX3_init_33 (n := 35) rfl bp_6 ?_
  refine x_wf (fun w8 => ?_)
  refine x_callI (mc := 1) (ms := 16) (As := [.int 6]) (rest := [.ref (gS (pR (f_J2_init (gS (pR (f_J2_init (gS σ) (pN σ (.inl 4)) 4 4) o 0 (some (gS σ)))) (pN (pR (f_J2_init (gS σ) (pN σ (.inl 4)) 4 4) o 0 (some (gS σ))) (.inl 4)) 4 4) o 1 (some (gS (pR (f_J2_init (gS σ) (pN σ (.inl 4)) 4 4) o 0 (some (gS σ))))))), .ref o]) ci_X3_11 (met_J2_init (gS (pR (f_J2_init (gS (pR (f_J2_init (gS σ) (pN σ (.inl 4)) 4 4) o 0 (some (gS σ)))) (pN (pR (f_J2_init (gS σ) (pN σ (.inl 4)) 4 4) o 0 (some (gS σ))) (.inl 4)) 4 4) o 1 (some (gS (pR (f_J2_init (gS σ) (pN σ (.inl 4)) 4 4) o 0 (some (gS σ))))))) (pN (pR (f_J2_init (gS (pR (f_J2_init (gS σ) (pN σ (.inl 4)) 4 4) o 0 (some (gS σ)))) (pN (pR (f_J2_init (gS σ) (pN σ (.inl 4)) 4 4) o 0 (some (gS σ))) (.inl 4)) 4 4) o 1 (some (gS (pR (f_J2_init (gS σ) (pN σ (.inl 4)) 4 4) o 0 (some (gS σ)))))) (.inl 4)) 6 6 (gT_new (σ := pR (f_J2_init (gS (pR (f_J2_init (gS σ) (pN σ (.inl 4)) 4 4) o 0 (some (gS σ)))) (pN (pR (f_J2_init (gS σ) (pN σ (.inl 4)) 4 4) o 0 (some (gS σ))) (.inl 4)) 4 4) o 1 (some (gS (pR (f_J2_init (gS σ) (pN σ (.inl 4)) 4 4) o 0 (some (gS σ))))))) (by decide) rfl (by decide)) (by decide) rfl rfl rfl dX3_init_35 (n := 38) rfl (fun s hp => ?_)
  obtain ⟨hk9, e⟩ := hp
  subst e
  refine x_putFr hin ff_X3_23_3 rfl (GX.t (hk9.2 _ w7 (GX.rf.n w7 (by decide)) (w7 _ (Nat.le_refl _)) w8) (GX.t (hk6.2 _ w4 (GX.rf.n w4 (by decide)) (w4 _ (Nat.le_refl _)) w5) (GX.t (hk3.2 _ w1 (GX.rf.n w1 (by decide)) (w1 _ (Nat.le_refl _)) w2) ht))) dX3_init_38 (n := 41) rfl ?_
  refine x_aload_n dX3_init_41 (n := 42) rfl rfl 0 rfl ?_
  refine x_wf (fun w10 => ?_)
  refine x_new nx_X3_9 (by decide) dX3_init_42 (n := 45) rfl ?_
  refine x_dup dX3_init_45 (n := 46) rfl rfl ?_
  refine x_iconst dX3_init_46 (n := 47) rfl ic_4 ?_
  refine x_wf (fun w11 => ?_)
  refine x_callI (mc := 1) (ms := 16) (As := [.int 4]) (rest := [.ref (gS (pR (f_J2_init (gS (pR (f_J2_init (gS (pR (f_J2_init (gS σ) (pN σ (.inl 4)) 4 4) o 0 (some (gS σ)))) (pN (pR (f_J2_init (gS σ) (pN σ (.inl 4)) 4 4) o 0 (some (gS σ))) (.inl 4)) 4 4) o 1 (some (gS (pR (f_J2_init (gS σ) (pN σ (.inl 4)) 4 4) o 0 (some (gS σ))))))) (pN (pR (f_J2_init (gS (pR (f_J2_init (gS σ) (pN σ (.inl 4)) 4 4) o 0 (some (gS σ)))) (pN (pR (f_J2_init (gS σ) (pN σ (.inl 4)) 4 4) o 0 (some (gS σ))) (.inl 4)) 4 4) o 1 (some (gS (pR (f_J2_init (gS σ) (pN σ (.inl 4)) 4 4) o 0 (some (gS σ)))))) (.inl 4)) 6 6) o 2 (some (gS (pR (f_J2_init (gS (pR (f_J2_init (gS σ) (pN σ (.inl 4)) 4 4) o 0 (some (gS σ)))) (pN (pR (f_J2_init (gS σ) (pN σ (.inl 4)) 4 4) o 0 (some (gS σ))) (.inl 4)) 4 4) o 1 (some (gS (pR (f_J2_init (gS σ) (pN σ (.inl 4)) 4 4) o 0 (some (gS σ)))))))))), .ref o]) ci_X3_11 (met_J2_init (gS (pR (f_J2_init (gS (pR (f_J2_init (gS (pR (f_J2_init (gS σ) (pN σ (.inl 4)) 4 4) o 0 (some (gS σ)))) (pN (pR (f_J2_init (gS σ) (pN σ (.inl 4)) 4 4) o 0 (some (gS σ))) (.inl 4)) 4 4) o 1 (some (gS (pR (f_J2_init (gS σ) (pN σ (.inl 4)) 4 4) o 0 (some (gS σ))))))) (pN (pR (f_J2_init (gS (pR (f_J2_init (gS σ) (pN σ (.inl 4)) 4 4) o 0 (some (gS σ)))) (pN (pR (f_J2_init (gS σ) (pN σ (.inl 4)) 4 4) o 0 (some (gS σ))) (.inl 4)) 4 4) o 1 (some (gS (pR (f_J2_init (gS σ) (pN σ (.inl 4)) 4 4) o 0 (some (gS σ)))))) (.inl 4)) 6 6) o 2 (some (gS (pR (f_J2_init (gS (pR (f_J2_init (gS σ) (pN σ (.inl 4)) 4 4) o 0 (some (gS σ)))) (pN (pR (f_J2_init (gS σ) (pN σ (.inl 4)) 4 4) o 0 (some (gS σ))) (.inl 4)) 4 4) o 1 (some (gS (pR (f_J2_init (gS σ) (pN σ (.inl 4)) 4 4) o 0 (some (gS σ)))))))))) (pN (pR (f_J2_init (gS (pR (f_J2_init (gS (pR (f_J2_init (gS σ) (pN σ (.inl 4)) 4 4) o 0 (some (gS σ)))) (pN (pR (f_J2_init (gS σ) (pN σ (.inl 4)) 4 4) o 0 (some (gS σ))) (.inl 4)) 4 4) o 1 (some (gS (pR (f_J2_init (gS σ) (pN σ (.inl 4)) 4 4) o 0 (some (gS σ))))))) (pN (pR (f_J2_init (gS (pR (f_J2_init (gS σ) (pN σ (.inl 4)) 4 4) o 0 (some (gS σ)))) (pN (pR (f_J2_init (gS σ) (pN σ (.inl 4)) 4 4) o 0 (some (gS σ))) (.inl 4)) 4 4) o 1 (some (gS (pR (f_J2_init (gS σ) (pN σ (.inl 4)) 4 4) o 0 (some (gS σ)))))) (.inl 4)) 6 6) o 2 (some (gS (pR (f_J2_init (gS (pR (f_J2_init (gS σ) (pN σ (.inl 4)) 4 4) o 0 (some (gS σ)))) (pN (pR (f_J2_init (gS σ) (pN σ (.inl 4)) 4 4) o 0 (some (gS σ))) (.inl 4)) 4 4) o 1 (some (gS (pR (f_J2_init (gS σ) (pN σ (.inl 4)) 4 4) o 0 (some (gS σ))))))))) (.inl 4)) 4 4 (gT_new (σ := pR (f_J2_init (gS (pR (f_J2_init (gS (pR (f_J2_init (gS σ) (pN σ (.inl 4)) 4 4) o 0 (some (gS σ)))) (pN (pR (f_J2_init (gS σ) (pN σ (.inl 4)) 4 4) o 0 (some (gS σ))) (.inl 4)) 4 4) o 1 (some (gS (pR (f_J2_init (gS σ) (pN σ (.inl 4)) 4 4) o 0 (some (gS σ))))))) (pN (pR (f_J2_init (gS (pR (f_J2_init (gS σ) (pN σ (.inl 4)) 4 4) o 0 (some (gS σ)))) (pN (pR (f_J2_init (gS σ) (pN σ (.inl 4)) 4 4) o 0 (some (gS σ))) (.inl 4)) 4 4) o 1 (some (gS (pR (f_J2_init (gS σ) (pN σ (.inl 4)) 4 4) o 0 (some (gS σ)))))) (.inl 4)) 6 6) o 2 (some (gS (pR (f_J2_init (gS (pR (f_J2_init (gS σ) (pN σ (.inl 4)) 4 4) o 0 (some (gS σ)))) (pN (pR (f_J2_init (gS σ) (pN σ (.inl 4)) 4 4) o 0 (some (gS σ))) (.inl 4)) 4 4) o 1 (some (gS (pR (f_J2_init (gS σ) (pN σ (.inl 4)) 4 4) o 0 (some (gS σ)))))))))) (by decide) rfl (by decide)) (by decide) rfl rfl rfl dX3_init_47 (n := 50) rfl (fun s hp => ?_)
  obtain ⟨hk12, e⟩ := hp
  subst e
  refine x_putFr hin ff_X3_26_3 rfl (GX.t (hk12.2 _ w10 (GX.rf.n w10 (by decide)) (w10 _ (Nat.le_refl _)) w11) (GX.t (hk9.2 _ w7 (GX.rf.n w7 (by decide)) (w7 _ (Nat.le_refl _)) w8) (GX.t (hk6.2 _ w4 (GX.rf.n w4 (by decide)) (w4 _ (Nat.le_refl _)) w5) (GX.t (hk3.2 _ w1 (GX.rf.n w1 (by decide)) (w1 _ (Nat.le_refl _)) w2) ht)))) dX3_init_50 (n := 53) rfl ?_
  refine x_aload_n dX3_init_53 (n := 54) rfl rfl 0 rfl ?_
  refine x_wf (fun w13 => ?_)
  refine x_new nx_X3_9 (by decide) dX3_init_54 (n := 57) rfl ?_
  refine x_dup dX3_init_57 (n := 58) rfl rfl ?_
  refine x_bipush dX3_init_58 (n := 60) rfl bp_6 ?_
  refine x_wf (fun w14 => ?_)
  refine x_callI (mc := 1) (ms := 16) (As := [.int 6]) (rest := [.ref (gS (pR (f_J2_init (gS (pR (f_J2_init (gS (pR (f_J2_init (gS (pR (f_J2_init (gS σ) (pN σ (.inl 4)) 4 4) o 0 (some (gS σ)))) (pN (pR (f_J2_init (gS σ) (pN σ (.inl 4)) 4 4) o 0 (some (gS σ))) (.inl 4)) 4 4) o 1 (some (gS (pR (f_J2_init (gS σ) (pN σ (.inl 4)) 4 4) o 0 (some (gS σ))))))) (pN (pR (f_J2_init (gS (pR (f_J2_init (gS σ) (pN σ (.inl 4)) 4 4) o 0 (some (gS σ)))) (pN (pR (f_J2_init (gS σ) (pN σ (.inl 4)) 4 4) o 0 (some (gS σ))) (.inl 4)) 4 4) o 1 (some (gS (pR (f_J2_init (gS σ) (pN σ (.inl 4)) 4 4) o 0 (some (gS σ)))))) (.inl 4)) 6 6) o 2 (some (gS (pR (f_J2_init (gS (pR (f_J2_init (gS σ) (pN σ (.inl 4)) 4 4) o 0 (some (gS σ)))) (pN (pR (f_J2_init (gS σ) (pN σ (.inl 4)) 4 4) o 0 (some (gS σ))) (.inl 4)) 4 4) o 1 (some (gS (pR (f_J2_init (gS σ) (pN σ (.inl 4)) 4 4) o 0 (some (gS σ)))))))))) (pN (pR (f_J2_init (gS (pR (f_J2_init (gS (pR (f_J2_init (gS σ) (pN σ (.inl 4)) 4 4) o 0 (some (gS σ)))) (pN (pR (f_J2_init (gS σ) (pN σ (.inl 4)) 4 4) o 0 (some (gS σ))) (.inl 4)) 4 4) o 1 (some (gS (pR (f_J2_init (gS σ) (pN σ (.inl 4)) 4 4) o 0 (some (gS σ))))))) (pN (pR (f_J2_init (gS (pR (f_J2_init (gS σ) (pN σ (.inl 4)) 4 4) o 0 (some (gS σ)))) (pN (pR (f_J2_init (gS σ) (pN σ (.inl 4)) 4 4) o 0 (some (gS σ))) (.inl 4)) 4 4) o 1 (some (gS (pR (f_J2_init (gS σ) (pN σ (.inl 4)) 4 4) o 0 (some (gS σ)))))) (.inl 4)) 6 6) o 2 (some (gS (pR (f_J2_init (gS (pR (f_J2_init (gS σ) (pN σ (.inl 4)) 4 4) o 0 (some (gS σ)))) (pN (pR (f_J2_init (gS σ) (pN σ (.inl 4)) 4 4) o 0 (some (gS σ))) (.inl 4)) 4 4) o 1 (some (gS (pR (f_J2_init (gS σ) (pN σ (.inl 4)) 4 4) o 0 (some (gS σ))))))))) (.inl 4)) 4 4) o 3 (some (gS (pR (f_J2_init (gS (pR (f_J2_init (gS (pR (f_J2_init (gS σ) (pN σ (.inl 4)) 4 4) o 0 (some (gS σ)))) (pN (pR (f_J2_init (gS σ) (pN σ (.inl 4)) 4 4) o 0 (some (gS σ))) (.inl 4)) 4 4) o 1 (some (gS (pR (f_J2_init (gS σ) (pN σ (.inl 4)) 4 4) o 0 (some (gS σ))))))) (pN (pR (f_J2_init (gS (pR (f_J2_init (gS σ) (pN σ (.inl 4)) 4 4) o 0 (some (gS σ)))) (pN (pR (f_J2_init (gS σ) (pN σ (.inl 4)) 4 4) o 0 (some (gS σ))) (.inl 4)) 4 4) o 1 (some (gS (pR (f_J2_init (gS σ) (pN σ (.inl 4)) 4 4) o 0 (some (gS σ)))))) (.inl 4)) 6 6) o 2 (some (gS (pR (f_J2_init (gS (pR (f_J2_init (gS σ) (pN σ (.inl 4)) 4 4) o 0 (some (gS σ)))) (pN (pR (f_J2_init (gS σ) (pN σ (.inl 4)) 4 4) o 0 (some (gS σ))) (.inl 4)) 4 4) o 1 (some (gS (pR (f_J2_init (gS σ) (pN σ (.inl 4)) 4 4) o 0 (some (gS σ))))))))))))), .ref o]) ci_X3_11 (met_J2_init (gS (pR (f_J2_init (gS (pR (f_J2_init (gS (pR (f_J2_init (gS (pR (f_J2_init (gS σ) (pN σ (.inl 4)) 4 4) o 0 (some (gS σ)))) (pN (pR (f_J2_init (gS σ) (pN σ (.inl 4)) 4 4) o 0 (some (gS σ))) (.inl 4)) 4 4) o 1 (some (gS (pR (f_J2_init (gS σ) (pN σ (.inl 4)) 4 4) o 0 (some (gS σ))))))) (pN (pR (f_J2_init (gS (pR (f_J2_init (gS σ) (pN σ (.inl 4)) 4 4) o 0 (some (gS σ)))) (pN (pR (f_J2_init (gS σ) (pN σ (.inl 4)) 4 4) o 0 (some (gS σ))) (.inl 4)) 4 4) o 1 (some (gS (pR (f_J2_init (gS σ) (pN σ (.inl 4)) 4 4) o 0 (some (gS σ)))))) (.inl 4)) 6 6) o 2 (some (gS (pR (f_J2_init (gS (pR (f_J2_init (gS σ) (pN σ (.inl 4)) 4 4) o 0 (some (gS σ)))) (pN (pR (f_J2_init (gS σ) (pN σ (.inl 4)) 4 4) o 0 (some (gS σ))) (.inl 4)) 4 4) o 1 (some (gS (pR (f_J2_init (gS σ) (pN σ (.inl 4)) 4 4) o 0 (some (gS σ)))))))))) (pN (pR (f_J2_init (gS (pR (f_J2_init (gS (pR (f_J2_init (gS σ) (pN σ (.inl 4)) 4 4) o 0 (some (gS σ)))) (pN (pR (f_J2_init (gS σ) (pN σ (.inl 4)) 4 4) o 0 (some (gS σ))) (.inl 4)) 4 4) o 1 (some (gS (pR (f_J2_init (gS σ) (pN σ (.inl 4)) 4 4) o 0 (some (gS σ))))))) (pN (pR (f_J2_init (gS (pR (f_J2_init (gS σ) (pN σ (.inl 4)) 4 4) o 0 (some (gS σ)))) (pN (pR (f_J2_init (gS σ) (pN σ (.inl 4)) 4 4) o 0 (some (gS σ))) (.inl 4)) 4 4) o 1 (some (gS (pR (f_J2_init (gS σ) (pN σ (.inl 4)) 4 4) o 0 (some (gS σ)))))) (.inl 4)) 6 6) o 2 (some (gS (pR (f_J2_init (gS (pR (f_J2_init (gS σ) (pN σ (.inl 4)) 4 4) o 0 (some (gS σ)))) (pN (pR (f_J2_init (gS σ) (pN σ (.inl 4)) 4 4) o 0 (some (gS σ))) (.inl 4)) 4 4) o 1 (some (gS (pR (f_J2_init (gS σ) (pN σ (.inl 4)) 4 4) o 0 (some (gS σ))))))))) (.inl 4)) 4 4) o 3 (some (gS (pR (f_J2_init (gS (pR (f_J2_init (gS (pR (f_J2_init (gS σ) (pN σ (.inl 4)) 4 4) o 0 (some (gS σ)))) (pN (pR (f_J2_init (gS σ) (pN σ (.inl 4)) 4 4) o 0 (some (gS σ))) (.inl 4)) 4 4) o 1 (some (gS (pR (f_J2_init (gS σ) (pN σ (.inl 4)) 4 4) o 0 (some (gS σ))))))) (pN (pR (f_J2_init (gS (pR (f_J2_init (gS σ) (pN σ (.inl 4)) 4 4) o 0 (some (gS σ)))) (pN (pR (f_J2_init (gS σ) (pN σ (.inl 4)) 4 4) o 0 (some (gS σ))) (.inl 4)) 4 4) o 1 (some (gS (pR (f_J2_init (gS σ) (pN σ (.inl 4)) 4 4) o 0 (some (gS σ)))))) (.inl 4)) 6 6) o 2 (some (gS (pR (f_J2_init (gS (pR (f_J2_init (gS σ) (pN σ (.inl 4)) 4 4) o 0 (some (gS σ)))) (pN (pR (f_J2_init (gS σ) (pN σ (.inl 4)) 4 4) o 0 (some (gS σ))) (.inl 4)) 4 4) o 1 (some (gS (pR (f_J2_init (gS σ) (pN σ (.inl 4)) 4 4) o 0 (some (gS σ))))))))))))) (pN (pR (f_J2_init (gS (pR (f_J2_init (gS (pR (f_J2_init (gS (pR (f_J2_init (gS σ) (pN σ (.inl 4)) 4 4) o 0 (some (gS σ)))) (pN (pR (f_J2_init (gS σ) (pN σ (.inl 4)) 4 4) o 0 (some (gS σ))) (.inl 4)) 4 4) o 1 (some (gS (pR (f_J2_init (gS σ) (pN σ (.inl 4)) 4 4) o 0 (some (gS σ))))))) (pN (pR (f_J2_init (gS (pR (f_J2_init (gS σ) (pN σ (.inl 4)) 4 4) o 0 (some (gS σ)))) (pN (pR (f_J2_init (gS σ) (pN σ (.inl 4)) 4 4) o 0 (some (gS σ))) (.inl 4)) 4 4) o 1 (some (gS (pR (f_J2_init (gS σ) (pN σ (.inl 4)) 4 4) o 0 (some (gS σ)))))) (.inl 4)) 6 6) o 2 (some (gS (pR (f_J2_init (gS (pR (f_J2_init (gS σ) (pN σ (.inl 4)) 4 4) o 0 (some (gS σ)))) (pN (pR (f_J2_init (gS σ) (pN σ (.inl 4)) 4 4) o 0 (some (gS σ))) (.inl 4)) 4 4) o 1 (some (gS (pR (f_J2_init (gS σ) (pN σ (.inl 4)) 4 4) o 0 (some (gS σ)))))))))) (pN (pR (f_J2_init (gS (pR (f_J2_init (gS (pR (f_J2_init (gS σ) (pN σ (.inl 4)) 4 4) o 0 (some (gS σ)))) (pN (pR (f_J2_init (gS σ) (pN σ (.inl 4)) 4 4) o 0 (some (gS σ))) (.inl 4)) 4 4) o 1 (some (gS (pR (f_J2_init (gS σ) (pN σ (.inl 4)) 4 4) o 0 (some (gS σ))))))) (pN (pR (f_J2_init (gS (pR (f_J2_init (gS σ) (pN σ (.inl 4)) 4 4) o 0 (some (gS σ)))) (pN (pR (f_J2_init (gS σ) (pN σ (.inl 4)) 4 4) o 0 (some (gS σ))) (.inl 4)) 4 4) o 1 (some (gS (pR (f_J2_init (gS σ) (pN σ (.inl 4)) 4 4) o 0 (some (gS σ)))))) (.inl 4)) 6 6) o 2 (some (gS (pR (f_J2_init (gS (pR (f_J2_init (gS σ) (pN σ (.inl 4)) 4 4) o 0 (some (gS σ)))) (pN (pR (f_J2_init (gS σ) (pN σ (.inl 4)) 4 4) o 0 (some (gS σ))) (.inl 4)) 4 4) o 1 (some (gS (pR (f_J2_init (gS σ) (pN σ (.inl 4)) 4 4) o 0 (some (gS σ))))))))) (.inl 4)) 4 4) o 3 (some (gS (pR (f_J2_init (gS (pR (f_J2_init (gS (pR (f_J2_init (gS σ) (pN σ (.inl 4)) 4 4) o 0 (some (gS σ)))) (pN (pR (f_J2_init (gS σ) (pN σ (.inl 4)) 4 4) o 0 (some (gS σ))) (.inl 4)) 4 4) o 1 (some (gS (pR (f_J2_init (gS σ) (pN σ (.inl 4)) 4 4) o 0 (some (gS σ))))))) (pN (pR (f_J2_init (gS (pR (f_J2_init (gS σ) (pN σ (.inl 4)) 4 4) o 0 (some (gS σ)))) (pN (pR (f_J2_init (gS σ) (pN σ (.inl 4)) 4 4) o 0 (some (gS σ))) (.inl 4)) 4 4) o 1 (some (gS (pR (f_J2_init (gS σ) (pN σ (.inl 4)) 4 4) o 0 (some (gS σ)))))) (.inl 4)) 6 6) o 2 (some (gS (pR (f_J2_init (gS (pR (f_J2_init (gS σ) (pN σ (.inl 4)) 4 4) o 0 (some (gS σ)))) (pN (pR (f_J2_init (gS σ) (pN σ (.inl 4)) 4 4) o 0 (some (gS σ))) (.inl 4)) 4 4) o 1 (some (gS (pR (f_J2_init (gS σ) (pN σ (.inl 4)) 4 4) o 0 (some (gS σ)))))))))))) (.inl 4)) 6 6 (gT_new (σ := pR (f_J2_init (gS (pR (f_J2_init (gS (pR (f_J2_init (gS (pR (f_J2_init (gS σ) (pN σ (.inl 4)) 4 4) o 0 (some (gS σ)))) (pN (pR (f_J2_init (gS σ) (pN σ (.inl 4)) 4 4) o 0 (some (gS σ))) (.inl 4)) 4 4) o 1 (some (gS (pR (f_J2_init (gS σ) (pN σ (.inl 4)) 4 4) o 0 (some (gS σ))))))) (pN (pR (f_J2_init (gS (pR (f_J2_init (gS σ) (pN σ (.inl 4)) 4 4) o 0 (some (gS σ)))) (pN (pR (f_J2_init (gS σ) (pN σ (.inl 4)) 4 4) o 0 (some (gS σ))) (.inl 4)) 4 4) o 1 (some (gS (pR (f_J2_init (gS σ) (pN σ (.inl 4)) 4 4) o 0 (some (gS σ)))))) (.inl 4)) 6 6) o 2 (some (gS (pR (f_J2_init (gS (pR (f_J2_init (gS σ) (pN σ (.inl 4)) 4 4) o 0 (some (gS σ)))) (pN (pR (f_J2_init (gS σ) (pN σ (.inl 4)) 4 4) o 0 (some (gS σ))) (.inl 4)) 4 4) o 1 (some (gS (pR (f_J2_init (gS σ) (pN σ (.inl 4)) 4 4) o 0 (some (gS σ)))))))))) (pN (pR (f_J2_init (gS (pR (f_J2_init (gS (pR (f_J2_init (gS σ) (pN σ (.inl 4)) 4 4) o 0 (some (gS σ)))) (pN (pR (f_J2_init (gS σ) (pN σ (.inl 4)) 4 4) o 0 (some (gS σ))) (.inl 4)) 4 4) o 1 (some (gS (pR (f_J2_init (gS σ) (pN σ (.inl 4)) 4 4) o 0 (some (gS σ))))))) (pN (pR (f_J2_init (gS (pR (f_J2_init (gS σ) (pN σ (.inl 4)) 4 4) o 0 (some (gS σ)))) (pN (pR (f_J2_init (gS σ) (pN σ (.inl 4)) 4 4) o 0 (some (gS σ))) (.inl 4)) 4 4) o 1 (some (gS (pR (f_J2_init (gS σ) (pN σ (.inl 4)) 4 4) o 0 (some (gS σ)))))) (.inl 4)) 6 6) o 2 (some (gS (pR (f_J2_init (gS (pR (f_J2_init (gS σ) (pN σ (.inl 4)) 4 4) o 0 (some (gS σ)))) (pN (pR (f_J2_init (gS σ) (pN σ (.inl 4)) 4 4) o 0 (some (gS σ))) (.inl 4)) 4 4) o 1 (some (gS (pR (f_J2_init (gS σ) (pN σ (.inl 4)) 4 4) o 0 (some (gS σ))))))))) (.inl 4)) 4 4) o 3 (some (gS (pR (f_J2_init (gS (pR (f_J2_init (gS (pR (f_J2_init (gS σ) (pN σ (.inl 4)) 4 4) o 0 (some (gS σ)))) (pN (pR (f_J2_init (gS σ) (pN σ (.inl 4)) 4 4) o 0 (some (gS σ))) (.inl 4)) 4 4) o 1 (some (gS (pR (f_J2_init (gS σ) (pN σ (.inl 4)) 4 4) o 0 (some (gS σ))))))) (pN (pR (f_J2_init (gS (pR (f_J2_init (gS σ) (pN σ (.inl 4)) 4 4) o 0 (some (gS σ)))) (pN (pR (f_J2_init (gS σ) (pN σ (.inl 4)) 4 4) o 0 (some (gS σ))) (.inl 4)) 4 4) o 1 (some (gS (pR (f_J2_init (gS σ) (pN σ (.inl 4)) 4 4) o 0 (some (gS σ)))))) (.inl 4)) 6 6) o 2 (some (gS (pR (f_J2_init (gS (pR (f_J2_init (gS σ) (pN σ (.inl 4)) 4 4) o 0 (some (gS σ)))) (pN (pR (f_J2_init (gS σ) (pN σ (.inl 4)) 4 4) o 0 (some (gS σ))) (.inl 4)) 4 4) o 1 (some (gS (pR (f_J2_init (gS σ) (pN σ (.inl 4)) 4 4) o 0 (some (gS σ))))))))))))) (by decide) rfl (by decide)) (by decide) rfl rfl rfl dX3_init_60 (n := 63) rfl (fun s hp => ?_)
  obtain ⟨hk15, e⟩ := hp
  subst e
  refine x_putFr hin ff_X3_29_3 rfl (GX.t (hk15.2 _ w13 (GX.rf.n w13 (by decide)) (w13 _ (Nat.le_refl _)) w14) (GX.t (hk12.2 _ w10 (GX.rf.n w10 (by decide)) (w10 _ (Nat.le_refl _)) w11) (GX.t (hk9.2 _ w7 (GX.rf.n w7 (by decide)) (w7 _ (Nat.le_refl _)) w8) (GX.t (hk6.2 _ w4 (GX.rf.n w4 (by decide)) (w4 _ (Nat.le_refl _)) w5) (GX.t (hk3.2 _ w1 (GX.rf.n w1 (by decide)) (w1 _ (Nat.le_refl _)) w2) ht))))) dX3_init_63 (n := 66) rfl ?_
  refine x_aload_n dX3_init_66 (n := 67) rfl rfl 0 rfl ?_
  refine x_bipush dX3_init_67 (n := 69) rfl bp_7 ?_
  refine x_puti fp_X3_32_3 rfl (GX.t (hk15.2 _ w13 (GX.rf.n w13 (by decide)) (w13 _ (Nat.le_refl _)) w14) (GX.t (hk12.2 _ w10 (GX.rf.n w10 (by decide)) (w10 _ (Nat.le_refl _)) w11) (GX.t (hk9.2 _ w7 (GX.rf.n w7 (by decide)) (w7 _ (Nat.le_refl _)) w8) (GX.t (hk6.2 _ w4 (GX.rf.n w4 (by decide)) (w4 _ (Nat.le_refl _)) w5) (GX.t (hk3.2 _ w1 (GX.rf.n w1 (by decide)) (w1 _ (Nat.le_refl _)) w2) ht))))) dX3_init_69 (n := 72) rfl ?_
  refine x_aload_n dX3_init_72 (n := 73) rfl rfl 0 rfl ?_
  refine x_iconst dX3_init_73 (n := 74) rfl ic_2 ?_
  refine x_puti fp_X3_36_3 rfl (GX.t (hk15.2 _ w13 (GX.rf.n w13 (by decide)) (w13 _ (Nat.le_refl _)) w14) (GX.t (hk12.2 _ w10 (GX.rf.n w10 (by decide)) (w10 _ (Nat.le_refl _)) w11) (GX.t (hk9.2 _ w7 (GX.rf.n w7 (by decide)) (w7 _ (Nat.le_refl _)) w8) (GX.t (hk6.2 _ w4 (GX.rf.n w4 (by decide)) (w4 _ (Nat.le_refl _)) w5) (GX.t (hk3.2 _ w1 (GX.rf.n w1 (by decide)) (w1 _ (Nat.le_refl _)) w2) ht))))) dX3_init_74 (n := 77) rfl ?_
  refine x_aload_n dX3_init_77 (n := 78) rfl rfl 0 rfl ?_
  refine x_iconst dX3_init_78 (n := 79) rfl ic_4 ?_
  refine x_puti fp_X3_39_3 rfl (GX.t (hk15.2 _ w13 (GX.rf.n w13 (by decide)) (w13 _ (Nat.le_refl _)) w14) (GX.t (hk12.2 _ w10 (GX.rf.n w10 (by decide)) (w10 _ (Nat.le_refl _)) w11) (GX.t (hk9.2 _ w7 (GX.rf.n w7 (by decide)) (w7 _ (Nat.le_refl _)) w8) (GX.t (hk6.2 _ w4 (GX.rf.n w4 (by decide)) (w4 _ (Nat.le_refl _)) w5) (GX.t (hk3.2 _ w1 (GX.rf.n w1 (by decide)) (w1 _ (Nat.le_refl _)) w2) ht))))) dX3_init_79 (n := 82) rfl ?_
  refine x_aload_n dX3_init_82 (n := 83) rfl rfl 0 rfl ?_
  refine x_ldc2 dX3_init_83 (n := 86) rfl q245 ?_
  refine x_putl fp_X3_44_3 rfl (GX.t (hk15.2 _ w13 (GX.rf.n w13 (by decide)) (w13 _ (Nat.le_refl _)) w14) (GX.t (hk12.2 _ w10 (GX.rf.n w10 (by decide)) (w10 _ (Nat.le_refl _)) w11) (GX.t (hk9.2 _ w7 (GX.rf.n w7 (by decide)) (w7 _ (Nat.le_refl _)) w8) (GX.t (hk6.2 _ w4 (GX.rf.n w4 (by decide)) (w4 _ (Nat.le_refl _)) w5) (GX.t (hk3.2 _ w1 (GX.rf.n w1 (by decide)) (w1 _ (Nat.le_refl _)) w2) ht))))) dX3_init_86 (n := 89) rfl ?_
  refine x_aload_n dX3_init_89 (n := 90) rfl rfl 0 rfl ?_
  refine x_ldc2 dX3_init_90 (n := 93) rfl q246 ?_
  refine x_putl fp_X3_50_3 rfl (GX.t (hk15.2 _ w13 (GX.rf.n w13 (by decide)) (w13 _ (Nat.le_refl _)) w14) (GX.t (hk12.2 _ w10 (GX.rf.n w10 (by decide)) (w10 _ (Nat.le_refl _)) w11) (GX.t (hk9.2 _ w7 (GX.rf.n w7 (by decide)) (w7 _ (Nat.le_refl _)) w8) (GX.t (hk6.2 _ w4 (GX.rf.n w4 (by decide)) (w4 _ (Nat.le_refl _)) w5) (GX.t (hk3.2 _ w1 (GX.rf.n w1 (by decide)) (w1 _ (Nat.le_refl _)) w2) ht))))) dX3_init_93 (n := 96) rfl ?_
  refine x_wf (fun wE => ?_)
  exact x_widen (k1 := 10) (k2 := 95) (by decide) (by decide) (x_vret rq ⟨⟨fun _ => wE, fun τ wt hg hf hw => ((hk15.2 τ wt (((hk12.2 τ wt (((hk9.2 τ wt (((hk6.2 τ wt (((hk3.2 τ wt (hg.n w1 (by decide)) (hg.fresh wt) w2).r (Or.inl hf)).n w4 (by decide)) (((hk3.2 τ wt (hg.n w1 (by decide)) (hg.fresh wt) w2).r (Or.inl hf)).fresh wt) w5).r (Or.inl hf)).n w7 (by decide)) (((hk6.2 τ wt (((hk3.2 τ wt (hg.n w1 (by decide)) (hg.fresh wt) w2).r (Or.inl hf)).n w4 (by decide)) (((hk3.2 τ wt (hg.n w1 (by decide)) (hg.fresh wt) w2).r (Or.inl hf)).fresh wt) w5).r (Or.inl hf)).fresh wt) w8).r (Or.inl hf)).n w10 (by decide)) (((hk9.2 τ wt (((hk6.2 τ wt (((hk3.2 τ wt (hg.n w1 (by decide)) (hg.fresh wt) w2).r (Or.inl hf)).n w4 (by decide)) (((hk3.2 τ wt (hg.n w1 (by decide)) (hg.fresh wt) w2).r (Or.inl hf)).fresh wt) w5).r (Or.inl hf)).n w7 (by decide)) (((hk6.2 τ wt (((hk3.2 τ wt (hg.n w1 (by decide)) (hg.fresh wt) w2).r (Or.inl hf)).n w4 (by decide)) (((hk3.2 τ wt (hg.n w1 (by decide)) (hg.fresh wt) w2).r (Or.inl hf)).fresh wt) w5).r (Or.inl hf)).fresh wt) w8).r (Or.inl hf)).fresh wt) w11).r (Or.inl hf)).n w13 (by decide)) (((hk12.2 τ wt (((hk9.2 τ wt (((hk6.2 τ wt (((hk3.2 τ wt (hg.n w1 (by decide)) (hg.fresh wt) w2).r (Or.inl hf)).n w4 (by decide)) (((hk3.2 τ wt (hg.n w1 (by decide)) (hg.fresh wt) w2).r (Or.inl hf)).fresh wt) w5).r (Or.inl hf)).n w7 (by decide)) (((hk6.2 τ wt (((hk3.2 τ wt (hg.n w1 (by decide)) (hg.fresh wt) w2).r (Or.inl hf)).n w4 (by decide)) (((hk3.2 τ wt (hg.n w1 (by decide)) (hg.fresh wt) w2).r (Or.inl hf)).fresh wt) w5).r (Or.inl hf)).fresh wt) w8).r (Or.inl hf)).n w10 (by decide)) (((hk9.2 τ wt (((hk6.2 τ wt (((hk3.2 τ wt (hg.n w1 (by decide)) (hg.fresh wt) w2).r (Or.inl hf)).n w4 (by decide)) (((hk3.2 τ wt (hg.n w1 (by decide)) (hg.fresh wt) w2).r (Or.inl hf)).fresh wt) w5).r (Or.inl hf)).n w7 (by decide)) (((hk6.2 τ wt (((hk3.2 τ wt (hg.n w1 (by decide)) (hg.fresh wt) w2).r (Or.inl hf)).n w4 (by decide)) (((hk3.2 τ wt (hg.n w1 (by decide)) (hg.fresh wt) w2).r (Or.inl hf)).fresh wt) w5).r (Or.inl hf)).fresh wt) w8).r (Or.inl hf)).fresh wt) w11).r (Or.inl hf)).fresh wt) w14).r (Or.inl hf)).i.i.i.l.l⟩, rfl⟩ dX3_init_96)
