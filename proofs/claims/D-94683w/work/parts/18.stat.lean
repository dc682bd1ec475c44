set_option maxRecDepth 100000
theorem XB.S {B : Nat} {D : DD} {σ : Hp} {s : State} {H : Heap} {locs : List Loc} (h : XB B D σ s H locs) : va_S (fun q => B ≤ q) s.heap H locs :=
  ⟨h.2.2.2.2.1, fun q _ h2 => h.2.2.2.2.2.1 q (Nat.not_le.mp h2), h.2.2.2.2.2.2.1⟩
/-- a static of the start, seen from here -/
theorem SX.Z {B : Nat} {s : State} (h : SX B s s.heap) {C n d : String} (hl : Cond.laysStatic C n d ∈ lw_tbl) (hi : Cond.initialized C ∈ lw_all) : ∀ (P : Value → Prop), (∀ (s0 : State) (b0 : Nat), (Jvm.Cond.and given_1 narrow_1).before #[Value.ref b0] s0 = true → ∃ v, (Term.static C n d).eval #[Value.ref b0] s0 none [] s0 = some v ∧ P v) → ∃ v, P v ∧ va_Z C n d v (fun q => B ≤ q) s s.heap := by
  intro P hP
  obtain ⟨s0, b0, g1, g2, g3, g4, g5⟩ := h
  obtain ⟨v, h1, h2⟩ := hP s0 b0 g2
  refine ⟨v, h2, va_Z.moved g3.alike ((va_Zof (g1 _ hl) (g1 _ (lw_all_tbl hi)) h1 (A := fun q => B ≤ q) (fun a ha => ?_)).kept (fun a ha _ => ?_))⟩
  · rw [g4]; exact Nat.not_le.mpr ha
  · exact g5 a (by rw [g4]; exact ha)
theorem narrow_flat {s0 : State} {b0 : Nat} (h : (Jvm.Cond.and given_1 narrow_1).before #[Value.ref b0] s0 = true) : ∀ c ∈ flatC (Jvm.Cond.and given_1 narrow_1), c.before #[Value.ref b0] s0 = true := flat_of_before _ h
theorem tr_ex : Jvm.Cond.exactly (Jvm.Term.static "LongYears" "TROUBLE" "LLongYears$Trouble;") "LongYears$Trouble" ∈ flatC (Jvm.Cond.and given_1 narrow_1) := by decide +kernel
theorem tr_un : Jvm.Cond.untouched (Jvm.Term.static "LongYears" "TROUBLE" "LLongYears$Trouble;") ∈ flatC (Jvm.Cond.and given_1 narrow_1) := by decide +kernel
/-- the one trouble: where it lies -/
def TrAt (B : Nat) (s : State) (q : Nat) : Prop := va_Z "LongYears" "TROUBLE" "LLongYears$Trouble;" (.ref q) (fun q => B ≤ q) s s.heap ∧ q < B ∧ ∃ ce : Cell, s.heap[q]? = some ce ∧ ce.vm = .none ∧ s.vm.findClass "LongYears$Trouble" = some ce.cls
theorem SX.trouble {B : Nat} {s : State} (h : SX B s s.heap) : ∃ q, TrAt B s q := by
  obtain ⟨s0, b0, g1, g2, g3, g4, g5⟩ := h
  obtain ⟨a2, c, cA, kA, q1, q2, q3, q4, q5, q6, -⟩ := Cond.exactly_spec (args := #[Value.ref b0]) (first := s0) (o := none) (s := s0) (idx := []) (narrow_flat g2 _ tr_ex)
  have hu := narrow_flat g2 _ tr_un
  have hlt : a2 < s0.heap.size := (Array.getElem?_eq_some_iff.mp q3).1
  have hvm : cA.vm = .none := by
    simp only [Cond.before, Cond.holds, Cond.value] at hu
    rw [q1] at hu
    simp [q3] at hu
    simp_all
  refine ⟨a2, va_Z.moved g3.alike ((va_Zof (g1 _ q1145) (g1 _ (lw_all_tbl q130)) q1 (A := fun q => B ≤ q) (fun a ha => ?_)).kept (fun a ha _ => ?_)), ?_, cA, ?_, hvm, ?_⟩
  · rw [g4]; exact Nat.not_le.mpr ha
  · exact g5 a (by rw [g4]; exact ha)
  · rw [g4]; exact hlt
  · rw [g5 a2 (by rw [g4]; exact hlt)]; exact q3
  · rw [← g3.alike.findClass] at *
    rw [q6]; simpa using q2

section XZ
variable {G : XE} {rm : Room} {cc : ByteArray} {own : String} {nL : Nat} {ret : Option FieldType} {σ : Hp} {cells slots pc n : Nat} {lvs : List (Nat × Value)} {st : List Value}
/-- getstatic TROUBLE; athrow -/
theorem y_trouble {index : Nat} (hl0 : Cond.fieldLink own index "LongYears" "TROUBLE" "LLongYears$Trouble;" ∈ lw_all ∨ ∃ host : String, Cond.fieldLinkNest own index "LongYears" "TROUBLE" "LLongYears$Trouble;" host ∈ lw_tbl) (hd : decode cc pc = .ok (.getstatic index, 3)) (hn : pc + 3 = n) (hd2 : decode cc n = .ok (.athrow, 1)) (kt : ∀ q, TX G rm cc own nL ret σ cells slots n lvs q "LongYears$Trouble") : X G rm cc own nL ret σ cells slots pc lvs st := by
  subst hn
  intro hF H locs ls hB hl
  obtain ⟨q, hz, hq, ce, h1, h2, h3⟩ := hB.2.2.2.2.2.2.2.trouble
  have fin := vx_athrow (p := G.1) (l := G.2.1) (rest := st) hF.1 hF.2.1 hd2 (kt q hF H locs ls st hB hl ⟨ce, by rw [hB.2.2.2.2.2.1 q hq]; exact h1, h2, h3⟩)
  rcases hl0 with h0 | ⟨host, h0⟩
  · exact va_gets hF.1 hF.2.1 hz hB.S hF.2.2.2.1 (hF.2.2.2.2.1 _ h0) (fun x h => h) hd fin
  · exact va_getsN hF.1 hF.2.1 hz hB.S hF.2.2.2.1 (hB.nestF h0) (fun x h => h) hd fin
/-- a static that holds some reference or null: whatever it is -/
theorem x_getsq {index : Nat} {C nm d : String} (hlk : Cond.fieldLink own index C nm d ∈ lw_all) (hls : Cond.laysStatic C nm d ∈ lw_tbl) (hi : Cond.initialized C ∈ lw_all) (hr : Cond.isRef (.static C nm d) ∈ flatC (Jvm.Cond.and given_1 narrow_1)) (hd : decode cc pc = .ok (.getstatic index, 3)) (hn : pc + 3 = n) (kk : ∀ r : Option Nat, X G rm cc own nL ret σ cells slots n lvs (va_rf r :: st)) : X G rm cc own nL ret σ cells slots pc lvs st := by
  subst hn
  intro hF H locs ls hB hl
  obtain ⟨s0, b0, g1, g2, g3, g4, g5⟩ := hB.2.2.2.2.2.2.2
  have hq := va_Zqof (A := fun q => G.2.2.2.2.2.2.2.2.2.1 ≤ q) (g1 _ hls) (g1 _ (lw_all_tbl hi)) (narrow_flat g2 _ hr) (fun a ha => by rw [g4]; exact Nat.not_le.mpr ha)
  have hz := va_Zq.moved g3.alike (hq.kept (H1 := G.2.2.2.1.heap) (fun a ha _ => g5 a (by rw [g4]; exact ha)))
  rcases hz with hz | ⟨t, hz⟩
  · exact va_gets hF.1 hF.2.1 hz hB.S hF.2.2.2.1 (hF.2.2.2.2.1 _ hlk) (fun x h => h) hd (kk none hF H locs ls hB hl)
  · exact va_gets hF.1 hF.2.1 hz hB.S hF.2.2.2.1 (hF.2.2.2.2.1 _ hlk) (fun x h => h) hd (kk (some t) hF H locs ls hB hl)
theorem x_putrf {index ci k a : Nat} {r : Option Nat} (fp : FP own index ci k) (hty : isR (clTy ci k) = true) (ht : gT σ a = some (.inl ci)) (hd : decode cc pc = .ok (.putfield index, 3)) (hn : pc + 3 = n) (kk : X G rm cc own nL ret (pR σ a k r) cells slots n lvs st) : X G rm cc own nL ret σ cells slots pc lvs (va_rf r :: .ref a :: st) := by
  have hf : narrow (clTy ci k) (va_rf r) = va_rf r ∧ fits (clTy ci k) (va_rf r) = true := by
    generalize clTy ci k = ty at hty
    cases ty <;> first | (cases hty; done) | (cases r <;> exact ⟨rfl, rfl⟩)
  exact x_put (σ' := pR σ a k r) fp.1 fp.2 ht hf.1 hf.2 rfl rfl (fun b hb ty j => gvR_off hb j) (fun j hj ty => gvR_ne j hj) (by rw [gv_R hty, gRs]) hd hn kk
/-- a call by the abstract method x of the class named, found in the receiver's own class -/
def CUX (own : String) (index : Nat) (x : MethodName) (k : Nat) : Prop := Cond.methodLink own index x ∈ lw_all ∧ Cond.sameMethod x.cls x.cls x.name x.desc ∈ lw_all ∧ (Cond.declares x ∈ lw_tbl ∨ Cond.instanceMethod x ∈ lw_all) ∧ x.cls ≠ "java/lang/invoke/MethodHandle" ∧ x.cls ≠ "java/lang/invoke/VarHandle" ∧ (parseMethodDescriptor x.desc).map (fun d => d.parameters.length) = some k
/-- what the receiver's class answers it with -/
def SEL (x : MethodName) (ci : Nat) (y : MethodName) (bytes : ByteArray) (maxL : Nat) (r : Option FieldType) : Prop := ∃ (C : String) (T : u_T) (N : Nat), CK ci C T N ∧ Cond.selects C x y ∈ lw_all ∧ Cond.instanceMethod y ∈ lw_all ∧ Cond.initialized y.cls ∈ lw_all ∧ Cond.code y bytes maxL r ∈ lw_all
theorem va_Decl.ins {s : State} {args : Array Value} {x : MethodName} {sig : MethodDescriptor} (h : (Cond.instanceMethod x).before args s = true) (hp : ∀ (r0 : MethodId) (r : Method), s.methodNamed? x = some r0 → s.vm.method? r0 = some r → parseMethodDescriptor x.desc = some r.sig) : va_Decl s x := by
  obtain ⟨mk, methM, hnamed, hmethM, hstM, -⟩ := Cond.instanceMethod_spec h
  exact ⟨mk, methM, hnamed, hmethM, hstM, hp _ _ hnamed hmethM⟩
theorem y_callU {index maxL k mc ms b ci : Nat} {x y : MethodName} {bytes : ByteArray} {r : Option FieldType} {rmc : Room} {As rest : List Value} {Post : Option Value → Hp → Prop} {PX' : Nat → String → Hp → Prop} (cu : CUX own index x k) (hda : Cond.declares x ∈ lw_tbl) (se : SEL x ci y bytes maxL r) (hM : MetY y bytes maxL r rmc σ (.ref b :: As) Post PX' mc ms) (ht : gT σ b = some (.inl ci)) (hR : rmc.cells = mc ∧ rmc.slots = ms ∧ rmc.frames + 1 ≤ rm.frames ∧ 8 + (maxL + 11) + rmc.locals ≤ rm.locals ∧ cells + mc ≤ rm.cells ∧ slots + ms ≤ rm.slots) (hk : As.length = k) (hst : st = As.reverse ++ .ref b :: rest) (hw : Nat.ble (rest.map fun v => v.category).sum 8 = true) (hd : decode cc pc = .ok (.invokevirtual index, 3)) (hn : pc + 3 = n)
    (kx : ∀ q E σ', PX' q E σ' → TX G rm cc own nL ret σ' (cells + mc) (slots + ms) pc lvs q E)
    (kk : ∀ v σ', Post v σ' → X G rm cc own nL ret σ' (cells + mc) (slots + ms) n lvs (v.toList ++ rest)) : X G rm cc own nL ret σ cells slots pc lvs st := by
  subst hn
  have hw := Nat.le_of_ble_eq_true hw
  intro hF H locs ls hB hl
  obtain ⟨c1, c2, c3, c4⟩ := cu
  obtain ⟨C, T, N, ck, s1, s2, s3, s4⟩ := se
  have hz : va_Nw (.declares x) G.2.2.2.1 := by
    obtain ⟨s0, b0, g1, g2, g3, g4, g5⟩ := hB.2.2.2.2.2.2.2
    exact va_Nw.warmD g3 (va_Nw.of rfl (g1 _ hda))
  have hG : GoodIn lw_all (va_wsU own index C x.cls x y (ws_ y bytes maxL r)) := by
    refine lw_app (fun w hw => ?_) (lw_meth s4)
    simp only [List.mem_cons, List.not_mem_nil, or_false] at hw
    rcases hw with e | e | e | e | e
    · rw [e]; exact c1
    · rw [e]; exact c2
    · rw [e]; exact s1
    · rw [e]; exact s2
    · rw [e]; exact s3
  exact y_run hB hl hF (vx_runU (owner := x.cls) (As := As) (rest := rest) ⟨hF.1, hF.2.1, hF.2.2.1, hF.2.2.2.1, hF.2.2.2.2.1⟩ (hM G.2.1 G.2.2.2.2.2.2.2.2.2.1 G.2.2.2.2.2.2.2.2.2.2.1 hF.2.2.2.2.2.2.2) (va_cwA k hF.2.2.2.2.1 hG rfl hR.1 hR.2.1 hz c4 ⟨hR.2.2.1, hR.2.2.2.1⟩) ⟨PX.blind, HP.recv hB.1 hB.2.1 ht ck.1, fun U hU hW => hB.pre U hU hW⟩ rfl hk hl.1 hst (lv_room hw) hd hR.2.2.2.2) kx kk
end XZ

abbrev yPof : MethodName := ⟨"LongYears$Part", "of", "([J)J"⟩
theorem cu_X1_243 : CUX RX1 243 yPof 1 := ⟨q1134, q1136, Or.inl q1135, by decide +kernel, by decide +kernel, by decide +kernel⟩
theorem cu_X17_13 : CUX RX17 13 yPof 1 := ⟨q1149, q1136, Or.inl q1135, by decide +kernel, by decide +kernel, by decide +kernel⟩
theorem cu_X18_22 : CUX RX18 22 yPof 1 := ⟨q1154, q1136, Or.inl q1135, by decide +kernel, by decide +kernel, by decide +kernel⟩
theorem pof_decl : Cond.declares yPof ∈ lw_tbl := q1135
theorem se_X15 : SEL yPof 12 yX15_of cX15_of 2 (some .long) := ⟨RX15, TX15, 1, ck12, q1170, q1150, q159, q1151⟩
theorem se_X16 : SEL yPof 13 yX16_of cX16_of 2 (some .long) := ⟨RX16, TX16, 1, ck13, q1137, q1138, q160, q1139⟩
theorem se_X17 : SEL yPof 14 yX17_of cX17_of 2 (some .long) := ⟨RX17, TX17, 1, ck14, q1146, q1147, q161, q1148⟩
theorem se_X18 : SEL yPof 15 yX18_of cX18_of 6 (some .long) := ⟨RX18, TX18, 3, ck15, q1171, q1152, q162, q1153⟩
section XZ2
variable {G : XE} {rm : Room} {cc : ByteArray} {own : String} {nL : Nat} {ret : Option FieldType} {σ : Hp} {cells slots pc n : Nat} {lvs : List (Nat × Value)} {st : List Value}
theorem x_lsw {dflt : Int} {ps : Array (Int × Int)} {len : Nat} {x : Int32} {off : Int} {tgt : Nat} (hd : decode cc pc = .ok (.lookupswitch dflt ps, len)) (hp : (ps.toList.zip (ps.toList.drop 1)).all (fun (a, next) => a.1 < next.1) = true) (ho : Op.lookupswitch.offset ps.toList dflt x.toInt = off) (ht : (pc : Int) + off = (tgt : Int)) (kk : X G rm cc own nL ret σ cells slots tgt lvs st) : X G rm cc own nL ret σ cells slots pc lvs (.int x :: st) :=
  fun hF H locs ls hB hl => lv_lookup hF.1 hF.2.1 hd hp ho ht (kk hF H locs ls hB hl)

theorem y_cSlT {index maxL k : Nat} {y : MethodName} {bytes : ByteArray} {r : Option FieldType} {rmc : Room} {As rest : List Value} {Q : Int64 → Prop} {E : Prop} (cs : CSX own index y bytes maxL r k) (hM : MetY y bytes maxL r rmc σ As (oL (fun r σ' => σ' = σ ∧ Q r)) (fun q C σ' => C = "LongYears$Trouble" ∧ σ' = σ ∧ E) 0 0) (hR : rmc.cells = 0 ∧ rmc.slots = 0 ∧ rmc.frames + 1 ≤ rm.frames ∧ 8 + (maxL + 11) + rmc.locals ≤ rm.locals ∧ cells ≤ rm.cells ∧ slots ≤ rm.slots) (hk : As.length = k) (hst : st = As.reverse ++ rest) (hw : Nat.ble (rest.map fun v => v.category).sum 8 = true) (hd : decode cc pc = .ok (.invokestatic index, 3)) (hn : pc + 3 = n) (kx : E → ∀ q, TX G rm cc own nL ret σ cells slots pc lvs q "LongYears$Trouble") (kk : ∀ r : Int64, Q r → X G rm cc own nL ret σ cells slots n lvs (.long r :: rest)) : X G rm cc own nL ret σ cells slots pc lvs st :=
  y_callS (mc := 0) (ms := 0) cs hM hR hk hst hw hd hn (fun q C σ' hp => by obtain ⟨rfl, rfl, h⟩ := hp; exact kx h q) (fun v σ' hp => by obtain ⟨r, rfl, rfl, h⟩ := hp; exact kk r h)
theorem y_cVlT {ci index maxL k b : Nat} {C : String} {T : u_T} {N : Nat} {y : MethodName} {bytes : ByteArray} {r : Option FieldType} {rmc : Room} {As rest : List Value} {Q : Int64 → Prop} {E : Prop} (cv : CVX own index C y bytes maxL r k) (ck : CK ci C T N) (hM : MetY y bytes maxL r rmc σ (.ref b :: As) (oL (fun r σ' => σ' = σ ∧ Q r)) (fun q C σ' => C = "LongYears$Trouble" ∧ σ' = σ ∧ E) 0 0) (ht : gT σ b = some (.inl ci)) (hR : rmc.cells = 0 ∧ rmc.slots = 0 ∧ rmc.frames + 1 ≤ rm.frames ∧ 8 + (maxL + 11) + rmc.locals ≤ rm.locals ∧ cells ≤ rm.cells ∧ slots ≤ rm.slots) (hk : As.length = k) (hst : st = As.reverse ++ .ref b :: rest) (hw : Nat.ble (rest.map fun v => v.category).sum 8 = true) (hd : decode cc pc = .ok (.invokevirtual index, 3)) (hn : pc + 3 = n) (kx : E → ∀ q, TX G rm cc own nL ret σ cells slots pc lvs q "LongYears$Trouble") (kk : ∀ r : Int64, Q r → X G rm cc own nL ret σ cells slots n lvs (.long r :: rest)) : X G rm cc own nL ret σ cells slots pc lvs st :=
  y_callV (mc := 0) (ms := 0) cv ck hM ht hR hk hst hw hd hn (fun q C σ' hp => by obtain ⟨rfl, rfl, h⟩ := hp; exact kx h q) (fun v σ' hp => by obtain ⟨r, rfl, rfl, h⟩ := hp; exact kk r h)
/-- the room of a sum's part, by its depth -/
def rmP (n : Nat) : Room := { frames := n + 3, cells := 0, slots := 0, locals := 25 * n + 100 }
/-- a part at p answers as Q says, or is a trouble and E holds -/
def PM (n : Nat) (σ : Hp) (nm p : Nat) (Q : Int64 → Prop) (E : Prop) : Prop := ∃ (ci maxL : Nat) (y : MethodName) (bytes : ByteArray), SEL yPof ci y bytes maxL (some .long) ∧ gT σ p = some (.inl ci) ∧ maxL ≤ 6 ∧ MetY y bytes maxL (some .long) (rmP n) σ [.ref p, .ref nm] (oL (fun r σ' => σ' = σ ∧ Q r)) (fun q C σ' => C = "LongYears$Trouble" ∧ σ' = σ ∧ E) 0 0
theorem y_part {index nm p d : Nat} {rest : List Value} {Q : Int64 → Prop} {E : Prop} (cu : CUX own index yPof 1) (pm : PM d σ nm p Q E) (hR : (rmP d).frames + 1 ≤ rm.frames ∧ 25 + (rmP d).locals ≤ rm.locals ∧ cells ≤ rm.cells ∧ slots ≤ rm.slots) (hst : st = .ref nm :: .ref p :: rest) (hw : Nat.ble (rest.map fun v => v.category).sum 8 = true) (hd : decode cc pc = .ok (.invokevirtual index, 3)) (hn : pc + 3 = n) (kx : E → ∀ q, TX G rm cc own nL ret σ cells slots pc lvs q "LongYears$Trouble") (kk : ∀ r : Int64, Q r → X G rm cc own nL ret σ cells slots n lvs (.long r :: rest)) : X G rm cc own nL ret σ cells slots pc lvs st := by
  obtain ⟨ci, maxL, y, bytes, se, ht, hm, hM⟩ := pm
  exact y_callU (mc := 0) (ms := 0) (As := [.ref nm]) (rest := rest) cu pof_decl se hM ht ⟨rfl, rfl, hR.1, by omega, hR.2.2.1, hR.2.2.2⟩ rfl hst hw hd hn (fun q C σ' hp => by obtain ⟨rfl, rfl, h⟩ := hp; exact kx h q) (fun v σ' hp => by obtain ⟨r, rfl, rfl, h⟩ := hp; exact kk r h)
end XZ2

