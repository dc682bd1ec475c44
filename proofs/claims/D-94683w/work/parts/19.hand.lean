set_option maxRecDepth 100000
def CVXW (own : String) (index : Nat) (C : String) (y : MethodName) (bytes : ByteArray) (maxL : Nat) (r : Option FieldType) (hh : List (Nat × Nat × Nat × Nat)) (k : Nat) : Prop := GoodIn lw_all (wsV own index C y (wsW_ y bytes maxL r hh)) ∧ y.cls = C ∧ y.cls ≠ "java/lang/invoke/MethodHandle" ∧ y.cls ≠ "java/lang/invoke/VarHandle" ∧ (parseMethodDescriptor y.desc).map (fun d => d.parameters.length) = some k
def CSXW (own : String) (index : Nat) (y : MethodName) (bytes : ByteArray) (maxL : Nat) (r : Option FieldType) (hh : List (Nat × Nat × Nat × Nat)) (k : Nat) : Prop := GoodIn lw_all (va_wsS own index y (wsW_ y bytes maxL r hh)) ∧ y.cls ≠ "java/lang/invoke/MethodHandle" ∧ y.cls ≠ "java/lang/invoke/VarHandle" ∧ (parseMethodDescriptor y.desc).map (fun d => d.parameters.length) = some k
section XH
variable {G : XE} {rm : Room} {cc : ByteArray} {own : String} {nL : Nat} {ret : Option FieldType} {σ : Hp} {cells slots pc n : Nat} {lvs : List (Nat × Value)} {st : List Value}
theorem x_callVW {ci index maxL k mc ms b : Nat} {C : String} {T : u_T} {N : Nat} {y : MethodName} {bytes : ByteArray} {r : Option FieldType} {hh : List (Nat × Nat × Nat × Nat)} {rmc : Room} {As rest : List Value} {Post : Option Value → Hp → Prop} (cv : CVXW own index C y bytes maxL r hh k) (ck : CK ci C T N) (hM : MetYW y bytes maxL r hh rmc σ (.ref b :: As) Post (fun _ _ _ => False) mc ms) (ht : gT σ b = some (.inl ci)) (hR : rmc.cells = mc ∧ rmc.slots = ms ∧ rmc.frames + 1 ≤ rm.frames ∧ 8 + (maxL + 11) + rmc.locals ≤ rm.locals ∧ cells + mc ≤ rm.cells ∧ slots + ms ≤ rm.slots) (hk : As.length = k) (hst : st = As.reverse ++ .ref b :: rest) (hw : Nat.ble (rest.map fun v => v.category).sum 8 = true) (hd : decode cc pc = .ok (.invokevirtual index, 3)) (hn : pc + 3 = n)
    (kk : ∀ v σ', Post v σ' → X G rm cc own nL ret σ' (cells + mc) (slots + ms) n lvs (v.toList ++ rest)) : X G rm cc own nL ret σ cells slots pc lvs st := by
  subst hn
  have hw := Nat.le_of_ble_eq_true hw
  intro hF H locs ls hB hl
  exact y_run hB hl hF (vx_runVX (As := As) (rest := rest) ⟨hF.1, hF.2.1, hF.2.2.1, hF.2.2.2.1, hF.2.2.2.2.1⟩ (hM G.2.1 G.2.2.2.2.2.2.2.2.2.1 G.2.2.2.2.2.2.2.2.2.2.1 hF.2.2.2.2.2.2.2) (vx_cwVW k hF.2.2.2.2.1 cv.1 rfl hR.1 hR.2.1 cv.2 ⟨hR.2.2.1, hR.2.2.2.1⟩) ⟨PX.blind, HP.recv hB.1 hB.2.1 ht ck.1, fun U hU hW => hB.pre U hU hW⟩ rfl hk hl.1 hst (lv_room hw) hd hR.2.2.2.2) (fun _ _ _ h => h.elim) kk
theorem x_callSW {index maxL k mc ms : Nat} {y : MethodName} {bytes : ByteArray} {r : Option FieldType} {hh : List (Nat × Nat × Nat × Nat)} {rmc : Room} {As rest : List Value} {Post : Option Value → Hp → Prop} (cs : CSXW own index y bytes maxL r hh k) (hM : MetYW y bytes maxL r hh rmc σ As Post (fun _ _ _ => False) mc ms) (hR : rmc.cells = mc ∧ rmc.slots = ms ∧ rmc.frames + 1 ≤ rm.frames ∧ 8 + (maxL + 11) + rmc.locals ≤ rm.locals ∧ cells + mc ≤ rm.cells ∧ slots + ms ≤ rm.slots) (hk : As.length = k) (hst : st = As.reverse ++ rest) (hw : Nat.ble (rest.map fun v => v.category).sum 8 = true) (hd : decode cc pc = .ok (.invokestatic index, 3)) (hn : pc + 3 = n)
    (kk : ∀ v σ', Post v σ' → X G rm cc own nL ret σ' (cells + mc) (slots + ms) n lvs (v.toList ++ rest)) : X G rm cc own nL ret σ cells slots pc lvs st := by
  subst hn
  have hw := Nat.le_of_ble_eq_true hw
  intro hF H locs ls hB hl
  exact y_run hB hl hF (vx_runSX (As := As) (rest := rest) ⟨hF.1, hF.2.1, hF.2.2.1, hF.2.2.2.1, hF.2.2.2.2.1⟩ (hM G.2.1 G.2.2.2.2.2.2.2.2.2.1 G.2.2.2.2.2.2.2.2.2.2.1 hF.2.2.2.2.2.2.2) (vx_cwSW k hF.2.2.2.2.1 cs.1 rfl hR.1 hR.2.1 cs.2 ⟨hR.2.2.1, hR.2.2.2.1⟩) ⟨PX.blind, fun U hU hW => hB.pre U hU hW⟩ rfl hk hl.1 hst (lv_room hw) hd hR.2.2.2.2) (fun _ _ _ h => h.elim) kk
theorem x_cVlmW {ci index maxL k b : Nat} {C : String} {T : u_T} {N : Nat} {y : MethodName} {bytes : ByteArray} {r : Option FieldType} {hh : List (Nat × Nat × Nat × Nat)} {rmc : Room} {As rest : List Value} {P : Int64 → Hp → Prop} (cv : CVXW own index C y bytes maxL r hh k) (ck : CK ci C T N) (hM : MetYW y bytes maxL r hh rmc σ (.ref b :: As) (oL (fun r σ' => SH σ σ' ∧ P r σ')) (fun _ _ _ => False) 0 0) (ht : gT σ b = some (.inl ci)) (hR : rmc.cells = 0 ∧ rmc.slots = 0 ∧ rmc.frames + 1 ≤ rm.frames ∧ 8 + (maxL + 11) + rmc.locals ≤ rm.locals ∧ cells ≤ rm.cells ∧ slots ≤ rm.slots) (hk : As.length = k) (hst : st = As.reverse ++ .ref b :: rest) (hw : Nat.ble (rest.map fun v => v.category).sum 8 = true) (hd : decode cc pc = .ok (.invokevirtual index, 3)) (hn : pc + 3 = n)
    (kk : ∀ (r : Int64) (σ' : Hp), SH σ σ' → P r σ' → X G rm cc own nL ret σ' cells slots n lvs (.long r :: rest)) : X G rm cc own nL ret σ cells slots pc lvs st :=
  x_callVW (mc := 0) (ms := 0) cv ck hM ht hR hk hst hw hd hn (fun v σ' hp => by obtain ⟨r, rfl, h1, h2⟩ := hp; exact kk r σ' h1 h2)
end XH

theorem cvw_X1_253 : CVXW RX1 253 RX1 yX1_ruled cX1_ruled 7 (some .long) [((138 : Nat), (162 : Nat), (163 : Nat), (249 : Nat))] 2 := ⟨lw_VW q1119 q1121 qs39 q130 q1122, rfl, by decide +kernel, by decide +kernel, by decide +kernel⟩
theorem cvw_X0_26 : CVXW RX0 26 RX1 yX1_text cX1_text 3 (some .int) [((32 : Nat), (44 : Nat), (47 : Nat), (107 : Nat))] 1 := ⟨lw_VW q432 q433 q434 q130 q435, rfl, by decide +kernel, by decide +kernel, by decide +kernel⟩
theorem csw_X0_39 : CSXW RX0 39 yX0_look cX0_look 5 (some .int) [((0 : Nat), (10 : Nat), (13 : Nat), (13 : Nat)), ((0 : Nat), (10 : Nat), (17 : Nat), (15 : Nat))] 4 := ⟨lw_SW q1426 q1427 q129 q1428, by decide +kernel, by decide +kernel, by decide +kernel⟩

section ISU
variable {Q : Unit → Pre} {E : CtlPost} {e : Env} {d : Bool} {acts : List Action} {s s₀ : State} {f : JFrame}
theorem is_coldUp {index ci n c : Nat} {m : MethodId} {dk ck : Class} {cf : ClassFile} {name desc : String} (hs : s.topJava?.isSome) (hp : e.platform.polymorphicOnlyByInvokevirtual = true)
    (hW : s₀.WarmedH s.vm) (hE : s₀.MethodEntryUp e s.vm f.method.cls index c m ci) (h1 : s₀.vm.classes[f.method.cls]? = some dk) (h2 : dk.cf = some cf)
    (h3 : cf.constantPool[index]? = some (.methodref ci n)) (h4 : cf.constantPool.nameAndType? n = some (name, desc))
    (hck : s₀.vm.classes[c]? = some ck) (hnone : (ck.methods.any fun x => x.name == name && !x.isStatic && signaturePolymorphic ck x) = false) :
    wp (invokestatic.sem index) Q E e d acts (s.setTop f) ↔ wp (invokestatic.sem index) Q E e d acts ((s.setVm (s.vm.calledUp f.method.cls ci index c m)).setTop f) := by
  obtain ⟨hgc, -, hW₁, hgm⟩ := hE.classFirst
  obtain ⟨k₀, hk₀, he₀⟩ := hW.alike.2.2 _ _ h1
  obtain ⟨k₂, hk₂, he₂⟩ := hE.warmed.alike.2.2 _ _ h1
  obtain ⟨c₁, hc₁, hec₁⟩ := hW₁.alike.2.2 _ _ hck
  obtain ⟨c₂, hc₂, hec₂⟩ := hE.warmed.alike.2.2 _ _ hck
  have hb₀ := memberRef_ask_via (e := e) (via := false) hk₀ (by rw [he₀]; exact h2) (by simpa using h3) h4
  have hb₂ := memberRef_ask_via (e := e) (via := false) hk₂ (by rw [he₂]; exact h2) (by simpa using h3) h4
  have hn₁ : (c₁.methods.any fun x => x.name == name && !x.isStatic && signaturePolymorphic c₁ x) = false := by rw [hec₁]; exact hnone
  have hn₂ : (c₂.methods.any fun x => x.name == name && !x.isStatic && signaturePolymorphic c₂ x) = false := by rw [hec₂]; exact hnone
  have hs₁ : (s.setVm (s.vm.noted f.method.cls ci (.cls c))).topJava?.isSome := hs
  have hs₂ : (s.setVm (s.vm.calledUp f.method.cls ci index c m)).topJava?.isSome := hs
  have hL : ∀ {Q' : ClassId → Pre} {d' : Bool} {acts' : List Action}, wp (Jvm.resolveClassAt ci) Q' E e d' acts' (s.setTop f) ↔ Q' c d' acts' ((s.setVm (s.vm.noted f.method.cls ci (.cls c))).setTop f) :=
    W.resolveClassAt_links (t := s.setTop f) (State.method?_setTop f hs) hgc
  have hM : ∀ {Q' : MethodId → Pre} {d' : Bool} {acts' : List Action}, wp (Jvm.resolveMethodAt index) Q' E e d' acts' ((s.setVm (s.vm.noted f.method.cls ci (.cls c))).setTop f) ↔ Q' m d' acts' ((s.setVm (s.vm.calledUp f.method.cls ci index c m)).setTop f) :=
    W.resolveMethodAt_links (t := (s.setVm (s.vm.noted f.method.cls ci (.cls c))).setTop f) (State.method?_setTop f hs₁) hgm
  simp [invokestatic.sem, hp, Seam.memberRefOf, State.method?_setTop f hs, State.method?_setTop f hs₂, hb₀, hb₂, hL, W.resolveClassAt_ready (s := (s.setVm (s.vm.calledUp f.method.cls ci index c m)).setTop f) (State.method?_setTop f hs₂) hE.classReady,
    hc₁, hc₂, hn₁, hn₂, hM, W.resolveMethodAt_ready (s := (s.setVm (s.vm.calledUp f.method.cls ci index c m)).setTop f) (State.method?_setTop f hs₂) hE.ready, -Array.any_eq_true]
end ISU


section ISU2
variable {p : Program} {l : Launch} {e : Env} {R : Room} {s : State} {m : MethodId} {args : Array Value} {below : List Frame} {meth : Method} {c : Code} {T : State} {locs : List Loc} {cells slots : Nat}
theorem st_isUp (X : Stand p l e R s m args below meth c T locs cells slots) (hexec : p.tables.exec = Jvm.exec)
    {own owner : String} {index : Nat} {x : MethodName} (hown : s.vm.findClass own = some m.cls) (hlink : (Cond.methodLink own index x).before args s = true)
    (hsame : (Cond.sameMethod x.cls owner x.name x.desc).before args s = true) (howner : owner ≠ "java/lang/invoke/MethodHandle" ∧ owner ≠ "java/lang/invoke/VarHandle") (hxc : x.cls ≠ "java/lang/invoke/MethodHandle" ∧ x.cls ≠ "java/lang/invoke/VarHandle")
    {m' : MethodId} {meth' : Method} {k' : Class} (hn : s.methodNamed? ⟨owner, x.name, x.desc⟩ = some m') (hm' : s.vm.method? m' = some meth') (hstatic : meth'.isStatic = true)
    (hk' : s.vm.classes[m'.cls]? = some k') (hinit : k'.init = .initialized)
    {g : JFrame} (hg : g.method = m) {argsL rest : List Value} (hlen : argsL.length = meth'.sig.parameters.length) (hstack : g.stack = argsL.reverse ++ rest)
    (hdg : decode c.code g.pc = .ok (.invokestatic index, 3)) :
    ∃ vm', Stand p l e R s m args below meth c (T.setVm vm') locs cells slots ∧
      ∀ target, (∀ acts, Steps p.tables e below (doInvoke e ((T.setVm vm').setTop { g with stack := rest }) acts m' argsL.toArray).1 target) → Steps p.tables e below (T.setTop g) target := by
  have hpl : e.platform.magicAccessors = ({} : Platform).magicAccessors := by rw [X.admits.platform]
  have hpv : e.platform.polymorphicOnlyByInvokevirtual = true := by rw [X.admits.platform]
  obtain ⟨cn, ck, r1, hcn, hck, hni, hf, hn1⟩ := Cond.sameMethod_found hsame
  cases hn.symm.trans hn1
  obtain ⟨ci, hl, hright⟩ := Cond.methodLink_specUp hown hcn hck hni hf hlink e.platform hpl (by rw [X.admits.platform])
  have hE : s.MethodEntryUp e T.vm m.cls index cn m' ci := State.methodEntryUp X.warmed hl hright
  obtain ⟨kx, hkx, hnx⟩ := className_of_methodNamed hn
  cases hk'.symm.trans hkx
  obtain ⟨dk, cfile, nt, mname, mdesc, ck', h6, h7, hd, hcf, hcp, hnt, h8⟩ := hl.here
  have alike := hE.warmed.alike
  obtain ⟨dk₂, hdk₂, hed₂⟩ := alike.2.2 _ _ hd
  obtain ⟨k₂, hk₂, he₂⟩ := alike.2.2 _ _ hk'
  obtain ⟨ck₂, hck₂, hec⟩ := alike.2.2 _ _ hck
  have hckn : ck.name = x.cls := by
    obtain ⟨k9, h9, h10⟩ := Vm.findClass_spec hcn
    cases hck.symm.trans h9
    exact h10
  have hsp : ∀ y, signaturePolymorphic ck y = false := fun y => by simp [signaturePolymorphic, hckn, hxc.1, hxc.2]
  have hspk : ∀ y, signaturePolymorphic k' y = false := fun y => by simp [signaturePolymorphic, hnx, howner.1, howner.2]
  have hnone : (ck.methods.any fun y => y.name == mname && !y.isStatic && signaturePolymorphic ck y) = false := by simp [hsp]
  have hnone₂ : (ck₂.methods.any fun y => y.name == mname && !y.isStatic && signaturePolymorphic ck₂ y) = false := by rw [hec]; exact hnone
  refine ⟨T.vm.calledUp m.cls ci index cn m', X.noted hE.warmed, fun target hrest => ?_⟩
  subst hg
  jvm_step X.here [hexec, hdg, is_coldUp (e := e) (s := T) (s₀ := s) (f := g) X.here.top hpv X.warmed hE hd hcf hcp hnt hck hnone,
    invokestatic.wp_ready (e := e) (s := T.setVm (T.vm.calledUp g.method.cls ci index cn m')) (k := k₂) (meth := meth') (m := m') (args := argsL) (rest := rest) (f := g)
      X.here.top ⟨ci, mname, mdesc, false, cn, ck₂, memberRef_ask_via (e := e) (via := false) hdk₂ (by rw [hed₂]; exact hcf) (by simpa using hcp) hnt, hE.classReady, hck₂, hnone₂⟩ hE.ready hk₂
      (by show (T.vm.calledUp g.method.cls ci index cn m').method? m' = some meth'; rw [alike.method?]; exact hm') (by rw [he₂]; exact hspk meth') hstatic (by rw [he₂]; exact hinit) hlen hstack]
  exact fun acts => hrest _
end ISU2


section XO
variable {G : XE} {rm : Room} {cc : ByteArray} {own : String} {nL : Nat} {ret : Option FieldType} {σ : Hp} {cells slots pc n : Nat} {lvs : List (Nat × Value)} {st : List Value}
/-- a static method that the class named has from above -/
def CSU (own : String) (index : Nat) (x y : MethodName) (bytes : ByteArray) (maxL : Nat) (r : Option FieldType) (k : Nat) : Prop := Cond.methodLink own index x ∈ lw_all ∧ Cond.sameMethod x.cls y.cls x.name x.desc ∈ lw_all ∧ Cond.static y ∈ lw_all ∧ Cond.initialized y.cls ∈ lw_all ∧ Cond.code y bytes maxL r ∈ lw_all ∧ y = ⟨y.cls, x.name, x.desc⟩ ∧ (x.cls ≠ "java/lang/invoke/MethodHandle" ∧ x.cls ≠ "java/lang/invoke/VarHandle") ∧ y.cls ≠ "java/lang/invoke/MethodHandle" ∧ y.cls ≠ "java/lang/invoke/VarHandle" ∧ (parseMethodDescriptor y.desc).map (fun d => d.parameters.length) = some k
theorem x_callSU {index maxL k mc ms : Nat} {x y : MethodName} {bytes : ByteArray} {r : Option FieldType} {rmc : Room} {As rest : List Value} {Post : Option Value → Hp → Prop} (cs : CSU own index x y bytes maxL r k) (hM : MetX y bytes maxL r rmc σ As Post mc ms) (hR : rmc.cells = mc ∧ rmc.slots = ms ∧ rmc.frames + 1 ≤ rm.frames ∧ 8 + (maxL + 11) + rmc.locals ≤ rm.locals ∧ cells + mc ≤ rm.cells ∧ slots + ms ≤ rm.slots) (hk : As.length = k) (hst : st = As.reverse ++ rest) (hw : Nat.ble (rest.map fun v => v.category).sum 8 = true) (hd : decode cc pc = .ok (.invokestatic index, 3)) (hn : pc + 3 = n)
    (kk : ∀ v σ', Post v σ' → X G rm cc own nL ret σ' (cells + mc) (slots + ms) n lvs (v.toList ++ rest)) : X G rm cc own nL ret σ cells slots pc lvs st := by
  subst hn
  have hw := Nat.le_of_ble_eq_true hw
  intro hF H locs ls hB hl
  obtain ⟨c1, c2, c3, c4, c5, c6, c7, c8⟩ := cs
  have hcode := hF.2.2.2.2.1 _ c5
  have hK : Back G.2.1 rm G.1 G.2.2.1 G.2.2.2.2.2.2.1 G.2.2.2.1 G.2.2.2.2.2.1 y 3 8 (PreOf rm mc ms (va_Pc As (PX G.2.2.2.2.2.2.2.2.2.1 G.2.2.2.2.2.2.2.2.2.2.1 σ))) (PostOf (QX G.2.2.2.2.2.2.2.2.2.1 G.2.2.2.2.2.2.2.2.2.2.1 Post) mc ms (fun q => G.2.2.2.2.2.2.2.2.2.1 ≤ q)) :=
    back_of (bytes := bytes) (maxL := maxL) (ret := r) (hM G.2.1 G.2.2.2.2.2.2.2.2.2.1 G.2.2.2.2.2.2.2.2.2.2.1 hF.2.2.2.2.2.2.2) PX.blind hR.1 hR.2.1 hR.2.2.1 hR.2.2.2.1 (pay_in hF.2.2.2.2.1 (lw_meth c5)) List.mem_cons_self (fun a' U hW => word_at hW (Or.inl (by first | rfl | simp [Cond.onTables, Cond.keeps, Cond.steady])) (hF.2.2.2.2.1 _ c4))
  refine x_run (mc := mc) (ms := ms) (rest := rest) (As := As.toArray) (Post := Post) hB hl hF ?_ kk
  intro T hT X0
  obtain ⟨mk, hnamed⟩ := Cond.code_named hcode
  obtain ⟨methM, cM, hmethM, -, -, -, -, -, -, hsigM⟩ := Cond.code_spec hnamed hcode
  have hstatic : methM.isStatic = true := Cond.static_spec hnamed hmethM (hF.2.2.2.2.1 _ c3)
  obtain ⟨kP, hkP, -⟩ := className_of_methodNamed hnamed
  have hinitP : kP.init = .initialized := Cond.initialized_spec (findClass_of_methodNamed hnamed) hkP (hF.2.2.2.2.1 _ c4)
  have hlen : As.length = methM.sig.parameters.length := by
    have h2 := c8.2.2
    rw [hsigM] at h2
    exact hk.trans (Option.some.inj h2).symm
  have hdg : decode G.2.2.2.2.2.2.2.2.1.code pc = .ok (.invokestatic index, 3) := by rw [hF.2.1]; exact hd
  obtain ⟨vm₁, X₁, hstep₁⟩ := st_isUp X0 hF.1 (owner := y.cls) (x := x) hF.2.2.2.1 (hF.2.2.2.2.1 _ c1) (hF.2.2.2.2.1 _ c2) ⟨c8.1, c8.2.1⟩ c7 (by rw [← c6]; exact hnamed) hmethM hstatic hkP hinitP (g := F0 G.2.2.2.2.1 pc ls st) rfl (argsL := As) (rest := rest) hlen hst hdg
  obtain ⟨v, ⟨U', l2, k2, s2⟩, X', ⟨g', mk', t, L, e1, e2, hq, h1, hL, h2, h3⟩, hsteps⟩ := hK G.2.2.2.2.1 G.2.2.2.2.2.2.2.1 G.2.2.2.2.2.2.2.2.1 ⟨T.setVm vm₁, locs, cells, slots⟩ (F0 G.2.2.2.2.1 pc ls rest) (.invokestatic index) mk As.toArray X₁ rfl (hl.1.trans hF.2.2.1.symm) hdg (lv_room hw) (X₁.named hnamed) ⟨hR.2.2.2.2.1, hR.2.2.2.2.2, hB.pre (T.setVm vm₁) hT X₁.warmed⟩
  dsimp only [Pt.U, Pt.locs, Pt.cells, Pt.slots] at X' e1 e2 h1 h2 h3 hsteps
  subst h1; subst h2; subst h3
  exact ⟨v, (T.setVm vm₁).calling g' mk' As.toArray, t, U', L, hT, X', hL, e1, e2, hq, fun target h => hstep₁ _ fun acts => by rw [doInvoke_state]; exact hsteps.trans h⟩
theorem x_cSUlp {index maxL k : Nat} {x y : MethodName} {bytes : ByteArray} {r : Option FieldType} {rmc : Room} {As rest : List Value} {P : Int64 → Prop} (cs : CSU own index x y bytes maxL r k) (hM : MetX y bytes maxL r rmc σ As (oL (fun r σ' => σ' = σ ∧ P r)) 0 0) (hR : rmc.cells = 0 ∧ rmc.slots = 0 ∧ rmc.frames + 1 ≤ rm.frames ∧ 8 + (maxL + 11) + rmc.locals ≤ rm.locals ∧ cells ≤ rm.cells ∧ slots ≤ rm.slots) (hk : As.length = k) (hst : st = As.reverse ++ rest) (hw : Nat.ble (rest.map fun v => v.category).sum 8 = true) (hd : decode cc pc = .ok (.invokestatic index, 3)) (hn : pc + 3 = n) (kk : ∀ r : Int64, P r → X G rm cc own nL ret σ cells slots n lvs (.long r :: rest)) : X G rm cc own nL ret σ cells slots pc lvs st :=
  x_callSU (mc := 0) (ms := 0) cs hM hR hk hst hw hd hn (fun v σ' hp => by obtain ⟨r, rfl, rfl, h2⟩ := hp; exact kk r h2)
/-- a call of x that the receiver's class answers with its own y -/
def COX (own : String) (index : Nat) (x : MethodName) (k : Nat) : Prop := Cond.methodLink own index x ∈ lw_all ∧ Cond.sameMethod x.cls x.cls x.name x.desc ∈ lw_all ∧ Cond.instanceMethod x ∈ lw_all ∧ (∃ b L r, Cond.code x b L r ∈ lw_all) ∧ x.cls ≠ "java/lang/invoke/MethodHandle" ∧ x.cls ≠ "java/lang/invoke/VarHandle" ∧ (parseMethodDescriptor x.desc).map (fun d => d.parameters.length) = some k
theorem x_callO {index maxL k mc ms b ci : Nat} {x y : MethodName} {bytes : ByteArray} {r : Option FieldType} {rmc : Room} {As rest : List Value} {Post : Option Value → Hp → Prop} (co : COX own index x k) (se : SEL x ci y bytes maxL r) (hM : MetX y bytes maxL r rmc σ (.ref b :: As) Post mc ms) (ht : gT σ b = some (.inl ci)) (hR : rmc.cells = mc ∧ rmc.slots = ms ∧ rmc.frames + 1 ≤ rm.frames ∧ 8 + (maxL + 11) + rmc.locals ≤ rm.locals ∧ cells + mc ≤ rm.cells ∧ slots + ms ≤ rm.slots) (hk : As.length = k) (hst : st = As.reverse ++ .ref b :: rest) (hw : Nat.ble (rest.map fun v => v.category).sum 8 = true) (hd : decode cc pc = .ok (.invokevirtual index, 3)) (hn : pc + 3 = n)
    (kk : ∀ v σ', Post v σ' → X G rm cc own nL ret σ' (cells + mc) (slots + ms) n lvs (v.toList ++ rest)) : X G rm cc own nL ret σ cells slots pc lvs st := by
  subst hn
  have hw := Nat.le_of_ble_eq_true hw
  intro hF H locs ls hB hl
  obtain ⟨c1, c2, c3, ⟨b0, L0, r0, c9⟩, c4⟩ := co
  obtain ⟨C, T, N, ck, s1, s2, s3, s4⟩ := se
  have hcode := hF.2.2.2.2.1 _ c9
  have hdecl : va_Decl G.2.2.2.1 x := va_Decl.ins (sig := ⟨[], none⟩) (hF.2.2.2.2.1 _ c3) (fun r1 rr h1 h2 => by
    obtain ⟨methM, cM, hmethM, -, -, -, -, -, -, hsigM⟩ := Cond.code_spec h1 hcode
    cases h2.symm.trans hmethM
    exact hsigM)
  have hG : GoodIn lw_all (ws_ y bytes maxL r) := lw_meth s4
  refine x_run hB hl hF (va_runU (owner := x.cls) (As := As) (rest := rest) ⟨hF.1, hF.2.1, hF.2.2.1, hF.2.2.2.1, hF.2.2.2.2.1⟩ (hM G.2.1 G.2.2.2.2.2.2.2.2.2.1 G.2.2.2.2.2.2.2.2.2.2.1 hF.2.2.2.2.2.2.2) ⟨⟨hR.1, hR.2.1, hR.2.2.1, hR.2.2.2.1, pay_in hF.2.2.2.2.1 hG, List.mem_cons_self⟩, hF.2.2.2.2.1 _ s4, hF.2.2.2.2.1 _ s3, ⟨c4.1, c4.2.1⟩, fun sig h => ?_, hF.2.2.2.2.1 _ c1, hF.2.2.2.2.1 _ c2, hdecl, hF.2.2.2.2.1 _ s1, hF.2.2.2.2.1 _ s2⟩ ⟨PX.blind, HP.recv hB.1 hB.2.1 ht ck.1, fun U hU hW => hB.pre U hU hW⟩ rfl hk hl.1 hst (lv_room hw) hd hR.2.2.2.2) kk
  have h2 := c4.2.2
  rw [h] at h2
  exact (Option.some.inj h2).symm
end XO

abbrev xYc : MethodName := ⟨"LongYears$Yearly", "counted", "(J)J"⟩
theorem csu_X11_40 : CSU RX11 40 xYc yX10_counted cX10_counted 2 (some .long) 1 := ⟨q1281, q1282, q1085, q154, q1086, rfl, ⟨by decide +kernel, by decide +kernel⟩, by decide +kernel, by decide +kernel, by decide +kernel⟩
theorem co_X1_331 : COX RX1 331 yX10_due 2 := ⟨q1264, q1267, q1265, ⟨_, _, _, q1283⟩, by decide +kernel, by decide +kernel, by decide +kernel⟩
theorem sd_X10 : SEL yX10_due 9 yX10_due cX10_due 3 (some .long) := ⟨RX10, TX10, 4, ck9, q1266, q1265, q154, q1283⟩
theorem sd_X11 : SEL yX10_due 10 yX11_due cX11_due 7 (some .long) := ⟨RX11, TX11, 4, ck10, q1272, q1273, q155, q1274⟩
theorem sd_X12 : SEL yX10_due 11 yX12_due cX12_due 3 (some .long) := ⟨RX12, TX12, 4, ck11, q1268, q1269, q156, q1270⟩
