set_option maxRecDepth 100000
/-- what a throw leaves: the cell that is thrown, its class's name, the heap -/
def XX (B : Nat) (D : DD) (PX' : Nat → String → Hp → Prop) : Addr → String → State → State → Prop := fun q E st t => ∃ σ' : Hp, PX' q E σ' ∧ HP D σ' t.heap ∧ (∀ a t, gT σ' a = some t → B ≤ a) ∧ st.heap.size ≤ t.heap.size ∧ ∀ q, q < B → t.heap[q]? = st.heap[q]?
def MetY (y : MethodName) (cc : ByteArray) (nL : Nat) (ret : Option FieldType) (rm : Room) (σ : Hp) (av : List Value) (Post : Option Value → Hp → Prop) (PX' : Nat → String → Hp → Prop) (mc ms : Nat) : Prop :=
  ∀ (l : Launch) (B : Nat) (D : DD), l.flags = flags0 → vx_Met l y (ws_ y cc nL ret) rm (va_Pc av (PX B D σ)) (QX B D Post) (XX B D PX') mc ms (fun q => B ≤ q)
/-- .. of a method with handlers -/
def MetYW (y : MethodName) (cc : ByteArray) (nL : Nat) (ret : Option FieldType) (hh : List (Nat × Nat × Nat × Nat)) (rm : Room) (σ : Hp) (av : List Value) (Post : Option Value → Hp → Prop) (PX' : Nat → String → Hp → Prop) (mc ms : Nat) : Prop :=
  ∀ (l : Launch) (B : Nat) (D : DD), l.flags = flags0 → vx_Met l y (wsW_ y cc nL ret hh) rm (va_Pc av (PX B D σ)) (QX B D Post) (XX B D PX') mc ms (fun q => B ≤ q)
def RQx (G : XE) (hh : List (Nat × Nat × Nat × Nat)) (mc ms : Nat) (Post : Option Value → Hp → Prop) (PX' : Nat → String → Hp → Prop) : Prop := G.2.2.2.2.2.2.2.2.2.2.2 = vx_MQ G.2.2.2.2.2.2.1 (QX G.2.2.2.2.2.2.2.2.2.1 G.2.2.2.2.2.2.2.2.2.2.1 Post) (XX G.2.2.2.2.2.2.2.2.2.1 G.2.2.2.2.2.2.2.2.2.2.1 PX') G.2.2.2.2.2.1 G.2.2.2.1 mc ms (fun q => G.2.2.2.2.2.2.2.2.2.1 ≤ q) ∧ G.2.2.2.2.2.2.2.2.1.exceptionTable.toList = tableOf hh
theorem metY_of {y : MethodName} {cc : ByteArray} {own : String} {nL : Nat} {ret : Option FieldType} {rm : Room} {σ : Hp} {av : List Value} {lvs : List (Nat × Value)} {Post : Option Value → Hp → Prop} {PX' : Nat → String → Hp → Prop} {mc ms : Nat}
    (hy : plainName y.cls = true) (ho : y.cls = own) (hn : (lg_sl av).length ≤ nL) (hlv : lv_args 0 av = lvs)
    (body : ∀ G : XE, RQx G [] mc ms Post PX' → X G rm cc own nL ret σ 0 0 0 lvs []) : MetY y cc nL ret rm σ av Post PX' mc ms := by
  subst ho
  subst hlv
  intro l B D hfl
  refine vx_ofW (cc := cc) (maxL := nL) (ret := ret) hy rfl ?_
  intro p e s m args below meth c s₁ Bd hml htb hv
  obtain ⟨rfl, hK, hH, hdom, hB, hSX⟩ := hv
  have hts := atoms_spec (ws := ws_ y cc nL ret) Bd.pre
  have hl := lv_entry av (n := nL) hn
  have htb' : c.exceptionTable.toList = tableOf [] := by
    cases h : c.exceptionTable.toList with
    | nil => rfl
    | cons x t => exact (htb x (by rw [h]; exact List.mem_cons_self)).elim
  have hx := body (p, l, e, s, m, av.toArray, below, meth, c, B, D, vx_MQ below (QX B D Post) (XX B D PX') av.toArray s mc ms (fun q => B ≤ q)) ⟨rfl, htb'⟩
  rw [lg_entry_eq]
  exact hx ⟨Bd.exec, Bd.bytes, hml, findClass_of_methodNamed Bd.named, fun w h => hts w (List.mem_cons_of_mem _ h), Bd.returns, Bd.notSynchronized, hfl⟩ s.heap [] _ ⟨hK, hH, hdom, hB, Nat.le_refl _, fun _ _ => rfl, fun _ h => (List.not_mem_nil h).elim, hSX⟩ hl
theorem metYW_of {y : MethodName} {cc : ByteArray} {own : String} {nL : Nat} {ret : Option FieldType} {hh : List (Nat × Nat × Nat × Nat)} {rm : Room} {σ : Hp} {av : List Value} {lvs : List (Nat × Value)} {Post : Option Value → Hp → Prop} {PX' : Nat → String → Hp → Prop} {mc ms : Nat}
    (hy : plainName y.cls = true) (ho : y.cls = own) (hn : (lg_sl av).length ≤ nL) (hlv : lv_args 0 av = lvs)
    (body : ∀ G : XE, RQx G hh mc ms Post PX' → X G rm cc own nL ret σ 0 0 0 lvs []) : MetYW y cc nL ret hh rm σ av Post PX' mc ms := by
  subst ho
  subst hlv
  intro l B D hfl
  refine vx_ofWH (cc := cc) (maxL := nL) (ret := ret) (hh := hh) hy rfl ?_
  intro p e s m args below meth c s₁ Bd hml hv
  obtain ⟨rfl, hK, hH, hdom, hB, hSX⟩ := hv
  have hts := atoms_spec (ws := wsW_ y cc nL ret hh) Bd.pre
  have hl := lv_entry av (n := nL) hn
  have htb' : c.exceptionTable.toList = tableOf hh := vx_table (x := y) Bd (hts _ List.mem_cons_self)
  have hx := body (p, l, e, s, m, av.toArray, below, meth, c, B, D, vx_MQ below (QX B D Post) (XX B D PX') av.toArray s mc ms (fun q => B ≤ q)) ⟨rfl, htb'⟩
  rw [lg_entry_eq]
  exact hx ⟨Bd.exec, Bd.bytes, hml, findClass_of_methodNamed Bd.named, fun w h => hts w (List.mem_cons_of_mem _ h), Bd.returns, Bd.notSynchronized, hfl⟩ s.heap [] _ ⟨hK, hH, hdom, hB, Nat.le_refl _, fun _ _ => rfl, fun _ h => (List.not_mem_nil h).elim, hSX⟩ hl
/-- a contract that never throws is one that may -/
theorem MetX.toY {y : MethodName} {cc : ByteArray} {nL : Nat} {ret : Option FieldType} {rm : Room} {σ : Hp} {av : List Value} {Post : Option Value → Hp → Prop} {PX' : Nat → String → Hp → Prop} {mc ms : Nat} (h : MetX y cc nL ret rm σ av Post mc ms) : MetY y cc nL ret rm σ av Post PX' mc ms := by
  intro l B D hfl p e ha hc hk s m args below hf happ hP hK
  obtain ⟨k, o, h1, h2, h3, h4⟩ := h l B D hfl p e ha hc hk s m args below hf happ hP hK
  exact ⟨k, o, h1, h2, h3, Or.inl h4⟩
section XT
variable {G : XE} {rm : Room} {cc : ByteArray} {own : String} {nL : Nat} {ret : Option FieldType} {σ : Hp} {cells slots pc n : Nat} {lvs : List (Nat × Value)} {st : List Value}
/-- q, an object of the class E, is being thrown at pc -/
def TX (G : XE) (rm : Room) (cc : ByteArray) (own : String) (nL : Nat) (ret : Option FieldType) (σ : Hp) (cells slots pc : Nat) (lvs : List (Nat × Value)) (q : Nat) (E : String) : Prop :=
  XF G cc own nL ret → ∀ (H : Heap) (locs : List Loc) (ls : Array Slot) (rest : List Value), XB G.2.2.2.2.2.2.2.2.2.1 G.2.2.2.2.2.2.2.2.2.2.1 σ G.2.2.2.1 H locs → lv_has ls nL lvs → (∃ ce : Cell, H[q]? = some ce ∧ ce.vm = .none ∧ G.2.2.2.1.vm.findClass E = some ce.cls) → vx_W G.1 G.2.1 G.2.2.1 rm G.2.2.2.1 G.2.2.2.2.1 G.2.2.2.2.2.1 G.2.2.2.2.2.2.1 G.2.2.2.2.2.2.2.1 G.2.2.2.2.2.2.2.2.1 H locs cells slots G.2.2.2.2.2.2.2.2.2.2.2 (F0 G.2.2.2.2.1 pc ls rest) q
theorem t_widen {k1 k2 q : Nat} {E : String} (h1 : cells ≤ k1) (h2 : slots ≤ k2) (kk : TX G rm cc own nL ret σ k1 k2 pc lvs q E) : TX G rm cc own nL ret σ cells slots pc lvs q E :=
  fun hF H locs ls rest hB hl hc => vx_widen h1 h2 (kk hF H locs ls rest hB hl hc)
theorem t_out {hh : List (Nat × Nat × Nat × Nat)} {mc ms q : Nat} {E : String} {Post : Option Value → Hp → Prop} {PX' : Nat → String → Hp → Prop} (rq : RQx G hh mc ms Post PX') (hcov : ∀ x ∈ tableOf hh, covers x pc = false) (h : PX' q E σ) (hc : cells ≤ mc) (hs : slots ≤ ms) : TX G rm cc own nL ret σ cells slots pc lvs q E := by
  intro hF H locs ls rest hB hl hce
  obtain ⟨ce, h1, h2, h3⟩ := hce
  rw [rq.1]
  exact vx_out (by rw [rq.2]; exact hcov) hF.2.2.2.2.2.2.1 h1 h2 h3 (fun t ht _ => ⟨σ, h, by rw [ht]; exact hB.2.1, hB.2.2.1, by rw [ht]; exact hB.2.2.2.2.1, fun q hq => by rw [ht]; exact hB.2.2.2.2.2.1 q hq⟩) hB.2.2.2.2.2.2.1 hc hs
/-- caught by the first row of the table -/
theorem t_catch {hh suf : List (Nat × Nat × Nat × Nat)} {mc ms q : Nat} {E name : String} {Post : Option Value → Hp → Prop} {PX' : Nat → String → Hp → Prop} {x : Nat × Nat × Nat × Nat} {hpc ct : Nat} (rq : RQx G hh mc ms Post PX') (hsp : tableOf hh = tableOf (x :: suf)) (hx : ∀ z ∈ tableOf [x], covers z pc = true ∧ z.catchType = ct ∧ z.handlerPc = hpc) (h0 : ct ≠ 0) (hl0 : Cond.classLink own ct name ∈ lw_all) (hcast : Cond.castable E name ∈ lw_tbl)
    (kk : X G rm cc own nL ret σ cells slots hpc lvs [.ref q]) : TX G rm cc own nL ret σ cells slots pc lvs q E := by
  intro hF H locs ls rest hB hl hce
  obtain ⟨ce, h1, h2, h3⟩ := hce
  obtain ⟨z, hz⟩ : ∃ z, tableOf [x] = [z] := ⟨_, rfl⟩
  obtain ⟨c1, c2, c3⟩ := hx z (by rw [hz]; exact List.mem_singleton.mpr rfl)
  have hs2 : tableOf (x :: suf) = [] ++ z :: tableOf suf := by
    have : tableOf (x :: suf) = tableOf [x] ++ tableOf suf := rfl
    rw [this, hz]; rfl
  subst c2
  subst c3
  exact vx_catch hF.2.2.2.1 [] z (tableOf suf) (by rw [rq.2, hsp, hs2]) (fun _ h => (List.not_mem_nil h).elim) c1 h0 (hF.2.2.2.2.1 _ hl0) (va_Nw.use rfl (hB.cast hcast)) h1 h2 h3 (kk hF H locs ls hB hl)
theorem y_iret {hh : List (Nat × Nat × Nat × Nat)} {P : Int32 → Hp → Prop} {PX' : Nat → String → Hp → Prop} {x : Int32} (rq : RQx G hh cells slots (oI P) PX') (h : P x σ) (hd : decode cc pc = .ok (.ireturn, 1)) : X G rm cc own nL (some .int) σ cells slots pc lvs [.int x] := by
  intro hF H locs ls hB hl
  rw [rq.1]
  have hlk := hF.2.2.2.2.2.2.1
  exact vx_ret (W.iret hF.1 hF.2.1 hF.2.2.2.2.2.1 (fun t ht _ => RQ.at hB (Post := oI P) ⟨x, rfl, h⟩ ht) hB.2.2.2.2.2.2.1 hd)
theorem y_zret {hh : List (Nat × Nat × Nat × Nat)} {P : Int32 → Hp → Prop} {PX' : Nat → String → Hp → Prop} {x : Int32} (rq : RQx G hh cells slots (oI P) PX') (h : P x σ) (hx : x = 0 ∨ x = 1) (hd : decode cc pc = .ok (.ireturn, 1)) : X G rm cc own nL (some .boolean) σ cells slots pc lvs [.int x] := by
  intro hF H locs ls hB hl
  rw [rq.1]
  have hlk := hF.2.2.2.2.2.2.1
  exact vx_ret (W.zret hF.1 hF.2.1 hF.2.2.2.2.2.1 (bn_of hx).1 (fun t ht _ => RQ.at hB (Post := oI P) ⟨x, rfl, h⟩ ht) hB.2.2.2.2.2.2.1 hd)
theorem y_lret {hh : List (Nat × Nat × Nat × Nat)} {P : Int64 → Hp → Prop} {PX' : Nat → String → Hp → Prop} {x : Int64} (rq : RQx G hh cells slots (oL P) PX') (h : P x σ) (hd : decode cc pc = .ok (.lreturn, 1)) : X G rm cc own nL (some .long) σ cells slots pc lvs [.long x] := by
  intro hF H locs ls hB hl
  rw [rq.1]
  have hlk := hF.2.2.2.2.2.2.1
  exact vx_ret (W.lret hF.1 hF.2.1 hF.2.2.2.2.2.1 (fun t ht _ => RQ.at hB (Post := oL P) ⟨x, rfl, h⟩ ht) hB.2.2.2.2.2.2.1 hd)
theorem y_vret {hh : List (Nat × Nat × Nat × Nat)} {P : Hp → Prop} {PX' : Nat → String → Hp → Prop} (rq : RQx G hh cells slots (oV P) PX') (h : P σ) (hd : decode cc pc = .ok (.return_, 1)) : X G rm cc own nL none σ cells slots pc lvs [] := by
  intro hF H locs ls hB hl
  rw [rq.1]
  have hlk := hF.2.2.2.2.2.2.1
  exact vx_ret (W.vret hF.1 hF.2.1 hF.2.2.2.2.2.1 (fun t ht _ => RQ.at hB (Post := oV P) ⟨rfl, h⟩ ht) hB.2.2.2.2.2.2.1 hd)
theorem y_aret {hh : List (Nat × Nat × Nat × Nat)} {P : Nat → Hp → Prop} {PX' : Nat → String → Hp → Prop} {b : Nat} {rt : FieldType} (hrt : isR rt = true) (rq : RQx G hh cells slots (oR P) PX') (h : P b σ) (hd : decode cc pc = .ok (.areturn, 1)) : X G rm cc own nL (some rt) σ cells slots pc lvs [.ref b] := by
  intro hF H locs ls hB hl
  rw [rq.1]
  have hlk := hF.2.2.2.2.2.2.1
  have h1 : (∃ n, rt = .object n) ∨ ∃ t, rt = .array t := by cases rt <;> first | (cases hrt; done) | exact Or.inl ⟨_, rfl⟩ | exact Or.inr ⟨_, rfl⟩
  exact vx_ret (W.aret hF.1 hF.2.1 hF.2.2.2.2.2.1 h1 (Or.inr ⟨b, rfl⟩) (fun t ht _ => RQ.at hB (Post := oR P) ⟨b, rfl, h⟩ ht) hB.2.2.2.2.2.2.1 hd)
/-- athrow of an object of ours -/
theorem y_athrow {ci q : Nat} {C : String} {T : u_T} {N : Nat} (ck : CK ci C T N) (ht : gT σ q = some (.inl ci)) (hd : decode cc pc = .ok (.athrow, 1)) (kt : TX G rm cc own nL ret σ cells slots pc lvs q C) : X G rm cc own nL ret σ cells slots pc lvs (.ref q :: st) := by
  intro hF H locs ls hB hl
  obtain ⟨r, h1, cell, q1, q2, q3, q4⟩ := hB.2.1.obj ht
  obtain ⟨hS, hfc, -⟩ := hB.1.1 ci _ ck.1
  exact vx_athrow hF.1 hF.2.1 hd (kt hF H locs ls st hB hl ⟨cell, q1, q3, by rw [q2]; exact hfc⟩)
theorem y_run {mc ms : Nat} {rest : List Value} {As : Array Value} {Post : Option Value → Hp → Prop} {PX' : Nat → String → Hp → Prop} {H : Heap} {locs : List Loc} {ls : Array Slot} (hB : XB G.2.2.2.2.2.2.2.2.2.1 G.2.2.2.2.2.2.2.2.2.2.1 σ G.2.2.2.1 H locs) (hl : lv_has ls nL lvs) (hF : XF G cc own nL ret)
    (hr : vx_Run G.1 G.2.1 G.2.2.1 rm G.2.2.2.1 G.2.2.2.2.1 G.2.2.2.2.2.1 G.2.2.2.2.2.2.1 G.2.2.2.2.2.2.2.1 G.2.2.2.2.2.2.2.2.1 H locs cells slots mc ms (F0 G.2.2.2.2.1 pc ls st) rest (QX G.2.2.2.2.2.2.2.2.2.1 G.2.2.2.2.2.2.2.2.2.2.1 Post As) (XX G.2.2.2.2.2.2.2.2.2.1 G.2.2.2.2.2.2.2.2.2.2.1 PX') (fun q => G.2.2.2.2.2.2.2.2.2.1 ≤ q))
    (kx : ∀ q E σ', PX' q E σ' → TX G rm cc own nL ret σ' (cells + mc) (slots + ms) pc lvs q E)
    (kk : ∀ v σ', Post v σ' → X G rm cc own nL ret σ' (cells + mc) (slots + ms) (pc + 3) lvs (v.toList ++ rest)) : W G.1 G.2.1 G.2.2.1 rm G.2.2.2.1 G.2.2.2.2.1 G.2.2.2.2.2.1 G.2.2.2.2.2.2.1 G.2.2.2.2.2.2.2.1 G.2.2.2.2.2.2.2.2.1 H locs cells slots G.2.2.2.2.2.2.2.2.2.2.2 (F0 G.2.2.2.2.1 pc ls st) := by
  intro T hT X0
  obtain ⟨h1, h2, h3, h4, h5, h6, h7, h8⟩ := hB
  rcases hr T hT X0 with ⟨v, st₀, t, T', L, h0, X', hL, e1, e2, ⟨v', σ', hv, hp, hH, hdom, hz, hk⟩, go⟩ | ⟨q, st₀, t, T', L, E, ce, h0, X', hL, e1, e2, ⟨σ', hp, hH, hdom, hz, hk⟩, hce, hcv, hcl, go⟩
  · cases hv
    rw [h0] at hz hk
    obtain ⟨t2, a1, b1⟩ := kk v σ' hp hF T'.heap (locs ++ L) ls ⟨h1, by rw [e1]; exact hH, hdom, h4, by rw [e1]; omega, fun q hq => by rw [e1, hk q hq]; exact h6 q hq, fun q hq => by
      rcases List.mem_append.mp hq with h | h
      · exact h7 q h
      · exact hL q h, h8⟩ hl T' rfl X'
    exact ⟨t2, go t2 a1, b1⟩
  · rw [h0] at hz hk
    obtain ⟨t2, a1, b1⟩ := kx q E σ' hp hF T'.heap (locs ++ L) ls rest ⟨h1, by rw [e1]; exact hH, hdom, h4, by rw [e1]; omega, fun q hq => by rw [e1, hk q hq]; exact h6 q hq, fun q hq => by
      rcases List.mem_append.mp hq with h | h
      · exact h7 q h
      · exact hL q h, h8⟩ hl ⟨ce, by rw [e1]; exact hce, hcv, hcl⟩ T' rfl X'
    exact ⟨t2, go.trans a1, b1⟩
theorem y_callV {ci index maxL k mc ms b : Nat} {C : String} {T : u_T} {N : Nat} {y : MethodName} {bytes : ByteArray} {r : Option FieldType} {rmc : Room} {As rest : List Value} {Post : Option Value → Hp → Prop} {PX' : Nat → String → Hp → Prop} (cv : CVX own index C y bytes maxL r k) (ck : CK ci C T N) (hM : MetY y bytes maxL r rmc σ (.ref b :: As) Post PX' mc ms) (ht : gT σ b = some (.inl ci)) (hR : rmc.cells = mc ∧ rmc.slots = ms ∧ rmc.frames + 1 ≤ rm.frames ∧ 8 + (maxL + 11) + rmc.locals ≤ rm.locals ∧ cells + mc ≤ rm.cells ∧ slots + ms ≤ rm.slots) (hk : As.length = k) (hst : st = As.reverse ++ .ref b :: rest) (hw : Nat.ble (rest.map fun v => v.category).sum 8 = true) (hd : decode cc pc = .ok (.invokevirtual index, 3)) (hn : pc + 3 = n)
    (kx : ∀ q E σ', PX' q E σ' → TX G rm cc own nL ret σ' (cells + mc) (slots + ms) pc lvs q E)
    (kk : ∀ v σ', Post v σ' → X G rm cc own nL ret σ' (cells + mc) (slots + ms) n lvs (v.toList ++ rest)) : X G rm cc own nL ret σ cells slots pc lvs st := by
  subst hn
  have hw := Nat.le_of_ble_eq_true hw
  intro hF H locs ls hB hl
  rcases cv with ⟨cv1 | ⟨host, c1, c2, c3, c4, c5⟩, cv2⟩
  rotate_left
  · exact y_run hB hl hF (vx_runVN (host := host) (As := As) (rest := rest) ⟨hF.1, hF.2.1, hF.2.2.1, hF.2.2.2.1, hF.2.2.2.2.1⟩ (hM G.2.1 G.2.2.2.2.2.2.2.2.2.1 G.2.2.2.2.2.2.2.2.2.2.1 hF.2.2.2.2.2.2.2) ⟨va_cnB k hF.2.2.2.2.1 (lw_meth c5) rfl hR.1 hR.2.1 (hB.nestM c1) (hF.2.2.2.2.1 _ c4) cv2.2 ⟨hR.2.2.1, hR.2.2.2.1⟩, hF.2.2.2.2.1 _ c2, hF.2.2.2.2.1 _ c3⟩ ⟨PX.blind, HP.recv hB.1 hB.2.1 ht ck.1, fun U hU hW => hB.pre U hU hW⟩ rfl hk hl.1 hst (lv_room hw) hd hR.2.2.2.2) kx kk
  exact y_run hB hl hF (vx_runV (As := As) (rest := rest) ⟨hF.1, hF.2.1, hF.2.2.1, hF.2.2.2.1, hF.2.2.2.2.1⟩ (hM G.2.1 G.2.2.2.2.2.2.2.2.2.1 G.2.2.2.2.2.2.2.2.2.2.1 hF.2.2.2.2.2.2.2) (cwV k hF.2.2.2.2.1 cv1 rfl hR.1 hR.2.1 cv2 ⟨hR.2.2.1, hR.2.2.2.1⟩) ⟨PX.blind, HP.recv hB.1 hB.2.1 ht ck.1, fun U hU hW => hB.pre U hU hW⟩ rfl hk hl.1 hst (lv_room hw) hd hR.2.2.2.2) kx kk
theorem y_callS {index maxL k mc ms : Nat} {y : MethodName} {bytes : ByteArray} {r : Option FieldType} {rmc : Room} {As rest : List Value} {Post : Option Value → Hp → Prop} {PX' : Nat → String → Hp → Prop} (cs : CSX own index y bytes maxL r k) (hM : MetY y bytes maxL r rmc σ As Post PX' mc ms) (hR : rmc.cells = mc ∧ rmc.slots = ms ∧ rmc.frames + 1 ≤ rm.frames ∧ 8 + (maxL + 11) + rmc.locals ≤ rm.locals ∧ cells + mc ≤ rm.cells ∧ slots + ms ≤ rm.slots) (hk : As.length = k) (hst : st = As.reverse ++ rest) (hw : Nat.ble (rest.map fun v => v.category).sum 8 = true) (hd : decode cc pc = .ok (.invokestatic index, 3)) (hn : pc + 3 = n)
    (kx : ∀ q E σ', PX' q E σ' → TX G rm cc own nL ret σ' (cells + mc) (slots + ms) pc lvs q E)
    (kk : ∀ v σ', Post v σ' → X G rm cc own nL ret σ' (cells + mc) (slots + ms) n lvs (v.toList ++ rest)) : X G rm cc own nL ret σ cells slots pc lvs st := by
  subst hn
  have hw := Nat.le_of_ble_eq_true hw
  intro hF H locs ls hB hl
  rcases cs with ⟨cs1 | ⟨host, c1, c2, c4, c5⟩, cs2⟩
  rotate_left
  · exact y_run hB hl hF (vx_runSN (host := host) (As := As) (rest := rest) ⟨hF.1, hF.2.1, hF.2.2.1, hF.2.2.2.1, hF.2.2.2.2.1⟩ (hM G.2.1 G.2.2.2.2.2.2.2.2.2.1 G.2.2.2.2.2.2.2.2.2.2.1 hF.2.2.2.2.2.2.2) ⟨va_cnB k hF.2.2.2.2.1 (lw_meth c5) rfl hR.1 hR.2.1 (hB.nestM c1) (hF.2.2.2.2.1 _ c4) cs2 ⟨hR.2.2.1, hR.2.2.2.1⟩, hF.2.2.2.2.1 _ c2, trivial⟩ ⟨PX.blind, fun U hU hW => hB.pre U hU hW⟩ rfl hk hl.1 hst (lv_room hw) hd hR.2.2.2.2) kx kk
  exact y_run hB hl hF (vx_runS (As := As) (rest := rest) ⟨hF.1, hF.2.1, hF.2.2.1, hF.2.2.2.1, hF.2.2.2.2.1⟩ (hM G.2.1 G.2.2.2.2.2.2.2.2.2.1 G.2.2.2.2.2.2.2.2.2.2.1 hF.2.2.2.2.2.2.2) (va_cwS k hF.2.2.2.2.1 cs1 rfl hR.1 hR.2.1 cs2 ⟨hR.2.2.1, hR.2.2.2.1⟩) ⟨PX.blind, fun U hU hW => hB.pre U hU hW⟩ rfl hk hl.1 hst (lv_room hw) hd hR.2.2.2.2) kx kk
end XT

