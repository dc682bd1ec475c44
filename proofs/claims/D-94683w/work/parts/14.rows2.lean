set_option maxRecDepth 100000
/-- an object of the class ci -/
def OB (ci o : Nat) (σ : Hp) : Prop := gT σ o = some (.inl ci)
theorem OB.i {ci o : Nat} {σ : Hp} (h : OB ci o σ) {a k : Nat} {v : Int32} : OB ci o (pI σ a k v) := h
theorem OB.l {ci o : Nat} {σ : Hp} (h : OB ci o σ) {a k : Nat} {v : Int64} : OB ci o (pL σ a k v) := h
theorem OB.sh {ci o : Nat} {σ σ' : Hp} (h : OB ci o σ) (hs : SH σ σ') : OB ci o σ' := hs.t h
def rf (σ : Hp) (a k : Nat) : Nat := (gR σ a k).getD 0
section XR2
variable {G : XE} {rm : Room} {cc : ByteArray} {own : String} {nL : Nat} {ret : Option FieldType} {σ : Hp} {cells slots pc n : Nat} {lvs : List (Nat × Value)} {st : List Value}
/-- what a cast to nm asks of an object of the class ci -/
def CX (own : String) (index ci : Nat) : Prop := ∃ (C : String) (T : u_T) (N : Nat) (nm : String), CK ci C T N ∧ Cond.classLink own index nm ∈ lw_all ∧ (C = nm ∨ Cond.castable C nm ∈ lw_tbl)
theorem x_cast {index ci a : Nat} (cx : CX own index ci) (ht : gT σ a = some (.inl ci)) (hd : decode cc pc = .ok (.checkcast index, 3)) (hn : pc + 3 = n) (kk : X G rm cc own nL ret σ cells slots n lvs (.ref a :: st)) : X G rm cc own nL ret σ cells slots pc lvs (.ref a :: st) := by
  subst hn
  obtain ⟨C, T, N, nm, ck, hl, hc⟩ := cx
  intro hF H locs ls hB hl'
  rcases hc with hc | hc
  · subst hc
    exact va_castS hF.1 hF.2.1 hF.2.2.2.1 (hF.2.2.2.2.1 _ hl) (hB.1.1 ci _ ck.1).2 (HP.recv hB.1 hB.2.1 ht ck.1) hd (kk hF H locs ls hB hl')
  · exact va_castY hF.1 hF.2.1 hF.2.2.2.1 (hF.2.2.2.2.1 _ hl) (hB.cast hc) (HP.recv hB.1 hB.2.1 ht ck.1) hd (kk hF H locs ls hB hl')
/-- .. of one of several classes -/
theorem x_castM {index a : Nat} (cis : List Nat) (cx : ∀ ci ∈ cis, CX own index ci) (ht : ∃ ci ∈ cis, gT σ a = some (.inl ci)) (hd : decode cc pc = .ok (.checkcast index, 3)) (hn : pc + 3 = n) (kk : X G rm cc own nL ret σ cells slots n lvs (.ref a :: st)) : X G rm cc own nL ret σ cells slots pc lvs (.ref a :: st) := by
  obtain ⟨ci, h1, h2⟩ := ht
  exact x_cast (cx ci h1) h2 hd hn kk
/-- a field that several classes have from above, at the same place -/
theorem x_getM {index k a : Nat} {v : Int32} (cis : List Nat) (fl : ∀ ci ∈ cis, FL own index ci k ∧ isI (clTy ci k) = true) (ht : ∃ ci ∈ cis, gT σ a = some (.inl ci)) (hv : gI σ a k = v) (hd : decode cc pc = .ok (.getfield index, 3)) (hn : pc + 3 = n) (kk : X G rm cc own nL ret σ cells slots n lvs (.int v :: st)) : X G rm cc own nL ret σ cells slots pc lvs (.ref a :: st) := by
  obtain ⟨ci, h1, h2⟩ := ht
  exact x_geti (fl ci h1).1 (fl ci h1).2 h2 hv hd hn kk
theorem x_getMl {index k a : Nat} {v : Int64} (cis : List Nat) (fl : ∀ ci ∈ cis, FL own index ci k ∧ clTy ci k = .long) (ht : ∃ ci ∈ cis, gT σ a = some (.inl ci)) (hv : gL σ a k = v) (hd : decode cc pc = .ok (.getfield index, 3)) (hn : pc + 3 = n) (kk : X G rm cc own nL ret σ cells slots n lvs (.long v :: st)) : X G rm cc own nL ret σ cells slots pc lvs (.ref a :: st) := by
  obtain ⟨ci, h1, h2⟩ := ht
  exact x_getl (fl ci h1).1 (fl ci h1).2 h2 hv hd hn kk
theorem x_aret {P : Nat → Hp → Prop} {b : Nat} {rt : FieldType} (hrt : isR rt = true) (rq : RQ G cells slots (oR P)) (h : P b σ) (hd : decode cc pc = .ok (.areturn, 1)) : X G rm cc own nL (some rt) σ cells slots pc lvs [.ref b] := by
  intro hF H locs ls hB hl
  rw [rq]
  have hlk := hF.2.2.2.2.2.2.1
  have h1 : (∃ n, rt = .object n) ∨ ∃ t, rt = .array t := by cases rt <;> first | (cases hrt; done) | exact Or.inl ⟨_, rfl⟩ | exact Or.inr ⟨_, rfl⟩
  exact W.aret hF.1 hF.2.1 hF.2.2.2.2.2.1 h1 (Or.inr ⟨b, rfl⟩) (fun t ht _ => RQ.at hB (Post := oR P) ⟨b, rfl, h⟩ ht) hB.2.2.2.2.2.2.1 hd
/-- a reference out of an array, whatever it is -/
theorem x_aaldn {t0 a b N k : Nat} {ty : FieldType} {i : Int32} (at0 : AT t0 ty) (hty : isR ty = true) (ht : gT σ a = some (.inr (ty, N))) (hin : vp_in i N) (hk : i.toNatClampNeg = k) (hr : gR σ a k ≠ none) (hb : rf σ a k = b) (hd : decode cc pc = .ok (.aaload, 1)) (hn : pc + 1 = n) (kk : X G rm cc own nL ret σ cells slots n lvs (.ref b :: st)) : X G rm cc own nL ret σ cells slots pc lvs (.int i :: .ref a :: st) := by
  refine x_aald at0 hty ht hin hk (b := b) ?_ hd hn kk
  cases h : gR σ a k with
  | none => exact absurd h hr
  | some c => rw [← hb]; simp [rf, h]
theorem x_getrn {index ci k a b : Nat} (fl : FL own index ci k) (hty : isR (clTy ci k) = true) (ht : gT σ a = some (.inl ci)) (hr : gR σ a k ≠ none) (hb : rf σ a k = b) (hd : decode cc pc = .ok (.getfield index, 3)) (hn : pc + 3 = n) (kk : X G rm cc own nL ret σ cells slots n lvs (.ref b :: st)) : X G rm cc own nL ret σ cells slots pc lvs (.ref a :: st) := by
  refine x_getr fl hty ht (b := b) ?_ hd hn kk
  cases h : gR σ a k with
  | none => exact absurd h hr
  | some c => rw [← hb]; simp [rf, h]

theorem XB.grow {B : Nat} {D : DD} {σ : Hp} {s : State} {H H' : Heap} {locs : List Loc} {t : Nat ⊕ (FieldType × Nat)} (h : XB B D σ s H locs) (hz : H'.size = H.size + 1) (oq : ∀ q, q < H.size → H'[q]? = H[q]?) (hP : HP D (pN σ t) H') : XB B D (pN σ t) s H' locs := by
  obtain ⟨h1, h2, h3, h4, h5, h6, h7, h8⟩ := h
  refine ⟨h1, hP, fun b t' q => ?_, h4, by rw [hz]; omega, fun q hq => ?_, h7, h8⟩
  · by_cases hb : b = σ.1
    · have : H.size = σ.1 := h2.1
      omega
    · refine h3 b t' ?_
      have e : gT (pN σ t) b = gT σ b := by show u1 _ _ _ _ = _; simp [u1, hb, gT]
      rw [← e]; exact q
  · rw [oq q (by omega)]; exact h6 q hq
theorem gv_new {ty : FieldType} (h1 : ty ≠ .float) (h2 : ty ≠ .double) (σ : Hp) (t : Nat ⊕ (FieldType × Nat)) (k : Nat) : gv ty (pN σ t) (gS σ) k = defaultValue ty := by
  have e1 : gI (pN σ t) (gS σ) k = 0 := by simp [gI, pN, u1, gS]
  have e2 : gL (pN σ t) (gS σ) k = 0 := by simp [gL, pN, u1, gS]
  have e3 : gR (pN σ t) (gS σ) k = none := by simp [gR, pN, u1, gS]
  cases ty <;> first | (exact absurd rfl h1) | (exact absurd rfl h2) | (simp [gv, e1, e2, e3, va_rf, defaultValue])
/-- new: the class ci, by the entry index of own's pool -/
def NX (own : String) (index ci N : Nat) : Prop := ∃ (C : String) (T : u_T), CK ci C T N ∧ Cond.classLink own index C ∈ lw_all ∧ Cond.instantiable C N ∈ lw_all ∧ Cond.initialized C ∈ lw_all ∧ ∀ k, k < N → clTy ci k ≠ .float ∧ clTy ci k ≠ .double
theorem blank_size {C : String} {N : Nat} {args : Array Value} {s : State} {cC : ClassId} {kC : Class} (h : (Cond.instantiable C N).before args s = true) (h1 : s.vm.findClass C = some cC) (h2 : s.vm.classes[cC]? = some kC) : (blank cC kC).slots.size = N := by
  obtain ⟨c, k, g1, g2, -, -, -, g6⟩ := Cond.instantiable_spec h
  rw [h1] at g1
  cases g1
  rw [h2] at g2
  cases g2
  simpa [blank] using g6
theorem x_new {index ci N : Nat} (nx : NX own index ci N) (hR : cells + 1 ≤ rm.cells ∧ slots + N ≤ rm.slots) (hd : decode cc pc = .ok (.new index, 3)) (hn : pc + 3 = n) (kk : X G rm cc own nL ret (pN σ (.inl ci)) (cells + 1) (slots + N) n lvs (.ref (gS σ) :: st)) : X G rm cc own nL ret σ cells slots pc lvs st := by
  subst hn
  obtain ⟨C, T, ck, hcl, hinst, hini, hnf⟩ := nx
  intro hF H locs ls hB hl
  have hKn := hB.1.1 ci _ ck.1
  refine W.newcK hF.1 hF.2.1 hF.2.2.2.1 (hF.2.2.2.2.1 _ hcl) (hF.2.2.2.2.1 _ hinst) (hF.2.2.2.2.1 _ hini) rfl hd hR.1 hR.2 hKn.2.1 rfl fun H1 kC hkC e1 z1 o1 => ?_
  rw [hB.2.1.1] at e1
  have hz : H1.size = H.size + 1 := z1
  have : HPc G.2.2.2.2.2.2.2.2.2.2.1 (pN σ (.inl ci)) (gS σ) H1 := by
    unfold HPc
    rw [show gT (pN σ (.inl ci)) (gS σ) = some (.inl ci) by show u1 _ _ _ _ = _; simp [u1, gS]]
    exact ⟨_, ck.1, (u_born (clTy ci) hF.2.2.2.2.1 ck.2.1 hKn hkC e1 ck.2.2.1).to (fun k hk => (gv_new (hnf k hk).1 (hnf k hk).2 σ _ k).symm), fun cell hc => by rw [e1] at hc; cases hc; exact blank_size (hF.2.2.2.2.1 _ hinst) hKn.2.1 hkC⟩
  have hP := hB.2.1.grow hz o1 this
  have hx := kk hF H1 locs ls (hB.grow hz o1 hP) hl
  rw [← hB.2.1.1] at hx
  exact hx
theorem x_newa {atype : ArrayType} {ty : FieldType} {t0 N : Nat} {m : Int32} (hq : Cond.arrayClass (newarray.typeOf atype) ∈ lw_all) (hty : newarray.typeOf atype = ty) (at0 : AT t0 ty) (hnr : isR ty = false ∧ ty ≠ .float ∧ ty ≠ .double) (hm : ¬ m < 0) (hN : m.toNatClampNeg = N) (hb : N * componentBytes ty ≤ 536870912) (hR : cells + 1 ≤ rm.cells ∧ slots + N ≤ rm.slots) (hd : decode cc pc = .ok (.newarray atype, 2)) (hn : pc + 2 = n) (kk : X G rm cc own nL ret (pN σ (.inr (ty, N))) (cells + 1) (slots + N) n lvs (.ref (gS σ) :: st)) : X G rm cc own nL ret σ cells slots pc lvs (.int m :: st) := by
  subst hn
  subst hty
  intro hF H locs ls hB hl
  refine va_newaK hF.1 hF.2.1 (hF.2.2.2.2.1 _ hq) rfl hd rfl hm hN hb hR.1 hR.2 rfl fun H1 cA e1 z1 o1 hAr hNm => ?_
  have hra := (hB.1.2 t0 _ (at0 _)).2
  have hc : G.2.2.2.2.2.2.2.2.2.2.1.2.2 (newarray.typeOf atype) = cA := by
    have h2 : G.2.2.2.1.vm.findClass ("[" ++ (newarray.typeOf atype).toString) = some (G.2.2.2.2.2.2.2.2.2.2.1.2.2 (newarray.typeOf atype)) := by
      have hnr1 := hnr.1
      revert hra hnr1
      cases newarray.typeOf atype <;> first | exact fun h _ => h | exact fun _ h => Bool.noConfusion h
    exact Option.some.inj (h2.symm.trans hNm)
  rw [hB.2.1.1] at e1
  have hz : H1.size = H.size + 1 := z1
  have : HPc G.2.2.2.2.2.2.2.2.2.2.1 (pN σ (.inr (newarray.typeOf atype, N))) (gS σ) H1 := by
    unfold HPc
    rw [show gT (pN σ (.inr (newarray.typeOf atype, N))) (gS σ) = some (.inr (newarray.typeOf atype, N)) by show u1 _ _ _ _ = _; simp [u1, gS]]
    show H1[gS σ]? = _
    rw [e1, ← hc]
    congr 2
    funext j
    exact (gv_new hnr.2.1 hnr.2.2 σ _ j).symm
  have hP := hB.2.1.grow hz o1 this
  have hx := kk hF H1 locs ls (hB.grow hz o1 hP) hl
  rw [← hB.2.1.1] at hx
  exact hx
theorem x_anew {index t0 N : Nat} {C : String} {m : Int32} (hcl : Cond.classLink own index C ∈ lw_all) (hov : Cond.arrayOver (.object C) ∈ lw_tbl) (at0 : AT t0 (.object C)) (hm : ¬ m < 0) (hN : m.toNatClampNeg = N) (hb : N * 4 ≤ 536870912) (hR : cells + 1 ≤ rm.cells ∧ slots + N ≤ rm.slots) (hd : decode cc pc = .ok (.anewarray index, 3)) (hn : pc + 3 = n) (kk : X G rm cc own nL ret (pN σ (.inr (.object C, N))) (cells + 1) (slots + N) n lvs (.ref (gS σ) :: st)) : X G rm cc own nL ret σ cells slots pc lvs (.int m :: st) := by
  subst hn
  subst hN
  intro hF H locs ls hB hl
  have hao : va_AO C G.2.2.2.1 := by
    obtain ⟨s0, b0, g1, g2, g3, g4, g5⟩ := hB.2.2.2.2.2.2.2
    exact va_AO.moved g3.alike (va_AO.of (g1 _ hov))
  refine W.anew hF.1 hF.2.1 hF.2.2.2.1 (hF.2.2.2.2.1 _ hcl) (va_AO.use hao) rfl hd rfl hm hb hR.1 hR.2 fun cA kA comp f1 f2 f3 f4 => ?_
  obtain ⟨kA', comp', r1, r2, r3, r4⟩ := (hB.1.2 t0 _ (at0 _)).2
  have hc : G.2.2.2.2.2.2.2.2.2.2.1.2.2 (.object C) = cA := Option.some.inj (r4.symm.trans f1)
  generalize hH1 : H.push ({ cls := cA, slots := Array.replicate m.toNatClampNeg .null, vm := .none } : Cell) = H1
  have hz : H1.size = H.size + 1 := by rw [← hH1, Array.size_push]
  have e1 : H1[H.size]? = some (arrV cA m.toNatClampNeg (fun _ => .null)) := by rw [← hH1, Array.getElem?_push_size, ← arrV_new]
  have o1 : ∀ q, q < H.size → H1[q]? = H[q]? := fun q hq => by rw [← hH1, Array.getElem?_push, if_neg (Nat.ne_of_lt hq)]
  rw [hB.2.1.1] at e1
  have : HPc G.2.2.2.2.2.2.2.2.2.2.1 (pN σ (.inr (.object C, m.toNatClampNeg))) (gS σ) H1 := by
    unfold HPc
    rw [show gT (pN σ (.inr (.object C, m.toNatClampNeg))) (gS σ) = some (.inr (.object C, m.toNatClampNeg)) by show u1 _ _ _ _ = _; simp [u1, gS]]
    show H1[gS σ]? = _
    rw [e1, ← hc]
    congr 2
    funext j
    exact (gv_new (ty := .object C) (by intro h; cases h) (by intro h; cases h) σ _ j).symm
  have hP := hB.2.1.grow hz o1 this
  have hx := kk hF H1 locs ls (hB.grow hz o1 hP) hl
  rw [← hB.2.1.1] at hx
  exact hx
/-- a constructor's call: plain or of a nest mate -/
def CIX (own : String) (index : Nat) (y : MethodName) (bytes : ByteArray) (maxL : Nat) (k : Nat) : Prop := (Cond.methodLink own index y ∈ lw_all ∨ ∃ host : String, Cond.methodLinkNest own index y host ∈ lw_tbl) ∧ Cond.instanceMethod y ∈ lw_all ∧ Cond.initialized y.cls ∈ lw_all ∧ Cond.code y bytes maxL none ∈ lw_all ∧ y.name = "<init>" ∧ y.cls ≠ "java/lang/invoke/MethodHandle" ∧ y.cls ≠ "java/lang/invoke/VarHandle" ∧ (parseMethodDescriptor y.desc).map (fun d => d.parameters.length) = some k
theorem x_callI {index maxL k mc ms b : Nat} {y : MethodName} {bytes : ByteArray} {rmc : Room} {As rest : List Value} {Q : Hp → Prop} (cx : CIX own index y bytes maxL k) (hM : MetX y bytes maxL none rmc σ (.ref b :: As) (oV Q) mc ms) (hR : rmc.cells = mc ∧ rmc.slots = ms ∧ rmc.frames + 1 ≤ rm.frames ∧ 8 + (maxL + 11) + rmc.locals ≤ rm.locals ∧ cells + mc ≤ rm.cells ∧ slots + ms ≤ rm.slots) (hk : As.length = k) (hst : st = As.reverse ++ .ref b :: rest) (hw : Nat.ble (rest.map fun v => v.category).sum 8 = true) (hd : decode cc pc = .ok (.invokespecial index, 3)) (hn : pc + 3 = n)
    (kk : ∀ σ', Q σ' → X G rm cc own nL ret σ' (cells + mc) (slots + ms) n lvs rest) : X G rm cc own nL ret σ cells slots pc lvs st := by
  subst hn
  obtain ⟨hl0, c2, c4, c5, c6, c7⟩ := cx
  intro hF H locs ls hB hl
  have fin : ∀ v σ', oV Q v σ' → X G rm cc own nL ret σ' (cells + mc) (slots + ms) (pc + 3) lvs (v.toList ++ rest) := fun v σ' hp => by obtain ⟨rfl, h⟩ := hp; exact kk σ' h
  rcases hl0 with h0 | ⟨host, h0⟩
  · exact x_run hB hl hF (va_runI (As := As) (rest := rest) ⟨hF.1, hF.2.1, hF.2.2.1, hF.2.2.2.1, hF.2.2.2.2.1⟩ (hM G.2.1 G.2.2.2.2.2.2.2.2.2.1 G.2.2.2.2.2.2.2.2.2.2.1 hF.2.2.2.2.2.2.2) (cwI k hF.2.2.2.2.1 (lw_meth c5) rfl hR.1 hR.2.1 (hF.2.2.2.2.1 _ c4) (hF.2.2.2.2.1 _ h0) (hF.2.2.2.2.1 _ c2) c6 c7 ⟨hR.2.2.1, hR.2.2.2.1⟩) ⟨PX.blind, fun U hU hW => hB.pre U hU hW⟩ rfl hk hl.1 hst (lv_room (Nat.le_of_ble_eq_true hw)) hd hR.2.2.2.2) fin
  · exact x_run hB hl hF (va_runIN (host := host) (As := As) (rest := rest) ⟨hF.1, hF.2.1, hF.2.2.1, hF.2.2.2.1, hF.2.2.2.2.1⟩ (hM G.2.1 G.2.2.2.2.2.2.2.2.2.1 G.2.2.2.2.2.2.2.2.2.2.1 hF.2.2.2.2.2.2.2) ⟨va_cnB k hF.2.2.2.2.1 (lw_meth c5) rfl hR.1 hR.2.1 (hB.nestM h0) (hF.2.2.2.2.1 _ c4) c7 ⟨hR.2.2.1, hR.2.2.2.1⟩, c6, hF.2.2.2.2.1 _ c2⟩ ⟨PX.blind, fun U hU hW => hB.pre U hU hW⟩ rfl hk hl.1 hst (lv_room (Nat.le_of_ble_eq_true hw)) hd hR.2.2.2.2) fin
theorem x_oinit {index a : Nat} (h1 : Cond.methodLink own index objectInit ∈ lw_all) (h2 : Cond.instanceMethod objectInit ∈ lw_all) (h3 : Cond.code objectInit ⟨#[0xb1]⟩ 1 none ∈ lw_all) (hR : 1 ≤ rm.frames ∧ (st.map fun v => v.category).sum + 12 ≤ rm.locals) (hd : decode cc pc = .ok (.invokespecial index, 3)) (hn : pc + 3 = n) (kk : X G rm cc own nL ret σ cells slots n lvs st) : X G rm cc own nL ret σ cells slots pc lvs (.ref a :: st) := by
  subst hn
  intro hF H locs ls hB hl
  refine W.objInit hF.1 hF.2.1 hF.2.2.2.1 (hF.2.2.2.2.1 _ h1) (hF.2.2.2.2.1 _ h2) (hF.2.2.2.2.1 _ h3) rfl (by rw [hF.2.2.1]; exact hl.1) rfl hd hR.1 ?_ (kk hF H locs ls hB hl)
  have := hR.2
  show 2 * 0 + _ + 12 ≤ _
  omega
end XR2

theorem cx_X1_27_2 : CX RX1 27 2 := ⟨RX2, TX2, 9, "LongYears$Reader", ck2, q176, Or.inl rfl⟩
theorem nx_X1_27 : NX RX1 27 2 9 := ⟨RX2, TX2, ck2, q176, q177, q131, by decide⟩
theorem cx_X1_36_3 : CX RX1 36 3 := ⟨RX3, TX3, 14, "LongYears$Realm", ck3, q211, Or.inl rfl⟩
theorem nx_X1_36 : NX RX1 36 3 14 := ⟨RX3, TX3, ck3, q211, q212, q132, by decide⟩
theorem cx_X1_47_5 : CX RX1 47 5 := ⟨RX5, TX5, 4, "LongYears$Note", ck5, q310, Or.inl rfl⟩
theorem nx_X1_47 : NX RX1 47 5 4 := ⟨RX5, TX5, ck5, q310, q314, q137, by decide⟩
theorem cx_X1_107_16 : CX RX1 107 16 := ⟨RX7, TX7, 8, "LongYears$Fault", ck16, q436, Or.inl rfl⟩
theorem nx_X1_107 : NX RX1 107 16 8 := ⟨RX7, TX7, ck16, q436, q595, q147, by decide⟩
theorem cx_X1_169_6 : CX RX1 169 6 := ⟨RX8, TX8, 4, "LongYears$Land", ck6, q1056, Or.inl rfl⟩
theorem nx_X1_169 : NX RX1 169 6 4 := ⟨RX8, TX8, ck6, q1056, q674, q148, by decide⟩
theorem cx_X1_222_9 : CX RX1 222 9 := ⟨RX10, TX10, 4, "LongYears$Deed", ck9, q1263, Or.inl rfl⟩
theorem cx_X1_222_10 : CX RX1 222 10 := ⟨RX11, TX11, 4, "LongYears$Deed", ck10, q1263, Or.inr q2241⟩
theorem cx_X1_222_11 : CX RX1 222 11 := ⟨RX12, TX12, 4, "LongYears$Deed", ck11, q1263, Or.inr q2240⟩
theorem nx_X1_222 : NX RX1 222 9 4 := ⟨RX10, TX10, ck9, q1263, q882, q154, by decide⟩
theorem cx_X1_237_7 : CX RX1 237 7 := ⟨RX13, TX13, 2, "LongYears$Feast", ck7, q1133, Or.inl rfl⟩
theorem nx_X1_237 : NX RX1 237 7 2 := ⟨RX13, TX13, ck7, q1133, q924, q157, by decide⟩
theorem cx_X1_274_8 : CX RX1 274 8 := ⟨RX9, TX9, 3, "LongYears$Person", ck8, q1195, Or.inl rfl⟩
theorem nx_X1_274 : NX RX1 274 8 3 := ⟨RX9, TX9, ck8, q1195, q796, q153, by decide⟩
theorem cx_X4_10_5 : CX RX4 10 5 := ⟨RX5, TX5, 4, "LongYears$Named", ck5, q695, Or.inr q2237⟩
theorem cx_X4_10_6 : CX RX4 10 6 := ⟨RX8, TX8, 4, "LongYears$Named", ck6, q695, Or.inr q2236⟩
theorem cx_X4_10_7 : CX RX4 10 7 := ⟨RX13, TX13, 2, "LongYears$Named", ck7, q695, Or.inr q2234⟩
theorem cx_X4_10_8 : CX RX4 10 8 := ⟨RX9, TX9, 3, "LongYears$Named", ck8, q695, Or.inr q2238⟩
theorem cx_X4_10_9 : CX RX4 10 9 := ⟨RX10, TX10, 4, "LongYears$Named", ck9, q695, Or.inr q2233⟩
theorem cx_X4_10_10 : CX RX4 10 10 := ⟨RX11, TX11, 4, "LongYears$Named", ck10, q695, Or.inr q2239⟩
theorem cx_X4_10_11 : CX RX4 10 11 := ⟨RX12, TX12, 4, "LongYears$Named", ck11, q695, Or.inr q2235⟩
theorem cx_X2_80_16 : CX RX2 80 16 := ⟨RX7, TX7, 8, "LongYears$Fault", ck16, q594, Or.inl rfl⟩
theorem nx_X2_80 : NX RX2 80 16 8 := ⟨RX7, TX7, ck16, q594, q595, q147, by decide⟩
theorem cx_X2_112_3 : CX RX2 112 3 := ⟨RX3, TX3, 14, "LongYears$Realm", ck3, q444, Or.inl rfl⟩
theorem nx_X2_112 : NX RX2 112 3 14 := ⟨RX3, TX3, ck3, q444, q212, q132, by decide⟩
theorem cx_X2_170_7 : CX RX2 170 7 := ⟨RX13, TX13, 2, "LongYears$Feast", ck7, q923, Or.inl rfl⟩
theorem nx_X2_170 : NX RX2 170 7 2 := ⟨RX13, TX13, ck7, q923, q924, q157, by decide⟩
theorem cx_X2_205_6 : CX RX2 205 6 := ⟨RX8, TX8, 4, "LongYears$Land", ck6, q673, Or.inl rfl⟩
theorem nx_X2_205 : NX RX2 205 6 4 := ⟨RX8, TX8, ck6, q673, q674, q148, by decide⟩
theorem cx_X2_234_8 : CX RX2 234 8 := ⟨RX9, TX9, 3, "LongYears$Person", ck8, q795, Or.inl rfl⟩
theorem nx_X2_234 : NX RX2 234 8 3 := ⟨RX9, TX9, ck8, q795, q796, q153, by decide⟩
theorem cx_X2_248_10 : CX RX2 248 10 := ⟨RX11, TX11, 4, "LongYears$Yearly", ck10, q851, Or.inl rfl⟩
theorem nx_X2_248 : NX RX2 248 10 4 := ⟨RX11, TX11, ck10, q851, q852, q155, by decide⟩
theorem cx_X2_253_9 : CX RX2 253 9 := ⟨RX10, TX10, 4, "LongYears$Deed", ck9, q881, Or.inl rfl⟩
theorem cx_X2_253_10 : CX RX2 253 10 := ⟨RX11, TX11, 4, "LongYears$Deed", ck10, q881, Or.inr q2241⟩
theorem cx_X2_253_11 : CX RX2 253 11 := ⟨RX12, TX12, 4, "LongYears$Deed", ck11, q881, Or.inr q2240⟩
theorem nx_X2_253 : NX RX2 253 9 4 := ⟨RX10, TX10, ck9, q881, q882, q154, by decide⟩
theorem cx_X2_256_11 : CX RX2 256 11 := ⟨RX12, TX12, 4, "LongYears$Festive", ck11, q889, Or.inl rfl⟩
theorem nx_X2_256 : NX RX2 256 11 4 := ⟨RX12, TX12, ck11, q889, q890, q156, by decide⟩
theorem cx_X2_265_5 : CX RX2 265 5 := ⟨RX5, TX5, 4, "LongYears$Note", ck5, q908, Or.inl rfl⟩
theorem nx_X2_265 : NX RX2 265 5 4 := ⟨RX5, TX5, ck5, q908, q314, q137, by decide⟩
theorem cx_X2_287_15 : CX RX2 287 15 := ⟨RX18, TX18, 3, "LongYears$Two", ck15, q984, Or.inl rfl⟩
theorem nx_X2_287 : NX RX2 287 15 3 := ⟨RX18, TX18, ck15, q984, q985, q162, by decide⟩
theorem cx_X2_298_14 : CX RX2 298 14 := ⟨RX17, TX17, 1, "LongYears$Not", ck14, q1005, Or.inl rfl⟩
theorem nx_X2_298 : NX RX2 298 14 1 := ⟨RX17, TX17, ck14, q1005, q1006, q161, by decide⟩
theorem cx_X2_312_12 : CX RX2 312 12 := ⟨RX15, TX15, 1, "LongYears$Number", ck12, q953, Or.inl rfl⟩
theorem nx_X2_312 : NX RX2 312 12 1 := ⟨RX15, TX15, ck12, q953, q954, q159, by decide⟩
theorem cx_X2_318_13 : CX RX2 318 13 := ⟨RX16, TX16, 1, "LongYears$Name", ck13, q974, Or.inl rfl⟩
theorem nx_X2_318 : NX RX2 318 13 1 := ⟨RX16, TX16, ck13, q974, q975, q160, by decide⟩
theorem cx_X3_9_4 : CX RX3 9 4 := ⟨RJ2, TJ2, 3, "java/util/ArrayList", ck4, q217, Or.inl rfl⟩
theorem nx_X3_9 : NX RX3 9 4 3 := ⟨RJ2, TJ2, ck4, q217, q218, q135, by decide⟩
theorem cx_X3_79_6 : CX RX3 79 6 := ⟨RX8, TX8, 4, "LongYears$Land", ck6, q1131, Or.inl rfl⟩
theorem nx_X3_79 : NX RX3 79 6 4 := ⟨RX8, TX8, ck6, q1131, q674, q148, by decide⟩
theorem cx_X0_8_1 : CX RX0 8 1 := ⟨RX1, TX1, 27, "LongYears", ck1, q168, Or.inl rfl⟩
theorem nx_X0_8 : NX RX0 8 1 27 := ⟨RX1, TX1, ck1, q168, q169, q130, by decide⟩
theorem cx_X0_18_0 : CX RX0 18 0 := ⟨RX6, TX6, 76, "LongYearsModel", ck0, q1504, Or.inl rfl⟩
theorem nx_X0_18 : NX RX0 18 0 76 := ⟨RX6, TX6, ck0, q1504, q1505, q138, by decide⟩
theorem cx_J2_7_0 : CX RJ2 7 0 := ⟨RX6, TX6, 76, "java/lang/Object", ck0, q229, Or.inr q2248⟩
theorem cx_J2_7_1 : CX RJ2 7 1 := ⟨RX1, TX1, 27, "java/lang/Object", ck1, q229, Or.inr q2244⟩
theorem cx_J2_7_2 : CX RJ2 7 2 := ⟨RX2, TX2, 9, "java/lang/Object", ck2, q229, Or.inr q2245⟩
theorem cx_J2_7_3 : CX RJ2 7 3 := ⟨RX3, TX3, 14, "java/lang/Object", ck3, q229, Or.inr q2246⟩
theorem cx_J2_7_4 : CX RJ2 7 4 := ⟨RJ2, TJ2, 3, "java/lang/Object", ck4, q229, Or.inr q2247⟩
theorem cx_J2_7_5 : CX RJ2 7 5 := ⟨RX5, TX5, 4, "java/lang/Object", ck5, q229, Or.inr q2242⟩
theorem cx_J2_7_6 : CX RJ2 7 6 := ⟨RX8, TX8, 4, "java/lang/Object", ck6, q229, Or.inr q2250⟩
theorem cx_J2_7_7 : CX RJ2 7 7 := ⟨RX13, TX13, 2, "java/lang/Object", ck7, q229, Or.inr q2255⟩
theorem cx_J2_7_8 : CX RJ2 7 8 := ⟨RX9, TX9, 3, "java/lang/Object", ck8, q229, Or.inr q2251⟩
theorem cx_J2_7_9 : CX RJ2 7 9 := ⟨RX10, TX10, 4, "java/lang/Object", ck9, q229, Or.inr q2253⟩
theorem cx_J2_7_10 : CX RJ2 7 10 := ⟨RX11, TX11, 4, "java/lang/Object", ck10, q229, Or.inr q2252⟩
theorem cx_J2_7_11 : CX RJ2 7 11 := ⟨RX12, TX12, 4, "java/lang/Object", ck11, q229, Or.inr q2254⟩
theorem cx_J2_7_12 : CX RJ2 7 12 := ⟨RX15, TX15, 1, "java/lang/Object", ck12, q229, Or.inr q2256⟩
theorem cx_J2_7_13 : CX RJ2 7 13 := ⟨RX16, TX16, 1, "java/lang/Object", ck13, q229, Or.inr q2257⟩
theorem cx_J2_7_14 : CX RJ2 7 14 := ⟨RX17, TX17, 1, "java/lang/Object", ck14, q229, Or.inr q2259⟩
theorem cx_J2_7_15 : CX RJ2 7 15 := ⟨RX18, TX18, 3, "java/lang/Object", ck15, q229, Or.inr q2258⟩
theorem cx_J2_7_16 : CX RJ2 7 16 := ⟨RX7, TX7, 8, "java/lang/Object", ck16, q229, Or.inr q2249⟩
theorem cx_J13_2_0 : CX RJ13 2 0 := ⟨RX6, TX6, 76, "java/lang/Object", ck0, q785, Or.inr q2248⟩
theorem cx_J13_2_1 : CX RJ13 2 1 := ⟨RX1, TX1, 27, "java/lang/Object", ck1, q785, Or.inr q2244⟩
theorem cx_J13_2_2 : CX RJ13 2 2 := ⟨RX2, TX2, 9, "java/lang/Object", ck2, q785, Or.inr q2245⟩
theorem cx_J13_2_3 : CX RJ13 2 3 := ⟨RX3, TX3, 14, "java/lang/Object", ck3, q785, Or.inr q2246⟩
theorem cx_J13_2_4 : CX RJ13 2 4 := ⟨RJ2, TJ2, 3, "java/lang/Object", ck4, q785, Or.inr q2247⟩
theorem cx_J13_2_5 : CX RJ13 2 5 := ⟨RX5, TX5, 4, "java/lang/Object", ck5, q785, Or.inr q2242⟩
theorem cx_J13_2_6 : CX RJ13 2 6 := ⟨RX8, TX8, 4, "java/lang/Object", ck6, q785, Or.inr q2250⟩
theorem cx_J13_2_7 : CX RJ13 2 7 := ⟨RX13, TX13, 2, "java/lang/Object", ck7, q785, Or.inr q2255⟩
theorem cx_J13_2_8 : CX RJ13 2 8 := ⟨RX9, TX9, 3, "java/lang/Object", ck8, q785, Or.inr q2251⟩
theorem cx_J13_2_9 : CX RJ13 2 9 := ⟨RX10, TX10, 4, "java/lang/Object", ck9, q785, Or.inr q2253⟩
theorem cx_J13_2_10 : CX RJ13 2 10 := ⟨RX11, TX11, 4, "java/lang/Object", ck10, q785, Or.inr q2252⟩
theorem cx_J13_2_11 : CX RJ13 2 11 := ⟨RX12, TX12, 4, "java/lang/Object", ck11, q785, Or.inr q2254⟩
theorem cx_J13_2_12 : CX RJ13 2 12 := ⟨RX15, TX15, 1, "java/lang/Object", ck12, q785, Or.inr q2256⟩
theorem cx_J13_2_13 : CX RJ13 2 13 := ⟨RX16, TX16, 1, "java/lang/Object", ck13, q785, Or.inr q2257⟩
theorem cx_J13_2_14 : CX RJ13 2 14 := ⟨RX17, TX17, 1, "java/lang/Object", ck14, q785, Or.inr q2259⟩
theorem cx_J13_2_15 : CX RJ13 2 15 := ⟨RX18, TX18, 3, "java/lang/Object", ck15, q785, Or.inr q2258⟩
theorem cx_J13_2_16 : CX RJ13 2 16 := ⟨RX7, TX7, 8, "java/lang/Object", ck16, q785, Or.inr q2249⟩
theorem ci_X1_87 : CIX RX1 87 yX5_init cX5_init 2 1 := ⟨Or.inl q315, q316, q137, q317, rfl, by decide +kernel, by decide +kernel, by decide +kernel⟩
theorem ci_X1_187 : CIX RX1 187 yJ15_init_2 cJ15_init_2 1 0 := ⟨Or.inl q1477, q1478, q164, q1479, rfl, by decide +kernel, by decide +kernel, by decide +kernel⟩
theorem ci_X1_199 : CIX RX1 199 yJ17_init cJ17_init 1 0 := ⟨Or.inl q1498, q1499, q166, q1500, rfl, by decide +kernel, by decide +kernel, by decide +kernel⟩
theorem ci_X10_3 : CIX RX10 3 yX4_init cX4_init 2 1 := ⟨Or.inl q859, q319, q136, q320, rfl, by decide +kernel, by decide +kernel, by decide +kernel⟩
theorem ci_X7_1 : CIX RX7 1 yJ10_init cJ10_init 5 4 := ⟨Or.inl q638, q639, q146, q640, rfl, by decide +kernel, by decide +kernel, by decide +kernel⟩
theorem ci_X13_1 : CIX RX13 1 yX4_init cX4_init 2 1 := ⟨Or.inl q1013, q319, q136, q320, rfl, by decide +kernel, by decide +kernel, by decide +kernel⟩
theorem ci_X12_1 : CIX RX12 1 yX10_init cX10_init 5 3 := ⟨Or.inl q898, q857, q154, q858, rfl, by decide +kernel, by decide +kernel, by decide +kernel⟩
theorem ci_X8_3 : CIX RX8 3 yX4_init cX4_init 2 1 := ⟨Or.inl q711, q319, q136, q320, rfl, by decide +kernel, by decide +kernel, by decide +kernel⟩
theorem ci_X5_3 : CIX RX5 3 yX4_init cX4_init 2 1 := ⟨Or.inl q318, q319, q136, q320, rfl, by decide +kernel, by decide +kernel, by decide +kernel⟩
theorem ci_X9_3 : CIX RX9 3 yX4_init cX4_init 2 1 := ⟨Or.inl q833, q319, q136, q320, rfl, by decide +kernel, by decide +kernel, by decide +kernel⟩
theorem ci_X2_82 : CIX RX2 82 yX7_init cX7_init 3 2 := ⟨Or.inl q635, q636, q147, q637, rfl, by decide +kernel, by decide +kernel, by decide +kernel⟩
theorem ci_X2_180 : CIX RX2 180 yX13_init cX13_init 3 2 := ⟨Or.inl q1010, q1011, q157, q1012, rfl, by decide +kernel, by decide +kernel, by decide +kernel⟩
theorem ci_X2_210 : CIX RX2 210 yX8_init cX8_init 4 3 := ⟨Or.inl q708, q709, q148, q710, rfl, by decide +kernel, by decide +kernel, by decide +kernel⟩
theorem ci_X2_239 : CIX RX2 239 yX9_init cX9_init 4 2 := ⟨Or.inl q830, q831, q153, q832, rfl, by decide +kernel, by decide +kernel, by decide +kernel⟩
theorem ci_X2_250 : CIX RX2 250 yX11_init cX11_init 5 3 := ⟨Or.inl q853, q854, q155, q855, rfl, by decide +kernel, by decide +kernel, by decide +kernel⟩
theorem ci_X2_255 : CIX RX2 255 yX10_init cX10_init 5 3 := ⟨Or.inl q883, q857, q154, q858, rfl, by decide +kernel, by decide +kernel, by decide +kernel⟩
theorem ci_X2_261 : CIX RX2 261 yX12_init cX12_init 5 3 := ⟨Or.inl q895, q896, q156, q897, rfl, by decide +kernel, by decide +kernel, by decide +kernel⟩
theorem ci_X2_267 : CIX RX2 267 yX5_init cX5_init 2 1 := ⟨Or.inl q909, q316, q137, q317, rfl, by decide +kernel, by decide +kernel, by decide +kernel⟩
theorem ci_X2_289 : CIX RX2 289 yX18_init cX18_init 4 3 := ⟨Or.inl q986, q987, q162, q988, rfl, by decide +kernel, by decide +kernel, by decide +kernel⟩
theorem ci_X2_300 : CIX RX2 300 yX17_init cX17_init 2 1 := ⟨Or.inl q1007, q990, q161, q991, rfl, by decide +kernel, by decide +kernel, by decide +kernel⟩
theorem ci_X2_314 : CIX RX2 314 yX15_init cX15_init 2 1 := ⟨Or.inl q959, q960, q159, q961, rfl, by decide +kernel, by decide +kernel, by decide +kernel⟩
theorem ci_X2_320 : CIX RX2 320 yX16_init cX16_init 2 1 := ⟨Or.inl q976, q977, q160, q978, rfl, by decide +kernel, by decide +kernel, by decide +kernel⟩
theorem ci_X3_11 : CIX RX3 11 yJ2_init cJ2_init 2 1 := ⟨Or.inl q219, q220, q135, q221, rfl, by decide +kernel, by decide +kernel, by decide +kernel⟩
theorem ci_X18_3 : CIX RX18 3 yX17_init cX17_init 2 1 := ⟨Or.inl q989, q990, q161, q991, rfl, by decide +kernel, by decide +kernel, by decide +kernel⟩
theorem ci_X11_3 : CIX RX11 3 yX10_init cX10_init 5 3 := ⟨Or.inl q856, q857, q154, q858, rfl, by decide +kernel, by decide +kernel, by decide +kernel⟩
theorem ci_X0_17 : CIX RX0 17 yX1_init cX1_init 2 0 := ⟨Or.inl q170, q171, q130, q172, rfl, by decide +kernel, by decide +kernel, by decide +kernel⟩
theorem ci_X0_20 : CIX RX0 20 yX6_init cX6_init 1 0 := ⟨Or.inl q1506, q1507, q138, q1508, rfl, by decide +kernel, by decide +kernel, by decide +kernel⟩
theorem ci_J16_7 : CIX RJ16 7 yJ15_init cJ15_init 2 1 := ⟨Or.inl q1433, q1434, q164, q1435, rfl, by decide +kernel, by decide +kernel, by decide +kernel⟩
theorem ci_J10_1 : CIX RJ10 1 yJ9_init cJ9_init 1 0 := ⟨Or.inl q1486, q615, q145, q616, rfl, by decide +kernel, by decide +kernel, by decide +kernel⟩
theorem ci_J10_7 : CIX RJ10 7 yJ9_init_3 cJ9_init_3 2 1 := ⟨Or.inl q1442, q1443, q145, q1444, rfl, by decide +kernel, by decide +kernel, by decide +kernel⟩
theorem ci_J10_16 : CIX RJ10 16 yJ9_init_2 cJ9_init_2 5 4 := ⟨Or.inl q641, q642, q145, q643, rfl, by decide +kernel, by decide +kernel, by decide +kernel⟩
theorem ci_J15_1 : CIX RJ15 1 yJ14_init_2 cJ14_init_2 1 0 := ⟨Or.inl q1480, q1481, q163, q1482, rfl, by decide +kernel, by decide +kernel, by decide +kernel⟩
theorem ci_J15_7 : CIX RJ15 7 yJ14_init cJ14_init 2 1 := ⟨Or.inl q1436, q1437, q163, q1438, rfl, by decide +kernel, by decide +kernel, by decide +kernel⟩
theorem ci_J14_1 : CIX RJ14 1 yJ10_init_3 cJ10_init_3 1 0 := ⟨Or.inl q1483, q1484, q146, q1485, rfl, by decide +kernel, by decide +kernel, by decide +kernel⟩
theorem ci_J14_7 : CIX RJ14 7 yJ10_init_2 cJ10_init_2 2 1 := ⟨Or.inl q1439, q1440, q146, q1441, rfl, by decide +kernel, by decide +kernel, by decide +kernel⟩
theorem ci_J1_1 : CIX RJ1 1 yJ0_init cJ0_init 1 0 := ⟨Or.inl q225, q226, q133, q227, rfl, by decide +kernel, by decide +kernel, by decide +kernel⟩
theorem ci_J2_1 : CIX RJ2 1 yJ1_init cJ1_init 1 0 := ⟨Or.inl q222, q223, q134, q224, rfl, by decide +kernel, by decide +kernel, by decide +kernel⟩
theorem ci_J17_1 : CIX RJ17 1 yJ14_init_2 cJ14_init_2 1 0 := ⟨Or.inl q1501, q1481, q163, q1482, rfl, by decide +kernel, by decide +kernel, by decide +kernel⟩
theorem ci_X1_29 : CIX RX1 29 yX2_init cX2_init 2 1 := ⟨Or.inr ⟨"LongYears", q178⟩, q179, q131, q180, rfl, by decide +kernel, by decide +kernel, by decide +kernel⟩
theorem ci_X1_38 : CIX RX1 38 yX3_init cX3_init 1 0 := ⟨Or.inr ⟨"LongYears", q213⟩, q214, q132, q215, rfl, by decide +kernel, by decide +kernel, by decide +kernel⟩
theorem ci_X16_1 : CIX RX16 1 yX14_init cX14_init 1 0 := ⟨Or.inr ⟨"LongYears", q979⟩, q963, q158, q964, rfl, by decide +kernel, by decide +kernel, by decide +kernel⟩
theorem ci_X17_1 : CIX RX17 1 yX14_init cX14_init 1 0 := ⟨Or.inr ⟨"LongYears", q992⟩, q963, q158, q964, rfl, by decide +kernel, by decide +kernel, by decide +kernel⟩
theorem ci_X15_1 : CIX RX15 1 yX14_init cX14_init 1 0 := ⟨Or.inr ⟨"LongYears", q962⟩, q963, q158, q964, rfl, by decide +kernel, by decide +kernel, by decide +kernel⟩
theorem ci_X2_114 : CIX RX2 114 yX3_init cX3_init 1 0 := ⟨Or.inr ⟨"LongYears", q445⟩, q214, q132, q215, rfl, by decide +kernel, by decide +kernel, by decide +kernel⟩
