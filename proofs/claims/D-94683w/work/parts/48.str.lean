set_option maxRecDepth 100000
/-- the texts of the row NAMES; the signs -/
def nmB : List (List Int32) := [[108, 97, 110, 100], [112, 101, 114, 115, 111, 110], [100, 101, 101, 100], [110, 111, 116, 101], [115, 117, 110], [102, 101, 97, 115, 116], [119, 101, 101, 107], [109, 111, 111, 110], [102, 114, 111, 109], [100, 105, 101, 100], [121, 101, 97, 114, 115], [100, 97, 121, 115], [116, 105, 108, 108], [112, 97, 121], [97, 108, 105, 118, 101], [97, 102, 116, 101, 114], [111, 114], [97, 110, 100], [110, 111, 116], [100, 97, 121], [121, 101, 97, 114], [115, 101, 97, 115, 111, 110], [108, 101, 110, 103, 116, 104]]
def sgB : List Int32 := [59, 40, 41, 43, 45, 42, 47, 37, 60, 61, 62]
def nmI : List Nat := [446, 447, 449, 451, 453, 455, 457, 458, 459, 460, 461, 463, 465, 467, 468, 470, 472, 474, 476, 478, 479, 480, 481]
def BYT (bs : List Int32) (v : Nat) (B : Nat) (U : State) : Prop := va_T .byte v bs.length (fun j => .int (bs.getD j 0)) (fun q => B ≤ q) U U.heap
/-- q is an ordinary String of the bytes bs -/
def STR (bs : List Int32) (q : Nat) (B : Nat) (U : State) : Prop := ∃ v, va_O "java/lang/String" q (fun q => B ≤ q) U U.heap ∧ va_OF "java/lang/String" "coder" "B" (.int 0) q (fun q => B ≤ q) U U.heap ∧ va_OF "java/lang/String" "value" "[B" (.ref v) q (fun q => B ≤ q) U U.heap ∧ BYT bs v B U
/-- a premise on old cells alone -/
def ZS (Z : Nat → State → Prop) : Prop := ∀ B s U, Z B s → s.vm.Alike U.vm → (∀ q, q < B → U.heap[q]? = s.heap[q]?) → Z B U
theorem BYT.zs {bs : List Int32} {v : Nat} : ZS (BYT bs v) := fun B s U h ha hq => va_T.moved ha (h.kept (fun a _ q => hq a (Nat.not_le.mp q)))
theorem STR.zs {bs : List Int32} {q : Nat} : ZS (STR bs q) := fun B s U h ha hq => by
  obtain ⟨v, h1, h2, h3, h4⟩ := h
  have hk : ∀ a : Nat, a < s.heap.size → ¬ (fun q => B ≤ q) a → U.heap[a]? = s.heap[a]? := fun a _ q => hq a (Nat.not_le.mp q)
  exact ⟨v, va_O.moved ha (h1.kept hk), va_OF.moved ha (h2.kept hk), va_OF.moved ha (h3.kept hk), BYT.zs B s U h4 ha hq⟩
def MetZ (y : MethodName) (cc : ByteArray) (nL : Nat) (ret : Option FieldType) (rm : Room) (σ : Hp) (Z : Nat → State → Prop) (av : List Value) (Post : Option Value → Hp → Prop) : Prop :=
  ∀ (l : Launch) (B : Nat) (D : DD), l.flags = flags0 → Met l y (ws_ y cc nL ret) rm (va_Pc av (fun U => PX B D σ U ∧ Z B U)) (QX B D Post) 0 0 (fun q => B ≤ q)
theorem metZ_of {y : MethodName} {cc : ByteArray} {own : String} {nL : Nat} {ret : Option FieldType} {rm : Room} {σ : Hp} {Z : Nat → State → Prop} {av : List Value} {lvs : List (Nat × Value)} {Post : Option Value → Hp → Prop}
    (hy : plainFor y = true) (ho : y.cls = own) (hn : (lg_sl av).length ≤ nL) (hlv : lv_args 0 av = lvs)
    (body : ∀ G : XE, RQ G 0 0 Post → Z G.2.2.2.2.2.2.2.2.2.1 G.2.2.2.1 → X G rm cc own nL ret σ 0 0 0 lvs []) : MetZ y cc nL ret rm σ Z av Post := by
  subst ho
  subst hlv
  intro l B D hfl
  refine Met.ofWF (cc := cc) (maxL := nL) (ret := ret) hy rfl ?_
  intro p e s m args below meth c s₁ Bd hml hv
  obtain ⟨rfl, ⟨hK, hH, hdom, hB, hSX⟩, hZ⟩ := hv
  have hts := atoms_spec (ws := ws_ y cc nL ret) Bd.pre
  have hl := lv_entry av (n := nL) hn
  have hx := body (p, l, e, s, m, av.toArray, below, meth, c, B, D, MQ below (QX B D Post) av.toArray s 0 0 (fun q => B ≤ q)) rfl hZ
  rw [lg_entry_eq]
  exact hx ⟨Bd.exec, Bd.bytes, hml, findClass_of_methodNamed Bd.named, fun w h => hts w (List.mem_cons_of_mem _ h), Bd.returns, Bd.notSynchronized, hfl⟩ s.heap [] _ ⟨hK, hH, hdom, hB, Nat.le_refl _, fun _ _ => rfl, fun _ h => (List.not_mem_nil h).elim, hSX⟩ hl
theorem PZ.blind {B : Nat} {D : DD} {σ : Hp} {Z : Nat → State → Prop} {av : List Value} (zs : ZS Z) : FrameBlind (va_Pc av (fun U => PX B D σ U ∧ Z B U)) := by
  intro a U g mk q
  obtain ⟨q0, ⟨qK, qH, qD, qB, qS⟩, qZ⟩ := q
  exact ⟨q0, ⟨va_K.moved (u := U) (U := U.calling g mk a) (Vm.Alike.refl U.vm) qK, qH, qD, qB, qS⟩, zs B U (U.calling g mk a) qZ (Vm.Alike.refl U.vm) (fun _ _ => rfl)⟩
theorem XB.preZ {B : Nat} {D : DD} {σ : Hp} {s : State} {H : Heap} {locs : List Loc} {Z : Nat → State → Prop} (h : XB B D σ s H locs) (zs : ZS Z) (hz : Z B s) {av : List Value} (U : State) (hU : U.heap = H) (hW : s.WarmedH U.vm) : va_Pc av (fun U => PX B D σ U ∧ Z B U) av.toArray U :=
  ⟨rfl, (h.pre (av := av) U hU hW).2, zs B s U hz hW.alike (fun q hq => by rw [hU]; exact h.2.2.2.2.2.1 q hq)⟩
section XS
variable {G : XE} {rm : Room} {cc : ByteArray} {own : String} {nL : Nat} {ret : Option FieldType} {σ : Hp} {cells slots pc n : Nat} {lvs : List (Nat × Value)} {st : List Value}
theorem x_cVZ {index maxL k b : Nat} {C : String} {y : MethodName} {bytes : ByteArray} {r : Option FieldType} {rmc : Room} {As rest : List Value} {Z : Nat → State → Prop} {P : Int32 → Prop} (cv : CVX own index C y bytes maxL r k) (hM : MetZ y bytes maxL r rmc σ Z (.ref b :: As) (oI (fun r σ' => σ' = σ ∧ P r))) (zs : ZS Z) (hz : Z G.2.2.2.2.2.2.2.2.2.1 G.2.2.2.1) (hr : va_O C b (fun q => G.2.2.2.2.2.2.2.2.2.1 ≤ q) G.2.2.2.1 G.2.2.2.1.heap) (hR : rmc.cells = 0 ∧ rmc.slots = 0 ∧ rmc.frames + 1 ≤ rm.frames ∧ 8 + (maxL + 11) + rmc.locals ≤ rm.locals ∧ cells ≤ rm.cells ∧ slots ≤ rm.slots) (hk : As.length = k) (hst : st = As.reverse ++ .ref b :: rest) (hw : Nat.ble (rest.map fun v => v.category).sum 8 = true) (hd : decode cc pc = .ok (.invokevirtual index, 3)) (hn : pc + 3 = n)
    (kk : ∀ r : Int32, P r → X G rm cc own nL ret σ cells slots n lvs (.int r :: rest)) : X G rm cc own nL ret σ cells slots pc lvs st := by
  subst hn
  have hw := Nat.le_of_ble_eq_true hw
  intro hF H locs ls hB hl
  have fin : ∀ v σ', oI (fun r σ' => σ' = σ ∧ P r) v σ' → X G rm cc own nL ret σ' (cells + 0) (slots + 0) (pc + 3) lvs (v.toList ++ rest) := fun v σ' hp => by obtain ⟨r, rfl, rfl, h2⟩ := hp; exact kk r h2
  have hrecv : ∃ cell : Cell, H[b]? = some cell ∧ cell.vm.isStatics = false ∧ G.2.2.2.1.vm.findClass C = some cell.cls := by
    obtain ⟨cell, h1, h2, h3, -⟩ := hr.kept hB.S.2.1
    exact ⟨cell, h1, h2, h3⟩
  rcases cv with ⟨cv1 | ⟨host, c1, c2, c3, c4, c5⟩, cv2⟩
  rotate_left
  · exact x_run hB hl hF (va_runVN (host := host) (As := As) (rest := rest) ⟨hF.1, hF.2.1, hF.2.2.1, hF.2.2.2.1, hF.2.2.2.2.1⟩ (hM G.2.1 G.2.2.2.2.2.2.2.2.2.1 G.2.2.2.2.2.2.2.2.2.2.1 hF.2.2.2.2.2.2.2) ⟨va_cnB k hF.2.2.2.2.1 (lw_meth c5) rfl hR.1 hR.2.1 (hB.nestM c1) (hF.2.2.2.2.1 _ c4) cv2.2 ⟨hR.2.2.1, hR.2.2.2.1⟩, hF.2.2.2.2.1 _ c2, hF.2.2.2.2.1 _ c3⟩ ⟨PZ.blind zs, hrecv, fun U hU hW => hB.preZ zs hz U hU hW⟩ rfl hk hl.1 hst (lv_room hw) hd hR.2.2.2.2) fin
  exact x_run hB hl hF (va_runV (As := As) (rest := rest) ⟨hF.1, hF.2.1, hF.2.2.1, hF.2.2.2.1, hF.2.2.2.2.1⟩ (hM G.2.1 G.2.2.2.2.2.2.2.2.2.1 G.2.2.2.2.2.2.2.2.2.2.1 hF.2.2.2.2.2.2.2) (cwV k hF.2.2.2.2.1 cv1 rfl hR.1 hR.2.1 cv2 ⟨hR.2.2.1, hR.2.2.2.1⟩) ⟨PZ.blind zs, hrecv, fun U hU hW => hB.preZ zs hz U hU hW⟩ rfl hk hl.1 hst (lv_room hw) hd hR.2.2.2.2) fin
theorem x_cSZ {index maxL k : Nat} {y : MethodName} {bytes : ByteArray} {r : Option FieldType} {rmc : Room} {As rest : List Value} {Z : Nat → State → Prop} {P : Int32 → Prop} (cs : CSX own index y bytes maxL r k) (hM : MetZ y bytes maxL r rmc σ Z As (oI (fun r σ' => σ' = σ ∧ P r))) (zs : ZS Z) (hz : Z G.2.2.2.2.2.2.2.2.2.1 G.2.2.2.1) (hR : rmc.cells = 0 ∧ rmc.slots = 0 ∧ rmc.frames + 1 ≤ rm.frames ∧ 8 + (maxL + 11) + rmc.locals ≤ rm.locals ∧ cells ≤ rm.cells ∧ slots ≤ rm.slots) (hk : As.length = k) (hst : st = As.reverse ++ rest) (hw : Nat.ble (rest.map fun v => v.category).sum 8 = true) (hd : decode cc pc = .ok (.invokestatic index, 3)) (hn : pc + 3 = n)
    (kk : ∀ r : Int32, P r → X G rm cc own nL ret σ cells slots n lvs (.int r :: rest)) : X G rm cc own nL ret σ cells slots pc lvs st := by
  subst hn
  have hw := Nat.le_of_ble_eq_true hw
  intro hF H locs ls hB hl
  have fin : ∀ v σ', oI (fun r σ' => σ' = σ ∧ P r) v σ' → X G rm cc own nL ret σ' (cells + 0) (slots + 0) (pc + 3) lvs (v.toList ++ rest) := fun v σ' hp => by obtain ⟨r, rfl, rfl, h2⟩ := hp; exact kk r h2
  rcases cs with ⟨cs1 | ⟨host, c1, c2, c4, c5⟩, cs2⟩
  rotate_left
  · exact x_run hB hl hF (va_runSN (host := host) (As := As) (rest := rest) ⟨hF.1, hF.2.1, hF.2.2.1, hF.2.2.2.1, hF.2.2.2.2.1⟩ (hM G.2.1 G.2.2.2.2.2.2.2.2.2.1 G.2.2.2.2.2.2.2.2.2.2.1 hF.2.2.2.2.2.2.2) ⟨va_cnB k hF.2.2.2.2.1 (lw_meth c5) rfl hR.1 hR.2.1 (hB.nestM c1) (hF.2.2.2.2.1 _ c4) cs2 ⟨hR.2.2.1, hR.2.2.2.1⟩, hF.2.2.2.2.1 _ c2, trivial⟩ ⟨PZ.blind zs, fun U hU hW => hB.preZ zs hz U hU hW⟩ rfl hk hl.1 hst (lv_room hw) hd hR.2.2.2.2) fin
  exact x_run hB hl hF (va_runS (As := As) (rest := rest) ⟨hF.1, hF.2.1, hF.2.2.1, hF.2.2.2.1, hF.2.2.2.2.1⟩ (hM G.2.1 G.2.2.2.2.2.2.2.2.2.1 G.2.2.2.2.2.2.2.2.2.2.1 hF.2.2.2.2.2.2.2) (va_cwS k hF.2.2.2.2.1 cs1 rfl hR.1 hR.2.1 cs2 ⟨hR.2.2.1, hR.2.2.2.1⟩) ⟨PZ.blind zs, fun U hU hW => hB.preZ zs hz U hU hW⟩ rfl hk hl.1 hst (lv_room hw) hd hR.2.2.2.2) fin
/-- a field of an old object -/
theorem x_getK {index q : Nat} {o nm d : String} {v : Value} (hE : va_OF o nm d v q (fun q => G.2.2.2.2.2.2.2.2.2.1 ≤ q) G.2.2.2.1 G.2.2.2.1.heap) (hlk : Cond.fieldLink own index o nm d ∈ lw_all) (hd : decode cc pc = .ok (.getfield index, 3)) (hn : pc + 3 = n) (kk : X G rm cc own nL ret σ cells slots n lvs (v :: st)) : X G rm cc own nL ret σ cells slots pc lvs (.ref q :: st) := by
  subst hn
  exact fun hF H locs ls hB hl => vk_getf hF.1 hF.2.1 hE hB.S hF.2.2.2.1 (hF.2.2.2.2.1 _ hlk) (fun x h => h) hd (kk hF H locs ls hB hl)
theorem x_tlen {t N : Nat} {ty : FieldType} {f : Nat → Value} {v : Int32} (hT : va_T ty t N f (fun q => G.2.2.2.2.2.2.2.2.2.1 ≤ q) G.2.2.2.1 G.2.2.2.1.heap) (hv : Int32.ofNat N = v) (hd : decode cc pc = .ok (.arraylength, 1)) (hn : pc + 1 = n) (kk : X G rm cc own nL ret σ cells slots n lvs (.int v :: st)) : X G rm cc own nL ret σ cells slots pc lvs (.ref t :: st) := by
  subst hn
  exact fun hF H locs ls hB hl => va_tlen hF.1 hF.2.1 hT hB.S hv hd (kk hF H locs ls hB hl)
theorem x_tb {t N : Nat} {f : Nat → Value} {i x : Int32} (hT : va_T .byte t N f (fun q => G.2.2.2.2.2.2.2.2.2.1 ≤ q) G.2.2.2.1 G.2.2.2.1.heap) (hin : vp_in i N) (hv : f i.toNatClampNeg = .int x) (hd : decode cc pc = .ok (.baload, 1)) (hn : pc + 1 = n) (kk : X G rm cc own nL ret σ cells slots n lvs (.int x :: st)) : X G rm cc own nL ret σ cells slots pc lvs (.int i :: .ref t :: st) := by
  subst hn
  exact fun hF H locs ls hB hl => va_tb hF.1 hF.2.1 hT hB.S hin hv hd (kk hF H locs ls hB hl)
theorem x_ta {t N b : Nat} {C : String} {f : Nat → Value} {i : Int32} (hT : va_T (.object C) t N f (fun q => G.2.2.2.2.2.2.2.2.2.1 ≤ q) G.2.2.2.1 G.2.2.2.1.heap) (hin : vp_in i N) (hv : f i.toNatClampNeg = .ref b) (hd : decode cc pc = .ok (.aaload, 1)) (hn : pc + 1 = n) (kk : X G rm cc own nL ret σ cells slots n lvs (.ref b :: st)) : X G rm cc own nL ret σ cells slots pc lvs (.int i :: .ref t :: st) := by
  subst hn
  intro hF H locs ls hB hl
  obtain ⟨cell, h1, h2, h3, h4, h5, h6, h7⟩ := hT
  have hlt : i.toNatClampNeg < N := Nat.not_le.mp fun q => hin (Or.inr q)
  have hin' : ¬ (i < 0 ∨ cell.slots.size ≤ i.toNatClampNeg) := by
    intro q
    rcases q with q | q
    · exact hin (Or.inl q)
    · omega
  exact W.aald (v := .ref b) hF.1 hF.2.1 (by rw [hB.S.2.1 t (Array.getElem?_eq_some_iff.mp h1).1 h7]; exact h1) h2 rfl h3 hin' (by rw [h6 _ hlt, hv]) rfl rfl hd (kk hF H locs ls hB hl)
/-- the static COMPACT_STRINGS -/
theorem x_compact {index : Nat} (hlk : Cond.fieldLink own index "java/lang/String" "COMPACT_STRINGS" "Z" ∈ lw_all) (hd : decode cc pc = .ok (.getstatic index, 3)) (hn : pc + 3 = n) (kk : X G rm cc own nL ret σ cells slots n lvs (.int 1 :: st)) : X G rm cc own nL ret σ cells slots pc lvs st := by
  subst hn
  intro hF H locs ls hB hl
  obtain ⟨v, hv, hz⟩ := hB.2.2.2.2.2.2.2.Z q472 q139 (fun v => v = .int 1) (fun s0 b0 h => ⟨.int 1, va_eqt (narrow_flat h (Jvm.Cond.eq (Jvm.Term.static "java/lang/String" "COMPACT_STRINGS" "Z") (Jvm.Term.int (1 : Int32))) (by decide +kernel)), rfl⟩)
  subst hv
  exact va_gets hF.1 hF.2.1 hz hB.S hF.2.2.2.1 (hF.2.2.2.2.1 _ hlk) (fun x h => h) hd (kk hF H locs ls hB hl)
theorem x_cret {P : Int32 → Hp → Prop} {ty : FieldType} {x : Int32} (rq : RQ G cells slots (oI P)) (h : P x σ) (hx : narrow ty (.int x) = .int x) (hd : decode cc pc = .ok (.ireturn, 1)) : X G rm cc own nL (some ty) σ cells slots pc lvs [.int x] := by
  intro hF H locs ls hB hl
  rw [rq]
  have hlk := hF.2.2.2.2.2.2.1
  exact W.zret hF.1 hF.2.1 hF.2.2.2.2.2.1 hx (fun t ht _ => RQ.at hB (Post := oI P) ⟨x, rfl, h⟩ ht) hB.2.2.2.2.2.2.1 hd
end XS

def flN : List Cond := flatC (Jvm.Cond.and given_1 narrow_1)
def strW (tm : Term) (bs : List Int32) : List Cond := [Cond.exactly tm "java/lang/String", Cond.eq (.field tm "java/lang/String" "coder" "B") (.int 0), Cond.arrayOf (.field tm "java/lang/String" "value" "[B") .byte, Cond.eq (.length (.field tm "java/lang/String" "value" "[B")) (.int (Int32.ofNat bs.length))] ++ (List.range bs.length).map (fun j => Cond.eq (.elem (.field tm "java/lang/String" "value" "[B") (.int (Int32.ofNat j))) (.int (bs.getD j 0)))
theorem str_of {s0 : State} {b0 : Nat} {tm : Term} {bs : List Int32} (hn : bs.length < 2 ^ 31) (h : ∀ w ∈ strW tm bs, w.before #[Value.ref b0] s0 = true) : ∃ q, tm.eval #[Value.ref b0] s0 none [] s0 = some (.ref q) ∧ STR bs q s0.heap.size s0 := by
  have hA : ∀ a : Nat, a < s0.heap.size → ¬ (fun q => s0.heap.size ≤ q) a := fun a ha => Nat.not_le.mpr ha
  have hm : ∀ w ∈ ([Cond.exactly tm "java/lang/String", Cond.eq (.field tm "java/lang/String" "coder" "B") (.int 0), Cond.arrayOf (.field tm "java/lang/String" "value" "[B") .byte, Cond.eq (.length (.field tm "java/lang/String" "value" "[B")) (.int (Int32.ofNat bs.length))] : List Cond), w.before #[Value.ref b0] s0 = true := fun w hw => h w (List.mem_append_left _ hw)
  have hex := hm _ List.mem_cons_self
  have hco := hm _ (List.mem_cons_of_mem _ List.mem_cons_self)
  have har := hm _ (List.mem_cons_of_mem _ (List.mem_cons_of_mem _ List.mem_cons_self))
  have hle := hm _ (List.mem_cons_of_mem _ (List.mem_cons_of_mem _ (List.mem_cons_of_mem _ List.mem_cons_self)))
  obtain ⟨a, c, cA, kA, q1, q2, q3, q4, q5, q6, -⟩ := Cond.exactly_spec (args := #[Value.ref b0]) (first := s0) (o := none) (s := s0) (idx := []) (t := tm) (cls := "java/lang/String") hex
  obtain ⟨t, ht, hT⟩ := va_Tof (f := fun j => .int (bs.getD j 0)) (A := fun q => s0.heap.size ≤ q) hn har (va_eqt hle) (fun j hj => va_eqt (h _ (List.mem_append_right _ (List.mem_map.mpr ⟨j, List.mem_range.mpr hj, rfl⟩)))) hA
  exact ⟨a, q1, t, ⟨cA, q3, q5, by rw [q6]; exact q2, hA a (Array.getElem?_eq_some_iff.mp q3).1⟩, vk_OFof q1 (va_eqt hco) hA, vk_OFof q1 ht hA, hT⟩
theorem seg_mem {α : Type} {l m : List α} {a b : Nat} (h : (l.drop a).take b = m) {w : α} (hw : w ∈ m) : w ∈ l := by rw [← h] at hw; exact List.mem_of_mem_drop (List.mem_of_mem_take hw)
def tmN (i : Nat) : Term := .string "LongYears" (nmI.getD i 0)
abbrev tmA : Term := .static "LongYears" "NAMES" "[Ljava/lang/String;"
theorem nm_s0 : (flN.drop 171).take ((nmB.getD 0 []).length + 4) = strW (tmN 0) (nmB.getD 0 []) := by decide +kernel
theorem nm_s1 : (flN.drop 180).take ((nmB.getD 1 []).length + 4) = strW (tmN 1) (nmB.getD 1 []) := by decide +kernel
theorem nm_s2 : (flN.drop 192).take ((nmB.getD 2 []).length + 4) = strW (tmN 2) (nmB.getD 2 []) := by decide +kernel
theorem nm_s3 : (flN.drop 203).take ((nmB.getD 3 []).length + 4) = strW (tmN 3) (nmB.getD 3 []) := by decide +kernel
theorem nm_s4 : (flN.drop 215).take ((nmB.getD 4 []).length + 4) = strW (tmN 4) (nmB.getD 4 []) := by decide +kernel
theorem nm_s5 : (flN.drop 227).take ((nmB.getD 5 []).length + 4) = strW (tmN 5) (nmB.getD 5 []) := by decide +kernel
theorem nm_s6 : (flN.drop 242).take ((nmB.getD 6 []).length + 4) = strW (tmN 6) (nmB.getD 6 []) := by decide +kernel
theorem nm_s7 : (flN.drop 257).take ((nmB.getD 7 []).length + 4) = strW (tmN 7) (nmB.getD 7 []) := by decide +kernel
theorem nm_s8 : (flN.drop 273).take ((nmB.getD 8 []).length + 4) = strW (tmN 8) (nmB.getD 8 []) := by decide +kernel
theorem nm_s9 : (flN.drop 290).take ((nmB.getD 9 []).length + 4) = strW (tmN 9) (nmB.getD 9 []) := by decide +kernel
theorem nm_s10 : (flN.drop 308).take ((nmB.getD 10 []).length + 4) = strW (tmN 10) (nmB.getD 10 []) := by decide +kernel
theorem nm_s11 : (flN.drop 328).take ((nmB.getD 11 []).length + 4) = strW (tmN 11) (nmB.getD 11 []) := by decide +kernel
theorem nm_s12 : (flN.drop 348).take ((nmB.getD 12 []).length + 4) = strW (tmN 12) (nmB.getD 12 []) := by decide +kernel
theorem nm_s13 : (flN.drop 369).take ((nmB.getD 13 []).length + 4) = strW (tmN 13) (nmB.getD 13 []) := by decide +kernel
theorem nm_s14 : (flN.drop 390).take ((nmB.getD 14 []).length + 4) = strW (tmN 14) (nmB.getD 14 []) := by decide +kernel
theorem nm_s15 : (flN.drop 414).take ((nmB.getD 15 []).length + 4) = strW (tmN 15) (nmB.getD 15 []) := by decide +kernel
theorem nm_s16 : (flN.drop 439).take ((nmB.getD 16 []).length + 4) = strW (tmN 16) (nmB.getD 16 []) := by decide +kernel
theorem nm_s17 : (flN.drop 462).take ((nmB.getD 17 []).length + 4) = strW (tmN 17) (nmB.getD 17 []) := by decide +kernel
theorem nm_s18 : (flN.drop 487).take ((nmB.getD 18 []).length + 4) = strW (tmN 18) (nmB.getD 18 []) := by decide +kernel
theorem nm_s19 : (flN.drop 513).take ((nmB.getD 19 []).length + 4) = strW (tmN 19) (nmB.getD 19 []) := by decide +kernel
theorem nm_s20 : (flN.drop 540).take ((nmB.getD 20 []).length + 4) = strW (tmN 20) (nmB.getD 20 []) := by decide +kernel
theorem nm_s21 : (flN.drop 569).take ((nmB.getD 21 []).length + 4) = strW (tmN 21) (nmB.getD 21 []) := by decide +kernel
theorem nm_s22 : (flN.drop 601).take ((nmB.getD 22 []).length + 4) = strW (tmN 22) (nmB.getD 22 []) := by decide +kernel
theorem nm_w : ∀ i, i < 23 → ∀ w ∈ strW (tmN i) (nmB.getD i []), w ∈ flN := fun i hi w hw => match i, hi, hw with
  | 0, _, hw => seg_mem nm_s0 hw
  | 1, _, hw => seg_mem nm_s1 hw
  | 2, _, hw => seg_mem nm_s2 hw
  | 3, _, hw => seg_mem nm_s3 hw
  | 4, _, hw => seg_mem nm_s4 hw
  | 5, _, hw => seg_mem nm_s5 hw
  | 6, _, hw => seg_mem nm_s6 hw
  | 7, _, hw => seg_mem nm_s7 hw
  | 8, _, hw => seg_mem nm_s8 hw
  | 9, _, hw => seg_mem nm_s9 hw
  | 10, _, hw => seg_mem nm_s10 hw
  | 11, _, hw => seg_mem nm_s11 hw
  | 12, _, hw => seg_mem nm_s12 hw
  | 13, _, hw => seg_mem nm_s13 hw
  | 14, _, hw => seg_mem nm_s14 hw
  | 15, _, hw => seg_mem nm_s15 hw
  | 16, _, hw => seg_mem nm_s16 hw
  | 17, _, hw => seg_mem nm_s17 hw
  | 18, _, hw => seg_mem nm_s18 hw
  | 19, _, hw => seg_mem nm_s19 hw
  | 20, _, hw => seg_mem nm_s20 hw
  | 21, _, hw => seg_mem nm_s21 hw
  | 22, _, hw => seg_mem nm_s22 hw
  | n + 23, h, _ => absurd h (by omega)
theorem sg_s : (flN.drop 156).take (sgB.length + 4) = strW (.string "LongYears$Reader" 61) sgB := by decide +kernel
theorem sg_w : ∀ w ∈ strW (.string "LongYears$Reader" 61) sgB, w ∈ flN := fun w h => seg_mem sg_s h
theorem nm_ar : Cond.arrayOf tmA (.object "java/lang/String") ∈ flN := by decide +kernel
theorem nm_len : Cond.eq (.length tmA) (.int (Int32.ofNat 23)) ∈ flN := by decide +kernel
theorem nm_es : (flN.drop 15).take 23 = (List.range 23).map (fun i => Cond.eq (.elem tmA (.int (Int32.ofNat i))) (tmN i)) := by decide +kernel
theorem nm_el : ∀ i, i < 23 → Cond.eq (.elem tmA (.int (Int32.ofNat i))) (tmN i) ∈ flN := fun i hi => seg_mem nm_es (List.mem_map.mpr ⟨i, List.mem_range.mpr hi, rfl⟩)
theorem nm_sz : ∀ i, i < 23 → (nmB.getD i []).length < 2 ^ 31 := by decide +kernel
/-- where the row NAMES and its texts lie -/
def NMS (B : Nat) (s : State) (a : Nat) (ad : Nat → Nat) : Prop := va_Z "LongYears" "NAMES" "[Ljava/lang/String;" (.ref a) (fun q => B ≤ q) s s.heap ∧ va_T (.object "java/lang/String") a 23 (fun j => .ref (ad j)) (fun q => B ≤ q) s s.heap ∧ ∀ i, i < 23 → STR (nmB.getD i []) (ad i) B s
theorem SX.names {B : Nat} {s : State} (h : SX B s s.heap) : ∃ a ad, NMS B s a ad := by
  obtain ⟨s0, b0, g1, g2, g3, g4, g5⟩ := h
  have hf := narrow_flat g2
  have h0 : ∀ i, ∃ q, i < 23 → (tmN i).eval #[Value.ref b0] s0 none [] s0 = some (.ref q) ∧ STR (nmB.getD i []) q s0.heap.size s0 := by
    intro i
    by_cases hi : i < 23
    · obtain ⟨q, h1, h2⟩ := str_of (nm_sz i hi) (fun w hw => hf w (nm_w i hi w hw))
      exact ⟨q, fun _ => ⟨h1, h2⟩⟩
    · exact ⟨0, fun h => absurd h hi⟩
  obtain ⟨ad, had⟩ := Classical.axiomOfChoice h0
  have hA : ∀ a : Nat, a < s0.heap.size → ¬ (fun q => s0.heap.size ≤ q) a := fun a ha => Nat.not_le.mpr ha
  obtain ⟨t, ht, hT⟩ := va_Tof (f := fun j => .ref (ad j)) (A := fun q => s0.heap.size ≤ q) (by decide : 23 < 2 ^ 31) (hf _ nm_ar) (va_eqt (hf _ nm_len)) (fun j hj => va_eqv (hf _ (nm_el j hj)) (had j hj).1) hA
  subst g4
  refine ⟨t, ad, va_Z.moved g3.alike ((va_Zof (g1 _ q462) (g1 _ (lw_all_tbl q130)) ht hA).kept (fun a ha _ => g5 a ha)), va_T.moved g3.alike (hT.kept (fun a ha _ => g5 a ha)), fun i hi => STR.zs _ s0 s (had i hi).2 g3.alike (fun q hq => g5 q hq)⟩
def SGS (B : Nat) (s : State) (q : Nat) : Prop := vk_R "LongYears$Reader" 61 ";()+-*/%<=>" q s ∧ STR sgB q B s
theorem SX.signs {B : Nat} {s : State} (h : SX B s s.heap) : ∃ q, SGS B s q := by
  obtain ⟨s0, b0, g1, g2, g3, g4, g5⟩ := h
  have hf := narrow_flat g2
  obtain ⟨q, h1, h2⟩ := str_of (tm := .string "LongYears$Reader" 61) (bs := sgB) (by decide) (fun w hw => hf w (sg_w w hw))
  subst g4
  exact ⟨q, vk_R.warm g3 (vk_R.of (A := #[Value.ref b0]) (g1 _ q522) h1), STR.zs _ s0 s h2 g3.alike (fun q hq => g5 q hq)⟩
section XS2
variable {G : XE} {rm : Room} {cc : ByteArray} {own : String} {nL : Nat} {ret : Option FieldType} {σ : Hp} {cells slots pc n : Nat} {lvs : List (Nat × Value)} {st : List Value}
theorem x_names {index : Nat} {host : String} (hl0 : Cond.fieldLinkNest own index "LongYears" "NAMES" "[Ljava/lang/String;" host ∈ lw_tbl) (hd : decode cc pc = .ok (.getstatic index, 3)) (hn : pc + 3 = n) (kk : ∀ a ad, NMS G.2.2.2.2.2.2.2.2.2.1 G.2.2.2.1 a ad → X G rm cc own nL ret σ cells slots n lvs (.ref a :: st)) : X G rm cc own nL ret σ cells slots pc lvs st := by
  subst hn
  intro hF H locs ls hB hl
  obtain ⟨a, ad, h⟩ := hB.2.2.2.2.2.2.2.names
  exact va_getsN hF.1 hF.2.1 h.1 hB.S hF.2.2.2.1 (hB.nestF hl0) (fun x h => h) hd (kk a ad h hF H locs ls hB hl)
theorem x_signs (ho : own = "LongYears$Reader") (hd : decode cc pc = .ok (.ldc 61, 2)) (hn : pc + 2 = n) (kk : ∀ q, STR sgB q G.2.2.2.2.2.2.2.2.2.1 G.2.2.2.1 → X G rm cc own nL ret σ cells slots n lvs (.ref q :: st)) : X G rm cc own nL ret σ cells slots pc lvs st := by
  subst hn
  subst ho
  intro hF H locs ls hB hl
  obtain ⟨q, h1, h2⟩ := hB.2.2.2.2.2.2.2.signs
  exact va_ldcS hF.1 hF.2.1 hF.2.2.2.1 h1 hd (kk q h2 hF H locs ls hB hl)
end XS2

