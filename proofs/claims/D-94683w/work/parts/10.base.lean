set_option maxRecDepth 100000
/-! THE ABSTRACT HEAP: its size, the kind of each cell (none: not ours), references, ints, longs by address and place -/
abbrev CT : Type := Option (Nat ⊕ (FieldType × Nat))
abbrev Hp : Type := Nat × (Nat → CT) × (Nat → Nat → Option Nat) × (Nat → Nat → Int32) × (Nat → Nat → Int64)
def gS (σ : Hp) : Nat := σ.1
def gT (σ : Hp) : Nat → CT := σ.2.1
def gR (σ : Hp) : Nat → Nat → Option Nat := σ.2.2.1
def gI (σ : Hp) : Nat → Nat → Int32 := σ.2.2.2.1
def gL (σ : Hp) : Nat → Nat → Int64 := σ.2.2.2.2
def u1 {α : Type} (f : Nat → α) (a : Nat) (v : α) : Nat → α := fun b => if b = a then v else f b
def u2 {α : Type} (f : Nat → Nat → α) (a k : Nat) (v : α) : Nat → Nat → α := fun b j => if b = a then (if j = k then v else f b j) else f b j
def pI (σ : Hp) (a k : Nat) (v : Int32) : Hp := (σ.1, σ.2.1, σ.2.2.1, u2 σ.2.2.2.1 a k v, σ.2.2.2.2)
def pL (σ : Hp) (a k : Nat) (v : Int64) : Hp := (σ.1, σ.2.1, σ.2.2.1, σ.2.2.2.1, u2 σ.2.2.2.2 a k v)
def pR (σ : Hp) (a k : Nat) (v : Option Nat) : Hp := (σ.1, σ.2.1, u2 σ.2.2.1 a k v, σ.2.2.2.1, σ.2.2.2.2)
def pN (σ : Hp) (t : Nat ⊕ (FieldType × Nat)) : Hp := (σ.1 + 1, u1 σ.2.1 σ.1 (some t), u1 σ.2.2.1 σ.1 (fun _ => none), u1 σ.2.2.2.1 σ.1 (fun _ => 0), u1 σ.2.2.2.2 σ.1 (fun _ => 0))
/-- what stands at a place of the kind ty -/
def gv (ty : FieldType) (σ : Hp) (a k : Nat) : Value := match ty with
  | .long => .long (gL σ a k)
  | .object _ => va_rf (gR σ a k)
  | .array _ => va_rf (gR σ a k)
  | _ => .int (gI σ a k)
def isI (ty : FieldType) : Bool := match ty with
  | .long => false
  | .object _ => false
  | .array _ => false
  | .float => false
  | .double => false
  | _ => true
def isR (ty : FieldType) : Bool := match ty with
  | .object _ => true
  | .array _ => true
  | _ => false
theorem gv_I {ty : FieldType} (h : isI ty = true) (σ : Hp) (a k : Nat) : gv ty σ a k = .int (gI σ a k) := by cases ty <;> first | rfl | cases h
theorem gv_R {ty : FieldType} (h : isR ty = true) (σ : Hp) (a k : Nat) : gv ty σ a k = va_rf (gR σ a k) := by cases ty <;> first | rfl | cases h
theorem gv_L (σ : Hp) (a k : Nat) : gv .long σ a k = .long (gL σ a k) := rfl

def vwCl : List vw_C := [(RX6, TX6, 76), (RX1, TX1, 27), (RX2, TX2, 9), (RX3, TX3, 14), (RJ2, TJ2, 3), (RX5, TX5, 4), (RX8, TX8, 4), (RX13, TX13, 2), (RX9, TX9, 3), (RX10, TX10, 4), (RX11, TX11, 4), (RX12, TX12, 4), (RX15, TX15, 1), (RX16, TX16, 1), (RX17, TX17, 1), (RX18, TX18, 3), (RX7, TX7, 8)]

def clTy (ci : Nat) : Nat → FieldType := match ci with
  | 0 => tyX6
  | 1 => tyX1
  | 2 => tyX2
  | 3 => tyX3
  | 4 => tyJ2
  | 5 => tyX5
  | 6 => tyX8
  | 7 => tyX13
  | 8 => tyX9
  | 9 => tyX10
  | 10 => tyX11
  | 11 => tyX12
  | 12 => tyX15
  | 13 => tyX16
  | 14 => tyX17
  | 15 => tyX18
  | _ => tyX7

/-- the kinds of array that are made or read: places in the list are used below -/
def tysOf (dA : FieldType → ClassId) : List (ClassId × FieldType) := [(dA .int, .int), (dA .long, .long), (dA .boolean, .boolean), (dA .byte, .byte), (dA (.object "java/lang/Object"), .object "java/lang/Object"), (dA (.object "LongYears$Note"), .object "LongYears$Note"), (dA (.array .long), .array .long)]
abbrev DD : Type := (Nat → ClassId) × (Nat → Nat → Nat) × (FieldType → ClassId)
def HPc (D : DD) (σ : Hp) (a : Nat) (H : Heap) : Prop := match gT σ a with
  | none => True
  | some (.inl ci) => ∃ r : vw_C, vwCl[ci]? = some r ∧ t_OB a (D.1 ci) r.2.2 (D.2.1 ci) H (fun k => gv (clTy ci k) σ a k) ∧ ∀ cell : Cell, H[a]? = some cell → cell.slots.size = r.2.2
  | some (.inr q) => H[a]? = some (arrV (D.2.2 q.1) q.2 (fun j => gv q.1 σ a j))
def HP (D : DD) (σ : Hp) (H : Heap) : Prop := H.size = gS σ ∧ ∀ a, HPc D σ a H
theorem HP.obj {D : DD} {σ : Hp} {H : Heap} (h : HP D σ H) {a ci : Nat} (ht : gT σ a = some (.inl ci)) : ∃ r : vw_C, vwCl[ci]? = some r ∧ t_OB a (D.1 ci) r.2.2 (D.2.1 ci) H (fun k => gv (clTy ci k) σ a k) := by
  have h1 := h.2 a
  unfold HPc at h1
  rw [ht] at h1
  obtain ⟨r, h2, h3, -⟩ := h1
  exact ⟨r, h2, h3⟩
/-- how many places its cell has -/
theorem HP.objz {D : DD} {σ : Hp} {H : Heap} (h : HP D σ H) {a ci : Nat} (ht : gT σ a = some (.inl ci)) {r : vw_C} (hr : vwCl[ci]? = some r) {cell : Cell} (hc : H[a]? = some cell) : cell.slots.size = r.2.2 := by
  have h1 := h.2 a
  unfold HPc at h1
  rw [ht] at h1
  obtain ⟨r', h2, -, h4⟩ := h1
  rw [h2] at hr
  cases hr
  exact h4 cell hc
theorem HP.arr {D : DD} {σ : Hp} {H : Heap} (h : HP D σ H) {a n : Nat} {ty : FieldType} (ht : gT σ a = some (.inr (ty, n))) : H[a]? = some (arrV (D.2.2 ty) n (fun j => gv ty σ a j)) := by
  have h1 := h.2 a
  unfold HPc at h1
  rw [ht] at h1
  exact h1
theorem HP.lt {D : DD} {σ : Hp} {H : Heap} (h : HP D σ H) {a : Nat} {t : Nat ⊕ (FieldType × Nat)} (ht : gT σ a = some t) : a < gS σ := by
  rw [← h.1]
  rcases t with ci | ⟨ty, n⟩
  · obtain ⟨r, -, cell, h1, -⟩ := h.obj ht
    exact (Array.getElem?_eq_some_iff.mp h1).1
  · exact (Array.getElem?_eq_some_iff.mp (h.arr ht)).1
theorem HPc.kept {D : DD} {σ σ' : Hp} {a : Nat} {H H' : Heap} (h : HPc D σ a H) (ht : gT σ' a = gT σ a) (hv : ∀ ty k, gv ty σ' a k = gv ty σ a k) (hH : H'[a]? = H[a]?) : HPc D σ' a H' := by
  unfold HPc at h ⊢
  rw [ht]
  split
  · trivial
  · rename_i ci hci
    rw [hci] at h
    obtain ⟨r, h1, h2, h3⟩ := h
    exact ⟨r, h1, (h2.to (fun k _ => (hv _ k).symm)).kept hH, fun cell hc => h3 cell (by rw [← hH]; exact hc)⟩
  · rename_i q hq
    rw [hq] at h
    rw [hH, show (fun j => gv q.1 σ' a j) = (fun j => gv q.1 σ a j) from funext fun j => hv _ j]
    exact h
theorem HP.write {D : DD} {σ σ' : Hp} {a : Nat} {H H' : Heap} (h : HP D σ H) (hs : gS σ' = gS σ) (ht : gT σ' = gT σ) (hz : H'.size = H.size) (oq : ∀ q, q ≠ a → H'[q]? = H[q]?) (hv : ∀ b, b ≠ a → ∀ ty k, gv ty σ' b k = gv ty σ b k) (ha : HPc D σ' a H') : HP D σ' H' := by
  refine ⟨by rw [hz, hs]; exact h.1, fun b => ?_⟩
  by_cases hb : b = a
  · rw [hb]; exact ha
  · exact (h.2 b).kept (by rw [ht]) (hv b hb) (oq b hb)
theorem HP.grow {D : DD} {σ : Hp} {H H' : Heap} {t : Nat ⊕ (FieldType × Nat)} (h : HP D σ H) (hz : H'.size = H.size + 1) (oq : ∀ q, q < H.size → H'[q]? = H[q]?) (ha : HPc D (pN σ t) (gS σ) H') : HP D (pN σ t) H' := by
  refine ⟨by rw [hz, h.1]; rfl, fun b => ?_⟩
  by_cases hb : b = gS σ
  · rw [hb]; exact ha
  · have hb' : ¬ b = σ.1 := hb
    by_cases hl : b < H.size
    · refine (h.2 b).kept (by show u1 _ _ _ _ = _; simp [u1, show b ≠ σ.1 from hb, gT]) (fun ty k => ?_) (oq b hl)
      have e1 : gL (pN σ t) b k = gL σ b k := by simp [gL, pN, u1, hb']
      have e2 : gR (pN σ t) b k = gR σ b k := by simp [gR, pN, u1, hb']
      have e3 : gI (pN σ t) b k = gI σ b k := by simp [gI, pN, u1, hb']
      cases ty <;> simp [gv, e1, e2, e3]
    · have e0 : gT σ b = none := by
        cases hc : gT σ b with
        | none => rfl
        | some t0 => exact absurd (h.lt hc) (by rw [← h.1]; omega)
      unfold HPc
      rw [show gT (pN σ t) b = none by show u1 _ _ _ _ = _; simp [u1, show b ≠ σ.1 from hb]; exact e0]
      trivial
theorem gvI_at {ty : FieldType} {σ : Hp} {a k : Nat} {v : Int32} (h : isI ty = true) (j : Nat) : gv ty (pI σ a k v) a j = if j = k then .int v else gv ty σ a j := by
  rw [gv_I h, gv_I h]
  show Value.int (u2 _ a k v a j) = _
  unfold u2
  rw [if_pos rfl]
  by_cases hj : j = k
  · rw [if_pos hj, if_pos hj]
  · rw [if_neg hj, if_neg hj]; rfl
theorem gvI_off {ty : FieldType} {σ : Hp} {a b k : Nat} {v : Int32} (h : b ≠ a) (j : Nat) : gv ty (pI σ a k v) b j = gv ty σ b j := by
  have e3 : gI (pI σ a k v) b j = gI σ b j := by show u2 _ _ _ _ _ _ = _; simp [u2, h, gI]
  have e1 : gL (pI σ a k v) b j = gL σ b j := rfl
  have e2 : gR (pI σ a k v) b j = gR σ b j := rfl
  cases ty <;> simp [gv, e1, e2, e3]
theorem gvI_ne {ty : FieldType} {σ : Hp} {a k : Nat} {v : Int32} (j : Nat) (h : j ≠ k) : gv ty (pI σ a k v) a j = gv ty σ a j := by
  have e3 : gI (pI σ a k v) a j = gI σ a j := by show u2 _ _ _ _ _ _ = _; simp [u2, h, gI]
  have e1 : gL (pI σ a k v) a j = gL σ a j := rfl
  have e2 : gR (pI σ a k v) a j = gR σ a j := rfl
  cases ty <;> simp [gv, e1, e2, e3]
theorem gvL_off {ty : FieldType} {σ : Hp} {a b k : Nat} {v : Int64} (h : b ≠ a) (j : Nat) : gv ty (pL σ a k v) b j = gv ty σ b j := by
  have e3 : gL (pL σ a k v) b j = gL σ b j := by show u2 _ _ _ _ _ _ = _; simp [u2, h, gL]
  have e1 : gI (pL σ a k v) b j = gI σ b j := rfl
  have e2 : gR (pL σ a k v) b j = gR σ b j := rfl
  cases ty <;> simp [gv, e1, e2, e3]
theorem gvL_ne {ty : FieldType} {σ : Hp} {a k : Nat} {v : Int64} (j : Nat) (h : j ≠ k) : gv ty (pL σ a k v) a j = gv ty σ a j := by
  have e3 : gL (pL σ a k v) a j = gL σ a j := by show u2 _ _ _ _ _ _ = _; simp [u2, h, gL]
  have e1 : gI (pL σ a k v) a j = gI σ a j := rfl
  have e2 : gR (pL σ a k v) a j = gR σ a j := rfl
  cases ty <;> simp [gv, e1, e2, e3]
theorem gvR_off {ty : FieldType} {σ : Hp} {a b k : Nat} {v : Option Nat} (h : b ≠ a) (j : Nat) : gv ty (pR σ a k v) b j = gv ty σ b j := by
  have e3 : gR (pR σ a k v) b j = gR σ b j := by show u2 _ _ _ _ _ _ = _; simp [u2, h, gR]
  have e1 : gI (pR σ a k v) b j = gI σ b j := rfl
  have e2 : gL (pR σ a k v) b j = gL σ b j := rfl
  cases ty <;> simp [gv, e1, e2, e3]
theorem gvR_ne {ty : FieldType} {σ : Hp} {a k : Nat} {v : Option Nat} (j : Nat) (h : j ≠ k) : gv ty (pR σ a k v) a j = gv ty σ a j := by
  have e3 : gR (pR σ a k v) a j = gR σ a j := by show u2 _ _ _ _ _ _ = _; simp [u2, h, gR]
  have e1 : gI (pR σ a k v) a j = gI σ a j := rfl
  have e2 : gL (pR σ a k v) a j = gL σ a j := rfl
  cases ty <;> simp [gv, e1, e2, e3]
theorem gIs {σ : Hp} {a k : Nat} {v : Int32} : gI (pI σ a k v) a k = v := by show u2 _ _ _ _ _ _ = _; simp [u2]
theorem gLs {σ : Hp} {a k : Nat} {v : Int64} : gL (pL σ a k v) a k = v := by show u2 _ _ _ _ _ _ = _; simp [u2]
theorem gRs {σ : Hp} {a k : Nat} {v : Option Nat} : gR (pR σ a k v) a k = v := by show u2 _ _ _ _ _ _ = _; simp [u2]
/-- the run's origin: a start that the Statement allows, whose cells below B still stand -/
def SX (B : Nat) (U : State) (H : Heap) : Prop := ∃ (s0 : State) (b0 : Nat), (∀ w ∈ lw_tbl, w.before #[Value.ref b0] s0 = true) ∧ (Jvm.Cond.and given_1 narrow_1).before #[Value.ref b0] s0 = true ∧ s0.WarmedH U.vm ∧ B = s0.heap.size ∧ ∀ q, q < B → H[q]? = s0.heap[q]?
theorem SX.heap {B : Nat} {U : State} {H H' : Heap} (h : SX B U H) (hq : ∀ q, q < B → H'[q]? = H[q]?) : SX B U H' := by
  obtain ⟨s0, b0, h1, h2, h3, h4, h5⟩ := h
  exact ⟨s0, b0, h1, h2, h3, h4, fun q h => (hq q h).trans (h5 q h)⟩
/-- what holds at a contract's start -/
def PX (B : Nat) (D : DD) (σ : Hp) (U : State) : Prop := va_K (D.1, D.2.1) vwCl (tysOf D.2.2) U ∧ HP D σ U.heap ∧ (∀ a t, gT σ a = some t → B ≤ a) ∧ B ≤ U.heap.size ∧ SX B U U.heap
/-- .. and at its end -/
def QX (B : Nat) (D : DD) (Post : Option Value → Hp → Prop) : Array Value → State → Outcome → State → Prop := fun _ st o t => ∃ (v : Option Value) (σ' : Hp), o = .returned v ∧ Post v σ' ∧ HP D σ' t.heap ∧ (∀ a t, gT σ' a = some t → B ≤ a) ∧ st.heap.size ≤ t.heap.size ∧ ∀ q, q < B → t.heap[q]? = st.heap[q]?
def MetX (y : MethodName) (cc : ByteArray) (nL : Nat) (ret : Option FieldType) (rm : Room) (σ : Hp) (av : List Value) (Post : Option Value → Hp → Prop) (mc ms : Nat) : Prop :=
  ∀ (l : Launch) (B : Nat) (D : DD), l.flags = flags0 → Met l y (ws_ y cc nL ret) rm (va_Pc av (PX B D σ)) (QX B D Post) mc ms (fun q => B ≤ q)
abbrev XE : Type := Program × Launch × Env × State × MethodId × Array Value × List Frame × Method × Code × Nat × DD × (State → Prop)
def XB (B : Nat) (D : DD) (σ : Hp) (s : State) (H : Heap) (locs : List Loc) : Prop := va_K (D.1, D.2.1) vwCl (tysOf D.2.2) s ∧ HP D σ H ∧ (∀ a t, gT σ a = some t → B ≤ a) ∧ B ≤ s.heap.size ∧ s.heap.size ≤ H.size ∧ (∀ q, q < B → H[q]? = s.heap[q]?) ∧ (∀ q ∈ locs, B ≤ q.base) ∧ SX B s s.heap
def XF (G : XE) (cc : ByteArray) (own : String) (nL : Nat) (ret : Option FieldType) : Prop := G.1.tables.exec = Jvm.exec ∧ G.2.2.2.2.2.2.2.2.1.code = cc ∧ G.2.2.2.2.2.2.2.2.1.maxLocals = nL ∧ G.2.2.2.1.vm.findClass own = some G.2.2.2.2.1.cls ∧ (∀ w ∈ lw_all, w.before G.2.2.2.2.2.1 G.2.2.2.1 = true) ∧ G.2.2.2.2.2.2.2.1.sig.returnType = ret ∧ G.2.2.2.2.2.2.2.1.locks = false ∧ G.2.1.flags = flags0
/-- the machine at pc, over the abstract heap σ, comes to the end that G names -/
def X (G : XE) (rm : Room) (cc : ByteArray) (own : String) (nL : Nat) (ret : Option FieldType) (σ : Hp) (cells slots pc : Nat) (lvs : List (Nat × Value)) (st : List Value) : Prop :=
  XF G cc own nL ret → ∀ (H : Heap) (locs : List Loc) (ls : Array Slot), XB G.2.2.2.2.2.2.2.2.2.1 G.2.2.2.2.2.2.2.2.2.2.1 σ G.2.2.2.1 H locs → lv_has ls nL lvs → W G.1 G.2.1 G.2.2.1 rm G.2.2.2.1 G.2.2.2.2.1 G.2.2.2.2.2.1 G.2.2.2.2.2.2.1 G.2.2.2.2.2.2.2.1 G.2.2.2.2.2.2.2.2.1 H locs cells slots G.2.2.2.2.2.2.2.2.2.2.2 (F0 G.2.2.2.2.1 pc ls st)
/-- G's end is a contract's end -/
def RQ (G : XE) (mc ms : Nat) (Post : Option Value → Hp → Prop) : Prop := G.2.2.2.2.2.2.2.2.2.2.2 = MQ G.2.2.2.2.2.2.1 (QX G.2.2.2.2.2.2.2.2.2.1 G.2.2.2.2.2.2.2.2.2.2.1 Post) G.2.2.2.2.2.1 G.2.2.2.1 mc ms (fun q => G.2.2.2.2.2.2.2.2.2.1 ≤ q)
def oI (P : Int32 → Hp → Prop) : Option Value → Hp → Prop := fun v σ => ∃ r : Int32, v = some (.int r) ∧ P r σ
def oL (P : Int64 → Hp → Prop) : Option Value → Hp → Prop := fun v σ => ∃ r : Int64, v = some (.long r) ∧ P r σ
def oV (P : Hp → Prop) : Option Value → Hp → Prop := fun v σ => v = none ∧ P σ
def oR (P : Nat → Hp → Prop) : Option Value → Hp → Prop := fun v σ => ∃ r : Nat, v = some (.ref r) ∧ P r σ

theorem Met.ofWF {l : Launch} {y : MethodName} {ws ws' : List Cond} {rm : Room} {Pc : Array Value → State → Prop} {Qc : Array Value → State → Outcome → State → Prop} {mc ms : Nat} {free : Addr → Prop} {cc : ByteArray} {maxL : Nat} {ret : Option FieldType}
    (hy : plainFor y = true) (hw : ws = Cond.code y cc maxL ret :: ws')
    (body : ∀ p e s m args below meth c s₁, BodyLoose p l y (headSpec ws rm) cc maxL ret e s m args below meth c s₁ → c.maxLocals = maxL → Pc args s →
      W p l e (headSpec ws rm).room s m args below meth c s.heap [] 0 0 (MQ below Qc args s mc ms free) (entryFrame m args maxL)) : Met l y ws rm Pc Qc mc ms free := by
  refine MetFree.of_bodySF (code := cc) (maxLocals := maxL) (ret := ret) hy ?_ ?_
  · intro args s m h hn
    obtain ⟨meth, c, h1, h2, h3, h4, h5, h6, -, -⟩ := Cond.code_spec hn (atoms_spec (ws := ws) h _ (by rw [hw]; exact List.mem_cons_self))
    exact ⟨meth, c, h1, h2, h3, h4, h5, h6⟩
  · intro p e s m args below meth c s₁ B hml hP _
    have hh0 : s₁.heap = s.heap := by rw [B.state]; rfl
    obtain ⟨t, a1, o, b1, b2, b3⟩ := body p e s m args below meth c s₁ B hml hP s₁ hh0 (Stand.of_body B)
    exact ⟨t, o, a1, b1, b2, ⟨b3.1, b3.2⟩⟩
theorem metX_ofF {y : MethodName} {cc : ByteArray} {own : String} {nL : Nat} {ret : Option FieldType} {rm : Room} {σ : Hp} {av : List Value} {lvs : List (Nat × Value)} {Post : Option Value → Hp → Prop} {mc ms : Nat}
    (hy : plainFor y = true) (ho : y.cls = own) (hn : (lg_sl av).length ≤ nL) (hlv : lv_args 0 av = lvs)
    (body : ∀ G : XE, RQ G mc ms Post → X G rm cc own nL ret σ 0 0 0 lvs []) : MetX y cc nL ret rm σ av Post mc ms := by
  subst ho
  subst hlv
  intro l B D hfl
  refine Met.ofWF (cc := cc) (maxL := nL) (ret := ret) hy rfl ?_
  intro p e s m args below meth c s₁ Bd hml hv
  obtain ⟨rfl, hK, hH, hdom, hB, hSX⟩ := hv
  have hts := atoms_spec (ws := ws_ y cc nL ret) Bd.pre
  have hl := lv_entry av (n := nL) hn
  have hx := body (p, l, e, s, m, av.toArray, below, meth, c, B, D, MQ below (QX B D Post) av.toArray s mc ms (fun q => B ≤ q)) rfl
  rw [lg_entry_eq]
  exact hx ⟨Bd.exec, Bd.bytes, hml, findClass_of_methodNamed Bd.named, fun w h => hts w (List.mem_cons_of_mem _ h), Bd.returns, Bd.notSynchronized, hfl⟩ s.heap [] _ ⟨hK, hH, hdom, hB, Nat.le_refl _, fun _ _ => rfl, fun _ h => (List.not_mem_nil h).elim, hSX⟩ hl
theorem metX_of {y : MethodName} {cc : ByteArray} {own : String} {nL : Nat} {ret : Option FieldType} {rm : Room} {σ : Hp} {av : List Value} {lvs : List (Nat × Value)} {Post : Option Value → Hp → Prop} {mc ms : Nat}
    (hy : plainName y.cls = true) (ho : y.cls = own) (hn : (lg_sl av).length ≤ nL) (hlv : lv_args 0 av = lvs)
    (body : ∀ G : XE, RQ G mc ms Post → X G rm cc own nL ret σ 0 0 0 lvs []) : MetX y cc nL ret rm σ av Post mc ms := metX_ofF (plainFor_of_name hy) ho hn hlv body
section XR
variable {G : XE} {rm : Room} {cc : ByteArray} {own : String} {nL : Nat} {ret : Option FieldType} {σ : Hp} {cells slots pc n : Nat} {lvs : List (Nat × Value)} {st : List Value}

theorem x_iconst {k : Int} {v : Int32} (hd : decode cc pc = .ok (.iconst k, 1)) (hn : pc + 1 = n) (hv : Int32.ofInt k = v) (kk : X G rm cc own nL ret σ cells slots n lvs (.int v :: st)) : X G rm cc own nL ret σ cells slots pc lvs st := by
  subst hn
  exact fun hF H locs ls hB hl => lv_iconst hF.1 hF.2.1 hd hv (kk hF H locs ls hB hl)

theorem x_bipush {k : Int} {v : Int32} (hd : decode cc pc = .ok (.bipush k, 2)) (hn : pc + 2 = n) (hv : (Int8.ofInt k).toInt32 = v) (kk : X G rm cc own nL ret σ cells slots n lvs (.int v :: st)) : X G rm cc own nL ret σ cells slots pc lvs st := by
  subst hn
  exact fun hF H locs ls hB hl => lv_bipush hF.1 hF.2.1 hd hv (kk hF H locs ls hB hl)

theorem x_sipush {k : Int} {v : Int32} (hd : decode cc pc = .ok (.sipush k, 3)) (hn : pc + 3 = n) (hv : (Int16.ofInt k).toInt32 = v) (kk : X G rm cc own nL ret σ cells slots n lvs (.int v :: st)) : X G rm cc own nL ret σ cells slots pc lvs st := by
  subst hn
  exact fun hF H locs ls hB hl => lv_sipush hF.1 hF.2.1 hd hv (kk hF H locs ls hB hl)

theorem x_lconst {k : Fin 2} {v : Int64} (hd : decode cc pc = .ok (.lconst k, 1)) (hn : pc + 1 = n) (hv : Int64.ofNat (k : Nat) = v) (kk : X G rm cc own nL ret σ cells slots n lvs (.long v :: st)) : X G rm cc own nL ret σ cells slots pc lvs st := by
  subst hn
  exact fun hF H locs ls hB hl => lv_lconst hF.1 hF.2.1 hd hv (kk hF H locs ls hB hl)

theorem x_ldc {index : Nat} {v : Int32} (hd : decode cc pc = .ok (.ldc index, 2)) (hn : pc + 2 = n) (hq : Cond.constant own index v ∈ lw_all) (kk : X G rm cc own nL ret σ cells slots n lvs (.int v :: st)) : X G rm cc own nL ret σ cells slots pc lvs st := by
  subst hn
  exact fun hF H locs ls hB hl => lv_ldc hF.1 hF.2.1 hF.2.2.2.1 (hF.2.2.2.2.1 _ hq) hd (kk hF H locs ls hB hl)

theorem x_ldcw {index : Nat} {v : Int32} (hd : decode cc pc = .ok (.ldc_w index, 3)) (hn : pc + 3 = n) (hq : Cond.constant own index v ∈ lw_all) (kk : X G rm cc own nL ret σ cells slots n lvs (.int v :: st)) : X G rm cc own nL ret σ cells slots pc lvs st := by
  subst hn
  exact fun hF H locs ls hB hl => lv_ldcw hF.1 hF.2.1 hF.2.2.2.1 (hF.2.2.2.2.1 _ hq) hd (kk hF H locs ls hB hl)

theorem x_ldc2 {index : Nat} {v : Int64} (hd : decode cc pc = .ok (.ldc2_w index, 3)) (hn : pc + 3 = n) (hq : Cond.constantLong own index v ∈ lw_all) (kk : X G rm cc own nL ret σ cells slots n lvs (.long v :: st)) : X G rm cc own nL ret σ cells slots pc lvs st := by
  subst hn
  exact fun hF H locs ls hB hl => lv_ldc2 hF.1 hF.2.1 hF.2.2.2.1 (hF.2.2.2.2.1 _ hq) hd (kk hF H locs ls hB hl)

theorem x_null (hd : decode cc pc = .ok (.aconst_null, 1)) (hn : pc + 1 = n) (kk : X G rm cc own nL ret σ cells slots n lvs (.null :: st)) : X G rm cc own nL ret σ cells slots pc lvs st := by
  subst hn
  exact fun hF H locs ls hB hl => lv_null hF.1 hF.2.1 hd (kk hF H locs ls hB hl)

theorem x_iload_n {k : Fin 4} {i : Nat} {x : Int32} (hd : decode cc pc = .ok (.iload_n k, 1)) (hn : pc + 1 = n) (hi : (k : Nat) = i) (j : Nat) (hj : lvs[j]? = some (i, .int x)) (kk : X G rm cc own nL ret σ cells slots n lvs (.int x :: st)) : X G rm cc own nL ret σ cells slots pc lvs st := by
  subst hn
  exact fun hF H locs ls hB hl => lv_iload_n hF.1 hF.2.1 hd hi (lv_at hl j hj) (kk hF H locs ls hB hl)

theorem x_iload {i : Nat} {x : Int32} (hd : decode cc pc = .ok (.iload i, 2)) (hn : pc + 2 = n) (j : Nat) (hj : lvs[j]? = some (i, .int x)) (kk : X G rm cc own nL ret σ cells slots n lvs (.int x :: st)) : X G rm cc own nL ret σ cells slots pc lvs st := by
  subst hn
  exact fun hF H locs ls hB hl => lv_iload hF.1 hF.2.1 hd (lv_at hl j hj) (kk hF H locs ls hB hl)

theorem x_lload_n {k : Fin 4} {i : Nat} {x : Int64} (hd : decode cc pc = .ok (.lload_n k, 1)) (hn : pc + 1 = n) (hi : (k : Nat) = i) (j : Nat) (hj : lvs[j]? = some (i, .long x)) (kk : X G rm cc own nL ret σ cells slots n lvs (.long x :: st)) : X G rm cc own nL ret σ cells slots pc lvs st := by
  subst hn
  exact fun hF H locs ls hB hl => lv_lload_n hF.1 hF.2.1 hd hi (lv_at hl j hj) (kk hF H locs ls hB hl)

theorem x_lload {i : Nat} {x : Int64} (hd : decode cc pc = .ok (.lload i, 2)) (hn : pc + 2 = n) (j : Nat) (hj : lvs[j]? = some (i, .long x)) (kk : X G rm cc own nL ret σ cells slots n lvs (.long x :: st)) : X G rm cc own nL ret σ cells slots pc lvs st := by
  subst hn
  exact fun hF H locs ls hB hl => lv_lload hF.1 hF.2.1 hd (lv_at hl j hj) (kk hF H locs ls hB hl)

theorem x_aload_n {k : Fin 4} {i : Nat} {x : Nat} (hd : decode cc pc = .ok (.aload_n k, 1)) (hn : pc + 1 = n) (hi : (k : Nat) = i) (j : Nat) (hj : lvs[j]? = some (i, .ref x)) (kk : X G rm cc own nL ret σ cells slots n lvs (.ref x :: st)) : X G rm cc own nL ret σ cells slots pc lvs st := by
  subst hn
  exact fun hF H locs ls hB hl => lv_aload_n hF.1 hF.2.1 hd hi (lv_at hl j hj) (kk hF H locs ls hB hl)

theorem x_aload {i : Nat} {x : Nat} (hd : decode cc pc = .ok (.aload i, 2)) (hn : pc + 2 = n) (j : Nat) (hj : lvs[j]? = some (i, .ref x)) (kk : X G rm cc own nL ret σ cells slots n lvs (.ref x :: st)) : X G rm cc own nL ret σ cells slots pc lvs st := by
  subst hn
  exact fun hF H locs ls hB hl => lv_aload hF.1 hF.2.1 hd (lv_at hl j hj) (kk hF H locs ls hB hl)

theorem x_aload_nN {k : Fin 4} {i : Nat} (hd : decode cc pc = .ok (.aload_n k, 1)) (hn : pc + 1 = n) (hi : (k : Nat) = i) (j : Nat) (hj : lvs[j]? = some (i, .null)) (kk : X G rm cc own nL ret σ cells slots n lvs (.null :: st)) : X G rm cc own nL ret σ cells slots pc lvs st := by
  subst hn
  exact fun hF H locs ls hB hl => lv_aload_nN hF.1 hF.2.1 hd hi (lv_at hl j hj) (kk hF H locs ls hB hl)

theorem x_iadd {x y : Int32} (hd : decode cc pc = .ok (.iadd, 1)) (hn : pc + 1 = n) (kk : X G rm cc own nL ret σ cells slots n lvs (.int (x + y) :: st)) : X G rm cc own nL ret σ cells slots pc lvs (.int y :: .int x :: st) := by
  subst hn
  exact fun hF H locs ls hB hl => lv_iadd hF.1 hF.2.1 hd (kk hF H locs ls hB hl)

theorem x_isub {x y : Int32} (hd : decode cc pc = .ok (.isub, 1)) (hn : pc + 1 = n) (kk : X G rm cc own nL ret σ cells slots n lvs (.int (x - y) :: st)) : X G rm cc own nL ret σ cells slots pc lvs (.int y :: .int x :: st) := by
  subst hn
  exact fun hF H locs ls hB hl => lv_isub hF.1 hF.2.1 hd (kk hF H locs ls hB hl)

theorem x_imul {x y : Int32} (hd : decode cc pc = .ok (.imul, 1)) (hn : pc + 1 = n) (kk : X G rm cc own nL ret σ cells slots n lvs (.int (x * y) :: st)) : X G rm cc own nL ret σ cells slots pc lvs (.int y :: .int x :: st) := by
  subst hn
  exact fun hF H locs ls hB hl => lv_imul hF.1 hF.2.1 hd (kk hF H locs ls hB hl)

theorem x_iand {x y : Int32} (hd : decode cc pc = .ok (.iand, 1)) (hn : pc + 1 = n) (kk : X G rm cc own nL ret σ cells slots n lvs (.int (x &&& y) :: st)) : X G rm cc own nL ret σ cells slots pc lvs (.int y :: .int x :: st) := by
  subst hn
  exact fun hF H locs ls hB hl => lv_iand hF.1 hF.2.1 hd (kk hF H locs ls hB hl)

theorem x_ior {x y : Int32} (hd : decode cc pc = .ok (.ior, 1)) (hn : pc + 1 = n) (kk : X G rm cc own nL ret σ cells slots n lvs (.int (x ||| y) :: st)) : X G rm cc own nL ret σ cells slots pc lvs (.int y :: .int x :: st) := by
  subst hn
  exact fun hF H locs ls hB hl => lv_ior hF.1 hF.2.1 hd (kk hF H locs ls hB hl)

theorem x_ixor {x y : Int32} (hd : decode cc pc = .ok (.ixor, 1)) (hn : pc + 1 = n) (kk : X G rm cc own nL ret σ cells slots n lvs (.int (x ^^^ y) :: st)) : X G rm cc own nL ret σ cells slots pc lvs (.int y :: .int x :: st) := by
  subst hn
  exact fun hF H locs ls hB hl => lv_ixor hF.1 hF.2.1 hd (kk hF H locs ls hB hl)

theorem x_ladd {x y : Int64} (hd : decode cc pc = .ok (.ladd, 1)) (hn : pc + 1 = n) (kk : X G rm cc own nL ret σ cells slots n lvs (.long (x + y) :: st)) : X G rm cc own nL ret σ cells slots pc lvs (.long y :: .long x :: st) := by
  subst hn
  exact fun hF H locs ls hB hl => lv_ladd hF.1 hF.2.1 hd (kk hF H locs ls hB hl)

theorem x_lsub {x y : Int64} (hd : decode cc pc = .ok (.lsub, 1)) (hn : pc + 1 = n) (kk : X G rm cc own nL ret σ cells slots n lvs (.long (x - y) :: st)) : X G rm cc own nL ret σ cells slots pc lvs (.long y :: .long x :: st) := by
  subst hn
  exact fun hF H locs ls hB hl => lv_lsub hF.1 hF.2.1 hd (kk hF H locs ls hB hl)

theorem x_lmul {x y : Int64} (hd : decode cc pc = .ok (.lmul, 1)) (hn : pc + 1 = n) (kk : X G rm cc own nL ret σ cells slots n lvs (.long (x * y) :: st)) : X G rm cc own nL ret σ cells slots pc lvs (.long y :: .long x :: st) := by
  subst hn
  exact fun hF H locs ls hB hl => lv_lmul hF.1 hF.2.1 hd (kk hF H locs ls hB hl)

theorem x_land {x y : Int64} (hd : decode cc pc = .ok (.land, 1)) (hn : pc + 1 = n) (kk : X G rm cc own nL ret σ cells slots n lvs (.long (x &&& y) :: st)) : X G rm cc own nL ret σ cells slots pc lvs (.long y :: .long x :: st) := by
  subst hn
  exact fun hF H locs ls hB hl => lv_land hF.1 hF.2.1 hd (kk hF H locs ls hB hl)

theorem x_lor {x y : Int64} (hd : decode cc pc = .ok (.lor, 1)) (hn : pc + 1 = n) (kk : X G rm cc own nL ret σ cells slots n lvs (.long (x ||| y) :: st)) : X G rm cc own nL ret σ cells slots pc lvs (.long y :: .long x :: st) := by
  subst hn
  exact fun hF H locs ls hB hl => lv_lor hF.1 hF.2.1 hd (kk hF H locs ls hB hl)

theorem x_lxor {x y : Int64} (hd : decode cc pc = .ok (.lxor, 1)) (hn : pc + 1 = n) (kk : X G rm cc own nL ret σ cells slots n lvs (.long (x ^^^ y) :: st)) : X G rm cc own nL ret σ cells slots pc lvs (.long y :: .long x :: st) := by
  subst hn
  exact fun hF H locs ls hB hl => lv_lxor hF.1 hF.2.1 hd (kk hF H locs ls hB hl)

theorem x_idiv {x y : Int32} (hd : decode cc pc = .ok (.idiv, 1)) (hn : pc + 1 = n) (hz : ¬ y = 0) (kk : X G rm cc own nL ret σ cells slots n lvs (.int (x / y) :: st)) : X G rm cc own nL ret σ cells slots pc lvs (.int y :: .int x :: st) := by
  subst hn
  exact fun hF H locs ls hB hl => lv_idiv hF.1 hF.2.1 hd hz (kk hF H locs ls hB hl)

theorem x_ldiv {x y : Int64} (hd : decode cc pc = .ok (.ldiv, 1)) (hn : pc + 1 = n) (hz : ¬ y = 0) (kk : X G rm cc own nL ret σ cells slots n lvs (.long (x / y) :: st)) : X G rm cc own nL ret σ cells slots pc lvs (.long y :: .long x :: st) := by
  subst hn
  exact fun hF H locs ls hB hl => lv_ldiv hF.1 hF.2.1 hd hz (kk hF H locs ls hB hl)

theorem x_ineg {x : Int32} (hd : decode cc pc = .ok (.ineg, 1)) (hn : pc + 1 = n) (kk : X G rm cc own nL ret σ cells slots n lvs (.int (-x) :: st)) : X G rm cc own nL ret σ cells slots pc lvs (.int x :: st) := by
  subst hn
  exact fun hF H locs ls hB hl => lv_ineg hF.1 hF.2.1 hd (kk hF H locs ls hB hl)

theorem x_lneg {x : Int64} (hd : decode cc pc = .ok (.lneg, 1)) (hn : pc + 1 = n) (kk : X G rm cc own nL ret σ cells slots n lvs (.long (-x) :: st)) : X G rm cc own nL ret σ cells slots pc lvs (.long x :: st) := by
  subst hn
  exact fun hF H locs ls hB hl => lv_lneg hF.1 hF.2.1 hd (kk hF H locs ls hB hl)

theorem x_i2l {x : Int32} (hd : decode cc pc = .ok (.i2l, 1)) (hn : pc + 1 = n) (kk : X G rm cc own nL ret σ cells slots n lvs (.long x.toInt64 :: st)) : X G rm cc own nL ret σ cells slots pc lvs (.int x :: st) := by
  subst hn
  exact fun hF H locs ls hB hl => lv_i2l hF.1 hF.2.1 hd rfl (kk hF H locs ls hB hl)

theorem x_l2i {x : Int64} (hd : decode cc pc = .ok (.l2i, 1)) (hn : pc + 1 = n) (kk : X G rm cc own nL ret σ cells slots n lvs (.int x.toInt32 :: st)) : X G rm cc own nL ret σ cells slots pc lvs (.long x :: st) := by
  subst hn
  exact fun hF H locs ls hB hl => lv_l2i hF.1 hF.2.1 hd rfl (kk hF H locs ls hB hl)

theorem x_i2b {x : Int32} (hd : decode cc pc = .ok (.i2b, 1)) (hn : pc + 1 = n) (kk : X G rm cc own nL ret σ cells slots n lvs (.int x.toInt8.toInt32 :: st)) : X G rm cc own nL ret σ cells slots pc lvs (.int x :: st) := by
  subst hn
  exact fun hF H locs ls hB hl => lv_i2b hF.1 hF.2.1 hd rfl (kk hF H locs ls hB hl)

theorem x_i2c {x : Int32} (hd : decode cc pc = .ok (.i2c, 1)) (hn : pc + 1 = n) (kk : X G rm cc own nL ret σ cells slots n lvs (.int (x.toUInt32 % 65536).toInt32 :: st)) : X G rm cc own nL ret σ cells slots pc lvs (.int x :: st) := by
  subst hn
  exact fun hF H locs ls hB hl => lv_i2c hF.1 hF.2.1 hd rfl (kk hF H locs ls hB hl)

theorem x_dup {v : Value} (hd : decode cc pc = .ok (.dup, 1)) (hn : pc + 1 = n) (h1 : v.category = 1) (kk : X G rm cc own nL ret σ cells slots n lvs (v :: v :: st)) : X G rm cc own nL ret σ cells slots pc lvs (v :: st) := by
  subst hn
  exact fun hF H locs ls hB hl => lv_dup hF.1 hF.2.1 hd h1 (kk hF H locs ls hB hl)

theorem x_pop {v : Value} (hd : decode cc pc = .ok (.pop, 1)) (hn : pc + 1 = n) (h1 : v.category = 1) (kk : X G rm cc own nL ret σ cells slots n lvs st) : X G rm cc own nL ret σ cells slots pc lvs (v :: st) := by
  subst hn
  exact fun hF H locs ls hB hl => lv_pop hF.1 hF.2.1 hd h1 (kk hF H locs ls hB hl)

theorem x_dup_x1 {v w : Value} (hd : decode cc pc = .ok (.dup_x1, 1)) (hn : pc + 1 = n) (h1 : v.category = 1) (h2 : w.category = 1) (kk : X G rm cc own nL ret σ cells slots n lvs (v :: w :: v :: st)) : X G rm cc own nL ret σ cells slots pc lvs (v :: w :: st) := by
  subst hn
  exact fun hF H locs ls hB hl => lv_dup_x1 hF.1 hF.2.1 hd h1 h2 (kk hF H locs ls hB hl)

theorem x_dup2 {v w : Value} (hd : decode cc pc = .ok (.dup2, 1)) (hn : pc + 1 = n) (h1 : v.category = 1) (h2 : w.category = 1) (kk : X G rm cc own nL ret σ cells slots n lvs (v :: w :: v :: w :: st)) : X G rm cc own nL ret σ cells slots pc lvs (v :: w :: st) := by
  subst hn
  exact fun hF H locs ls hB hl => lv_dup2_11 hF.1 hF.2.1 hd h1 h2 (kk hF H locs ls hB hl)
theorem x_dup_x2 {v w u : Value} (hd : decode cc pc = .ok (.dup_x2, 1)) (hn : pc + 1 = n) (h1 : v.category = 1) (h2 : w.category = 1) (h3 : u.category = 1) (kk : X G rm cc own nL ret σ cells slots n lvs (v :: w :: u :: v :: st)) : X G rm cc own nL ret σ cells slots pc lvs (v :: w :: u :: st) := by
  subst hn
  exact fun hF H locs ls hB hl => lv_dup_x2 hF.1 hF.2.1 hd h1 h2 h3 (kk hF H locs ls hB hl)

theorem x_irem {x y : Int32} (hd : decode cc pc = .ok (.irem, 1)) (hn : pc + 1 = n) (hz : ¬ y = 0) (kk : X G rm cc own nL ret σ cells slots n lvs (.int (x - x / y * y) :: st)) : X G rm cc own nL ret σ cells slots pc lvs (.int y :: .int x :: st) := by
  subst hn
  exact fun hF H locs ls hB hl => lv_irem hF.1 hF.2.1 hd hz (kk hF H locs ls hB hl)

theorem x_lrem {x y : Int64} (hd : decode cc pc = .ok (.lrem, 1)) (hn : pc + 1 = n) (hz : ¬ y = 0) (kk : X G rm cc own nL ret σ cells slots n lvs (.long (x - x / y * y) :: st)) : X G rm cc own nL ret σ cells slots pc lvs (.long y :: .long x :: st) := by
  subst hn
  exact fun hF H locs ls hB hl => lv_lrem hF.1 hF.2.1 hd hz (kk hF H locs ls hB hl)

theorem x_ishl {x y : Int32} (hd : decode cc pc = .ok (.ishl, 1)) (hn : pc + 1 = n) (kk : X G rm cc own nL ret σ cells slots n lvs (.int (x <<< (y &&& 31)) :: st)) : X G rm cc own nL ret σ cells slots pc lvs (.int y :: .int x :: st) := by
  subst hn
  exact fun hF H locs ls hB hl => lv_ishl hF.1 hF.2.1 hd (kk hF H locs ls hB hl)

theorem x_ishr {x y : Int32} (hd : decode cc pc = .ok (.ishr, 1)) (hn : pc + 1 = n) (kk : X G rm cc own nL ret σ cells slots n lvs (.int (x >>> (y &&& 31)) :: st)) : X G rm cc own nL ret σ cells slots pc lvs (.int y :: .int x :: st) := by
  subst hn
  exact fun hF H locs ls hB hl => lv_ishr hF.1 hF.2.1 hd (kk hF H locs ls hB hl)

theorem x_iushr {x y : Int32} (hd : decode cc pc = .ok (.iushr, 1)) (hn : pc + 1 = n) (kk : X G rm cc own nL ret σ cells slots n lvs (.int ((x.toUInt32 >>> (y.toUInt32 &&& Int32.toUInt32 31)).toInt32) :: st)) : X G rm cc own nL ret σ cells slots pc lvs (.int y :: .int x :: st) := by
  subst hn
  exact fun hF H locs ls hB hl => lv_iushr hF.1 hF.2.1 hd rfl (kk hF H locs ls hB hl)

theorem x_lshl {x : Int64} {y : Int32} (hd : decode cc pc = .ok (.lshl, 1)) (hn : pc + 1 = n) (kk : X G rm cc own nL ret σ cells slots n lvs (.long (x <<< (y.toInt64 &&& 63)) :: st)) : X G rm cc own nL ret σ cells slots pc lvs (.int y :: .long x :: st) := by
  subst hn
  exact fun hF H locs ls hB hl => lv_lshl hF.1 hF.2.1 hd rfl (kk hF H locs ls hB hl)

theorem x_lshr {x : Int64} {y : Int32} (hd : decode cc pc = .ok (.lshr, 1)) (hn : pc + 1 = n) (kk : X G rm cc own nL ret σ cells slots n lvs (.long (x >>> (y.toInt64 &&& 63)) :: st)) : X G rm cc own nL ret σ cells slots pc lvs (.int y :: .long x :: st) := by
  subst hn
  exact fun hF H locs ls hB hl => lv_lshr hF.1 hF.2.1 hd rfl (kk hF H locs ls hB hl)

theorem x_istore_n {k : Fin 4} {i : Nat} {x : Int32} {lvs' : List (Nat × Value)} (hd : decode cc pc = .ok (.istore_n k, 1)) (hn : pc + 1 = n) (hi : (k : Nat) = i) (hb : i < nL) (hl' : (i, Value.int x) :: lvs.filter (fun q => !(q.1 == i) && !(q.1 + 1 == i && q.2.category == 2)) = lvs') (kk : X G rm cc own nL ret σ cells slots n lvs' st) : X G rm cc own nL ret σ cells slots pc lvs (.int x :: st) := by
  subst hn
  exact fun hF H locs ls hB hl => lv_istore_n hF.1 hF.2.1 hd hi hl hb hl' (fun ls' h' => kk hF H locs ls' hB h')
theorem x_istore {i : Nat} {x : Int32} {lvs' : List (Nat × Value)} (hd : decode cc pc = .ok (.istore i, 2)) (hn : pc + 2 = n) (hb : i < nL) (hl' : (i, Value.int x) :: lvs.filter (fun q => !(q.1 == i) && !(q.1 + 1 == i && q.2.category == 2)) = lvs') (kk : X G rm cc own nL ret σ cells slots n lvs' st) : X G rm cc own nL ret σ cells slots pc lvs (.int x :: st) := by
  subst hn
  exact fun hF H locs ls hB hl => lv_istore hF.1 hF.2.1 hd hl hb hl' (fun ls' h' => kk hF H locs ls' hB h')

theorem x_lstore_n {k : Fin 4} {i : Nat} {x : Int64} {lvs' : List (Nat × Value)} (hd : decode cc pc = .ok (.lstore_n k, 1)) (hn : pc + 1 = n) (hi : (k : Nat) = i) (hb : i + 1 < nL) (hl' : (i, Value.long x) :: lvs.filter (fun q => !(q.1 == i) && (!(q.1 == i + 1) && !(q.1 + 1 == i && q.2.category == 2))) = lvs') (kk : X G rm cc own nL ret σ cells slots n lvs' st) : X G rm cc own nL ret σ cells slots pc lvs (.long x :: st) := by
  subst hn
  exact fun hF H locs ls hB hl => lv_lstore_n hF.1 hF.2.1 hd hi hl hb hl' (fun ls' h' => kk hF H locs ls' hB h')
theorem x_lstore {i : Nat} {x : Int64} {lvs' : List (Nat × Value)} (hd : decode cc pc = .ok (.lstore i, 2)) (hn : pc + 2 = n) (hb : i + 1 < nL) (hl' : (i, Value.long x) :: lvs.filter (fun q => !(q.1 == i) && (!(q.1 == i + 1) && !(q.1 + 1 == i && q.2.category == 2))) = lvs') (kk : X G rm cc own nL ret σ cells slots n lvs' st) : X G rm cc own nL ret σ cells slots pc lvs (.long x :: st) := by
  subst hn
  exact fun hF H locs ls hB hl => lv_lstore hF.1 hF.2.1 hd hl hb hl' (fun ls' h' => kk hF H locs ls' hB h')

theorem x_astore_n {k : Fin 4} {i : Nat} {x : Nat} {lvs' : List (Nat × Value)} (hd : decode cc pc = .ok (.astore_n k, 1)) (hn : pc + 1 = n) (hi : (k : Nat) = i) (hb : i < nL) (hl' : (i, Value.ref x) :: lvs.filter (fun q => !(q.1 == i) && !(q.1 + 1 == i && q.2.category == 2)) = lvs') (kk : X G rm cc own nL ret σ cells slots n lvs' st) : X G rm cc own nL ret σ cells slots pc lvs (.ref x :: st) := by
  subst hn
  exact fun hF H locs ls hB hl => lv_astore_n hF.1 hF.2.1 hd hi hl hb hl' (fun ls' h' => kk hF H locs ls' hB h')
theorem x_astore {i : Nat} {x : Nat} {lvs' : List (Nat × Value)} (hd : decode cc pc = .ok (.astore i, 2)) (hn : pc + 2 = n) (hb : i < nL) (hl' : (i, Value.ref x) :: lvs.filter (fun q => !(q.1 == i) && !(q.1 + 1 == i && q.2.category == 2)) = lvs') (kk : X G rm cc own nL ret σ cells slots n lvs' st) : X G rm cc own nL ret σ cells slots pc lvs (.ref x :: st) := by
  subst hn
  exact fun hF H locs ls hB hl => lv_astore hF.1 hF.2.1 hd hl hb hl' (fun ls' h' => kk hF H locs ls' hB h')

theorem x_iinc {i : Nat} {k : Int} {x v : Int32} {lvs' : List (Nat × Value)} (hd : decode cc pc = .ok (.iinc i k, 3)) (hn : pc + 3 = n) (j : Nat) (hj : lvs[j]? = some (i, .int x)) (hv : x + Int32.ofInt k = v) (hb : i < nL) (hl' : (i, Value.int v) :: lvs.filter (fun q => !(q.1 == i) && !(q.1 + 1 == i && q.2.category == 2)) = lvs') (kk : X G rm cc own nL ret σ cells slots n lvs' st) : X G rm cc own nL ret σ cells slots pc lvs st := by
  subst hn
  exact fun hF H locs ls hB hl => lv_iinc hF.1 hF.2.1 hd hl hj hv hb hl' (fun ls' h' => kk hF H locs ls' hB h')
theorem x_goto {off : Int} {tgt : Nat} (hd : decode cc pc = .ok (.goto off, 3)) (ht : (pc : Int) + off = (tgt : Int)) (kk : X G rm cc own nL ret σ cells slots tgt lvs st) : X G rm cc own nL ret σ cells slots pc lvs st :=
  fun hF H locs ls hB hl => lv_goto hF.1 hF.2.1 hd ht (kk hF H locs ls hB hl)
/-- fewer locals, by their places -/
theorem x_sub {lvs' : List (Nat × Value)} (ks : List Nat) (hk : lv_pick lvs ks = lvs') (kk : X G rm cc own nL ret σ cells slots pc lvs' st) : X G rm cc own nL ret σ cells slots pc lvs st :=
  fun hF H locs ls hB hl => kk hF H locs ls hB (lv_sub hl ks hk)
theorem x_widen {k1 k2 : Nat} (h1 : cells ≤ k1) (h2 : slots ≤ k2) (kk : X G rm cc own nL ret σ k1 k2 pc lvs st) : X G rm cc own nL ret σ cells slots pc lvs st :=
  fun hF H locs ls hB hl => W.widen h1 h2 (kk hF H locs ls hB hl)

theorem x_if_eq {x : Int32} {off : Int} {tgt : Nat} (hd : decode cc pc = .ok (.ifCond .eq off, 3)) (ht : (pc : Int) + off = (tgt : Int)) (hn : pc + 3 = n) (kt : x = 0 → X G rm cc own nL ret σ cells slots tgt lvs st) (kf : ¬ x = 0 → X G rm cc own nL ret σ cells slots n lvs st) : X G rm cc own nL ret σ cells slots pc lvs (.int x :: st) := by
  subst hn
  exact fun hF H locs ls hB hl => lv_if_eq hF.1 hF.2.1 hd ht (fun q => kt q hF H locs ls hB hl) (fun q => kf q hF H locs ls hB hl)

theorem x_if_ne {x : Int32} {off : Int} {tgt : Nat} (hd : decode cc pc = .ok (.ifCond .ne off, 3)) (ht : (pc : Int) + off = (tgt : Int)) (hn : pc + 3 = n) (kt : ¬ x = 0 → X G rm cc own nL ret σ cells slots tgt lvs st) (kf : x = 0 → X G rm cc own nL ret σ cells slots n lvs st) : X G rm cc own nL ret σ cells slots pc lvs (.int x :: st) := by
  subst hn
  exact fun hF H locs ls hB hl => lv_if_ne hF.1 hF.2.1 hd ht (fun q => kt q hF H locs ls hB hl) (fun q => kf q hF H locs ls hB hl)

theorem x_if_lt {x : Int32} {off : Int} {tgt : Nat} (hd : decode cc pc = .ok (.ifCond .lt off, 3)) (ht : (pc : Int) + off = (tgt : Int)) (hn : pc + 3 = n) (kt : x < 0 → X G rm cc own nL ret σ cells slots tgt lvs st) (kf : ¬ x < 0 → X G rm cc own nL ret σ cells slots n lvs st) : X G rm cc own nL ret σ cells slots pc lvs (.int x :: st) := by
  subst hn
  exact fun hF H locs ls hB hl => lv_if_lt hF.1 hF.2.1 hd ht (fun q => kt q hF H locs ls hB hl) (fun q => kf q hF H locs ls hB hl)

theorem x_if_ge {x : Int32} {off : Int} {tgt : Nat} (hd : decode cc pc = .ok (.ifCond .ge off, 3)) (ht : (pc : Int) + off = (tgt : Int)) (hn : pc + 3 = n) (kt : 0 ≤ x → X G rm cc own nL ret σ cells slots tgt lvs st) (kf : ¬ 0 ≤ x → X G rm cc own nL ret σ cells slots n lvs st) : X G rm cc own nL ret σ cells slots pc lvs (.int x :: st) := by
  subst hn
  exact fun hF H locs ls hB hl => lv_if_ge hF.1 hF.2.1 hd ht (fun q => kt q hF H locs ls hB hl) (fun q => kf q hF H locs ls hB hl)

theorem x_if_gt {x : Int32} {off : Int} {tgt : Nat} (hd : decode cc pc = .ok (.ifCond .gt off, 3)) (ht : (pc : Int) + off = (tgt : Int)) (hn : pc + 3 = n) (kt : 0 < x → X G rm cc own nL ret σ cells slots tgt lvs st) (kf : ¬ 0 < x → X G rm cc own nL ret σ cells slots n lvs st) : X G rm cc own nL ret σ cells slots pc lvs (.int x :: st) := by
  subst hn
  exact fun hF H locs ls hB hl => lv_if_gt hF.1 hF.2.1 hd ht (fun q => kt q hF H locs ls hB hl) (fun q => kf q hF H locs ls hB hl)

theorem x_if_le {x : Int32} {off : Int} {tgt : Nat} (hd : decode cc pc = .ok (.ifCond .le off, 3)) (ht : (pc : Int) + off = (tgt : Int)) (hn : pc + 3 = n) (kt : x ≤ 0 → X G rm cc own nL ret σ cells slots tgt lvs st) (kf : ¬ x ≤ 0 → X G rm cc own nL ret σ cells slots n lvs st) : X G rm cc own nL ret σ cells slots pc lvs (.int x :: st) := by
  subst hn
  exact fun hF H locs ls hB hl => lv_if_le hF.1 hF.2.1 hd ht (fun q => kt q hF H locs ls hB hl) (fun q => kf q hF H locs ls hB hl)

theorem x_icmp_eq {x y : Int32} {off : Int} {tgt : Nat} (hd : decode cc pc = .ok (.if_icmp .eq off, 3)) (ht : (pc : Int) + off = (tgt : Int)) (hn : pc + 3 = n) (kt : x = y → X G rm cc own nL ret σ cells slots tgt lvs st) (kf : ¬ x = y → X G rm cc own nL ret σ cells slots n lvs st) : X G rm cc own nL ret σ cells slots pc lvs (.int y :: .int x :: st) := by
  subst hn
  exact fun hF H locs ls hB hl => lv_icmp_eq hF.1 hF.2.1 hd ht (fun q => kt q hF H locs ls hB hl) (fun q => kf q hF H locs ls hB hl)

theorem x_icmp_ne {x y : Int32} {off : Int} {tgt : Nat} (hd : decode cc pc = .ok (.if_icmp .ne off, 3)) (ht : (pc : Int) + off = (tgt : Int)) (hn : pc + 3 = n) (kt : ¬ x = y → X G rm cc own nL ret σ cells slots tgt lvs st) (kf : x = y → X G rm cc own nL ret σ cells slots n lvs st) : X G rm cc own nL ret σ cells slots pc lvs (.int y :: .int x :: st) := by
  subst hn
  exact fun hF H locs ls hB hl => lv_icmp_ne hF.1 hF.2.1 hd ht (fun q => kt q hF H locs ls hB hl) (fun q => kf q hF H locs ls hB hl)

theorem x_icmp_lt {x y : Int32} {off : Int} {tgt : Nat} (hd : decode cc pc = .ok (.if_icmp .lt off, 3)) (ht : (pc : Int) + off = (tgt : Int)) (hn : pc + 3 = n) (kt : x < y → X G rm cc own nL ret σ cells slots tgt lvs st) (kf : ¬ x < y → X G rm cc own nL ret σ cells slots n lvs st) : X G rm cc own nL ret σ cells slots pc lvs (.int y :: .int x :: st) := by
  subst hn
  exact fun hF H locs ls hB hl => lv_icmp_lt hF.1 hF.2.1 hd ht (fun q => kt q hF H locs ls hB hl) (fun q => kf q hF H locs ls hB hl)

theorem x_icmp_ge {x y : Int32} {off : Int} {tgt : Nat} (hd : decode cc pc = .ok (.if_icmp .ge off, 3)) (ht : (pc : Int) + off = (tgt : Int)) (hn : pc + 3 = n) (kt : y ≤ x → X G rm cc own nL ret σ cells slots tgt lvs st) (kf : ¬ y ≤ x → X G rm cc own nL ret σ cells slots n lvs st) : X G rm cc own nL ret σ cells slots pc lvs (.int y :: .int x :: st) := by
  subst hn
  exact fun hF H locs ls hB hl => lv_icmp_ge hF.1 hF.2.1 hd ht (fun q => kt q hF H locs ls hB hl) (fun q => kf q hF H locs ls hB hl)

theorem x_icmp_gt {x y : Int32} {off : Int} {tgt : Nat} (hd : decode cc pc = .ok (.if_icmp .gt off, 3)) (ht : (pc : Int) + off = (tgt : Int)) (hn : pc + 3 = n) (kt : y < x → X G rm cc own nL ret σ cells slots tgt lvs st) (kf : ¬ y < x → X G rm cc own nL ret σ cells slots n lvs st) : X G rm cc own nL ret σ cells slots pc lvs (.int y :: .int x :: st) := by
  subst hn
  exact fun hF H locs ls hB hl => lv_icmp_gt hF.1 hF.2.1 hd ht (fun q => kt q hF H locs ls hB hl) (fun q => kf q hF H locs ls hB hl)

theorem x_icmp_le {x y : Int32} {off : Int} {tgt : Nat} (hd : decode cc pc = .ok (.if_icmp .le off, 3)) (ht : (pc : Int) + off = (tgt : Int)) (hn : pc + 3 = n) (kt : x ≤ y → X G rm cc own nL ret σ cells slots tgt lvs st) (kf : ¬ x ≤ y → X G rm cc own nL ret σ cells slots n lvs st) : X G rm cc own nL ret σ cells slots pc lvs (.int y :: .int x :: st) := by
  subst hn
  exact fun hF H locs ls hB hl => lv_icmp_le hF.1 hF.2.1 hd ht (fun q => kt q hF H locs ls hB hl) (fun q => kf q hF H locs ls hB hl)

theorem lg_eq {x y : Int64} : lg_cmp x y = 0 ↔ x = y := by
  unfold lg_cmp
  by_cases h1 : x > y
  · rw [if_pos h1]
    exact ⟨fun h => absurd h (by decide), fun h => absurd h1 (by rw [h]; exact Int64.lt_irrefl)⟩
  · rw [if_neg h1]
    by_cases h2 : x = y
    · rw [if_pos h2]; exact ⟨fun _ => h2, fun _ => rfl⟩
    · rw [if_neg h2]; exact ⟨fun h => absurd h (by decide), fun h => absurd h h2⟩
theorem lg_gt {x y : Int64} : 0 < lg_cmp x y ↔ y < x := by
  unfold lg_cmp
  by_cases h1 : x > y
  · rw [if_pos h1]
    exact ⟨fun _ => h1, fun _ => by decide⟩
  · rw [if_neg h1]
    by_cases h2 : x = y
    · rw [if_pos h2]; exact ⟨fun h => absurd h (by decide), fun h => absurd h h1⟩
    · rw [if_neg h2]; exact ⟨fun h => absurd h (by decide), fun h => absurd h h1⟩
theorem lg_lt {x y : Int64} : lg_cmp x y < 0 ↔ x < y := by
  unfold lg_cmp
  by_cases h1 : x > y
  · rw [if_pos h1]
    exact ⟨fun h => absurd h (by decide), fun h => absurd h (fun q => Int64.lt_irrefl (Int64.lt_trans q h1))⟩
  · rw [if_neg h1]
    by_cases h2 : x = y
    · rw [if_pos h2]; exact ⟨fun h => absurd h (by decide), fun h => absurd h (by rw [h2]; exact Int64.lt_irrefl)⟩
    · rw [if_neg h2]
      refine ⟨fun _ => ?_, fun _ => by decide⟩
      have q1 := Int64.le_iff_toInt_le.mp (Int64.not_lt.mp h1)
      have q2 : x.toInt ≠ y.toInt := fun e => h2 (Int64.toInt_inj.mp e)
      exact Int64.lt_iff_toInt_lt.mpr (by omega)
theorem lg_le {x y : Int64} : lg_cmp x y ≤ 0 ↔ x ≤ y := by
  rw [← Int32.not_lt, lg_gt, Int64.not_lt]
theorem lg_ge {x y : Int64} : 0 ≤ lg_cmp x y ↔ y ≤ x := by
  rw [← Int32.not_lt, lg_lt, Int64.not_lt]

theorem x_lcmp_eq {x y : Int64} {off : Int} {tgt pc1 : Nat} (hd1 : decode cc pc = .ok (.lcmp, 1)) (hp : pc + 1 = pc1) (hd : decode cc pc1 = .ok (.ifCond .eq off, 3)) (ht : (pc1 : Int) + off = (tgt : Int)) (hn : pc1 + 3 = n) (kt : x = y → X G rm cc own nL ret σ cells slots tgt lvs st) (kf : ¬ x = y → X G rm cc own nL ret σ cells slots n lvs st) : X G rm cc own nL ret σ cells slots pc lvs (.long y :: .long x :: st) := by
  subst hn
  subst hp
  exact fun hF H locs ls hB hl => W.lcmp hF.1 hF.2.1 hd1 (lv_if_eq hF.1 hF.2.1 hd ht (fun q => kt (lg_eq.mp q) hF H locs ls hB hl) (fun q => kf ((fun z => q (lg_eq.mpr z))) hF H locs ls hB hl))

theorem x_lcmp_ne {x y : Int64} {off : Int} {tgt pc1 : Nat} (hd1 : decode cc pc = .ok (.lcmp, 1)) (hp : pc + 1 = pc1) (hd : decode cc pc1 = .ok (.ifCond .ne off, 3)) (ht : (pc1 : Int) + off = (tgt : Int)) (hn : pc1 + 3 = n) (kt : ¬ x = y → X G rm cc own nL ret σ cells slots tgt lvs st) (kf : x = y → X G rm cc own nL ret σ cells slots n lvs st) : X G rm cc own nL ret σ cells slots pc lvs (.long y :: .long x :: st) := by
  subst hn
  subst hp
  exact fun hF H locs ls hB hl => W.lcmp hF.1 hF.2.1 hd1 (lv_if_ne hF.1 hF.2.1 hd ht (fun q => kt ((fun z => q (lg_eq.mpr z))) hF H locs ls hB hl) (fun q => kf (lg_eq.mp q) hF H locs ls hB hl))

theorem x_lcmp_lt {x y : Int64} {off : Int} {tgt pc1 : Nat} (hd1 : decode cc pc = .ok (.lcmp, 1)) (hp : pc + 1 = pc1) (hd : decode cc pc1 = .ok (.ifCond .lt off, 3)) (ht : (pc1 : Int) + off = (tgt : Int)) (hn : pc1 + 3 = n) (kt : x < y → X G rm cc own nL ret σ cells slots tgt lvs st) (kf : ¬ x < y → X G rm cc own nL ret σ cells slots n lvs st) : X G rm cc own nL ret σ cells slots pc lvs (.long y :: .long x :: st) := by
  subst hn
  subst hp
  exact fun hF H locs ls hB hl => W.lcmp hF.1 hF.2.1 hd1 (lv_if_lt hF.1 hF.2.1 hd ht (fun q => kt (lg_lt.mp q) hF H locs ls hB hl) (fun q => kf ((fun z => q (lg_lt.mpr z))) hF H locs ls hB hl))

theorem x_lcmp_ge {x y : Int64} {off : Int} {tgt pc1 : Nat} (hd1 : decode cc pc = .ok (.lcmp, 1)) (hp : pc + 1 = pc1) (hd : decode cc pc1 = .ok (.ifCond .ge off, 3)) (ht : (pc1 : Int) + off = (tgt : Int)) (hn : pc1 + 3 = n) (kt : y ≤ x → X G rm cc own nL ret σ cells slots tgt lvs st) (kf : ¬ y ≤ x → X G rm cc own nL ret σ cells slots n lvs st) : X G rm cc own nL ret σ cells slots pc lvs (.long y :: .long x :: st) := by
  subst hn
  subst hp
  exact fun hF H locs ls hB hl => W.lcmp hF.1 hF.2.1 hd1 (lv_if_ge hF.1 hF.2.1 hd ht (fun q => kt (lg_ge.mp q) hF H locs ls hB hl) (fun q => kf ((fun z => q (lg_ge.mpr z))) hF H locs ls hB hl))

theorem x_lcmp_gt {x y : Int64} {off : Int} {tgt pc1 : Nat} (hd1 : decode cc pc = .ok (.lcmp, 1)) (hp : pc + 1 = pc1) (hd : decode cc pc1 = .ok (.ifCond .gt off, 3)) (ht : (pc1 : Int) + off = (tgt : Int)) (hn : pc1 + 3 = n) (kt : y < x → X G rm cc own nL ret σ cells slots tgt lvs st) (kf : ¬ y < x → X G rm cc own nL ret σ cells slots n lvs st) : X G rm cc own nL ret σ cells slots pc lvs (.long y :: .long x :: st) := by
  subst hn
  subst hp
  exact fun hF H locs ls hB hl => W.lcmp hF.1 hF.2.1 hd1 (lv_if_gt hF.1 hF.2.1 hd ht (fun q => kt (lg_gt.mp q) hF H locs ls hB hl) (fun q => kf ((fun z => q (lg_gt.mpr z))) hF H locs ls hB hl))

theorem x_lcmp_le {x y : Int64} {off : Int} {tgt pc1 : Nat} (hd1 : decode cc pc = .ok (.lcmp, 1)) (hp : pc + 1 = pc1) (hd : decode cc pc1 = .ok (.ifCond .le off, 3)) (ht : (pc1 : Int) + off = (tgt : Int)) (hn : pc1 + 3 = n) (kt : x ≤ y → X G rm cc own nL ret σ cells slots tgt lvs st) (kf : ¬ x ≤ y → X G rm cc own nL ret σ cells slots n lvs st) : X G rm cc own nL ret σ cells slots pc lvs (.long y :: .long x :: st) := by
  subst hn
  subst hp
  exact fun hF H locs ls hB hl => W.lcmp hF.1 hF.2.1 hd1 (lv_if_le hF.1 hF.2.1 hd ht (fun q => kt (lg_le.mp q) hF H locs ls hB hl) (fun q => kf ((fun z => q (lg_le.mpr z))) hF H locs ls hB hl))

/-- a switch by a table: one row takes the case by its number -/
theorem x_tswIn {dflt lo hi : Int} {offs : Array Int} {len : Nat} {x : Int32} {off : Int} {tgt : Nat} (hd : decode cc pc = .ok (.tableswitch dflt lo hi offs, len)) (h1 : ¬ x.toInt < lo) (h2 : ¬ hi < x.toInt) (ho : offs[(x.toInt - lo).toNat]? = some off) (ht : (pc : Int) + off = (tgt : Int)) (kk : X G rm cc own nL ret σ cells slots tgt lvs st) : X G rm cc own nL ret σ cells slots pc lvs (.int x :: st) :=
  fun hF H locs ls hB hl => lv_tableIn hF.1 hF.2.1 hd h1 h2 ho ht (kk hF H locs ls hB hl)
theorem x_tswOut {dflt lo hi : Int} {offs : Array Int} {len : Nat} {x : Int32} {tgt : Nat} (hd : decode cc pc = .ok (.tableswitch dflt lo hi offs, len)) (h : x.toInt < lo ∨ hi < x.toInt) (ht : (pc : Int) + dflt = (tgt : Int)) (kk : X G rm cc own nL ret σ cells slots tgt lvs st) : X G rm cc own nL ret σ cells slots pc lvs (.int x :: st) :=
  fun hF H locs ls hB hl => lv_tableOut hF.1 hF.2.1 hd h ht (kk hF H locs ls hB hl)
theorem x_by (P : Prop) (h1 : P → X G rm cc own nL ret σ cells slots pc lvs st) (h2 : ¬ P → X G rm cc own nL ret σ cells slots pc lvs st) : X G rm cc own nL ret σ cells slots pc lvs st := (Classical.em P).elim h1 h2
/-- a class by its number -/
def CK (ci : Nat) (C : String) (T : u_T) (N : Nat) : Prop := vwCl[ci]? = some (C, T, N) ∧ (∀ w ∈ u_ws C T N, w ∈ lw_all) ∧ (∀ k, k < N → parseFieldDescriptor (T k).2.2.1 = some (clTy ci k)) ∧ ∀ a, a < N → ∀ b, b < N → a ≠ b → (T a).2.1 ≠ (T b).2.1
/-- the field entry index of own's pool is the field k of the class ci -/
def FL (own : String) (index ci k : Nat) : Prop := ∃ (C : String) (T : u_T) (N : Nat) (ref : String), CK ci C T N ∧ k < N ∧ (Cond.fieldLink own index ref (T k).2.1 (T k).2.2.1 ∈ lw_all ∨ ∃ host : String, Cond.fieldLinkNest own index ref (T k).2.1 (T k).2.2.1 host ∈ lw_tbl) ∧ (ref = (T k).1 ∨ Cond.sameField ref (T k).1 (T k).2.1 (T k).2.2.1 ∈ lw_all)
theorem FL.same {s : State} {args : Array Value} {ref o f d : String} (hts : ∀ w ∈ lw_all, w.before args s = true) (h : ref = o ∨ Cond.sameField ref o f d ∈ lw_all) : ∀ x, s.fieldFound? o f d = some x → s.fieldFound? ref f d = some x := by
  rcases h with h | h
  · subst h; exact fun x h => h
  · exact u_same (hts _ h)
/-- a word of the tables that speaks of the start's tables alone, seen from here -/
theorem XB.nestF {B : Nat} {D : DD} {σ : Hp} {s : State} {H : Heap} {locs : List Loc} (h : XB B D σ s H locs) {args : Array Value} {a : String} {i : Nat} {b n d g : String} (hw : Cond.fieldLinkNest a i b n d g ∈ lw_tbl) : (Cond.fieldLinkNest a i b n d g).before args s = true := by
  obtain ⟨s0, b0, g1, g2, g3, g4, g5⟩ := h.2.2.2.2.2.2.2
  exact va_Nw.use rfl (va_Nw.warmF g3 (va_Nw.of rfl (g1 _ hw)))
theorem XB.nestM {B : Nat} {D : DD} {σ : Hp} {s : State} {H : Heap} {locs : List Loc} (h : XB B D σ s H locs) {a : String} {i : Nat} {x : MethodName} {g : String} (hw : Cond.methodLinkNest a i x g ∈ lw_tbl) : va_Nw (Cond.methodLinkNest a i x g) s := by
  obtain ⟨s0, b0, g1, g2, g3, g4, g5⟩ := h.2.2.2.2.2.2.2
  exact va_Nw.warmM g3 (va_Nw.of rfl (g1 _ hw))
theorem XB.cast {B : Nat} {D : DD} {σ : Hp} {s : State} {H : Heap} {locs : List Loc} (h : XB B D σ s H locs) {C T : String} (hw : Cond.castable C T ∈ lw_tbl) : va_Nw (Cond.castable C T) s := by
  obtain ⟨s0, b0, g1, g2, g3, g4, g5⟩ := h.2.2.2.2.2.2.2
  exact va_Nw.warmC g3 (va_Nw.of rfl (g1 _ hw))
theorem x_getv {index ci k a : Nat} (fl : FL own index ci k) (ht : gT σ a = some (.inl ci)) (hd : decode cc pc = .ok (.getfield index, 3)) (hn : pc + 3 = n) (kk : X G rm cc own nL ret σ cells slots n lvs (gv (clTy ci k) σ a k :: st)) : X G rm cc own nL ret σ cells slots pc lvs (.ref a :: st) := by
  subst hn
  obtain ⟨C, T, N, ref, ck, hk, hq, hsm⟩ := fl
  intro hF H locs ls hB hl
  obtain ⟨r, h1, cell, q1, q2, q3, q4⟩ := hB.2.1.obj ht
  have hr : r = (C, T, N) := Option.some.inj (h1.symm.trans ck.1)
  subst hr
  obtain ⟨hS, hfc, kC, hkC, hkind⟩ := hB.1.1 ci _ ck.1
  obtain ⟨cf, kf, fi, f, hi, hsl⟩ := hS k hk
  rcases hq with hq | ⟨host, hq⟩
  · refine W.getf hF.1 hF.2.1 hF.2.2.2.1 (hF.2.2.2.2.1 _ hq) (FL.same hF.2.2.2.2.1 hsm _ hi) (u_facts hfc hkC (u_lays hF.2.2.2.2.1 ck.2.1 hk) hi).1 q1 (by rw [q3]; exact fun h => by cases h) (v := gv (clTy ci k) σ a k) ?_ rfl rfl hd (kk hF H locs ls hB hl)
    rw [hsl, q4 k hk]
  · refine va_Wgetf hF.1 hF.2.1 hF.2.2.2.1 (hB.nestF hq) (FL.same hF.2.2.2.2.1 hsm _ hi) (u_facts hfc hkC (u_lays hF.2.2.2.2.1 ck.2.1 hk) hi).1 q1 (by rw [q3]; exact fun h => by cases h) (v := gv (clTy ci k) σ a k) ?_ rfl rfl hd (kk hF H locs ls hB hl)
    rw [hsl, q4 k hk]
theorem x_geti {index ci k a : Nat} {v : Int32} (fl : FL own index ci k) (hty : isI (clTy ci k) = true) (ht : gT σ a = some (.inl ci)) (hv : gI σ a k = v) (hd : decode cc pc = .ok (.getfield index, 3)) (hn : pc + 3 = n) (kk : X G rm cc own nL ret σ cells slots n lvs (.int v :: st)) : X G rm cc own nL ret σ cells slots pc lvs (.ref a :: st) :=
  x_getv fl ht hd hn (by rw [gv_I hty, hv]; exact kk)
theorem x_getl {index ci k a : Nat} {v : Int64} (fl : FL own index ci k) (hty : clTy ci k = .long) (ht : gT σ a = some (.inl ci)) (hv : gL σ a k = v) (hd : decode cc pc = .ok (.getfield index, 3)) (hn : pc + 3 = n) (kk : X G rm cc own nL ret σ cells slots n lvs (.long v :: st)) : X G rm cc own nL ret σ cells slots pc lvs (.ref a :: st) :=
  x_getv fl ht hd hn (by rw [hty, gv_L, hv]; exact kk)
theorem x_getr {index ci k a b : Nat} (fl : FL own index ci k) (hty : isR (clTy ci k) = true) (ht : gT σ a = some (.inl ci)) (hr : gR σ a k = some b) (hd : decode cc pc = .ok (.getfield index, 3)) (hn : pc + 3 = n) (kk : X G rm cc own nL ret σ cells slots n lvs (.ref b :: st)) : X G rm cc own nL ret σ cells slots pc lvs (.ref a :: st) :=
  x_getv fl ht hd hn (by rw [gv_R hty, hr]; exact kk)
theorem XB.write {B : Nat} {D : DD} {σ σ' : Hp} {s : State} {H H' : Heap} {locs : List Loc} {a j : Nat} {t : Nat ⊕ (FieldType × Nat)} (h : XB B D σ s H locs) (ha : gT σ a = some t) (ht : gT σ' = gT σ) (hz : H'.size = H.size) (oq : ∀ q, q ≠ a → H'[q]? = H[q]?) (hP : HP D σ' H') : XB B D σ' s H' (locs ++ [⟨a, j⟩]) := by
  obtain ⟨h1, h2, h3, h4, h5, h6, h7, h8⟩ := h
  have hBa : B ≤ a := h3 a _ ha
  refine ⟨h1, hP, fun b t' q => h3 b t' (by rw [← ht]; exact q), h4, by rw [hz]; exact h5, fun q hq => ?_, fun q hq => ?_, h8⟩
  · rw [oq q (by omega)]; exact h6 q hq
  · rcases List.mem_append.mp hq with h | h
    · exact h7 q h
    · rw [List.mem_singleton.mp h]; exact hBa
/-- what putfield owes at a field that isn't final -/
theorem setSlot_size (c : Cell) (k : Nat) (v : Value) : (c.setSlot k v).slots.size = c.slots.size := by simp [Cell.setSlot]
theorem x_put {σ' : Hp} {index ci k a : Nat} {v : Value} (fl : FL own index ci k) (hfin : ∀ C T N, CK ci C T N → (T k).2.2.2 = false) (ht : gT σ a = some (.inl ci)) (hnv : narrow (clTy ci k) v = v) (hfit : fits (clTy ci k) v = true) (hs : gS σ' = gS σ) (hT' : gT σ' = gT σ) (hoff : ∀ b, b ≠ a → ∀ ty j, gv ty σ' b j = gv ty σ b j) (hne : ∀ j, j ≠ k → ∀ ty, gv ty σ' a j = gv ty σ a j) (hat : gv (clTy ci k) σ' a k = v)
    (hd : decode cc pc = .ok (.putfield index, 3)) (hn : pc + 3 = n) (kk : X G rm cc own nL ret σ' cells slots n lvs st) : X G rm cc own nL ret σ cells slots pc lvs (v :: .ref a :: st) := by
  subst hn
  obtain ⟨C, T, N, ref, ck, hk, hq, hsm⟩ := fl
  intro hF H locs ls hB hl
  have hap := va_apart (own := own) hF.2.2.2.2.1 ck.2.1 (clTy ci) ck.2.2.1 ck.2.2.2 hB.1 ck.1
  obtain ⟨r, h1, cell, q1, q2, q3, q4⟩ := hB.2.1.obj ht
  have hr : r = (C, T, N) := Option.some.inj (h1.symm.trans ck.1)
  subst hr
  obtain ⟨hS, hfc, kC, hkC, hkind⟩ := hB.1.1 ci _ ck.1
  obtain ⟨cf, kf, fi, f, hi, hsl⟩ := hS k hk
  have hlay := hF.2.2.2.2.1 _ (ck.2.1 _ (u_in_lay hk))
  unfold u_lay at hlay
  rw [if_neg (by rw [hfin _ _ _ ck]; decide)] at hlay
  have hst := (u_facts hfc hkC (u_lays hF.2.2.2.2.1 ck.2.1 hk) hi).1
  have h6 := u_store hfc hkC hkind hlay hi (ck.2.2.1 k hk) hnv hfit
  have fin : ∀ H' : Heap, H'[a]? = some (cell.setSlot f.slot v) → H'.size = H.size → (∀ q, q ≠ a → H'[q]? = H[q]?) → W G.1 G.2.1 G.2.2.1 rm G.2.2.2.1 G.2.2.2.2.1 G.2.2.2.2.2.1 G.2.2.2.2.2.2.1 G.2.2.2.2.2.2.2.1 G.2.2.2.2.2.2.2.2.1 H' (locs ++ [⟨a, f.slot⟩]) cells slots G.2.2.2.2.2.2.2.2.2.2.2 (F0 G.2.2.2.2.1 (pc + 3) ls st) := by
    intro H' e1 e2 e3
    rw [hsl] at e1 ⊢
    refine kk hF H' _ ls (hB.write ht hT' e2 e3 (hB.2.1.write hs hT' e2 e3 hoff ?_)) hl
    unfold HPc
    rw [show gT σ' a = some (.inl ci) by rw [hT']; exact ht]
    refine ⟨_, ck.1, t_OB.to (V := updV (fun k => gv (clTy ci k) σ a k) k v) ⟨_, e1, q2, q3, t_set q4 hap hk v⟩ (fun j _ => ?_), fun cell' hc => by rw [e1] at hc; cases hc; exact (setSlot_size _ _ _).trans (hB.2.1.objz ht ck.1 q1)⟩
    by_cases hj : j = k
    · subst hj; simp [updV]; exact hat.symm
    · simp [updV, hj]; exact (hne j hj _).symm
  rcases hq with hq | ⟨host, hq⟩
  · exact W.putK hF.1 hF.2.1 (f := f) ⟨hF.2.2.2.1, hF.2.2.2.2.1 _ hq, ⟨_, _, _, FL.same hF.2.2.2.2.1 hsm _ hi⟩, hst⟩ (by rw [q2]; exact h6) q1 q3 (by rw [hsl]; exact k2_hasslot (q4 k hk)) rfl rfl hd fin
  · exact va_WputK hF.1 hF.2.1 (f := f) hF.2.2.2.1 (hB.nestF hq) (FL.same hF.2.2.2.2.1 hsm _ hi) hst (by rw [q2]; exact h6) q1 q3 (by rw [hsl]; exact k2_hasslot (q4 k hk)) rfl rfl hd fin
/-- .. and at a final one, in the constructor -/
def FF (own : String) (index ci k : Nat) : Prop := ∃ (C : String) (T : u_T) (N : Nat) (ref : String), CK ci C T N ∧ k < N ∧ Cond.fieldLink own index ref (T k).2.1 (T k).2.2.1 ∈ lw_all ∧ ref = (T k).1 ∧ (T k).2.2.2 = true ∧ (T k).1 = own
theorem x_putF {σ' : Hp} {index ci k a : Nat} {v : Value} (fl : FF own index ci k) (hin2 : G.2.2.2.2.2.2.2.1.name = "<init>") (ht : gT σ a = some (.inl ci)) (hnv : narrow (clTy ci k) v = v) (hfit : fits (clTy ci k) v = true) (hs : gS σ' = gS σ) (hT' : gT σ' = gT σ) (hoff : ∀ b, b ≠ a → ∀ ty j, gv ty σ' b j = gv ty σ b j) (hne : ∀ j, j ≠ k → ∀ ty, gv ty σ' a j = gv ty σ a j) (hat : gv (clTy ci k) σ' a k = v)
    (hd : decode cc pc = .ok (.putfield index, 3)) (hn : pc + 3 = n) (kk : X G rm cc own nL ret σ' cells slots n lvs st) : X G rm cc own nL ret σ cells slots pc lvs (v :: .ref a :: st) := by
  subst hn
  obtain ⟨C, T, N, ref, ck, hk, hq, hsm, hf1, hf2⟩ := fl
  have hsm := Or.inl (b := Cond.sameField ref (T k).1 (T k).2.1 (T k).2.2.1 ∈ lw_all) hsm
  intro hF H locs ls hB hl
  have hap := va_apart (own := own) hF.2.2.2.2.1 ck.2.1 (clTy ci) ck.2.2.1 ck.2.2.2 hB.1 ck.1
  obtain ⟨r, h1, cell, q1, q2, q3, q4⟩ := hB.2.1.obj ht
  have hr : r = (C, T, N) := Option.some.inj (h1.symm.trans ck.1)
  subst hr
  obtain ⟨hS, hfc, kC, hkC, hkind⟩ := hB.1.1 ci _ ck.1
  obtain ⟨cf, kf, fi, f, hi, hsl⟩ := hS k hk
  have hlay := hF.2.2.2.2.1 _ (ck.2.1 _ (u_in_lay hk))
  unfold u_lay at hlay
  rw [if_pos hf1] at hlay
  have hst := (u_facts hfc hkC (u_lays hF.2.2.2.2.1 ck.2.1 hk) hi).1
  have hcf : G.2.2.2.2.1.cls = cf := by
    obtain ⟨_, _, c', _, _, _, -, -, hf', -, -, -, hown2, -⟩ := Cond.laysFinal_spec hlay
    have e1 : c' = cf := by have := hi.symm.trans hf'; simp at this; exact this.1.symm
    rw [hf2] at hown2
    rw [← e1]; exact Option.some.inj (hF.2.2.2.1.symm.trans hown2)
  have h6 := u_fits hfc hkC hkind (Or.inr hlay) hi (ck.2.2.1 k hk) hnv hfit
  refine W.putFinK hF.1 hF.2.1 hF.2.2.2.1 (hF.2.2.2.2.1 _ hq) (FL.same hF.2.2.2.2.1 hsm _ hi) hst hcf hin2 (by rw [q2]; exact h6) q1 q3 (by rw [hsl]; exact k2_hasslot (q4 k hk)) rfl rfl hd fun H' e1 e2 e3 => ?_
  rw [hsl] at e1 ⊢
  refine kk hF H' _ ls (hB.write ht hT' e2 e3 (hB.2.1.write hs hT' e2 e3 hoff ?_)) hl
  unfold HPc
  rw [show gT σ' a = some (.inl ci) by rw [hT']; exact ht]
  refine ⟨_, ck.1, t_OB.to (V := updV (fun k => gv (clTy ci k) σ a k) k v) ⟨_, e1, q2, q3, t_set q4 hap hk v⟩ (fun j _ => ?_), fun cell' hc => by rw [e1] at hc; cases hc; exact (setSlot_size _ _ _).trans (hB.2.1.objz ht ck.1 q1)⟩
  by_cases hj : j = k
  · subst hj; simp [updV]; exact hat.symm
  · simp [updV, hj]; exact (hne j hj _).symm
/-- field entries that are written: not final -/
def FP (own : String) (index ci k : Nat) : Prop := FL own index ci k ∧ ∀ C T N, CK ci C T N → (T k).2.2.2 = false
theorem x_puti {index ci k a : Nat} {x : Int32} (fp : FP own index ci k) (hty : clTy ci k = .int) (ht : gT σ a = some (.inl ci)) (hd : decode cc pc = .ok (.putfield index, 3)) (hn : pc + 3 = n) (kk : X G rm cc own nL ret (pI σ a k x) cells slots n lvs st) : X G rm cc own nL ret σ cells slots pc lvs (.int x :: .ref a :: st) :=
  x_put (σ' := pI σ a k x) fp.1 fp.2 ht (by rw [hty]; rfl) (by rw [hty]; rfl) rfl rfl (fun b hb ty j => gvI_off hb j) (fun j hj ty => gvI_ne j hj) (by rw [hty]; show Value.int _ = _; rw [gIs]) hd hn kk
theorem bn_of {x : Int32} (h : x = 0 ∨ x = 1) : narrow .boolean (.int x) = .int x ∧ fits .boolean (.int x) = true := by
  rcases h with rfl | rfl
  · exact ⟨by decide, by decide⟩
  · exact ⟨by decide, by decide⟩
theorem x_putz {index ci k a : Nat} {x : Int32} (fp : FP own index ci k) (hty : clTy ci k = .boolean) (ht : gT σ a = some (.inl ci)) (hx : x = 0 ∨ x = 1) (hd : decode cc pc = .ok (.putfield index, 3)) (hn : pc + 3 = n) (kk : X G rm cc own nL ret (pI σ a k x) cells slots n lvs st) : X G rm cc own nL ret σ cells slots pc lvs (.int x :: .ref a :: st) :=
  x_put (σ' := pI σ a k x) fp.1 fp.2 ht (by rw [hty]; exact (bn_of hx).1) (by rw [hty]; exact (bn_of hx).2) rfl rfl (fun b hb ty j => gvI_off hb j) (fun j hj ty => gvI_ne j hj) (by rw [hty]; show Value.int _ = _; rw [gIs]) hd hn kk
theorem x_putl {index ci k a : Nat} {x : Int64} (fp : FP own index ci k) (hty : clTy ci k = .long) (ht : gT σ a = some (.inl ci)) (hd : decode cc pc = .ok (.putfield index, 3)) (hn : pc + 3 = n) (kk : X G rm cc own nL ret (pL σ a k x) cells slots n lvs st) : X G rm cc own nL ret σ cells slots pc lvs (.long x :: .ref a :: st) :=
  x_put (σ' := pL σ a k x) fp.1 fp.2 ht (by rw [hty]; rfl) (by rw [hty]; rfl) rfl rfl (fun b hb ty j => gvL_off hb j) (fun j hj ty => gvL_ne j hj) (by rw [hty]; show Value.long _ = _; rw [gLs]) hd hn kk
theorem rf_fit {ty : FieldType} (h : isR ty = true) (b : Nat) : narrow ty (.ref b) = .ref b ∧ fits ty (.ref b) = true := by
  cases ty <;> first | (cases h; done) | exact ⟨rfl, rfl⟩
theorem x_putr {index ci k a b : Nat} (fp : FP own index ci k) (hty : isR (clTy ci k) = true) (ht : gT σ a = some (.inl ci)) (hd : decode cc pc = .ok (.putfield index, 3)) (hn : pc + 3 = n) (kk : X G rm cc own nL ret (pR σ a k (some b)) cells slots n lvs st) : X G rm cc own nL ret σ cells slots pc lvs (.ref b :: .ref a :: st) :=
  x_put (σ' := pR σ a k (some b)) fp.1 fp.2 ht (rf_fit hty b).1 (rf_fit hty b).2 rfl rfl (fun b hb ty j => gvR_off hb j) (fun j hj ty => gvR_ne j hj) (by rw [gv_R hty, gRs]; rfl) hd hn kk

/-- a kind of array the run knows, by its place -/
def AT (t0 : Nat) (ty : FieldType) : Prop := ∀ dA : FieldType → ClassId, (tysOf dA)[t0]? = some (dA ty, ty)
theorem at_int : AT 0 .int := fun _ => rfl
theorem at_long : AT 1 .long := fun _ => rfl
theorem at_bool : AT 2 .boolean := fun _ => rfl
theorem at_byte : AT 3 .byte := fun _ => rfl
theorem at_obj : AT 4 (.object "java/lang/Object") := fun _ => rfl
theorem at_note : AT 5 (.object "LongYears$Note") := fun _ => rfl
theorem at_larr : AT 6 (.array .long) := fun _ => rfl
theorem x_alen {t0 a N : Nat} {ty : FieldType} (at0 : AT t0 ty) (ht : gT σ a = some (.inr (ty, N))) (hd : decode cc pc = .ok (.arraylength, 1)) (hn : pc + 1 = n) (kk : X G rm cc own nL ret σ cells slots n lvs (.int (Int32.ofNat N) :: st)) : X G rm cc own nL ret σ cells slots pc lvs (.ref a :: st) := by
  subst hn
  intro hF H locs ls hB hl
  exact W.alen (n := Int32.ofNat N) hF.1 hF.2.1 (hB.2.1.arr ht) ((hB.1.2 t0 _ (at0 _)).1 N _) (by rw [arrV_size] <;> rfl) rfl rfl hd (kk hF H locs ls hB hl)

theorem x_iald {a N k : Nat} {i : Int32} (ht : gT σ a = some (.inr (.int, N))) (hin : vp_in i N) (hk : i.toNatClampNeg = k) (hd : decode cc pc = .ok (.iaload, 1)) (hn : pc + 1 = n) (kk : X G rm cc own nL ret σ cells slots n lvs (.int (gI σ a k) :: st)) : X G rm cc own nL ret σ cells slots pc lvs (.int i :: .ref a :: st) := by
  subst hn
  subst hk
  intro hF H locs ls hB hl
  have hlt : i.toNatClampNeg < N := Nat.not_le.mp fun q => hin (Or.inr q)
  exact W.iald (v := .int (gI σ a i.toNatClampNeg)) hF.1 hF.2.1 (hB.2.1.arr ht) ((hB.1.2 _ _ (at_int _)).1 N _) (fun q => by cases q) (by show ¬ (i < 0 ∨ (arrV _ _ _).slots.size ≤ _); rw [arrV_size]; exact hin) (by show (arrV _ _ _).slots[_]? = _; rw [arrV_read _ _ hlt]; rfl) rfl rfl hd (kk hF H locs ls hB hl)

theorem x_bald {a N k : Nat} {i : Int32} (ht : gT σ a = some (.inr (.byte, N))) (hin : vp_in i N) (hk : i.toNatClampNeg = k) (hd : decode cc pc = .ok (.baload, 1)) (hn : pc + 1 = n) (kk : X G rm cc own nL ret σ cells slots n lvs (.int (gI σ a k) :: st)) : X G rm cc own nL ret σ cells slots pc lvs (.int i :: .ref a :: st) := by
  subst hn
  subst hk
  intro hF H locs ls hB hl
  have hlt : i.toNatClampNeg < N := Nat.not_le.mp fun q => hin (Or.inr q)
  exact W.bald (v := .int (gI σ a i.toNatClampNeg)) hF.1 hF.2.1 (hB.2.1.arr ht) ((hB.1.2 _ _ (at_byte _)).1 N _) (fun q => by cases q) (by show ¬ (i < 0 ∨ (arrV _ _ _).slots.size ≤ _); rw [arrV_size]; exact hin) (by show (arrV _ _ _).slots[_]? = _; rw [arrV_read _ _ hlt]; rfl) rfl rfl hd (kk hF H locs ls hB hl)

theorem x_zald {a N k : Nat} {i : Int32} (ht : gT σ a = some (.inr (.boolean, N))) (hin : vp_in i N) (hk : i.toNatClampNeg = k) (hd : decode cc pc = .ok (.baload, 1)) (hn : pc + 1 = n) (kk : X G rm cc own nL ret σ cells slots n lvs (.int (gI σ a k) :: st)) : X G rm cc own nL ret σ cells slots pc lvs (.int i :: .ref a :: st) := by
  subst hn
  subst hk
  intro hF H locs ls hB hl
  have hlt : i.toNatClampNeg < N := Nat.not_le.mp fun q => hin (Or.inr q)
  exact W.zald (v := .int (gI σ a i.toNatClampNeg)) hF.1 hF.2.1 (hB.2.1.arr ht) ((hB.1.2 _ _ (at_bool _)).1 N _) (fun q => by cases q) (by show ¬ (i < 0 ∨ (arrV _ _ _).slots.size ≤ _); rw [arrV_size]; exact hin) (by show (arrV _ _ _).slots[_]? = _; rw [arrV_read _ _ hlt]; rfl) rfl rfl hd (kk hF H locs ls hB hl)

theorem x_lald {a N k : Nat} {i : Int32} (ht : gT σ a = some (.inr (.long, N))) (hin : vp_in i N) (hk : i.toNatClampNeg = k) (hd : decode cc pc = .ok (.laload, 1)) (hn : pc + 1 = n) (kk : X G rm cc own nL ret σ cells slots n lvs (.long (gL σ a k) :: st)) : X G rm cc own nL ret σ cells slots pc lvs (.int i :: .ref a :: st) := by
  subst hn
  subst hk
  intro hF H locs ls hB hl
  have hlt : i.toNatClampNeg < N := Nat.not_le.mp fun q => hin (Or.inr q)
  exact W.lald (v := .long (gL σ a i.toNatClampNeg)) hF.1 hF.2.1 (hB.2.1.arr ht) ((hB.1.2 _ _ (at_long _)).1 N _) (fun q => by cases q) (by show ¬ (i < 0 ∨ (arrV _ _ _).slots.size ≤ _); rw [arrV_size]; exact hin) (by show (arrV _ _ _).slots[_]? = _; rw [arrV_read _ _ hlt]; rfl) rfl rfl hd (kk hF H locs ls hB hl)

theorem x_aald {t0 a b N k : Nat} {ty : FieldType} {i : Int32} (at0 : AT t0 ty) (hty : isR ty = true) (ht : gT σ a = some (.inr (ty, N))) (hin : vp_in i N) (hk : i.toNatClampNeg = k) (hr : gR σ a k = some b) (hd : decode cc pc = .ok (.aaload, 1)) (hn : pc + 1 = n) (kk : X G rm cc own nL ret σ cells slots n lvs (.ref b :: st)) : X G rm cc own nL ret σ cells slots pc lvs (.int i :: .ref a :: st) := by
  subst hn
  subst hk
  intro hF H locs ls hB hl
  have hlt : i.toNatClampNeg < N := Nat.not_le.mp fun q => hin (Or.inr q)
  have hrf : ty.isReference = true := by cases ty <;> first | rfl | cases hty
  exact W.aald (v := .ref b) hF.1 hF.2.1 (hB.2.1.arr ht) ((hB.1.2 t0 _ (at0 _)).1 N _) hrf (fun q => by cases q) (by show ¬ (i < 0 ∨ (arrV _ _ _).slots.size ≤ _); rw [arrV_size]; exact hin) (by show (arrV _ _ _).slots[_]? = _; rw [arrV_read _ _ hlt, gv_R hty, hr]; rfl) rfl rfl hd (kk hF H locs ls hB hl)

theorem x_iast {a N k : Nat} {i : Int32} {x : Int32} (ht : gT σ a = some (.inr (.int, N))) (hin : vp_in i N) (hk : i.toNatClampNeg = k) (hd : decode cc pc = .ok (.iastore, 1)) (hn : pc + 1 = n) (kk : X G rm cc own nL ret (pI σ a k x) cells slots n lvs st) : X G rm cc own nL ret σ cells slots pc lvs (.int x :: .int i :: .ref a :: st) := by
  subst hn
  subst hk
  intro hF H locs ls hB hl
  refine W.iast hF.1 hF.2.1 (hB.2.1.arr ht) ((hB.1.2 _ _ (at_int _)).1 N _) (fun q => by cases q) (by show ¬ (i < 0 ∨ (arrV _ _ _).slots.size ≤ _); rw [arrV_size]; exact hin) rfl rfl hd fun H1 e z oq => ?_
  refine kk hF H1 _ ls (hB.write ht rfl z oq (hB.2.1.write (a := a) rfl rfl z oq (fun b hb ty j => gvI_off hb j) ?_)) hl
  unfold HPc
  rw [show gT (pI σ a i.toNatClampNeg x) a = some (.inr (.int, N)) from ht]
  show H1[a]? = _
  rw [e, arrV_store]
  congr 2
  funext q
  by_cases hq : q = i.toNatClampNeg
  · subst hq
    simp only [updV, if_true]
    show _ = Value.int _
    rw [gIs]
    all_goals rfl
  · simp only [updV, hq, if_false]
    exact (gvI_ne q hq).symm

theorem x_bast {a N k : Nat} {i : Int32} {x : Int32} (ht : gT σ a = some (.inr (.byte, N))) (hin : vp_in i N) (hk : i.toNatClampNeg = k) (hd : decode cc pc = .ok (.bastore, 1)) (hn : pc + 1 = n) (kk : X G rm cc own nL ret (pI σ a k (vp_nar .byte x)) cells slots n lvs st) : X G rm cc own nL ret σ cells slots pc lvs (.int x :: .int i :: .ref a :: st) := by
  subst hn
  subst hk
  intro hF H locs ls hB hl
  refine W.bast hF.1 hF.2.1 (hB.2.1.arr ht) ((hB.1.2 _ _ (at_byte _)).1 N _) (fun q => by cases q) (by show ¬ (i < 0 ∨ (arrV _ _ _).slots.size ≤ _); rw [arrV_size]; exact hin) rfl rfl hd fun H1 e z oq => ?_
  refine kk hF H1 _ ls (hB.write ht rfl z oq (hB.2.1.write (a := a) rfl rfl z oq (fun b hb ty j => gvI_off hb j) ?_)) hl
  unfold HPc
  rw [show gT (pI σ a i.toNatClampNeg (vp_nar .byte x)) a = some (.inr (.byte, N)) from ht]
  show H1[a]? = _
  rw [e, arrV_store]
  congr 2
  funext q
  by_cases hq : q = i.toNatClampNeg
  · subst hq
    simp only [updV, if_true]
    show _ = Value.int _
    rw [gIs]
    all_goals rfl
  · simp only [updV, hq, if_false]
    exact (gvI_ne q hq).symm

theorem x_zast {a N k : Nat} {i : Int32} {x : Int32} (ht : gT σ a = some (.inr (.boolean, N))) (hin : vp_in i N) (hk : i.toNatClampNeg = k) (hd : decode cc pc = .ok (.bastore, 1)) (hn : pc + 1 = n) (kk : X G rm cc own nL ret (pI σ a k (vp_nar .boolean x)) cells slots n lvs st) : X G rm cc own nL ret σ cells slots pc lvs (.int x :: .int i :: .ref a :: st) := by
  subst hn
  subst hk
  intro hF H locs ls hB hl
  refine W.zast hF.1 hF.2.1 (hB.2.1.arr ht) ((hB.1.2 _ _ (at_bool _)).1 N _) (fun q => by cases q) (by show ¬ (i < 0 ∨ (arrV _ _ _).slots.size ≤ _); rw [arrV_size]; exact hin) rfl rfl hd fun H1 e z oq => ?_
  refine kk hF H1 _ ls (hB.write ht rfl z oq (hB.2.1.write (a := a) rfl rfl z oq (fun b hb ty j => gvI_off hb j) ?_)) hl
  unfold HPc
  rw [show gT (pI σ a i.toNatClampNeg (vp_nar .boolean x)) a = some (.inr (.boolean, N)) from ht]
  show H1[a]? = _
  rw [e, arrV_store]
  congr 2
  funext q
  by_cases hq : q = i.toNatClampNeg
  · subst hq
    simp only [updV, if_true]
    show _ = Value.int _
    rw [gIs]
    all_goals rfl
  · simp only [updV, hq, if_false]
    exact (gvI_ne q hq).symm

theorem x_last {a N k : Nat} {i : Int32} {x : Int64} (ht : gT σ a = some (.inr (.long, N))) (hin : vp_in i N) (hk : i.toNatClampNeg = k) (hd : decode cc pc = .ok (.lastore, 1)) (hn : pc + 1 = n) (kk : X G rm cc own nL ret (pL σ a k x) cells slots n lvs st) : X G rm cc own nL ret σ cells slots pc lvs (.long x :: .int i :: .ref a :: st) := by
  subst hn
  subst hk
  intro hF H locs ls hB hl
  refine W.last hF.1 hF.2.1 (hB.2.1.arr ht) ((hB.1.2 _ _ (at_long _)).1 N _) (fun q => by cases q) (by show ¬ (i < 0 ∨ (arrV _ _ _).slots.size ≤ _); rw [arrV_size]; exact hin) rfl rfl hd fun H1 e z oq => ?_
  refine kk hF H1 _ ls (hB.write ht rfl z oq (hB.2.1.write (a := a) rfl rfl z oq (fun b hb ty j => gvL_off hb j) ?_)) hl
  unfold HPc
  rw [show gT (pL σ a i.toNatClampNeg x) a = some (.inr (.long, N)) from ht]
  show H1[a]? = _
  rw [e, arrV_store]
  congr 2
  funext q
  by_cases hq : q = i.toNatClampNeg
  · subst hq
    simp only [updV, if_true]
    show _ = Value.long _
    rw [gLs]
    all_goals rfl
  · simp only [updV, hq, if_false]
    exact (gvL_ne q hq).symm

def CVX (own : String) (index : Nat) (C : String) (y : MethodName) (bytes : ByteArray) (maxL : Nat) (r : Option FieldType) (k : Nat) : Prop := (GoodIn lw_all (wsV own index C y (ws_ y bytes maxL r)) ∨ ∃ host : String, Cond.methodLinkNest own index y host ∈ lw_tbl ∧ Cond.instanceMethod y ∈ lw_all ∧ Cond.selects C y y ∈ lw_all ∧ Cond.initialized y.cls ∈ lw_all ∧ Cond.code y bytes maxL r ∈ lw_all) ∧ y.cls = C ∧ y.cls ≠ "java/lang/invoke/MethodHandle" ∧ y.cls ≠ "java/lang/invoke/VarHandle" ∧ (parseMethodDescriptor y.desc).map (fun d => d.parameters.length) = some k
def CSX (own : String) (index : Nat) (y : MethodName) (bytes : ByteArray) (maxL : Nat) (r : Option FieldType) (k : Nat) : Prop := (GoodIn lw_all (va_wsS own index y (ws_ y bytes maxL r)) ∨ ∃ host : String, Cond.methodLinkNest own index y host ∈ lw_tbl ∧ Cond.static y ∈ lw_all ∧ Cond.initialized y.cls ∈ lw_all ∧ Cond.code y bytes maxL r ∈ lw_all) ∧ y.cls ≠ "java/lang/invoke/MethodHandle" ∧ y.cls ≠ "java/lang/invoke/VarHandle" ∧ (parseMethodDescriptor y.desc).map (fun d => d.parameters.length) = some k
theorem PX.blind {B : Nat} {D : DD} {σ : Hp} {av : List Value} : FrameBlind (va_Pc av (PX B D σ)) := by
  intro a U g mk q
  obtain ⟨q0, qK, qH, qD, qB, qS⟩ := q
  exact ⟨q0, va_K.moved (u := U) (U := U.calling g mk a) (Vm.Alike.refl U.vm) qK, qH, qD, qB, qS⟩
theorem XB.pre {B : Nat} {D : DD} {σ : Hp} {s : State} {H : Heap} {locs : List Loc} (h : XB B D σ s H locs) {av : List Value} (U : State) (hU : U.heap = H) (hW : s.WarmedH U.vm) : va_Pc av (PX B D σ) av.toArray U := by
  obtain ⟨h1, h2, h3, h4, h5, h6, h7, s0, b0, g1, g2, g3, g4, g5⟩ := h
  refine ⟨rfl, va_K.moved hW.alike h1, by rw [hU]; exact h2, h3, by rw [hU]; omega, s0, b0, g1, g2, State.WarmedH.trans g3 hW, g4, fun q hq => ?_⟩
  rw [hU, h6 q hq]
  exact g5 q hq
theorem x_run {mc ms : Nat} {rest : List Value} {As : Array Value} {Post : Option Value → Hp → Prop} {H : Heap} {locs : List Loc} {ls : Array Slot} (hB : XB G.2.2.2.2.2.2.2.2.2.1 G.2.2.2.2.2.2.2.2.2.2.1 σ G.2.2.2.1 H locs) (hl : lv_has ls nL lvs) (hF : XF G cc own nL ret)
    (hr : va_Run G.1 G.2.1 G.2.2.1 rm G.2.2.2.1 G.2.2.2.2.1 G.2.2.2.2.2.1 G.2.2.2.2.2.2.1 G.2.2.2.2.2.2.2.1 G.2.2.2.2.2.2.2.2.1 H locs cells slots mc ms (F0 G.2.2.2.2.1 pc ls st) rest (QX G.2.2.2.2.2.2.2.2.2.1 G.2.2.2.2.2.2.2.2.2.2.1 Post As) (fun q => G.2.2.2.2.2.2.2.2.2.1 ≤ q))
    (kk : ∀ v σ', Post v σ' → X G rm cc own nL ret σ' (cells + mc) (slots + ms) (pc + 3) lvs (v.toList ++ rest)) : W G.1 G.2.1 G.2.2.1 rm G.2.2.2.1 G.2.2.2.2.1 G.2.2.2.2.2.1 G.2.2.2.2.2.2.1 G.2.2.2.2.2.2.2.1 G.2.2.2.2.2.2.2.2.1 H locs cells slots G.2.2.2.2.2.2.2.2.2.2.2 (F0 G.2.2.2.2.1 pc ls st) := by
  intro T hT X0
  obtain ⟨v, st₀, t, T', L, h0, X', hL, e1, e2, ⟨v', σ', hv, hp, hH, hdom, hz, hk⟩, go⟩ := hr T hT X0
  cases hv
  obtain ⟨h1, h2, h3, h4, h5, h6, h7, h8⟩ := hB
  rw [h0] at hz hk
  obtain ⟨t2, a1, b1⟩ := kk v σ' hp hF T'.heap (locs ++ L) ls ⟨h1, by rw [e1]; exact hH, hdom, h4, by rw [e1]; omega, fun q hq => by rw [e1, hk q hq]; exact h6 q hq, fun q hq => by
    rcases List.mem_append.mp hq with h | h
    · exact h7 q h
    · exact hL q h, h8⟩ hl T' rfl X'
  exact ⟨t2, go t2 a1, b1⟩
theorem HP.recv {D : DD} {σ : Hp} {H : Heap} {s : State} (hK : va_K (D.1, D.2.1) vwCl (tysOf D.2.2) s) (h : HP D σ H) {a ci : Nat} (ht : gT σ a = some (.inl ci)) {C : String} {T : u_T} {N : Nat} (ck : vwCl[ci]? = some (C, T, N)) : ∃ cell : Cell, H[a]? = some cell ∧ cell.vm.isStatics = false ∧ s.vm.findClass C = some cell.cls := by
  obtain ⟨r, h1, cell, q1, q2, q3, q4⟩ := h.obj ht
  obtain ⟨hS, hfc, -⟩ := hK.1 ci _ ck
  exact ⟨cell, q1, by rw [q3]; rfl, by rw [q2]; exact hfc⟩
theorem x_callV {ci index maxL k mc ms b : Nat} {C : String} {T : u_T} {N : Nat} {y : MethodName} {bytes : ByteArray} {r : Option FieldType} {rmc : Room} {As rest : List Value} {Post : Option Value → Hp → Prop} (cv : CVX own index C y bytes maxL r k) (ck : vwCl[ci]? = some (C, T, N)) (hM : MetX y bytes maxL r rmc σ (.ref b :: As) Post mc ms) (ht : gT σ b = some (.inl ci)) (hR : rmc.cells = mc ∧ rmc.slots = ms ∧ rmc.frames + 1 ≤ rm.frames ∧ 8 + (maxL + 11) + rmc.locals ≤ rm.locals ∧ cells + mc ≤ rm.cells ∧ slots + ms ≤ rm.slots) (hk : As.length = k) (hst : st = As.reverse ++ .ref b :: rest) (hw : (rest.map fun v => v.category).sum ≤ 8) (hd : decode cc pc = .ok (.invokevirtual index, 3)) (hn : pc + 3 = n)
    (kk : ∀ v σ', Post v σ' → X G rm cc own nL ret σ' (cells + mc) (slots + ms) n lvs (v.toList ++ rest)) : X G rm cc own nL ret σ cells slots pc lvs st := by
  subst hn
  intro hF H locs ls hB hl
  rcases cv with ⟨cv1 | ⟨host, c1, c2, c3, c4, c5⟩, cv2⟩
  rotate_left
  · exact x_run hB hl hF (va_runVN (host := host) (As := As) (rest := rest) ⟨hF.1, hF.2.1, hF.2.2.1, hF.2.2.2.1, hF.2.2.2.2.1⟩ (hM G.2.1 G.2.2.2.2.2.2.2.2.2.1 G.2.2.2.2.2.2.2.2.2.2.1 hF.2.2.2.2.2.2.2) ⟨va_cnB k hF.2.2.2.2.1 (lw_meth c5) rfl hR.1 hR.2.1 (hB.nestM c1) (hF.2.2.2.2.1 _ c4) cv2.2 ⟨hR.2.2.1, hR.2.2.2.1⟩, hF.2.2.2.2.1 _ c2, hF.2.2.2.2.1 _ c3⟩ ⟨PX.blind, HP.recv hB.1 hB.2.1 ht ck, fun U hU hW => hB.pre U hU hW⟩ rfl hk hl.1 hst (lv_room hw) hd hR.2.2.2.2) kk
  exact x_run hB hl hF (va_runV (As := As) (rest := rest) ⟨hF.1, hF.2.1, hF.2.2.1, hF.2.2.2.1, hF.2.2.2.2.1⟩ (hM G.2.1 G.2.2.2.2.2.2.2.2.2.1 G.2.2.2.2.2.2.2.2.2.2.1 hF.2.2.2.2.2.2.2) (cwV k hF.2.2.2.2.1 cv1 rfl hR.1 hR.2.1 cv2 ⟨hR.2.2.1, hR.2.2.2.1⟩) ⟨PX.blind, HP.recv hB.1 hB.2.1 ht ck, fun U hU hW => hB.pre U hU hW⟩ rfl hk hl.1 hst (lv_room hw) hd hR.2.2.2.2) kk
theorem x_callS {index maxL k mc ms : Nat} {y : MethodName} {bytes : ByteArray} {r : Option FieldType} {rmc : Room} {As rest : List Value} {Post : Option Value → Hp → Prop} (cs : CSX own index y bytes maxL r k) (hM : MetX y bytes maxL r rmc σ As Post mc ms) (hR : rmc.cells = mc ∧ rmc.slots = ms ∧ rmc.frames + 1 ≤ rm.frames ∧ 8 + (maxL + 11) + rmc.locals ≤ rm.locals ∧ cells + mc ≤ rm.cells ∧ slots + ms ≤ rm.slots) (hk : As.length = k) (hst : st = As.reverse ++ rest) (hw : (rest.map fun v => v.category).sum ≤ 8) (hd : decode cc pc = .ok (.invokestatic index, 3)) (hn : pc + 3 = n)
    (kk : ∀ v σ', Post v σ' → X G rm cc own nL ret σ' (cells + mc) (slots + ms) n lvs (v.toList ++ rest)) : X G rm cc own nL ret σ cells slots pc lvs st := by
  subst hn
  intro hF H locs ls hB hl
  rcases cs with ⟨cs1 | ⟨host, c1, c2, c4, c5⟩, cs2⟩
  rotate_left
  · exact x_run hB hl hF (va_runSN (host := host) (As := As) (rest := rest) ⟨hF.1, hF.2.1, hF.2.2.1, hF.2.2.2.1, hF.2.2.2.2.1⟩ (hM G.2.1 G.2.2.2.2.2.2.2.2.2.1 G.2.2.2.2.2.2.2.2.2.2.1 hF.2.2.2.2.2.2.2) ⟨va_cnB k hF.2.2.2.2.1 (lw_meth c5) rfl hR.1 hR.2.1 (hB.nestM c1) (hF.2.2.2.2.1 _ c4) cs2 ⟨hR.2.2.1, hR.2.2.2.1⟩, hF.2.2.2.2.1 _ c2, trivial⟩ ⟨PX.blind, fun U hU hW => hB.pre U hU hW⟩ rfl hk hl.1 hst (lv_room hw) hd hR.2.2.2.2) kk
  exact x_run hB hl hF (va_runS (As := As) (rest := rest) ⟨hF.1, hF.2.1, hF.2.2.1, hF.2.2.2.1, hF.2.2.2.2.1⟩ (hM G.2.1 G.2.2.2.2.2.2.2.2.2.1 G.2.2.2.2.2.2.2.2.2.2.1 hF.2.2.2.2.2.2.2) (va_cwS k hF.2.2.2.2.1 cs1 rfl hR.1 hR.2.1 cs2 ⟨hR.2.2.1, hR.2.2.2.1⟩) ⟨PX.blind, fun U hU hW => hB.pre U hU hW⟩ rfl hk hl.1 hst (lv_room hw) hd hR.2.2.2.2) kk
theorem RQ.at {Post : Option Value → Hp → Prop} {v : Option Value} {H : Heap} {locs : List Loc} {t : State} (hB : XB G.2.2.2.2.2.2.2.2.2.1 G.2.2.2.2.2.2.2.2.2.2.1 σ G.2.2.2.1 H locs) (hp : Post v σ) (ht : t.heap = H) : QX G.2.2.2.2.2.2.2.2.2.1 G.2.2.2.2.2.2.2.2.2.2.1 Post G.2.2.2.2.2.1 G.2.2.2.1 (.returned v) t :=
  ⟨v, σ, rfl, hp, by rw [ht]; exact hB.2.1, hB.2.2.1, by rw [ht]; exact hB.2.2.2.2.1, fun q hq => by rw [ht]; exact hB.2.2.2.2.2.1 q hq⟩
theorem x_iret {P : Int32 → Hp → Prop} {x : Int32} (rq : RQ G cells slots (oI P)) (h : P x σ) (hd : decode cc pc = .ok (.ireturn, 1)) : X G rm cc own nL (some .int) σ cells slots pc lvs [.int x] := by
  intro hF H locs ls hB hl
  rw [rq]
  have hlk := hF.2.2.2.2.2.2.1
  exact W.iret hF.1 hF.2.1 hF.2.2.2.2.2.1 (fun t ht _ => RQ.at hB (Post := oI P) ⟨x, rfl, h⟩ ht) hB.2.2.2.2.2.2.1 hd
theorem x_zret {P : Int32 → Hp → Prop} {x : Int32} (rq : RQ G cells slots (oI P)) (h : P x σ) (hx : x = 0 ∨ x = 1) (hd : decode cc pc = .ok (.ireturn, 1)) : X G rm cc own nL (some .boolean) σ cells slots pc lvs [.int x] := by
  intro hF H locs ls hB hl
  rw [rq]
  have hlk := hF.2.2.2.2.2.2.1
  exact W.zret hF.1 hF.2.1 hF.2.2.2.2.2.1 (bn_of hx).1 (fun t ht _ => RQ.at hB (Post := oI P) ⟨x, rfl, h⟩ ht) hB.2.2.2.2.2.2.1 hd
theorem x_lret {P : Int64 → Hp → Prop} {x : Int64} (rq : RQ G cells slots (oL P)) (h : P x σ) (hd : decode cc pc = .ok (.lreturn, 1)) : X G rm cc own nL (some .long) σ cells slots pc lvs [.long x] := by
  intro hF H locs ls hB hl
  rw [rq]
  have hlk := hF.2.2.2.2.2.2.1
  exact W.lret hF.1 hF.2.1 hF.2.2.2.2.2.1 (fun t ht _ => RQ.at hB (Post := oL P) ⟨x, rfl, h⟩ ht) hB.2.2.2.2.2.2.1 hd
theorem x_vret {P : Hp → Prop} (rq : RQ G cells slots (oV P)) (h : P σ) (hd : decode cc pc = .ok (.return_, 1)) : X G rm cc own nL none σ cells slots pc lvs [] := by
  intro hF H locs ls hB hl
  rw [rq]
  have hlk := hF.2.2.2.2.2.2.1
  exact W.vret hF.1 hF.2.1 hF.2.2.2.2.2.1 (fun t ht _ => RQ.at hB (Post := oV P) ⟨rfl, h⟩ ht) hB.2.2.2.2.2.2.1 hd
end XR
/-! LOOPS: a body over 'what holds at the head', run so many times -/
def itr {α : Type} (body : (α → Prop) → α → Prop) : Nat → α → Prop
  | 0 => fun _ => False
  | k + 1 => body (itr body k)
def lp {α : Type} (body : (α → Prop) → α → Prop) (x : α) : Prop := ∃ k, itr body k x
theorem lp_X {α : Type} {body : (α → Prop) → α → Prop} {P : α → Prop} (h : ∀ K : α → Prop, (∀ x, K x → P x) → ∀ x, body K x → P x) {x : α} (hx : lp body x) : P x := by
  obtain ⟨k, hk⟩ := hx
  induction k generalizing x with
  | zero => exact hk.elim
  | succ k ih => exact h (itr body k) (fun y hy => ih hy) x hk
/-- a loop by an invariant and a measure -/
theorem lp_of {α : Type} {body : (α → Prop) → α → Prop} (I : α → Prop) (μ : α → Nat) (h : ∀ (K : α → Prop) (x : α), I x → (∀ y, I y → μ y < μ x → K y) → body K x) {x : α} (hx : I x) : lp body x := by
  refine ⟨μ x + 1, ?_⟩
  have key : ∀ (k : Nat) (x : α), I x → μ x < k → itr body k x := by
    intro k
    induction k with
    | zero => exact fun x _ h => absurd h (Nat.not_lt_zero _)
    | succ k ih => exact fun x hI hk => h _ x hI (fun y hy hlt => ih y hy (by omega))
  exact key _ x hx (Nat.lt_succ_self _)
