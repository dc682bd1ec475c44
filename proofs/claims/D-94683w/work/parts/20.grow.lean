set_option maxRecDepth 100000
/-- how many places a cell of a kind has -/
def szK : Nat ⊕ (FieldType × Nat) → Nat
  | .inl ci => ((vwCl[ci]?).map (fun r => r.2.2)).getD 0
  | .inr q => q.2
/-- a cell of at most sixteen places -/
def smT (t : CT) : Prop := ∃ q, t = some q ∧ szK q ≤ 16
/-- an array of objects of any kind: a list's -/
def isOA (t : CT) : Prop := ∃ n, t = some (.inr (.object "java/lang/Object", n))
def WF (σ : Hp) : Prop := ∀ a, gS σ ≤ a → gT σ a = none
/-- grown: old cells keep their kinds, and their references but in lists' arrays; new ones are small -/
def GX (σ σ' : Hp) : Prop := gS σ ≤ gS σ' ∧ (∀ a t, gT σ a = some t → gT σ' a = some t) ∧ (∀ a k, gT σ a ≠ none → ¬ isOA (gT σ a) → gR σ' a k = gR σ a k) ∧ (∀ a, gS σ ≤ a → a < gS σ' → smT (gT σ' a)) ∧ (WF σ → WF σ')
theorem GX.rf {σ : Hp} : GX σ σ := ⟨Nat.le_refl _, fun _ _ h => h, fun _ _ _ _ => rfl, fun a h1 h2 => absurd h2 (Nat.not_lt.mpr h1), id⟩
theorem GX.i {σ σ' : Hp} (h : GX σ σ') {a k : Nat} {v : Int32} : GX σ (pI σ' a k v) := h
theorem GX.l {σ σ' : Hp} (h : GX σ σ') {a k : Nat} {v : Int64} : GX σ (pL σ' a k v) := h
theorem GX.tr {σ σ' τ : Hp} (h : GX σ σ') (h2 : GX σ' τ) : GX σ τ := by
  refine ⟨Nat.le_trans h.1 h2.1, fun a t q => h2.2.1 a t (h.2.1 a t q), fun a k q1 q2 => ?_, fun a q1 q2 => ?_, fun w => h2.2.2.2.2 (h.2.2.2.2 w)⟩
  · cases ht : gT σ a with
    | none => exact absurd ht q1
    | some t =>
      have e := h.2.1 a t ht
      rw [h2.2.2.1 a k (by rw [e]; exact fun h => nomatch h) (by rw [e, ← ht]; exact q2), h.2.2.1 a k q1 q2]
  · by_cases hl : a < gS σ'
    · obtain ⟨q, e, hq⟩ := h.2.2.2.1 a q1 hl
      exact ⟨q, h2.2.1 a q e, hq⟩
    · exact h2.2.2.2.1 a (Nat.not_lt.mp hl) q2
theorem GX.ofSH {σ σ' : Hp} (h : SH σ σ') : GX σ σ' := ⟨Nat.le_of_eq h.1.symm, fun a t q => h.t q, fun a k _ _ => by rw [h.2.2], fun a h1 h2 => absurd h2 (by rw [h.1]; exact Nat.not_lt.mpr h1), fun w a h1 => by rw [h.2.1]; exact w a (by rw [← h.1]; exact h1)⟩
theorem GX.s {σ σ' τ : Hp} (h : GX σ σ') (h2 : SH σ' τ) : GX σ τ := h.tr (.ofSH h2)
theorem GX.t {σ σ' : Hp} (h : GX σ σ') {a : Nat} {t : Nat ⊕ (FieldType × Nat)} (ht : gT σ a = some t) : gT σ' a = some t := h.2.1 a t ht
theorem GX.q {σ σ' : Hp} (h : GX σ σ') {a ci : Nat} (ht : gT σ a = some (.inl ci)) {k : Nat} {t : Option Nat} (hr : gR σ a k = t) : gR σ' a k = t := by
  rw [h.2.2.1 a k (by rw [ht]; exact fun h => nomatch h) (by rw [ht]; rintro ⟨n, h⟩; cases h)]; exact hr
/-- a reference put into a new cell, or into a list's array -/
theorem GX.r {σ σ' : Hp} (h : GX σ σ') {a k : Nat} {v : Option Nat} (ha : gT σ a = none ∨ isOA (gT σ a)) : GX σ (pR σ' a k v) := by
  refine ⟨h.1, h.2.1, fun b j q1 q2 => ?_, h.2.2.2.1, h.2.2.2.2⟩
  have hb : b ≠ a := by
    rintro rfl
    rcases ha with ha | ha
    · exact q1 ha
    · exact q2 ha
  have e : gR (pR σ' a k v) b j = gR σ' b j := by show u2 _ _ _ _ _ _ = _; simp [u2, hb, gR]
  rw [e]; exact h.2.2.1 b j q1 q2
theorem gT_new {σ : Hp} {t : Nat ⊕ (FieldType × Nat)} : gT (pN σ t) (gS σ) = some t := by show u1 _ _ _ _ = _; simp [u1, gS]
theorem gT_old {σ : Hp} {t : Nat ⊕ (FieldType × Nat)} {a : Nat} (h : a ≠ gS σ) : gT (pN σ t) a = gT σ a := by
  have h' : ¬ a = σ.1 := h
  show u1 _ _ _ _ = _; simp [u1, h', gT]
theorem gR_old {σ : Hp} {t : Nat ⊕ (FieldType × Nat)} {a k : Nat} (h : a ≠ gS σ) : gR (pN σ t) a k = gR σ a k := by
  have h' : ¬ a = σ.1 := h
  simp [gR, pN, u1, h']
theorem gI_old {σ : Hp} {t : Nat ⊕ (FieldType × Nat)} {a k : Nat} (h : a ≠ gS σ) : gI (pN σ t) a k = gI σ a k := by
  have h' : ¬ a = σ.1 := h
  simp [gI, pN, u1, h']
theorem gL_old {σ : Hp} {t : Nat ⊕ (FieldType × Nat)} {a k : Nat} (h : a ≠ gS σ) : gL (pN σ t) a k = gL σ a k := by
  have h' : ¬ a = σ.1 := h
  simp [gL, pN, u1, h']
theorem gS_new {σ : Hp} {t : Nat ⊕ (FieldType × Nat)} : gS (pN σ t) = gS σ + 1 := rfl
/-- a new cell is none of the old -/
theorem WF.lt {σ : Hp} (w : WF σ) {a : Nat} {t : Nat ⊕ (FieldType × Nat)} (h : gT σ a = some t) : a < gS σ := Nat.not_le.mp fun q => by rw [w a q] at h; cases h
theorem GX.n {σ σ' : Hp} (h : GX σ σ') (w : WF σ') {q : Nat ⊕ (FieldType × Nat)} (hq : szK q ≤ 16) : GX σ (pN σ' q) := by
  have hne : ∀ {a t}, gT σ' a = some t → a ≠ gS σ' := fun ht => Nat.ne_of_lt (w.lt ht)
  refine ⟨Nat.le_trans h.1 (Nat.le_succ _), fun a t e => ?_, fun a k q1 q2 => ?_, fun a q1 q2 => ?_, fun _ a q1 => ?_⟩
  · have e2 := h.2.1 a t e
    rw [gT_old (hne e2)]; exact e2
  · cases ht : gT σ a with
    | none => exact absurd ht q1
    | some t => rw [gR_old (hne (h.2.1 a t ht)), h.2.2.1 a k q1 q2]
  · by_cases hb : a = gS σ'
    · subst hb; exact ⟨q, gT_new, hq⟩
    · rw [gT_old hb]
      exact h.2.2.2.1 a q1 (by rw [gS_new] at q2; omega)
  · rw [gS_new] at q1
    rw [gT_old (by omega)]
    exact w a (by omega)
theorem GX.fresh {σ σ' : Hp} (h : GX σ σ') (w : WF σ) : gT σ (gS σ') = none := w _ h.1
theorem OB.gx {ci o : Nat} {σ σ' : Hp} (h : OB ci o σ) (hs : GX σ σ') : OB ci o σ' := hs.t h
theorem AB.gx {o c : Nat} {σ σ' : Hp} (h : AB o c σ) (hs : GX σ σ') : AB o c σ' := ⟨hs.t h.1, hs.q h.1 h.2.1, hs.t h.2.2⟩
theorem NB.gx {o : Nat} {σ σ' : Hp} (h : NB o σ) (hs : GX σ σ') : NB o σ' := ⟨hs.t h.1, hs.q h.1 h.2.1, hs.t h.2.2.1, hs.q h.1 h.2.2.2.1, hs.t h.2.2.2.2⟩
theorem RB.gx {o : Nat} {σ σ' : Hp} (h : RB o σ) (hs : GX σ σ') : RB o σ' := ⟨hs.t h.1, ⟨hs.q h.1 h.2.1.1, h.2.1.2.gx hs⟩, ⟨hs.q h.1 h.2.2.1.1, h.2.2.1.2.gx hs⟩, ⟨hs.q h.1 h.2.2.2.1.1, h.2.2.2.1.2.gx hs⟩, ⟨hs.q h.1 h.2.2.2.2.1.1, h.2.2.2.2.1.2.gx hs⟩, ⟨hs.q h.1 h.2.2.2.2.2.1, h.2.2.2.2.2.2.gx hs⟩⟩
theorem EB.gx {o c d : Nat} {σ σ' : Hp} (h : EB o c d σ) (hs : GX σ σ') : EB o c d σ' := ⟨hs.t h.1, hs.q h.1 h.2.1, hs.t h.2.2.1, hs.q h.2.2.1 h.2.2.2.1, hs.t h.2.2.2.2.1, hs.q h.1 h.2.2.2.2.2.1, h.2.2.2.2.2.2.gx hs⟩
theorem HP.wf {D : DD} {σ : Hp} {H : Heap} (h : HP D σ H) : WF σ := fun a q => by
  cases hc : gT σ a with
  | none => rfl
  | some t => exact absurd (h.lt hc) (Nat.not_lt.mpr q)
theorem HP.size16 {D : DD} {σ : Hp} {H : Heap} (h : HP D σ H) {a : Nat} (hs : smT (gT σ a)) {cell : Cell} (hc : H[a]? = some cell) : cell.slots.size ≤ 16 := by
  obtain ⟨q, e, hq⟩ := hs
  rcases q with ci | ⟨ty, n⟩
  · obtain ⟨r, h1, -⟩ := h.obj e
    rw [h.objz e h1 hc]
    simpa [szK, h1] using hq
  · have h1 := h.arr e
    rw [hc] at h1
    cases h1
    rw [arrV_size]; exact hq
theorem sum16 : ∀ (l : List Cell), (∀ c ∈ l, c.slots.size ≤ 16) → (l.map (fun c => c.slots.size)).sum ≤ 16 * l.length
  | [], _ => Nat.le_refl _
  | c :: l, h => by
    have h1 := sum16 l (fun x hx => h x (List.mem_cons_of_mem _ hx))
    have h2 := h c List.mem_cons_self
    simp only [List.map_cons, List.sum_cons, List.length_cons]
    omega
theorem drop16 {D : DD} {σ0 σ : Hp} {H : Heap} (h : HP D σ H) (hg : GX σ0 σ) : ((H.toList.drop (gS σ0)).map (fun c => c.slots.size)).sum ≤ 16 * (gS σ - gS σ0) := by
  have h1 := sum16 (H.toList.drop (gS σ0)) (fun c hc => by
    obtain ⟨i, hi, e⟩ := List.mem_iff_getElem.mp hc
    rw [List.getElem_drop] at e
    have hlt : gS σ0 + i < H.size := by
      have := hi
      rw [List.length_drop, Array.length_toList] at this
      omega
    have e2 : H[gS σ0 + i]? = some c := by
      rw [Array.getElem?_eq_getElem hlt, ← e]
      simp
    refine h.size16 (hg.2.2.2.1 _ (Nat.le_add_right _ _) ?_) e2
    rw [← h.1]; exact hlt)
  rw [List.length_drop, Array.length_toList, h.1] at h1
  exact h1
section XG
variable {G : XE} {rm : Room} {cc : ByteArray} {own : String} {nL : Nat} {ret : Option FieldType} {σ σ0 : Hp} {cells slots pc n Mx : Nat} {lvs : List (Nat × Value)} {st : List Value}
theorem stand_tight {p : Program} {l : Launch} {e : Env} {R : Room} {s : State} {m : MethodId} {args : Array Value} {below : List Frame} {meth : Method} {c : Code} {T : State} {locs : List Loc} {D : DD} (X0 : Stand p l e R s m args below meth c T locs cells slots) (hz : s.heap.size = gS σ0) (hg : GX σ0 σ) (h : HP D σ T.heap) : Stand p l e R s m args below meth c T locs (gS σ - gS σ0) (16 * (gS σ - gS σ0)) := by
  have hsame := X0.same
  refine { X0 with same := ⟨hsame.1, hsame.2.1, ?_, hsame.2.2.2.1, ?_, hsame.2.2.2.2.2⟩ }
  · show T.heap.size ≤ s.heap.size + _
    rw [h.1, hz]
    have := hg.1
    omega
  · show ((T.heap.toList.drop s.heap.size).map _).sum ≤ _
    rw [hz]
    exact drop16 h hg
/-- counts made exact by the heap's size -/
theorem x_tight (hz : G.2.2.2.1.heap.size = gS σ0) (hg : GX σ0 σ) (kk : X G rm cc own nL ret σ (gS σ - gS σ0) (16 * (gS σ - gS σ0)) pc lvs st) : X G rm cc own nL ret σ cells slots pc lvs st :=
  fun hF H locs ls hB hl T hT X0 => kk hF H locs ls hB hl T hT (stand_tight X0 hz hg (by rw [hT]; exact hB.2.1))
theorem t_tight {q : Nat} {E : String} (hz : G.2.2.2.1.heap.size = gS σ0) (hg : GX σ0 σ) (kk : TX G rm cc own nL ret σ (gS σ - gS σ0) (16 * (gS σ - gS σ0)) pc lvs q E) : TX G rm cc own nL ret σ cells slots pc lvs q E :=
  fun hF H locs ls rest hB hl hc T hT X0 => kk hF H locs ls rest hB hl hc T hT (stand_tight X0 hz hg (by rw [hT]; exact hB.2.1))
theorem x_wf (kk : WF σ → X G rm cc own nL ret σ cells slots pc lvs st) : X G rm cc own nL ret σ cells slots pc lvs st :=
  fun hF H locs ls hB hl => kk hB.2.1.wf hF H locs ls hB hl
/-- the room of a method that makes cells up to the ceiling Mx -/
abbrev rmG (fr lo Mx : Nat) (σ0 : Hp) : Room := { frames := fr, cells := Mx - gS σ0, slots := 16 * (Mx - gS σ0), locals := lo }
/-- the ends of such a method -/
abbrev gP (Mx : Nat) (σ0 : Hp) (Q : Hp → Prop) (σ' : Hp) : Prop := GX σ0 σ' ∧ gS σ' ≤ Mx ∧ Q σ'
abbrev pxF (Mx : Nat) (σ0 : Hp) (E : Nat → Hp → Prop) : Nat → String → Hp → Prop := fun q C σ' => C = "LongYears$Fault" ∧ gP Mx σ0 (E q) σ'
/-- room for a callee that makes nothing -/
theorem hRg {rmc : Room} {fr lo maxL : Nat} (h1 : rmc.cells = 0 ∧ rmc.slots = 0 ∧ rmc.frames + 1 ≤ fr ∧ 8 + (maxL + 11) + rmc.locals ≤ lo) (h2 : gS σ ≤ Mx) : rmc.cells = 0 ∧ rmc.slots = 0 ∧ rmc.frames + 1 ≤ (rmG fr lo Mx σ0).frames ∧ 8 + (maxL + 11) + rmc.locals ≤ (rmG fr lo Mx σ0).locals ∧ gS σ - gS σ0 ≤ (rmG fr lo Mx σ0).cells ∧ 16 * (gS σ - gS σ0) ≤ (rmG fr lo Mx σ0).slots :=
  ⟨h1.1, h1.2.1, h1.2.2.1, h1.2.2.2, Nat.sub_le_sub_right h2 _, Nat.mul_le_mul_left _ (Nat.sub_le_sub_right h2 _)⟩
theorem hRc {frc loc fr lo maxL : Nat} (hg : GX σ0 σ) (h1 : frc + 1 ≤ fr ∧ 8 + (maxL + 11) + loc ≤ lo) (h2 : gS σ ≤ Mx) : (rmG frc loc Mx σ).cells = Mx - gS σ ∧ (rmG frc loc Mx σ).slots = 16 * (Mx - gS σ) ∧ (rmG frc loc Mx σ).frames + 1 ≤ (rmG fr lo Mx σ0).frames ∧ 8 + (maxL + 11) + (rmG frc loc Mx σ).locals ≤ (rmG fr lo Mx σ0).locals ∧ gS σ - gS σ0 + (Mx - gS σ) ≤ (rmG fr lo Mx σ0).cells ∧ 16 * (gS σ - gS σ0) + 16 * (Mx - gS σ) ≤ (rmG fr lo Mx σ0).slots := by
  have := hg.1
  refine ⟨rfl, rfl, h1.1, h1.2, ?_, ?_⟩
  · show _ ≤ Mx - gS σ0; omega
  · show _ ≤ 16 * (Mx - gS σ0); omega
theorem g_new {index ci N fr lo : Nat} (hz : G.2.2.2.1.heap.size = gS σ0) (hg : GX σ0 σ) (nx : NX own index ci N) (hN : szK (.inl ci) ≤ 16 ∧ N ≤ 16) (hm : gS σ + 1 ≤ Mx) (hd : decode cc pc = .ok (.new index, 3)) (hn : pc + 3 = n) (kk : WF σ → GX σ0 (pN σ (.inl ci)) → X G (rmG fr lo Mx σ0) cc own nL ret (pN σ (.inl ci)) (gS (pN σ (.inl ci)) - gS σ0) (16 * (gS (pN σ (.inl ci)) - gS σ0)) n lvs (.ref (gS σ) :: st)) : X G (rmG fr lo Mx σ0) cc own nL ret σ (gS σ - gS σ0) (16 * (gS σ - gS σ0)) pc lvs st := by
  have := hg.1
  refine x_wf (fun w => ?_)
  refine x_new nx ⟨by show _ ≤ Mx - gS σ0; omega, by show _ ≤ 16 * (Mx - gS σ0); omega⟩ hd hn ?_
  exact x_tight hz (hg.n w hN.1) (kk w (hg.n w hN.1))
theorem g_newa {atype : ArrayType} {ty : FieldType} {t0 N fr lo : Nat} {m : Int32} (hz : G.2.2.2.1.heap.size = gS σ0) (hg : GX σ0 σ) (hq : Cond.arrayClass (newarray.typeOf atype) ∈ lw_all) (hty : newarray.typeOf atype = ty) (at0 : AT t0 ty) (hnr : isR ty = false ∧ ty ≠ .float ∧ ty ≠ .double) (hm0 : ¬ m < 0) (hN : m.toNatClampNeg = N) (h16 : N ≤ 16) (hm : gS σ + 1 ≤ Mx) (hd : decode cc pc = .ok (.newarray atype, 2)) (hn : pc + 2 = n) (kk : WF σ → GX σ0 (pN σ (.inr (ty, N))) → X G (rmG fr lo Mx σ0) cc own nL ret (pN σ (.inr (ty, N))) (gS (pN σ (.inr (ty, N))) - gS σ0) (16 * (gS (pN σ (.inr (ty, N))) - gS σ0)) n lvs (.ref (gS σ) :: st)) : X G (rmG fr lo Mx σ0) cc own nL ret σ (gS σ - gS σ0) (16 * (gS σ - gS σ0)) pc lvs (.int m :: st) := by
  have := hg.1
  refine x_wf (fun w => ?_)
  have hb : componentBytes ty ≤ 8 := by cases ty <;> first | decide | (simp [componentBytes])
  refine x_newa hq hty at0 hnr hm0 hN (Nat.le_trans (Nat.mul_le_mul h16 hb) (by decide)) ⟨by show _ ≤ Mx - gS σ0; omega, by show _ ≤ 16 * (Mx - gS σ0); omega⟩ hd hn ?_
  exact x_tight hz (hg.n w h16) (kk w (hg.n w h16))
theorem g_anew {index t0 N fr lo : Nat} {C : String} {m : Int32} (hz : G.2.2.2.1.heap.size = gS σ0) (hg : GX σ0 σ) (hcl : Cond.classLink own index C ∈ lw_all) (hov : Cond.arrayOver (.object C) ∈ lw_tbl) (at0 : AT t0 (.object C)) (hm0 : ¬ m < 0) (hN : m.toNatClampNeg = N) (h16 : N ≤ 16) (hm : gS σ + 1 ≤ Mx) (hd : decode cc pc = .ok (.anewarray index, 3)) (hn : pc + 3 = n) (kk : WF σ → GX σ0 (pN σ (.inr (.object C, N))) → X G (rmG fr lo Mx σ0) cc own nL ret (pN σ (.inr (.object C, N))) (gS (pN σ (.inr (.object C, N))) - gS σ0) (16 * (gS (pN σ (.inr (.object C, N))) - gS σ0)) n lvs (.ref (gS σ) :: st)) : X G (rmG fr lo Mx σ0) cc own nL ret σ (gS σ - gS σ0) (16 * (gS σ - gS σ0)) pc lvs (.int m :: st) := by
  have := hg.1
  refine x_wf (fun w => ?_)
  refine x_anew hcl hov at0 hm0 hN (by omega) ⟨by show _ ≤ Mx - gS σ0; omega, by show _ ≤ 16 * (Mx - gS σ0); omega⟩ hd hn ?_
  exact x_tight hz (hg.n w h16) (kk w (hg.n w h16))

theorem metG_of {y : MethodName} {cc : ByteArray} {own : String} {nL : Nat} {ret : Option FieldType} {fr lo Mx : Nat} {σ0 : Hp} {av : List Value} {lvs : List (Nat × Value)} {Post : Option Value → Hp → Prop} {PX' : Nat → String → Hp → Prop}
    (hy : plainName y.cls = true) (ho : y.cls = own) (hn : (lg_sl av).length ≤ nL) (hlv : lv_args 0 av = lvs)
    (body : ∀ G : XE, RQx G [] (Mx - gS σ0) (16 * (Mx - gS σ0)) Post PX' → G.2.2.2.1.heap.size = gS σ0 → WF σ0 → X G (rmG fr lo Mx σ0) cc own nL ret σ0 (gS σ0 - gS σ0) (16 * (gS σ0 - gS σ0)) 0 lvs []) : MetY y cc nL ret (rmG fr lo Mx σ0) σ0 av Post PX' (Mx - gS σ0) (16 * (Mx - gS σ0)) := by
  subst ho
  subst hlv
  intro l B D hfl
  refine vx_ofW (cc := cc) (maxL := nL) (ret := ret) hy rfl ?_
  intro p e s m args below meth c s₁ Bd hml htb hv
  obtain ⟨rfl, hK, hH, hdom, hB, hSX⟩ := hv
  have hts := atoms_spec (ws := ws_ y cc nL ret) Bd.pre
  have hl := lv_entry av (n := nL) hn
  have htb' : c.exceptionTable.toList = tableOf [] := by
    cases h : c.exceptionTable.toList with
    | nil => rfl
    | cons x t => exact (htb x (by rw [h]; exact List.mem_cons_self)).elim
  have hx := body (p, l, e, s, m, av.toArray, below, meth, c, B, D, vx_MQ below (QX B D Post) (XX B D PX') av.toArray s (Mx - gS σ0) (16 * (Mx - gS σ0)) (fun q => B ≤ q)) ⟨rfl, htb'⟩ hH.1 hH.wf
  rw [Nat.sub_self] at hx
  rw [lg_entry_eq]
  exact hx ⟨Bd.exec, Bd.bytes, hml, findClass_of_methodNamed Bd.named, fun w h => hts w (List.mem_cons_of_mem _ h), Bd.returns, Bd.notSynchronized, hfl⟩ s.heap [] _ ⟨hK, hH, hdom, hB, Nat.le_refl _, fun _ _ => rfl, fun _ h => (List.not_mem_nil h).elim, hSX⟩ hl

theorem g_iret {P : Int32 → Hp → Prop} {PX' : Nat → String → Hp → Prop} {x : Int32} (rq : RQx G [] (Mx - gS σ0) (16 * (Mx - gS σ0)) (oI (fun r σ' => gP Mx σ0 (P r) σ')) PX') (hg : GX σ0 σ) (hle : gS σ ≤ Mx) (h : P x σ) (hd : decode cc pc = .ok (.ireturn, 1)) : X G rm cc own nL (some .int) σ (gS σ - gS σ0) (16 * (gS σ - gS σ0)) pc lvs [.int x] :=
  x_widen (Nat.sub_le_sub_right hle _) (Nat.mul_le_mul_left _ (Nat.sub_le_sub_right hle _)) (y_iret rq ⟨hg, hle, h⟩ hd)
theorem g_lret {P : Int64 → Hp → Prop} {PX' : Nat → String → Hp → Prop} {x : Int64} (rq : RQx G [] (Mx - gS σ0) (16 * (Mx - gS σ0)) (oL (fun r σ' => gP Mx σ0 (P r) σ')) PX') (hg : GX σ0 σ) (hle : gS σ ≤ Mx) (h : P x σ) (hd : decode cc pc = .ok (.lreturn, 1)) : X G rm cc own nL (some .long) σ (gS σ - gS σ0) (16 * (gS σ - gS σ0)) pc lvs [.long x] :=
  x_widen (Nat.sub_le_sub_right hle _) (Nat.mul_le_mul_left _ (Nat.sub_le_sub_right hle _)) (y_lret rq ⟨hg, hle, h⟩ hd)
theorem g_zret {P : Int32 → Hp → Prop} {PX' : Nat → String → Hp → Prop} {x : Int32} (rq : RQx G [] (Mx - gS σ0) (16 * (Mx - gS σ0)) (oI (fun r σ' => gP Mx σ0 (P r) σ')) PX') (hg : GX σ0 σ) (hle : gS σ ≤ Mx) (h : P x σ) (hx : x = 0 ∨ x = 1) (hd : decode cc pc = .ok (.ireturn, 1)) : X G rm cc own nL (some .boolean) σ (gS σ - gS σ0) (16 * (gS σ - gS σ0)) pc lvs [.int x] :=
  x_widen (Nat.sub_le_sub_right hle _) (Nat.mul_le_mul_left _ (Nat.sub_le_sub_right hle _)) (y_zret rq ⟨hg, hle, h⟩ hx hd)
theorem g_vret {P : Hp → Prop} {PX' : Nat → String → Hp → Prop} (rq : RQx G [] (Mx - gS σ0) (16 * (Mx - gS σ0)) (oV (fun σ' => gP Mx σ0 P σ')) PX') (hg : GX σ0 σ) (hle : gS σ ≤ Mx) (h : P σ) (hd : decode cc pc = .ok (.return_, 1)) : X G rm cc own nL none σ (gS σ - gS σ0) (16 * (gS σ - gS σ0)) pc lvs [] :=
  x_widen (Nat.sub_le_sub_right hle _) (Nat.mul_le_mul_left _ (Nat.sub_le_sub_right hle _)) (y_vret rq ⟨hg, hle, h⟩ hd)
theorem g_aret {P : Nat → Hp → Prop} {PX' : Nat → String → Hp → Prop} {b : Nat} {rt : FieldType} (hrt : isR rt = true) (rq : RQx G [] (Mx - gS σ0) (16 * (Mx - gS σ0)) (oR (fun r σ' => gP Mx σ0 (P r) σ')) PX') (hg : GX σ0 σ) (hle : gS σ ≤ Mx) (h : P b σ) (hd : decode cc pc = .ok (.areturn, 1)) : X G rm cc own nL (some rt) σ (gS σ - gS σ0) (16 * (gS σ - gS σ0)) pc lvs [.ref b] :=
  x_widen (Nat.sub_le_sub_right hle _) (Nat.mul_le_mul_left _ (Nat.sub_le_sub_right hle _)) (y_aret hrt rq ⟨hg, hle, h⟩ hd)
/-- thrown on, out of the method -/
theorem g_out {q : Nat} {E : Nat → Hp → Prop} {Post : Option Value → Hp → Prop} (rq : RQx G [] (Mx - gS σ0) (16 * (Mx - gS σ0)) Post (pxF Mx σ0 E)) (hg : GX σ0 σ) (hle : gS σ ≤ Mx) (h : E q σ) : TX G rm cc own nL ret σ (gS σ - gS σ0) (16 * (gS σ - gS σ0)) pc lvs q "LongYears$Fault" :=
  t_widen (Nat.sub_le_sub_right hle _) (Nat.mul_le_mul_left _ (Nat.sub_le_sub_right hle _)) (t_out rq (fun _ h => (List.not_mem_nil h).elim) ⟨rfl, hg, hle, h⟩ (Nat.le_refl _) (Nat.le_refl _))
theorem g_athrow {q : Nat} {E : Nat → Hp → Prop} {Post : Option Value → Hp → Prop} (rq : RQx G [] (Mx - gS σ0) (16 * (Mx - gS σ0)) Post (pxF Mx σ0 E)) (hg : GX σ0 σ) (hle : gS σ ≤ Mx) (ht : OB 16 q σ) (h : E q σ) (hd : decode cc pc = .ok (.athrow, 1)) : X G rm cc own nL ret σ (gS σ - gS σ0) (16 * (gS σ - gS σ0)) pc lvs (.ref q :: st) :=
  y_athrow ck16 ht hd (g_out rq hg hle h)

theorem g_cVi {ci index maxL k b : Nat} {C : String} {T : u_T} {N : Nat} {y : MethodName} {bytes : ByteArray} {r : Option FieldType} {frc loc fr lo : Nat} {As rest : List Value} {P : Int32 → Hp → Prop} {E : Nat → Hp → Prop} (hz : G.2.2.2.1.heap.size = gS σ0) (hg : GX σ0 σ) (cv : CVX own index C y bytes maxL r k) (ck : CK ci C T N) (hM : MetY y bytes maxL r (rmG frc loc Mx σ) σ (.ref b :: As) (oI (fun r σ' => gP Mx σ (P r) σ')) (pxF Mx σ E) (Mx - gS σ) (16 * (Mx - gS σ))) (ht : gT σ b = some (.inl ci)) (hR : frc + 1 ≤ fr ∧ 8 + (maxL + 11) + loc ≤ lo) (hle : gS σ ≤ Mx) (hk : As.length = k) (hst : st = As.reverse ++ .ref b :: rest) (hw : Nat.ble (rest.map fun v => v.category).sum 8 = true) (hd : decode cc pc = .ok (.invokevirtual index, 3)) (hn : pc + 3 = n)
    (kx : ∀ q σ', GX σ σ' → gS σ' ≤ Mx → E q σ' → TX G (rmG fr lo Mx σ0) cc own nL ret σ' (gS σ' - gS σ0) (16 * (gS σ' - gS σ0)) pc lvs q "LongYears$Fault") (kk : ∀ (r : Int32) (σ' : Hp), GX σ σ' → gS σ' ≤ Mx → P r σ' → X G (rmG fr lo Mx σ0) cc own nL ret σ' (gS σ' - gS σ0) (16 * (gS σ' - gS σ0)) n lvs (.int r :: rest)) : X G (rmG fr lo Mx σ0) cc own nL ret σ (gS σ - gS σ0) (16 * (gS σ - gS σ0)) pc lvs st :=
  y_callV cv ck hM ht (hRc hg hR hle) hk hst hw hd hn (fun q C σ' hp => by obtain ⟨rfl, h1, h2, h3⟩ := hp; exact t_tight hz (hg.tr h1) (kx q σ' h1 h2 h3)) (fun v σ' hp => by obtain ⟨r, rfl, h1, h2, h3⟩ := hp; exact x_tight hz (hg.tr h1) (kk r σ' h1 h2 h3))
theorem g_cVl {ci index maxL k b : Nat} {C : String} {T : u_T} {N : Nat} {y : MethodName} {bytes : ByteArray} {r : Option FieldType} {frc loc fr lo : Nat} {As rest : List Value} {P : Int64 → Hp → Prop} {E : Nat → Hp → Prop} (hz : G.2.2.2.1.heap.size = gS σ0) (hg : GX σ0 σ) (cv : CVX own index C y bytes maxL r k) (ck : CK ci C T N) (hM : MetY y bytes maxL r (rmG frc loc Mx σ) σ (.ref b :: As) (oL (fun r σ' => gP Mx σ (P r) σ')) (pxF Mx σ E) (Mx - gS σ) (16 * (Mx - gS σ))) (ht : gT σ b = some (.inl ci)) (hR : frc + 1 ≤ fr ∧ 8 + (maxL + 11) + loc ≤ lo) (hle : gS σ ≤ Mx) (hk : As.length = k) (hst : st = As.reverse ++ .ref b :: rest) (hw : Nat.ble (rest.map fun v => v.category).sum 8 = true) (hd : decode cc pc = .ok (.invokevirtual index, 3)) (hn : pc + 3 = n)
    (kx : ∀ q σ', GX σ σ' → gS σ' ≤ Mx → E q σ' → TX G (rmG fr lo Mx σ0) cc own nL ret σ' (gS σ' - gS σ0) (16 * (gS σ' - gS σ0)) pc lvs q "LongYears$Fault") (kk : ∀ (r : Int64) (σ' : Hp), GX σ σ' → gS σ' ≤ Mx → P r σ' → X G (rmG fr lo Mx σ0) cc own nL ret σ' (gS σ' - gS σ0) (16 * (gS σ' - gS σ0)) n lvs (.long r :: rest)) : X G (rmG fr lo Mx σ0) cc own nL ret σ (gS σ - gS σ0) (16 * (gS σ - gS σ0)) pc lvs st :=
  y_callV cv ck hM ht (hRc hg hR hle) hk hst hw hd hn (fun q C σ' hp => by obtain ⟨rfl, h1, h2, h3⟩ := hp; exact t_tight hz (hg.tr h1) (kx q σ' h1 h2 h3)) (fun v σ' hp => by obtain ⟨r, rfl, h1, h2, h3⟩ := hp; exact x_tight hz (hg.tr h1) (kk r σ' h1 h2 h3))
theorem g_cVv {ci index maxL k b : Nat} {C : String} {T : u_T} {N : Nat} {y : MethodName} {bytes : ByteArray} {r : Option FieldType} {frc loc fr lo : Nat} {As rest : List Value} {P : Hp → Prop} {E : Nat → Hp → Prop} (hz : G.2.2.2.1.heap.size = gS σ0) (hg : GX σ0 σ) (cv : CVX own index C y bytes maxL r k) (ck : CK ci C T N) (hM : MetY y bytes maxL r (rmG frc loc Mx σ) σ (.ref b :: As) (oV (fun σ' => gP Mx σ P σ')) (pxF Mx σ E) (Mx - gS σ) (16 * (Mx - gS σ))) (ht : gT σ b = some (.inl ci)) (hR : frc + 1 ≤ fr ∧ 8 + (maxL + 11) + loc ≤ lo) (hle : gS σ ≤ Mx) (hk : As.length = k) (hst : st = As.reverse ++ .ref b :: rest) (hw : Nat.ble (rest.map fun v => v.category).sum 8 = true) (hd : decode cc pc = .ok (.invokevirtual index, 3)) (hn : pc + 3 = n)
    (kx : ∀ q σ', GX σ σ' → gS σ' ≤ Mx → E q σ' → TX G (rmG fr lo Mx σ0) cc own nL ret σ' (gS σ' - gS σ0) (16 * (gS σ' - gS σ0)) pc lvs q "LongYears$Fault") (kk : ∀ σ', GX σ σ' → gS σ' ≤ Mx → P σ' → X G (rmG fr lo Mx σ0) cc own nL ret σ' (gS σ' - gS σ0) (16 * (gS σ' - gS σ0)) n lvs rest) : X G (rmG fr lo Mx σ0) cc own nL ret σ (gS σ - gS σ0) (16 * (gS σ - gS σ0)) pc lvs st :=
  y_callV cv ck hM ht (hRc hg hR hle) hk hst hw hd hn (fun q C σ' hp => by obtain ⟨rfl, h1, h2, h3⟩ := hp; exact t_tight hz (hg.tr h1) (kx q σ' h1 h2 h3)) (fun v σ' hp => by obtain ⟨rfl, h1, h2, h3⟩ := hp; exact x_tight hz (hg.tr h1) (kk σ' h1 h2 h3))
theorem g_cVr {ci index maxL k b : Nat} {C : String} {T : u_T} {N : Nat} {y : MethodName} {bytes : ByteArray} {r : Option FieldType} {frc loc fr lo : Nat} {As rest : List Value} {P : Nat → Hp → Prop} {E : Nat → Hp → Prop} (hz : G.2.2.2.1.heap.size = gS σ0) (hg : GX σ0 σ) (cv : CVX own index C y bytes maxL r k) (ck : CK ci C T N) (hM : MetY y bytes maxL r (rmG frc loc Mx σ) σ (.ref b :: As) (oR (fun r σ' => gP Mx σ (P r) σ')) (pxF Mx σ E) (Mx - gS σ) (16 * (Mx - gS σ))) (ht : gT σ b = some (.inl ci)) (hR : frc + 1 ≤ fr ∧ 8 + (maxL + 11) + loc ≤ lo) (hle : gS σ ≤ Mx) (hk : As.length = k) (hst : st = As.reverse ++ .ref b :: rest) (hw : Nat.ble (rest.map fun v => v.category).sum 8 = true) (hd : decode cc pc = .ok (.invokevirtual index, 3)) (hn : pc + 3 = n)
    (kx : ∀ q σ', GX σ σ' → gS σ' ≤ Mx → E q σ' → TX G (rmG fr lo Mx σ0) cc own nL ret σ' (gS σ' - gS σ0) (16 * (gS σ' - gS σ0)) pc lvs q "LongYears$Fault") (kk : ∀ (r : Nat) (σ' : Hp), GX σ σ' → gS σ' ≤ Mx → P r σ' → X G (rmG fr lo Mx σ0) cc own nL ret σ' (gS σ' - gS σ0) (16 * (gS σ' - gS σ0)) n lvs (.ref r :: rest)) : X G (rmG fr lo Mx σ0) cc own nL ret σ (gS σ - gS σ0) (16 * (gS σ - gS σ0)) pc lvs st :=
  y_callV cv ck hM ht (hRc hg hR hle) hk hst hw hd hn (fun q C σ' hp => by obtain ⟨rfl, h1, h2, h3⟩ := hp; exact t_tight hz (hg.tr h1) (kx q σ' h1 h2 h3)) (fun v σ' hp => by obtain ⟨r, rfl, h1, h2, h3⟩ := hp; exact x_tight hz (hg.tr h1) (kk r σ' h1 h2 h3))
theorem g_cSi {index maxL k : Nat} {y : MethodName} {bytes : ByteArray} {r : Option FieldType} {frc loc fr lo : Nat} {As rest : List Value} {P : Int32 → Hp → Prop} {E : Nat → Hp → Prop} (hz : G.2.2.2.1.heap.size = gS σ0) (hg : GX σ0 σ) (cs : CSX own index y bytes maxL r k) (hM : MetY y bytes maxL r (rmG frc loc Mx σ) σ As (oI (fun r σ' => gP Mx σ (P r) σ')) (pxF Mx σ E) (Mx - gS σ) (16 * (Mx - gS σ))) (hR : frc + 1 ≤ fr ∧ 8 + (maxL + 11) + loc ≤ lo) (hle : gS σ ≤ Mx) (hk : As.length = k) (hst : st = As.reverse ++ rest) (hw : Nat.ble (rest.map fun v => v.category).sum 8 = true) (hd : decode cc pc = .ok (.invokestatic index, 3)) (hn : pc + 3 = n)
    (kx : ∀ q σ', GX σ σ' → gS σ' ≤ Mx → E q σ' → TX G (rmG fr lo Mx σ0) cc own nL ret σ' (gS σ' - gS σ0) (16 * (gS σ' - gS σ0)) pc lvs q "LongYears$Fault") (kk : ∀ (r : Int32) (σ' : Hp), GX σ σ' → gS σ' ≤ Mx → P r σ' → X G (rmG fr lo Mx σ0) cc own nL ret σ' (gS σ' - gS σ0) (16 * (gS σ' - gS σ0)) n lvs (.int r :: rest)) : X G (rmG fr lo Mx σ0) cc own nL ret σ (gS σ - gS σ0) (16 * (gS σ - gS σ0)) pc lvs st :=
  y_callS cs hM (hRc hg hR hle) hk hst hw hd hn (fun q C σ' hp => by obtain ⟨rfl, h1, h2, h3⟩ := hp; exact t_tight hz (hg.tr h1) (kx q σ' h1 h2 h3)) (fun v σ' hp => by obtain ⟨r, rfl, h1, h2, h3⟩ := hp; exact x_tight hz (hg.tr h1) (kk r σ' h1 h2 h3))
theorem g_cSl {index maxL k : Nat} {y : MethodName} {bytes : ByteArray} {r : Option FieldType} {frc loc fr lo : Nat} {As rest : List Value} {P : Int64 → Hp → Prop} {E : Nat → Hp → Prop} (hz : G.2.2.2.1.heap.size = gS σ0) (hg : GX σ0 σ) (cs : CSX own index y bytes maxL r k) (hM : MetY y bytes maxL r (rmG frc loc Mx σ) σ As (oL (fun r σ' => gP Mx σ (P r) σ')) (pxF Mx σ E) (Mx - gS σ) (16 * (Mx - gS σ))) (hR : frc + 1 ≤ fr ∧ 8 + (maxL + 11) + loc ≤ lo) (hle : gS σ ≤ Mx) (hk : As.length = k) (hst : st = As.reverse ++ rest) (hw : Nat.ble (rest.map fun v => v.category).sum 8 = true) (hd : decode cc pc = .ok (.invokestatic index, 3)) (hn : pc + 3 = n)
    (kx : ∀ q σ', GX σ σ' → gS σ' ≤ Mx → E q σ' → TX G (rmG fr lo Mx σ0) cc own nL ret σ' (gS σ' - gS σ0) (16 * (gS σ' - gS σ0)) pc lvs q "LongYears$Fault") (kk : ∀ (r : Int64) (σ' : Hp), GX σ σ' → gS σ' ≤ Mx → P r σ' → X G (rmG fr lo Mx σ0) cc own nL ret σ' (gS σ' - gS σ0) (16 * (gS σ' - gS σ0)) n lvs (.long r :: rest)) : X G (rmG fr lo Mx σ0) cc own nL ret σ (gS σ - gS σ0) (16 * (gS σ - gS σ0)) pc lvs st :=
  y_callS cs hM (hRc hg hR hle) hk hst hw hd hn (fun q C σ' hp => by obtain ⟨rfl, h1, h2, h3⟩ := hp; exact t_tight hz (hg.tr h1) (kx q σ' h1 h2 h3)) (fun v σ' hp => by obtain ⟨r, rfl, h1, h2, h3⟩ := hp; exact x_tight hz (hg.tr h1) (kk r σ' h1 h2 h3))
theorem g_cSv {index maxL k : Nat} {y : MethodName} {bytes : ByteArray} {r : Option FieldType} {frc loc fr lo : Nat} {As rest : List Value} {P : Hp → Prop} {E : Nat → Hp → Prop} (hz : G.2.2.2.1.heap.size = gS σ0) (hg : GX σ0 σ) (cs : CSX own index y bytes maxL r k) (hM : MetY y bytes maxL r (rmG frc loc Mx σ) σ As (oV (fun σ' => gP Mx σ P σ')) (pxF Mx σ E) (Mx - gS σ) (16 * (Mx - gS σ))) (hR : frc + 1 ≤ fr ∧ 8 + (maxL + 11) + loc ≤ lo) (hle : gS σ ≤ Mx) (hk : As.length = k) (hst : st = As.reverse ++ rest) (hw : Nat.ble (rest.map fun v => v.category).sum 8 = true) (hd : decode cc pc = .ok (.invokestatic index, 3)) (hn : pc + 3 = n)
    (kx : ∀ q σ', GX σ σ' → gS σ' ≤ Mx → E q σ' → TX G (rmG fr lo Mx σ0) cc own nL ret σ' (gS σ' - gS σ0) (16 * (gS σ' - gS σ0)) pc lvs q "LongYears$Fault") (kk : ∀ σ', GX σ σ' → gS σ' ≤ Mx → P σ' → X G (rmG fr lo Mx σ0) cc own nL ret σ' (gS σ' - gS σ0) (16 * (gS σ' - gS σ0)) n lvs rest) : X G (rmG fr lo Mx σ0) cc own nL ret σ (gS σ - gS σ0) (16 * (gS σ - gS σ0)) pc lvs st :=
  y_callS cs hM (hRc hg hR hle) hk hst hw hd hn (fun q C σ' hp => by obtain ⟨rfl, h1, h2, h3⟩ := hp; exact t_tight hz (hg.tr h1) (kx q σ' h1 h2 h3)) (fun v σ' hp => by obtain ⟨rfl, h1, h2, h3⟩ := hp; exact x_tight hz (hg.tr h1) (kk σ' h1 h2 h3))
theorem g_cSr {index maxL k : Nat} {y : MethodName} {bytes : ByteArray} {r : Option FieldType} {frc loc fr lo : Nat} {As rest : List Value} {P : Nat → Hp → Prop} {E : Nat → Hp → Prop} (hz : G.2.2.2.1.heap.size = gS σ0) (hg : GX σ0 σ) (cs : CSX own index y bytes maxL r k) (hM : MetY y bytes maxL r (rmG frc loc Mx σ) σ As (oR (fun r σ' => gP Mx σ (P r) σ')) (pxF Mx σ E) (Mx - gS σ) (16 * (Mx - gS σ))) (hR : frc + 1 ≤ fr ∧ 8 + (maxL + 11) + loc ≤ lo) (hle : gS σ ≤ Mx) (hk : As.length = k) (hst : st = As.reverse ++ rest) (hw : Nat.ble (rest.map fun v => v.category).sum 8 = true) (hd : decode cc pc = .ok (.invokestatic index, 3)) (hn : pc + 3 = n)
    (kx : ∀ q σ', GX σ σ' → gS σ' ≤ Mx → E q σ' → TX G (rmG fr lo Mx σ0) cc own nL ret σ' (gS σ' - gS σ0) (16 * (gS σ' - gS σ0)) pc lvs q "LongYears$Fault") (kk : ∀ (r : Nat) (σ' : Hp), GX σ σ' → gS σ' ≤ Mx → P r σ' → X G (rmG fr lo Mx σ0) cc own nL ret σ' (gS σ' - gS σ0) (16 * (gS σ' - gS σ0)) n lvs (.ref r :: rest)) : X G (rmG fr lo Mx σ0) cc own nL ret σ (gS σ - gS σ0) (16 * (gS σ - gS σ0)) pc lvs st :=
  y_callS cs hM (hRc hg hR hle) hk hst hw hd hn (fun q C σ' hp => by obtain ⟨rfl, h1, h2, h3⟩ := hp; exact t_tight hz (hg.tr h1) (kx q σ' h1 h2 h3)) (fun v σ' hp => by obtain ⟨r, rfl, h1, h2, h3⟩ := hp; exact x_tight hz (hg.tr h1) (kk r σ' h1 h2 h3))
end XG
