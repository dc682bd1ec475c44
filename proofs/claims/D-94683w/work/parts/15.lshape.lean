set_option maxRecDepth 100000
/-- a list and its array behind it -/
def AB (o c : Nat) (σ : Hp) : Prop := gT σ o = some (.inl 4) ∧ gR σ o 1 = some (o + 1) ∧ gT σ (o + 1) = some (.inr (.object "java/lang/Object", c))
theorem AB.i {o c : Nat} {σ : Hp} (h : AB o c σ) {a k : Nat} {v : Int32} : AB o c (pI σ a k v) := h
theorem AB.l {o c : Nat} {σ : Hp} (h : AB o c σ) {a k : Nat} {v : Int64} : AB o c (pL σ a k v) := h
theorem AB.sh {o c : Nat} {σ σ' : Hp} (h : AB o c σ) (hs : SH σ σ') : AB o c σ' := ⟨hs.t h.1, hs.r h.2.1, hs.t h.2.2⟩
/-- a note and its two rows behind it -/
def NB (o : Nat) (σ : Hp) : Prop := gT σ o = some (.inl 5) ∧ gR σ o 2 = some (o + 1) ∧ gT σ (o + 1) = some (.inr (.int, 8)) ∧ gR σ o 3 = some (o + 2) ∧ gT σ (o + 2) = some (.inr (.int, 8))
theorem NB.i {o : Nat} {σ : Hp} (h : NB o  σ) {a k : Nat} {v : Int32} : NB o  (pI σ a k v) := h
theorem NB.l {o : Nat} {σ : Hp} (h : NB o  σ) {a k : Nat} {v : Int64} : NB o  (pL σ a k v) := h
theorem NB.sh {o : Nat} {σ σ' : Hp} (h : NB o σ) (hs : SH σ σ') : NB o σ' := ⟨hs.t h.1, hs.r h.2.1, hs.t h.2.2.1, hs.r h.2.2.2.1, hs.t h.2.2.2.2⟩
/-- a realm and its five lists behind it -/
def RB (o : Nat) (σ : Hp) : Prop := gT σ o = some (.inl 3) ∧ (gR σ o 0 = some (o + 1) ∧ AB (o + 1) 4 σ) ∧ (gR σ o 1 = some (o + 3) ∧ AB (o + 3) 4 σ) ∧ (gR σ o 2 = some (o + 5) ∧ AB (o + 5) 6 σ) ∧ (gR σ o 3 = some (o + 7) ∧ AB (o + 7) 4 σ) ∧ (gR σ o 4 = some (o + 9) ∧ AB (o + 9) 6 σ)
theorem RB.i {o : Nat} {σ : Hp} (h : RB o  σ) {a k : Nat} {v : Int32} : RB o  (pI σ a k v) := h
theorem RB.l {o : Nat} {σ : Hp} (h : RB o  σ) {a k : Nat} {v : Int64} : RB o  (pL σ a k v) := h
theorem RB.sh {o : Nat} {σ σ' : Hp} (h : RB o σ) (hs : SH σ σ') : RB o σ' := ⟨hs.t h.1, ⟨hs.r h.2.1.1, h.2.1.2.sh hs⟩, ⟨hs.r h.2.2.1.1, h.2.2.1.2.sh hs⟩, ⟨hs.r h.2.2.2.1.1, h.2.2.2.1.2.sh hs⟩, ⟨hs.r h.2.2.2.2.1.1, h.2.2.2.2.1.2.sh hs⟩, ⟨hs.r h.2.2.2.2.2.1, h.2.2.2.2.2.2.sh hs⟩⟩
theorem RB.r0 {o : Nat} {σ : Hp} (h : RB o σ) : gR σ o 0 = some (o + 1) := h.2.1.1
theorem RB.b0 {o : Nat} {σ : Hp} (h : RB o σ) : AB (o + 1) 4 σ := h.2.1.2
theorem RB.r1 {o : Nat} {σ : Hp} (h : RB o σ) : gR σ o 1 = some (o + 3) := h.2.2.1.1
theorem RB.b1 {o : Nat} {σ : Hp} (h : RB o σ) : AB (o + 3) 4 σ := h.2.2.1.2
theorem RB.r2 {o : Nat} {σ : Hp} (h : RB o σ) : gR σ o 2 = some (o + 5) := h.2.2.2.1.1
theorem RB.b2 {o : Nat} {σ : Hp} (h : RB o σ) : AB (o + 5) 6 σ := h.2.2.2.1.2
theorem RB.r3 {o : Nat} {σ : Hp} (h : RB o σ) : gR σ o 3 = some (o + 7) := h.2.2.2.2.1.1
theorem RB.b3 {o : Nat} {σ : Hp} (h : RB o σ) : AB (o + 7) 4 σ := h.2.2.2.2.1.2
theorem RB.r4 {o : Nat} {σ : Hp} (h : RB o σ) : gR σ o 4 = some (o + 9) := h.2.2.2.2.2.1
theorem RB.b4 {o : Nat} {σ : Hp} (h : RB o σ) : AB (o + 9) 6 σ := h.2.2.2.2.2.2
/-- the object o, its rows and notes behind it, its realm c: field, cell behind o, kind, length -/
def lbTab : List (Nat × Nat × FieldType × Nat) := [(0, 1, .byte, 900), (6, 14, .long, 6), (7, 15, .object "LongYears$Note", 12), (8, 16, .object "LongYears$Note", 12), (13, 17, .int, 108), (16, 18, .int, 20), (17, 19, .int, 20), (18, 20, .int, 20), (19, 21, .int, 20), (20, 22, .array .long, 12), (21, 35, .boolean, 12), (22, 36, .int, 12), (23, 37, .int, 12)]
def LB (o c : Nat) (σ : Hp) : Prop := gT σ o = some (.inl 1) ∧ (∀ q ∈ lbTab, gR σ o q.1 = some (o + q.2.1) ∧ gT σ (o + q.2.1) = some (.inr q.2.2)) ∧ (gR σ o 4 = some (o + 2) ∧ gT σ (o + 2) = some (.inl 2) ∧ gR σ (o + 2) 8 = some o) ∧ (gR σ o 5 = some c ∧ RB c σ) ∧ (∀ k, k < 12 → gR σ (o + 15) k = some (o + 38 + 6 * k) ∧ NB (o + 38 + 6 * k) σ) ∧ (∀ k, k < 12 → gR σ (o + 16) k = some (o + 41 + 6 * k) ∧ NB (o + 41 + 6 * k) σ) ∧ ∀ k, k < 12 → gR σ (o + 22) k = some (o + 23 + k) ∧ gT σ (o + 23 + k) = some (.inr (.long, 313))
theorem LB.i {o c : Nat} {σ : Hp} (h : LB o c σ) {a k : Nat} {v : Int32} : LB o c (pI σ a k v) := h
theorem LB.l {o c : Nat} {σ : Hp} (h : LB o c σ) {a k : Nat} {v : Int64} : LB o c (pL σ a k v) := h
theorem LB.sh {o c : Nat} {σ σ' : Hp} (h : LB o c σ) (hs : SH σ σ') : LB o c σ' := ⟨hs.t h.1, fun q hq => ⟨hs.r (h.2.1 q hq).1, hs.t (h.2.1 q hq).2⟩, ⟨hs.r h.2.2.1.1, hs.t h.2.2.1.2.1, hs.r h.2.2.1.2.2⟩, ⟨hs.r h.2.2.2.1.1, h.2.2.2.1.2.sh hs⟩, fun k hk => ⟨hs.r (h.2.2.2.2.1 k hk).1, (h.2.2.2.2.1 k hk).2.sh hs⟩, fun k hk => ⟨hs.r (h.2.2.2.2.2.1 k hk).1, (h.2.2.2.2.2.1 k hk).2.sh hs⟩, fun k hk => ⟨hs.r (h.2.2.2.2.2.2 k hk).1, hs.t (h.2.2.2.2.2.2 k hk).2⟩⟩
theorem LB.r0 {o c : Nat} {σ : Hp} (h : LB o c σ) : gR σ o 0 = some (o + 1) := (h.2.1 (0, 1, .byte, 900) (List.mem_of_getElem? (i := 0) rfl)).1
theorem LB.a0 {o c : Nat} {σ : Hp} (h : LB o c σ) : gT σ (o + 1) = some (.inr (.byte, 900)) := (h.2.1 (0, 1, .byte, 900) (List.mem_of_getElem? (i := 0) rfl)).2
theorem LB.r6 {o c : Nat} {σ : Hp} (h : LB o c σ) : gR σ o 6 = some (o + 14) := (h.2.1 (6, 14, .long, 6) (List.mem_of_getElem? (i := 1) rfl)).1
theorem LB.a6 {o c : Nat} {σ : Hp} (h : LB o c σ) : gT σ (o + 14) = some (.inr (.long, 6)) := (h.2.1 (6, 14, .long, 6) (List.mem_of_getElem? (i := 1) rfl)).2
theorem LB.r7 {o c : Nat} {σ : Hp} (h : LB o c σ) : gR σ o 7 = some (o + 15) := (h.2.1 (7, 15, .object "LongYears$Note", 12) (List.mem_of_getElem? (i := 2) rfl)).1
theorem LB.a7 {o c : Nat} {σ : Hp} (h : LB o c σ) : gT σ (o + 15) = some (.inr (.object "LongYears$Note", 12)) := (h.2.1 (7, 15, .object "LongYears$Note", 12) (List.mem_of_getElem? (i := 2) rfl)).2
theorem LB.r8 {o c : Nat} {σ : Hp} (h : LB o c σ) : gR σ o 8 = some (o + 16) := (h.2.1 (8, 16, .object "LongYears$Note", 12) (List.mem_of_getElem? (i := 3) rfl)).1
theorem LB.a8 {o c : Nat} {σ : Hp} (h : LB o c σ) : gT σ (o + 16) = some (.inr (.object "LongYears$Note", 12)) := (h.2.1 (8, 16, .object "LongYears$Note", 12) (List.mem_of_getElem? (i := 3) rfl)).2
theorem LB.r13 {o c : Nat} {σ : Hp} (h : LB o c σ) : gR σ o 13 = some (o + 17) := (h.2.1 (13, 17, .int, 108) (List.mem_of_getElem? (i := 4) rfl)).1
theorem LB.a13 {o c : Nat} {σ : Hp} (h : LB o c σ) : gT σ (o + 17) = some (.inr (.int, 108)) := (h.2.1 (13, 17, .int, 108) (List.mem_of_getElem? (i := 4) rfl)).2
theorem LB.r16 {o c : Nat} {σ : Hp} (h : LB o c σ) : gR σ o 16 = some (o + 18) := (h.2.1 (16, 18, .int, 20) (List.mem_of_getElem? (i := 5) rfl)).1
theorem LB.a16 {o c : Nat} {σ : Hp} (h : LB o c σ) : gT σ (o + 18) = some (.inr (.int, 20)) := (h.2.1 (16, 18, .int, 20) (List.mem_of_getElem? (i := 5) rfl)).2
theorem LB.r17 {o c : Nat} {σ : Hp} (h : LB o c σ) : gR σ o 17 = some (o + 19) := (h.2.1 (17, 19, .int, 20) (List.mem_of_getElem? (i := 6) rfl)).1
theorem LB.a17 {o c : Nat} {σ : Hp} (h : LB o c σ) : gT σ (o + 19) = some (.inr (.int, 20)) := (h.2.1 (17, 19, .int, 20) (List.mem_of_getElem? (i := 6) rfl)).2
theorem LB.r18 {o c : Nat} {σ : Hp} (h : LB o c σ) : gR σ o 18 = some (o + 20) := (h.2.1 (18, 20, .int, 20) (List.mem_of_getElem? (i := 7) rfl)).1
theorem LB.a18 {o c : Nat} {σ : Hp} (h : LB o c σ) : gT σ (o + 20) = some (.inr (.int, 20)) := (h.2.1 (18, 20, .int, 20) (List.mem_of_getElem? (i := 7) rfl)).2
theorem LB.r19 {o c : Nat} {σ : Hp} (h : LB o c σ) : gR σ o 19 = some (o + 21) := (h.2.1 (19, 21, .int, 20) (List.mem_of_getElem? (i := 8) rfl)).1
theorem LB.a19 {o c : Nat} {σ : Hp} (h : LB o c σ) : gT σ (o + 21) = some (.inr (.int, 20)) := (h.2.1 (19, 21, .int, 20) (List.mem_of_getElem? (i := 8) rfl)).2
theorem LB.r20 {o c : Nat} {σ : Hp} (h : LB o c σ) : gR σ o 20 = some (o + 22) := (h.2.1 (20, 22, .array .long, 12) (List.mem_of_getElem? (i := 9) rfl)).1
theorem LB.a20 {o c : Nat} {σ : Hp} (h : LB o c σ) : gT σ (o + 22) = some (.inr (.array .long, 12)) := (h.2.1 (20, 22, .array .long, 12) (List.mem_of_getElem? (i := 9) rfl)).2
theorem LB.r21 {o c : Nat} {σ : Hp} (h : LB o c σ) : gR σ o 21 = some (o + 35) := (h.2.1 (21, 35, .boolean, 12) (List.mem_of_getElem? (i := 10) rfl)).1
theorem LB.a21 {o c : Nat} {σ : Hp} (h : LB o c σ) : gT σ (o + 35) = some (.inr (.boolean, 12)) := (h.2.1 (21, 35, .boolean, 12) (List.mem_of_getElem? (i := 10) rfl)).2
theorem LB.r22 {o c : Nat} {σ : Hp} (h : LB o c σ) : gR σ o 22 = some (o + 36) := (h.2.1 (22, 36, .int, 12) (List.mem_of_getElem? (i := 11) rfl)).1
theorem LB.a22 {o c : Nat} {σ : Hp} (h : LB o c σ) : gT σ (o + 36) = some (.inr (.int, 12)) := (h.2.1 (22, 36, .int, 12) (List.mem_of_getElem? (i := 11) rfl)).2
theorem LB.r23 {o c : Nat} {σ : Hp} (h : LB o c σ) : gR σ o 23 = some (o + 37) := (h.2.1 (23, 37, .int, 12) (List.mem_of_getElem? (i := 12) rfl)).1
theorem LB.a23 {o c : Nat} {σ : Hp} (h : LB o c σ) : gT σ (o + 37) = some (.inr (.int, 12)) := (h.2.1 (23, 37, .int, 12) (List.mem_of_getElem? (i := 12) rfl)).2
theorem LB.r4 {o c : Nat} {σ : Hp} (h : LB o c σ) : gR σ o 4 = some (o + 2) := h.2.2.1.1
theorem LB.r5 {o c : Nat} {σ : Hp} (h : LB o c σ) : gR σ o 5 = some c := h.2.2.2.1.1
theorem LB.rb {o c : Nat} {σ : Hp} (h : LB o c σ) : RB c σ := h.2.2.2.1.2
theorem vin_lt {i : Int32} {n : Nat} (h : vp_in i n) : i.toNatClampNeg < n := Nat.not_le.mp fun q => h (Or.inr q)
theorem LB.n7 {o c : Nat} {σ : Hp} (h : LB o c σ) {i : Int32} (hi : vp_in i 12) : gR σ (o + 15) i.toNatClampNeg = some (o + 38 + 6 * i.toNatClampNeg) := (h.2.2.2.2.1 _ (vin_lt hi)).1
theorem LB.b7 {o c : Nat} {σ : Hp} (h : LB o c σ) {i : Int32} (hi : vp_in i 12) : NB (o + 38 + 6 * i.toNatClampNeg) σ := (h.2.2.2.2.1 _ (vin_lt hi)).2
theorem LB.n8 {o c : Nat} {σ : Hp} (h : LB o c σ) {i : Int32} (hi : vp_in i 12) : gR σ (o + 16) i.toNatClampNeg = some (o + 41 + 6 * i.toNatClampNeg) := (h.2.2.2.2.2.1 _ (vin_lt hi)).1
theorem LB.b8 {o c : Nat} {σ : Hp} (h : LB o c σ) {i : Int32} (hi : vp_in i 12) : NB (o + 41 + 6 * i.toNatClampNeg) σ := (h.2.2.2.2.2.1 _ (vin_lt hi)).2
theorem LB.n20 {o c : Nat} {σ : Hp} (h : LB o c σ) {i : Int32} (hi : vp_in i 12) : gR σ (o + 22) i.toNatClampNeg = some (o + 23 + i.toNatClampNeg) := (h.2.2.2.2.2.2 _ (vin_lt hi)).1
theorem LB.b20 {o c : Nat} {σ : Hp} (h : LB o c σ) {i : Int32} (hi : vp_in i 12) : gT σ (o + 23 + i.toNatClampNeg) = some (.inr (.long, 313)) := (h.2.2.2.2.2.2 _ (vin_lt hi)).2
/-- the reader of the object c, with d the realm it makes -/
def EB (o c d : Nat) (σ : Hp) : Prop := gT σ o = some (.inl 2) ∧ gR σ o 8 = some c ∧ gT σ c = some (.inl 1) ∧ gR σ c 0 = some (c + 1) ∧ gT σ (c + 1) = some (.inr (.byte, 900)) ∧ gR σ o 7 = some d ∧ RB d σ
theorem EB.i {o c d : Nat} {σ : Hp} (h : EB o c d σ) {a k : Nat} {v : Int32} : EB o c d (pI σ a k v) := h
theorem EB.l {o c d : Nat} {σ : Hp} (h : EB o c d σ) {a k : Nat} {v : Int64} : EB o c d (pL σ a k v) := h
theorem EB.sh {o c d : Nat} {σ σ' : Hp} (h : EB o c d σ) (hs : SH σ σ') : EB o c d σ' := ⟨hs.t h.1, hs.r h.2.1, hs.t h.2.2.1, hs.r h.2.2.2.1, hs.t h.2.2.2.2.1, hs.r h.2.2.2.2.2.1, h.2.2.2.2.2.2.sh hs⟩
theorem OBnm {σ : Hp} {a ci : Nat} {cis : List Nat} (h : OB ci a σ) (hm : ci ∈ cis) : ∃ ci ∈ cis, gT σ a = some (.inl ci) := ⟨ci, hm, h⟩
def nmd : List Nat := [5, 6, 7, 8, 9, 10, 11]
def dds : List Nat := [9, 10, 11]
/-- an object that has a name; one of the deeds -/
def isNm (σ : Hp) (a : Nat) : Prop := ∃ ci ∈ nmd, gT σ a = some (.inl ci)
def isDd (σ : Hp) (a : Nat) : Prop := ∃ ci ∈ dds, gT σ a = some (.inl ci)

theorem fld_X1_328 : ∀ ci ∈ dds, FL RX1 328 ci 1 ∧ clTy ci 1 = .long := List.forall_mem_cons.mpr ⟨⟨fl_X1_328_9, rfl⟩, List.forall_mem_cons.mpr ⟨⟨fl_X1_328_10, rfl⟩, List.forall_mem_cons.mpr ⟨⟨fl_X1_328_11, rfl⟩, fun _ h => (List.not_mem_nil h).elim⟩⟩⟩
theorem fld_X1_335 : ∀ ci ∈ dds, FL RX1 335 ci 3 ∧ isI (clTy ci 3) = true := List.forall_mem_cons.mpr ⟨⟨fl_X1_335_9, rfl⟩, List.forall_mem_cons.mpr ⟨⟨fl_X1_335_10, rfl⟩, List.forall_mem_cons.mpr ⟨⟨fl_X1_335_11, rfl⟩, fun _ h => (List.not_mem_nil h).elim⟩⟩⟩
theorem fld_X10_9 : ∀ ci ∈ dds, FL RX10 9 ci 1 ∧ clTy ci 1 = .long := List.forall_mem_cons.mpr ⟨⟨fl_X10_9_9, rfl⟩, List.forall_mem_cons.mpr ⟨⟨fl_X10_9_10, rfl⟩, List.forall_mem_cons.mpr ⟨⟨fl_X10_9_11, rfl⟩, fun _ h => (List.not_mem_nil h).elim⟩⟩⟩
theorem fld_X10_15 : ∀ ci ∈ dds, FL RX10 15 ci 2 ∧ isI (clTy ci 2) = true := List.forall_mem_cons.mpr ⟨⟨fl_X10_15_9, rfl⟩, List.forall_mem_cons.mpr ⟨⟨fl_X10_15_10, rfl⟩, List.forall_mem_cons.mpr ⟨⟨fl_X10_15_11, rfl⟩, fun _ h => (List.not_mem_nil h).elim⟩⟩⟩
theorem flm_X4_9 : ∀ ci ∈ nmd, FL RX4 9 ci 0 ∧ isI (clTy ci 0) = true := List.forall_mem_cons.mpr ⟨⟨fl_X4_9_5, rfl⟩, List.forall_mem_cons.mpr ⟨⟨fl_X4_9_6, rfl⟩, List.forall_mem_cons.mpr ⟨⟨fl_X4_9_7, rfl⟩, List.forall_mem_cons.mpr ⟨⟨fl_X4_9_8, rfl⟩, List.forall_mem_cons.mpr ⟨⟨fl_X4_9_9, rfl⟩, List.forall_mem_cons.mpr ⟨⟨fl_X4_9_10, rfl⟩, List.forall_mem_cons.mpr ⟨⟨fl_X4_9_11, rfl⟩, fun _ h => (List.not_mem_nil h).elim⟩⟩⟩⟩⟩⟩⟩
theorem fld_X4_9 : ∀ ci ∈ dds, FL RX4 9 ci 0 ∧ isI (clTy ci 0) = true := List.forall_mem_cons.mpr ⟨⟨fl_X4_9_9, rfl⟩, List.forall_mem_cons.mpr ⟨⟨fl_X4_9_10, rfl⟩, List.forall_mem_cons.mpr ⟨⟨fl_X4_9_11, rfl⟩, fun _ h => (List.not_mem_nil h).elim⟩⟩⟩
theorem fld_X2_262 : ∀ ci ∈ dds, FL RX2 262 ci 3 ∧ isI (clTy ci 3) = true := List.forall_mem_cons.mpr ⟨⟨fl_X2_262_9, rfl⟩, List.forall_mem_cons.mpr ⟨⟨fl_X2_262_10, rfl⟩, List.forall_mem_cons.mpr ⟨⟨fl_X2_262_11, rfl⟩, fun _ h => (List.not_mem_nil h).elim⟩⟩⟩
theorem cxd_X1_222 : ∀ ci ∈ dds, CX RX1 222 ci := List.forall_mem_cons.mpr ⟨cx_X1_222_9, List.forall_mem_cons.mpr ⟨cx_X1_222_10, List.forall_mem_cons.mpr ⟨cx_X1_222_11, fun _ h => (List.not_mem_nil h).elim⟩⟩⟩
theorem cxm_X4_10 : ∀ ci ∈ nmd, CX RX4 10 ci := List.forall_mem_cons.mpr ⟨cx_X4_10_5, List.forall_mem_cons.mpr ⟨cx_X4_10_6, List.forall_mem_cons.mpr ⟨cx_X4_10_7, List.forall_mem_cons.mpr ⟨cx_X4_10_8, List.forall_mem_cons.mpr ⟨cx_X4_10_9, List.forall_mem_cons.mpr ⟨cx_X4_10_10, List.forall_mem_cons.mpr ⟨cx_X4_10_11, fun _ h => (List.not_mem_nil h).elim⟩⟩⟩⟩⟩⟩⟩
theorem cxd_X2_253 : ∀ ci ∈ dds, CX RX2 253 ci := List.forall_mem_cons.mpr ⟨cx_X2_253_9, List.forall_mem_cons.mpr ⟨cx_X2_253_10, List.forall_mem_cons.mpr ⟨cx_X2_253_11, fun _ h => (List.not_mem_nil h).elim⟩⟩⟩
