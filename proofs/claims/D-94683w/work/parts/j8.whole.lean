set_option maxRecDepth 100000
/-! THE CLAIM OUT OF ONE WALK OF THE LAW'S BODY. Your part is whole_start (and what it stands on); all else here is the same for every law, but numbers. -/
def R_law : String := "LongYearsLaw"
def lw_P (b : Addr) (xs : List Int32) (args : Array Value) (s : State) : Prop := args = #[.ref b] ∧ s.IntsAt b xs ∧ xs.length ≤ 384 ∧ (Jvm.Cond.and given_1 narrow_1).before args s = true
def lw_Q (_ : Array Value) (s : State) (o : Outcome) (t : State) : Prop := o = .returned (some (.int 1)) ∧ Framed s o t [] 603072 7198826
def lw_Z (below : List Frame) (a : Array Value) (s : State) : State → Prop := fun t => ∃ o, t.status = .running ∧ Ended t below o ∧ lw_Q a s o t
/-- the law's own end, with 1 on the stack, nothing written that was there before, its room as the claim has it -/
theorem lw_ret {p : Program} {l : Launch} {e : Env} {s : State} {m : MethodId} {below : List Frame} {meth : Method} {c : Code} {b : Nat} (hx : p.tables.exec = Jvm.exec) (hb : c.code = code) (hr : meth.sig.returnType = ret) (hlocks : meth.locks = false) {pc : Nat} {H : Heap} {ls : Array Slot} (hdg : decode code pc = .ok (.ireturn, 1)) : W p l e room_1 s m #[Value.ref b] below meth c H [] 603072 7198826 (lw_Z below #[Value.ref b] s) (F0 m pc ls [.int 1]) := by
  intro T hT X
  obtain ⟨fs, hret, hrun, hended, hW, hframe⟩ := X.leave (v := some (.int 1)) (hlocks := hlocks) (fun h => by rw [hr] at h; cases h)
  have hmeth' : T.vm.method? m = some meth := X.method'
  refine ⟨T.setFrames fs, ?_, .returned (some (.int 1)), hrun, hended, rfl, ⟨_, rfl⟩, hW, hframe⟩
  jvm_step X.here [X.here.top, hx, hb, hdg, hmeth', hr, ret, narrow_b1]
  (try refine ⟨rfl, ?_⟩); (try refine ⟨rfl, ?_⟩)
  first | (intro acts; rw [hret _ acts rfl rfl rfl]) | rw [hret _ _ rfl rfl rfl]
  exact Steps.refl _
/-- what holds at the law's entry: the machine, the code, the tables' words (any of lw_tbl by 'hts w (by decide +kernel)'), the script of L ints xs at the cell b, what the Statement gives of the start (any of its parts by flat_of_before) -/
def lw_At (p : Program) (s : State) (m : MethodId) (meth : Method) (c : Code) (b L : Nat) (xs : Nat → Int32) : Prop :=
  p.tables.exec = Jvm.exec ∧ c.code = code ∧ meth.sig.returnType = ret ∧ c.maxLocals = 7 ∧ s.vm.findClass R_law = some m.cls ∧ (∀ w ∈ lw_tbl, w.before #[Value.ref b] s = true) ∧ va_X b L xs s s.heap ∧ b < s.heap.size ∧ meth.locks = false ∧ (Jvm.Cond.and given_1 narrow_1).before #[Value.ref b] s = true
/-! THE CLASSES AND ARRAY CLASSES OF THE START -/
theorem st_cl {args : Array Value} {s : State} (hall : ∀ w ∈ lw_all, w.before args s = true) : ∀ (k : Nat) (q : vw_C), vwCl[k]? = some q → ∃ (cC : ClassId) (iS : Nat → Nat), u_Kn s q.1 q.2.1 q.2.2 cC iS := by
  intro k q hq
  match k, hq with
  | 0, hq => cases hq; exact u_known (C := RX6) (T := TX6) (N := 76) (n := 76) hall in_X6 (hall _ q1505)
  | 1, hq => cases hq; exact u_known (C := RX1) (T := TX1) (N := 27) (n := 27) hall in_X1 (hall _ q169)
  | 2, hq => cases hq; exact u_known (C := RX2) (T := TX2) (N := 9) (n := 9) hall in_X2 (hall _ q177)
  | 3, hq => cases hq; exact u_known (C := RX3) (T := TX3) (N := 14) (n := 14) hall in_X3 (hall _ q212)
  | 4, hq => cases hq; exact u_known (C := RJ2) (T := TJ2) (N := 3) (n := 3) hall in_J2 (hall _ q218)
  | 5, hq => cases hq; exact u_known (C := RX5) (T := TX5) (N := 4) (n := 4) hall in_X5 (hall _ q314)
  | 6, hq => cases hq; exact u_known (C := RX8) (T := TX8) (N := 4) (n := 4) hall in_X8 (hall _ q674)
  | 7, hq => cases hq; exact u_known (C := RX13) (T := TX13) (N := 2) (n := 2) hall in_X13 (hall _ q924)
  | 8, hq => cases hq; exact u_known (C := RX9) (T := TX9) (N := 3) (n := 3) hall in_X9 (hall _ q796)
  | 9, hq => cases hq; exact u_known (C := RX10) (T := TX10) (N := 4) (n := 4) hall in_X10 (hall _ q882)
  | 10, hq => cases hq; exact u_known (C := RX11) (T := TX11) (N := 4) (n := 4) hall in_X11 (hall _ q852)
  | 11, hq => cases hq; exact u_known (C := RX12) (T := TX12) (N := 4) (n := 4) hall in_X12 (hall _ q890)
  | 12, hq => cases hq; exact u_known (C := RX15) (T := TX15) (N := 1) (n := 1) hall in_X15 (hall _ q954)
  | 13, hq => cases hq; exact u_known (C := RX16) (T := TX16) (N := 1) (n := 1) hall in_X16 (hall _ q975)
  | 14, hq => cases hq; exact u_known (C := RX17) (T := TX17) (N := 1) (n := 1) hall in_X17 (hall _ q1006)
  | 15, hq => cases hq; exact u_known (C := RX18) (T := TX18) (N := 3) (n := 3) hall in_X18 (hall _ q985)
  | 16, hq => cases hq; exact u_known (C := RX7) (T := TX7) (N := 8) (n := 8) hall in_X7 (hall _ q595)
  | k + 17, hq => simp [vwCl] at hq
theorem st_K {args : Array Value} {s : State} (hall : ∀ w ∈ lw_all, w.before args s = true) (hts : ∀ w ∈ lw_tbl, w.before args s = true) : ∃ D : DD, va_K (D.1, D.2.1) vwCl (tysOf D.2.2) s := by
  have h1 : ∀ k : Nat, ∃ x : ClassId × (Nat → Nat), ∀ q : vw_C, vwCl[k]? = some q → u_Kn s q.1 q.2.1 q.2.2 x.1 x.2 := fun k => by
    by_cases hk : ∃ q : vw_C, vwCl[k]? = some q
    · obtain ⟨q, hq⟩ := hk
      obtain ⟨cC, iS, h⟩ := st_cl hall k q hq
      exact ⟨(cC, iS), fun q' hq' => by rw [hq] at hq'; cases hq'; exact h⟩
    · exact ⟨(0, fun _ => 0), fun q hq => absurd ⟨q, hq⟩ hk⟩
  have h2 : ∀ ty : FieldType, ∃ cA : ClassId, (ty = .int ∨ ty = .long ∨ ty = .boolean ∨ ty = .byte ∨ ty = .object "java/lang/Object" ∨ ty = .object "LongYears$Note" ∨ ty = .array .long) → ArrOfT s cA ty ∧ va_RA s cA ty := fun ty => by
    by_cases ht : (ty = .int ∨ ty = .long ∨ ty = .boolean ∨ ty = .byte ∨ ty = .object "java/lang/Object" ∨ ty = .object "LongYears$Note" ∨ ty = .array .long)
    · rcases ht with rfl | rfl | rfl | rfl | rfl | rfl | rfl
      · obtain ⟨cA, kA, comp, f1, f2, f3⟩ := Cond.arrayClass_spec (hall _ q339)
        exact ⟨cA, fun _ => ⟨fun N z => ⟨(fun k h => by cases h), kA, f2, comp, f3⟩, f1⟩⟩
      · obtain ⟨cA, kA, comp, f1, f2, f3⟩ := Cond.arrayClass_spec (hall _ q338)
        exact ⟨cA, fun _ => ⟨fun N z => ⟨(fun k h => by cases h), kA, f2, comp, f3⟩, f1⟩⟩
      · obtain ⟨cA, kA, comp, f1, f2, f3⟩ := Cond.arrayClass_spec (hall _ q340)
        exact ⟨cA, fun _ => ⟨fun N z => ⟨(fun k h => by cases h), kA, f2, comp, f3⟩, f1⟩⟩
      · obtain ⟨cA, kA, comp, f1, f2, f3⟩ := Cond.arrayClass_spec (hall _ q210)
        exact ⟨cA, fun _ => ⟨fun N z => ⟨(fun k h => by cases h), kA, f2, comp, f3⟩, f1⟩⟩
      · obtain ⟨comp, cA, kA, f1, f2, f3, f4, f5⟩ := Cond.arrayOver_spec (hts _ q230)
        exact ⟨cA, fun _ => ⟨fun N z => ⟨(fun k h => by cases h), kA, f3, comp, f4⟩, kA, comp, f3, f4, f1, f5⟩⟩
      · obtain ⟨comp, cA, kA, f1, f2, f3, f4, f5⟩ := Cond.arrayOver_spec (hts _ q311)
        exact ⟨cA, fun _ => ⟨fun N z => ⟨(fun k h => by cases h), kA, f3, comp, f4⟩, kA, comp, f3, f4, f1, f5⟩⟩
      · obtain ⟨comp, cA, kA, f1, f2, f3, f4⟩ := Cond.arrayOver_specA (hts _ q313)
        exact ⟨cA, fun _ => ⟨fun N z => ⟨(fun k h => by cases h), kA, f2, comp, f3⟩, f4⟩⟩
    · exact ⟨0, fun h => absurd h ht⟩
  refine ⟨(fun k => (Classical.choose (h1 k)).1, fun k => (Classical.choose (h1 k)).2, fun ty => Classical.choose (h2 ty)), fun k q hq => Classical.choose_spec (h1 k) q hq, fun k q hq => ?_⟩
  have g : ∀ ty : FieldType, (ty = .int ∨ ty = .long ∨ ty = .boolean ∨ ty = .byte ∨ ty = .object "java/lang/Object" ∨ ty = .object "LongYears$Note" ∨ ty = .array .long) → ArrOfT s (Classical.choose (h2 ty)) ty ∧ va_RA s (Classical.choose (h2 ty)) ty := fun ty => Classical.choose_spec (h2 ty)
  match k, hq with
  | 0, hq => cases hq; exact g _ (Or.inl rfl)
  | 1, hq => cases hq; exact g _ (Or.inr (Or.inl rfl))
  | 2, hq => cases hq; exact g _ (Or.inr (Or.inr (Or.inl rfl)))
  | 3, hq => cases hq; exact g _ (Or.inr (Or.inr (Or.inr (Or.inl rfl))))
  | 4, hq => cases hq; exact g _ (Or.inr (Or.inr (Or.inr (Or.inr (Or.inl rfl)))))
  | 5, hq => cases hq; exact g _ (Or.inr (Or.inr (Or.inr (Or.inr (Or.inr (Or.inl rfl))))))
  | 6, hq => cases hq; exact g _ (Or.inr (Or.inr (Or.inr (Or.inr (Or.inr (Or.inr rfl))))))
  | k + 7, hq => simp [tysOf] at hq
/-- the law's body from its start -/
theorem law_x {G : XE} {b L o : Nat} {xs : Nat → Int32} {σ0 : Hp} (hs : SCR G b L xs) (hL : L ≤ 384) (ho : gS σ0 = o) (w0 : WF σ0) (hend : ∀ (s : Hp) (lvs : List (Nat × Value)) (cells slots : Nat), cells ≤ 603072 → slots ≤ 7198826 → X G room_1 cL_law RX0 7 (some .boolean) s cells slots 2059 lvs []) : X G room_1 cL_law RX0 7 (some .boolean) σ0 0 0 0 [(0, .ref b)] [] := by
  subst ho
  refine x_new nx_X0_8 (by decide) dL_law_0 (n := 3) rfl ?_
  refine x_dup dL_law_3 (n := 4) rfl rfl ?_
  refine x_callI (mc := 109) (ms := 5520) (As := []) (rest := [.ref (gS σ0)]) ci_X0_17 (met_X1_init (gS σ0) σ0 (pN σ0 (.inl 1)) rfl gT_new (fun i => by rw [gI_pN, if_pos rfl]) ⟨fun a ha => ⟨by rw [gT_pN, if_neg (by omega)], fun i => ⟨by rw [gR_pN, if_neg (by omega)], by rw [gI_pN, if_neg (by omega)], by rw [gL_pN, if_neg (by omega)]⟩⟩, fun w a ha => ?_⟩) (by decide) rfl rfl rfl dL_law_4 (n := 7) rfl (fun s1 n1 => ?_)
  · have ha : gS σ0 + 1 ≤ a := ha
    rw [gT_pN, if_neg (by omega)]
    exact w a (by omega)
  have z1 : gS s1 = gS σ0 + 110 := n1.1.1
  have w1 : WF s1 := n1.1.2.2.2.2.2.2.2.2 w0
  have L1 : RepL (gS σ0) (gS σ0 + 3) (gS s1 + 34) s1 S00 := repL0 n1
  refine x_astore_n (lvs' := [(1, .ref (gS σ0)), (0, .ref b)]) dL_law_7 (n := 8) rfl rfl (by decide) rfl ?_
  refine x_new nx_X0_18 (by decide) dL_law_8 (n := 11) rfl ?_
  refine x_dup dL_law_11 (n := 12) rfl rfl ?_
  refine x_callI (mc := 32) (ms := 242450) (As := []) (rest := [.ref (gS s1)]) ci_X0_20 (met_X6_init (gS s1) s1 (pN s1 (.inl 0)) (fun σ' => RepM (gS s1) σ' S00 ∧ ∀ a, a < gS s1 → gT σ' a = gT s1 a ∧ ∀ i, gR σ' a i = gR s1 a i ∧ gI σ' a i = gI s1 a i ∧ gL σ' a i = gL s1 a i) (mi0 w1) (fun s h => repM0 h (fun σ' _ hr hk => ⟨hr, hk⟩))) (by decide) rfl rfl rfl dL_law_12 (n := 15) rfl (fun s2 q2 => ?_)
  obtain ⟨s, mi, sh, M2, k2⟩ := q2
  have z2 : gS s2 = gS s1 + 33 := by rw [sh.1, mi.1]
  refine x_astore_n (lvs' := [(2, .ref (gS s1)), (1, .ref (gS σ0)), (0, .ref b)]) dL_law_15 (n := 16) rfl rfl (by decide) rfl ?_
  refine x_iconst dL_law_16 (n := 17) rfl ic_1 ?_
  refine x_newa (atype := .long) (N := 1) q338 rfl at_long ⟨rfl, by decide, by decide⟩ (by decide) rfl (by decide) (by decide) dL_law_17 (n := 19) rfl ?_
  refine x_astore_n (lvs' := [(3, .ref (gS s2)), (2, .ref (gS s1)), (1, .ref (gS σ0)), (0, .ref b)]) dL_law_19 (n := 20) rfl rfl (by decide) rfl ?_
  refine x_iconst dL_law_20 (n := 21) rfl ic_0 ?_
  refine x_istore (lvs' := [(4, .int 0), (3, .ref (gS s2)), (2, .ref (gS s1)), (1, .ref (gS σ0)), (0, .ref b)]) dL_law_21 (n := 23) rfl (by decide) rfl ?_
  refine x_widen (k1 := 300 + 3710 * 0) (k2 := 260000 + 59400 * 0) (by decide) (by decide) ?_
  have kp3 : ∀ a, a < gS s2 → gT (pN s2 (.inr (.long, 1))) a = gT s2 a ∧ ∀ i, gR (pN s2 (.inr (.long, 1))) a i = gR s2 a i ∧ gI (pN s2 (.inr (.long, 1))) a i = gI s2 a i ∧ gL (pN s2 (.inr (.long, 1))) a i = gL s2 a i := fun a ha => ⟨by rw [gT_pN, if_neg (by omega)], fun i => ⟨by rw [gR_pN, if_neg (by omega)], by rw [gI_pN, if_neg (by omega)], by rw [gL_pN, if_neg (by omega)]⟩⟩
  have L3 : RepL (gS σ0) (gS σ0 + 3) (gS s1 + 34) (pN s2 (.inr (.long, 1))) S00 := (L1.fr ⟨by omega, fun a ha _ => k2 a ha⟩).fr ⟨Nat.le_succ _, fun a ha _ => kp3 a ha⟩
  have M3 : RepM (gS s1) (pN s2 (.inr (.long, 1))) S00 := M2.fr ⟨Nat.le_succ _, fun a ha _ => kp3 a ha⟩
  refine x_sub (lvs' := [(0, .ref b), (1, .ref (gS σ0)), (2, .ref (gS s1)), (3, .ref (gS s2)), (4, .int (Int32.ofNat (6 * 0)))]) [4, 3, 2, 1, 0] rfl ?_
  exact law_loop hs hL hend L 0 (gS σ0 + 3) _ S00 (by omega) (by omega) ⟨z1, z2, by rw [gS_pN]; omega, gT_new, L3, M3, ok00⟩
/-- from the entry, for every script of at most 384 ints, the law comes to its end with true -/
theorem whole_start {p : Program} {e : Env} {s : State} {m : MethodId} {below : List Frame} {meth : Method} {c : Code} (l : Launch) (hflags : l.flags = flags0) {b L : Nat} {xs : Nat → Int32} (hL : L ≤ 384) (C0 : lw_At p s m meth c b L xs) : W p l e room_1 s m #[Value.ref b] below meth c s.heap [] 0 0 (lw_Z below #[Value.ref b] s) (entryFrame m ([Value.ref b] : List Value).toArray 7) := by
  obtain ⟨hx, hb, hr, hml, hown, hts, hX, hbl, hlocks, hgv⟩ := id C0
  have hall : ∀ w ∈ lw_all, w.before #[Value.ref b] s = true := fun w hw => hts w (lw_all_tbl hw)
  obtain ⟨D, hK⟩ := st_K hall hts
  have hl := lv_entry ([.ref b]) (n := 7) (Nat.le_of_ble_eq_true rfl)
  rw [lg_entry_eq]
  generalize (lg_sl ([.ref b]) ++ List.replicate (7 - (lg_sl ([.ref b])).length) Slot.unset).toArray = ls at hl ⊢
  have hl : lv_has ls 7 [(0, .ref b)] := hl
  have hs : SCR (p, l, e, s, m, #[Value.ref b], below, meth, c, s.heap.size, D, lw_Z below #[Value.ref b] s) b L xs := ⟨hX, hbl⟩
  refine law_x (σ0 := (s.heap.size, fun _ => none, fun _ _ => none, fun _ _ => 0, fun _ _ => 0)) hs hL rfl (fun _ _ => rfl) ?_ ⟨hx, hb, hml, hown, hall, hr, hlocks, hflags⟩ s.heap [] ls ⟨hK, ⟨rfl, fun a => trivial⟩, fun a t h => (by cases h), Nat.le_refl _, Nat.le_refl _, fun _ _ => rfl, fun q h => absurd h List.not_mem_nil, s, b, hts, hgv, State.WarmedH.refl s, rfl, fun _ _ => rfl⟩ hl
  intro σ lvs cells slots hc hs
  refine x_iconst dL_law_2059 (n := 2060) rfl ic_1 ?_
  intro hF H locs ls hB hl
  refine va_forget (fun q hq => hB.2.2.2.2.2.2.1 q hq) (W.widen (k := 603072) (n := 7198826) hc hs ?_)
  exact lw_ret hx hb hr hlocks dL_law_2060
set_option maxHeartbeats 4000000 in
theorem lw_walk (l : Launch) (hflags : l.flags = flags0) (b : Addr) (xs : List Int32) : MetFree l x (headSpec (Jvm.Cond.code x code maxLocals ret :: tables_1) room_1) (lw_P b xs) (fun _ _ _ _ _ => True) lw_Q := by
  refine MetFree.of_bodyS (code := code) (maxLocals := maxLocals) (ret := ret) (by decide) ?_ ?_
  · intro args s m h hn
    obtain ⟨meth, c, h1, h2, h3, h4, h5, h6, -, -⟩ := Cond.code_spec hn (atoms_spec (ws := Jvm.Cond.code x code maxLocals ret :: tables_1) h _ List.mem_cons_self)
    exact ⟨meth, c, h1, h2, h3, h4, h5, h6⟩
  · intro p e s m args below meth c s₁ B hml0 hP _
    obtain ⟨rfl, hx, hbd, hgv⟩ := hP
    obtain ⟨scr, harrAt, hlist, hof, hsmall⟩ := hx
    obtain ⟨hcb, hkn, -, -⟩ := State.arrayAt?_spec harrAt
    have hown : s.vm.findClass R_law = some m.cls := findClass_of_methodNamed B.named
    have hts0 : ∀ c ∈ (Jvm.Cond.code x code maxLocals ret :: tables_1), c.before #[Value.ref b] s = true := atoms_spec (ws := Jvm.Cond.code x code maxLocals ret :: tables_1) B.pre
    have hts : ∀ w ∈ lw_tbl, w.before #[Value.ref b] s = true := k2_hts_sels lw_privs (fun w hw => hts0 w (List.mem_cons_of_mem _ hw)) lw_privs_ok
    have hml : c.maxLocals = 7 := B.maxLocals_eq (hts0 _ List.mem_cons_self)
    have X₀ : Stand p l e room_1 s m #[Value.ref b] below meth c s₁ [] 0 0 := Stand.of_body B
    have hh0 : s₁.heap = s.heap := by rw [B.state]; rfl
    have hsz : scr.slots.size = xs.length := by rw [← Array.length_toList, hlist, List.length_map]
    have hval : ∀ j : Nat, j < xs.length → scr.slots[j]? = some (.int (xs.getD j 0)) := fun j hj => by
      rw [← Array.getElem?_toList, hlist]
      simp [hj]
    have hbl : b < s.heap.size := (Array.getElem?_eq_some_iff.mp hcb).1
    have hX : va_X b xs.length (fun j => xs.getD j 0) s s.heap := ⟨scr, hcb, hof, hkn, hsz, hval⟩
    have K : W p l e room_1 s m #[Value.ref b] below meth c s₁.heap [] 0 0 (lw_Z below #[Value.ref b] s) (entryFrame m ([Value.ref b] : List Value).toArray 7) := by
      rw [hh0]
      exact whole_start l hflags hbd ⟨B.exec, B.bytes, B.returns, hml, hown, hts, hX, hbl, B.notSynchronized, hgv⟩
    obtain ⟨t, a1, o, b1, b2, b3⟩ := K s₁ rfl X₀
    exact ⟨t, o, a1, b1, b2, b3⟩
theorem lw_pre_spec {args : Array Value} {s : State} (h : (Jvm.Cond.and given_1 narrow_1).before args s = true) (hr : rest_1_c.before args s = true) : ∃ (b : Addr) (xs : List Int32), lw_P b xs args s := by
  have hs := flat_of_before _ h
  have hq := flat_of_before _ hr
  have hc : (Cond.count 1).before args s = true := hs _ (by decide +kernel)
  have harr : (Cond.arrayOf (.arg 0) .int).before args s = true := hs _ (by decide +kernel)
  have hle : (Cond.le (.length (.arg 0)) (.int 384)).before args s = true := hs _ (by decide +kernel)
  have hlen : (Cond.isInt (.length (.arg 0))).before args s = true := hq _ (by decide +kernel)
  have hall : (Cond.all (.arg 0) (.isInt (.elem (.arg 0) (.index 0)))).before args s = true := hq _ (by decide +kernel)
  obtain ⟨b, xs, hb, hx⟩ := State.ints_of_pre rfl harr hlen hall
  have hsm : xs.length < 2 ^ 31 := hx.choose_spec.2.2.2
  have hev : (Term.length (.arg 0)).eval args s none [] s = some (.int xs.length.toInt32) := hx.length_eval hb
  have hv := Cond.le_ints hev (show (Term.int 384).eval args s none [] s = some (.int 384) from rfl)
  have hd : xs.length.toInt32 ≤ 384 := by
    simpa [Cond.before, Cond.holds, hv] using hle
  have hN : xs.length ≤ 384 := (Int32.ofNat_le_ofNat hsm (by decide)).mp (show Int32.ofNat xs.length ≤ Int32.ofNat 384 from hd)
  exact ⟨b, xs, Cond.one_arg hc (show args[0]? = some (.ref b) from hb), hx, hN, h⟩
theorem lw_comes (l : Launch) (hflags : l.flags = flags0) : Comes l x (Jvm.Cond.code x code maxLocals ret :: tables_1) room_1 (fun tb e args s => Calls_1 tb e args s ∧ rest_1 tb e args s ∧ Pre_1 tb e args s)
    (fun _ _ args s o t => lw_Q args s o t) := by
  intro p e ha hc hk s m args below hf hfit hheap happ hpre
  obtain ⟨b, xs, hP⟩ := lw_pre_spec hpre.2.2 hpre.2.1
  obtain ⟨k, o, h1, h2, h3, hQ⟩ := lw_walk l hflags b xs p e ha hc hk s m args below hf ((Spec.applies_iff_loose hf).mp happ).1 hP trivial
  exact ⟨k, o, h1, h2, h3, hQ⟩
theorem lw_frame {s t : State} {o : Outcome} {args : Array Value} (h : Framed s o t [] 603072 7198826) :
    Framed s o t (fieldLocs frame_1_writes args s ++ arrayLocs frame_1_arrays args s ++ staticLocs frame_1_statics s) 603072 7198826 := h
theorem lw_limb (L : Cond) (hL : ∀ (args : Array Value) (s t : State), L.after args s (.returned (some (.int 1))) t = true) :
    ArmFor flags0 classFile x code maxLocals ret World_1 tables_1 room_1 Calls_1 rest_1 Pre_1
      (fun tb e a s o t => postC L tb e a s o t ∧ Framed s o t (fieldLocs frame_1_writes a s ++ arrayLocs frame_1_arrays a s ++ staticLocs frame_1_statics s) 603072 7198826) := by
  intro l hflags _ _ p e ha hc hk s m args below hf hfit hheap happ hpre
  obtain ⟨k, o, h1, h2, h3, rfl, hF⟩ := lw_comes l hflags p e ha hc hk s m args below hf hfit hheap happ hpre
  exact ⟨k, _, h1, h2, h3, hL args s _, lw_frame hF⟩
theorem i_vc : Claimed_1_1 ∧ Claimed_1_2 := ⟨lw_limb limb_1_1 (fun args s t => by simp [limb_1_1, Cond.after, Cond.holds, Cond.value]), lw_limb limb_1_2 (fun args s t => Cond.after_iff.mpr (by
  first | (rw [show limb_1_2 = Cond.eq .result (.int 1) from rfl, Cond.eq_ints (x := 1) (y := 1) rfl rfl]; simp; done) | (simp [limb_1_2, Cond.value, Term.eval]; done)))⟩
