set_option maxRecDepth 100000
theorem metGW_of {y : MethodName} {cc : ByteArray} {own : String} {nL : Nat} {ret : Option FieldType} {hh : List (Nat × Nat × Nat × Nat)} {fr lo Mx : Nat} {σ0 : Hp} {av : List Value} {lvs : List (Nat × Value)} {Post : Option Value → Hp → Prop} {PX' : Nat → String → Hp → Prop}
    (hy : plainName y.cls = true) (ho : y.cls = own) (hn : (lg_sl av).length ≤ nL) (hlv : lv_args 0 av = lvs)
    (body : ∀ G : XE, RQx G hh (Mx - gS σ0) (16 * (Mx - gS σ0)) Post PX' → G.2.2.2.1.heap.size = gS σ0 → WF σ0 → X G (rmG fr lo Mx σ0) cc own nL ret σ0 (gS σ0 - gS σ0) (16 * (gS σ0 - gS σ0)) 0 lvs []) : MetYW y cc nL ret hh (rmG fr lo Mx σ0) σ0 av Post PX' (Mx - gS σ0) (16 * (Mx - gS σ0)) := by
  subst ho
  subst hlv
  intro l B D hfl
  refine vx_ofWH (cc := cc) (maxL := nL) (ret := ret) (hh := hh) hy rfl ?_
  intro p e s m args below meth c s₁ Bd hml hv
  obtain ⟨rfl, hK, hH, hdom, hB, hSX⟩ := hv
  have hts := atoms_spec (ws := wsW_ y cc nL ret hh) Bd.pre
  have hl := lv_entry av (n := nL) hn
  have htb' : c.exceptionTable.toList = tableOf hh := vx_table (x := y) Bd (hts _ List.mem_cons_self)
  have hx := body (p, l, e, s, m, av.toArray, below, meth, c, B, D, vx_MQ below (QX B D Post) (XX B D PX') av.toArray s (Mx - gS σ0) (16 * (Mx - gS σ0)) (fun q => B ≤ q)) ⟨rfl, htb'⟩ hH.1 hH.wf
  rw [Nat.sub_self] at hx
  rw [lg_entry_eq]
  exact hx ⟨Bd.exec, Bd.bytes, hml, findClass_of_methodNamed Bd.named, fun w h => hts w (List.mem_cons_of_mem _ h), Bd.returns, Bd.notSynchronized, hfl⟩ s.heap [] _ ⟨hK, hH, hdom, hB, Nat.le_refl _, fun _ _ => rfl, fun _ h => (List.not_mem_nil h).elim, hSX⟩ hl
theorem pR_self (σ : Hp) (a k : Nat) : pR σ a k (gR σ a k) = σ := by
  have : u2 σ.2.2.1 a k (gR σ a k) = σ.2.2.1 := by
    funext b j
    unfold u2
    split
    · rename_i h; subst h
      split
      · rename_i h; subst h; rfl
      · rfl
    · rfl
  unfold pR
  rw [this]
theorem gR_off {σ : Hp} {a b k j : Nat} {v : Option Nat} (h : b ≠ a) : gR (pR σ a k v) b j = gR σ b j := by show u2 _ _ _ _ _ _ = _; simp [u2, h, gR]
theorem gR_ne {σ : Hp} {a k j : Nat} {v : Option Nat} (h : j ≠ k) : gR (pR σ a k v) a j = gR σ a j := by show u2 _ _ _ _ _ _ = _; simp [u2, h, gR]
/-- the object with a new realm -/
theorem LB.rd {o c : Nat} {σ : Hp} (h : LB o c σ) {v : Option Nat} : LB o c (pR σ (o + 2) 7 v) := by
  have hc : gT σ c = some (.inl 3) := h.rb.1
  have h2 : gT σ (o + 2) = some (.inl 2) := h.2.2.1.2.1
  have kr : ∀ {a k : Nat} {x : Option Nat}, gR σ a k = x → (a ≠ o + 2 ∨ k ≠ 7) → gR (pR σ (o + 2) 7 v) a k = x := by
    intro a k x hx hd
    by_cases ha : a = o + 2
    · subst ha
      rcases hd with hd | hd
      · exact absurd rfl hd
      · rw [gR_ne hd]; exact hx
    · rw [gR_off ha]; exact hx
  have kab : ∀ {a n : Nat}, AB a n σ → AB a n (pR σ (o + 2) 7 v) := fun q => ⟨q.1, kr q.2.1 (Or.inr (by decide)), q.2.2⟩
  have knb : ∀ {a : Nat}, NB a σ → NB a (pR σ (o + 2) 7 v) := fun q => ⟨q.1, kr q.2.1 (Or.inr (by decide)), q.2.2.1, kr q.2.2.2.1 (Or.inr (by decide)), q.2.2.2.2⟩
  refine ⟨h.1, fun q hq => ⟨kr (h.2.1 q hq).1 (Or.inl (by omega)), (h.2.1 q hq).2⟩, ⟨kr h.2.2.1.1 (Or.inl (by omega)), h2, kr h.2.2.1.2.2 (Or.inr (by decide))⟩, ⟨kr h.r5 (Or.inl (by omega)), ?_⟩, fun k hk => ⟨kr (h.2.2.2.2.1 k hk).1 (Or.inl (by omega)), knb (h.2.2.2.2.1 k hk).2⟩, fun k hk => ⟨kr (h.2.2.2.2.2.1 k hk).1 (Or.inl (by omega)), knb (h.2.2.2.2.2.1 k hk).2⟩, fun k hk => ⟨kr (h.2.2.2.2.2.2 k hk).1 (Or.inl (by omega)), (h.2.2.2.2.2.2 k hk).2⟩⟩
  have r := h.rb
  exact ⟨r.1, ⟨kr r.2.1.1 (Or.inr (by decide)), kab r.2.1.2⟩, ⟨kr r.2.2.1.1 (Or.inr (by decide)), kab r.2.2.1.2⟩, ⟨kr r.2.2.2.1.1 (Or.inr (by decide)), kab r.2.2.2.1.2⟩, ⟨kr r.2.2.2.2.1.1 (Or.inr (by decide)), kab r.2.2.2.2.1.2⟩, ⟨kr r.2.2.2.2.2.1 (Or.inr (by decide)), kab r.2.2.2.2.2.2⟩⟩
theorem LB.gx {o c : Nat} {σ σ' : Hp} (h : LB o c σ) (hs : GX σ σ') : LB o c σ' := by
  have kr : ∀ {a k ty n : _} {x : Option Nat}, gT σ a = some (.inr (ty, n)) → ty ≠ .object "java/lang/Object" → gR σ a k = x → gR σ' a k = x := by
    intro a k ty n x ht hty hx
    rw [hs.2.2.1 a k (by rw [ht]; exact fun h => nomatch h) (by rw [ht]; rintro ⟨m, e⟩; cases e; exact hty rfl)]; exact hx
  exact ⟨hs.t h.1, fun q hq => ⟨hs.q h.1 (h.2.1 q hq).1, hs.t (h.2.1 q hq).2⟩, ⟨hs.q h.1 h.2.2.1.1, hs.t h.2.2.1.2.1, hs.q h.2.2.1.2.1 h.2.2.1.2.2⟩, ⟨hs.q h.1 h.r5, h.rb.gx hs⟩, fun k hk => ⟨kr h.a7 (by decide) (h.2.2.2.2.1 k hk).1, (h.2.2.2.2.1 k hk).2.gx hs⟩, fun k hk => ⟨kr h.a8 (by decide) (h.2.2.2.2.2.1 k hk).1, (h.2.2.2.2.2.1 k hk).2.gx hs⟩, fun k hk => ⟨kr h.a20 (by decide) (h.2.2.2.2.2.2 k hk).1, hs.t (h.2.2.2.2.2.2 k hk).2⟩⟩
theorem LB.real {o c d : Nat} {σ : Hp} (h : LB o c σ) (hd : RB d σ) : LB o d (pR σ o 5 (some d)) := by
  have ho := h.1
  have ne : ∀ {a : Nat} {t : Nat ⊕ (FieldType × Nat)}, gT σ a = some t → t ≠ .inl 1 → a ≠ o := by
    rintro a t ht hne rfl
    rw [ho] at ht; cases ht; exact hne rfl
  have kr : ∀ {a k : Nat} {t : Nat ⊕ (FieldType × Nat)} {x : Option Nat}, gT σ a = some t → t ≠ .inl 1 → gR σ a k = x → gR (pR σ o 5 (some d)) a k = x := fun ht hne hx => by rw [gR_off (ne ht hne)]; exact hx
  have ko : ∀ {k : Nat} {x : Option Nat}, k ≠ 5 → gR σ o k = x → gR (pR σ o 5 (some d)) o k = x := fun hk hx => by rw [gR_ne hk]; exact hx
  have kab : ∀ {a n : Nat}, AB a n σ → AB a n (pR σ o 5 (some d)) := fun q => ⟨q.1, kr q.1 (by decide) q.2.1, q.2.2⟩
  have knb : ∀ {a : Nat}, NB a σ → NB a (pR σ o 5 (some d)) := fun q => ⟨q.1, kr q.1 (by decide) q.2.1, q.2.2.1, kr q.1 (by decide) q.2.2.2.1, q.2.2.2.2⟩
  have hq5 : ∀ q ∈ lbTab, q.1 ≠ 5 := by decide
  have ta : ∀ {ty : FieldType} {n : Nat}, (Sum.inr (ty, n) : Nat ⊕ (FieldType × Nat)) ≠ .inl 1 := fun h => nomatch h
  exact ⟨h.1, fun q hq => ⟨ko (hq5 q hq) (h.2.1 q hq).1, (h.2.1 q hq).2⟩, ⟨ko (by decide) h.2.2.1.1, h.2.2.1.2.1, kr h.2.2.1.2.1 (by decide) h.2.2.1.2.2⟩, ⟨gRs, ⟨hd.1, ⟨kr hd.1 (by decide) hd.2.1.1, kab hd.2.1.2⟩, ⟨kr hd.1 (by decide) hd.2.2.1.1, kab hd.2.2.1.2⟩, ⟨kr hd.1 (by decide) hd.2.2.2.1.1, kab hd.2.2.2.1.2⟩, ⟨kr hd.1 (by decide) hd.2.2.2.2.1.1, kab hd.2.2.2.2.1.2⟩, ⟨kr hd.1 (by decide) hd.2.2.2.2.2.1, kab hd.2.2.2.2.2.2⟩⟩⟩, fun k hk => ⟨kr h.a7 ta (h.2.2.2.2.1 k hk).1, knb (h.2.2.2.2.1 k hk).2⟩, fun k hk => ⟨kr h.a8 ta (h.2.2.2.2.2.1 k hk).1, knb (h.2.2.2.2.2.1 k hk).2⟩, fun k hk => ⟨kr h.a20 ta (h.2.2.2.2.2.2 k hk).1, (h.2.2.2.2.2.2 k hk).2⟩⟩
def tx1 (o : Nat) (σ0 : Hp) : Hp := pI (pI (pI σ0 o 1 0) o 2 0) o 3 (-1)
def wp_X1_text (o c : Nat) (σ0 : Hp) (x1 : Int32) (Mx : Nat) (Q : Int32 → Hp → Prop) : Prop := (f_X1_in x1.toInt64 0 (gI σ0 o 1).toInt64 = 0 → Q (-2) σ0) ∧ (¬ f_X1_in x1.toInt64 0 (gI σ0 o 1).toInt64 = 0 → wp_X2_read (o + 2) o (tx1 o σ0) x1 Mx (fun r s => GX (pR (tx1 o σ0) (o + 2) 7 (some (gS σ0))) s → EB (o + 2) o r s → wt_X1_text_66 o r (pR s o 5 (some r)) Q) (fun q s => GX (pR (tx1 o σ0) (o + 2) 7 (some (gS σ0))) s → OB 16 q s ∧ Q (-1) (pI (pI s o 2 (gI s q 6)) o 3 (gI (pI s o 2 (gI s q 6)) q 7))))
/-- what text leaves: all as it was but for the realm, the reader's and the object's; and new cells -/
def txP (o Mx : Nat) (σ0 : Hp) (Q : Int32 → Hp → Prop) (r : Int32) (σ' : Hp) : Prop := (∃ v1 v2, GX (pR (pR σ0 (o + 2) 7 v1) o 5 v2) σ') ∧ gS σ' ≤ Mx ∧ Q r σ'
abbrev rm_X1_text (Mx : Nat) (σ0 : Hp) : Room := rmG 833 27464 Mx σ0
theorem met_X1_text (o c : Nat) (σ0 : Hp) (x1 : Int32) (Mx : Nat) (Q : Int32 → Hp → Prop) (hB0 : LB o c σ0) (hM0 : gS σ0 ≤ Mx) (h : wp_X1_text o c σ0 x1 Mx Q) : MetYW yX1_text cX1_text 3 (some .int) [((32 : Nat), (44 : Nat), (47 : Nat), (107 : Nat))] (rm_X1_text Mx σ0) σ0 [.ref o, .int x1] (oI (txP o Mx σ0 Q)) (fun _ _ _ => False) (Mx - gS σ0) (16 * (Mx - gS σ0)) := by
  refine metGW_of (own := RX1) (lvs := [(0, .ref o), (1, .int x1)]) (by decide) rfl (Nat.le_of_ble_eq_true rfl) rfl (fun G rq hz w0 => ?_)
  have hid : pR (pR σ0 (o + 2) 7 (gR σ0 (o + 2) 7)) o 5 (gR σ0 o 5) = σ0 := by rw [pR_self, pR_self]
  refine x_iload_n dX1_text_0 (n := 1) rfl rfl 1 rfl ?_
  refine x_i2l dX1_text_1 (n := 2) rfl ?_
  refine x_lconst dX1_text_2 (n := 3) rfl lc_0 ?_
  refine x_aload_n dX1_text_3 (n := 4) rfl rfl 0 rfl ?_
  refine x_geti fl_X1_90_1 rfl hB0.1 rfl dX1_text_4 (n := 7) rfl ?_
  refine x_i2l dX1_text_7 (n := 8) rfl ?_
  refine x_cSip (As := [.long x1.toInt64, .long 0, .long (gI σ0 o 1).toInt64]) (rest := []) cs_X1_96 (met_X1_in σ0 x1.toInt64 0 (gI σ0 o 1).toInt64) (hRg (fr := 833) (lo := 27464) (by decide) hM0) rfl rfl rfl dX1_text_8 (n := 11) rfl (fun r1 q => ?_)
  subst q
  refine x_if_ne (tgt := 17) dX1_text_11 rfl (n := 14) rfl (fun c1 => ?_) (fun c1 => ?_)
  rotate_left
  · have h := h.1 c1
    refine x_bipush dX1_text_14 (n := 16) rfl bp_m2 ?_
    exact x_widen (Nat.sub_le_sub_right hM0 _) (Nat.mul_le_mul_left _ (Nat.sub_le_sub_right hM0 _)) (y_iret rq ⟨⟨_, _, by rw [hid]; exact GX.rf⟩, hM0, h⟩ dX1_text_16)
  have h := h.2 c1
  refine x_aload_n dX1_text_17 (n := 18) rfl rfl 0 rfl ?_
  refine x_iconst dX1_text_18 (n := 19) rfl ic_0 ?_
  refine x_puti fp_X1_90_1 rfl hB0.1 dX1_text_19 (n := 22) rfl ?_
  refine x_aload_n dX1_text_22 (n := 23) rfl rfl 0 rfl ?_
  refine x_iconst dX1_text_23 (n := 24) rfl ic_0 ?_
  refine x_puti fp_X1_100_1 rfl hB0.1 dX1_text_24 (n := 27) rfl ?_
  refine x_aload_n dX1_text_27 (n := 28) rfl rfl 0 rfl ?_
  refine x_iconst dX1_text_28 (n := 29) rfl ic_m1 ?_
  refine x_puti fp_X1_23_1 rfl hB0.1 dX1_text_29 (n := 32) rfl ?_
  have hB1 : LB o c (tx1 o σ0) := hB0
  refine x_aload_n dX1_text_32 (n := 33) rfl rfl 0 rfl ?_
  refine x_aload_n dX1_text_33 (n := 34) rfl rfl 0 rfl ?_
  refine x_getr fl_X1_32_1 rfl hB0.1 hB1.r4 dX1_text_34 (n := 37) rfl ?_
  refine x_iload_n dX1_text_37 (n := 38) rfl rfl 1 rfl ?_
  have hER : ER (o + 2) o (tx1 o σ0) := ⟨hB1.2.2.1.2.1, hB1.2.2.1.2.2, hB1.1, hB1.r0, hB1.a0⟩
  have hz1 : G.2.2.2.1.heap.size = gS (pR (tx1 o σ0) (o + 2) 7 (some (gS σ0))) := hz
  refine y_callV (σ := tx1 o σ0) (As := [.int x1]) (rest := [.ref o]) cv_X1_103 ck2 (met_X2_read (o + 2) o (tx1 o σ0) x1 Mx (fun r s => GX (pR (tx1 o σ0) (o + 2) 7 (some (gS σ0))) s → EB (o + 2) o r s → wt_X1_text_66 o r (pR s o 5 (some r)) Q) (fun q s => GX (pR (tx1 o σ0) (o + 2) 7 (some (gS σ0))) s → OB 16 q s ∧ Q (-1) (pI (pI s o 2 (gI s q 6)) o 3 (gI (pI s o 2 (gI s q 6)) q 7))) hER hM0 h) hER.1 ⟨rfl, rfl, Nat.le_of_ble_eq_true rfl, Nat.le_of_ble_eq_true rfl, by show gS σ0 - gS σ0 + (Mx - gS σ0) ≤ Mx - gS σ0; omega, by show 16 * (gS σ0 - gS σ0) + 16 * (Mx - gS σ0) ≤ 16 * (Mx - gS σ0); omega⟩ rfl rfl rfl dX1_text_38 (n := 41) rfl (fun q C s hp => ?_) (fun v s hp => ?_)
  · obtain ⟨rfl, hg, hl, h⟩ := hp
    obtain ⟨hq, h⟩ := h hg
    refine t_tight (σ0 := (pR (tx1 o σ0) (o + 2) 7 (some (gS σ0)))) hz1 hg ?_
    refine t_catch (x := (32, 44, 47, 107)) (suf := []) (hpc := 47) (ct := 107) rq rfl (by decide) (by decide) q436 q596 ?_
    have ho : gT s o = some (.inl 1) := hg.t (hB1.rd (v := some (gS σ0))).1
    refine x_astore_n (lvs' := [(2, .ref q), (0, .ref o), (1, .int x1)]) dX1_text_47 (n := 48) rfl rfl (by decide) rfl ?_
    refine x_aload_n dX1_text_48 (n := 49) rfl rfl 1 rfl ?_
    refine x_aload_n dX1_text_49 (n := 50) rfl rfl 0 rfl ?_
    refine x_geti fl_X1_109_16 rfl hq rfl dX1_text_50 (n := 53) rfl ?_
    refine x_puti fp_X1_100_1 rfl ho dX1_text_53 (n := 56) rfl ?_
    refine x_aload_n dX1_text_56 (n := 57) rfl rfl 1 rfl ?_
    refine x_aload_n dX1_text_57 (n := 58) rfl rfl 0 rfl ?_
    refine x_geti fl_X1_112_16 rfl hq rfl dX1_text_58 (n := 61) rfl ?_
    refine x_puti fp_X1_23_1 rfl ho dX1_text_61 (n := 64) rfl ?_
    refine x_iconst dX1_text_64 (n := 65) rfl ic_m1 ?_
    have hid2 : pR (pR (tx1 o σ0) (o + 2) 7 (some (gS σ0))) o 5 (gR (pR (tx1 o σ0) (o + 2) 7 (some (gS σ0))) o 5) = (pR (tx1 o σ0) (o + 2) 7 (some (gS σ0))) := pR_self _ _ _
    exact x_widen (Nat.sub_le_sub_right hl _) (Nat.mul_le_mul_left _ (Nat.sub_le_sub_right hl _)) (y_iret rq ⟨⟨some (gS σ0), gR (pR (tx1 o σ0) (o + 2) 7 (some (gS σ0))) o 5, by have this : GX (pR (tx1 o σ0) (o + 2) 7 (some (gS σ0))) s := hg; rw [← hid2] at this; exact this⟩, hl, h⟩ dX1_text_65)
  · obtain ⟨r, rfl, hg, hl, hEB, h⟩ := hp
    have h := h hg hEB
    have ho : LB o c s := (hB1.rd (v := some (gS σ0))).gx hg
    have hg4 : GX (pR (pR (tx1 o σ0) (o + 2) 7 (some (gS σ0))) o 5 (some r)) (pR s o 5 (some r)) := hg.both
    refine x_putr fp_X1_39_1 rfl ho.1 dX1_text_41 (n := 44) rfl ?_
    refine x_tight (σ0 := pR (pR (tx1 o σ0) (o + 2) 7 (some (gS σ0))) o 5 (some r)) hz1 hg4 ?_
    refine x_goto (tgt := 66) dX1_text_44 rfl ?_
    refine x_sub [0] rfl ?_
    exact xt_X1_text_66 o r (pR s o 5 (some r)) Q G (ho.real hEB.2.2.2.2.2.2) rq (fun r' σ' hs hq => ⟨⟨_, _, hg4.s hs⟩, Nat.le_trans (Nat.le_of_eq hs.1) hl, hq⟩) ⟨Nat.sub_le_sub_right hl _, Nat.mul_le_mul_left _ (Nat.sub_le_sub_right hl _)⟩ ⟨Nat.sub_le_sub_right hl _, Nat.mul_le_mul_left _ (Nat.sub_le_sub_right hl _)⟩ ⟨Nat.le_of_ble_eq_true rfl, Nat.le_of_ble_eq_true rfl⟩ h
