set_option maxRecDepth 100000
/-! A LINE's FRAME: the reader and the realm's own block are written, and what is new -/
def SX5 (o d a k : Nat) : Prop := (a = o ∧ (k = 0 ∨ k = 2 ∨ k = 3 ∨ k = 4 ∨ k = 5)) ∨ (d ≤ a ∧ a < d + 11 ∧ ¬ (a = d ∧ k = 11))
def FXl (o d : Nat) (σ σ' : Hp) : Prop := gS σ ≤ gS σ' ∧ ∀ a, a < gS σ → gT σ' a = gT σ a ∧ ∀ k, (¬ (d ≤ a ∧ a < d + 11) → gR σ' a k = gR σ a k) ∧ (¬ SX5 o d a k → gI σ' a k = gI σ a k ∧ gL σ' a k = gL σ a k)
theorem FXl.tr {o d : Nat} {σ σ' τ : Hp} (h : FXl o d σ σ') (h2 : FXl o d σ' τ) : FXl o d σ τ := by
  refine ⟨Nat.le_trans h.1 h2.1, fun a ha => ?_⟩
  obtain ⟨a1, a2⟩ := h.2 a ha
  obtain ⟨b1, b2⟩ := h2.2 a (Nat.lt_of_lt_of_le ha h.1)
  exact ⟨b1.trans a1, fun k => ⟨fun q => ((b2 k).1 q).trans ((a2 k).1 q), fun q => ⟨((b2 k).2 q).1.trans ((a2 k).2 q).1, ((b2 k).2 q).2.trans ((a2 k).2 q).2⟩⟩⟩
theorem FR.fx {o d : Nat} {σ σ' : Hp} (h : FR (S5 o d) σ σ') : FXl o d σ σ' := ⟨h.1, fun a ha => ⟨h.gt ha, fun k => ⟨fun _ => h.gr ha, fun q => ⟨h.gi ha (fun w => q (by unfold S5 at w; unfold SX5; omega)), h.gl ha (fun w => q (by unfold S5 at w; unfold SX5; omega))⟩⟩⟩⟩
theorem FXl.add {o d off p : Nat} {σ σ' : Hp} (h : FXl o d σ σ') (ho : 1 ≤ off) (hf : off + 1 < 11) : FXl o d σ (addH (d + off) p σ') := by
  refine ⟨h.1, fun a ha => ⟨(h.2 a ha).1, fun k => ⟨fun q => ?_, fun q => ⟨?_, ((h.2 a ha).2 k).2 q |>.2⟩⟩⟩⟩
  · rw [addH_r (by omega)]
    exact ((h.2 a ha).2 k).1 q
  · rw [addH_i (fun w => q (by unfold SX5; omega))]
    exact (((h.2 a ha).2 k).2 q).1
theorem FXl.i {o d : Nat} {σ σ' : Hp} (h : FXl o d σ σ') {a k : Nat} {v : Int32} (hs : gS σ ≤ a ∨ SX5 o d a k) : FXl o d σ (pI σ' a k v) := by
  refine ⟨h.1, fun b hb => ⟨(h.2 b hb).1, fun j => ⟨((h.2 b hb).2 j).1, fun q => ⟨?_, (((h.2 b hb).2 j).2 q).2⟩⟩⟩⟩
  rw [gI_pI, if_neg (fun w => ?_)]
  · exact (((h.2 b hb).2 j).2 q).1
  · obtain ⟨rfl, rfl⟩ := w
    rcases hs with w | w
    · omega
    · exact q w
theorem FXl.l {o d : Nat} {σ σ' : Hp} (h : FXl o d σ σ') {a k : Nat} {v : Int64} (hs : gS σ ≤ a ∨ SX5 o d a k) : FXl o d σ (pL σ' a k v) := by
  refine ⟨h.1, fun b hb => ⟨(h.2 b hb).1, fun j => ⟨((h.2 b hb).2 j).1, fun q => ⟨(((h.2 b hb).2 j).2 q).1, ?_⟩⟩⟩⟩
  rw [gL_pL, if_neg (fun w => ?_)]
  · exact (((h.2 b hb).2 j).2 q).2
  · obtain ⟨rfl, rfl⟩ := w
    rcases hs with w | w
    · omega
    · exact q w
theorem addL {d p : Nat} {σ : Hp} {R : RlA} {x : LandA} (h : LRl d σ R) (hl : (aL R).length ≠ 4) (hp : d + 11 ≤ p) (hx : pLand σ p x) : LRl d (addH (d + 1) p σ) (putL R x) := by
  obtain ⟨h1, h2, h3, h4, h5, h6⟩ := h
  have ag := addH_ag (d := d) (off := 1) (p := p) (σ := σ) (by omega)
  refine ⟨h1.add (by omega) (by omega) hl hp (hx.ag hp ag) (fun q y q1 q2 => q2.ag q1 ag), h2.ag (fun q y q1 q2 => q2.ag q1 ag) (addH_i (by omega)) (fun i => addH_r (by omega)), h3.ag (fun q y q1 q2 => q2.ag q1 ag) (addH_i (by omega)) (fun i => addH_r (by omega)), h4.ag (fun q y q1 q2 => q2.ag q1 ag) (addH_i (by omega)) (fun i => addH_r (by omega)), h5.ag (fun q y q1 q2 => q2.ag q1 ag) (addH_i (by omega)) (fun i => addH_r (by omega)), ?_⟩
  unfold aSky
  rw [addH_i (by omega), addH_i (by omega), addH_i (by omega), addH_i (by omega), addH_i (by omega)]
  exact h6
theorem addF {d p k : Nat} {σ : Hp} {R : RlA} {x : FeastA} (h : LRl d σ R) (hl : (aF R).length ≠ 4) (hp : d + 11 ≤ p) (hx : pFeast (d + 11) σ p x) : LRl d (addH (d + 3) p σ) (putF R x k) := by
  obtain ⟨h1, h2, h3, h4, h5, h6⟩ := h
  have ag := addH_ag (d := d) (off := 3) (p := p) (σ := σ) (by omega)
  refine ⟨h1.ag (fun q y q1 q2 => q2.ag q1 ag) (addH_i (by omega)) (fun i => addH_r (by omega)), h2.add (by omega) (by omega) hl hp (hx.ag hp ag) (fun q y q1 q2 => q2.ag q1 ag), h3.ag (fun q y q1 q2 => q2.ag q1 ag) (addH_i (by omega)) (fun i => addH_r (by omega)), h4.ag (fun q y q1 q2 => q2.ag q1 ag) (addH_i (by omega)) (fun i => addH_r (by omega)), h5.ag (fun q y q1 q2 => q2.ag q1 ag) (addH_i (by omega)) (fun i => addH_r (by omega)), ?_⟩
  unfold aSky
  rw [addH_i (by omega), addH_i (by omega), addH_i (by omega), addH_i (by omega), addH_i (by omega)]
  exact h6
theorem addP {d p : Nat} {σ : Hp} {R : RlA} {x : PersA} (h : LRl d σ R) (hl : (aP R).length ≠ 6) (hp : d + 11 ≤ p) (hx : pPers σ p x) : LRl d (addH (d + 5) p σ) (putP R x) := by
  obtain ⟨h1, h2, h3, h4, h5, h6⟩ := h
  have ag := addH_ag (d := d) (off := 5) (p := p) (σ := σ) (by omega)
  refine ⟨h1.ag (fun q y q1 q2 => q2.ag q1 ag) (addH_i (by omega)) (fun i => addH_r (by omega)), h2.ag (fun q y q1 q2 => q2.ag q1 ag) (addH_i (by omega)) (fun i => addH_r (by omega)), h3.add (by omega) (by omega) hl hp (hx.ag hp ag) (fun q y q1 q2 => q2.ag q1 ag), h4.ag (fun q y q1 q2 => q2.ag q1 ag) (addH_i (by omega)) (fun i => addH_r (by omega)), h5.ag (fun q y q1 q2 => q2.ag q1 ag) (addH_i (by omega)) (fun i => addH_r (by omega)), ?_⟩
  unfold aSky
  rw [addH_i (by omega), addH_i (by omega), addH_i (by omega), addH_i (by omega), addH_i (by omega)]
  exact h6
theorem addD {d p : Nat} {σ : Hp} {R : RlA} {x : DeedA} (h : LRl d σ R) (hl : (aD R).length ≠ 4) (hp : d + 11 ≤ p) (hx : pDeed σ p x) : LRl d (addH (d + 7) p σ) (putD R x) := by
  obtain ⟨h1, h2, h3, h4, h5, h6⟩ := h
  have ag := addH_ag (d := d) (off := 7) (p := p) (σ := σ) (by omega)
  refine ⟨h1.ag (fun q y q1 q2 => q2.ag q1 ag) (addH_i (by omega)) (fun i => addH_r (by omega)), h2.ag (fun q y q1 q2 => q2.ag q1 ag) (addH_i (by omega)) (fun i => addH_r (by omega)), h3.ag (fun q y q1 q2 => q2.ag q1 ag) (addH_i (by omega)) (fun i => addH_r (by omega)), h4.add (by omega) (by omega) hl hp (hx.ag hp ag) (fun q y q1 q2 => q2.ag q1 ag), h5.ag (fun q y q1 q2 => q2.ag q1 ag) (addH_i (by omega)) (fun i => addH_r (by omega)), ?_⟩
  unfold aSky
  rw [addH_i (by omega), addH_i (by omega), addH_i (by omega), addH_i (by omega), addH_i (by omega)]
  exact h6
theorem addN {d p : Nat} {σ : Hp} {R : RlA} {x : NoteA} (h : LRl d σ R) (hl : (aN R).length ≠ 6) (hp : d + 11 ≤ p) (hx : pNote σ p x) : LRl d (addH (d + 9) p σ) (putN R x) := by
  obtain ⟨h1, h2, h3, h4, h5, h6⟩ := h
  have ag := addH_ag (d := d) (off := 9) (p := p) (σ := σ) (by omega)
  refine ⟨h1.ag (fun q y q1 q2 => q2.ag q1 ag) (addH_i (by omega)) (fun i => addH_r (by omega)), h2.ag (fun q y q1 q2 => q2.ag q1 ag) (addH_i (by omega)) (fun i => addH_r (by omega)), h3.ag (fun q y q1 q2 => q2.ag q1 ag) (addH_i (by omega)) (fun i => addH_r (by omega)), h4.ag (fun q y q1 q2 => q2.ag q1 ag) (addH_i (by omega)) (fun i => addH_r (by omega)), h5.add (by omega) (by omega) hl hp (hx.ag hp ag) (fun q y q1 q2 => q2.ag q1 ag), ?_⟩
  unfold aSky
  rw [addH_i (by omega), addH_i (by omega), addH_i (by omega), addH_i (by omega), addH_i (by omega)]
  exact h6
theorem pb_inl {α β : Type} {a : α} {t : Tok} {f : α → Tok → PR β} : pb (.inl (a, t)) f = f a t := rfl
theorem pb_inr {α β : Type} {e : Flt} {f : α → Tok → PR β} : pb (.inr e : PR α) f = .inr e := rfl
/-- a line by its word -/
def LN {α : Type} (o c d : Nat) (b : Nat → Int32) (n B0 cnt : Nat) (σ : Hp) (x : PR α) (R' : α → RlA) (Q : Hp → Prop) (E : Nat → Hp → Prop) : Prop := (∀ v t' σ', x = .inl (v, t') → FXl o d σ σ' → RDR o c d b n σ' t' 0 cnt → LRl d σ' (R' v) → gS σ' ≤ B0 + 4 * tPl t' → Q σ') ∧ (∀ k pl q σ', x = .inr (k, pl) → FXl o d σ σ' → FLT σ' q k pl → E q σ')
theorem RDR.addH {o c d : Nat} {b : Nat → Int32} {n : Nat} {σ : Hp} {t : Tok} {brk cnt off p : Nat} (h : RDR o c d b n σ t brk cnt) (hf : 1 ≤ off) : RDR o c d b n (addH (d + off) p σ) t brk cnt := by
  obtain ⟨h1, h2, h3, h4, h5, h6, h7, h8, h9, h10⟩ := h
  refine ⟨⟨?_, h1.2.1, h1.2.2.1, fun i hi => ?_⟩, ⟨?_, ?_, ?_, fun q1 q2 => ?_⟩, h3, ?_, ?_, h6, h7, h8, h9, h10⟩
  · rw [addH_i (by omega)]; exact h1.1
  · rw [addH_i (by omega)]; exact h1.2.2.2 i hi
  · rw [addH_i (by omega)]; exact h2.1
  · rw [addH_i (by omega)]; exact h2.2.1
  · rw [addH_i (by omega)]; exact h2.2.2.1
  · rw [addH_i (by omega)]; exact h2.2.2.2 q1 q2
  · rw [addH_i (by omega)]; exact h4
  · rw [addH_i (by omega)]; exact h5
theorem pi_8 : ∀ w, w < 23 → (piL (Int32.ofNat w) = 8 ↔ w = 8) ∧ (piL (Int32.ofNat w) = 9 ↔ w = 9) ∧ (piL (Int32.ofNat w) = 13 ↔ w = 13) := by decide +kernel
theorem rd_land {o c d : Nat} {b : Nat → Int32} {n B0 Mx cnt : Nat} {σ : Hp} {t : Tok} {R : RlA} {Q : Hp → Prop} {E : Nat → Hp → Prop} (hM : B0 + 4 * n + 8 ≤ Mx) (hR : RDR o c d b n σ t 0 cnt) (hL : LRl d σ R) (hl : (aL R).length ≠ 4) (hg : gS σ ≤ B0 + 4 * tPl t) (hx : LN o c d b n B0 cnt σ (landS b n (nms1 R) t) (putL R) Q E) : wp_X2_land o c d σ Mx Q E := by
  obtain ⟨hok, hbad⟩ := hx
  have ho : o < d := hR.2.2.2.2.2.2.2.1
  have hd : d + 11 ≤ gS σ := hR.2.2.2.2.2.2.2.2.2
  have hpl := (pl_i hR).2
  have f0 : FR (S5 o d) σ (pN σ (.inl 6)) := FR.n
  have hv0 := hR.2.2.1
  refine ⟨by omega, rd_fresh (hR.fr FR.n) (hL.fr f0 ho hd).n1 (by rw [gS_pN]; omega) ⟨fun nm t1 s4 e1 f1 z1 R1 _ => ?_, fun k pl q s' e f g => hbad k pl q s' (by unfold landS; rw [e]; rfl) (f0.tr f).fx g⟩⟩
  have z1 : gS s4 = gS σ + 1 := z1
  have p1 := (pg_fr hv0 _ _ e1).2
  refine rd_number R1 (by omega) ⟨fun len t2 s8 e2 f2 z2 R2 _ => ?_, fun k pl q s' e f g => hbad k pl q s' (by unfold landS; rw [e1, pb_inl, e]; rfl) ((f0.tr f1).tr f).fx g⟩
  have p2 := (pg_num R1.2.2.1 _ _ e2).2
  refine rd_signed R2 (by omega) ⟨fun g t3 s12 e3 f3 z3 R3 _ s18 hs => ?_, fun k pl q s' e f g => hbad k pl q s' (by unfold landS; rw [e1, pb_inl, e2, pb_inl, e]; rfl) (((f0.tr f1).tr f2).tr f).fx g⟩
  subst hs
  have p3 := (pg_sgd R2.2.2.1 _ _ e3).2
  have f12 : FR (S5 o d) σ s12 := ((f0.tr f1).tr f2).tr f3
  have f18 : FR (S5 o d) σ (f_X8_init (gS σ) s12 nm len g) := by
    unfold f_X8_init f_X4_init
    exact ((f12.i (Or.inl (Nat.le_refl _))).i (Or.inl (Nat.le_refl _))).i (Or.inl (Nat.le_refl _))
  have R18 : RDR o c d b n (f_X8_init (gS σ) s12 nm len g) t3 0 cnt := R3.wr (Nat.le_refl _) (fun a k ha => by
    unfold f_X8_init f_X4_init
    rw [pIo (by omega), pIo (by omega), pIo (by omega)])
  have z18 : gS (f_X8_init (gS σ) s12 nm len g) = gS σ + 1 := by show gS s12 = _; omega
  have T18 : gT (f_X8_init (gS σ) s12 nm len g) (gS σ) = some (.inl 6) := by
    show gT s12 (gS σ) = _
    rw [f3.gt (by omega), f2.gt (by omega), f1.gt (by rw [gS_pN]; omega)]
    exact gT_new
  have g3 : gI s12 (gS σ) 3 = 0 := by
    rw [f3.gi (by omega) (S5_lo ho hd), f2.gi (by omega) (S5_lo ho hd), f1.gi (by rw [gS_pN]; omega) (S5_lo ho hd), gI_pN, if_pos rfl]
  have pl18 : pLand (f_X8_init (gS σ) s12 nm len g) (gS σ) (nm, len, g, 0) := ⟨by omega, T18, by unfold f_X8_init f_X4_init; simp [gI_pI], by unfold f_X8_init f_X4_init; simp [gI_pI], by unfold f_X8_init f_X4_init; simp [gI_pI], by unfold f_X8_init f_X4_init; simp [gI_pI, g3]⟩
  rw [lword1 R18.2.1 R18.2.2.1 (k := 8) (fun w hw => (pi_8 w hw).1) (by omega), show Int32.ofNat 8 = 8 from rfl]
  refine ⟨fun q => ?_, fun q => ?_⟩
  · have L18 := hL.fr f18 ho hd
    refine rd_add L18.1 (by omega) hl ⟨6, by decide, T18⟩ (fun _ => hok (nm, len, g, 0) t3 _ ?_ (f18.fx.add (by omega) (by omega)) (R18.addH (by omega)) (addL L18 hl hd pl18) (by show gS (f_X8_init (gS σ) s12 nm len g) ≤ _; omega))
    unfold landS
    rw [e1, pb_inl, e2, pb_inl, e3, pb_inl, if_neg (by rw [q]; exact Bool.false_ne_true)]
  · have q := bt q
    refine R18.nx (fun s28 f4 z4 R4 _ => ?_)
    have p4 := (adv_pl (b := b) R18.2.2.1 (by rw [(key_kd q).1]; decide)).1
    refine rd_number R4 (by omega) ⟨fun f t5 s30 e5 f5 z5 R5 _ => ⟨?_, ?_⟩, fun k pl qq s' e ff gg => hbad k pl qq s' (by unfold landS; rw [e1, pb_inl, e2, pb_inl, e3, pb_inl, if_pos q, e]; rfl) ((f18.tr f4).tr ff).fx gg⟩
    · show gT s30 (gS σ) = _
      rw [f5.gt (by omega), f4.gt (by omega)]
      exact T18
    · have p5 := (pg_num R4.2.2.1 _ _ e5).2
      have f30 : FR (S5 o d) σ (pI s30 (gS σ) 3 f) := ((f18.tr f4).tr f5).i (Or.inl (Nat.le_refl _))
      have R30 : RDR o c d b n (pI s30 (gS σ) 3 f) t5 0 cnt := R5.wr (Nat.le_refl _) (fun a k ha => pIo (by omega))
      have L30 := hL.fr f30 ho hd
      have T30 : gT (pI s30 (gS σ) 3 f) (gS σ) = some (.inl 6) := by
        show gT s30 (gS σ) = _
        rw [f5.gt (by omega), f4.gt (by omega)]
        exact T18
      have gi : ∀ k, gI s30 (gS σ) k = gI (f_X8_init (gS σ) s12 nm len g) (gS σ) k := fun k => by
        rw [f5.gi (by omega) (S5_lo ho hd), f4.gi (by omega) (S5_lo ho hd)]
      refine rd_add L30.1 (by omega) hl ⟨6, by decide, T30⟩ (fun _ => hok (nm, len, g, f) t5 _ ?_ (f30.fx.add (by omega) (by omega)) (R30.addH (by omega)) (addL L30 hl hd ⟨by show gS σ < gS s30; omega, T30, ?_, ?_, ?_, ?_⟩) (by show gS s30 ≤ _; omega))
      · unfold landS
        rw [e1, pb_inl, e2, pb_inl, e3, pb_inl, if_pos q, e5, pb_inl]
      · rw [pIo (by omega), gi]; exact pl18.2.2.1
      · rw [pIo (by omega), gi]; exact pl18.2.2.2.1
      · rw [pIo (by omega), gi]; exact pl18.2.2.2.2.1
      · simp [gI_pI]
