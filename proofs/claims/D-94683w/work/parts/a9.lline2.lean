set_option maxRecDepth 100000
theorem rd_sumT {o c d : Nat} {b : Nat → Int32} {n B0 Mx cnt : Nat} {σ : Hp} {t : Tok} {Q E : Nat → Hp → Prop} (hM : B0 + 4 * n + 8 ≤ Mx) (hR : RDR o c d b n σ t 0 cnt) (hg : gS σ ≤ B0 + 4 * tPl t)
    (hok : ∀ p σ' t' cnt' v, RDR o c d b n σ' t' 0 cnt' → FR (S5 o d) σ σ' → TR σ' (gS σ) 64 p v → gS σ' ≤ B0 + 4 * tPl t' → tPl t < tPl t' → ((tIsSign t' 59 = true ∧ Rn (syStep (adv b n)) ([], [], 0, cnt, true, true, t) (.inl ([v], cnt', t'))) ∨ (tIsSign t' 59 = false ∧ Rn (syStep (adv b n)) ([], [], 0, cnt, true, true, t) (.inr (1, tPl t')))) → Q p σ')
    (hbad : ∀ q σ' k pl, FR (S5 o d) σ σ' → FLT σ' q k pl → Rn (syStep (adv b n)) ([], [], 0, cnt, true, true, t) (.inr (k, pl)) → E q σ') : wp_X2_orT o c d σ Mx Q E := by
  refine (rd_all hM 90).1 0 0 (by omega) (by omega) σ t cnt [] [] true Q E (by omega) hR rfl (by show 0 < 1; omega) hg ?_ (fun q σ' k pl g1 g2 g3 => hbad q σ' k pl g1 g2 g3)
  intro p σ' t' cnt' w' h' v mn' g1 g2 g3 g4 g5 g6 g7 g8 g9
  have hv := g1.2.2.1
  have h64 := g1.2.2.2.2.2.2.1
  have g7 : bnd 1 w' h' = ([], [v]) := g7
  refine hok p σ' t' cnt' v g1 g2 (g3.up (by omega)) g5 g9 ?_
  cases hs : tIsSign t' 59 with
  | true =>
    refine Or.inl ⟨rfl, g6 _ (Rn.en ?_)⟩
    rw [syStep_eq, if_pos (by rw [hs]; rfl), g7]
  | false =>
    refine Or.inr ⟨rfl, g6 _ (Rn.en ?_)⟩
    rw [syStep_eq, if_neg (by rw [hs]; simp), if_neg (by decide)]
    unfold sySign
    rw [if_neg (by simp)]
    rcases g8 with z | z | z
    · rw [if_pos z]
    · have ob := opOf_b hv
      rw [if_pos (rk_0 ob.1 ob.2.1 z)]
    · rw [if_neg (op_ne z.1 (by omega)), if_pos z.1, if_pos z.2]
/-- a whole line's frame -/
def FX2 (o d : Nat) (σ σ' : Hp) : Prop := gS σ ≤ gS σ' ∧ ∀ a, a < gS σ → gT σ' a = gT σ a ∧ (¬ (d ≤ a ∧ a < d + 11) → ∀ k, gR σ' a k = gR σ a k ∧ (a ≠ o → gI σ' a k = gI σ a k ∧ gL σ' a k = gL σ a k))
theorem FX2.tr {o d : Nat} {σ σ' τ : Hp} (h : FX2 o d σ σ') (h2 : FX2 o d σ' τ) : FX2 o d σ τ := by
  refine ⟨Nat.le_trans h.1 h2.1, fun a ha => ?_⟩
  obtain ⟨a1, a2⟩ := h.2 a ha
  obtain ⟨b1, b2⟩ := h2.2 a (Nat.lt_of_lt_of_le ha h.1)
  exact ⟨b1.trans a1, fun q k => ⟨(b2 q k).1.trans (a2 q k).1, fun w => ⟨((b2 q k).2 w).1.trans ((a2 q k).2 w).1, ((b2 q k).2 w).2.trans ((a2 q k).2 w).2⟩⟩⟩
theorem FXl.x2 {o d : Nat} {σ σ' : Hp} (h : FXl o d σ σ') : FX2 o d σ σ' := ⟨h.1, fun a ha => ⟨(h.2 a ha).1, fun q k => ⟨((h.2 a ha).2 k).1 q, fun w => ((h.2 a ha).2 k).2 (by unfold SX5; omega)⟩⟩⟩
theorem FX2.i {o d : Nat} {σ σ' : Hp} (h : FX2 o d σ σ') {a k : Nat} {v : Int32} (hs : a = o ∨ (d ≤ a ∧ a < d + 11)) : FX2 o d σ (pI σ' a k v) := by
  refine ⟨h.1, fun b hb => ⟨(h.2 b hb).1, fun q j => ⟨((h.2 b hb).2 q j).1, fun w => ⟨?_, (((h.2 b hb).2 q j).2 w).2⟩⟩⟩⟩
  rw [pIo (by omega)]
  exact (((h.2 b hb).2 q j).2 w).1
theorem FX2.rf {o d : Nat} {σ : Hp} : FX2 o d σ σ := ⟨Nat.le_refl _, fun _ _ => ⟨rfl, fun _ _ => ⟨rfl, fun _ => ⟨rfl, rfl⟩⟩⟩⟩
/-- what is told once -/
def TD (o : Nat) (σ : Hp) (P : PSt) : Prop := nHas (gI σ o 6) 6 = P.2.1 ∧ nHas (gI σ o 6) 7 = P.2.2.1 ∧ nHas (gI σ o 6) 4 = P.2.2.2
theorem rd_end {o c d : Nat} {b : Nat → Int32} {n B0 Mx : Nat} {σ σ' : Hp} {P' : PSt} {t' : Tok} {X : PR PSt} {Q : Hp → Prop} {E : Nat → Hp → Prop} (hM : B0 + 4 * n + 8 ≤ Mx) (hF : FX2 o d σ σ') (hR : RDR o c d b n σ' t' 0 (aK P'.1)) (hL : LRl d σ' P'.1) (hT : TD o σ' P') (hg : gS σ' ≤ B0 + 4 * tPl t') (h11 : gI σ' d 11 = gI σ d 11) (hX : X = endS b n P' t')
    (hok : ∀ P' t' σ', X = .inl (P', t') → FX2 o d σ σ' → RDR o c d b n σ' t' 0 (aK P'.1) → LRl d σ' P'.1 → TD o σ' P' → gS σ' ≤ B0 + 4 * tPl t' → gI σ' d 11 = gI σ d 11 + 1 → Q σ')
    (hbad : ∀ k pl q σ', X = .inr (k, pl) → FX2 o d σ σ' → FLT σ' q k pl → E q σ') : wj_X2_line_431 o c d σ' Mx Q E := by
  have ho : o < d := hR.2.2.2.2.2.2.2.1
  have hd : d + 11 ≤ gS σ' := hR.2.2.2.2.2.2.2.2.2
  have hpl := (pl_i hR).2
  unfold wj_X2_line_431
  rw [lsign hR.2.1 hR.2.2.1 (by decide)]
  unfold endS at hX
  refine ⟨fun q => ?_, fun q => ?_⟩
  · rw [if_neg (by rw [q]; exact Bool.false_ne_true)] at hX
    exact rd_throw hR.2.1 (by omega) (by omega) (fun qq τ f g => hbad _ _ qq τ hX (hF.tr f.fx.x2) g)
  · have q := bt q
    rw [if_pos q] at hX
    refine hR.nx (fun s f1 z1 R1 _ => ?_)
    have p1 := (adv_pl (b := b) hR.2.2.1 (by rw [(sgn_kd q).1]; decide)).1
    have L1 := hL.fr f1 ho hd
    have r1 := R1.2.2.2.2.2.2.2
    refine hok P' (adv b n t') _ hX ((hF.tr f1.fx.x2).i (by omega)) ?_ ?_ ?_ (by show gS s ≤ _; omega) ?_
    · obtain ⟨k1, k2, k3, k4, k5, k6, k7, k8, k9, k10⟩ := R1
      refine ⟨⟨?_, k1.2.1, k1.2.2.1, fun i hi => ?_⟩, ⟨?_, ?_, ?_, fun q1 q2 => ?_⟩, k3, ?_, ?_, k6, k7, k8, k9, k10⟩
      · rw [pIo (by omega)]; exact k1.1
      · rw [pIo (by omega)]; exact k1.2.2.2 i hi
      · rw [pIo (by omega)]; exact k2.1
      · rw [pIo (by omega)]; exact k2.2.1
      · rw [pIo (by omega)]; exact k2.2.2.1
      · rw [pIo (by omega)]; exact k2.2.2.2 q1 q2
      · rw [pIo (by omega)]; exact k4
      · rw [pIo (by omega)]; exact k5
    · refine L1.ag ⟨Nat.le_refl _, fun a h1 _ => ⟨rfl, fun k => ⟨rfl, pIo (by omega), rfl⟩⟩⟩ (fun a k q1 q2 q3 q4 => pIo (by omega)) (fun k _ => rfl) (fun a k _ _ => rfl)
    · unfold TD
      rw [pIo (by omega), f1.gi (by omega) (by unfold S5; omega)]
      exact hT
    · rw [gI_pI, if_pos ⟨rfl, rfl⟩, f1.gi (by omega) (by unfold S5; omega), h11]
theorem pi_7 : ∀ w, w < 23 → (((piL (Int32.ofNat w)).toInt ≤ 7) ↔ w ≤ 7) ∧ 0 ≤ (piL (Int32.ofNat w)).toInt := by decide +kernel
theorem byOf_i (x : Int32) : f_J7_min 99 (x.toInt64.toInt32 / 8) = byOf x := by
  have e : x.toInt64.toInt32 = x := by simp
  unfold f_J7_min byOf
  rw [e]
/-- the sky is told anew -/
theorem LRl.sky {d : Nat} {σ σ' : Hp} {R : RlA} {s : Nat → Int32} (h : LRl d σ R) (ha : AG (d + 11) σ σ') (hi : ∀ a, d < a → a < d + 11 → gI σ' a 2 = gI σ a 2) (hr : ∀ a k, d ≤ a → a < d + 11 → gR σ' a k = gR σ a k) (hs : aSky d σ' s) : LRl d σ' (putS R s) := by
  obtain ⟨h1, h2, h3, h4, h5, h6⟩ := h
  exact ⟨h1.ag (fun p x q1 q2 => q2.ag q1 ha) (hi _ (by omega) (by omega)) (fun i => hr _ _ (by omega) (by omega)), h2.ag (fun p x q1 q2 => q2.ag q1 ha) (hi _ (by omega) (by omega)) (fun i => hr _ _ (by omega) (by omega)), h3.ag (fun p x q1 q2 => q2.ag q1 ha) (hi _ (by omega) (by omega)) (fun i => hr _ _ (by omega) (by omega)), h4.ag (fun p x q1 q2 => q2.ag q1 ha) (hi _ (by omega) (by omega)) (fun i => hr _ _ (by omega) (by omega)), h5.ag (fun p x q1 q2 => q2.ag q1 ha) (hi _ (by omega) (by omega)) (fun i => hr _ _ (by omega) (by omega)), hs⟩
