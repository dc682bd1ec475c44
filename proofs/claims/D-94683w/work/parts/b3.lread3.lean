set_option maxRecDepth 100000
/-- what stands of the old heap when a text is read by o -/
def FT (o : Nat) (σ σ' : Hp) : Prop := gS σ ≤ gS σ' ∧ ∀ a, a < gS σ → gT σ' a = gT σ a ∧ ∀ k, (¬ (a = o ∧ k = 7) → gR σ' a k = gR σ a k) ∧ (a ≠ o → gI σ' a k = gI σ a k ∧ gL σ' a k = gL σ a k)
theorem FX2.ft {o d : Nat} {σ σ1 σ' : Hp} (h : FT o σ σ1) (hd : gS σ ≤ d) (h2 : FX2 o d σ1 σ') : FT o σ σ' := by
  refine ⟨Nat.le_trans h.1 h2.1, fun a ha => ?_⟩
  obtain ⟨a1, a2⟩ := h.2 a ha
  obtain ⟨b1, b2⟩ := h2.2 a (Nat.lt_of_lt_of_le ha h.1)
  exact ⟨b1.trans a1, fun k => ⟨fun q => (b2 (by omega) k).1.trans ((a2 k).1 q), fun q => ⟨((b2 (by omega) k).2 q).1.trans ((a2 k).2 q).1, ((b2 (by omega) k).2 q).2.trans ((a2 k).2 q).2⟩⟩⟩
/-- the text's bytes, whoever reads them -/
def TB0 (c : Nat) (b : Nat → Int32) (n : Nat) (σ : Hp) : Prop := n ≤ 900 ∧ ∀ i, i < n → 0 ≤ (b i).toInt ∧ (b i).toInt ≤ 255 ∧ gI σ (c + 1) i &&& 255 = b i ∧ ((b i).toInt < 128 → gI σ (c + 1) i = b i)
theorem rd_read {o c : Nat} {b : Nat → Int32} {n Mx : Nat} {σ : Hp} {Q E : Nat → Hp → Prop} (hB : TB0 c b n σ) (hoc : o ≠ c + 1) (ho : o < gS σ) (hc : c + 1 < gS σ) (hE : gT σ o = some (.inl 2) ∧ gR σ o 8 = some c ∧ gT σ c = some (.inl 1) ∧ gR σ c 0 = some (c + 1) ∧ gT σ (c + 1) = some (.inr (.byte, 900))) (hM : gS σ + 11 + 4 * n + 8 ≤ Mx)
    (hok : ∀ R k σ', textS b n = .inl (R, k) → FT o σ σ' → LRl (gS σ) σ' R → gI σ' (gS σ) 10 = Int32.ofNat (aK R) → gI σ' (gS σ) 11 = Int32.ofNat k → gS σ + 11 ≤ gS σ' → LsOk (aL R) → aK R ≤ 64 → Q (gS σ) σ')
    (hbad : ∀ k pl q σ', textS b n = .inr (k, pl) → FT o σ σ' → FLT σ' q k pl → E q σ') : wp_X2_read o c σ (Int32.ofNat n) Mx Q E := by
  obtain ⟨hn9, hb⟩ := hB
  have hz1 : gS (pN (rd1 o σ (Int32.ofNat n)) (.inl 3)) = gS σ + 1 := rfl
  have hc' : c < gS σ := by omega
  obtain ⟨r1, r2, r3, r4, r5, r6⟩ := realm0 (σ := pN (rd1 o σ (Int32.ofNat n)) (.inl 3)) (d := gS σ) hz1 (fun k => by rw [gI_pN, if_pos (show gS σ = gS (rd1 o σ (Int32.ofNat n)) from rfl)]) gT_new
  -- the heap in which reading begins
  have old : ∀ a, a < gS σ → gT (rd3 o σ (Int32.ofNat n)) a = gT σ a ∧ ∀ k, (¬ (a = o ∧ k = 7) → gR (rd3 o σ (Int32.ofNat n)) a k = gR σ a k) ∧ gI (rd3 o σ (Int32.ofNat n)) a k = gI (rd1 o σ (Int32.ofNat n)) a k ∧ gL (rd3 o σ (Int32.ofNat n)) a k = gL σ a k := by
    intro a ha
    obtain ⟨t1, t2⟩ := r6 a ha
    have hne : a ≠ gS (rd1 o σ (Int32.ofNat n)) := by show a ≠ gS σ; omega
    refine ⟨?_, fun k => ⟨fun q => ?_, ?_, ?_⟩⟩
    · unfold rd3
      rw [gT_pR, t1, gT_pN, if_neg hne]
      rfl
    · unfold rd3
      rw [gR_pR, if_neg q, (t2 k).1, gR_pN, if_neg hne]
      rfl
    · unfold rd3
      rw [gI_pR, (t2 k).2.1, gI_pN, if_neg hne]
    · unfold rd3
      rw [gL_pR, (t2 k).2.2, gL_pN, if_neg hne]
      rfl
  have z3 : gS (rd3 o σ (Int32.ofNat n)) = gS σ + 11 := r5
  have i1 : ∀ a k, a < gS σ → a ≠ o → gI (rd3 o σ (Int32.ofNat n)) a k = gI σ a k := fun a k h1 h2 => by
    rw [((old a h1).2 k).2.1]
    unfold rd1
    rw [pIo (by omega), pIo (by omega), pIo (by omega), pIo (by omega)]
  have rb3 : RB (gS σ) (rd3 o σ (Int32.ofNat n)) := by
    unfold rd3
    obtain ⟨q1, q2, q3, q4, q5, q6⟩ := r1
    have g : ∀ a k, gS σ ≤ a → gR (pR (f_X3_init (gS σ) (pN (rd1 o σ (Int32.ofNat n)) (.inl 3))) o 7 (some (gS σ))) a k = gR (f_X3_init (gS σ) (pN (rd1 o σ (Int32.ofNat n)) (.inl 3))) a k := fun a k h => by rw [gR_pR, if_neg (by omega)]
    have ga : ∀ e N, gS σ ≤ e → AB e N (f_X3_init (gS σ) (pN (rd1 o σ (Int32.ofNat n)) (.inl 3))) → AB e N (pR (f_X3_init (gS σ) (pN (rd1 o σ (Int32.ofNat n)) (.inl 3))) o 7 (some (gS σ))) := fun e N h w => ⟨w.1, by rw [g _ _ h]; exact w.2.1, w.2.2⟩
    exact ⟨q1, ⟨by rw [g _ _ (by omega)]; exact q2.1, ga _ _ (by omega) q2.2⟩, ⟨by rw [g _ _ (by omega)]; exact q3.1, ga _ _ (by omega) q3.2⟩, ⟨by rw [g _ _ (by omega)]; exact q4.1, ga _ _ (by omega) q4.2⟩, ⟨by rw [g _ _ (by omega)]; exact q5.1, ga _ _ (by omega) q5.2⟩, by rw [g _ _ (by omega)]; exact q6.1, ga _ _ (by omega) q6.2⟩
  have eb3 : EB o c (gS σ) (rd3 o σ (Int32.ofNat n)) := by
    refine ⟨(old o ho).1.trans hE.1, (((old o ho).2 8).1 (by omega)).trans hE.2.1, (old c hc').1.trans hE.2.2.1, (((old c hc').2 0).1 (by omega)).trans hE.2.2.2.1, (old (c + 1) hc).1.trans hE.2.2.2.2, ?_, rb3⟩
    unfold rd3
    rw [gR_pR, if_pos ⟨rfl, rfl⟩]
  have ft3 : FT o σ (rd3 o σ (Int32.ofNat n)) := ⟨by omega, fun a ha => ⟨(old a ha).1, fun k => ⟨((old a ha).2 k).1, fun q => ⟨i1 a k ha q, ((old a ha).2 k).2.2⟩⟩⟩⟩
  have o0 : gI (rd3 o σ (Int32.ofNat n)) o 0 = Int32.ofNat 0 := by rw [((old o ho).2 0).2.1]; unfold rd1; simp [gI_pI]
  have o1 : gI (rd3 o σ (Int32.ofNat n)) o 1 = Int32.ofNat n := by rw [((old o ho).2 1).2.1]; unfold rd1; simp [gI_pI]
  have o5 : gI (rd3 o σ (Int32.ofNat n)) o 5 = Int32.ofNat 0 := by rw [((old o ho).2 5).2.1]; unfold rd1; simp [gI_pI]
  have o6 : gI (rd3 o σ (Int32.ofNat n)) o 6 = 0 := by rw [((old o ho).2 6).2.1]; unfold rd1; simp [gI_pI]
  have d10 : gI (rd3 o σ (Int32.ofNat n)) (gS σ) 10 = Int32.ofNat 0 := r3
  have d11 : gI (rd3 o σ (Int32.ofNat n)) (gS σ) 11 = Int32.ofNat 0 := r4
  have hTB : TB o c b n (rd3 o σ (Int32.ofNat n)) := ⟨o1, hn9, hoc, fun i hi => by rw [i1 _ _ hc (Ne.symm hoc)]; exact hb i hi⟩
  have L3 : LRl (gS σ) (rd3 o σ (Int32.ofNat n)) rl0 := by
    unfold rd3
    exact r2.ag ⟨Nat.le_refl _, fun a h1 _ => ⟨rfl, fun k => ⟨by rw [gR_pR, if_neg (by omega)], rfl, rfl⟩⟩⟩ (fun a k _ _ _ _ => rfl) (fun k _ => rfl) (fun a k h1 h2 => by rw [gR_pR, if_neg (by omega)])
  refine ⟨by omega, eb3, wp_next (b := b) (n := n) hTB o0 (Nat.zero_le _) (fun s c1 c2 _ => ?_)⟩
  have f1 : FR (S5 o (gS σ)) (rd3 o σ (Int32.ofNat n)) s := FR.ofCh c1 (fun a k => S4_S5)
  have z1 := c1.gs
  have R1 : RDR o c (gS σ) b n s (tk b n 0) 0 0 := ⟨hTB.ch c1, c2, tv_tk (Nat.zero_le _), by rw [c1.gi (by unfold S4; omega)]; exact o5, by rw [c1.gi (by unfold S4; omega)]; exact d10, by omega, by omega, ho, hc, by omega⟩
  have hv0 : TV n (tk b n 0) := tv_tk (Nat.zero_le _)
  obtain ⟨r, hr⟩ := tx_tot (b := b) ((rl0, false, false, false), 0, tk b n 0) hv0
  have hx : textS b n = r := rsOf_eq hr
  rw [hx] at hok hbad
  have ff : FT o σ s := FX2.ft ft3 (Nat.le_refl _) f1.fx.x2
  have hsz : gS s = gS σ + 11 := z1.trans z3
  refine lp_rn (step := txStep b n) (fun S τ => FT o σ τ ∧ RDR o c (gS σ) b n τ S.2.2 0 (aK S.1.1) ∧ LRl (gS σ) τ S.1.1 ∧ LsOk (aL S.1.1) ∧ TD o τ S.1 ∧ gS τ ≤ gS σ + 11 + 4 * tPl S.2.2 ∧ gI τ (gS σ) 11 = Int32.ofNat S.2.1 ∧ S.2.1 ≤ tPl S.2.2) ?_ (s := ((rl0, false, false, false), 0, tk b n 0)) ⟨ff, R1, L3.fr f1 ho (by omega), fun x hx => (by cases hx), ?_, by show gS s ≤ _; omega, ?_, Nat.zero_le _⟩ hr
  · rintro K ⟨P, ln, t⟩ τ ⟨g1, g3, g4, g5, g6, g7, g8, g9⟩ hK hEn
    simp only at g3 g4 g5 g6 g7 g8 g9
    have hv := g3.2.2.1
    have hpl := (pl_i g3).2
    unfold lb_X2_read_35
    rw [(srt g3.2.1 hv).2.2.2]
    refine ⟨fun k0 => ?_, fun k0 => ?_⟩
    · have es : txStep b n (P, ln, t) = .inr (.inl (P.1, ln)) := by unfold txStep; rw [if_pos k0]
      exact hok P.1 ln τ (hEn _ es).symm g1 g4 g3.2.2.2.2.1 g8 g3.2.2.2.2.2.2.2.2.2 g5 g3.2.2.2.2.2.2.1
    · refine rd_line (B0 := gS σ + 11) hM g3 g4 g5 g6 g7 (fun P' t' σ' e x1 x2 x3 x4 x5 x6 _ => ?_) (fun k pl q σ' e x1 x2 => hbad k pl q σ' ?_ (FX2.ft g1 (Nat.le_refl _) x1) x2)
      · have es : txStep b n (P, ln, t) = .inl (P', ln + 1, t') := by
          unfold txStep
          rw [if_neg k0]
          simp only [e]
        have pg := (pg_line hv _ _ e).2
        refine hK _ σ' es ⟨FX2.ft g1 (Nat.le_refl _) x1, x2, x3, ls_line g5 e, x4, x5, ?_, by show ln + 1 ≤ tPl t'; omega⟩
        rw [x6, g8, nat_s (by omega)]
      · have es : txStep b n (P, ln, t) = .inr (.inr (k, pl)) := by
          unfold txStep
          rw [if_neg k0]
          simp only [e]
        exact (hEn _ es).symm
  · unfold TD
    rw [f1.gi (by omega) (by unfold S5; omega), o6]
    exact ⟨has_0 _, has_0 _, has_0 _⟩
  · rw [f1.gi (by omega) (by unfold S5; omega)]; exact d11
