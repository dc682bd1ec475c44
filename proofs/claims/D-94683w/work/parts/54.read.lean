set_option maxRecDepth 100000
theorem GX.both {σ τ : Hp} (h : GX σ τ) {a k : Nat} {v : Option Nat} : GX (pR σ a k v) (pR τ a k v) := by
  refine ⟨h.1, h.2.1, fun b j q1 q2 => ?_, h.2.2.2.1, h.2.2.2.2⟩
  have e := h.2.2.1 b j q1 q2
  show u2 (gR τ) a k v b j = u2 (gR σ) a k v b j
  unfold u2
  split
  · split
    · rfl
    · exact e
  · exact e
/-- the reader ahead of a text -/
def ER (o c : Nat) (σ : Hp) : Prop := gT σ o = some (.inl 2) ∧ gR σ o 8 = some c ∧ gT σ c = some (.inl 1) ∧ gR σ c 0 = some (c + 1) ∧ gT σ (c + 1) = some (.inr (.byte, 900))
def rd1 (o : Nat) (σ0 : Hp) (x1 : Int32) : Hp := pI (pI (pI (pI σ0 o 0 0) o 1 x1) o 5 0) o 6 0
/-- a new realm is laid -/
def rd3 (o : Nat) (σ0 : Hp) (x1 : Int32) : Hp := pR (f_X3_init (gS σ0) (pN (rd1 o σ0 x1) (.inl 3))) o 7 (some (gS σ0))
def lb_X2_read_35 (o c d Mx : Nat) (Q : Nat → Hp → Prop) (E : Nat → Hp → Prop) (K35 : Hp → Prop) (σ : Hp) : Prop := (gI σ o 3 = 4 → Q d σ) ∧ (¬ gI σ o 3 = 4 → wp_X2_line o c d σ Mx (fun s => GX σ s → K35 s) E)
def wp_X2_read (o c : Nat) (σ0 : Hp) (x1 : Int32) (Mx : Nat) (Q : Nat → Hp → Prop) (E : Nat → Hp → Prop) : Prop := (gS σ0 + 11 ≤ Mx) ∧ EB o c (gS σ0) (rd3 o σ0 x1) ∧ wp_X2_next o c (gS σ0) (rd3 o σ0 x1) (fun s => SH (rd3 o σ0 x1) s → lp (lb_X2_read_35 o c (gS σ0) Mx Q E) s)
abbrev rm_X2_read (Mx : Nat) (σ0 : Hp) : Room := rmG 832 27443 Mx σ0
theorem xl_X2_read_35 (o c d : Nat) (σ0 σ3 : Hp) (Mx : Nat) (Q : Nat → Hp → Prop) (E : Nat → Hp → Prop) (G : XE) (hB3 : EB o c d σ3) (rq : RQx G [] (Mx - gS σ0) (16 * (Mx - gS σ0)) (oR (fun r σ' => gP Mx σ0 (fun s => EB o c r s ∧ Q r s) σ')) (pxF Mx σ0 E)) (hz : G.2.2.2.1.heap.size = gS σ0) : ∀ z : Hp, (GX σ3 z ∧ GX σ0 z ∧ gS z ≤ Mx) → lp (lb_X2_read_35 o c d Mx Q E) z → X G (rm_X2_read Mx σ0) cX2_read RX2 2 (some (.object "LongYears$Realm")) z (gS z - gS σ0) (16 * (gS z - gS σ0)) 35 [(0, .ref o)] [] := by
  intro z
  refine fun hs h => lp_X (P := fun z => (GX σ3 z ∧ GX σ0 z ∧ gS z ≤ Mx) → X G (rm_X2_read Mx σ0) cX2_read RX2 2 (some (.object "LongYears$Realm")) z (gS z - gS σ0) (16 * (gS z - gS σ0)) 35 [(0, .ref o)] []) ?_ h hs
  intro K35 hK35 σ h hs
  obtain ⟨hs3, hs, hle⟩ := hs
  have hB := hB3.gx hs3
  simp only [lb_X2_read_35] at h
  refine x_aload_n dX2_read_35 (n := 36) rfl rfl 0 rfl ?_
  refine x_geti fl_X2_33_2 rfl hB.1 rfl dX2_read_36 (n := 39) rfl ?_
  refine x_iconst dX2_read_39 (n := 40) rfl ic_4 ?_
  refine x_icmp_eq (tgt := 50) dX2_read_40 rfl (n := 43) rfl (fun cc1 => ?_) (fun cc1 => ?_)
  · have h := h.1 cc1
    refine x_aload_n dX2_read_50 (n := 51) rfl rfl 0 rfl ?_
    refine x_getr fl_X2_115_2 rfl hB.1 hB.2.2.2.2.2.1 dX2_read_51 (n := 54) rfl ?_
    exact g_aret (P := fun r s => EB o c r s ∧ Q r s) rfl rq hs hle ⟨hB, h⟩ dX2_read_54
  · have h := h.2 cc1
    refine x_aload_n dX2_read_43 (n := 44) rfl rfl 0 rfl ?_
    refine g_cVv (fr := 832) (lo := 27443) (As := []) (rest := []) hz hs cv_X2_119 ck2 (met_X2_line o c d σ Mx _ _ hB hle h) hB.1 (by decide) hle rfl rfl rfl dX2_read_44 (n := 47) rfl (fun q s1 hs1 hl1 h => g_out rq (hs.tr hs1) hl1 h) (fun s1 hs1 hl1 h => ?_)
    have h := h hs1
    refine x_goto (tgt := 35) dX2_read_47 rfl ?_
    exact hK35 s1 h ⟨hs3.tr hs1, hs.tr hs1, hl1⟩
theorem met_X2_read (o c : Nat) (σ0 : Hp) (x1 : Int32) (Mx : Nat) (Q : Nat → Hp → Prop) (E : Nat → Hp → Prop) (hE : ER o c σ0) (hM0 : gS σ0 ≤ Mx) (h : wp_X2_read o c σ0 x1 Mx Q E) : MetY yX2_read cX2_read 2 (some (.object "LongYears$Realm")) (rm_X2_read Mx (pR σ0 o 7 (some (gS σ0)))) σ0 [.ref o, .int x1] (oR (fun r σ' => gP Mx (pR σ0 o 7 (some (gS σ0))) (fun s => EB o c r s ∧ Q r s) σ')) (pxF Mx (pR σ0 o 7 (some (gS σ0))) E) (Mx - gS (pR σ0 o 7 (some (gS σ0)))) (16 * (Mx - gS (pR σ0 o 7 (some (gS σ0))))) := by
  refine metG_of (Mx := Mx) (σ0 := σ0) (fr := 832) (lo := 27443) (own := RX2) (lvs := [(0, .ref o), (1, .int x1)]) (by decide) rfl (Nat.le_of_ble_eq_true rfl) rfl (fun G rq hz w0 => ?_)
  obtain ⟨hb, hB3, h⟩ := h
  have ht : gT (rd1 o σ0 x1) o = some (.inl 2) := hE.1
  refine x_aload_n dX2_read_0 (n := 1) rfl rfl 0 rfl ?_
  refine x_iconst dX2_read_1 (n := 2) rfl ic_0 ?_
  refine x_puti fp_X2_15_2 rfl hE.1 dX2_read_2 (n := 5) rfl ?_
  refine x_aload_n dX2_read_5 (n := 6) rfl rfl 0 rfl ?_
  refine x_iload_n dX2_read_6 (n := 7) rfl rfl 1 rfl ?_
  refine x_puti fp_X2_19_2 rfl hE.1 dX2_read_7 (n := 10) rfl ?_
  refine x_aload_n dX2_read_10 (n := 11) rfl rfl 0 rfl ?_
  refine x_iconst dX2_read_11 (n := 12) rfl ic_0 ?_
  refine x_puti fp_X2_106_2 rfl hE.1 dX2_read_12 (n := 15) rfl ?_
  refine x_aload_n dX2_read_15 (n := 16) rfl rfl 0 rfl ?_
  refine x_iconst dX2_read_16 (n := 17) rfl ic_0 ?_
  refine x_puti fp_X2_109_2 rfl hE.1 dX2_read_17 (n := 20) rfl ?_
  refine x_aload_n dX2_read_20 (n := 21) rfl rfl 0 rfl ?_
  have g1 : GX σ0 (rd1 o σ0 x1) := (GX.rf (σ := σ0)).i.i.i.i
  refine g_new (σ := rd1 o σ0 x1) hz g1 nx_X2_112 (by decide) (show gS σ0 + 1 ≤ Mx by omega) dX2_read_21 (n := 24) rfl (fun w1 hn1 => ?_)
  refine x_dup dX2_read_24 (n := 25) rfl rfl ?_
  refine x_wf (fun w2 => ?_)
  refine x_callI (mc := 10) (ms := 95) (As := []) (rest := [.ref (gS (rd1 o σ0 x1)), .ref o]) ci_X2_114 (met_X3_init (gS (rd1 o σ0 x1)) (pN (rd1 o σ0 x1) (.inl 3)) (gT_new (σ := rd1 o σ0 x1))) (hRi (fr := 832) (lo := 27443) (mc := 10) (ms := 95) hn1 rfl rfl (by decide) (by decide) (show gS σ0 + 1 + 10 ≤ Mx by omega)) rfl rfl rfl dX2_read_25 (n := 28) rfl (fun s2 hp => ?_)
  obtain ⟨hk, e⟩ := hp
  have g2 : GX σ0 s2 := hk.2 σ0 w0 hn1 (w0 _ (Nat.le_refl _)) w2
  have hto : gT s2 o = some (.inl 2) := g2.t hE.1
  refine x_putr fp_X2_115_2 rfl hto dX2_read_28 (n := 31) rfl ?_
  have e3 : pR s2 o 7 (some (gS (rd1 o σ0 x1))) = rd3 o σ0 x1 := by rw [e]; rfl
  rw [e3]
  have g3 : GX (pR σ0 o 7 (some (gS σ0))) (rd3 o σ0 x1) := by rw [← e3]; exact g2.both
  have hl3 : gS (rd3 o σ0 x1) ≤ Mx := by rw [← e3, e]; exact hb
  refine x_tight (σ0 := (pR σ0 o 7 (some (gS σ0)))) hz g3 ?_
  refine x_aload_n dX2_read_31 (n := 32) rfl rfl 0 rfl ?_
  refine x_cVvm (As := []) (rest := []) cv_X2_89 ck2 (met_X2_next o c (gS σ0) (rd3 o σ0 x1) _ hB3 h) hB3.1 (hRg (σ0 := (pR σ0 o 7 (some (gS σ0)))) (fr := 832) (lo := 27443) (by decide) hl3) rfl rfl rfl dX2_read_32 (n := 35) rfl (fun s4 hs4 h => ?_)
  have h := h hs4
  have g4 := g3.s hs4
  refine x_tight (σ0 := (pR σ0 o 7 (some (gS σ0)))) hz g4 ?_
  exact x_sub [0] rfl (xl_X2_read_35 o c (gS σ0) (pR σ0 o 7 (some (gS σ0))) (rd3 o σ0 x1) Mx Q E G hB3 rq hz s4 ⟨.ofSH hs4, g4, Nat.le_trans (Nat.le_of_eq hs4.1) hl3⟩ h)
