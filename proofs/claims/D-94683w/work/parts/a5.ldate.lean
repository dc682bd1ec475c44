set_option maxRecDepth 100000
/-- every land's numbers are in order -/
def LsOk (l : List LandA) : Prop := ∀ x ∈ l, LOK x.2.1.toInt x.2.2.1.toInt x.2.2.2.toInt
theorem rd_date {o c d : Nat} {b : Nat → Int32} {n : Nat} {σ : Hp} {t : Tok} {brk cnt Mx : Nat} {R : RlA} {lo : Int64} {Q : Int64 → Hp → Prop} {E : Nat → Hp → Prop} (h : RDR o c d b n σ t brk cnt) (hL : LRl d σ R) (hk : LsOk (aL R)) (hM : gS σ + 1 ≤ Mx) (hg : LG o c d b n brk cnt σ (dateS b n (aL R) lo t) Q E) : wp_X2_date o c d σ lo Mx Q E := by
  obtain ⟨g1, g2⟩ := hg
  have ho : o < d := h.2.2.2.2.2.2.2.1
  have hd : d + 11 ≤ gS σ := h.2.2.2.2.2.2.2.2.2
  refine rd_number h hM ⟨fun y t1 s1 e1 f1 z1 R1 _ => ?_, fun k pl q s' e f g => g2 k pl q s' (by unfold dateS; rw [e]; rfl) f g⟩
  have hv := R1.2.2.1
  have h2 := R1.2.1
  have L1 := hL.fr f1 ho hd
  have yb : 0 ≤ y.toInt ∧ y.toInt ≤ 99999 := by
    unfold numS at e1
    split at e1
    · split at e1
      · rename_i w
        cases e1
        exact w
      · cases e1
    · cases e1
  have bad : ∀ x, dateS b n (aL R) lo t = .inr (x, tPl t1) → wp_X2_wrong o c d s1 x Mx (fun r s => GX s1 s → (OB 16 r s) ∧ (E r s)) E := fun x ex => rd_throw h2 (by omega) (by omega) (fun q σ' f g => g2 _ _ q σ' ex (f1.tr f) g)
  have ex : dateS b n (aL R) lo t = if tKd t1 = 3 then (if (tWh t1).toInt ≤ 99999 then (match aL R with
    | [] => .inr (5, tPl t1)
    | l :: _ => if 1 ≤ y.toInt ∧ 1 ≤ lenI l.2.1.toInt l.2.2.1.toInt y.toInt ∧ 1 ≤ (tWh t1).toInt ∧ (tWh t1).toInt ≤ lenI l.2.1.toInt l.2.2.1.toInt y.toInt ∧ lo.toInt ≤ begI l.2.1.toInt l.2.2.1.toInt l.2.2.2.toInt y.toInt + (tWh t1).toInt - 1 then .inl (mStart l.2.1 l.2.2.1 l.2.2.2 y.toInt64 + (tWh t1).toInt64 - 1, adv b n t1) else .inr (5, tPl t1)) else .inr (2, tPl t1)) else .inr (1, tPl t1) := by
    unfold dateS
    rw [e1]
    rfl
  rw [(srt h2 hv).1]
  refine ⟨fun k3 => ?_, fun k3 => bad 1 (by rw [ex, if_neg k3])⟩
  rw [if_pos k3] at ex
  have e4 : gI s1 o 4 = tWh t1 := by
    rw [h2.2.2.2 (by rw [k3]; decide) (by rw [k3]; decide)]
    simp [valL, k3]
  rw [e4, i3_le rfl (y := 99999) (by rfl)]
  refine ⟨fun k9 => ?_, fun k9 => bad 2 (by rw [ex, if_neg k9])⟩
  rw [if_pos k9] at ex
  have wb := (hv.2.2.2.2.2.2.2.2 k3).1
  generalize dateS b n (aL R) lo t = X at ex bad g1 g2
  cases hl : aL R with
  | nil =>
    rw [hl] at ex
    have hz : gI s1 (d + 1) 2 = 0 := by have := L1.1.1; rw [hl] at this; exact this
    have he : f_J2_isEmpty (d + 1) 4 s1 = 1 := by unfold f_J2_isEmpty; rw [if_pos hz]
    rw [he]
    exact ⟨fun w => (by cases w), fun _ => bad 5 ex⟩
  | cons l ls =>
    rw [hl] at ex
    have hs : gI s1 (d + 1) 2 = Int32.ofNat (ls.length + 1) := by have := L1.1.1; rw [hl] at this; exact this
    have hc : ls.length + 1 ≤ 4 := by have := L1.1.2.1; rw [hl] at this; exact this
    have hne : ¬ gI s1 (d + 1) 2 = 0 := by
      rw [hs]
      exact fun w => by rw [show (0 : Int32) = Int32.ofNat 0 from rfl, nat_e (by omega) (by omega)] at w; omega
    have he : f_J2_isEmpty (d + 1) 4 s1 = 0 := by unfold f_J2_isEmpty; rw [if_neg hne]
    obtain ⟨p, p1, p2, p3⟩ := L1.1.2.2 0 l (by rw [hl]; rfl)
    have eg : f_J2_get (d + 1) 4 s1 0 = p := by
      unfold f_J2_get f_J2_elementData rf
      rw [show (0 : Int32).toNatClampNeg = 0 from rfl, p1]; rfl
    have hD : LDo p s1 l.2.1 l.2.2.1 l.2.2.2 := ⟨p3.2.2.2.1, p3.2.2.2.2.1, p3.2.2.2.2.2⟩
    have kl : LOK3 l.2.1 l.2.2.1 l.2.2.2 := hk l (by rw [hl]; exact List.mem_cons_self)
    have y64 : y.toInt64.toInt = y.toInt := i2_l y
    rw [he, eg]
    refine ⟨fun _ => ⟨⟨⟨fun w => absurd w (by decide), fun _ => ⟨fun _ => trivial, fun w => ?_⟩⟩, vp_of (by decide) (by decide), by rw [show (0 : Int32).toNatClampNeg = 0 from rfl, p1]; exact Option.some_ne_none _⟩, p3.2.1, ⟨fun _ => trivial, fun _ => ok_last hD kl⟩, ?_⟩, fun w => absurd rfl w⟩
    · rw [hs, i3_lt (x := 0) (by rfl) (nat_i (by omega))] at w; omega
    rw [(fl_has hD kl _).1, fl_len hD, fl_start hD]
    unfold hasY
    rw [y64]
    refine ⟨fun w => bad 5 (by rw [ex]; exact if_neg (fun z => w ⟨z.1, z.2.1⟩)), fun w => ?_⟩
    have w := Classical.byContradiction w
    have elen := mLen_i kl (y := y.toInt64) (by omega) (by omega)
    rw [y64] at elen
    rw [in_iff (i2_l (tWh t1)) (y := 1) (by rfl) elen]
    refine ⟨fun w2 => bad 5 (by rw [ex]; exact if_neg (fun z => w2 ⟨z.2.2.1, z.2.2.2.1⟩)), fun w2 => ?_⟩
    have w2 := Classical.byContradiction w2
    -- no year told is a great one
    have hgb : 0 ≤ l.2.2.1.toInt ∨ y.toInt ≤ 9999 := by
      by_cases hg : 0 ≤ l.2.2.1.toInt
      · exact Or.inl hg
      · have := (last_iff (L := l.2.1.toInt) (g := l.2.2.1.toInt) (y := y.toInt) (by omega)).mpr w.2
        have b' := ediv_b (a := l.2.1.toInt - 1) (b := -l.2.2.1.toInt) (by have := kl.1; omega) (by omega)
        have := kl.2.1
        exact Or.inr (by omega)
    have est := mStart_i kl (y := y.toInt64) (by omega) (by omega) (by omega)
    rw [y64] at est
    have bb : begI l.2.1.toInt l.2.2.1.toInt l.2.2.2.toInt y.toInt ≤ 600000000000 ∧ 0 ≤ begI l.2.1.toInt l.2.2.1.toInt l.2.2.2.toInt y.toInt := by
      obtain ⟨k1, k2, k3, k4, k5, k6⟩ := kl
      constructor
      · unfold begI
        have m1 := mul_bd (a := l.2.1.toInt) (b := y.toInt - 1) (by omega) k2 (by omega) (show y.toInt - 1 ≤ 99998 by omega)
        have m2 := tri_nn (n := y.toInt - 1) (by omega)
        have m3 : tri (y.toInt - 1) ≤ 4999750003 := by
          by_cases q : y.toInt - 1 = 0
          · rw [q]; decide
          · have := tri_up (n := y.toInt - 1) (k := 99998) (by omega) (by omega)
            have e : tri 99998 = 4999750003 := by decide
            omega
        have m4 : l.2.2.1.toInt * tri (y.toInt - 1) ≤ 99 * 4999750003 := by
          by_cases hg : 0 ≤ l.2.2.1.toInt
          · exact (mul_bd hg k4 m2 m3).2
          · have := (mul_ng (A := 99) k3 (show l.2.2.1.toInt ≤ 0 by omega) m2 m3).2
            omega
        omega
      · by_cases e : y.toInt = 1
        · rw [e, beg_one]; exact k5
        · have := beg_lt (L := l.2.1.toInt) (g := l.2.2.1.toInt) (f := l.2.2.2.toInt) (y := 1) (z := y.toInt) k1 (Int.le_refl _) (by omega) (Or.inr (len_dn k1 (by omega) (by omega) (Or.inr w.2)))
          rw [beg_one] at this
          omega
    have esum : ((mStart l.2.1 l.2.2.1 l.2.2.2 y.toInt64 + (tWh t1).toInt64) - 1).toInt = begI l.2.1.toInt l.2.2.1.toInt l.2.2.2.toInt y.toInt + (tWh t1).toInt - 1 := l3_sub (l3_add (est.trans (by omega)) (i2_l _) (by omega) (by omega)) (by rfl) (by omega) (by omega)
    rw [l3_le rfl esum]
    refine ⟨fun w3 v hv' => ?_, fun w3 => bad 5 (by rw [ex]; exact if_neg (fun z => w3 z.2.2.2.2))⟩
    subst hv'
    refine R1.nx (fun s38 f2 z2 R2 _ => g1 _ _ s38 (by rw [ex]; exact if_pos ⟨w.1, w.2, w2.1, w2.2, w3⟩) (f1.tr f2) (z2.trans z1) R2)
