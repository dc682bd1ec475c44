set_option maxRecDepth 100000
/-! ALONE, FITS -/
def QLn {α : Type} (o c : Nat) (R : RlA) (N : List NoteW) (σ : Hp) (w : (α → Hp → Prop) → Prop) (v : α) : Prop := ∀ Q : α → Hp → Prop, (∀ σ', Ch (SLf o) σ σ' → LQ o c R N σ' → Q v σ') → w Q
def QMn {α : Type} (m : Nat) (τ : Hp) (w : (α → Hp → Prop) → Prop) (v : α) : Prop := ∀ Q : α → Hp → Prop, (∀ τ', Ch (SMn m) τ τ' → gI τ' m 2 = 0 → Q v τ') → w Q
theorem l_isNote {o c : Nat} {R : RlA} {N : List NoteW} {σ : Hp} (h : LQ o c R N σ) (x : Int32) : f_X1_isNote o c σ x = 0 ↔ ¬ (0 ≤ x.toInt ∧ x.toInt < N.length) := by
  have n12 := h.2.2.1
  unfold f_X1_isNote
  have e1 : (Int32.ofNat N.length - 1).toInt = (N.length : Int) - 1 := i3_sub (nat_i (by omega)) (by rfl) (by omega) (by omega)
  rw [h.2.1, in_iff (x := x.toInt) (y := 0) (z := (N.length : Int) - 1) (by rw [Int32.toInt_toInt64]) (by rfl) (by rw [Int32.toInt_toInt64]; exact e1)]
  omega
theorem m_isNote {m : Nat} {R : RlA} {N : List NoteW} {τ : Hp} (h : MQt m R N τ) (x : Int32) : f_X6_isNote m τ x = 0 ↔ ¬ (0 ≤ x.toInt ∧ x.toInt < N.length) := m_in (by have := h.2.2.1; omega) h.2.1
theorem t0n {m : Nat} {τ : Hp} {v : Int32} : Ch (SMn m) τ (pI τ m 2 v) := Ch.rf.i (Or.inl (Or.inl ⟨rfl, by omega⟩))
theorem sh1n {i : Nat} (hi : i < 32) {j : Nat} (hj : j < 32) : nHas (1 <<< (Int32.ofNat i &&& 31)) j = decide (j = i) := sh1 i hi j hj
theorem of_i {x : Int32} {y : Int} (h : x.toInt = y) : x = Int32.ofInt y := by rw [← h, Int32.ofInt_toInt]
noncomputable def aloneT (R : RlA) (w : NoteW) : Nat × Int × Int := ftA (fun e => canP R w (e : Int)) 20000
def v3 (t : Nat × Int × Int) (x : Int32) : Int32 := if x = 0 then Int32.ofNat t.1 else if x = 1 then Int32.ofInt t.2.1 else Int32.ofInt t.2.2
theorem q_alone {o c m : Nat} {σ : Hp} {R : RlA} {N : List NoteW} {x1 x2 : Int32} (hk : ROk R) (hL : LQ o c R N σ) : ∃ v, QLn o c R N σ (wp_X1_alone o c σ x1 x2) v ∧ ∀ τ, MQt m R N τ → QMn m τ (wp_X6_alone m τ x1 x2) v := by
  have M2 : ∀ τ, MQt m R N τ → MQt m R N (pI τ m 2 0) := fun τ hM => hM.n t0n
  have n12 := hL.2.2.1
  have il := l_isNote hL x1
  have im := fun τ hM => m_isNote (M2 τ hM) x1
  have wl : f_X1_in x2.toInt64 0 2 = 0 ↔ ¬ (0 ≤ x2.toInt ∧ x2.toInt ≤ 2) := in_iff (i2_l x2) (by rfl) (by rfl)
  have wm : f_X6_isIn x2 0 2 = 0 ↔ ¬ (0 ≤ x2.toInt ∧ x2.toInt ≤ 2) := isIn_iff x2 0 2
  rcases (Classical.em (0 ≤ x1.toInt ∧ x1.toInt < N.length)).symm with q1 | q1
  · exact ⟨-1, fun Q hQ => ⟨in_01 _ _ _, cT (il.mpr q1) (hQ _ Ch.rf hL)⟩, fun τ hM Q hQ => cT ((im τ hM).mpr q1) (hQ _ t0n t0_2)⟩
  rcases (Classical.em (0 ≤ x2.toInt ∧ x2.toInt ≤ 2)).symm with q2 | q2
  · exact ⟨-1, fun Q hQ => ⟨in_01 _ _ _, cF (fun z => il.mp z q1) (cT (wl.mpr q2) (hQ _ Ch.rf hL))⟩, fun τ hM Q hQ => cF (fun z => (im τ hM).mp z q1) (cT (wm.mpr q2) (hQ _ t0n t0_2))⟩
  obtain ⟨i, w, rfl, hw⟩ := at_get q1 (by omega)
  have il' := get_lt hw
  refine ⟨v3 (aloneT R w) x2, fun Q hQ => ⟨in_01 _ _ _, cF (fun z => il.mp z q1) (cF (fun z => wl.mp z q2) ?_)⟩, fun τ hM Q hQ => cF (fun z => (im τ hM).mp z q1) (cF (fun z => wm.mp z q2) ?_)⟩
  · refine l_link hL (fun s1 k1 hs1 hr1 => l_fit hk hs1 hr1 (by omega) (fun v s2 k2 hs2 _ f => ?_))
    have e : ftA (fun e : Nat => holdsP R N (nHas (1 <<< (Int32.ofNat i &&& 31))) (rL N (nHas 0)) i (e : Int)) 20000 = aloneT R w := ft_cg _ (fun e _ => by
      have r0 : ∀ k, rL N (nHas 0) k = (k, 0) := fun k => by unfold rL; rw [has_0]; rfl
      constructor
      · intro h
        have := h i w hw (by rw [sh1n (by omega) (by omega)]; simp) (by rw [r0])
        rw [r0] at this
        simpa using this
      · intro h k w' hw' hs hr
        have kl := get_lt hw'
        rw [sh1n (by omega) (by omega)] at hs
        have : k = i := of_decide_eq_true hs
        subst this
        rw [hw] at hw'
        cases hw'
        rw [r0]
        simpa using h)
    rw [e] at f
    have g := hQ s2 ((k1.up (fun a k q => Or.inr q)).tr k2) hs2
    have z1 : (1 : Int32) ≠ 0 := by decide
    unfold v3 at g
    refine ⟨fun a => ?_, fun a => ⟨fun b => ?_, fun b => ?_⟩⟩
    · rw [if_pos a] at g; rw [f.1]; exact g
    · rw [if_neg a, if_pos b] at g; rw [of_i f.2.1]; exact g
    · rw [if_neg a, if_neg b] at g; rw [of_i f.2.2]; exact g
  · refine m_layCan hk (M2 τ hM) hw (fun s1 k1 e2 hr => ?_)
    have cu : Ch (SMn m) τ s1 := t0n.tr (k1.up (fun a k q => q.elim Or.inl (fun q => Or.inr (Or.inr (Or.inl q.1)))))
    have e2 : gI s1 m 2 = 0 := e2.trans t0_2
    have i62 : ∀ j, 62 ≤ j → j ≤ 64 → SMg m m j := fun j a b => ⟨rfl, a, b⟩
    refine lp_of (fun z => ∃ k, k ≤ 20000 ∧ z.1 = Int32.ofNat k ∧ Ch (SMg m) s1 z.2 ∧ F3 m 62 z.2 (ftA (fun e : Nat => canP R w (e : Int)) k)) (fun z => 20000 - z.1.toNatClampNeg) ?_ ⟨0, by omega, rfl, ((Ch.rf.i (i62 _ (by omega) (by omega))).i (i62 _ (by omega) (by omega))).i (i62 _ (by omega) (by omega)), by refine ⟨?_, ?_, ?_⟩ <;> simp [gI_pI, ftA]⟩
    rintro K ⟨x3, s⟩ ⟨k, hk2, rfl, g1, g2⟩ hK
    simp only at g1 g2
    have bb := ft_b (fun e : Nat => canP R w (e : Int)) k
    show (_ → _) ∧ (_ → _)
    rw [show (20000 ≤ Int32.ofNat k) ↔ 20000 ≤ k from nat_le (p := 20000) (by omega) (by omega)]
    refine ⟨fun z => ?_, fun z => ?_⟩
    · have e : k = 20000 := by omega
      subst e
      have g := hQ s (cu.tr (g1.up (fun a k q => q.n))) (by rw [g1.gi (by unfold SMg; omega)]; exact e2)
      unfold v3 aloneT at g
      unfold f_X6_told3
      rw [g2.1, of_i g2.2.1, of_i g2.2.2]
      exact g
    · have hc := hr k (by omega)
      have nx : 20000 - (Int32.ofNat (k + 1)).toNatClampNeg < 20000 - (Int32.ofNat k).toNatClampNeg := by rw [nat_c (by omega), nat_c (by omega)]; omega
      have ec : gI s (m + 25) (20000 * i + k) = gI s1 (m + 25) (20000 * i + k) := g1.gi (by unfold SMg; omega)
      rw [i20k (by omega) (by omega), nat_c (by omega), ec, nat_s (p := k) (by omega)]
      refine ⟨nat_v (by omega) (by omega), fun y => hK _ ⟨k + 1, by omega, rfl, g1, ?_⟩ nx, fun y => ?_⟩
      · show F3 m 62 s (ftA (fun e : Nat => canP R w (e : Int)) (k + 1))
        rw [ft_n (fun z => hc.mpr z y)]
        exact g2
      · have hPk : canP R w (k : Int) := hc.mp y
        have f63 : 0 ≤ gI s m 63 ↔ ¬ (ftA (fun e : Nat => canP R w (e : Int)) k).1 = 0 := by
          rw [i3_le (x := 0) (by rfl) g2.2.1]
          constructor
          · intro a b
            have := (bb.2.1 b).1
            omega
          · intro a
            exact (bb.2.2.1 a).1
        rw [f63, g2.1, nat_s (by omega)]
        refine ⟨fun z0 => hK _ ⟨k + 1, by omega, rfl, (g1.i (i62 _ (by omega) (by omega))).i (i62 _ (by omega) (by omega)), ?_⟩ nx, fun z0 => hK _ ⟨k + 1, by omega, rfl, ((g1.i (i62 _ (by omega) (by omega))).i (i62 _ (by omega) (by omega))).i (i62 _ (by omega) (by omega)), ?_⟩ nx⟩
        · show F3 m 62 (pI (pI s m 62 _) m 64 _) (ftA (fun e : Nat => canP R w (e : Int)) (k + 1))
          rw [ft_y (P := fun e : Nat => canP R w (e : Int)) hPk, if_neg z0]
          refine ⟨?_, ?_, ?_⟩
          · rw [pIo (by omega), gI_pI, if_pos ⟨rfl, rfl⟩]
          · rw [pIo (by omega), pIo (by omega)]; exact g2.2.1
          · rw [gI_pI, if_pos ⟨rfl, rfl⟩]; exact nat_i (by omega)
        · show F3 m 62 (pI (pI (pI s m 62 _) m 63 _) m 64 _) (ftA (fun e : Nat => canP R w (e : Int)) (k + 1))
          have z0 := Classical.byContradiction z0
          rw [ft_y (P := fun e : Nat => canP R w (e : Int)) hPk, if_pos z0]
          refine ⟨?_, ?_, ?_⟩
          · rw [pIo (by omega), pIo (by omega), gI_pI, if_pos ⟨rfl, rfl⟩]
          · rw [pIo (by omega), gI_pI, if_pos ⟨rfl, rfl⟩]; exact nat_i (by omega)
          · rw [gI_pI, if_pos ⟨rfl, rfl⟩]; exact nat_i (by omega)
theorem all_b : ∀ n, n < 13 → ∀ k, k < 32 → nHas ((1 <<< (Int32.ofNat n &&& 31)) - 1) k = decide (k < n) := by decide +kernel
def allS (n : Nat) : Int32 := (1 <<< (Int32.ofNat n &&& 31)) - 1
noncomputable def fitsV (R : RlA) (N : List NoteW) (i : Nat) (x : Int32) : Int32 := @ite _ (hAll R N (nHas (allS N.length))) (Classical.propDecidable _) (if x = 0 then v3 (ftA (fun e => holdsP R N (nHas (allS N.length)) (rtA N (nHas (allS N.length))) (rtA N (nHas (allS N.length)) i).1 (e : Int)) 20000) x else v3 (ftA (fun e => holdsP R N (nHas (allS N.length)) (rtA N (nHas (allS N.length))) (rtA N (nHas (allS N.length)) i).1 (e : Int)) 20000) x + Int32.ofInt (rtA N (nHas (allS N.length)) i).2) (if x = 0 then 0 else -1)
theorem q_fits {o c m : Nat} {σ : Hp} {R : RlA} {N : List NoteW} {x1 x2 : Int32} (hk : ROk R) (hL : LQ o c R N σ) : ∃ v, QLn o c R N σ (wp_X1_fits o c σ x1 x2) v ∧ ∀ τ, MQt m R N τ → QMn m τ (wp_X6_fits m τ x1 x2) v := by
  have M2 : ∀ τ, MQt m R N τ → MQt m R N (pI τ m 2 0) := fun τ hM => hM.n t0n
  have n12 := hL.2.2.1
  have hO := hL.ok
  have il := l_isNote hL x1
  have im := fun τ hM => m_isNote (M2 τ hM) x1
  have wl : f_X1_in x2.toInt64 0 2 = 0 ↔ ¬ (0 ≤ x2.toInt ∧ x2.toInt ≤ 2) := in_iff (i2_l x2) (by rfl) (by rfl)
  have wm : f_X6_isIn x2 0 2 = 0 ↔ ¬ (0 ≤ x2.toInt ∧ x2.toInt ≤ 2) := isIn_iff x2 0 2
  rcases (Classical.em (0 ≤ x1.toInt ∧ x1.toInt < N.length)).symm with q1 | q1
  · exact ⟨-1, fun Q hQ => ⟨in_01 _ _ _, cT (il.mpr q1) (hQ _ Ch.rf hL)⟩, fun τ hM Q hQ => cT ((im τ hM).mpr q1) (hQ _ t0n t0_2)⟩
  rcases (Classical.em (0 ≤ x2.toInt ∧ x2.toInt ≤ 2)).symm with q2 | q2
  · exact ⟨-1, fun Q hQ => ⟨in_01 _ _ _, cF (fun z => il.mp z q1) (cT (wl.mpr q2) (hQ _ Ch.rf hL))⟩, fun τ hM Q hQ => cF (fun z => (im τ hM).mp z q1) (cT (wm.mpr q2) (hQ _ t0n t0_2))⟩
  obtain ⟨i, w, rfl, hw⟩ := at_get q1 (by omega)
  have il' := get_lt hw
  have vi : vp_in (Int32.ofNat i) 12 := nat_v (by omega) (by omega)
  have ei : (Int32.ofNat i).toNatClampNeg = i := nat_c (by omega)
  have mem : ∀ k, k < N.length → nHas (allS N.length) k = true := fun k hk => by
    unfold allS; rw [all_b _ (by omega) _ (by omega)]; exact decide_eq_true hk
  refine ⟨fitsV R N i x2, fun Q hQ => ⟨in_01 _ _ _, cF (fun z => il.mp z q1) (cF (fun z => wl.mp z q2) ?_)⟩, fun τ hM Q hQ => cF (fun z => (im τ hM).mp z q1) (cF (fun z => wm.mp z q2) ?_)⟩
  · have ea : ∀ s, LQ o c R N s → f_X1_all o c s = allS N.length := fun s hs => by unfold f_X1_all allS; rw [hs.2.1]
    unfold fitsV at hQ
    rw [ea σ hL]
    refine l_holdsAll hk hL (fun ha s1 k1 hs1 hr1 => cF (fun a => (by cases a)) ⟨vi, ?_⟩) (fun ha s1 k1 hs1 => cT rfl ?_)
    · rw [if_pos ha] at hQ
      obtain ⟨r1, r2, r3, r4, r5⟩ := hr1 i il'
      rw [ea s1 hs1, ei, r1]
      refine l_fit hk hs1 hr1 r3 (fun v s2 k2 hs2 hr2 f => ?_)
      have g := hQ s2 (k1.tr k2) hs2
      have e : ftA (fun e : Nat => holdsP R N (nHas (allS N.length)) (rL N (nHas (allS N.length))) (rL N (nHas (allS N.length)) i).1 (e : Int)) 20000 = ftA (fun e : Nat => holdsP R N (nHas (allS N.length)) (rtA N (nHas (allS N.length))) (rtA N (nHas (allS N.length)) i).1 (e : Int)) 20000 := by
        rw [rL_m (mem i il')]
        exact ft_cg _ (fun e _ => holdsP_cg (fun k hk => rL_m hk))
      rw [e] at f
      generalize ftA (fun e : Nat => holdsP R N (nHas (allS N.length)) (rtA N (nHas (allS N.length))) (rtA N (nHas (allS N.length)) i).1 (e : Int)) 20000 = t at f g
      have e37 : gI s2 (o + 37) i = Int32.ofInt (rtA N (nHas (allS N.length)) i).2 := by
        rw [← rL_m (mem i il')]
        exact of_i (hr2 i il').2.1
      unfold v3 at g
      rw [e37]
      refine ⟨fun a => ?_, fun a => ⟨fun b => ⟨vi, ?_⟩, fun b => ⟨vi, ?_⟩⟩⟩
      · rw [if_pos a, if_pos a] at g; rw [f.1]; exact g
      · rw [if_neg a, if_neg a, if_pos b] at g; rw [of_i f.2.1]; exact g
      · rw [if_neg a, if_neg a, if_neg b] at g; rw [of_i f.2.2]; exact g
    · rw [if_neg ha] at hQ
      have g := hQ s1 k1 hs1
      refine ⟨fun a => ?_, fun a => ?_⟩
      · rw [if_pos a] at g; exact g
      · rw [if_neg a] at g; exact g
  · have ea : ∀ s, MQt m R N s → f_X6_allNotes m s = allS N.length := fun s hs => by unfold f_X6_allNotes allS; rw [hs.2.1]
    unfold fitsV at hQ
    refine m_layAllCan hk (M2 τ hM) (fun s1 k1 hs1 e1 hc1 => ?_)
    rw [ea s1 hs1]
    refine m_layRoots hs1 (fun s2 k2 hs2 hr2 => ?_)
    have hc2 : RwM s2 m R N := RwM.fr hc1 (fun k => k2.gi (by unfold SMk; omega))
    have cu : Ch (SMn m) τ s2 := (t0n.tr k1).tr (k2.up (fun a k q => q.n))
    have e2 : gI s2 m 2 = 0 := by rw [k2.gi (by unfold SMk; omega), e1]; exact t0_2
    refine lp_of (fun z => ∃ k, k ≤ N.length ∧ z.1 = Int32.ofNat k ∧ Ch (SMg m) s2 z.2 ∧ ∀ j, j < k → (rtA N (nHas (allS N.length)) j).1 = j → ∃ e : Nat, e < 20000 ∧ holdsP R N (nHas (allS N.length)) (rtA N (nHas (allS N.length))) j (e : Int)) (fun z => N.length - z.1.toNatClampNeg) ?_ ⟨0, by omega, rfl, Ch.rf, fun j q => absurd q (by omega)⟩
    rintro K ⟨x3, s⟩ ⟨k, hk2, rfl, g1, g2⟩ hK
    simp only at g1 g2
    have hs := hs2.n (g1.up (fun a k q => q.n))
    have hcs : RwM s m R N := hc2.fr (fun k => g1.gi (by unfold SMg; omega))
    have hrs : HRm m s N (rtA N (nHas (allS N.length))) := fun k hk => by rw [g1.gi (by unfold SMg; omega), g1.gi (by unfold SMg; omega)]; exact hr2 k hk
    have cs : Ch (SMn m) τ s := cu.tr (g1.up (fun a k q => q.n))
    have es : gI s m 2 = 0 := by rw [g1.gi (by unfold SMg; omega)]; exact e2
    show (_ → _) ∧ (_ → _)
    rw [hs.2.1, nat_le (by omega) (by omega), nat_c (p := k) (by omega), ea s hs, ei]
    refine ⟨fun z => ⟨vi, ?_⟩, fun z => ?_⟩
    · have ha : hAll R N (nHas (allS N.length)) := fun j hj _ => g2 j (by omega)
      rw [if_pos ha] at hQ
      obtain ⟨r1, r2, r3, r4, r5⟩ := hrs i il'
      rw [r1]
      refine m_layRoot hs hcs hrs r3 (fun s' h1 h2 h3 => ?_)
      have f := h2 rfl
      have g := hQ s' (cs.tr (h1.up (fun a k q => q.n))) (by rw [h1.gi (by unfold SMg; omega)]; exact es)
      generalize ftA (fun e : Nat => holdsP R N (nHas (allS N.length)) (rtA N (nHas (allS N.length))) (rtA N (nHas (allS N.length)) i).1 (e : Int)) 20000 = t at f g
      have e37 : gI s' (m + 27) i = Int32.ofInt (rtA N (nHas (allS N.length)) i).2 := by
        rw [h1.gi (by unfold SMg; omega)]
        exact of_i r2
      unfold v3 at g
      unfold f_X6_told3
      rw [e37]
      refine ⟨fun a => ?_, fun a => ⟨vi, ?_⟩⟩
      · rw [if_pos a, if_pos a] at g; rw [f.1]; exact g
      · rw [if_neg a, if_neg a] at g
        rw [if_neg a, of_i f.2.1, of_i f.2.2]
        exact g
    · have hlt : k < N.length := by omega
      have nx : N.length - (Int32.ofNat (k + 1)).toNatClampNeg < N.length - (Int32.ofNat k).toNatClampNeg := by rw [nat_c (by omega), nat_c (by omega)]; omega
      obtain ⟨r1, r2, r3, r4, r5⟩ := hrs k hlt
      rw [r1, nat_e (by omega) (by omega), nat_s (by omega)]
      have nxt : ∀ s', Ch (SMg m) s2 s' → ((rtA N (nHas (allS N.length)) k).1 = k → ∃ e : Nat, e < 20000 ∧ holdsP R N (nHas (allS N.length)) (rtA N (nHas (allS N.length))) k (e : Int)) → K (Int32.ofNat (k + 1), s') := fun s' a d => hK _ ⟨k + 1, by omega, rfl, a, fun j hj => by
        by_cases cj : j = k
        · rw [cj]; exact d
        · exact g2 j (by omega)⟩ nx
      refine ⟨nat_v (by omega) (by omega), fun v => ?_, fun v => nxt s g1 (fun z => absurd z v)⟩
      refine m_layRoot hs hcs hrs (by omega) (fun s' h1 h2 h3 => ⟨fun y => ?_, fun y => nxt s' (g1.tr h1) (fun _ => Classical.byContradiction (fun a => y (h3.mpr a)))⟩)
      have ha : ¬ hAll R N (nHas (allS N.length)) := fun f => h3.mp y (f k hlt (mem k hlt) v)
      rw [if_neg ha] at hQ
      have g := hQ s' (cs.tr (h1.up (fun a k q => q.n))) (by rw [h1.gi (by unfold SMg; omega)]; exact es)
      refine ⟨fun a => ?_, fun a => ?_⟩
      · rw [if_pos a] at g; exact g
      · rw [if_neg a] at g; exact g
