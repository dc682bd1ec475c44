set_option maxRecDepth 100000
/-! .. AND OF THE REFERENCE -/
/-- what playing with notes may write -/
def SMp (m a k : Nat) : Prop := (a = m ∧ (k < 12 ∨ k = 16 ∨ (18 ≤ k ∧ k ≠ 58))) ∨ a = m + 1 ∨ a = m + 16 ∨ (m + 20 ≤ a ∧ a < m + 33)
theorem MKr.p {m : Nat} {τ τ' : Hp} {R : RlA} (h : MKr m τ R) (hc : Ch (SMp m) τ τ') : MKr m τ' R := by
  obtain ⟨h1, h2, c1, c2, c3, c4, c5, c6, c7⟩ := h
  have n0 : (aN (rnN R)).length = 0 := rfl
  have hu : ∀ a k, US m 0 (rnN R) a k → ¬ SMp m a k := fun a k q => q.by (fun k _ _ => by unfold SMp; omega) (fun k _ _ => by unfold SMp; omega) (fun k _ _ => by unfold SMp; omega) (fun k _ _ => by unfold SMp; omega) (fun k _ _ => by unfold SMp; omega) (fun k _ _ => by unfold SMp; omega) (fun k _ q => by rw [n0] at q; omega) (fun k _ q => by rw [n0] at q; omega) (fun k _ _ => by unfold SMp; omega) (fun k _ _ => by unfold SMp; omega)
  refine ⟨h1.fr (fun a k q => hc.2 a k (hu a k q)), h2, ?_, ?_, ?_, ?_, ?_, ?_, fun i x hi => ?_⟩
  · rw [hc.gi (by unfold SMp; omega)]; exact c1
  · rw [hc.gi (by unfold SMp; omega)]; exact c2
  · rw [hc.gi (by unfold SMp; omega)]; exact c3
  · rw [hc.gi (by unfold SMp; omega)]; exact c4
  · rw [hc.gi (by unfold SMp; omega)]; exact c5
  · rw [hc.gi (by unfold SMp; omega)]; exact c6
  · rw [hc.gi (by unfold SMp; omega)]; exact c7 i x hi
/-- what asking about notes writes -/
def SMn (m a k : Nat) : Prop := SMq m a k ∨ (a = m ∧ 62 ≤ k ∧ k ≤ 64) ∨ a = m + 25 ∨ a = m + 26 ∨ a = m + 27
theorem SMn.p {m a k : Nat} (h : SMn m a k) : SMp m a k := by
  unfold SMn SMq at h
  unfold SMp
  omega
def MN (m : Nat) (τ : Hp) (R : RlA) (N : List NoteW) : Prop := gI τ m 16 = Int32.ofNat N.length ∧ N.length ≤ 12 ∧ ∀ i w, N[i]? = some w → NwOk (aP R).length (aF R).length i w ∧ mNw m τ (11 * i) w
def MQt (m : Nat) (R : RlA) (N : List NoteW) (τ : Hp) : Prop := MKr m τ R ∧ MN m τ R N
theorem MN.n {m : Nat} {τ τ' : Hp} {R : RlA} {N : List NoteW} (h : MN m τ R N) (hc : Ch (SMn m) τ τ') : MN m τ' R N := by
  obtain ⟨h1, h2, h3⟩ := h
  exact ⟨(hc.gi (by unfold SMn SMq; omega)).trans h1, h2, fun i w hi => ⟨(h3 i w hi).1, (h3 i w hi).2.fr (fun k _ _ => hc.gi (by unfold SMn SMq; omega))⟩⟩
theorem MQt.n {m : Nat} {τ τ' : Hp} {R : RlA} {N : List NoteW} (h : MQt m R N τ) (hc : Ch (SMn m) τ τ') : MQt m R N τ' := ⟨h.1.p (hc.up (fun a k q => q.p)), h.2.n hc⟩
def RowM (τ : Hp) (m i : Nat) (R : RlA) (w : NoteW) : Prop := ∀ e, e < 20000 → (¬ gI τ (m + 25) (20000 * i + e) = 0 ↔ canP R w (e : Int))
theorem i20k {i e : Nat} (hi : i < 12) (he : e < 20000) : (20000 : Int32) * Int32.ofNat i + Int32.ofNat e = Int32.ofNat (20000 * i + e) := by
  rw [show (20000 : Int32) = Int32.ofNat 20000 from rfl, nat_m (by omega) (by omega) (by omega), nat_a (by omega)]
section
variable {m i : Nat} {τ : Hp} {R : RlA} {N : List NoteW} {w : NoteW}
theorem m_layCan {Q : Hp → Prop} (hk : ROk R) (hM : MQt m R N τ) (hi : N[i]? = some w) (hQ : ∀ τ', Ch (fun a k => SMq m a k ∨ (a = m + 25 ∧ 20000 * i ≤ k ∧ k < 20000 * i + 20000)) τ τ' → gI τ' m 2 = gI τ m 2 → RowM τ' m i R w → Q τ') : wp_X6_layCan m τ (Int32.ofNat i) Q := by
  have il := get_lt hi
  have n12 := hM.2.2.1
  refine lp_of (fun z => ∃ k, k ≤ 20000 ∧ z.1 = Int32.ofNat k ∧ Ch (fun a k => SMq m a k ∨ (a = m + 25 ∧ 20000 * i ≤ k ∧ k < 20000 * i + 20000)) τ z.2 ∧ gI z.2 m 2 = gI τ m 2 ∧ ∀ e, e < k → (¬ gI z.2 (m + 25) (20000 * i + e) = 0 ↔ canP R w (e : Int))) (fun z => 20000 - z.1.toNatClampNeg) ?_ ⟨0, by omega, rfl, Ch.rf, rfl, fun e q => absurd q (by omega)⟩
  rintro K ⟨x2, s⟩ ⟨k, hk2, rfl, g1, g2, g3⟩ hK
  simp only at g1 g2 g3
  show (_ → _) ∧ (_ → _)
  rw [show (20000 ≤ Int32.ofNat k) ↔ 20000 ≤ k from nat_le (p := 20000) (by omega) (by omega)]
  refine ⟨fun q => hQ s g1 g2 (fun e he => g3 e (by omega)), fun q => ?_⟩
  have hs : MQt m R N s := hM.n (g1.up (fun a k q => q.elim Or.inl (fun q => Or.inr (Or.inr (Or.inl q.1)))))
  have hd : cOk (Int32.ofNat k).toInt64 := ⟨by rw [dN_i (by omega)]; omega, by rw [dN_i (by omega)]; omega⟩
  obtain ⟨hW, hP⟩ := hs.2.2.2 i w hi
  have step : ∀ (r : Int32) (s' : Hp), Ch (SMq m) s s' → gI s' m 2 = gI s m 2 → (¬ vp_nar .boolean r = 0 ↔ canP R w (k : Int)) → vp_in ((20000 * Int32.ofNat i) + Int32.ofNat k) 240000 ∧ K (Int32.ofNat k + 1, pI s' (m + 25) ((20000 * Int32.ofNat i) + Int32.ofNat k).toNatClampNeg (vp_nar .boolean r)) := fun r s' hc h2 hr => by
    rw [i20k (by omega) (by omega), nat_c (by omega), nat_s (by omega)]
    refine ⟨nat_v (by omega) (by omega), hK _ ⟨k + 1, by omega, rfl, (g1.tr (hc.up (fun a k q => Or.inl q))).i (Or.inr ⟨rfl, by omega, by omega⟩), ?_, fun e he => ?_⟩ ?_⟩
    · show gI (pI s' (m + 25) (20000 * i + k) _) m 2 = _
      rw [pIo (by omega), h2]; exact g2
    · show ¬ gI (pI s' (m + 25) (20000 * i + k) _) (m + 25) (20000 * i + e) = 0 ↔ _
      by_cases ce : e = k
      · subst ce
        rw [gI_pI, if_pos ⟨rfl, rfl⟩]; exact hr
      · rw [pIo (by omega), hc.gi (by unfold SMq; omega)]; exact g3 e (by omega)
    · show 20000 - (Int32.ofNat (k + 1)).toNatClampNeg < 20000 - (Int32.ofNat k).toNatClampNeg
      rw [nat_c (by omega), nat_c (by omega)]; omega
  refine m_canBe hs.1 hk (by omega) hP hW hd ⟨fun q s' hc h2 => step 1 s' hc h2 ⟨fun _ => (canP_e (by omega)).mpr q, fun _ => by decide⟩, fun q s' hc h2 => step 0 s' hc h2 ⟨fun z => absurd (by decide) z, fun z => absurd ((canP_e (by omega)).mp z) q⟩⟩
theorem m_layAllCan {Q : Hp → Prop} (hk : ROk R) (hM : MQt m R N τ) (hQ : ∀ τ', Ch (SMn m) τ τ' → MQt m R N τ' → gI τ' m 2 = gI τ m 2 → (∀ i w, N[i]? = some w → RowM τ' m i R w) → Q τ') : wp_X6_layAllCan m τ Q := by
  have n12 := hM.2.2.1
  refine lp_of (fun z => ∃ k, k ≤ N.length ∧ z.1 = Int32.ofNat k ∧ Ch (SMn m) τ z.2 ∧ gI z.2 m 2 = gI τ m 2 ∧ ∀ i w, i < k → N[i]? = some w → RowM z.2 m i R w) (fun z => N.length - z.1.toNatClampNeg) ?_ ⟨0, by omega, rfl, Ch.rf, rfl, fun i w q => absurd q (by omega)⟩
  rintro K ⟨x2, s⟩ ⟨k, hk2, rfl, g1, g2, g3⟩ hK
  simp only at g1 g2 g3
  have hs : MQt m R N s := hM.n g1
  show (_ → _) ∧ (_ → _)
  rw [hs.2.1, nat_le (by omega) (by omega)]
  refine ⟨fun q => hQ s g1 hs g2 (fun i w hi => g3 i w (by have := get_lt hi; omega) hi), fun q => ?_⟩
  have hlt : k < N.length := by omega
  refine m_layCan hk hs (List.getElem?_eq_getElem hlt) (fun s' h1 h2 h3 => ?_)
  rw [nat_s (by omega)]
  refine hK _ ⟨k + 1, by omega, rfl, g1.tr (h1.up (fun a k q => q.elim Or.inl (fun q => Or.inr (Or.inr (Or.inl q.1))))), h2.trans g2, fun j w' hj hw => ?_⟩ ?_
  · by_cases cj : j = k
    · subst cj
      rw [List.getElem?_eq_getElem hlt] at hw
      cases hw
      exact h3
    · intro e he
      show ¬ gI s' (m + 25) (20000 * j + e) = 0 ↔ _
      rw [h1.gi (by unfold SMq; omega)]
      exact g3 j w' (by omega) hw e he
  · show N.length - (Int32.ofNat (k + 1)).toNatClampNeg < N.length - (Int32.ofNat k).toNatClampNeg
    rw [nat_c (by omega), nat_c (by omega)]; omega
end
/-! ROOTS: on which one a note hangs in the end, and how far behind it -/
def aft (w : NoteW) : Nat := (w.2.1 7).toInt.toNat
def rtF (N : List NoteW) (s : Nat → Bool) : Nat → Nat → Nat × Int
  | 0, k => (k, 0)
  | f + 1, k => match N[k]? with
    | none => (k, 0)
    | some w => if nHas w.1 7 = true ∧ s (aft w) = true then ((rtF N s f (aft w)).1, (rtF N s f (aft w)).2 + (w.2.2 7).toInt) else (k, 0)
def rtA (N : List NoteW) (s : Nat → Bool) (k : Nat) : Nat × Int := rtF N s (k + 1) k
def NOk (R : RlA) (N : List NoteW) : Prop := N.length ≤ 12 ∧ ∀ i w, N[i]? = some w → NwOk (aP R).length (aF R).length i w
theorem aft_lt {np nf i : Nat} {w : NoteW} (h : NwOk np nf i w) (hs : nHas w.1 7 = true) : aft w < i ∧ w.2.1 7 = Int32.ofNat (aft w) ∨ 1000 < i := by
  obtain ⟨⟨h1, h2⟩, -⟩ := h.2.2 hs
  by_cases c : i ≤ 1000
  · refine Or.inl ⟨by unfold aft; omega, ?_⟩
    rw [i2_eq, nat_i (by unfold aft; omega)]
    unfold aft; omega
  · exact Or.inr (by omega)
theorem rtF_up {R : RlA} {N : List NoteW} (hN : NOk R N) (s : Nat → Bool) : ∀ (n k f g : Nat), k < n → k < f → k < g → rtF N s f k = rtF N s g k := by
  intro n
  induction n with
  | zero => exact fun k f g h => absurd h (Nat.not_lt_zero _)
  | succ n ih =>
    intro k f g h1 h2 h3
    obtain ⟨f, rfl⟩ : ∃ i, f = i + 1 := ⟨f - 1, by omega⟩
    obtain ⟨g, rfl⟩ : ∃ i, g = i + 1 := ⟨g - 1, by omega⟩
    unfold rtF
    cases hw : N[k]? with
    | none => rfl
    | some w =>
      simp only
      by_cases c : nHas w.1 7 = true ∧ s (aft w) = true
      · rw [if_pos c, if_pos c]
        have kl := get_lt hw
        have := aft_lt (hN.2 k w hw) c.1
        have l12 := hN.1
        have e := ih (aft w) f g (by omega) (by omega) (by omega)
        rw [e]
      · rw [if_neg c, if_neg c]
theorem rt_eq {R : RlA} {N : List NoteW} (hN : NOk R N) (s : Nat → Bool) {k : Nat} {w : NoteW} (hw : N[k]? = some w) : rtA N s k = if nHas w.1 7 = true ∧ s (aft w) = true then ((rtA N s (aft w)).1, (rtA N s (aft w)).2 + (w.2.2 7).toInt) else (k, 0) := by
  have kl := get_lt hw
  have l12 := hN.1
  unfold rtA
  conv => lhs; unfold rtF
  rw [hw]
  simp only
  by_cases c : nHas w.1 7 = true ∧ s (aft w) = true
  · rw [if_pos c, if_pos c]
    have := aft_lt (hN.2 k w hw) c.1
    rw [rtF_up hN s (aft w + 1) (aft w) k (aft w + 1) (by omega) (by omega) (by omega)]
  · rw [if_neg c, if_neg c]
theorem rt_b {R : RlA} {N : List NoteW} (hN : NOk R N) (s : Nat → Bool) : ∀ (n k : Nat), k < n → k < N.length → (rtA N s k).1 ≤ k ∧ -9999 * (k : Int) ≤ (rtA N s k).2 ∧ (rtA N s k).2 ≤ 9999 * (k : Int) := by
  intro n
  induction n with
  | zero => exact fun k h => absurd h (Nat.not_lt_zero _)
  | succ n ih =>
    intro k h1 h2
    have hw := List.getElem?_eq_getElem h2
    have l12 := hN.1
    rw [rt_eq hN s hw]
    by_cases c : nHas N[k].1 7 = true ∧ s (aft N[k]) = true
    · rw [if_pos c]
      have h := hN.2 k _ hw
      have a := aft_lt h c.1
      have b := (h.2.2 c.1).2
      have i := ih (aft N[k]) (by omega) (by omega)
      simp only
      omega
    · rw [if_neg c]
      simp only
      omega
/-! HOW MANY COUNTS, THE FIRST AND THE LAST -/
noncomputable def ftA (P : Nat → Prop) : Nat → Nat × Int × Int
  | 0 => (0, -1, -1)
  | k + 1 => @ite _ (P k) (Classical.propDecidable _) ((ftA P k).1 + 1, if (ftA P k).1 = 0 then (k : Int) else (ftA P k).2.1, (k : Int)) (ftA P k)
theorem ft_y {P : Nat → Prop} {k : Nat} (h : P k) : ftA P (k + 1) = ((ftA P k).1 + 1, if (ftA P k).1 = 0 then (k : Int) else (ftA P k).2.1, (k : Int)) := if_pos h
theorem ft_n {P : Nat → Prop} {k : Nat} (h : ¬ P k) : ftA P (k + 1) = ftA P k := if_neg h
theorem ft_b (P : Nat → Prop) : ∀ k, (ftA P k).1 ≤ k ∧ ((ftA P k).1 = 0 → (ftA P k).2.1 = -1 ∧ (ftA P k).2.2 = -1) ∧ (¬ (ftA P k).1 = 0 → 0 ≤ (ftA P k).2.1 ∧ (ftA P k).2.1 < k ∧ 0 ≤ (ftA P k).2.2 ∧ (ftA P k).2.2 < k) ∧ ((ftA P k).1 = 0 ↔ ∀ e, e < k → ¬ P e) := by
  intro k
  induction k with
  | zero => exact ⟨Nat.le_refl _, fun _ => ⟨rfl, rfl⟩, fun h => absurd rfl h, fun _ e h => absurd h (Nat.not_lt_zero _), fun _ => rfl⟩
  | succ k ih =>
    obtain ⟨a, b, c, d⟩ := ih
    by_cases h : P k
    · rw [ft_y h]
      refine ⟨by show _ + 1 ≤ _; omega, fun z => absurd z (Nat.succ_ne_zero _), fun _ => ?_, fun z => absurd z (Nat.succ_ne_zero _), fun z => absurd h (z k (by omega))⟩
      show 0 ≤ (if (ftA P k).1 = 0 then (k : Int) else (ftA P k).2.1) ∧ (if (ftA P k).1 = 0 then (k : Int) else (ftA P k).2.1) < ((k + 1 : Nat) : Int) ∧ 0 ≤ (k : Int) ∧ (k : Int) < ((k + 1 : Nat) : Int)
      by_cases z : (ftA P k).1 = 0
      · rw [if_pos z]; omega
      · rw [if_neg z]; have := c z; omega
    · rw [ft_n h]
      refine ⟨by omega, b, fun z => ?_, fun z e he => ?_, fun z => d.mpr (fun e he => z e (by omega))⟩
      · have := c z; omega
      · by_cases ce : e = k
        · rw [ce]; exact h
        · exact d.mp z e (by omega)
theorem ft_cg {P P' : Nat → Prop} : ∀ k, (∀ e, e < k → (P e ↔ P' e)) → ftA P k = ftA P' k := by
  intro k
  induction k with
  | zero => intro _; rfl
  | succ k ih =>
    intro h
    have e := ih (fun e he => h e (by omega))
    by_cases c : P k
    · rw [ft_y c, ft_y ((h k (by omega)).mp c), e]
    · rw [ft_n c, ft_n (fun z => c ((h k (by omega)).mpr z)), e]
