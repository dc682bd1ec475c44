set_option maxRecDepth 100000
/-! THE REFERENCE's READER: numbers, names -/
def Sp (m a k : Nat) : Prop := a = m ∧ (k = 4 ∨ k = 5 ∨ k = 7 ∨ k = 8 ∨ k = 9 ∨ k = 10 ∨ k = 11)
theorem S4_Sp {m a k : Nat} (h : S4m m a k) : Sp m a k := by unfold S4m at h; unfold Sp; omega
def MT (m : Nat) (b : Nat → Int32) (n : Nat) (σ : Hp) (t : Tok) : Prop := MTB m b n σ ∧ TKM m σ t ∧ TV n t
/-- tape, words and size are not written -/
def nTp (m : Nat) (S : Nat → Nat → Prop) : Prop := ∀ a k, (a = m ∧ k = 6) ∨ a = m + 1 ∨ a = m + 2 → ¬ S a k
theorem m_token {m : Nat} {b : Nat → Int32} {n : Nat} {σ : Hp} {t : Tok} {Q : Hp → Prop} (hB : MTB m b n σ) (h7 : gI σ m 7 = Int32.ofNat (tNx t)) (hv : TV n t) (hQ : ∀ σ', Ch (Sp m) σ σ' → MT m b n σ' (adv b n t) → gI σ' m 11 = gI σ m 11 → Q σ') : wp_X6_token m σ Q :=
  wp_token hB h7 hv.1 (fun σ' c1 c2 => hQ σ' (c1.up (fun a k => S4_Sp)) ⟨hB.ch c1, c2, tv_tk hv.1⟩ (c1.gi (by unfold S4m; omega)))
/-- a reading by its word -/
def MG {α : Type} (m : Nat) (b : Nat → Int32) (n : Nat) (S : Nat → Nat → Prop) (σ : Hp) (x : PR α) (V : α → Hp → Prop) (Q : Int32 → Hp → Prop) : Prop := (∀ v t' σ', x = .inl (v, t') → Ch S σ σ' → MT m b n σ' t' → V v σ' → Q 1 σ') ∧ (∀ k pl σ', x = .inr (k, pl) → Ch S σ σ' → gI σ' m 4 = k → gI σ' m 5 = Int32.ofNat pl → Q 0 σ')
theorem m_wrong {m : Nat} {b : Nat → Int32} {n : Nat} {S : Nat → Nat → Prop} {σ : Hp} {t : Tok} {x : Int32} {Q : Int32 → Hp → Prop} (h : MT m b n σ t) (hS : ∀ a k, Sp m a k → S a k) (hQ : ∀ σ', Ch S σ σ' → gI σ' m 4 = x → gI σ' m 5 = Int32.ofNat (tPl t) → Q 0 σ') : ∀ (r : Int32) (s : Hp), (r, s) = f_X6_wrong m σ x → (r = 0 ∨ r = 1) ∧ (Q r s) :=
  wrong_of (hQ _ ((Ch.rf.i (hS _ _ (by unfold Sp; omega))).i (hS _ _ (by unfold Sp; omega))) (by simp [gI_pI]) (by simp [gI_pI, h.2.1.2.1]))
theorem isIn_iff (x lo hi : Int32) : f_X6_isIn x lo hi = 0 ↔ ¬ (lo.toInt ≤ x.toInt ∧ x.toInt ≤ hi.toInt) := by
  unfold f_X6_isIn
  by_cases h1 : x < lo
  · rw [if_pos h1]
    rw [i2_lt] at h1
    exact ⟨fun _ q => by omega, fun _ => rfl⟩
  · rw [if_neg h1]
    rw [i2_lt] at h1
    by_cases h2 : hi < x
    · rw [if_pos h2]
      rw [i2_lt] at h2
      exact ⟨fun _ q => by omega, fun _ => rfl⟩
    · rw [if_neg h2]
      rw [i2_lt] at h2
      exact ⟨fun q => (by cases q), fun q => absurd ⟨by omega, by omega⟩ q⟩
theorem m_number {m : Nat} {b : Nat → Int32} {n : Nat} {σ : Hp} {t : Tok} {lo hi : Int32} {Q : Int32 → Hp → Prop} (h : MT m b n σ t) (hg : MG m b n (Sp m) σ (numS b n lo hi t) (fun v σ' => gI σ' m 11 = v) Q) : wp_X6_number m σ lo hi Q := by
  obtain ⟨hB, ht, hv⟩ := h
  obtain ⟨g1, g2⟩ := hg
  unfold wp_X6_number
  rw [ht.2.2.1]
  unfold numS at g1 g2
  refine ⟨fun k => ?_, fun k => ?_⟩
  · rw [if_pos k] at g1 g2
    have e9 := ht.2.2.2 (by rw [k]; decide) (by rw [k]; decide)
    rw [e9, isIn_iff]
    refine ⟨fun w => ?_, fun w => ?_⟩
    · rw [if_neg w] at g2
      exact m_wrong ⟨hB, ht, hv⟩ (fun _ _ q => q) (fun σ' c1 c2 c3 => g2 _ _ σ' rfl c1 c2 c3)
    · rw [if_pos (Classical.byContradiction w)] at g1
      have c0 : Ch (Sp m) σ (pI σ m 11 (tWh t)) := Ch.rf.i (by unfold Sp; omega)
      refine m_token (t := t) (hB.fr (fun a k q => pIo (by omega))) (by rw [pIo (by omega)]; exact ht.1) hv (fun σ' c1 c2 c3 => g1 _ _ σ' rfl (c0.tr c1) c2 ?_)
      show gI σ' m 11 = _
      rw [c3, gI_pI, if_pos ⟨rfl, rfl⟩]
  · rw [if_neg k] at g2
    exact m_wrong ⟨hB, ht, hv⟩ (fun _ _ q => q) (fun σ' c1 c2 c3 => g2 _ _ σ' rfl c1 c2 c3)
theorem m_signed {m : Nat} {b : Nat → Int32} {n : Nat} {σ : Hp} {t : Tok} {hi : Int32} {Q : Int32 → Hp → Prop} (h : MT m b n σ t) (hg : MG m b n (Sp m) σ (sgdS b n hi t) (fun v σ' => gI σ' m 11 = v) Q) : wp_X6_signed m σ hi Q := by
  obtain ⟨hB, ht, hv⟩ := h
  obtain ⟨g1, g2⟩ := hg
  unfold wp_X6_signed
  have s := msign ht 45
  have tl : ∀ (τ : Hp) (t1 : Tok) (x2 : Int32), Ch (Sp m) σ τ → MT m b n τ t1 → sgdS b n hi t = (pb (numS b n 0 hi t1) fun v t => .inl (if x2 = 0 then v else -v, t)) → wj_X6_signed_15 m τ hi x2 Q := by
    intro τ t1 x2 c0 hT e
    rw [e] at g1 g2
    refine m_number hT ⟨fun v t' σ' e' c1 c2 c3 => ⟨fun w => (by cases w), fun _ => ⟨fun w => ?_, fun w => ?_⟩⟩, fun k pl σ' e' c1 c2 c3 => ⟨fun _ => g2 k pl σ' (by rw [e']; rfl) (c0.tr c1) c2 c3, fun w => absurd rfl w⟩⟩
    · have mt : MT m b n (pI σ' m 11 (gI σ' m 11)) t' := by rw [pI_id]; exact c2
      exact g1 v t' _ (by rw [e', pb_inl, if_pos w]) (c0.tr (c1.i (by unfold Sp; omega))) mt (by show gI (pI σ' m 11 (gI σ' m 11)) m 11 = v; rw [pI_id]; exact c3)
    · have mt : MT m b n (pI σ' m 11 (-gI σ' m 11)) t' := ⟨c2.1.fr (fun a k q => pIo (by omega)), ⟨by rw [pIo (by omega)]; exact c2.2.1.1, by rw [pIo (by omega)]; exact c2.2.1.2.1, by rw [pIo (by omega)]; exact c2.2.1.2.2.1, fun q1 q2 => by rw [pIo (by omega)]; exact c2.2.1.2.2.2 q1 q2⟩, c2.2.2⟩
      exact g1 (-v) t' _ (by rw [e', pb_inl, if_neg w]) (c0.tr (c1.i (by unfold Sp; omega))) mt (by show gI (pI σ' m 11 (-gI σ' m 11)) m 11 = _; rw [gI_pI, if_pos ⟨rfl, rfl⟩]; exact congrArg _ c3)
  refine ⟨fun k => ?_, fun k => ?_⟩
  · refine tl σ t _ Ch.rf ⟨hB, ht, hv⟩ ?_
    unfold sgdS
    rw [if_neg (by rw [s.mp k]; exact Bool.false_ne_true)]
    cases numS b n 0 hi t with
    | inl q => simp only [pb_inl, if_pos k]; rfl
    | inr q => rfl
  · refine m_token hB ht.1 hv (fun σ' c1 c2 _ => tl σ' (adv b n t) _ c1 c2 ?_)
    unfold sgdS
    rw [if_pos (bt (fun w => k (s.mpr w)))]
    simp only [if_neg k]
theorem m_find {σ : Hp} {a0 n0 fr : Nat} {names : List Int32} {x : Int32} {Q : Int32 → Prop} (hN : ∀ i y, names[i]? = some y → gI σ a0 (fr + i) = y) (hl : fr + names.length ≤ n0) (hb : n0 ≤ 1000) (hQ : Q (fndI (fnd x names 0))) : wp_X6_find σ a0 n0 (Int32.ofNat fr) (Int32.ofNat names.length) x Q := by
  refine lp_of (fun y => ∃ k, k ≤ names.length ∧ y = Int32.ofNat k ∧ fnd x names 0 = fnd x (names.drop k) k) (fun y => names.length - y.toNatClampNeg) ?_ ⟨0, by omega, rfl, rfl⟩
  rintro K y ⟨k, hk, rfl, hw⟩ hK
  unfold lb_X6_find_3
  rw [nat_le (by omega) (by omega)]
  refine ⟨fun q => ?_, fun q => ?_⟩
  · have : k = names.length := by omega
    subst this
    rw [hw, List.drop_eq_nil_of_le (Nat.le_refl _)] at hQ
    exact hQ
  · have hlt : k < names.length := by omega
    rw [hw, fnd_st hlt] at hQ
    rw [nat_a (by omega), nat_c (by omega), hN k _ (List.getElem?_eq_getElem hlt)]
    refine ⟨nat_v (by omega) (by omega), fun w => ?_, fun w => ?_⟩
    · rw [if_pos w] at hQ; exact hQ
    · rw [nat_s (by omega)]
      refine hK _ ⟨k + 1, by omega, rfl, by rw [hw, fnd_st hlt, if_neg w]⟩ ?_
      rw [nat_c (by omega), nat_c (by omega)]; omega
theorem m_newName {m : Nat} {b : Nat → Int32} {n a0 n0 fr : Nat} {names : List Int32} {σ : Hp} {t : Tok} {Q : Int32 → Hp → Prop} (h : MT m b n σ t) (hN : ∀ i y, names[i]? = some y → gI σ a0 (fr + i) = y) (hl : fr + names.length < n0) (hb : n0 ≤ 1000) (ha : m + 3 ≤ a0) (hg : MG m b n (fun a k => Sp m a k ∨ (a = a0 ∧ k = fr + names.length)) σ (frS b n names t) (fun v σ' => gI σ' a0 (fr + names.length) = v) Q) : wp_X6_newName m σ a0 n0 (Int32.ofNat fr) (Int32.ofNat names.length) Q := by
  obtain ⟨hB, ht, hv⟩ := h
  obtain ⟨g1, g2⟩ := hg
  unfold wp_X6_newName
  rw [ht.2.2.1]
  unfold frS at g1 g2
  refine ⟨fun k => ?_, fun k => ?_⟩
  · rw [if_pos k] at g1 g2
    have e9 := ht.2.2.2 (by rw [k]; decide) (by rw [k]; decide)
    rw [e9]
    refine m_find hN (by omega) hb ?_
    cases hf : fnd (tWh t) names 0 with
    | none =>
      rw [hf] at g1
      refine ⟨fun _ => ⟨?_, ?_⟩, fun w => absurd (by decide) w⟩
      · rw [nat_a (by omega)]; exact nat_v (by omega) (by omega)
      · rw [nat_a (by omega), nat_c (by omega)]
        have c0 : Ch (fun a k => Sp m a k ∨ (a = a0 ∧ k = fr + names.length)) σ (pI σ a0 (fr + names.length) (tWh t)) := Ch.rf.i (Or.inr ⟨rfl, rfl⟩)
        refine m_token (t := t) (hB.fr (fun a k q => pIo (by omega))) (by rw [pIo (by omega)]; exact ht.1) hv (fun σ' c1 c2 c3 => g1 _ _ σ' rfl (c0.tr (c1.up (fun a k q => Or.inl q))) c2 ?_)
        show gI σ' a0 (fr + names.length) = _
        rw [c1.gi (by unfold Sp; omega), gI_pI, if_pos ⟨rfl, rfl⟩]
    | some j =>
      rw [hf] at g2
      have hj := fnd_lt _ _ _ hf
      refine ⟨fun w => ?_, fun _ => m_wrong ⟨hB, ht, hv⟩ (fun _ _ q => Or.inl q) (fun σ' c1 c2 c3 => g2 _ _ σ' rfl c1 c2 c3)⟩
      have w : Int32.ofNat j < 0 := w
      rw [i3_lt (nat_i (by omega)) (y := 0) (by rfl)] at w
      omega
  · rw [if_neg k] at g2
    exact m_wrong ⟨hB, ht, hv⟩ (fun _ _ q => Or.inl q) (fun σ' c1 c2 c3 => g2 _ _ σ' rfl c1 c2 c3)
theorem m_oldName {m : Nat} {b : Nat → Int32} {n a0 n0 fr : Nat} {names : List Int32} {σ : Hp} {t : Tok} {Q : Int32 → Hp → Prop} (h : MT m b n σ t) (hN : ∀ i y, names[i]? = some y → gI σ a0 (fr + i) = y) (hl : fr + names.length ≤ n0) (hb : n0 ≤ 1000) (hg : MG m b n (Sp m) σ (ahS b n names t) (fun v σ' => gI σ' m 11 = v) Q) : wp_X6_oldName m σ a0 n0 (Int32.ofNat fr) (Int32.ofNat names.length) Q := by
  obtain ⟨hB, ht, hv⟩ := h
  obtain ⟨g1, g2⟩ := hg
  unfold wp_X6_oldName
  rw [ht.2.2.1]
  unfold ahS at g1 g2
  refine ⟨fun k => ?_, fun k => ?_⟩
  · rw [if_pos k] at g1 g2
    have e9 := ht.2.2.2 (by rw [k]; decide) (by rw [k]; decide)
    rw [e9]
    refine m_find hN (by omega) hb ?_
    cases hf : fnd (tWh t) names 0 with
    | none =>
      rw [hf] at g2
      exact ⟨fun w => absurd w (by decide), fun _ => m_wrong ⟨hB, ht, hv⟩ (fun _ _ q => q) (fun σ' c1 c2 c3 => g2 _ _ σ' rfl c1 c2 c3)⟩
    | some j =>
      rw [hf] at g1
      have hj := fnd_lt _ _ _ hf
      have h0 : (0 : Int32) ≤ fndI (some j) := by
        show (0 : Int32) ≤ Int32.ofNat j
        rw [i3_le (x := 0) (by rfl) (nat_i (by omega))]; omega
      refine ⟨fun _ => ?_, fun w => absurd h0 w⟩
      have c0 : Ch (Sp m) σ (pI σ m 11 (fndI (some j))) := Ch.rf.i (by unfold Sp; omega)
      refine m_token (t := t) (hB.fr (fun a k q => pIo (by omega))) (by rw [pIo (by omega)]; exact ht.1) hv (fun σ' c1 c2 c3 => g1 _ _ σ' rfl (c0.tr c1) c2 ?_)
      show gI σ' m 11 = _
      rw [c3, gI_pI, if_pos ⟨rfl, rfl⟩]
      rfl
  · rw [if_neg k] at g2
    exact m_wrong ⟨hB, ht, hv⟩ (fun _ _ q => q) (fun σ' c1 c2 c3 => g2 _ _ σ' rfl c1 c2 c3)
theorem m_key {m : Nat} {b : Nat → Int32} {n : Nat} {k : Int32} {σ : Hp} {t : Tok} {Q : Int32 → Hp → Prop} (h : MT m b n σ t) (hg : MG m b n (Sp m) σ (keyS b n k t) (fun _ σ' => gI σ' m 11 = gI σ m 11) Q) : wp_X6_keyRead m σ k Q := by
  obtain ⟨hB, ht, hv⟩ := h
  obtain ⟨g1, g2⟩ := hg
  unfold wp_X6_keyRead
  rw [mkey ht]
  unfold keyS at g1 g2
  refine ⟨fun q => ?_, fun q => ?_⟩
  · rw [if_neg (by rw [q]; exact Bool.false_ne_true)] at g2
    exact m_wrong ⟨hB, ht, hv⟩ (fun _ _ q => q) (fun σ' c1 c2 c3 => g2 _ _ σ' rfl c1 c2 c3)
  · rw [if_pos (bt q)] at g1
    exact m_token hB ht.1 hv (fun σ' c1 c2 c3 => g1 _ _ σ' rfl c1 c2 c3)
