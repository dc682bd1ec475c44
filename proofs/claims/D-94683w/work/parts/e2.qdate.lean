set_option maxRecDepth 100000
def landAt (R : RlA) (l : Int32) : Option LandA := if 0 ≤ l.toInt then (aL R)[l.toInt.toNat]? else none
theorem landAt_no {R : RlA} {l : Int32} (h : ¬ (0 ≤ l.toInt ∧ l.toInt < (aL R).length)) : landAt R l = none := by
  unfold landAt
  by_cases c : 0 ≤ l.toInt
  · rw [if_pos c]; exact List.getElem?_eq_none (by omega)
  · rw [if_neg c]
theorem landAt_at {R : RlA} {i : Nat} {x : LandA} (h4 : (aL R).length ≤ 4) (hi : (aL R)[i]? = some x) : landAt R (Int32.ofNat i) = some x := by
  have il := get_lt hi
  unfold landAt
  rw [nat_i (by omega), if_pos (by omega)]
  exact hi
def cOk (c : Int64) : Prop := 0 ≤ c.toInt ∧ c.toInt ≤ 1000000000000
theorem l_cnt (c : Int64) : f_X1_isCount c = 0 ↔ ¬ cOk c := in_iff rfl (by rfl) (by rfl)
theorem m_cnt (c : Int64) : f_X6_isCount c = 0 ↔ ¬ cOk c := by
  unfold f_X6_isCount cOk
  by_cases c1 : c < 0
  · rw [if_pos c1]
    rw [l3_lt rfl (y := 0) (by rfl)] at c1
    exact ⟨fun _ q => by omega, fun _ => rfl⟩
  · rw [if_neg c1]
    rw [l3_lt rfl (y := 0) (by rfl)] at c1
    by_cases c2 : 1000000000000 < c
    · rw [if_pos c2]
      rw [l3_lt (x := 1000000000000) (by rfl) rfl] at c2
      exact ⟨fun _ q => by omega, fun _ => rfl⟩
    · rw [if_neg c2]
      rw [l3_lt (x := 1000000000000) (by rfl) rfl] at c2
      exact ⟨fun q => (by cases q), fun q => absurd ⟨by omega, by omega⟩ q⟩
noncomputable def yrA (x : LandA) (c : Int64) : Int64 := yr x.2.1 x.2.2.1 x.2.2.2 c
noncomputable def dyA (x : LandA) (c : Int64) : Int64 := c - mStart x.2.1 x.2.2.1 x.2.2.2 (yrA x c) + 1
/-- what date answers, the land and all asked being there -/
noncomputable def dateV (x : LandA) (c : Int64) (w : Int32) : Int64 := if yrA x c = -1 then -1 else if w = 0 then yrA x c else dyA x c
def w01 (w : Int32) : Prop := 0 ≤ w.toInt ∧ w.toInt ≤ 1
theorem l_w01 (w : Int32) : f_X1_in w.toInt64 0 1 = 0 ↔ ¬ w01 w := in_iff (by rw [Int32.toInt_toInt64]) (by rfl) (by rfl)
theorem m_w01 (w : Int32) : f_X6_isIn w 0 1 = 0 ↔ ¬ w01 w := isIn_iff w 0 1
noncomputable def dateQ (R : RlA) (l : Int32) (c : Int64) (w : Int32) : Int64 := match landAt R l with
  | none => -1
  | some x => @ite _ (cOk c ∧ w01 w) (Classical.propDecidable _) (dateV x c w) (-1)
theorem ql_date {o c : Nat} {σ : Hp} {R : RlA} {l w : Int32} {d : Int64} {Q : Int64 → Prop} (hL : LRl c σ R) (hk : LsOk (aL R)) (hQ : Q (dateQ R l d w)) : wp_X1_date o c σ l d w Q := by
  have h4 := hL.1.2.1
  unfold dateQ at hQ
  rcases at_cases (aL R) l (by omega) with nl | ⟨i, x, rfl, hi, hr⟩
  · rw [landAt_no nl] at hQ
    exact ⟨in_01 _ _ _, fun _ => hQ, fun q => absurd ((l_isLand hL l).mpr nl) q⟩
  · have a : ¬ f_X1_isLand o c σ (Int32.ofNat i) = 0 := fun q => (l_isLand hL _).mp q hr
    obtain ⟨p1, p2, p3⟩ := l_land (o := o) hL hi
    have k := hk x (List.mem_of_getElem? hi)
    rw [landAt_at h4 hi] at hQ
    have hQ : Q (@ite _ (cOk d ∧ w01 w) (Classical.propDecidable _) (dateV x d w) (-1)) := hQ
    refine ⟨in_01 _ _ _, fun q => absurd q a, fun _ => ⟨in_01 _ _ _, fun q => ?_, fun q => ⟨fun q2 => ?_, fun q2 => ⟨p1, p2, ?_⟩⟩⟩⟩
    · rw [if_neg (fun z => (l_cnt d).mp q z.1)] at hQ; exact hQ
    · rw [if_neg (fun z => (l_w01 w).mp q2 z.2)] at hQ; exact hQ
    · have cc : cOk d := Classical.byContradiction (fun z => q ((l_cnt d).mpr z))
      have ww : w01 w := Classical.byContradiction (fun z => q2 ((l_w01 w).mpr z))
      rw [if_pos ⟨cc, ww⟩] at hQ
      unfold dateV at hQ
      refine wp_year p3 k cc.1 cc.2 ⟨fun e => ?_, fun e => ⟨fun w0 => ?_, fun w0 => ⟨p1, ?_⟩⟩⟩
      · rw [if_pos (show yrA x d = -1 from e)] at hQ; rw [e]; exact hQ
      · rw [if_neg (show ¬ yrA x d = -1 from e), if_pos w0] at hQ; exact hQ
      · rw [if_neg (show ¬ yrA x d = -1 from e), if_neg w0] at hQ
        refine wp_year p3 k cc.1 cc.2 ?_
        rw [fl_start p3]
        exact hQ
theorem qm_date {m : Nat} {σ : Hp} {R : RlA} {l w : Int32} {d : Int64} {Q : Int64 → Hp → Prop} (hM : MKr m σ R) (hk : LsOk (aL R)) (hQ : ∀ σ', DS m (pI σ m 2 0) σ' → Q (dateQ R l d w) σ') : wp_X6_date m σ l d w Q := by
  have M2 : MKr m (pI σ m 2 0) R := hM.o (by omega)
  have h4 := hM.2.1.1
  unfold dateQ at hQ
  have h0 := hQ _ (Or.inl rfl)
  rcases at_cases (aL R) l (by omega) with nl | ⟨i, x, rfl, hi, hr⟩
  · rw [landAt_no nl] at h0
    exact ⟨fun _ => h0, fun q => absurd ((m_isLand M2 l).mpr nl) q⟩
  · have b : ¬ f_X6_isLand m (pI σ m 2 0) (Int32.ofNat i) = 0 := fun q => (m_isLand M2 _).mp q hr
    have dd := m_landAt M2 hi
    have k := hk x (List.mem_of_getElem? hi)
    rw [landAt_at h4 hi] at h0 hQ
    have h0 : Q (@ite _ (cOk d ∧ w01 w) (Classical.propDecidable _) (dateV x d w) (-1)) _ := h0
    have hQ : ∀ σ', DS m (pI σ m 2 0) σ' → Q (@ite _ (cOk d ∧ w01 w) (Classical.propDecidable _) (dateV x d w) (-1)) σ' := hQ
    refine ⟨fun q => absurd q b, fun _ => ⟨fun q => ?_, fun q => ⟨fun q2 => ?_, fun q2 => ?_⟩⟩⟩
    · rw [if_neg (fun z => (m_cnt d).mp q z.1)] at h0; exact h0
    · rw [if_neg (fun z => (m_w01 w).mp q2 z.2)] at h0; exact h0
    · have cc : cOk d := Classical.byContradiction (fun z => q ((m_cnt d).mpr z))
      have ww : w01 w := Classical.byContradiction (fun z => q2 ((m_w01 w).mpr z))
      rw [if_pos ⟨cc, ww⟩] at hQ
      unfold dateV at hQ
      refine wp_date1 dd k cc.1 cc.2 (fun e σ' hd => ⟨fun _ => ?_, fun z => absurd rfl z⟩) (fun e => ⟨fun z => (by cases z), fun _ => ⟨fun w0 => ?_, fun w0 => ?_⟩⟩)
      · have := hQ σ' hd
        rw [if_pos (show yrA x d = -1 from e)] at this; exact this
      · have := hQ (pL (pL (pI σ m 2 0) m 53 (yrA x d)) m 54 (dyA x d)) (Or.inr ⟨_, _, rfl⟩)
        rw [if_neg (show ¬ yrA x d = -1 from e), if_pos w0] at this
        rw [gL_pL, if_neg (by omega), gL_pL, if_pos ⟨rfl, rfl⟩]
        exact this
      · have := hQ (pL (pL (pI σ m 2 0) m 53 (yrA x d)) m 54 (dyA x d)) (Or.inr ⟨_, _, rfl⟩)
        rw [if_neg (show ¬ yrA x d = -1 from e), if_neg w0] at this
        rw [gL_pL, if_pos ⟨rfl, rfl⟩]
        exact this
