set_option maxRecDepth 100000
def dOk (n : Int32) : Prop := 1 ≤ n.toInt ∧ n.toInt ≤ 99999
theorem l_days (n : Int32) : f_X1_in n.toInt64 1 99999 = 0 ↔ ¬ dOk n := in_iff (by rw [Int32.toInt_toInt64]) (by rfl) (by rfl)
theorem isIn_01 (x lo hi : Int32) : f_X6_isIn x lo hi = 0 ∨ f_X6_isIn x lo hi = 1 := by
  unfold f_X6_isIn
  split
  · exact Or.inl rfl
  · split
    · exact Or.inl rfl
    · exact Or.inr rfl
theorem m_days (n : Int32) : ok_X6_isDays n ∧ (f_X6_isDays n = 0 ↔ ¬ dOk n) := ⟨isIn_01 _ _ _, isIn_iff n 1 99999⟩
theorem cn_i {c : Int64} {n : Int32} (hc : cOk c) (hn : dOk n) : (c + n.toInt64).toInt = c.toInt + n.toInt := by
  obtain ⟨c1, c2⟩ := hc
  obtain ⟨n1, n2⟩ := hn
  exact l3_add rfl (by rw [Int32.toInt_toInt64]) (by omega) (by omega)
noncomputable def endsQ (R : RlA) (l : Int32) (c : Int64) (n : Int32) : Int32 := match landAt R l with
  | none => -1
  | some x => @ite _ (cOk c ∧ dOk n ∧ c + n.toInt64 ≤ 1000000000000) (Classical.propDecidable _) (endA x (c + n.toInt64) - endA x c).toInt32 (-1)
theorem ql_ends {o c : Nat} {σ : Hp} {R : RlA} {l n : Int32} {d : Int64} {Q : Int32 → Prop} (hL : LRl c σ R) (hk : LsOk (aL R)) (hQ : Q (endsQ R l d n)) : wp_X1_ends o c σ l d n Q := by
  have h4 := hL.1.2.1
  unfold endsQ at hQ
  rcases at_cases (aL R) l (by omega) with nl | ⟨i, x, rfl, hi, hr⟩
  · rw [landAt_no nl] at hQ
    exact ⟨in_01 _ _ _, fun _ => hQ, fun q => absurd ((l_isLand hL l).mpr nl) q⟩
  · have a : ¬ f_X1_isLand o c σ (Int32.ofNat i) = 0 := fun q => (l_isLand hL _).mp q hr
    obtain ⟨p1, p2, p3⟩ := l_land (o := o) hL hi
    have k := hk x (List.mem_of_getElem? hi)
    rw [landAt_at h4 hi] at hQ
    have hQ : Q (@ite _ (cOk d ∧ dOk n ∧ d + n.toInt64 ≤ 1000000000000) (Classical.propDecidable _) (endA x (d + n.toInt64) - endA x d).toInt32 (-1)) := hQ
    refine ⟨in_01 _ _ _, fun q => absurd q a, fun _ => ⟨in_01 _ _ _, fun q => ?_, fun q => ⟨fun q2 => ?_, fun q2 => ⟨fun q3 => ⟨p1, p2, ?_⟩, fun q3 => ?_⟩⟩⟩⟩
    · rw [if_neg (fun z => (l_cnt d).mp q z.1)] at hQ; exact hQ
    · rw [if_neg (fun z => (l_days n).mp q2 z.2.1)] at hQ; exact hQ
    · have cc : cOk d := Classical.byContradiction (fun z => q ((l_cnt d).mpr z))
      have ww : dOk n := Classical.byContradiction (fun z => q2 ((l_days n).mpr z))
      rw [if_pos ⟨cc, ww, q3⟩] at hQ
      have e := cn_i cc ww
      rw [l3_le e (y := 1000000000000) (by rfl)] at q3
      have c2 : cOk (d + n.toInt64) := ⟨by rw [e]; have := cc.1; have := ww.1; omega, by rw [e]; exact q3⟩
      exact l_ended p3 k c2 ⟨p1, l_ended p3 k cc hQ⟩
    · rw [if_neg (fun z => q3 z.2.2)] at hQ; exact hQ
theorem DS.tr {m : Nat} {σ σ' τ : Hp} (h : DS m σ σ') (h2 : DS m σ' τ) : Ch (fun a k => a = m ∧ (k = 53 ∨ k = 54)) σ τ := by
  have one : ∀ {σ σ' : Hp}, DS m σ σ' → Ch (fun a k => a = m ∧ (k = 53 ∨ k = 54)) σ σ' := by
    intro σ σ' h
    rcases h with rfl | ⟨u, v, rfl⟩
    · exact Ch.rf
    · exact (Ch.rf.l ⟨rfl, by omega⟩).l ⟨rfl, by omega⟩
  exact (one h).tr (one h2)
