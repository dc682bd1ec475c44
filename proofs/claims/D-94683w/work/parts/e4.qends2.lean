set_option maxRecDepth 100000
theorem MDo.ds {m : Nat} {σ σ' : Hp} {l L g f : Int32} (h : MDo m σ l L g f) (hd : DS m σ σ') : MDo m σ' l L g f := by
  rcases hd with rfl | ⟨u, v, rfl⟩
  · exact h
  · exact h
theorem m_ended {m : Nat} {σ : Hp} {l : Int32} {x : LandA} {c : Int64} {Q : Int64 → Hp → Prop} (h : MDo m σ l x.2.1 x.2.2.1 x.2.2.2) (k : LOK3 x.2.1 x.2.2.1 x.2.2.2) (hc : cOk c) (hQ : ∀ σ', DS m σ σ' → Q (endA x c) σ') : wp_X6_endedBy m σ l c Q := by
  unfold endA at hQ
  unfold wp_X6_endedBy
  rw [h.2.2.2.2.2, l3_le (i2_l x.2.2.2) rfl]
  refine ⟨h.1, fun q => ?_, fun q => ?_⟩
  · rw [if_pos q] at hQ
    refine wp_date1 h k hc.1 hc.2 (fun e σ' hd => ⟨fun _ => ?_, fun z => absurd rfl z⟩) (fun e => ⟨fun z => (by cases z), fun _ => ?_⟩)
    · have hn := yr_neg k hc.1 hc.2 q e
      have h' := h.ds hd
      have := hQ σ' hd
      rw [if_pos (show yrA x c = -1 from e)] at this
      exact ⟨om_end h' k hn, by rw [fm_end h', mEnd_i k hn]; exact this⟩
    · have hd : DS m σ (pL (pL σ m 53 (yrA x c)) m 54 (dyA x c)) := Or.inr ⟨_, _, rfl⟩
      have h' := h.ds hd
      have := hQ _ hd
      rw [if_neg (show ¬ yrA x c = -1 from e)] at this
      have e53 : gL (pL (pL σ m 53 (yrA x c)) m 54 (dyA x c)) m 53 = yrA x c := by rw [gL_pL, if_neg (by omega), gL_pL, if_pos ⟨rfl, rfl⟩]
      have e54 : gL (pL (pL σ m 53 (yrA x c)) m 54 (dyA x c)) m 54 = dyA x c := by rw [gL_pL, if_pos ⟨rfl, rfl⟩]
      show ok_X6_lengthOf m (pL (pL σ m 53 (yrA x c)) m 54 (dyA x c)) l (gL (pL (pL σ m 53 (yrA x c)) m 54 (dyA x c)) m 53) ∧ (gL (pL (pL σ m 53 (yrA x c)) m 54 (dyA x c)) m 54 = f_X6_lengthOf m (pL (pL σ m 53 (yrA x c)) m 54 (dyA x c)) l (gL (pL (pL σ m 53 (yrA x c)) m 54 (dyA x c)) m 53) → Q (gL (pL (pL σ m 53 (yrA x c)) m 54 (dyA x c)) m 53) (pL (pL σ m 53 (yrA x c)) m 54 (dyA x c))) ∧ (¬ gL (pL (pL σ m 53 (yrA x c)) m 54 (dyA x c)) m 54 = f_X6_lengthOf m (pL (pL σ m 53 (yrA x c)) m 54 (dyA x c)) l (gL (pL (pL σ m 53 (yrA x c)) m 54 (dyA x c)) m 53) → Q (gL (pL (pL σ m 53 (yrA x c)) m 54 (dyA x c)) m 53 - 1) (pL (pL σ m 53 (yrA x c)) m 54 (dyA x c)))
      rw [e53, e54, fm_len h']
      refine ⟨om_len h' _, fun w => ?_, fun w => ?_⟩
      · rw [if_pos w] at this; exact this
      · rw [if_neg w] at this; exact this
  · rw [if_neg q] at hQ; exact hQ σ (Or.inl rfl)
