set_option maxRecDepth 100000
theorem byOf_b {x : Int32} (h : 0 ≤ x.toInt) : (byOf x).toInt ≤ 99 := by
  unfold byOf
  split
  · rename_i q
    have : (99 : Int32).toInt = 99 := rfl
    rw [i2_lt] at q
    omega
  · exact Int.le_refl _
theorem round_b {b : Nat → Int32} {n : Nat} {t t' : Tok} {x : Int32 × Int32} (h : roundS b n t = .inl (x, t')) : (1 ≤ x.1.toInt ∧ x.1.toInt ≤ 9999) ∧ (1 ≤ x.2.toInt ∧ x.2.toInt ≤ 99) := by
  unfold roundS at h
  obtain ⟨a, t1, e1, e2⟩ := pb_ok h
  obtain ⟨c, t2, e3, e4⟩ := pb_ok e2
  cases e4
  have n1 := num_b e1
  have n2 := num_b e3
  have q1 : (1 : Int32).toInt = 1 := rfl
  have q9 : (9999 : Int32).toInt = 9999 := rfl
  have := byOf_b (x := a) (by omega)
  simp only
  omega
def JOk (P : RlA) : Prop := ROk P ∧ (aL P).length ≤ 4 ∧ (aF P).length ≤ 4 ∧ (aP P).length ≤ 6 ∧ (aD P).length ≤ 4 ∧ (aN P).length ≤ 6
theorem sk_up {s : Nat → Int32} {k : Nat} {v : Int32} (h : SkOk s) (hv : (k = 0 → 1 ≤ v.toInt ∧ v.toInt ≤ 30) ∧ (k = 1 → 0 ≤ v.toInt ∧ v.toInt ≤ 9999) ∧ (k = 2 → 1 ≤ v.toInt ∧ v.toInt ≤ 9999) ∧ (k = 3 → 1 ≤ v.toInt ∧ v.toInt ≤ 99) ∧ (k = 4 → 0 ≤ v.toInt ∧ v.toInt ≤ 9999) ∧ (k = 5 → 1 ≤ v.toInt ∧ v.toInt ≤ 9999) ∧ (k = 6 → 1 ≤ v.toInt ∧ v.toInt ≤ 99)) : SkOk (up1 s k v) := by
  obtain ⟨h0, h1, h2, h3, h4, h5, h6⟩ := h
  obtain ⟨v0, v1, v2, v3, v4, v5, v6⟩ := hv
  have g : ∀ j, up1 s k v j = if j = k then v else s j := fun _ => rfl
  unfold SkOk
  refine ⟨?_, ?_, ?_, ?_, ?_, ?_, ?_⟩ <;> rw [g] <;> split
  · exact v0 (by omega)
  · exact h0
  · exact v1 (by omega)
  · exact h1
  · exact v2 (by omega)
  · exact h2
  · exact v3 (by omega)
  · exact h3
  · exact v4 (by omega)
  · exact h4
  · exact v5 (by omega)
  · exact h5
  · exact v6 (by omega)
  · exact h6
theorem jok_line {b : Nat → Int32} {n : Nat} {P P' : PSt} {t t' : Tok} (hv : TV n t) (hJ : JOk P.1) (h : lineS b n P t = .inl (P', t')) : JOk P'.1 := by
  have hls := ls_line hJ.1.1 h
  obtain ⟨⟨r1, r2, r3, r4, r5⟩, l1, l2, l3, l4, l5⟩ := hJ
  have va : TV n (adv b n t) := tv_tk hv.1
  have n1 : (nms2 P.1).length = (aF P.1).length := by unfold nms2; rw [List.length_map]
  have n2 : (nms3 P.1).length = (aP P.1).length := by unfold nms3; rw [List.length_map]
  have n3 : (nms5 P.1).length = (aN P.1).length := by unfold nms5; rw [List.length_map]
  unfold lineS at h
  split at h
  · split at h
    · split at h
      · cases h
      · rename_i c
        obtain ⟨a, t2, e1, e2⟩ := pb_ok h
        have e3 := end_1 e2
        subst e3
        exact ⟨⟨hls, r2, r3, r4, r5⟩, by show (aL P.1 ++ [a]).length ≤ 4; simp; omega, l2, l3, l4, l5⟩
    · split at h
      · split at h
        · cases h
        · rename_i c
          obtain ⟨a, t2, e1, e2⟩ := pb_ok h
          have e3 := end_1 e2
          subst e3
          have el : (aF (putF P.1 a.1 a.2)).length = (aF P.1).length + 1 := by show (aF P.1 ++ [a.1]).length = _; simp
          exact ⟨⟨hls, r2, r3, fun x hx => (r4 x hx).up (by simp only [el]; omega), fun i x hi => (r5 i x hi).up (Nat.le_refl _) (by simp only [el]; omega)⟩, l1, by simp only [el]; omega, l3, l4, l5⟩
      · split at h
        · split at h
          · cases h
          · rename_i c
            obtain ⟨a, t2, e1, e2⟩ := pb_ok h
            have e3 := end_1 e2
            subst e3
            have el : (aP (putP P.1 a)).length = (aP P.1).length + 1 := by show (aP P.1 ++ [a]).length = _; simp
            refine ⟨⟨hls, r2, fun x hx => ?_, r4, fun i x hi => (r5 i x hi).up (by simp only [el]; omega) (Nat.le_refl _)⟩, l1, l2, by simp only [el]; omega, l4, l5⟩
            have hx : x ∈ aP P.1 ++ [a] := hx
            rw [List.mem_append] at hx
            rcases hx with hx | hx
            · exact r3 x hx
            · rw [List.mem_singleton] at hx
              subst hx
              unfold persS at e1
              obtain ⟨nm, t3, f1, f2⟩ := pb_ok e1
              obtain ⟨d1, t4, f3, f4⟩ := pb_ok f2
              have k1 := date_b r1 f3
              split at f4
              · obtain ⟨d2, t5, f5, f6⟩ := pb_ok f4
                cases f6
                exact ⟨k1, Or.inr (date_b r1 f5)⟩
              · cases f4
                exact ⟨k1, Or.inl rfl⟩
        · split at h
          · split at h
            · cases h
            · rename_i c
              obtain ⟨a, t2, e1, e2⟩ := pb_ok h
              have e3 := end_1 e2
              subst e3
              refine ⟨⟨hls, r2, r3, fun x hx => ?_, r5⟩, l1, l2, l3, by show (aD P.1 ++ [a]).length ≤ 4; simp; omega, l5⟩
              have hx : x ∈ aD P.1 ++ [a] := hx
              rw [List.mem_append] at hx
              rcases hx with hx | hx
              · exact r4 x hx
              · rw [List.mem_singleton] at hx
                subst hx
                unfold deedS at e1
                obtain ⟨nm, t3, f1, f2⟩ := pb_ok e1
                obtain ⟨d1, t4, f3, f4⟩ := pb_ok f2
                have k1 := date_b r1 f3
                split at f4
                · rename_i ck
                  obtain ⟨v, t5, f5, f6⟩ := pb_ok f4
                  obtain ⟨u, t6, f7, f8⟩ := pb_ok f6
                  obtain ⟨p, t7, f9, f10⟩ := pb_ok f8
                  cases f10
                  refine ⟨k1, ?_⟩
                  show (tWh t4 - 10 = 0 ∧ _) ∨ (tWh t4 - 10 = 1 ∧ _) ∨ (tWh t4 - 10 = 2 ∧ _)
                  split at f5
                  · rename_i c0
                    exact Or.inl ⟨by rw [c0]; rfl, num_b f5⟩
                  · split at f5
                    · rename_i c0
                      exact Or.inr (Or.inl ⟨by rw [c0]; rfl, num_b f5⟩)
                    · rename_i c0 c1
                      have c2 : tWh t4 = 12 := by
                        rw [i2_eq] at c0 c1 ⊢
                        have : (10 : Int32).toInt = 10 := rfl
                        have : (11 : Int32).toInt = 11 := rfl
                        have : (12 : Int32).toInt = 12 := rfl
                        omega
                      have ab := ahead_b (by omega) f5
                      exact Or.inr (Or.inr ⟨by rw [c2]; rfl, by rw [n1] at ab; exact ab⟩)
                · cases f4
          · split at h
            · split at h
              · cases h
              · rename_i c
                obtain ⟨a, t2, e1, e2⟩ := pb_ok h
                have e3 := end_1 e2
                subst e3
                refine ⟨⟨hls, r2, r3, r4, fun i x hi => ?_⟩, l1, l2, l3, l4, by show (aN P.1 ++ [a]).length ≤ 6; simp; omega⟩
                rcases put_get (show (aN P.1 ++ [a])[i]? = some x from hi) with ⟨q1, q2⟩ | ⟨q1, q2⟩
                · exact r5 i x q2
                · subst q1; subst q2
                  have := note_b va (by omega) (by omega) (by omega) e1
                  rw [n1, n2, n3] at this
                  exact this
            · split at h
              · split at h
                · cases h
                · obtain ⟨a, t2, e1, e2⟩ := pb_ok h
                  have e3 := end_1 e2
                  subst e3
                  have rb := round_b e1
                  refine ⟨⟨hls, ?_, r3, r4, r5⟩, l1, l2, l3, l4, l5⟩
                  exact sk_up (sk_up r2 (by omega)) (by omega)
              · split at h
                · split at h
                  · cases h
                  · obtain ⟨a, t2, e1, e2⟩ := pb_ok h
                    have e3 := end_1 e2
                    subst e3
                    unfold weekS at e1
                    obtain ⟨x, t3, f1, f2⟩ := pb_ok e1
                    obtain ⟨y, t4, f3, f4⟩ := pb_ok f2
                    cases f4
                    have x1 := num_b f1
                    have y1 := num_b f3
                    have q2 : (2 : Int32).toInt = 2 := rfl
                    have q30 : (30 : Int32).toInt = 30 := rfl
                    have q0 : (0 : Int32).toInt = 0 := rfl
                    have e : (x - 1).toInt = x.toInt - 1 := i3_sub rfl (by rfl) (by omega) (by omega)
                    refine ⟨⟨hls, ?_, r3, r4, r5⟩, l1, l2, l3, l4, l5⟩
                    exact sk_up (sk_up r2 (by simp only; omega)) (by simp only; omega)
                · split at h
                  · cases h
                  · obtain ⟨a, t2, e1, e2⟩ := pb_ok h
                    have e3 := end_1 e2
                    subst e3
                    unfold moonS at e1
                    obtain ⟨x, t3, f1, f2⟩ := pb_ok e1
                    obtain ⟨y, t4, f3, f4⟩ := pb_ok f2
                    cases f4
                    have x1 := round_b f1
                    have y1 := num_b f3
                    have q0 : (0 : Int32).toInt = 0 := rfl
                    have e : (x.1 - 1).toInt = x.1.toInt - 1 := i3_sub rfl (by rfl) (by omega) (by omega)
                    refine ⟨⟨hls, ?_, r3, r4, r5⟩, l1, l2, l3, l4, l5⟩
                    exact sk_up (sk_up (sk_up r2 (by simp only; omega)) (by simp only; omega)) (by simp only; omega)
  · cases h
theorem jok0 : JOk rl0 := ⟨rok0, by decide, by decide, by decide, by decide, by decide⟩
theorem tx_ok {b : Nat → Int32} {n : Nat} {R : RlA} {k : Nat} (h : textS b n = .inl (R, k)) : JOk R := by
  have hr := rsOf_rn (z := (.inr (0, 0) : (RlA × Nat) ⊕ Flt)) (tx_tot (b := b) (n := n) ((rl0, false, false, false), 0, tk b n 0) (tv_tk (Nat.zero_le _)))
  have e : rsOf (txStep b n) ((rl0, false, false, false), 0, tk b n 0) (.inr (0, 0)) = .inl (R, k) := h
  rw [e] at hr
  refine Rn.inv (fun s => TV n s.2.2 ∧ JOk s.1.1) (fun r => ∀ R k, r = .inl (R, k) → JOk R) (fun s s' hs e => ?_) (fun s r hs e => ?_) ⟨tv_tk (Nat.zero_le _), jok0⟩ hr R k rfl
  · obtain ⟨a1, a2, a3, a4⟩ := tx_st hs.1 e
    exact ⟨a1, jok_line hs.1 hs.2 a4⟩
  · unfold txStep at e
    split at e
    · cases e
      intro R k q
      cases q
      exact hs.2
    · split at e
      · cases e
      · cases e
        intro R k q
        cases q
