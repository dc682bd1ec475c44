set_option maxRecDepth 100000
theorem Rn.inv {S R : Type} {step : S → S ⊕ R} (I : S → Prop) (J : R → Prop) (h1 : ∀ s s', I s → step s = .inl s' → I s') (h2 : ∀ s r, I s → step s = .inr r → J r) {s : S} {r : R} (hI : I s) (hr : Rn step s r) : J r := by
  obtain ⟨k, hk⟩ := hr
  induction k generalizing s with
  | zero => cases hk
  | succ k ih =>
    unfold rn at hk
    cases e : step s with
    | inl s' => rw [e] at hk; exact ih (h1 s s' hI e) hk
    | inr q => rw [e] at hk; cases hk; exact h2 s _ hI e
theorem pg_note {b : Nat → Int32} {n : Nat} {pn fn nn : List Int32} {t : Tok} (hv : TV n t) : PG n t (noteS b n pn fn nn t) := by
  unfold noteS
  refine (pg_fr hv).pe (fun a t1 h1 => ?_)
  have hr := rsOf_rn (z := (.inr (0, 0) : PR NoteW)) (nw_tot (b := b) (n := n) (pn := pn) (fn := fn) (nn := nn) ((0, fun _ => 0, fun _ => 0), t1) h1)
  generalize rsOf (nwStep b n pn fn nn) ((0, fun _ => 0, fun _ => 0), t1) (.inr (0, 0)) = r at hr
  have hJ := Rn.inv (fun s : NoteW × Tok => TV n s.2 ∧ tPl t1 ≤ tPl s.2) (fun r : PR NoteW => PE n t1 r) (fun s s' hI e => by
    obtain ⟨q1, q2⟩ := nw_st hI.1 e
    exact ⟨q1, by omega⟩) (fun s r hI e => by
    unfold nwStep at e
    split at e
    · cases e
      intro a t' e'
      cases e'
      exact hI
    · split at e
      · cases e
        intro a t' e'
        cases e'
      · split at e
        · cases e
        · cases e
          intro a t' e'
          cases e') ⟨h1, Nat.le_refl _⟩ hr
  intro a t' e
  cases r with
  | inl q =>
    obtain ⟨x, t2⟩ := q
    cases e
    exact hJ _ _ rfl
  | inr q => cases e
theorem pg_sum {b : Nat → Int32} {n cnt : Nat} {t : Tok} (hv : TV n t) : PE n t (sumS b n cnt t) := by
  unfold sumS
  have hr := rsOf_rn (z := (.inr (0, 0) : SYr)) (sy_tot (b := b) (n := n) ([], [], 0, cnt, true, true, t) hv)
  generalize rsOf (syStep (adv b n)) ([], [], 0, cnt, true, true, t) (.inr (0, 0)) = r at hr
  have hJ := Rn.inv (fun s : SYs => TV n s.2.2.2.2.2.2 ∧ tPl t ≤ tPl s.2.2.2.2.2.2) (fun r : SYr => ∀ h c t', r = .inl (h, c, t') → TV n t' ∧ tPl t ≤ tPl t') (fun s s' hI e => by
    obtain ⟨q1, q2⟩ := sy_st hI.1 e
    exact ⟨q1, by omega⟩) (fun s r hI e => by
    obtain ⟨w, hh, brk, cnt, wants, mn, t2⟩ := s
    rw [syStep_eq] at e
    unfold syLeaf sySign at e
    intro h c t' er
    repeat' split at e
    all_goals first | (cases e; cases er; exact hI) | (cases e; cases er; done) | cases e) ⟨hv, Nat.le_refl _⟩ hr
  intro a t' e
  cases r with
  | inl q =>
    obtain ⟨h, c, t2⟩ := q
    cases e
    exact hJ _ _ _ rfl
  | inr q => cases e
theorem pg_feast {b : Nat → Int32} {n cnt : Nat} {names : List Int32} {t : Tok} (hv : TV n t) : PG n t (feastS b n names cnt t) := by
  unfold feastS
  refine (pg_fr hv).pe (fun a t1 h1 => ?_)
  have h := pg_sum (b := b) (cnt := cnt) h1
  intro x t' e
  cases hs : sumS b n cnt t1 with
  | inl q =>
    obtain ⟨y, t2⟩ := q
    rw [hs] at e
    cases e
    exact h _ _ hs
  | inr q => rw [hs] at e; cases e
theorem pg_end {b : Nat → Int32} {n : Nat} {P : PSt} {t : Tok} (hv : TV n t) : PG n t (endS b n P t) := by
  unfold endS
  split
  · rename_i k
    obtain ⟨k, -⟩ := sgn_kd k
    exact PG.ad (b := b) hv (by rw [k]; decide) (PE.rt (tv_tk hv.1) _)
  · exact PG.er
theorem pg_round {b : Nat → Int32} {n : Nat} {t : Tok} (hv : TV n t) : PG n t (roundS b n t) := (pg_num hv).bb (fun a t h => (pg_num h).pe (fun a t h => PE.rt h _))
theorem pg_line {b : Nat → Int32} {n : Nat} {P : PSt} {t : Tok} (hv : TV n t) : PG n t (lineS b n P t) := by
  unfold lineS
  split
  · rename_i k
    have ha : TV n (adv b n t) := tv_tk hv.1
    refine PG.ad (b := b) hv (by rw [k.1]; decide) (PG.e ?_)
    repeat' split
    all_goals first
      | exact PG.er
      | exact (pg_land ha).bb (fun a t h => pg_end h)
      | exact (pg_feast ha).bb (fun a t h => pg_end h)
      | exact (pg_pers ha).bb (fun a t h => pg_end h)
      | exact (pg_deed ha).bb (fun a t h => pg_end h)
      | exact (pg_note ha).bb (fun a t h => pg_end h)
      | exact (pg_round ha).bb (fun a t h => pg_end h)
      | exact PG.bb ((pg_num ha).bb (fun a t h => (pg_num h).pe (fun a t h => PE.rt h _))) (fun a t h => pg_end h)
      | exact PG.bb ((pg_round ha).bb (fun a t h => (pg_num h).pe (fun a t h => PE.rt h _))) (fun a t h => pg_end h)
  · exact PG.er
theorem num_b {b : Nat → Int32} {n : Nat} {lo hi : Int32} {t t' : Tok} {v : Int32} (h : numS b n lo hi t = .inl (v, t')) : lo.toInt ≤ v.toInt ∧ v.toInt ≤ hi.toInt := by
  unfold numS at h
  split at h
  · split at h
    · rename_i w
      cases h
      exact w
    · cases h
  · cases h
theorem sgd_b {b : Nat → Int32} {n : Nat} {hi : Int32} {t t' : Tok} {v : Int32} (h : sgdS b n hi t = .inl (v, t')) (h0 : 0 ≤ hi.toInt) : -hi.toInt ≤ v.toInt ∧ v.toInt ≤ hi.toInt := by
  have hh := i2_b hi
  unfold sgdS at h
  split at h
  · cases e : numS b n 0 hi (adv b n t) with
    | inl q =>
      obtain ⟨x, t2⟩ := q
      rw [e] at h
      cases h
      have := num_b e
      have z : (0 : Int32).toInt = 0 := rfl
      rw [i2_neg (by omega)]
      omega
    | inr q => rw [e] at h; cases h
  · have := num_b h
    have z : (0 : Int32).toInt = 0 := rfl
    omega
theorem land_ok {b : Nat → Int32} {n : Nat} {names : List Int32} {t t' : Tok} {x : LandA} (h : landS b n names t = .inl (x, t')) : LOK x.2.1.toInt x.2.2.1.toInt x.2.2.2.toInt := by
  unfold landS at h
  cases e1 : frS b n names t with
  | inr q => rw [e1] at h; cases h
  | inl q =>
    obtain ⟨nm, t1⟩ := q
    rw [e1, pb_inl] at h
    cases e2 : numS b n 1 9999 t1 with
    | inr q => rw [e2] at h; cases h
    | inl q =>
      obtain ⟨len, t2⟩ := q
      rw [e2, pb_inl] at h
      cases e3 : sgdS b n 99 t2 with
      | inr q => rw [e3] at h; cases h
      | inl q =>
        obtain ⟨g, t3⟩ := q
        rw [e3, pb_inl] at h
        have b2 := num_b e2
        have b3 := sgd_b e3 (by decide)
        have c1 : (1 : Int32).toInt = 1 := rfl
        have c2 : (9999 : Int32).toInt = 9999 := rfl
        have c3 : (99 : Int32).toInt = 99 := rfl
        split at h
        · cases e4 : numS b n 0 99999 (adv b n t3) with
          | inr q => rw [e4] at h; cases h
          | inl q =>
            obtain ⟨f, t4⟩ := q
            rw [e4] at h
            cases h
            have b4 := num_b e4
            have c4 : (0 : Int32).toInt = 0 := rfl
            have c5 : (99999 : Int32).toInt = 99999 := rfl
            unfold LOK
            simp only
            omega
        · cases h
          have c4 : (0 : Int32).toInt = 0 := rfl
          unfold LOK
          simp only
          omega
theorem end_1 {b : Nat → Int32} {n : Nat} {P P' : PSt} {t t' : Tok} (h : endS b n P t = .inl (P', t')) : P' = P := by
  unfold endS at h
  split at h
  · cases h; rfl
  · cases h
theorem pb_ok {α β : Type} {x : PR α} {f : α → Tok → PR β} {y : β} {t' : Tok} (h : pb x f = .inl (y, t')) : ∃ a t, x = .inl (a, t) ∧ f a t = .inl (y, t') := by
  cases x with
  | inl q => exact ⟨q.1, q.2, rfl, h⟩
  | inr q => cases h
theorem ls_line {b : Nat → Int32} {n : Nat} {P P' : PSt} {t t' : Tok} (hk : LsOk (aL P.1)) (h : lineS b n P t = .inl (P', t')) : LsOk (aL P'.1) := by
  unfold lineS at h
  split at h
  · repeat' split at h
    all_goals first | (cases h; done) | skip
    all_goals obtain ⟨a, t2, e1, e2⟩ := pb_ok h
    all_goals have e3 := end_1 e2
    all_goals subst e3
    all_goals first | exact hk | skip
    intro x hx
    have hx : x ∈ aL P.1 ++ [a] := hx
    rw [List.mem_append] at hx
    rcases hx with hx | hx
    · exact hk x hx
    · rw [List.mem_singleton] at hx
      subst hx
      exact land_ok e1
  · cases h
theorem tx_st {b : Nat → Int32} {n : Nat} {s s' : PSt × Nat × Tok} (hv : TV n s.2.2) (h : txStep b n s = .inl s') : TV n s'.2.2 ∧ tPl s.2.2 < tPl s'.2.2 ∧ s'.2.1 = s.2.1 + 1 ∧ lineS b n s.1 s.2.2 = .inl (s'.1, s'.2.2) := by
  unfold txStep at h
  split at h
  · cases h
  · split at h
    · rename_i P t e
      cases h
      have := pg_line hv _ _ e
      exact ⟨this.1, this.2, rfl, e⟩
    · cases h
theorem tx_tot {b : Nat → Int32} {n : Nat} (s : PSt × Nat × Tok) (hv : TV n s.2.2) : ∃ r, Rn (txStep b n) s r :=
  Rn.tot2 (fun s => TV n s.2.2) (fun s => n + 1 - tPl s.2.2) (fun s s' h e => by
    obtain ⟨a1, a2, -, -⟩ := tx_st h e
    have := a1.1
    have := a1.2.1
    exact ⟨a1, by omega⟩) s hv
