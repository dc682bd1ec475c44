set_option maxRecDepth 100000
/-! WHAT EVERY TEXT's REALM KEEPS TO -/
def SkOk (s : Nat → Int32) : Prop := (1 ≤ (s 0).toInt ∧ (s 0).toInt ≤ 30) ∧ (0 ≤ (s 1).toInt ∧ (s 1).toInt ≤ 9999) ∧ (1 ≤ (s 2).toInt ∧ (s 2).toInt ≤ 9999) ∧ (1 ≤ (s 3).toInt ∧ (s 3).toInt ≤ 99) ∧ (0 ≤ (s 4).toInt ∧ (s 4).toInt ≤ 9999) ∧ (1 ≤ (s 5).toInt ∧ (s 5).toInt ≤ 9999) ∧ (1 ≤ (s 6).toInt ∧ (s 6).toInt ≤ 99)
def PsOk (x : PersA) : Prop := cOk x.2.1 ∧ (x.2.2 = -1 ∨ cOk x.2.2)
def DdOk (nf : Nat) (x : DeedA) : Prop := cOk x.2.1 ∧ ((x.2.2.1 = 0 ∧ 0 ≤ x.2.2.2.1.toInt ∧ x.2.2.2.1.toInt ≤ 999) ∨ (x.2.2.1 = 1 ∧ 0 ≤ x.2.2.2.1.toInt ∧ x.2.2.2.1.toInt ≤ 99999) ∨ (x.2.2.1 = 2 ∧ 0 ≤ x.2.2.2.1.toInt ∧ x.2.2.2.1.toInt < nf))
def NwOk (np nf i : Nat) (w : NoteW) : Prop := (nHas w.1 5 = true → 0 ≤ (w.2.1 5).toInt ∧ (w.2.1 5).toInt < np) ∧ (nHas w.1 6 = true → 0 ≤ (w.2.1 6).toInt ∧ (w.2.1 6).toInt < nf) ∧ (nHas w.1 7 = true → (0 ≤ (w.2.1 7).toInt ∧ (w.2.1 7).toInt < i) ∧ -9999 ≤ (w.2.2 7).toInt ∧ (w.2.2 7).toInt ≤ 9999)
def ROk (R : RlA) : Prop := LsOk (aL R) ∧ SkOk (aS R) ∧ (∀ x ∈ aP R, PsOk x) ∧ (∀ x ∈ aD R, DdOk (aF R).length x) ∧ (∀ i x, (aN R)[i]? = some x → NwOk (aP R).length (aF R).length i x.2)
theorem rok0 : ROk rl0 := ⟨fun x h => (by cases h), (by unfold SkOk; decide), fun x h => (by cases h), fun x h => (by cases h), fun i x h => (by cases h)⟩
theorem DdOk.up {n n' : Nat} {x : DeedA} (h : DdOk n x) (hn : n ≤ n') : DdOk n' x := by
  unfold DdOk at h ⊢
  refine ⟨h.1, ?_⟩
  rcases h.2 with q | q | q
  · exact Or.inl q
  · exact Or.inr (Or.inl q)
  · exact Or.inr (Or.inr ⟨q.1, q.2.1, by omega⟩)
theorem NwOk.up {p f p' f' i : Nat} {w : NoteW} (h : NwOk p f i w) (hp : p ≤ p') (hf : f ≤ f') : NwOk p' f' i w :=
  ⟨fun q => ⟨(h.1 q).1, by have := (h.1 q).2; omega⟩, fun q => ⟨(h.2.1 q).1, by have := (h.2.1 q).2; omega⟩, h.2.2⟩
theorem date_b {b : Nat → Int32} {n : Nat} {l : List LandA} {lo : Int64} {t t' : Tok} {v : Int64} (hk : LsOk l) (h : dateS b n l lo t = .inl (v, t')) : cOk v := by
  unfold dateS at h
  obtain ⟨y, t1, e1, e2⟩ := pb_ok h
  have yb := num_b e1
  have y1 : (99999 : Int32).toInt = 99999 := rfl
  cases l with
  | nil =>
    simp only at e2
    repeat' split at e2
    all_goals cases e2
  | cons x l =>
    have k : LOK3 x.2.1 x.2.2.1 x.2.2.2 := hk x (List.mem_cons_self)
    simp only at e2
    split at e2
    · split at e2
      · split at e2
        · rename_i c1 c2 c3
          cases e2
          obtain ⟨c3, c4, c5, c6, c7⟩ := c3
          obtain ⟨a1, a2, a3, a4⟩ := told_b k c3 (by omega) c4
          have ye : y.toInt64.toInt = y.toInt := by rw [Int32.toInt_toInt64]
          have s := mStart_i (y := y.toInt64) k (by rw [ye]; exact c3) (by rw [ye]; omega) (by rw [ye]; omega)
          rw [ye] at s
          have s1 : (mStart x.2.1 x.2.2.1 x.2.2.2 y.toInt64).toInt = begI x.2.1.toInt x.2.2.1.toInt x.2.2.2.toInt y.toInt := by omega
          have e1 := l3_add s1 (i2_l (tWh t1)) (by omega) (by omega)
          have e2 := l3_sub e1 (b := 1) (y := 1) (by rfl) (by omega) (by omega)
          unfold cOk
          rw [e2]
          omega
        · cases e2
      · cases e2
    · cases e2
theorem ahead_b {b : Nat → Int32} {n : Nat} {l : List Int32} {t t' : Tok} {v : Int32} (hl : l.length ≤ 100) (h : ahS b n l t = .inl (v, t')) : 0 ≤ v.toInt ∧ v.toInt < l.length := by
  unfold ahS at h
  split at h
  · split at h
    · rename_i k e
      cases h
      have := fnd_lt _ _ _ e
      rw [nat_i (by omega)]
      omega
    · cases h
  · cases h
theorem say_ok {b : Nat → Int32} {n : Nat} {pn fn nn : List Int32} {x : NoteW} {w : Nat} {a c : Int32} {t t' : Tok} (hw : w < 8) (hp : pn.length ≤ 100) (hf : fn.length ≤ 100) (hn : nn.length ≤ 100) (h : NwOk pn.length fn.length nn.length x) (e : sayS b n pn fn nn w t = .inl ((a, c), t')) : NwOk pn.length fn.length nn.length (nSay x w a c) := by
  have hb : ∀ j, j < 8 → nHas (nSay x w a c).1 j = (nHas x.1 j || decide (j = w)) := fun j hj => has_or x.1 (by omega) (by omega)
  have g1 : ∀ j, j ≠ w → (nSay x w a c).2.1 j = x.2.1 j := fun j hj => if_neg hj
  have g2 : ∀ j, j ≠ w → (nSay x w a c).2.2 j = x.2.2 j := fun j hj => if_neg hj
  have k1 : (nSay x w a c).2.1 w = a := if_pos rfl
  have k2 : (nSay x w a c).2.2 w = c := if_pos rfl
  unfold sayS at e
  refine ⟨fun q => ?_, fun q => ?_, fun q => ?_⟩
  · by_cases j : 5 = w
    · subst j
      rw [k1]
      simp only [if_neg (show ¬ (5 = 0) by omega), if_neg (show ¬ (5 = 1) by omega), if_neg (show ¬ (5 = 2) by omega), if_neg (show ¬ (5 = 3) by omega), if_neg (show ¬ (5 = 4) by omega), if_true] at e
      obtain ⟨v, t1, e1, e2⟩ := pb_ok e
      cases e2
      exact ahead_b hp e1
    · rw [g1 5 j]
      rw [hb 5 (by omega), decide_eq_false j, Bool.or_false] at q
      exact h.1 q
  · by_cases j : 6 = w
    · subst j
      rw [k1]
      simp only [if_neg (show ¬ (6 = 0) by omega), if_neg (show ¬ (6 = 1) by omega), if_neg (show ¬ (6 = 2) by omega), if_neg (show ¬ (6 = 3) by omega), if_neg (show ¬ (6 = 4) by omega), if_neg (show ¬ (6 = 5) by omega), if_true] at e
      obtain ⟨v, t1, e1, e2⟩ := pb_ok e
      cases e2
      exact ahead_b hf e1
    · rw [g1 6 j]
      rw [hb 6 (by omega), decide_eq_false j, Bool.or_false] at q
      exact h.2.1 q
  · by_cases j : 7 = w
    · subst j
      rw [k1, k2]
      simp only [if_neg (show ¬ (7 = 0) by omega), if_neg (show ¬ (7 = 1) by omega), if_neg (show ¬ (7 = 2) by omega), if_neg (show ¬ (7 = 3) by omega), if_neg (show ¬ (7 = 4) by omega), if_neg (show ¬ (7 = 5) by omega), if_neg (show ¬ (7 = 6) by omega)] at e
      obtain ⟨v, t1, e1, e2⟩ := pb_ok e
      obtain ⟨v2, t2, e3, e4⟩ := pb_ok e2
      cases e4
      exact ⟨ahead_b hn e1, sgd_b e3 (by decide)⟩
    · rw [g1 7 j, g2 7 j]
      rw [hb 7 (by omega), decide_eq_false j, Bool.or_false] at q
      exact h.2.2 q
theorem nwOf_b {t : Tok} {w : Nat} (h : nwOf t = some w) : w < 8 := by
  unfold nwOf at h
  repeat' split at h
  all_goals first | (cases h; done) | (cases h; omega)
theorem note_b {b : Nat → Int32} {n : Nat} {pn fn nn : List Int32} {t t' : Tok} {x : NoteA} (hv : TV n t) (hp : pn.length ≤ 100) (hf : fn.length ≤ 100) (hn : nn.length ≤ 100) (h : noteS b n pn fn nn t = .inl (x, t')) : NwOk pn.length fn.length nn.length x.2 := by
  unfold noteS at h
  obtain ⟨nm, t1, e1, e2⟩ := pb_ok h
  have v1 := (pg_fr hv _ _ e1).1
  obtain ⟨w, t2, e3, e4⟩ := pb_ok e2
  cases e4
  have hr := rsOf_rn (z := .inr (0, 0)) (nw_tot (b := b) (n := n) (pn := pn) (fn := fn) (nn := nn) ((0, fun _ => 0, fun _ => 0), t1) v1)
  rw [e3] at hr
  have key := Rn.inv (fun s => NwOk pn.length fn.length nn.length s.1) (fun r => ∀ w t, r = .inl (w, t) → NwOk pn.length fn.length nn.length w) (fun s s' hs e => ?_) (fun s r hs e => ?_) (s := ((0, fun _ => 0, fun _ => 0), t1)) ⟨fun q => (by rw [has_0] at q; cases q), fun q => (by rw [has_0] at q; cases q), fun q => (by rw [has_0] at q; cases q)⟩ hr
  · exact key w _ rfl
  · unfold nwStep at e
    split at e
    · cases e
    · rename_i w ew
      split at e
      · cases e
      · split at e
        · rename_i a c t3 es
          cases e
          exact say_ok (nwOf_b ew) hp hf hn hs es
        · cases e
  · unfold nwStep at e
    split at e
    · cases e
      intro w t q
      cases q
      exact hs
    · split at e
      · cases e
        intro w t q
        cases q
      · split at e
        · cases e
        · cases e
          intro w t q
          cases q
