set_option maxRecDepth 100000
theorem Rn.tot2 {S R : Type} {step : S → S ⊕ R} (I : S → Prop) (μ : S → Nat) (h : ∀ s s', I s → step s = .inl s' → I s' ∧ μ s' < μ s) : ∀ s, I s → ∃ r, Rn step s r := by
  have key : ∀ (n : Nat) (s : S), I s → μ s < n → ∃ r, Rn step s r := by
    intro n
    induction n with
    | zero => exact fun s _ h => absurd h (Nat.not_lt_zero _)
    | succ n ih =>
      intro s hI hs
      cases e : step s with
      | inl s' =>
        have q := h s s' hI e
        obtain ⟨r, hr⟩ := ih s' q.1 (by omega)
        exact ⟨r, hr.st e⟩
      | inr r => exact ⟨r, Rn.en e⟩
  exact fun s hI => key _ s hI (Nat.lt_succ_self _)
/-- a machine's end -/
noncomputable def rsOf {S R : Type} (step : S → S ⊕ R) (s : S) (z : R) : R := @dite _ (∃ r, Rn step s r) (Classical.propDecidable _) (fun h => h.choose) (fun _ => z)
theorem rsOf_eq {S R : Type} {step : S → S ⊕ R} {s : S} {r z : R} (h : Rn step s r) : rsOf step s z = r := by
  unfold rsOf
  have hx : ∃ r, Rn step s r := ⟨r, h⟩
  rw [dif_pos hx]
  exact hx.choose_spec.det h
theorem rsOf_rn {S R : Type} {step : S → S ⊕ R} {s : S} {z : R} (h : ∃ r, Rn step s r) : Rn step s (rsOf step s z) := by
  obtain ⟨r, hr⟩ := h
  rw [rsOf_eq hr]
  exact hr
section
variable (b : Nat → Int32) (n : Nat)
noncomputable def noteS (pnames fnames nnames : List Int32) (t : Tok) : PR NoteA :=
  pb (frS b n nnames t) fun nm t => pb (rsOf (nwStep b n pnames fnames nnames) ((0, fun _ => 0, fun _ => 0), t) (.inr (0, 0))) fun x t => .inl ((nm, x), t)
noncomputable def sumS (cnt : Nat) (t : Tok) : PR (Ev × Nat) := match rsOf (syStep (adv b n)) ([], [], 0, cnt, true, true, t) (.inr (0, 0)) with
  | .inl (h, cnt', t') => .inl ((h.headD (eNum 0), cnt'), t')
  | .inr e => .inr e
noncomputable def feastS (names : List Int32) (cnt : Nat) (t : Tok) : PR (FeastA × Nat) := pb (frS b n names t) fun nm t => pb (sumS b n cnt t) fun x t => .inl (((nm, x.1), x.2), t)
def weekS (t : Tok) : PR (Int32 × Int32) := pb (numS b n 2 30 t) fun x t => pb (numS b n 0 (x - 1) t) fun y t => .inl ((x, y), t)
def byOf (x : Int32) : Int32 := if x / 8 < 99 then x / 8 else 99
def roundS (t : Tok) : PR (Int32 × Int32) := pb (numS b n 1 9999 t) fun x t => pb (numS b n 1 (byOf x) t) fun y t => .inl ((x, y), t)
def moonS (t : Tok) : PR (Int32 × Int32 × Int32) := pb (roundS b n t) fun x t => pb (numS b n 0 (x.1 - 1) t) fun z t => .inl ((x.1, x.2, z), t)
/-- what is told so far; whether week, moon, sun are told -/
abbrev PSt : Type := RlA × Bool × Bool × Bool
def nms1 (R : RlA) : List Int32 := (aL R).map (fun x => x.1)
def nms2 (R : RlA) : List Int32 := (aF R).map (fun x => x.1)
def nms3 (R : RlA) : List Int32 := (aP R).map (fun x => x.1)
def nms4 (R : RlA) : List Int32 := (aD R).map (fun x => x.1)
def nms5 (R : RlA) : List Int32 := (aN R).map (fun x => x.1)
def endS (P : PSt) (t : Tok) : PR PSt := if tIsSign t 59 = true then .inl (P, adv b n t) else .inr (1, tPl t)
def putL (R : RlA) (x : LandA) : RlA := (aL R ++ [x], R.2)
def putF (R : RlA) (x : FeastA) (k : Nat) : RlA := (aL R, aF R ++ [x], aP R, aD R, aN R, aS R, k)
def putP (R : RlA) (x : PersA) : RlA := (aL R, aF R, aP R ++ [x], R.2.2.2)
def putD (R : RlA) (x : DeedA) : RlA := (aL R, aF R, aP R, aD R ++ [x], R.2.2.2.2)
def putN (R : RlA) (x : NoteA) : RlA := (aL R, aF R, aP R, aD R, aN R ++ [x], R.2.2.2.2.2)
def putS (R : RlA) (s : Nat → Int32) : RlA := (aL R, aF R, aP R, aD R, aN R, s, aK R)
noncomputable def lineS (P : PSt) (t : Tok) : PR PSt :=
  if tKd t = 1 ∧ (tWh t).toInt ≤ 7 then
    (if tWh t = 0 then (if (aL P.1).length = 4 then .inr (2, tPl t) else pb (landS b n (nms1 P.1) (adv b n t)) fun x t => endS b n (putL P.1 x, P.2) t)
    else if tWh t = 1 then (if (aF P.1).length = 4 then .inr (2, tPl t) else pb (feastS b n (nms2 P.1) (aK P.1) (adv b n t)) fun x t => endS b n (putF P.1 x.1 x.2, P.2) t)
    else if tWh t = 2 then (if (aP P.1).length = 6 then .inr (2, tPl t) else pb (persS b n (aL P.1) (nms3 P.1) (adv b n t)) fun x t => endS b n (putP P.1 x, P.2) t)
    else if tWh t = 3 then (if (aD P.1).length = 4 then .inr (2, tPl t) else pb (deedS b n (aL P.1) (nms2 P.1) (nms4 P.1) (adv b n t)) fun x t => endS b n (putD P.1 x, P.2) t)
    else if tWh t = 4 then (if (aN P.1).length = 6 then .inr (2, tPl t) else pb (noteS b n (nms3 P.1) (nms2 P.1) (nms5 P.1) (adv b n t)) fun x t => endS b n (putN P.1 x, P.2) t)
    else if tWh t = 5 then (if P.2.2.2 = true then .inr (3, tPl t) else pb (roundS b n (adv b n t)) fun x t => endS b n (putS P.1 (up1 (up1 (aS P.1) 5 x.1) 6 x.2), P.2.1, P.2.2.1, true) t)
    else if tWh t = 6 then (if P.2.1 = true then .inr (3, tPl t) else pb (weekS b n (adv b n t)) fun x t => endS b n (putS P.1 (up1 (up1 (aS P.1) 0 x.1) 1 x.2), true, P.2.2.1, P.2.2.2) t)
    else (if P.2.2.1 = true then .inr (3, tPl t) else pb (moonS b n (adv b n t)) fun x t => endS b n (putS P.1 (up1 (up1 (up1 (aS P.1) 2 x.1) 3 x.2.1) 4 x.2.2), P.2.1, true, P.2.2.2) t))
  else .inr (1, tPl t)
noncomputable def txStep (s : PSt × Nat × Tok) : (PSt × Nat × Tok) ⊕ ((RlA × Nat) ⊕ Flt) := if tKd s.2.2 = 0 then .inr (.inl (s.1.1, s.2.1)) else match lineS b n s.1 s.2.2 with
  | .inl (P, t) => .inl (P, s.2.1 + 1, t)
  | .inr e => .inr (.inr e)
/-- the text's end: what it tells and how many lines it has, or a fault -/
noncomputable def textS : (RlA × Nat) ⊕ Flt := rsOf (txStep b n) ((rl0, false, false, false), 0, tk b n 0) (.inr (0, 0))
end
/-- tokens go on -/
def PG {α : Type} (n : Nat) (t : Tok) (x : PR α) : Prop := ∀ a t', x = .inl (a, t') → TV n t' ∧ tPl t < tPl t'
theorem PG.bb {α β : Type} {n : Nat} {t : Tok} {x : PR α} {f : α → Tok → PR β} (h1 : PG n t x) (h2 : ∀ a t', TV n t' → PG n t' (f a t')) : PG n t (pb x f) := by
  intro a t' e
  cases x with
  | inl q =>
    obtain ⟨a1, t1⟩ := q
    obtain ⟨v1, p1⟩ := h1 a1 t1 rfl
    obtain ⟨v2, p2⟩ := h2 a1 t1 v1 a t' e
    exact ⟨v2, by omega⟩
  | inr q => cases e
/-- .. or end there -/
def PE {α : Type} (n : Nat) (t : Tok) (x : PR α) : Prop := ∀ a t', x = .inl (a, t') → TV n t' ∧ tPl t ≤ tPl t'
theorem PG.e {α : Type} {n : Nat} {t : Tok} {x : PR α} (h : PG n t x) : PE n t x := fun a t' e => ⟨(h a t' e).1, Nat.le_of_lt (h a t' e).2⟩
theorem PG.pe {α β : Type} {n : Nat} {t : Tok} {x : PR α} {f : α → Tok → PR β} (h1 : PG n t x) (h2 : ∀ a t', TV n t' → PE n t' (f a t')) : PG n t (pb x f) := by
  intro a t' e
  cases x with
  | inl q =>
    obtain ⟨a1, t1⟩ := q
    obtain ⟨v1, p1⟩ := h1 a1 t1 rfl
    obtain ⟨v2, p2⟩ := h2 a1 t1 v1 a t' e
    exact ⟨v2, by omega⟩
  | inr q => cases e
theorem PE.rt {α : Type} {n : Nat} {t : Tok} (hv : TV n t) (a : α) : PE n t (.inl (a, t)) := by
  intro a' t' e
  cases e
  exact ⟨hv, Nat.le_refl _⟩
theorem PG.er {α : Type} {n : Nat} {t : Tok} {e : Flt} : PG n t (.inr e : PR α) := fun a t' e => by cases e
/-- behind a token -/
theorem PG.ad {α : Type} {b : Nat → Int32} {n : Nat} {t : Tok} {x : PR α} (hv : TV n t) (hk : tKd t ≠ 0) (h : PE n (adv b n t) x) : PG n t x := fun a t' e => by
  obtain ⟨v, p⟩ := h a t' e
  have := adv_pl (b := b) hv hk
  exact ⟨v, by omega⟩
theorem pg_num {b : Nat → Int32} {n : Nat} {lo hi : Int32} {t : Tok} (hv : TV n t) : PG n t (numS b n lo hi t) := by
  unfold numS
  split
  · rename_i k
    split
    · exact PG.ad (b := b) hv (by rw [k]; decide) (PE.rt (tv_tk hv.1) _)
    · exact PG.er
  · exact PG.er
theorem pg_sgd {b : Nat → Int32} {n : Nat} {hi : Int32} {t : Tok} (hv : TV n t) : PG n t (sgdS b n hi t) := by
  unfold sgdS
  split
  · rename_i k
    obtain ⟨k, -⟩ := sgn_kd k
    exact PG.ad (b := b) hv (by rw [k]; decide) ((pg_num (tv_tk hv.1)).pe (fun a t' h => PE.rt h _)).e
  · exact pg_num hv
theorem pg_fr {b : Nat → Int32} {n : Nat} {names : List Int32} {t : Tok} (hv : TV n t) : PG n t (frS b n names t) := by
  unfold frS
  split
  · rename_i k
    split
    · exact PG.er
    · exact PG.ad (b := b) hv (by rw [k]; decide) (PE.rt (tv_tk hv.1) _)
  · exact PG.er
theorem pg_ah {b : Nat → Int32} {n : Nat} {names : List Int32} {t : Tok} (hv : TV n t) : PG n t (ahS b n names t) := by
  unfold ahS
  split
  · rename_i k
    split
    · exact PG.ad (b := b) hv (by rw [k]; decide) (PE.rt (tv_tk hv.1) _)
    · exact PG.er
  · exact PG.er
theorem pg_key {b : Nat → Int32} {n : Nat} {k : Int32} {t : Tok} (hv : TV n t) : PG n t (keyS b n k t) := by
  unfold keyS
  split
  · rename_i q
    obtain ⟨q, -⟩ := key_kd q
    exact PG.ad (b := b) hv (by rw [q]; decide) (PE.rt (tv_tk hv.1) _)
  · exact PG.er
theorem pg_date {b : Nat → Int32} {n : Nat} {lands : List LandA} {lo : Int64} {t : Tok} (hv : TV n t) : PG n t (dateS b n lands lo t) := by
  refine (pg_num hv).bb (fun y t' h => ?_)
  split
  · rename_i k
    split
    · split
      · exact PG.er
      · split
        · exact PG.ad (b := b) h (by rw [k]; decide) (PE.rt (tv_tk h.1) _)
        · exact PG.er
    · exact PG.er
  · exact PG.er
theorem pg_land {b : Nat → Int32} {n : Nat} {names : List Int32} {t : Tok} (hv : TV n t) : PG n t (landS b n names t) := by
  refine (pg_fr hv).bb (fun a t h => (pg_num h).bb (fun a t h => (pg_sgd h).pe (fun a t h => ?_)))
  split
  · rename_i k
    obtain ⟨k, -⟩ := key_kd k
    exact (PG.ad (b := b) h (by rw [k]; decide) ((pg_num (tv_tk h.1)).pe (fun a t h => PE.rt h _)).e).e
  · exact PE.rt h _
theorem pg_pers {b : Nat → Int32} {n : Nat} {lands : List LandA} {names : List Int32} {t : Tok} (hv : TV n t) : PG n t (persS b n lands names t) := by
  refine (pg_fr hv).bb (fun a t h => (pg_date h).pe (fun a t h => ?_))
  split
  · rename_i k
    obtain ⟨k, -⟩ := key_kd k
    exact (PG.ad (b := b) h (by rw [k]; decide) ((pg_date (tv_tk h.1)).pe (fun a t h => PE.rt h _)).e).e
  · exact PE.rt h _
theorem pg_deed {b : Nat → Int32} {n : Nat} {lands : List LandA} {fnames names : List Int32} {t : Tok} (hv : TV n t) : PG n t (deedS b n lands fnames names t) := by
  refine (pg_fr hv).bb (fun a t h => (pg_date h).bb (fun a t h => ?_))
  split
  · rename_i k
    refine PG.ad (b := b) h (by rw [k.1]; decide) (PG.e (PG.bb ?_ (fun a t h => (pg_key h).bb (fun a t h => (pg_num h).pe (fun a t h => PE.rt h _)))))
    split
    · exact pg_num (tv_tk h.1)
    · split
      · exact pg_num (tv_tk h.1)
      · exact pg_ah (tv_tk h.1)
  · exact PG.er
theorem pg_say {b : Nat → Int32} {n : Nat} {pn fn nn : List Int32} {w : Nat} {t : Tok} (hv : TV n t) : PG n t (sayS b n pn fn nn w t) := by
  unfold sayS
  repeat' split
  · exact (pg_num hv).bb (fun a t h => (pg_num h).pe (fun a t h => PE.rt h _))
  all_goals first | exact (pg_num hv).pe (fun a t h => PE.rt h _) | exact (pg_ah hv).pe (fun a t h => PE.rt h _) | exact (pg_ah hv).bb (fun a t h => (pg_sgd h).pe (fun a t h => PE.rt h _))
theorem nw_kd {t : Tok} {w : Nat} (h : nwOf t = some w) : tKd t = 1 ∧ w < 8 := by
  unfold nwOf at h
  split at h
  · rename_i k
    refine ⟨k, ?_⟩
    repeat' split at h
    all_goals cases h
    all_goals omega
  · cases h
/-- a note's words come to an end -/
theorem nw_st {b : Nat → Int32} {n : Nat} {pn fn nn : List Int32} {s s' : NoteW × Tok} (hv : TV n s.2) (h : nwStep b n pn fn nn s = .inl s') : TV n s'.2 ∧ tPl s.2 < tPl s'.2 := by
  unfold nwStep at h
  split at h
  · cases h
  · rename_i w hw
    split at h
    · cases h
    · split at h
      · rename_i x y t e
        cases h
        have := adv_pl (b := b) hv (by rw [(nw_kd hw).1]; decide)
        have g := pg_say (tv_tk hv.1) _ _ e
        exact ⟨g.1, by show tPl s.2 < tPl t; have := g.2; unfold adv at *; omega⟩
      · cases h
theorem nw_tot {b : Nat → Int32} {n : Nat} {pn fn nn : List Int32} (s : NoteW × Tok) (hv : TV n s.2) : ∃ r, Rn (nwStep b n pn fn nn) s r :=
  Rn.tot2 (fun s => TV n s.2) (fun s => n + 1 - tPl s.2) (fun s s' h e => by
    obtain ⟨a1, a2⟩ := nw_st h e
    have := a1.1
    have := a1.2.1
    exact ⟨a1, by omega⟩) s hv
theorem sy_st {b : Nat → Int32} {n : Nat} {s s' : SYs} (hv : TV n s.2.2.2.2.2.2) (h : syStep (adv b n) s = .inl s') : TV n s'.2.2.2.2.2.2 ∧ tPl s.2.2.2.2.2.2 < tPl s'.2.2.2.2.2.2 := by
  obtain ⟨w, hh, brk, cnt, wants, mn, t⟩ := s
  simp only at hv ⊢
  have hk : tKd t ≠ 0 := by
    intro k
    rw [syStep_eq] at h
    have n1 : tIsSign t 59 = false := by unfold tIsSign; rw [k]; simp
    have n2 : tIsSign t 40 = false := by unfold tIsSign; rw [k]; simp
    have n3 : tIsSign t 41 = false := by unfold tIsSign; rw [k]; simp
    have n4 : tIsKey t 18 = false := by unfold tIsKey; rw [k]; simp
    have n5 : nmOf t = none := by unfold nmOf; rw [k]; rfl
    have n6 : opOf t = 0 := by
      unfold opOf tIsKey tIsSign
      rw [k]; simp
    unfold syLeaf sySign at h
    rw [n1, n2, n3, n4, n5, n6, k] at h
    simp at h
  have := adv_pl (b := b) hv hk
  have hs : s'.2.2.2.2.2.2 = adv b n t := by
    rw [syStep_eq] at h
    unfold syLeaf sySign at h
    repeat' split at h
    all_goals first | (cases h; rfl) | cases h
  rw [hs]
  exact ⟨tv_tk hv.1, this.1⟩
theorem sy_tot {b : Nat → Int32} {n : Nat} (s : SYs) (hv : TV n s.2.2.2.2.2.2) : ∃ r, Rn (syStep (adv b n)) s r :=
  Rn.tot2 (fun s => TV n s.2.2.2.2.2.2) (fun s => n + 1 - tPl s.2.2.2.2.2.2) (fun s s' h e => by
    obtain ⟨a1, a2⟩ := sy_st h e
    have := a1.1
    have := a1.2.1
    exact ⟨a1, by omega⟩) s hv
