set_option maxRecDepth 100000
/-! NOTE, SAYS, UNDO -/
def setN (S : PlS) (N : List NoteW) (U : List Int32) : PlS := (S.1, S.2.1, yR S, N, yT S, yI S, U)
def w00 : NoteW := (0, fun _ => 0, fun _ => 0)
theorem w00_ok {np nf i : Nat} : NwOk np nf i w00 := ⟨no_hs (has_0 5), no_hs (has_0 6), no_hs (has_0 7)⟩
/-- the last of LongYears' notes put anew -/
theorem LNt.last {o : Nat} {σ σ' : Hp} {R : RlA} {N : List NoteW} {N0 : List NoteW} {w' : NoteW} (h : LNt o σ R N) (hp : ∀ (i : Nat) (w : NoteW), N0[i]? = some w → N[i]? = some w) (h9 : gI σ' o 9 = Int32.ofNat (N0.length + 1)) (hl : N0.length + 1 ≤ 12) (hw : NwOk (aP R).length (aF R).length N0.length w') (hN : pNw σ' (o + 38 + 6 * N0.length) w') (h35 : gI σ' (o + 35) N0.length = 0) (fn : ∀ a k, o + 38 ≤ a → a < o + 38 + 6 * N0.length → gI σ' a k = gI σ a k) (f35 : ∀ k, k ≠ N0.length → gI σ' (o + 35) k = gI σ (o + 35) k) (fl : ∀ a k, o + 23 ≤ a → a < o + 35 → gL σ' a k = gL σ a k) : LNt o σ' R (N0 ++ [w']) := by
  obtain ⟨h1, h2, h3, h4⟩ := h
  refine ⟨by rw [h9, List.length_append]; rfl, by rw [List.length_append]; exact hl, fun i w hi => ?_, fun i w hi hz => ?_⟩
  · rcases put_get hi with ⟨a, b⟩ | ⟨a, b⟩
    · exact ⟨(h3 i w (hp i w b)).1, (h3 i w (hp i w b)).2.fr (fun a k q1 q2 => fn a k (by omega) (by omega))⟩
    · rw [a, b]; exact ⟨hw, hN⟩
  · rcases put_get hi with ⟨a, b⟩ | ⟨a, b⟩
    · rw [f35 i (by omega)] at hz
      exact (h4 i w (hp i w b) hz).fr (fun k => fl _ _ (by omega) (by omega))
    · rw [a] at hz; exact absurd h35 hz
theorem MN.last {m : Nat} {τ τ' : Hp} {R : RlA} {N : List NoteW} {N0 : List NoteW} {w' : NoteW} (h : MN m τ R N) (hp : ∀ (i : Nat) (w : NoteW), N0[i]? = some w → N[i]? = some w) (h16 : gI τ' m 16 = Int32.ofNat (N0.length + 1)) (hl : N0.length + 1 ≤ 12) (hw : NwOk (aP R).length (aF R).length N0.length w') (hN : mNw m τ' (11 * N0.length) w') (fn : ∀ k, k < 11 * N0.length → gI τ' (m + 16) k = gI τ (m + 16) k) : MN m τ' R (N0 ++ [w']) := by
  obtain ⟨h1, h2, h3⟩ := h
  refine ⟨by rw [h16, List.length_append]; rfl, by rw [List.length_append]; exact hl, fun i w hi => ?_⟩
  rcases put_get hi with ⟨a, b⟩ | ⟨a, b⟩
  · exact ⟨(h3 i w (hp i w b)).1, (h3 i w (hp i w b)).2.fr (fun k q1 q2 => fn k (by omega))⟩
  · rw [a, b]; exact ⟨hw, hN⟩
theorem pre_put {α : Type} {l : List α} {x : α} : ∀ (i : Nat) (w : α), l[i]? = some w → (l ++ [x])[i]? = some w := fun i w h => by
  rw [List.getElem?_append_left (get_lt h)]; exact h
theorem split_last {α : Type} {l : List α} (h : ¬ l.length = 0) : ∃ l0 x, l = l0 ++ [x] := by
  refine ⟨l.dropLast, l.getLast (fun z => h (by rw [z]; rfl)), ?_⟩
  exact (List.dropLast_concat_getLast _).symm
section
variable {o c z m n : Nat} {σ τ : Hp} {S : PlS}
theorem p_note (hz : o + 110 ≤ z) (hn : n ≤ 64) (hk : PlOk n S) (hL : RepL o c z σ S) : ∃ v S', PlOk (n + 1) S' ∧ PLl o c z σ (fw (ok_X1_note o c σ) (f_X1_note o c σ)) v S' ∧ ∀ τ, RepM m τ S → PMl m τ (wp_X6_note m τ) v S' := by
  have L0 := hL
  obtain ⟨-, -, -, q, c10, f, t, u, i⟩ := hL
  have n12 := q.2.2.1
  have ul := hk.2.2.2.2
  have e12 : Int32.ofNat (yN S).length = 12 ↔ (yN S).length = 12 := nat_e (q := 12) (by omega) (by omega)
  by_cases full : (yN S).length = 12
  · refine ⟨-1, S, hk.s, fun Q hQ => ⟨?_, ?_⟩, fun τ hM Q hQ => ?_⟩
    · unfold ok_X1_note; rw [q.2.1]; exact cT (e12.mpr full) trivial
    · unfold f_X1_note; rw [q.2.1, if_pos (e12.mpr full)]; exact hQ σ Ch.rf L0
    · unfold wp_X6_note; rw [hM.2.2.2.1.2.1]; exact cT (e12.mpr full) (hQ _ (t0n.up (fun a k q => q.p)) (hM.q t0n) t0_2)
  have nf : ¬ Int32.ofNat (yN S).length = 12 := fun z => full (e12.mp z)
  have v12 : vp_in (Int32.ofNat (yN S).length) 12 := nat_v (by omega) (by omega)
  refine ⟨Int32.ofNat (yN S).length, setN S (yN S ++ [w00]) (-1 :: yU S), ⟨hk.1, hk.2.1, hk.2.2.1, ?_, ?_⟩, fun Q hQ => ?_, fun τ hM Q hQ => ?_⟩
  · show UOk (yN S ++ [w00]).length (-1 :: yU S)
    rw [List.length_append]
    exact ⟨Nat.succ_le_succ (Nat.zero_le _), Or.inl ⟨rfl, hk.2.2.2.1⟩⟩
  · show (yU S).length + 1 ≤ n + 1; omega
  · have p9 : gI (pI σ (o + 38 + 6 * (yN S).length) 1 0) o 9 = Int32.ofNat (yN S).length := by rw [pIo (by omega)]; exact q.2.1
    have p14 : gI (pI σ (o + 38 + 6 * (yN S).length) 1 0) o 14 = Int32.ofNat (yU S).length := by rw [pIo (by omega)]; exact u.1
    unfold fw ok_X1_note f_X1_note
    rw [q.2.1, nat_c (by omega), p9, p14, if_neg nf, nat_c (by omega), nat_c (by omega), nat_s (by omega), nat_s (by omega)]
    refine ⟨cF nf ⟨v12, v12, nat_v (by omega) (by omega)⟩, ?_⟩
    have ev : Int32.ofNat ((yN S).length + 1) - 1 = Int32.ofNat (yN S).length := by
      rw [show (1 : Int32) = Int32.ofNat 1 from rfl, nat_d (by omega) (by omega)]; rfl
    rw [ev]
    have hc : Ch (fun a k => (a = o + 38 + 6 * (yN S).length ∧ k = 1) ∨ (a = o + 35 ∧ k = (yN S).length) ∨ (a = o ∧ (k = 9 ∨ k = 14)) ∨ (a = o + 17 ∧ k = (yU S).length)) σ (pI (pI (pI (pI (pI σ (o + 38 + 6 * (yN S).length) 1 0) (o + 35) (yN S).length (vp_nar .boolean 0)) o 9 (Int32.ofNat ((yN S).length + 1))) o 14 (Int32.ofNat ((yU S).length + 1))) (o + 17) (yU S).length (-1)) := ((((Ch.rf.i (Or.inl ⟨rfl, rfl⟩)).i (Or.inr (Or.inl ⟨rfl, rfl⟩))).i (Or.inr (Or.inr (Or.inl ⟨rfl, Or.inl rfl⟩)))).i (Or.inr (Or.inr (Or.inl ⟨rfl, Or.inr rfl⟩)))).i (Or.inr (Or.inr (Or.inr ⟨rfl, rfl⟩)))
    have g1 : gI (pI (pI (pI (pI (pI σ (o + 38 + 6 * (yN S).length) 1 0) (o + 35) (yN S).length (vp_nar .boolean 0)) o 9 (Int32.ofNat ((yN S).length + 1))) o 14 (Int32.ofNat ((yU S).length + 1))) (o + 17) (yU S).length (-1)) (o + 38 + 6 * (yN S).length) 1 = 0 := by rw [pIo (by omega), pIo (by omega), pIo (by omega), pIo (by omega), gI_pI, if_pos ⟨rfl, rfl⟩]
    have g2 : gI (pI (pI (pI (pI (pI σ (o + 38 + 6 * (yN S).length) 1 0) (o + 35) (yN S).length (vp_nar .boolean 0)) o 9 (Int32.ofNat ((yN S).length + 1))) o 14 (Int32.ofNat ((yU S).length + 1))) (o + 17) (yU S).length (-1)) (o + 35) (yN S).length = 0 := by rw [pIo (by omega), pIo (by omega), pIo (by omega), gI_pI, if_pos ⟨rfl, rfl⟩]; rfl
    have g3 : gI (pI (pI (pI (pI (pI σ (o + 38 + 6 * (yN S).length) 1 0) (o + 35) (yN S).length (vp_nar .boolean 0)) o 9 (Int32.ofNat ((yN S).length + 1))) o 14 (Int32.ofNat ((yU S).length + 1))) (o + 17) (yU S).length (-1)) o 9 = Int32.ofNat ((yN S).length + 1) := by rw [pIo (by omega), pIo (by omega), gI_pI, if_pos ⟨rfl, rfl⟩]
    have g4 : gI (pI (pI (pI (pI (pI σ (o + 38 + 6 * (yN S).length) 1 0) (o + 35) (yN S).length (vp_nar .boolean 0)) o 9 (Int32.ofNat ((yN S).length + 1))) o 14 (Int32.ofNat ((yU S).length + 1))) (o + 17) (yU S).length (-1)) o 14 = Int32.ofNat ((yU S).length + 1) := by rw [pIo (by omega), gI_pI, if_pos ⟨rfl, rfl⟩]
    have g5 : gI (pI (pI (pI (pI (pI σ (o + 38 + 6 * (yN S).length) 1 0) (o + 35) (yN S).length (vp_nar .boolean 0)) o 9 (Int32.ofNat ((yN S).length + 1))) o 14 (Int32.ofNat ((yU S).length + 1))) (o + 17) (yU S).length (-1)) (o + 17) (yU S).length = -1 := by rw [gI_pI, if_pos ⟨rfl, rfl⟩]
    generalize pI (pI (pI (pI (pI σ (o + 38 + 6 * (yN S).length) 1 0) (o + 35) (yN S).length (vp_nar .boolean 0)) o 9 (Int32.ofNat ((yN S).length + 1))) o 14 (Int32.ofNat ((yU S).length + 1))) (o + 17) (yU S).length (-1) = s at *
    have hw : Ch (SLw o) σ s := hc.up (fun a k q => by unfold SLw; omega)
    refine hQ s hw (L0.of hz hw rfl ?_ (LF.fr (S := S) f (fun k _ _ => hc.gi (by omega)) (fun k => hc.gi (by omega))) (t.fr (hc.gi (by omega)) (fun k => hc.gi (by omega)) (fun k => hc.gi (by omega))) ⟨g4, u.2.push g5 (fun k hk => hc.gi (by omega))⟩ (i.fr (fun k _ => hc.gi (by omega)) (fun k => ⟨hc.gi (by omega), hc.gi (by omega)⟩) (fun i a k _ _ _ => hc.gi (by omega))))
    exact q.2.last (N0 := yN S) (fun i w h => h) g3 (by omega) w00_ok ⟨g1, fun k _ => no_hs (has_0 k)⟩ g2 (fun a k q1 q2 => hc.gi (by omega)) (fun k hk => hc.gi (by omega)) (fun a k q1 q2 => hc.gl (by omega))
  · have M0 := hM
    obtain ⟨-, -, -, q', f', t', u', i'⟩ := hM
    unfold wp_X6_note
    rw [q'.2.1]
    refine cF nf ?_
    have c2 : Ch (fun a k => (a = m ∧ (k = 2 ∨ k = 16 ∨ k = 59)) ∨ (a = m + 16 ∧ 11 * (yN S).length ≤ k ∧ k < 11 * (yN S).length + 11) ∨ (a = m + 24 ∧ k = (yU S).length)) τ (pI τ m 2 0) := Ch.rf.i (Or.inl ⟨rfl, by omega⟩)
    refine lp_of (fun z => ∃ k, k ≤ 11 ∧ z.1 = Int32.ofNat k ∧ Ch (fun a k => (a = m ∧ (k = 2 ∨ k = 16 ∨ k = 59)) ∨ (a = m + 16 ∧ 11 * (yN S).length ≤ k ∧ k < 11 * (yN S).length + 11) ∨ (a = m + 24 ∧ k = (yU S).length)) τ z.2 ∧ gI z.2 m 2 = 0 ∧ gI z.2 m 16 = Int32.ofNat (yN S).length ∧ gI z.2 m 59 = Int32.ofNat (yU S).length ∧ (0 < k → gI z.2 (m + 16) (11 * (yN S).length) = 0)) (fun z => 11 - z.1.toNatClampNeg) ?_ ⟨0, by omega, rfl, c2, t0_2, by show gI (pI τ m 2 0) m 16 = _; rw [pIo (by omega)]; exact q'.2.1, by show gI (pI τ m 2 0) m 59 = _; rw [pIo (by omega)]; exact u'.1, fun q => absurd q (by omega)⟩
    rintro K ⟨x1, s⟩ ⟨k, hk2, rfl, g1, g2, g3, g4, g5⟩ hK
    simp only at g1 g2 g3 g4 g5
    show (_ → _) ∧ (_ → _)
    have ei : ∀ k, k < 11 → (11 : Int32) * Int32.ofNat (yN S).length + Int32.ofNat k = Int32.ofNat (11 * (yN S).length + k) := fun k hk => mn_i (by omega) hk
    rw [show (11 ≤ Int32.ofNat k) ↔ 11 ≤ k from nat_le (p := 11) (by omega) (by omega), g3, g4]
    refine ⟨fun z1 => ⟨nat_v (by omega) (by omega), ?_⟩, fun z1 => ?_⟩
    · rw [nat_s (by omega), nat_s (by omega), nat_c (by omega), show Int32.ofNat ((yN S).length + 1) - 1 = Int32.ofNat (yN S).length by rw [show (1 : Int32) = Int32.ofNat 1 from rfl, nat_d (by omega) (by omega)]; rfl]
      have hc := ((g1.i (v := Int32.ofNat ((yN S).length + 1)) (Or.inl ⟨rfl, Or.inr (Or.inl rfl)⟩)).i (v := -1) (Or.inr (Or.inr ⟨rfl, rfl⟩))).i (v := Int32.ofNat ((yU S).length + 1)) (Or.inl ⟨rfl, Or.inr (Or.inr rfl)⟩)
      have h1 : gI (pI (pI (pI s m 16 (Int32.ofNat ((yN S).length + 1))) (m + 24) (yU S).length (-1)) m 59 (Int32.ofNat ((yU S).length + 1))) m 16 = Int32.ofNat ((yN S).length + 1) := by rw [pIo (by omega), pIo (by omega), gI_pI, if_pos ⟨rfl, rfl⟩]
      have h2 : gI (pI (pI (pI s m 16 (Int32.ofNat ((yN S).length + 1))) (m + 24) (yU S).length (-1)) m 59 (Int32.ofNat ((yU S).length + 1))) m 59 = Int32.ofNat ((yU S).length + 1) := by rw [gI_pI, if_pos ⟨rfl, rfl⟩]
      have h3 : gI (pI (pI (pI s m 16 (Int32.ofNat ((yN S).length + 1))) (m + 24) (yU S).length (-1)) m 59 (Int32.ofNat ((yU S).length + 1))) (m + 24) (yU S).length = -1 := by rw [pIo (by omega), gI_pI, if_pos ⟨rfl, rfl⟩]
      have h4 : gI (pI (pI (pI s m 16 (Int32.ofNat ((yN S).length + 1))) (m + 24) (yU S).length (-1)) m 59 (Int32.ofNat ((yU S).length + 1))) m 2 = 0 := by rw [pIo (by omega), pIo (by omega), pIo (by omega)]; exact g2
      have h5 : gI (pI (pI (pI s m 16 (Int32.ofNat ((yN S).length + 1))) (m + 24) (yU S).length (-1)) m 59 (Int32.ofNat ((yU S).length + 1))) (m + 16) (11 * (yN S).length) = 0 := by rw [pIo (by omega), pIo (by omega), pIo (by omega)]; exact g5 (by omega)
      generalize pI (pI (pI s m 16 (Int32.ofNat ((yN S).length + 1))) (m + 24) (yU S).length (-1)) m 59 (Int32.ofNat ((yU S).length + 1)) = s' at *
      have hw : Ch (SMp m) τ s' := hc.up (fun a k q => by unfold SMp; omega)
      refine hQ s' hw (M0.of hw rfl ?_ (MF.fr (S := S) f' (fun k _ => hc.gi (by omega)) (fun k => hc.gi (by omega))) (t'.fr (hc.gi (by omega)) (fun k => hc.gi (by omega)) (fun k => hc.gi (by omega))) ⟨h2, u'.2.push h3 (fun k hk => hc.gi (by omega))⟩ (i'.fr (fun k _ _ => hc.gi (by omega)) (fun k => ⟨hc.gi (by omega), hc.gi (by omega), hc.gi (by omega)⟩))) h4
      exact q'.2.last (N0 := yN S) (fun i w h => h) h1 (by omega) w00_ok ⟨h5, fun k _ => no_hs (has_0 k)⟩ (fun k hk => hc.gi (by omega))
    · rw [ei k (by omega), nat_c (by omega), nat_s (by omega)]
      refine ⟨nat_v (by omega) (by omega), hK _ ⟨k + 1, by omega, rfl, g1.i (Or.inr (Or.inl ⟨rfl, by omega, by omega⟩)), ?_, ?_, ?_, fun _ => ?_⟩ ?_⟩
      · show gI (pI s (m + 16) _ 0) m 2 = 0; rw [pIo (by omega)]; exact g2
      · show gI (pI s (m + 16) _ 0) m 16 = _; rw [pIo (by omega)]; exact g3
      · show gI (pI s (m + 16) _ 0) m 59 = _; rw [pIo (by omega)]; exact g4
      · show gI (pI s (m + 16) (11 * (yN S).length + k) 0) (m + 16) (11 * (yN S).length) = 0
        by_cases k0 : k = 0
        · subst k0; rw [gI_pI, if_pos ⟨rfl, rfl⟩]
        · rw [pIo (by omega)]; exact g5 (by omega)
      · show 11 - (Int32.ofNat (k + 1)).toNatClampNeg < 11 - (Int32.ofNat k).toNatClampNeg
        rw [nat_c (by omega), nat_c (by omega)]; omega
end
/-- whether a word can be said so -/
def sayOk (np nf n : Nat) (x a b : Int32) : Prop := if x = 0 then (1 ≤ a.toInt ∧ a.toInt ≤ 9999) ∧ (a.toInt ≤ b.toInt ∧ b.toInt ≤ 9999) else if x = 1 then 1 ≤ a.toInt ∧ a.toInt ≤ 99999 else if x = 2 then 0 ≤ a.toInt ∧ a.toInt ≤ 99999 else if x = 3 then 0 ≤ a.toInt ∧ a.toInt ≤ 7 else if x = 4 then 0 ≤ a.toInt ∧ a.toInt ≤ 3 else if x = 5 then 0 ≤ a.toInt ∧ a.toInt < np else if x = 6 then 0 ≤ a.toInt ∧ a.toInt < nf else if x = 7 then (0 ≤ a.toInt ∧ a.toInt < n) ∧ (-9999 ≤ b.toInt ∧ b.toInt ≤ 9999) else False
theorem two_no {P P' : Prop} {a b : Int32} (ha : a = 0 ↔ ¬ P) (hb : b = 0 ↔ ¬ P') : (if a = 0 then (0 : Int32) else if b = 0 then 0 else 1) = 0 ↔ ¬ (P ∧ P') := by
  by_cases c1 : a = 0
  · rw [if_pos c1]; exact ⟨fun _ z => ha.mp c1 z.1, fun _ => rfl⟩
  · rw [if_neg c1]
    by_cases c2 : b = 0
    · rw [if_pos c2]; exact ⟨fun _ z => hb.mp c2 z.2, fun _ => rfl⟩
    · rw [if_neg c2]
      exact ⟨fun z => (by cases z), fun z => absurd ⟨Classical.byContradiction (fun u => c1 (ha.mpr u)), Classical.byContradiction (fun u => c2 (hb.mpr u))⟩ z⟩
theorem l_isSaying {o c n : Nat} {R : RlA} {N : List NoteW} {σ : Hp} {x a b : Int32} (h : LQ o c R N σ) (hn : N.length = n + 1) : ok_X1_isSaying o c σ x a b ∧ (f_X1_isSaying o c σ x a b = 0 ↔ ¬ sayOk (aP R).length (aF R).length n x a b) := by
  have n12 := h.2.2.1
  have e2 : (Int32.ofNat N.length - 2).toInt = (n : Int) - 1 := by
    rw [i3_sub (nat_i (by omega)) (b := 2) (y := 2) (by rfl) (by omega) (by omega)]; omega
  constructor
  · unfold ok_X1_isSaying
    have p01 : ∀ y, f_X1_isPerson o c σ y = 0 ∨ f_X1_isPerson o c σ y = 1 := fun y => in_01 _ _ _
    have f01 : ∀ y, f_X1_isFeast o c σ y = 0 ∨ f_X1_isFeast o c σ y = 1 := fun y => in_01 _ _ _
    refine ⟨fun _ => trivial, fun _ => ⟨fun _ => in_01 _ _ _, fun _ => ⟨fun _ => in_01 _ _ _, fun _ => ⟨fun _ => in_01 _ _ _, fun _ => ⟨fun _ => in_01 _ _ _, fun _ => ⟨fun _ => ⟨?_, p01 _⟩, fun _ => ⟨fun _ => ⟨?_, f01 _⟩, fun _ => trivial⟩⟩⟩⟩⟩⟩⟩
    · exact in_01 _ _ _
    · exact in_01 _ _ _
  · unfold f_X1_isSaying sayOk
    by_cases h0 : x = 0
    · rw [if_pos h0, if_pos h0]
      exact two_no (in_iff (i2_l a) (by rfl) (by rfl)) (in_iff (i2_l b) (i2_l a) (by rfl))
    rw [if_neg h0, if_neg h0]
    by_cases h1 : x = 1
    · rw [if_pos h1, if_pos h1]; exact in_iff (i2_l a) (by rfl) (by rfl)
    rw [if_neg h1, if_neg h1]
    by_cases h2 : x = 2
    · rw [if_pos h2, if_pos h2]; exact in_iff (i2_l a) (by rfl) (by rfl)
    rw [if_neg h2, if_neg h2]
    by_cases h3 : x = 3
    · rw [if_pos h3, if_pos h3]; exact in_iff (i2_l a) (by rfl) (by rfl)
    rw [if_neg h3, if_neg h3]
    by_cases h4 : x = 4
    · rw [if_pos h4, if_pos h4]; exact in_iff (i2_l a) (by rfl) (by rfl)
    rw [if_neg h4, if_neg h4]
    by_cases h5 : x = 5
    · rw [if_pos h5, if_pos h5]; exact l_isPerson h.1.1 a
    rw [if_neg h5, if_neg h5]
    by_cases h6 : x = 6
    · rw [if_pos h6, if_pos h6]; exact l_isFeast h.1.1 a
    rw [if_neg h6, if_neg h6]
    by_cases h7 : x = 7
    · rw [if_pos h7, if_pos h7, h.2.1]
      refine two_no ?_ (in_iff (i2_l b) (by rfl) (by rfl))
      rw [in_iff (i2_l a) (y := 0) (by rfl) (i3_l e2)]
      omega
    · rw [if_neg h7, if_neg h7]
      exact ⟨fun _ z => z, fun _ => rfl⟩
theorem m01 (x y : Int32) : (if x < 0 then (0 : Int32) else if y ≤ x then 0 else 1) = 0 ∨ (if x < 0 then (0 : Int32) else if y ≤ x then 0 else 1) = 1 := by
  repeat' split
  · exact Or.inl rfl
  · exact Or.inl rfl
  · exact Or.inr rfl
theorem m_canSay {m n : Nat} {R : RlA} {τ : Hp} {x a b : Int32} (h : MKr m τ R) (hn : n < 12) : ok_X6_canSay m τ (Int32.ofNat n) x a b ∧ (f_X6_canSay m τ (Int32.ofNat n) x a b = 0 ↔ ¬ sayOk (aP R).length (aF R).length n x a b) := by
  have e2 : (Int32.ofNat n - 1).toInt = (n : Int) - 1 := i3_sub (nat_i (by omega)) (by rfl) (by omega) (by omega)
  constructor
  · unfold ok_X6_canSay
    exact ⟨fun _ => trivial, fun _ => ⟨fun _ => isIn_01 _ _ _, fun _ => ⟨fun _ => isIn_01 _ _ _, fun _ => ⟨fun _ => isIn_01 _ _ _, fun _ => ⟨fun _ => isIn_01 _ _ _, fun _ => ⟨fun _ => m01 _ _, fun _ => ⟨fun _ => m01 _ _, fun _ => trivial⟩⟩⟩⟩⟩⟩⟩
  · unfold f_X6_canSay sayOk
    by_cases h0 : x = 0
    · rw [if_pos h0, if_pos h0]
      exact two_no (isIn_iff a 1 9999) (isIn_iff b a 9999)
    rw [if_neg h0, if_neg h0]
    by_cases h1 : x = 1
    · rw [if_pos h1, if_pos h1]; exact isIn_iff a 1 99999
    rw [if_neg h1, if_neg h1]
    by_cases h2 : x = 2
    · rw [if_pos h2, if_pos h2]; exact isIn_iff a 0 99999
    rw [if_neg h2, if_neg h2]
    by_cases h3 : x = 3
    · rw [if_pos h3, if_pos h3]; exact isIn_iff a 0 7
    rw [if_neg h3, if_neg h3]
    by_cases h4 : x = 4
    · rw [if_pos h4, if_pos h4]; exact isIn_iff a 0 3
    rw [if_neg h4, if_neg h4]
    by_cases h5 : x = 5
    · rw [if_pos h5, if_pos h5]; exact m_isPerson h a
    rw [if_neg h5, if_neg h5]
    by_cases h6 : x = 6
    · rw [if_pos h6, if_pos h6]; exact m_isFeast h a
    rw [if_neg h6, if_neg h6]
    by_cases h7 : x = 7
    · rw [if_pos h7, if_pos h7]
      refine two_no ?_ (isIn_iff b (-9999) 9999)
      rw [isIn_iff, e2, show (0 : Int32).toInt = 0 from rfl]
      omega
    · rw [if_neg h7, if_neg h7]
      exact ⟨fun _ z => z, fun _ => rfl⟩
theorem say_w {np nf n : Nat} {x a b : Int32} (h : sayOk np nf n x a b) : ∃ w, w < 8 ∧ x = Int32.ofNat w := by
  unfold sayOk at h
  by_cases h0 : x = 0
  · exact ⟨0, by omega, h0⟩
  rw [if_neg h0] at h
  by_cases h1 : x = 1
  · exact ⟨1, by omega, h1⟩
  rw [if_neg h1] at h
  by_cases h2 : x = 2
  · exact ⟨2, by omega, h2⟩
  rw [if_neg h2] at h
  by_cases h3 : x = 3
  · exact ⟨3, by omega, h3⟩
  rw [if_neg h3] at h
  by_cases h4 : x = 4
  · exact ⟨4, by omega, h4⟩
  rw [if_neg h4] at h
  by_cases h5 : x = 5
  · exact ⟨5, by omega, h5⟩
  rw [if_neg h5] at h
  by_cases h6 : x = 6
  · exact ⟨6, by omega, h6⟩
  rw [if_neg h6] at h
  by_cases h7 : x = 7
  · exact ⟨7, by omega, h7⟩
  rw [if_neg h7] at h
  exact absurd h id
theorem says_ok {np nf n k : Nat} {a b : Int32} {w : NoteW} (hk : k < 8) (h : sayOk np nf n (Int32.ofNat k) a b) (hw : NwOk np nf n w) : NwOk np nf n (nSay w k a b) := by
  have ho : ∀ j, j < 8 → nHas (nSay w k a b).1 j = true → nHas w.1 j = true ∨ j = k := fun j hj hh => by
    have e : nHas (nSay w k a b).1 j = (nHas w.1 j || decide (j = k)) := has_or w.1 (by omega) (by omega)
    rw [e, Bool.or_eq_true] at hh
    exact hh.imp id of_decide_eq_true
  have u1 : ∀ j, j ≠ k → (nSay w k a b).2.1 j = w.2.1 j ∧ (nSay w k a b).2.2 j = w.2.2 j := fun j hj => ⟨if_neg hj, if_neg hj⟩
  have u2 : (nSay w k a b).2.1 k = a ∧ (nSay w k a b).2.2 k = b := ⟨if_pos rfl, if_pos rfl⟩
  refine ⟨fun hh => ?_, fun hh => ?_, fun hh => ?_⟩
  · by_cases c : k = 5
    · subst c; rw [u2.1]; exact h
    · rw [(u1 5 (fun z => c z.symm)).1]
      exact hw.1 ((ho 5 (by omega) hh).elim id (fun z => absurd z.symm c))
  · by_cases c : k = 6
    · subst c; rw [u2.1]; exact h
    · rw [(u1 6 (fun z => c z.symm)).1]
      exact hw.2.1 ((ho 6 (by omega) hh).elim id (fun z => absurd z.symm c))
  · by_cases c : k = 7
    · subst c; rw [u2.1, u2.2]; exact h
    · rw [(u1 7 (fun z => c z.symm)).1, (u1 7 (fun z => c z.symm)).2]
      exact hw.2.2 ((ho 7 (by omega) hh).elim id (fun z => absurd z.symm c))
