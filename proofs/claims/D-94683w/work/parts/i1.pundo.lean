set_option maxRecDepth 100000
theorem LNt.drop {o : Nat} {σ σ' : Hp} {R : RlA} {N0 : List NoteW} {w : NoteW} (h : LNt o σ R (N0 ++ [w])) (h9 : gI σ' o 9 = Int32.ofNat N0.length) (fn : ∀ i a k, i < 12 → o + 38 + 6 * i ≤ a → a < o + 38 + 6 * i + 3 → gI σ' a k = gI σ a k) (f35 : ∀ k, gI σ' (o + 35) k = 0 ∨ gI σ' (o + 35) k = gI σ (o + 35) k) (fl : ∀ a k, o + 23 ≤ a → a < o + 35 → gL σ' a k = gL σ a k) : LNt o σ' R N0 := by
  obtain ⟨h1, h2, h3, h4⟩ := h
  rw [List.length_append] at h2
  have h2 : N0.length + 1 ≤ 12 := h2
  refine ⟨h9, by omega, fun i w hi => ?_, fun i w hi hz => ?_⟩
  · have il := get_lt hi
    exact ⟨(h3 i w (pre_put i w hi)).1, (h3 i w (pre_put i w hi)).2.fr (fun a k q1 q2 => fn i a k (by omega) q1 q2)⟩
  · have il := get_lt hi
    rcases f35 i with e | e
    · exact absurd e hz
    · rw [e] at hz
      exact (h4 i w (pre_put i w hi) hz).fr (fun k => fl _ _ (by omega) (by omega))
theorem MN.drop {m : Nat} {τ τ' : Hp} {R : RlA} {N0 : List NoteW} {w : NoteW} (h : MN m τ R (N0 ++ [w])) (h16 : gI τ' m 16 = Int32.ofNat N0.length) (fn : ∀ k, gI τ' (m + 16) k = gI τ (m + 16) k) : MN m τ' R N0 := by
  obtain ⟨h1, h2, h3⟩ := h
  rw [List.length_append] at h2
  have h2 : N0.length + 1 ≤ 12 := h2
  exact ⟨h16, by omega, fun i w hi => ⟨(h3 i w (pre_put i w hi)).1, (h3 i w (pre_put i w hi)).2.fr (fun k _ _ => fn k)⟩⟩
theorem xor_n (x : Int32) : x ^^^ (-1) = ~~~x := by
  rw [← Int32.toBitVec_inj, Int32.toBitVec_xor, Int32.toBitVec_not]
  have e : (-1 : Int32).toBitVec = BitVec.allOnes 32 := by decide
  rw [e, BitVec.xor_allOnes]
theorem max_n {n : Nat} (h : n < 100) : f_J7_max 0 (Int32.ofNat n - 1) = Int32.ofNat (n - 1) := by
  unfold f_J7_max
  by_cases c : n = 0
  · subst c; decide
  · have e : Int32.ofNat n - 1 = Int32.ofNat (n - 1) := by rw [show (1 : Int32) = Int32.ofNat 1 from rfl, nat_d (by omega) (by omega)]
    rw [e]
    by_cases d : (0 : Int32) < Int32.ofNat (n - 1)
    · rw [if_pos d]
    · rw [if_neg d]
      rw [show (0 : Int32) = Int32.ofNat 0 from rfl, nat_lt (by omega) (by omega)] at d
      rw [show n - 1 = 0 by omega]; rfl
/-- a word unsaid -/
def nUn (w : NoteW) (k : Nat) : NoteW := (w.1 &&& ~~~(1 <<< (Int32.ofNat k &&& 31)), w.2)
theorem un_h {w : NoteW} {k j : Nat} (hk : k < 8) (hj : j < 8) (h : nHas (nUn w k).1 j = true) : nHas w.1 j = true := by
  have e : nHas (nUn w k).1 j = (nHas w.1 j && !decide (j = k)) := has_not w.1 (by omega) (by omega)
  rw [e, Bool.and_eq_true] at h
  exact h.1
theorem un_ok {np nf n k : Nat} {w : NoteW} (hk : k < 8) (h : NwOk np nf n w) : NwOk np nf n (nUn w k) := ⟨fun z => h.1 (un_h hk (by omega) z), fun z => h.2.1 (un_h hk (by omega) z), fun z => h.2.2 (un_h hk (by omega) z)⟩
section
variable {o c z m n : Nat} {σ τ : Hp} {S : PlS}
theorem p_undo (hz : o + 110 ≤ z) (hn : n ≤ 64) (hk : PlOk n S) (hL : RepL o c z σ S) : ∃ v S', PlOk (n + 1) S' ∧ PLl o c z σ (fw (ok_X1_undo o c σ) (f_X1_undo o c σ)) v S' ∧ ∀ τ, RepM m τ S → PMl m τ (fw (ok_X6_undo m τ) (f_X6_undo m τ)) v S' := by
  have L0 := hL
  obtain ⟨-, -, -, q, c10, f, t, u, i⟩ := hL
  have n12 := q.2.2.1
  have ul := hk.2.2.2.2
  have uo := hk.2.2.2.1
  cases hU : yU S with
  | nil =>
    have e0 : gI σ o 14 = 0 := by rw [u.1, hU]; rfl
    have e1 : ∀ τ, RepM m τ S → gI τ m 59 = 0 := fun τ hM => by rw [hM.2.2.2.2.2.2.1.1, hU]; rfl
    refine ⟨-1, S, hk.s, fun Q hQ => ⟨?_, ?_⟩, fun τ hM => pm_f hM ?_ ?_⟩
    · unfold ok_X1_undo; exact cT e0 trivial
    · unfold f_X1_undo; rw [if_pos e0]; exact hQ σ Ch.rf L0
    · unfold ok_X6_undo; exact cT (e1 τ hM) trivial
    · unfold f_X6_undo; rw [if_pos (e1 τ hM)]
  | cons v U =>
    rw [hU] at u ul uo
    have ul : U.length + 1 ≤ n := ul
    obtain ⟨n1, uo⟩ := uo
    obtain ⟨N0, w, hN⟩ := split_last (l := yN S) (by omega)
    have nl : (yN S).length = N0.length + 1 := by rw [hN, List.length_append]; rfl
    have hw : (yN S)[N0.length]? = some w := by rw [hN, List.getElem?_append_right (Nat.le_refl _), Nat.sub_self]; rfl
    have e9 : Int32.ofNat (yN S).length - 1 = Int32.ofNat N0.length := by rw [nl, show (1 : Int32) = Int32.ofNat 1 from rfl, nat_d (by omega) (by omega)]; rfl
    have eu : Int32.ofNat (v :: U).length - 1 = Int32.ofNat U.length := by rw [List.length_cons, show (1 : Int32) = Int32.ofNat 1 from rfl, nat_d (by omega) (by omega)]; rfl
    have eu0 : ¬ Int32.ofNat (v :: U).length = 0 := fun z => by
      have := (nat_e (q := 0) (by rw [List.length_cons]; omega) (by omega)).mp z
      rw [List.length_cons] at this; omega
    obtain ⟨p1, p2⟩ := u.2.pop
    obtain ⟨hW, hP⟩ := q.2.2.2.1 _ w hw
    have vu : vp_in (Int32.ofNat U.length) 108 := nat_v (by omega) (by omega)
    have vu' : vp_in (Int32.ofNat U.length) 128 := nat_v (by omega) (by omega)
    have g17 : gI (pI σ o 14 (Int32.ofNat U.length)) (o + 17) U.length = v := by rw [pIo (by omega)]; exact p1
    rw [nl] at uo
    rcases uo with ⟨ev, uo⟩ | ⟨k, hk8, ev, uo⟩
    · -- a note undone
      refine ⟨Int32.ofNat U.length, setN S N0 U, ⟨hk.1, hk.2.1, hk.2.2.1, uo, by show U.length ≤ n + 1; omega⟩, fun Q hQ => ?_, fun τ hM Q hQ => ?_⟩
      · unfold fw ok_X1_undo f_X1_undo
        rw [u.1, q.2.1, eu, e9, nat_c (p := U.length) (by omega), g17, if_neg eu0, if_pos ev]
        have t9 : gI (pI (pI σ o 14 (Int32.ofNat U.length)) o 9 (Int32.ofNat N0.length)) o 9 = Int32.ofNat N0.length := by rw [gI_pI, if_pos ⟨rfl, rfl⟩]
        have t14 : gI (pI (pI σ o 14 (Int32.ofNat U.length)) o 9 (Int32.ofNat N0.length)) o 14 = Int32.ofNat U.length := by rw [pIo (by omega), gI_pI, if_pos ⟨rfl, rfl⟩]
        unfold fj_X1_undo_77 oj_X1_undo_77
        rw [t9, t14, max_n (by omega), nat_c (p := N0.length - 1) (by omega)]
        refine ⟨cF eu0 ⟨vu, cT ev (nat_v (by omega) (by omega))⟩, ?_⟩
        have hc : Ch (fun a k => (a = o ∧ (k = 9 ∨ k = 14)) ∨ (a = o + 35 ∧ k = N0.length - 1)) σ (pI (pI (pI σ o 14 (Int32.ofNat U.length)) o 9 (Int32.ofNat N0.length)) (o + 35) (N0.length - 1) (vp_nar .boolean 0)) := ((Ch.rf.i (Or.inl ⟨rfl, by omega⟩)).i (Or.inl ⟨rfl, by omega⟩)).i (Or.inr ⟨rfl, rfl⟩)
        have g9 : gI (pI (pI (pI σ o 14 (Int32.ofNat U.length)) o 9 (Int32.ofNat N0.length)) (o + 35) (N0.length - 1) (vp_nar .boolean 0)) o 9 = Int32.ofNat N0.length := by rw [pIo (by omega)]; exact t9
        have g14 : gI (pI (pI (pI σ o 14 (Int32.ofNat U.length)) o 9 (Int32.ofNat N0.length)) (o + 35) (N0.length - 1) (vp_nar .boolean 0)) o 14 = Int32.ofNat U.length := by rw [pIo (by omega)]; exact t14
        have g35 : ∀ k, gI (pI (pI (pI σ o 14 (Int32.ofNat U.length)) o 9 (Int32.ofNat N0.length)) (o + 35) (N0.length - 1) (vp_nar .boolean 0)) (o + 35) k = 0 ∨ gI (pI (pI (pI σ o 14 (Int32.ofNat U.length)) o 9 (Int32.ofNat N0.length)) (o + 35) (N0.length - 1) (vp_nar .boolean 0)) (o + 35) k = gI σ (o + 35) k := fun k => by
          by_cases ck : k = N0.length - 1
          · left; rw [ck, gI_pI, if_pos ⟨rfl, rfl⟩]; rfl
          · right; rw [pIo (by omega), pIo (by omega), pIo (by omega)]
        show Q (Int32.ofNat U.length) (pI (pI (pI σ o 14 (Int32.ofNat U.length)) o 9 (Int32.ofNat N0.length)) (o + 35) (N0.length - 1) (vp_nar .boolean 0))
        generalize pI (pI (pI σ o 14 (Int32.ofNat U.length)) o 9 (Int32.ofNat N0.length)) (o + 35) (N0.length - 1) (vp_nar .boolean 0) = s at *
        have hw' : Ch (SLw o) σ s := hc.up (fun a k q => by unfold SLw; omega)
        refine hQ s hw' (L0.of hz hw' rfl ?_ (LF.fr (S := S) f (fun k _ _ => hc.gi (by omega)) (fun k => hc.gi (by omega))) (t.fr (hc.gi (by omega)) (fun k => hc.gi (by omega)) (fun k => hc.gi (by omega))) ⟨g14, p2.fr (fun k hk => hc.gi (by omega))⟩ (i.fr (fun k _ => hc.gi (by omega)) (fun k => ⟨hc.gi (by omega), hc.gi (by omega)⟩) (fun i a k _ _ _ => hc.gi (by omega))))
        have q2 := q.2
        rw [hN] at q2
        exact q2.drop g9 (fun i a k _ _ _ => hc.gi (by omega)) g35 (fun a k q1 q2 => hc.gl (by omega))
      · have M0 := hM
        obtain ⟨-, -, -, q', f', t', u', i'⟩ := hM
        rw [hU] at u'
        obtain ⟨p1', p2'⟩ := u'.2.pop
        have g24 : gI (pI (pI τ m 2 0) m 59 (Int32.ofNat U.length)) (m + 24) U.length = v := by rw [pIo (by omega), pIo (by omega)]; exact p1'
        unfold fw ok_X6_undo f_X6_undo
        have nv : ¬ (0 : Int32) ≤ v := by rw [ev]; decide
        rw [u'.1, q'.2.1, eu, e9, nat_c (p := U.length) (by omega), g24, if_neg eu0, if_neg nv]
        refine ⟨cF eu0 ⟨vu', cF nv trivial⟩, ?_⟩
        have hc : Ch (fun a k => a = m ∧ (k = 2 ∨ k = 59 ∨ k = 16)) τ (pI (pI (pI τ m 2 0) m 59 (Int32.ofNat U.length)) m 16 (Int32.ofNat N0.length)) := ((Ch.rf.i ⟨rfl, by omega⟩).i ⟨rfl, by omega⟩).i ⟨rfl, by omega⟩
        have g16 : gI (pI (pI (pI τ m 2 0) m 59 (Int32.ofNat U.length)) m 16 (Int32.ofNat N0.length)) m 16 = Int32.ofNat N0.length := by rw [gI_pI, if_pos ⟨rfl, rfl⟩]
        have g59 : gI (pI (pI (pI τ m 2 0) m 59 (Int32.ofNat U.length)) m 16 (Int32.ofNat N0.length)) m 59 = Int32.ofNat U.length := by rw [pIo (by omega), gI_pI, if_pos ⟨rfl, rfl⟩]
        have g2 : gI (pI (pI (pI τ m 2 0) m 59 (Int32.ofNat U.length)) m 16 (Int32.ofNat N0.length)) m 2 = 0 := by rw [pIo (by omega), pIo (by omega)]; exact t0_2
        show Q (Int32.ofNat U.length) (pI (pI (pI τ m 2 0) m 59 (Int32.ofNat U.length)) m 16 (Int32.ofNat N0.length))
        generalize pI (pI (pI τ m 2 0) m 59 (Int32.ofNat U.length)) m 16 (Int32.ofNat N0.length) = s at *
        have hw' : Ch (SMp m) τ s := hc.up (fun a k q => by unfold SMp; omega)
        refine hQ s hw' (M0.of hw' rfl ?_ (MF.fr (S := S) f' (fun k _ => hc.gi (by omega)) (fun k => hc.gi (by omega))) (t'.fr (hc.gi (by omega)) (fun k => hc.gi (by omega)) (fun k => hc.gi (by omega))) ⟨g59, p2'.fr (fun k hk => hc.gi (by omega))⟩ (i'.fr (fun k _ _ => hc.gi (by omega)) (fun k => ⟨hc.gi (by omega), hc.gi (by omega), hc.gi (by omega)⟩))) g2
        have q2 := q'.2
        rw [hN] at q2
        exact q2.drop g16 (fun k => hc.gi (by omega))
    · -- a word unsaid
      have nv : ¬ v = -1 := fun z => by
        rw [ev, i3_eq (nat_i (by omega)) (y := -1) (by rfl)] at z
        omega
      have pv : (0 : Int32) ≤ v := by rw [ev, show (0 : Int32) = Int32.ofNat 0 from rfl, nat_le (by omega) (by omega)]; omega
      have hl1 : (N0 ++ [nUn w k]).length = N0.length + 1 := by rw [List.length_append]; rfl
      refine ⟨Int32.ofNat U.length, setN S (N0 ++ [nUn w k]) U, ⟨hk.1, hk.2.1, hk.2.2.1, by show UOk (N0 ++ [nUn w k]).length U; rw [hl1]; exact uo, by show U.length ≤ n + 1; omega⟩, fun Q hQ => ?_, fun τ hM Q hQ => ?_⟩
      · have gp : gI (pI σ o 14 (Int32.ofNat U.length)) (o + 38 + 6 * N0.length) 1 = w.1 := by rw [pIo (by omega)]; exact hP.1
        unfold fw ok_X1_undo f_X1_undo
        rw [u.1, q.2.1, eu, e9, nat_c (p := U.length) (by omega), nat_c (p := N0.length) (by omega), g17, gp, xor_n, if_neg eu0, if_neg nv, ev]
        have t9 : gI (pI (pI σ o 14 (Int32.ofNat U.length)) (o + 38 + 6 * N0.length) 1 (w.1 &&& ~~~(1 <<< (Int32.ofNat k &&& 31)))) o 9 = Int32.ofNat (yN S).length := by rw [pIo (by omega), pIo (by omega)]; exact q.2.1
        have t14 : gI (pI (pI σ o 14 (Int32.ofNat U.length)) (o + 38 + 6 * N0.length) 1 (w.1 &&& ~~~(1 <<< (Int32.ofNat k &&& 31)))) o 14 = Int32.ofNat U.length := by rw [pIo (by omega), gI_pI, if_pos ⟨rfl, rfl⟩]
        have mx : f_J7_max 0 (Int32.ofNat (yN S).length - 1) = Int32.ofNat N0.length := by rw [max_n (by omega), nl]; rfl
        unfold fj_X1_undo_77 oj_X1_undo_77
        rw [t9, t14, mx, nat_c (p := N0.length) (by omega)]
        rw [ev] at nv
        refine ⟨cF eu0 ⟨vu, cF nv ⟨nat_v (by omega) (by omega), vu, nat_v (by omega) (by omega)⟩⟩, ?_⟩
        have hc : Ch (fun a j => (a = o ∧ j = 14) ∨ (a = o + 38 + 6 * N0.length ∧ j = 1) ∨ (a = o + 35 ∧ j = N0.length)) σ (pI (pI (pI σ o 14 (Int32.ofNat U.length)) (o + 38 + 6 * N0.length) 1 (w.1 &&& ~~~(1 <<< (Int32.ofNat k &&& 31)))) (o + 35) N0.length (vp_nar .boolean 0)) := ((Ch.rf.i (Or.inl ⟨rfl, rfl⟩)).i (Or.inr (Or.inl ⟨rfl, rfl⟩))).i (Or.inr (Or.inr ⟨rfl, rfl⟩))
        have g14 : gI (pI (pI (pI σ o 14 (Int32.ofNat U.length)) (o + 38 + 6 * N0.length) 1 (w.1 &&& ~~~(1 <<< (Int32.ofNat k &&& 31)))) (o + 35) N0.length (vp_nar .boolean 0)) o 14 = Int32.ofNat U.length := by rw [pIo (by omega)]; exact t14
        have gw : gI (pI (pI (pI σ o 14 (Int32.ofNat U.length)) (o + 38 + 6 * N0.length) 1 (w.1 &&& ~~~(1 <<< (Int32.ofNat k &&& 31)))) (o + 35) N0.length (vp_nar .boolean 0)) (o + 38 + 6 * N0.length) 1 = w.1 &&& ~~~(1 <<< (Int32.ofNat k &&& 31)) := by rw [pIo (by omega), gI_pI, if_pos ⟨rfl, rfl⟩]
        have g35 : gI (pI (pI (pI σ o 14 (Int32.ofNat U.length)) (o + 38 + 6 * N0.length) 1 (w.1 &&& ~~~(1 <<< (Int32.ofNat k &&& 31)))) (o + 35) N0.length (vp_nar .boolean 0)) (o + 35) N0.length = 0 := by rw [gI_pI, if_pos ⟨rfl, rfl⟩]; rfl
        show Q (Int32.ofNat U.length) (pI (pI (pI σ o 14 (Int32.ofNat U.length)) (o + 38 + 6 * N0.length) 1 (w.1 &&& ~~~(1 <<< (Int32.ofNat k &&& 31)))) (o + 35) N0.length (vp_nar .boolean 0))
        generalize pI (pI (pI σ o 14 (Int32.ofNat U.length)) (o + 38 + 6 * N0.length) 1 (w.1 &&& ~~~(1 <<< (Int32.ofNat k &&& 31)))) (o + 35) N0.length (vp_nar .boolean 0) = s at *
        have hw' : Ch (SLw o) σ s := hc.up (fun a k q => by unfold SLw; omega)
        refine hQ s hw' (L0.of hz hw' rfl ?_ (LF.fr (S := S) f (fun k _ _ => hc.gi (by omega)) (fun k => hc.gi (by omega))) (t.fr (hc.gi (by omega)) (fun k => hc.gi (by omega)) (fun k => hc.gi (by omega))) ⟨g14, p2.fr (fun k hk => hc.gi (by omega))⟩ (i.fr (fun k _ => hc.gi (by omega)) (fun k => ⟨hc.gi (by omega), hc.gi (by omega)⟩) (fun i a k _ _ _ => hc.gi (by omega))))
        refine q.2.last (N0 := N0) (fun i w h => by rw [hN]; exact pre_put i w h) (by rw [hc.gi (by omega), q.2.1, nl]) (by omega) (un_ok hk8 hW) ⟨gw, fun j hj hh => ?_⟩ g35 (fun a k q1 q2 => hc.gi (by omega)) (fun k hk => hc.gi (by omega)) (fun a k q1 q2 => hc.gl (by omega))
        rw [hc.gi (by omega), hc.gi (by omega)]
        exact hP.2 j hj (un_h hk8 hj hh)
      · have M0 := hM
        obtain ⟨-, -, -, q', f', t', u', i'⟩ := hM
        rw [hU] at u'
        obtain ⟨p1', p2'⟩ := u'.2.pop
        have g24 : gI (pI (pI τ m 2 0) m 59 (Int32.ofNat U.length)) (m + 24) U.length = v := by rw [pIo (by omega), pIo (by omega)]; exact p1'
        obtain ⟨-, hP'⟩ := q'.2.2.2 _ w hw
        have e11 : (11 : Int32) * Int32.ofNat (yN S).length - 11 = Int32.ofNat (11 * N0.length) := by
          rw [nl, show (11 : Int32) = Int32.ofNat 11 from rfl, nat_m (by omega) (by omega) (by omega), nat_d (by omega) (by omega)]
          congr 1
        have gp : gI (pI (pI τ m 2 0) m 59 (Int32.ofNat U.length)) (m + 16) (11 * N0.length) = w.1 := by rw [pIo (by omega), pIo (by omega)]; exact hP'.1
        unfold fw ok_X6_undo f_X6_undo
        rw [u'.1, q'.2.1, eu, e11, nat_c (p := U.length) (by omega), nat_c (p := 11 * N0.length) (by omega), g24, gp, xor_n, if_neg eu0, if_pos pv, ev]
        rw [ev] at pv
        refine ⟨cF eu0 ⟨vu', cT pv ⟨nat_v (by omega) (by omega), vu', nat_v (by omega) (by omega)⟩⟩, ?_⟩
        have hc : Ch (fun a j => (a = m ∧ (j = 2 ∨ j = 59)) ∨ (a = m + 16 ∧ j = 11 * N0.length)) τ (pI (pI (pI τ m 2 0) m 59 (Int32.ofNat U.length)) (m + 16) (11 * N0.length) (w.1 &&& ~~~(1 <<< (Int32.ofNat k &&& 31)))) := ((Ch.rf.i (Or.inl ⟨rfl, by omega⟩)).i (Or.inl ⟨rfl, by omega⟩)).i (Or.inr ⟨rfl, rfl⟩)
        have gw : gI (pI (pI (pI τ m 2 0) m 59 (Int32.ofNat U.length)) (m + 16) (11 * N0.length) (w.1 &&& ~~~(1 <<< (Int32.ofNat k &&& 31)))) (m + 16) (11 * N0.length) = w.1 &&& ~~~(1 <<< (Int32.ofNat k &&& 31)) := by rw [gI_pI, if_pos ⟨rfl, rfl⟩]
        have g59 : gI (pI (pI (pI τ m 2 0) m 59 (Int32.ofNat U.length)) (m + 16) (11 * N0.length) (w.1 &&& ~~~(1 <<< (Int32.ofNat k &&& 31)))) m 59 = Int32.ofNat U.length := by rw [pIo (by omega), gI_pI, if_pos ⟨rfl, rfl⟩]
        have g2 : gI (pI (pI (pI τ m 2 0) m 59 (Int32.ofNat U.length)) (m + 16) (11 * N0.length) (w.1 &&& ~~~(1 <<< (Int32.ofNat k &&& 31)))) m 2 = 0 := by rw [pIo (by omega), pIo (by omega)]; exact t0_2
        show Q (Int32.ofNat U.length) (pI (pI (pI τ m 2 0) m 59 (Int32.ofNat U.length)) (m + 16) (11 * N0.length) (w.1 &&& ~~~(1 <<< (Int32.ofNat k &&& 31))))
        generalize pI (pI (pI τ m 2 0) m 59 (Int32.ofNat U.length)) (m + 16) (11 * N0.length) (w.1 &&& ~~~(1 <<< (Int32.ofNat k &&& 31))) = s at *
        have hw' : Ch (SMp m) τ s := hc.up (fun a k q => by unfold SMp; omega)
        refine hQ s hw' (M0.of hw' rfl ?_ (MF.fr (S := S) f' (fun k _ => hc.gi (by omega)) (fun k => hc.gi (by omega))) (t'.fr (hc.gi (by omega)) (fun k => hc.gi (by omega)) (fun k => hc.gi (by omega))) ⟨g59, p2'.fr (fun k hk => hc.gi (by omega))⟩ (i'.fr (fun k _ _ => hc.gi (by omega)) (fun k => ⟨hc.gi (by omega), hc.gi (by omega), hc.gi (by omega)⟩))) g2
        refine q'.2.last (N0 := N0) (fun i w h => by rw [hN]; exact pre_put i w h) (by rw [hc.gi (by omega), q'.2.1, nl]) (by omega) (un_ok hk8 hW) ⟨gw, fun j hj hh => ?_⟩ (fun k hk => hc.gi (by omega))
        rw [hc.gi (by split <;> omega), hc.gi (by omega), hc.gi (by omega)]
        exact hP'.2 j hj (un_h hk8 hj hh)
end
