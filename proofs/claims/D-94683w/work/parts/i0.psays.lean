set_option maxRecDepth 100000
theorem say_h {w : NoteW} {k j : Nat} {a b : Int32} (hk : k < 8) (hj : j < 8) (hh : nHas (nSay w k a b).1 j = true) (hjk : j ≠ k) : nHas w.1 j = true ∧ (nSay w k a b).2.1 j = w.2.1 j ∧ (nSay w k a b).2.2 j = w.2.2 j := by
  have e : nHas (nSay w k a b).1 j = (nHas w.1 j || decide (j = k)) := has_or w.1 (by omega) (by omega)
  rw [e, decide_eq_false hjk, Bool.or_false] at hh
  exact ⟨hh, if_neg hjk, if_neg hjk⟩
theorem say_k {w : NoteW} {k : Nat} {a b : Int32} : (nSay w k a b).2.1 k = a ∧ (nSay w k a b).2.2 k = b := ⟨if_pos rfl, if_pos rfl⟩
theorem pNw.say {σ σ' : Hp} {p k : Nat} {w : NoteW} {a b : Int32} (hk : k < 8) (h : pNw σ p w) (h1 : gI σ' p 1 = gI σ p 1 ||| (1 <<< (Int32.ofNat k &&& 31))) (ha : gI σ' (p + 1) k = a) (hb : gI σ' (p + 2) k = b) (hf : ∀ j, j ≠ k → gI σ' (p + 1) j = gI σ (p + 1) j ∧ gI σ' (p + 2) j = gI σ (p + 2) j) : pNw σ' p (nSay w k a b) := by
  refine ⟨by rw [h1, h.1]; rfl, fun j hj hh => ?_⟩
  by_cases c : j = k
  · subst c
    rw [say_k.1, say_k.2]
    exact ⟨ha, fun _ => hb⟩
  · obtain ⟨e1, e2, e3⟩ := say_h hk hj hh c
    rw [e2, e3, (hf j c).1, (hf j c).2]
    exact h.2 j hj e1
theorem mNw.say {m : Nat} {σ σ' : Hp} {p k : Nat} {w : NoteW} {a b : Int32} (hk : k < 8) (h : mNw m σ p w) (h1 : gI σ' (m + 16) p = gI σ (m + 16) p ||| (1 <<< (Int32.ofNat k &&& 31))) (ha : gI σ' (m + 16) (p + (if k = 0 then 1 else 2 + k)) = a) (hb : (k = 0 → gI σ' (m + 16) (p + 2) = b) ∧ (k = 7 → gI σ' (m + 16) (p + 10) = b)) (hf : ∀ j, p < j → j < p + 11 → j ≠ p + (if k = 0 then 1 else 2 + k) → (k = 0 → j ≠ p + 2) → (k = 7 → j ≠ p + 10) → gI σ' (m + 16) j = gI σ (m + 16) j) : mNw m σ' p (nSay w k a b) := by
  refine ⟨by rw [h1, h.1]; rfl, fun j hj hh => ?_⟩
  by_cases c : j = k
  · subst c
    rw [say_k.1, say_k.2]
    exact ⟨ha, hb.1, hb.2⟩
  · obtain ⟨e1, e2, e3⟩ := say_h hk hj hh c
    obtain ⟨d1, d2, d3⟩ := h.2 j hj e1
    rw [e2, e3]
    refine ⟨?_, fun q => ?_, fun q => ?_⟩
    · rw [hf _ (by split <;> omega) (by split <;> omega) (by split <;> split <;> omega) (by intro q; split <;> omega) (by intro q; split <;> omega)]
      exact d1
    · rw [hf _ (by omega) (by omega) (by split <;> omega) (by omega) (by omega)]
      exact d2 q
    · rw [hf _ (by omega) (by omega) (by split <;> omega) (by omega) (by omega)]
      exact d3 q
section
variable {o c z m n : Nat} {σ τ : Hp} {S : PlS}
theorem p_says {x a b : Int32} (hz : o + 110 ≤ z) (hn : n ≤ 64) (hk : PlOk n S) (hL : RepL o c z σ S) : ∃ v S', PlOk (n + 1) S' ∧ PLl o c z σ (wp_X1_says o c σ x a b) v S' ∧ ∀ τ, RepM m τ S → PMl m τ (fw (ok_X6_says m τ x a b) (f_X6_says m τ x a b)) v S' := by
  have L0 := hL
  obtain ⟨-, -, -, q, c10, f, t, u, i⟩ := hL
  have n12 := q.2.2.1
  have ul := hk.2.2.2.2
  have e0 : Int32.ofNat (yN S).length = 0 ↔ (yN S).length = 0 := nat_e (q := 0) (by omega) (by omega)
  have no : (∀ Q : Int32 → Hp → Prop, Q 0 σ → wp_X1_says o c σ x a b Q) → (∀ τ, RepM m τ S → ok_X6_says m τ x a b ∧ f_X6_says m τ x a b = (0, pI τ m 2 0)) → ∃ v S', PlOk (n + 1) S' ∧ PLl o c z σ (wp_X1_says o c σ x a b) v S' ∧ ∀ τ, RepM m τ S → PMl m τ (fw (ok_X6_says m τ x a b) (f_X6_says m τ x a b)) v S' := fun h1 h2 =>
    ⟨0, S, hk.s, fun Q hQ => h1 Q (hQ σ Ch.rf L0), fun τ hM => pm_f hM (h2 τ hM).1 (h2 τ hM).2⟩
  by_cases em : (yN S).length = 0
  · refine no (fun Q hQ => ?_) (fun τ hM => ?_)
    · unfold wp_X1_says; rw [q.2.1]; exact cT (e0.mpr em) hQ
    · have lt : Int32.ofNat (yN S).length - 1 < 0 := by rw [em]; decide
      unfold ok_X6_says f_X6_says
      rw [hM.2.2.2.1.2.1, if_pos lt]
      exact ⟨cT lt trivial, rfl⟩
  have ne : ¬ Int32.ofNat (yN S).length = 0 := fun z => em (e0.mp z)
  obtain ⟨N0, w, hN⟩ := split_last em
  have nl : (yN S).length = N0.length + 1 := by rw [hN, List.length_append]; rfl
  have e9 : Int32.ofNat (yN S).length - 1 = Int32.ofNat N0.length := by rw [nl, show (1 : Int32) = Int32.ofNat 1 from rfl, nat_d (by omega) (by omega)]; rfl
  have hw : (yN S)[N0.length]? = some w := by rw [hN, List.getElem?_append_right (Nat.le_refl _), Nat.sub_self]; rfl
  obtain ⟨hW, hP⟩ := q.2.2.2.1 _ w hw
  have hPx : ∀ τ, RepM m τ S → mNw m τ (11 * N0.length) w := fun τ hM => (hM.2.2.2.1.2.2.2 _ w hw).2
  obtain ⟨s1, s2⟩ := l_isSaying (x := x) (a := a) (b := b) q nl
  have rx := fun τ (hM : RepM m τ S) => m_canSay (n := N0.length) (x := x) (a := a) (b := b) (show MQt m (yR S) (yN S) (pI τ m 2 0) from hM.2.2.2.1.n t0n).1 (by omega)
  have nlt : ¬ Int32.ofNat N0.length < 0 := by rw [show (0 : Int32) = Int32.ofNat 0 from rfl, nat_lt (by omega) (by omega)]; omega
  have vn : vp_in (Int32.ofNat N0.length) 12 := nat_v (by omega) (by omega)
  have e11 : (11 : Int32) * Int32.ofNat N0.length = Int32.ofNat (11 * N0.length) := mn_0 (by omega)
  have v11 : vp_in (Int32.ofNat (11 * N0.length)) 264 := nat_v (by omega) (by omega)
  have egx : ∀ τ, RepM m τ S → gI (pI τ m 2 0) (m + 16) (11 * N0.length) = w.1 := fun τ hM => by rw [pIo (by omega)]; exact (hPx τ hM).1
  by_cases so : sayOk (aP (yR S)).length (aF (yR S)).length N0.length x a b
  rotate_left
  · refine no (fun Q hQ => ?_) (fun τ hM => ?_)
    · unfold wp_X1_says; rw [q.2.1]; exact cF ne ⟨s1, cT (s2.mpr so) hQ⟩
    · obtain ⟨r1, r2⟩ := rx τ hM
      unfold ok_X6_says f_X6_says
      rw [hM.2.2.2.1.2.1, e9, if_neg nlt, if_pos (r2.mpr so)]
      exact ⟨cF nlt ⟨r1, cT (r2.mpr so) trivial⟩, rfl⟩
  have so1 : ¬ f_X1_isSaying o c σ x a b = 0 := fun z => s2.mp z so
  obtain ⟨k, hk8, rfl⟩ := say_w so
  have h5 : f_X5_has (o + 38 + 6 * N0.length) σ (Int32.ofNat k) = 0 ↔ nHas w.1 k = false := hs0 hP (by omega)
  have h6 : f_X6_isOf w.1 (Int32.ofNat k) = 0 ↔ nHas w.1 k = false := isOf_iff (by omega)
  cases hh : nHas w.1 k with
  | true =>
    have n5 : ¬ f_X5_has (o + 38 + 6 * N0.length) σ (Int32.ofNat k) = 0 := fun z => by rw [h5.mp z] at hh; cases hh
    have n6 : ¬ f_X6_isOf w.1 (Int32.ofNat k) = 0 := fun z => by rw [h6.mp z] at hh; cases hh
    refine no (fun Q hQ => ?_) (fun τ hM => ?_)
    · unfold wp_X1_says
      rw [q.2.1, e9, nat_c (by omega)]
      exact cF ne ⟨s1, cF so1 ⟨vn, cF n5 hQ⟩⟩
    · obtain ⟨r1, r2⟩ := rx τ hM
      have so2 : ¬ f_X6_canSay m (pI τ m 2 0) (Int32.ofNat N0.length) (Int32.ofNat k) a b = 0 := fun z => r2.mp z so
      have eg := egx τ hM
      unfold ok_X6_says f_X6_says
      rw [hM.2.2.2.1.2.1, e9, e11, nat_c (by omega), eg, if_neg nlt, if_neg so2, if_neg n6]
      exact ⟨cF nlt ⟨r1, cF so2 ⟨v11, cF n6 trivial⟩⟩, rfl⟩
  | false =>
    have y5 := h5.mpr hh
    have y6 := h6.mpr hh
    have hW' := says_ok hk8 so hW
    refine ⟨1, setN S (N0 ++ [nSay w k a b]) (Int32.ofNat k :: yU S), ⟨hk.1, hk.2.1, hk.2.2.1, ?_, ?_⟩, fun Q hQ => ?_, fun τ hM Q hQ => ?_⟩
    · show UOk (N0 ++ [nSay w k a b]).length (Int32.ofNat k :: yU S)
      have := hk.2.2.2.1
      rw [nl] at this
      rw [List.length_append]
      exact ⟨Nat.succ_le_succ (Nat.zero_le _), Or.inr ⟨k, hk8, rfl, this⟩⟩
    · show (yU S).length + 1 ≤ n + 1; omega
    · unfold wp_X1_says
      rw [q.2.1, e9, nat_c (by omega)]
      refine cF ne ⟨s1, cF so1 ⟨vn, cT y5 ⟨vn, ⟨nat_v (by omega) (by omega), nat_v (by omega) (by omega)⟩, fun s10 hs10 => ?_⟩⟩⟩
      unfold f_X5_say at hs10
      rw [nat_c (by omega)] at hs10
      have cs : Ch (fun a j => (a = o + 38 + 6 * N0.length ∧ j = 1) ∨ (a = o + 38 + 6 * N0.length + 1 ∧ j = k) ∨ (a = o + 38 + 6 * N0.length + 2 ∧ j = k)) σ s10 := by
        rw [hs10]
        exact ((Ch.rf.i (Or.inl ⟨rfl, rfl⟩)).i (Or.inr (Or.inl ⟨rfl, rfl⟩))).i (Or.inr (Or.inr ⟨rfl, rfl⟩))
      have t9 : gI s10 o 9 = Int32.ofNat (yN S).length := by rw [cs.gi (by omega)]; exact q.2.1
      have t14 : gI s10 o 14 = Int32.ofNat (yU S).length := by rw [cs.gi (by omega)]; exact u.1
      have tn : pNw s10 (o + 38 + 6 * N0.length) (nSay w k a b) := by
        refine hP.say hk8 ?_ ?_ ?_ (fun j hj => ⟨cs.gi (by omega), cs.gi (by omega)⟩)
        · rw [hs10, pIo (by omega), pIo (by omega), gI_pI, if_pos ⟨rfl, rfl⟩]
        · rw [hs10, pIo (by omega), gI_pI, if_pos ⟨rfl, rfl⟩]
        · rw [hs10, gI_pI, if_pos ⟨rfl, rfl⟩]
      rw [t9, t14, e9, nat_c (by omega), nat_c (by omega), nat_s (by omega)]
      refine ⟨vn, nat_v (by omega) (by omega), ?_⟩
      have hc := (((cs.up (S' := fun a j => (a = o + 38 + 6 * N0.length ∧ j = 1) ∨ (a = o + 38 + 6 * N0.length + 1 ∧ j = k) ∨ (a = o + 38 + 6 * N0.length + 2 ∧ j = k) ∨ (a = o + 35 ∧ j = N0.length) ∨ (a = o ∧ j = 14) ∨ (a = o + 17 ∧ j = (yU S).length)) (fun a j q => by omega)).i (v := vp_nar .boolean 0) (a := o + 35) (k := N0.length) (by omega)).i (v := Int32.ofNat ((yU S).length + 1)) (a := o) (k := 14) (by omega)).i (v := Int32.ofNat k) (a := o + 17) (k := (yU S).length) (by omega)
      have g1 : pNw (pI (pI (pI s10 (o + 35) N0.length (vp_nar .boolean 0)) o 14 (Int32.ofNat ((yU S).length + 1))) (o + 17) (yU S).length (Int32.ofNat k)) (o + 38 + 6 * N0.length) (nSay w k a b) := tn.fr (fun a k _ _ => by rw [pIo (by omega), pIo (by omega), pIo (by omega)])
      have g2 : gI (pI (pI (pI s10 (o + 35) N0.length (vp_nar .boolean 0)) o 14 (Int32.ofNat ((yU S).length + 1))) (o + 17) (yU S).length (Int32.ofNat k)) (o + 35) N0.length = 0 := by rw [pIo (by omega), pIo (by omega), gI_pI, if_pos ⟨rfl, rfl⟩]; rfl
      have g4 : gI (pI (pI (pI s10 (o + 35) N0.length (vp_nar .boolean 0)) o 14 (Int32.ofNat ((yU S).length + 1))) (o + 17) (yU S).length (Int32.ofNat k)) o 14 = Int32.ofNat ((yU S).length + 1) := by rw [pIo (by omega), gI_pI, if_pos ⟨rfl, rfl⟩]
      have g5 : gI (pI (pI (pI s10 (o + 35) N0.length (vp_nar .boolean 0)) o 14 (Int32.ofNat ((yU S).length + 1))) (o + 17) (yU S).length (Int32.ofNat k)) (o + 17) (yU S).length = Int32.ofNat k := by rw [gI_pI, if_pos ⟨rfl, rfl⟩]
      generalize pI (pI (pI s10 (o + 35) N0.length (vp_nar .boolean 0)) o 14 (Int32.ofNat ((yU S).length + 1))) (o + 17) (yU S).length (Int32.ofNat k) = s at *
      have hw' : Ch (SLw o) σ s := hc.up (fun a k q => by unfold SLw; omega)
      refine hQ s hw' (L0.of hz hw' rfl ?_ (LF.fr (S := S) f (fun k _ _ => hc.gi (by omega)) (fun k => hc.gi (by omega))) (t.fr (hc.gi (by omega)) (fun k => hc.gi (by omega)) (fun k => hc.gi (by omega))) ⟨g4, u.2.push g5 (fun k hk => hc.gi (by omega))⟩ (i.fr (fun k _ => hc.gi (by omega)) (fun k => ⟨hc.gi (by omega), hc.gi (by omega)⟩) (fun i a k _ _ _ => hc.gi (by omega))))
      exact q.2.last (N0 := N0) (fun i w h => by rw [hN]; exact pre_put i w h) (by rw [hc.gi (by omega), q.2.1, nl]) (by omega) hW' g1 g2 (fun a k q1 q2 => hc.gi (by omega)) (fun k hk => hc.gi (by omega)) (fun a k q1 q2 => hc.gl (by omega))
    · -- the reference
      have M0 := hM
      obtain ⟨r1, r2⟩ := rx τ hM
      have so2 : ¬ f_X6_canSay m (pI τ m 2 0) (Int32.ofNat N0.length) (Int32.ofNat k) a b = 0 := fun z => r2.mp z so
      have eg := egx τ hM
      have hP' := hPx τ hM
      obtain ⟨-, -, -, q', f', t', u', i'⟩ := hM
      have i1 : ∀ j, j < 11 → Int32.ofNat (11 * N0.length) + Int32.ofNat j = Int32.ofNat (11 * N0.length + j) := fun j hj => nat_a (by omega)
      have main : ∃ s, ok_X6_says m τ (Int32.ofNat k) a b ∧ f_X6_says m τ (Int32.ofNat k) a b = (1, pI (pI s (m + 24) (yU S).length (Int32.ofNat k)) m 59 (Int32.ofNat ((yU S).length + 1))) ∧ Ch (fun a j => (a = m ∧ j = 2) ∨ (a = m + 16 ∧ 11 * N0.length ≤ j ∧ j < 11 * N0.length + 11)) τ s ∧ gI s m 2 = 0 ∧ mNw m s (11 * N0.length) (nSay w k a b) := by
        have c1 : Ch (fun a j => (a = m ∧ j = 2) ∨ (a = m + 16 ∧ 11 * N0.length ≤ j ∧ j < 11 * N0.length + 11)) τ (pI (pI τ m 2 0) (m + 16) (11 * N0.length) (w.1 ||| (1 <<< (Int32.ofNat k &&& 31)))) := (Ch.rf.i (Or.inl ⟨rfl, rfl⟩)).i (Or.inr ⟨rfl, by omega, by omega⟩)
        have z1 : gI (pI (pI τ m 2 0) (m + 16) (11 * N0.length) (w.1 ||| (1 <<< (Int32.ofNat k &&& 31)))) m 2 = 0 := by rw [pIo (by omega)]; exact t0_2
        have w1 : gI (pI (pI τ m 2 0) (m + 16) (11 * N0.length) (w.1 ||| (1 <<< (Int32.ofNat k &&& 31)))) (m + 16) (11 * N0.length) = w.1 ||| (1 <<< (Int32.ofNat k &&& 31)) := by rw [gI_pI, if_pos ⟨rfl, rfl⟩]
        have fo : ∀ j, j ≠ 11 * N0.length → gI (pI (pI τ m 2 0) (m + 16) (11 * N0.length) (w.1 ||| (1 <<< (Int32.ofNat k &&& 31)))) (m + 16) j = gI τ (m + 16) j := fun j hj => by rw [pIo (by omega), pIo (by omega)]
        have u59 : gI (pI (pI τ m 2 0) (m + 16) (11 * N0.length) (w.1 ||| (1 <<< (Int32.ofNat k &&& 31)))) m 59 = Int32.ofNat (yU S).length := by rw [pIo (by omega), pIo (by omega)]; exact u'.1
        have vu : vp_in (Int32.ofNat (yU S).length) 128 := nat_v (by omega) (by omega)
        unfold ok_X6_says f_X6_says
        rw [q'.2.1, e9, e11, nat_c (p := 11 * N0.length) (by omega), eg, if_neg nlt, if_neg so2, if_pos y6]
        generalize pI (pI τ m 2 0) (m + 16) (11 * N0.length) (w.1 ||| (1 <<< (Int32.ofNat k &&& 31))) = hp1 at c1 z1 w1 fo u59 ⊢
        have i2 : Int32.ofNat (11 * N0.length) + 2 = Int32.ofNat (11 * N0.length + 2) := i1 2 (by omega)
        have i10 : Int32.ofNat (11 * N0.length) + 10 = Int32.ofNat (11 * N0.length + 10) := i1 10 (by omega)
        have ii : Int32.ofNat (11 * N0.length) + 1 = Int32.ofNat (11 * N0.length + 1) := i1 1 (by omega)
        have fin125 : ∀ s, gI s m 59 = Int32.ofNat (yU S).length → fj_X6_says_125 m s (Int32.ofNat k) = (1, pI (pI s (m + 24) (yU S).length (Int32.ofNat k)) m 59 (Int32.ofNat ((yU S).length + 1))) ∧ oj_X6_says_125 m s (Int32.ofNat k) := fun s hs => by
          unfold fj_X6_says_125 oj_X6_says_125
          rw [hs, nat_c (by omega), nat_s (by omega)]
          exact ⟨rfl, vu⟩
        by_cases k0 : k = 0
        · subst k0
          have x0 : Int32.ofNat 0 = 0 := rfl
          have x7 : ¬ Int32.ofNat 0 = 7 := by decide
          obtain ⟨g1, g2⟩ := fin125 (pI (pI hp1 (m + 16) (11 * N0.length + 1) a) (m + 16) (11 * N0.length + 2) b) (by rw [pIo (by omega), pIo (by omega)]; exact u59)
          refine ⟨pI (pI hp1 (m + 16) (11 * N0.length + 1) a) (m + 16) (11 * N0.length + 2) b, cF nlt ⟨r1, cF so2 ⟨v11, cT y6 ⟨v11, v11, cT x0 ?_⟩⟩⟩, ?_, (c1.i (Or.inr ⟨rfl, by omega, by omega⟩)).i (Or.inr ⟨rfl, by omega, by omega⟩), by rw [pIo (by omega), pIo (by omega)]; exact z1, ?_⟩
          · unfold oj_X6_says_85 oj_X6_says_105
            rw [ii, e11, i2, nat_c (by omega), nat_c (by omega)]
            exact ⟨nat_v (by omega) (by omega), cT x0 ⟨nat_v (by omega) (by omega), cF x7 g2⟩⟩
          · rw [if_pos x0]
            unfold fj_X6_says_85 fj_X6_says_105
            rw [if_pos x0, if_neg x7, ii, e11, i2, nat_c (by omega), nat_c (by omega)]
            exact g1
          · refine hP'.say hk8 ?_ ?_ ⟨fun _ => ?_, fun z => (by cases z)⟩ (fun j j1 j2 j3 j4 _ => ?_)
            · rw [pIo (by omega), pIo (by omega), w1, hP'.1]
            · rw [if_pos rfl, pIo (by omega), gI_pI, if_pos ⟨rfl, rfl⟩]
            · rw [gI_pI, if_pos ⟨rfl, rfl⟩]
            · rw [if_pos rfl] at j3
              have := j4 rfl
              rw [pIo (by omega), pIo (by omega)]
              exact fo j (by omega)
        have x0 : ¬ Int32.ofNat k = 0 := fun z => k0 ((nat_e (q := 0) (by omega) (by omega)).mp z)
        have i3 : Int32.ofNat (11 * N0.length) + (2 + Int32.ofNat k) = Int32.ofNat (11 * N0.length + (2 + k)) := by
          rw [show (2 : Int32) = Int32.ofNat 2 from rfl, nat_a (by omega), i1 _ (by omega)]
        by_cases k7 : k = 7
        · subst k7
          have x7 : Int32.ofNat 7 = 7 := rfl
          obtain ⟨g1, g2⟩ := fin125 (pI (pI hp1 (m + 16) (11 * N0.length + (2 + 7)) a) (m + 16) (11 * N0.length + 10) b) (by rw [pIo (by omega), pIo (by omega)]; exact u59)
          refine ⟨pI (pI hp1 (m + 16) (11 * N0.length + (2 + 7)) a) (m + 16) (11 * N0.length + 10) b, cF nlt ⟨r1, cF so2 ⟨v11, cT y6 ⟨v11, v11, cF x0 ?_⟩⟩⟩, ?_, (c1.i (Or.inr ⟨rfl, by omega, by omega⟩)).i (Or.inr ⟨rfl, by omega, by omega⟩), by rw [pIo (by omega), pIo (by omega)]; exact z1, ?_⟩
          · unfold oj_X6_says_85 oj_X6_says_105
            rw [i3, e11, i10, nat_c (p := 11 * N0.length + (2 + 7)) (by omega), nat_c (p := 11 * N0.length + 10) (by omega)]
            exact ⟨nat_v (by omega) (by omega), cF x0 (cT x7 ⟨nat_v (by omega) (by omega), g2⟩)⟩
          · rw [if_neg x0]
            unfold fj_X6_says_85 fj_X6_says_105
            rw [if_neg x0, if_pos x7, i3, e11, i10, nat_c (p := 11 * N0.length + (2 + 7)) (by omega), nat_c (p := 11 * N0.length + 10) (by omega)]
            exact g1
          · refine hP'.say hk8 ?_ ?_ ⟨fun z => (by cases z), fun _ => ?_⟩ (fun j j1 j2 j3 _ j4 => ?_)
            · rw [pIo (by omega), pIo (by omega), w1, hP'.1]
            · rw [if_neg (by omega), pIo (by omega), gI_pI, if_pos ⟨rfl, rfl⟩]
            · rw [gI_pI, if_pos ⟨rfl, rfl⟩]
            · rw [if_neg (by omega)] at j3
              have := j4 rfl
              rw [pIo (by omega), pIo (by omega)]
              exact fo j (by omega)
        · have x7 : ¬ Int32.ofNat k = 7 := fun z => k7 ((nat_e (q := 7) (by omega) (by omega)).mp z)
          obtain ⟨g1, g2⟩ := fin125 (pI hp1 (m + 16) (11 * N0.length + (2 + k)) a) (by rw [pIo (by omega)]; exact u59)
          refine ⟨pI hp1 (m + 16) (11 * N0.length + (2 + k)) a, cF nlt ⟨r1, cF so2 ⟨v11, cT y6 ⟨v11, v11, cF x0 ?_⟩⟩⟩, ?_, c1.i (Or.inr ⟨rfl, by omega, by omega⟩), by rw [pIo (by omega)]; exact z1, ?_⟩
          · unfold oj_X6_says_85 oj_X6_says_105
            rw [i3, nat_c (p := 11 * N0.length + (2 + k)) (by omega)]
            exact ⟨nat_v (by omega) (by omega), cF x0 (cF x7 g2)⟩
          · rw [if_neg x0]
            unfold fj_X6_says_85 fj_X6_says_105
            rw [if_neg x0, if_neg x7, i3, nat_c (p := 11 * N0.length + (2 + k)) (by omega)]
            exact g1
          · refine hP'.say hk8 ?_ ?_ ⟨fun z => absurd z k0, fun z => absurd z k7⟩ (fun j j1 j2 j3 _ _ => ?_)
            · rw [pIo (by omega), w1, hP'.1]
            · rw [if_neg k0, gI_pI, if_pos ⟨rfl, rfl⟩]
            · rw [if_neg k0] at j3
              rw [pIo (by omega)]
              exact fo j (by omega)
      obtain ⟨s, m1, m2, m3, m4, m5⟩ := main
      refine ⟨m1, ?_⟩
      rw [m2]
      have hc := ((m3.up (S' := fun a j => (a = m ∧ (j = 2 ∨ j = 59)) ∨ (a = m + 16 ∧ 11 * N0.length ≤ j ∧ j < 11 * N0.length + 11) ∨ (a = m + 24 ∧ j = (yU S).length)) (fun a j q => by omega)).i (v := Int32.ofNat k) (a := m + 24) (k := (yU S).length) (by omega)).i (v := Int32.ofNat ((yU S).length + 1)) (a := m) (k := 59) (by omega)
      have g1 : mNw m (pI (pI s (m + 24) (yU S).length (Int32.ofNat k)) m 59 (Int32.ofNat ((yU S).length + 1))) (11 * N0.length) (nSay w k a b) := m5.fr (fun j _ _ => by rw [pIo (by omega), pIo (by omega)])
      have g2 : gI (pI (pI s (m + 24) (yU S).length (Int32.ofNat k)) m 59 (Int32.ofNat ((yU S).length + 1))) m 2 = 0 := by rw [pIo (by omega), pIo (by omega)]; exact m4
      have g4 : gI (pI (pI s (m + 24) (yU S).length (Int32.ofNat k)) m 59 (Int32.ofNat ((yU S).length + 1))) m 59 = Int32.ofNat ((yU S).length + 1) := by rw [gI_pI, if_pos ⟨rfl, rfl⟩]
      have g5 : gI (pI (pI s (m + 24) (yU S).length (Int32.ofNat k)) m 59 (Int32.ofNat ((yU S).length + 1))) (m + 24) (yU S).length = Int32.ofNat k := by rw [pIo (by omega), gI_pI, if_pos ⟨rfl, rfl⟩]
      show Q 1 (pI (pI s (m + 24) (yU S).length (Int32.ofNat k)) m 59 (Int32.ofNat ((yU S).length + 1)))
      generalize pI (pI s (m + 24) (yU S).length (Int32.ofNat k)) m 59 (Int32.ofNat ((yU S).length + 1)) = s' at *
      have hw' : Ch (SMp m) τ s' := hc.up (fun a k q => by unfold SMp; omega)
      refine hQ s' hw' (M0.of hw' rfl ?_ (MF.fr (S := S) f' (fun k _ => hc.gi (by omega)) (fun k => hc.gi (by omega))) (t'.fr (hc.gi (by omega)) (fun k => hc.gi (by omega)) (fun k => hc.gi (by omega))) ⟨g4, u'.2.push g5 (fun k hk => hc.gi (by omega))⟩ (i'.fr (fun k _ _ => hc.gi (by omega)) (fun k => ⟨hc.gi (by omega), hc.gi (by omega), hc.gi (by omega)⟩))) g2
      exact q'.2.last (N0 := N0) (fun i w h => by rw [hN]; exact pre_put i w h) (by rw [hc.gi (by omega), q'.2.1, nl]) (by omega) hW' g1 (fun k hk => hc.gi (by omega))
end
