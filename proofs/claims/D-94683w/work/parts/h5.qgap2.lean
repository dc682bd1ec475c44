set_option maxRecDepth 100000
theorem bc_mo : ∀ a, a < 4096 → f_J18_bitCount (Int32.ofNat a) = moF (Int32.ofNat a) 12 := by decide +kernel
theorem nat_lt {p q : Nat} (hp : p ≤ 2147483647) (hq : q ≤ 2147483647) : Int32.ofNat p < Int32.ofNat q ↔ p < q := by
  rw [i3_lt (nat_i hp) (nat_i hq)]; omega
theorem m_isGap {m : Nat} {τ : Hp} {R : RlA} {N : List NoteW} {x1 : Int32} {Q : Int32 → Hp → Prop} (hM : MQt m R N τ) (hC : RwM τ m R N) (hne : ∃ k, k < N.length ∧ nHas x1 k = true) (h1 : gapS R N x1 → ∀ τ', Ch (SMn m) τ τ' → MQt m R N τ' → RwM τ' m R N → gI τ' m 2 = gI τ m 2 → Q 1 τ') (h0 : ¬ gapS R N x1 → ∀ τ', Ch (SMn m) τ τ' → MQt m R N τ' → RwM τ' m R N → gI τ' m 2 = gI τ m 2 → Q 0 τ') : wp_X6_isGap m τ x1 Q := by
  have n12 := hM.2.2.1
  have hO := hM.ok
  refine m_layRoots hM (fun s0 k0 hs0 hr0 => ?_)
  have f0 : Ch (SMn m) τ s0 := k0.up (fun a k q => q.n)
  have hC0 : RwM s0 m R N := hC.fr (fun k => k0.gi (by unfold SMk; omega))
  have e0 : gI s0 m 2 = gI τ m 2 := k0.gi (by unfold SMk; omega)
  refine lp_of (fun z => ∃ k, k ≤ N.length ∧ z.2 = (Int32.ofNat k, s0) ∧ (((roots N (nHas x1) k).1 = 0 ∧ z.1 = -1) ∨ ((roots N (nHas x1) k).1 = 1 ∧ ∃ j, j < k ∧ z.1 = Int32.ofNat j ∧ (roots N (nHas x1) k).2.1 = j))) (fun z => N.length - z.2.1.toNatClampNeg) ?_ ⟨0, by omega, rfl, Or.inl ⟨rfl, rfl⟩⟩
  rintro K ⟨x2, x3, s⟩ ⟨k, hk2, hz, hr⟩ hK
  cases hz
  simp only at hr
  show (_ → _) ∧ (_ → _)
  rw [hs0.2.1, nat_le (by omega) (by omega), nat_c (by omega), nat_s (p := k) (by omega)]
  refine ⟨fun z => ?_, fun z => ?_⟩
  · have e : k = N.length := by omega
    subst e
    rcases hr with ⟨a, b⟩ | ⟨a, j, jl, b, d⟩
    · obtain ⟨k1, hk1, hs1⟩ := hne
      obtain ⟨c1, c2, c3⟩ := rt_root hO (nHas x1) (k1 + 1) k1 (by omega) hk1 hs1
      exact absurd ⟨c1, c2⟩ ((ft_b _ _).2.2.2.mp a _ c3)
    · subst b
      obtain ⟨j', q1, q2, q3, q4⟩ := ft_one _ _ a
      have ej : j' = j := by
        have : (j' : Int) = j := q3.symm.trans d
        omega
      subst ej
      refine m_layRoot hs0 hC0 hr0 (by omega) (fun s' h2 _ h3 => ?_)
      have hs' := hs0.n (h2.up (fun a k q => q.n))
      have cs' : Ch (SMn m) τ s' := f0.tr (h2.up (fun a k q => q.n))
      have hC' : RwM s' m R N := hC0.fr (fun k => h2.gi (by unfold SMg; omega))
      have es' : gI s' m 2 = gI τ m 2 := (h2.gi (by unfold SMg; omega)).trans e0
      refine ⟨fun y => h1 ⟨a, fun f => h3.mp y (f j' q1 q2.1 q2.2)⟩ s' cs' hs' hC' es', fun y => h0 (fun f => f.2 (fun i hi hsi hri => ?_)) s' cs' hs' hC' es'⟩
      have := q4 i hi ⟨hsi, hri⟩
      subst this
      exact Classical.byContradiction (fun u => y (h3.mpr u))
  · have hlt : k < N.length := by omega
    have nx : N.length - (Int32.ofNat (k + 1)).toNatClampNeg < N.length - (Int32.ofNat k).toNatClampNeg := by rw [nat_c (by omega), nat_c (by omega)]; omega
    obtain ⟨r1, r2, r3, r4, r5⟩ := hr0 k hlt
    have no : ¬ (nHas x1 k = true ∧ (rtA N (nHas x1) k).1 = k) → K (x2, Int32.ofNat (k + 1), s0) := fun u => by
      refine hK _ ⟨k + 1, by omega, rfl, ?_⟩ nx
      have e : roots N (nHas x1) (k + 1) = roots N (nHas x1) k := ft_n u
      rw [e]
      rcases hr with hr | ⟨a, j, jl, b, d⟩
      · exact Or.inl hr
      · exact Or.inr ⟨a, j, by omega, b, d⟩
    rw [isOf_iff (k := k) (by omega), r1, nat_e (by omega) (by omega)]
    refine ⟨fun u => no (fun z => by rw [u] at z; cases z.1), fun u => ⟨nat_v (by omega) (by omega), fun v => ?_, fun v => no (fun z => v z.2)⟩⟩
    have e : roots N (nHas x1) (k + 1) = _ := ft_y (P := fun j => nHas x1 j = true ∧ (rtA N (nHas x1) j).1 = j) ⟨bt u, v⟩
    rcases hr with ⟨a, b⟩ | ⟨a, j, jl, b, d⟩
    · have b : x2 = -1 := b
      subst b
      refine cT (by decide) (hK _ ⟨k + 1, by omega, rfl, Or.inr ⟨?_, k, by omega, rfl, ?_⟩⟩ nx)
      · rw [e]; show (roots N (nHas x1) k).1 + 1 = 1; omega
      · rw [e]; show (if (roots N (nHas x1) k).1 = 0 then _ else _) = _; rw [if_pos a]
    · have b : x2 = Int32.ofNat j := b
      subst b
      refine cF (fun z => ?_) (h0 (fun f => ?_) s0 f0 hs0 hC0 e0)
      · rw [show (0 : Int32) = Int32.ofNat 0 from rfl, nat_lt (by omega) (by omega)] at z; omega
      · have c2 : (roots N (nHas x1) (k + 1)).1 = 2 := by rw [e]; show (roots N (nHas x1) k).1 + 1 = 2; omega
        have mo := ft_mono (fun j => nHas x1 j = true ∧ (rtA N (nHas x1) j).1 = j) (k + 1) (N.length - (k + 1))
        rw [show k + 1 + (N.length - (k + 1)) = N.length by omega] at mo
        have f1 := f.1
        unfold roots at c2 f1
        omega
theorem q_gap {o c m : Nat} {σ : Hp} {R : RlA} {N : List NoteW} (hk : ROk R) (hL : LQ o c R N σ) : ∃ v, QLn o c R N σ (wp_X1_gap o c σ) v ∧ ∀ τ, MQt m R N τ → QMn m τ (wp_X6_gap m τ) v := by
  have n12 := hL.2.2.1
  have hO := hL.ok
  have M2 : ∀ τ, MQt m R N τ → MQt m R N (pI τ m 2 0) := fun τ hM => hM.n t0n
  have p12 : 2 ^ N.length - 1 ≤ 4095 := by
    have : 2 ^ N.length ≤ 2 ^ 12 := Nat.pow_le_pow_right (by omega) n12
    omega
  have p1 : 1 ≤ 2 ^ N.length := Nat.one_le_two_pow
  generalize hA : 2 ^ N.length - 1 = A at p12
  have eA : allS N.length = Int32.ofNat A := by unfold allS; rw [all_n _ (by omega), hA]
  have mem : ∀ k, k < N.length → nHas (allS N.length) k = true := fun k hk => by
    unfold allS; rw [all_b _ (by omega) _ (by omega)]; exact decide_eq_true hk
  refine ⟨gpV (sO (gpP R N) A N.length 1), fun Q hQ => ?_, fun τ hM Q hQ => ?_⟩
  · have ea : ∀ s, LQ o c R N s → f_X1_all o c s = allS N.length := fun s hs => by unfold f_X1_all allS; rw [hs.2.1]
    unfold wp_X1_gap
    rw [ea σ hL]
    refine l_holdsAll hk hL (fun ha s1 k1 hs1 _ => cF (fun a => (by cases a)) ?_) (fun _ s1 k1 hs1 => cT rfl ?_)
    · have := hQ s1 k1 hs1
      rw [sO_no (fun b x _ _ h => h.2.2 (all_fit hO mem ha))] at this
      exact this
    refine lp_gap (I := fun s => Ch (SLf o) σ s ∧ LQ o c R N s) (bi := fun b K15 => lb_X1_gap_25 o c b Q K15) n12 p12 (P := gpP R N) (fun K b s hs b1 b2 q1 q2 => ?_) (fun K15 K b a s hs b1 b2 a1 a2 q1 q2 q3 => ?_) (fun s hs => hQ s hs.1 hs.2) ⟨k1, hs1⟩
    · show (_ → _) ∧ (_ → _)
      rw [hs.2.2.1, nat_lt (by omega) (by omega)]
      exact ⟨fun z => q1 (by omega), fun z => q2 (by omega)⟩
    · show (_ → _) ∧ (_ → _)
      rw [ea s hs.2, eA, nat_lt (by omega) (by omega), nat_s (p := a) (by omega), nat_s (p := b) (by omega)]
      refine ⟨fun z => q1 (by omega), fun z => ⟨fun u => ?_, fun u => q3 (by omega) (fun f => u f.1) s hs⟩⟩
      refine l_isOne hs.2 (fun y s' g1 g2 => cF (fun a => (by cases a)) ?_) (fun y s' g1 g2 => cT rfl (q3 (by omega) (fun f => y f.2.1) s' ⟨hs.1.tr g1, g2⟩))
      exact l_holdsAll hk g2 (fun y2 s2 g3 g4 _ => cF (fun a => (by cases a)) (q3 (by omega) (fun f => f.2.2 y2) s2 ⟨(hs.1.tr g1).tr g3, g4⟩)) (fun y2 s2 g3 g4 => cT rfl (q2 (by omega) ⟨u, y, y2⟩ s2 ⟨(hs.1.tr g1).tr g3, g4⟩))
  · have ea : ∀ s, MQt m R N s → f_X6_allNotes m s = allS N.length := fun s hs => by unfold f_X6_allNotes allS; rw [hs.2.1]
    refine m_layAllCan hk (M2 τ hM) (fun s1 k1 hs1 e1 hc1 => ?_)
    refine lp_gap (I := fun s => Ch (SMn m) τ s ∧ MQt m R N s ∧ RwM s m R N ∧ gI s m 2 = 0) (bi := fun b K15 => lb_X6_gap_21 m b Q K15) n12 p12 (P := gpP R N) (fun K b s hs b1 b2 q1 q2 => ?_) (fun K15 K b a s hs b1 b2 a1 a2 q1 q2 q3 => ?_) (fun s hs => hQ s hs.1 hs.2.2.2) ⟨t0n.tr k1, hs1, hc1, e1.trans t0_2⟩
    · show (_ → _) ∧ (_ → _)
      rw [hs.2.1.2.1, nat_lt (by omega) (by omega)]
      exact ⟨fun z => q1 (by omega), fun z => q2 (by omega)⟩
    · show (_ → _) ∧ (_ → _)
      rw [ea s hs.2.1, eA, nat_lt (by omega) (by omega), nat_s (p := a) (by omega), nat_s (p := b) (by omega)]
      refine ⟨fun z => q1 (by omega), fun z => m_manyOf ?_⟩
      rw [← bc_mo a (by omega)]
      refine ⟨fun u => ?_, fun u => q3 (by omega) (fun f => u f.1) s hs⟩
      have mk : ∀ s', Ch (SMn m) s s' → MQt m R N s' → RwM s' m R N → gI s' m 2 = gI s m 2 → Ch (SMn m) τ s' ∧ MQt m R N s' ∧ RwM s' m R N ∧ gI s' m 2 = 0 := fun s' g1 g2 g3 g4 => ⟨hs.1.tr g1, g2, g3, g4.trans hs.2.2.2⟩
      exact m_isGap hs.2.1 hs.2.2.1 (bit_ex a1 (by omega) n12) (fun y s' g1 g2 g3 g4 => cF (fun a => (by cases a)) (q2 (by omega) ⟨u, y⟩ s' (mk s' g1 g2 g3 g4))) (fun y s' g1 g2 g3 g4 => cT rfl (q3 (by omega) (fun f => y f.2) s' (mk s' g1 g2 g3 g4)))
