set_option maxRecDepth 100000
/-- a sum's answer by the reference -/
def SmQ (m : Nat) (σ : Hp) (v : Option Int64) (Q : Int64 → Hp → Prop) : Prop := ∀ r τ', Ch (SMq m) σ τ' → gI τ' m 2 = gI σ m 2 → (∀ q, v = some q → bd q ∧ r = q ∧ gI τ' m 57 = 0) → (v = none → r = 0 ∧ ¬ gI τ' m 57 = 0) → Q r τ'
theorem SV_SMq {m a k : Nat} (h : SV m a k) : SMq m a k := by unfold SV at h; unfold SMq; omega
theorem m_tail {m i : Nat} {σ s : Hp} {R : RlA} {y : FeastA} {d : Int64} {w0 : Int64} {Q : Int64 → Hp → Prop} (hM : MKr m s R) (hi : (aF R)[i]? = some y) (hc : Ch (SMq m) σ s) (h2 : gI s m 2 = gI σ m 2) (hν : ∀ j, j < 5 → gL s (m + 22) j = nuS R d j) (h5 : w0 = nuS R d 5) (hQ : SmQ m σ (y.2 (nuS R d)) Q) : wj_X6_sumOf_116 m s (Int32.ofNat i) w0 Q := by
  have il := get_lt hi
  have f4 := hM.2.1.2.1
  have f64 := hM.2.1.2.2.2.2.2
  have hc1 : Ch (SMq m) s (pI (pL s (m + 22) 5 w0) m 57 0) := (Ch.rf.l (Or.inr (Or.inl rfl))).i (Or.inl ⟨rfl, by omega⟩)
  have e57 : gI (pI (pL s (m + 22) 5 w0) m 57 0) m 57 = 0 := by rw [gI_pI, if_pos ⟨rfl, rfl⟩]
  have e2 : gI (pI (pL s (m + 22) 5 w0) m 57 0) m 2 = gI σ m 2 := by rw [pIo (by omega)]; exact h2
  have eν : ∀ j, j < 6 → gL (pI (pL s (m + 22) 5 w0) m 57 0) (m + 22) j = nuS R d j := fun j hj => by
    rw [gL_pI, gL_pL]
    by_cases q : j = 5
    · rw [if_pos ⟨rfl, q⟩, h5, q]
    · rw [if_neg (fun w => q w.2)]; exact hν j (by omega)
  have M1 := hM.ch hc1
  unfold wj_X6_sumOf_116
  generalize pI (pL s (m + 22) 5 w0) m 57 0 = σ0 at hc1 e57 e2 eν M1
  obtain ⟨-, a, e, g1, g2, g3, g4⟩ := M1.1.2.1 i y hi
  have g3 : e ≤ aK R := g3
  rw [show 4 * 0 + i = i by omega] at g1 g2
  have lt := g4.lt
  obtain ⟨f, hf⟩ := g4
  have hf' : Seg (fun i => gI σ0 (m + 17) i) (fun i => gI σ0 (m + 18) i) (fun i => gI σ0 (m + 19) i) f a e y.2 := hf.cg (fun j _ _ => by unfold kN kP kO; rw [show 64 * 0 + j = j by omega]; exact ⟨rfl, rfl, rfl⟩)
  refine ⟨nat_v (by omega) (by omega), fun v hv => ?_⟩
  rw [nat_c (by omega), g1] at hv
  subst hv
  refine loop_of (by omega) (by omega) g2 (by omega) (e - a) a σ0 (by omega) Ch.rf (seg_wp eν f hf' (by omega) Ch.rf (Or.inl e57) (fun σ' hk => ?_))
  obtain ⟨k1, k2, k3, k4, k5⟩ := hk
  have c9 : Ch (SMq m) σ σ' := hc.tr (hc1.tr (k1.up (fun a k q => SV_SMq q)))
  have c2 : gI σ' m 2 = gI σ m 2 := by rw [k1.gi (by unfold SV; omega)]; exact e2
  refine ⟨k1, fun g => ?_, fun g => ?_⟩
  · refine hQ _ _ c9 c2 (fun q hq => ?_) (fun hn => absurd g ((k5 e57).2 hn))
    obtain ⟨a1, a2, a3⟩ := (k5 e57).1 q hq
    exact ⟨a3, a2, a1⟩
  · exact hQ _ _ c9 c2 (fun q hq => absurd ((k5 e57).1 q hq).1 g) (fun hn => ⟨rfl, g⟩)
theorem m_names {m i : Nat} {σ s : Hp} {R : RlA} {y : FeastA} {d : Int64} {x4 : Int32} {Q : Int64 → Hp → Prop} (hM : MKr m s R) (hk : ROk R) (hi : (aF R)[i]? = some y) (hc : Ch (SMq m) σ s) (h2 : gI s m 2 = gI σ m 2) (h0 : gL s (m + 22) 0 = nuS R d 0) (h1 : gL s (m + 22) 1 = nuS R d 1) (hn : x4 = 0 → nuS R d 5 = 0) (hy : ¬ x4 = 0 → ∃ x, (aL R)[0]? = some x ∧ yrA x d ≠ -1 ∧ gL s m 53 = yrA x d) (hQ : SmQ m σ (y.2 (nuS R d)) Q) : lp (lb_X6_sumOf_64 m (Int32.ofNat i) d x4 Q) (0, s) := by
  refine ⟨4, ?_⟩
  have st : ∀ (s : Hp) (k : Nat) (v : Int64), MKr m s R → Ch (SMq m) σ s → gI s m 2 = gI σ m 2 → MKr m (pL s (m + 22) k v) R ∧ Ch (SMq m) σ (pL s (m + 22) k v) ∧ gI (pL s (m + 22) k v) m 2 = gI σ m 2 := fun s k v a b c => ⟨a.ch (Ch.rf.l (Or.inr (Or.inl rfl))), b.l (Or.inr (Or.inl rfl)), c⟩
  show (_ → _) ∧ (_ → _)
  refine cF (by decide) ⟨(m_rnd hM hk d 0).1, nat_v (p := 2) (by omega) (by omega), ?_⟩
  rw [(m_rnd hM hk d 0).2, show ((2 : Int32) + 0).toNatClampNeg = 2 from rfl, show (0 : Int32) + 1 = 1 from rfl, show skR (aS R) d 0 = skW (aS R) d from rfl]
  obtain ⟨a1, a2, a3⟩ := st s 2 (skW (aS R) d).toInt64 hM hc h2
  have b0 : gL (pL s (m + 22) 2 (skW (aS R) d).toInt64) (m + 22) 0 = nuS R d 0 := by rw [gL_pL, if_neg (by omega)]; exact h0
  have b1 : gL (pL s (m + 22) 2 (skW (aS R) d).toInt64) (m + 22) 1 = nuS R d 1 := by rw [gL_pL, if_neg (by omega)]; exact h1
  have b2 : gL (pL s (m + 22) 2 (skW (aS R) d).toInt64) (m + 22) 2 = nuS R d 2 := by rw [gL_pL, if_pos ⟨rfl, rfl⟩]; rfl
  have b53 : gL (pL s (m + 22) 2 (skW (aS R) d).toInt64) m 53 = gL s m 53 := by rw [gL_pL, if_neg (by omega)]
  rw [← b53] at hy
  generalize pL s (m + 22) 2 (skW (aS R) d).toInt64 = s1 at a1 a2 a3 b0 b1 b2 hy
  show (_ → _) ∧ (_ → _)
  refine cF (by decide) ⟨(m_rnd a1 hk d 1).1, nat_v (p := 3) (by omega) (by omega), ?_⟩
  rw [(m_rnd a1 hk d 1).2, show ((2 : Int32) + 1).toNatClampNeg = 3 from rfl, show (1 : Int32) + 1 = 2 from rfl, show skR (aS R) d 1 = skM (aS R) d from rfl]
  obtain ⟨a4, a5, a6⟩ := st s1 3 (skM (aS R) d).toInt64 a1 a2 a3
  have d0 : gL (pL s1 (m + 22) 3 (skM (aS R) d).toInt64) (m + 22) 0 = nuS R d 0 := by rw [gL_pL, if_neg (by omega)]; exact b0
  have d1 : gL (pL s1 (m + 22) 3 (skM (aS R) d).toInt64) (m + 22) 1 = nuS R d 1 := by rw [gL_pL, if_neg (by omega)]; exact b1
  have d2 : gL (pL s1 (m + 22) 3 (skM (aS R) d).toInt64) (m + 22) 2 = nuS R d 2 := by rw [gL_pL, if_neg (by omega)]; exact b2
  have d3 : gL (pL s1 (m + 22) 3 (skM (aS R) d).toInt64) (m + 22) 3 = nuS R d 3 := by rw [gL_pL, if_pos ⟨rfl, rfl⟩]; rfl
  have d53 : gL (pL s1 (m + 22) 3 (skM (aS R) d).toInt64) m 53 = gL s1 m 53 := by rw [gL_pL, if_neg (by omega)]
  rw [← d53] at hy
  generalize pL s1 (m + 22) 3 (skM (aS R) d).toInt64 = s2 at a4 a5 a6 d0 d1 d2 d3 hy
  show (_ → _) ∧ (_ → _)
  refine cF (by decide) ⟨(m_rnd a4 hk d 2).1, nat_v (p := 4) (by omega) (by omega), ?_⟩
  rw [(m_rnd a4 hk d 2).2, show ((2 : Int32) + 2).toNatClampNeg = 4 from rfl, show (2 : Int32) + 1 = 3 from rfl, show skR (aS R) d 2 = skN (aS R) d from rfl]
  obtain ⟨a7, a8, a9⟩ := st s2 4 (skN (aS R) d).toInt64 a4 a5 a6
  have c0 : gL (pL s2 (m + 22) 4 (skN (aS R) d).toInt64) (m + 22) 0 = nuS R d 0 := by rw [gL_pL, if_neg (by omega)]; exact d0
  have c1 : gL (pL s2 (m + 22) 4 (skN (aS R) d).toInt64) (m + 22) 1 = nuS R d 1 := by rw [gL_pL, if_neg (by omega)]; exact d1
  have c2 : gL (pL s2 (m + 22) 4 (skN (aS R) d).toInt64) (m + 22) 2 = nuS R d 2 := by rw [gL_pL, if_neg (by omega)]; exact d2
  have c3 : gL (pL s2 (m + 22) 4 (skN (aS R) d).toInt64) (m + 22) 3 = nuS R d 3 := by rw [gL_pL, if_neg (by omega)]; exact d3
  have c4 : gL (pL s2 (m + 22) 4 (skN (aS R) d).toInt64) (m + 22) 4 = nuS R d 4 := by rw [gL_pL, if_pos ⟨rfl, rfl⟩]; rfl
  have c53 : gL (pL s2 (m + 22) 4 (skN (aS R) d).toInt64) m 53 = gL s2 m 53 := by rw [gL_pL, if_neg (by omega)]
  rw [← c53] at hy
  generalize pL s2 (m + 22) 4 (skN (aS R) d).toInt64 = s3 at a7 a8 a9 c0 c1 c2 c3 c4 hy
  have hν : ∀ j, j < 5 → gL s3 (m + 22) j = nuS R d j := fun j hj => by
    have : j = 0 ∨ j = 1 ∨ j = 2 ∨ j = 3 ∨ j = 4 := by omega
    rcases this with rfl | rfl | rfl | rfl | rfl
    · exact c0
    · exact c1
    · exact c2
    · exact c3
    · exact c4
  show (_ → _) ∧ (_ → _)
  refine cT (by decide) ⟨fun z => m_tail a7 hi a8 a9 hν (hn z).symm hQ, fun z => ?_⟩
  obtain ⟨x, hx, yx, ey⟩ := hy z
  have dd : MDo m s3 0 x.2.1 x.2.2.1 x.2.2.2 := m_landAt a7 hx
  rw [ey]
  refine ⟨om_len dd _, m_tail a7 hi a8 a9 hν ?_ hQ⟩
  rw [fm_len dd]
  unfold nuS
  rw [hx]
  simp [yx]
theorem m_sumOf {m i : Nat} {σ : Hp} {R : RlA} {y : FeastA} {d : Int64} {Q : Int64 → Hp → Prop} (hM : MKr m σ R) (hk : ROk R) (hi : (aF R)[i]? = some y) (hd : cOk d) (hQ : SmQ m σ (y.2 (nuS R d)) Q) : wp_X6_sumOf m σ (Int32.ofNat i) d Q := by
  have zero : ∀ s, MKr m s R → Ch (SMq m) σ s → gI s m 2 = gI σ m 2 → nuS R d 0 = 0 → nuS R d 1 = 0 → nuS R d 5 = 0 → wj_X6_sumOf_20 m s (Int32.ofNat i) d Q := fun s a b c n0 n1 n5 => by
    refine cT rfl (cT rfl (m_names (s := pL (pL s (m + 22) 0 0) (m + 22) 1 0) (a.ch ((Ch.rf.l (Or.inr (Or.inl rfl))).l (Or.inr (Or.inl rfl)))) hk hi ((b.l (Or.inr (Or.inl rfl))).l (Or.inr (Or.inl rfl))) c ?_ ?_ (fun _ => n5) (fun z => absurd rfl z) hQ))
    · rw [gL_pL, if_neg (by omega), gL_pL, if_pos ⟨rfl, rfl⟩, n0]
    · rw [gL_pL, if_pos ⟨rfl, rfl⟩, n1]
  unfold wp_X6_sumOf
  rw [m_lands hM]
  refine ⟨fun hl => ?_, fun hl => ?_⟩
  · have e : (aL R)[0]? = none := by rw [hl]; rfl
    exact zero σ hM Ch.rf rfl (by unfold nuS; rw [e]; simp) (by unfold nuS; rw [e]; simp) (by unfold nuS; rw [e]; simp)
  · cases hl' : aL R with
    | nil => exact absurd hl' hl
    | cons x l =>
      have hx : (aL R)[0]? = some x := by rw [hl']; rfl
      have dd : MDo m σ 0 x.2.1 x.2.2.1 x.2.2.2 := m_landAt hM hx
      refine wp_dateA dd (hk.1 x (List.mem_of_getElem? hx)) hd (fun e s ds => cT rfl (zero s (hM.ch ds.chq) ds.chq ((DS.tr ds (Or.inl rfl)).gi (by omega)) (by unfold nuS; rw [hx]; simp [e]) (by unfold nuS; rw [hx]; simp [e]) (by unfold nuS; rw [hx]; simp [e]))) (fun e s ds s53 s54 => cF (by decide) (cF (by decide) (cF (by decide) ?_)))
      refine m_names (s := pL (pL s (m + 22) 0 (gL s m 54)) (m + 22) 1 (gL s m 53)) ((hM.ch ds.chq).ch ((Ch.rf.l (Or.inr (Or.inl rfl))).l (Or.inr (Or.inl rfl)))) hk hi ((ds.chq.l (Or.inr (Or.inl rfl))).l (Or.inr (Or.inl rfl))) ((DS.tr ds (Or.inl rfl)).gi (by omega)) ?_ ?_ (fun z => absurd z (by decide)) (fun _ => ⟨x, hx, e, ?_⟩) hQ
      · rw [gL_pL, if_neg (by omega), gL_pL, if_pos ⟨rfl, rfl⟩, s54]
        unfold nuS
        rw [hx]
        simp [e]
      · rw [gL_pL, if_pos ⟨rfl, rfl⟩, s53]
        unfold nuS
        rw [hx]
        simp [e]
      · rw [gL_pL, if_neg (by omega), gL_pL, if_neg (by omega)]; exact s53
