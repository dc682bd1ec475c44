set_option maxRecDepth 100000
/-! WHAT A SUM ANSWERS: the knots -/
def SV (m a k : Nat) : Prop := (a = m ∧ k = 57) ∨ a = m + 23
def S57 (m a k : Nat) : Prop := a = m ∧ k = 57
/-- an answer of a knot: r, or an error -/
def KA (m : Nat) (σ σ' : Hp) (v : Option Int64) (r : Int64) : Prop := Ch (S57 m) σ σ' ∧ (gI σ' m 57 = 0 ∨ gI σ' m 57 = 1) ∧ (¬ gI σ m 57 = 0 → ¬ gI σ' m 57 = 0) ∧ (gI σ m 57 = 0 → (∀ q, v = some q → gI σ' m 57 = 0 ∧ r = q) ∧ (v = none → ¬ gI σ' m 57 = 0))
theorem KA.pure {m : Nat} {σ : Hp} {v : Option Int64} {r : Int64} (h57 : gI σ m 57 = 0 ∨ gI σ m 57 = 1) (h : v = some r) : KA m σ σ v r := ⟨Ch.rf, h57, id, fun e => ⟨fun q hq => ⟨e, by rw [h] at hq; cases hq; rfl⟩, fun hn => (by rw [h] at hn; cases hn)⟩⟩
theorem KA.err {m : Nat} {σ : Hp} {v : Option Int64} {r : Int64} (h : gI σ m 57 = 0 → v = none) : KA m σ (pI σ m 57 1) v r := by
  have e : gI (pI σ m 57 1) m 57 = 1 := by rw [gI_pI, if_pos ⟨rfl, rfl⟩]
  refine ⟨Ch.rf.i ⟨rfl, rfl⟩, Or.inr e, fun _ => (by rw [e]; decide), fun h0 => ⟨fun q hq => (by rw [h h0] at hq; cases hq), fun _ => (by rw [e]; decide)⟩⟩
theorem KA.ok {m : Nat} {σ : Hp} {v : Option Int64} {r : Int64} (h0 : gI σ m 57 = 0) (h : v = some r) : KA m σ (pI σ m 57 0) v r := by
  have e : gI (pI σ m 57 0) m 57 = 0 := by rw [gI_pI, if_pos ⟨rfl, rfl⟩]
  exact ⟨Ch.rf.i ⟨rfl, rfl⟩, Or.inl e, fun n => absurd h0 n, fun _ => ⟨fun q hq => ⟨e, by rw [h] at hq; cases hq; rfl⟩, fun hn => (by rw [h] at hn; cases hn)⟩⟩
theorem m_bounded {m : Nat} {σ : Hp} {y : Int64} {Q : Int64 → Hp → Prop} (hQ : ∀ r σ', KA m σ σ' (vSure y) r → Q r σ') : ∀ (r : Int64) (s : Hp), (r, s) = f_X6_bounded m σ y → Q r s := by
  intro r s e
  unfold f_X6_bounded fj_X6_bounded_24 at e
  by_cases c : gI σ m 57 = 0
  · rw [if_pos c] at e
    by_cases c1 : 1000000000000 < y
    · rw [if_pos c1] at e; cases e
      exact hQ _ _ (KA.err (fun _ => by simp [vSure, c1]))
    · rw [if_neg c1] at e
      by_cases c2 : -1000000000000 ≤ y
      · rw [if_pos c2] at e; cases e
        exact hQ _ _ (KA.ok c (by simp [vSure, c1, c2]))
      · rw [if_neg c2] at e; cases e
        exact hQ _ _ (KA.err (fun _ => by simp [vSure, c2]))
  · rw [if_neg c] at e; cases e
    exact hQ _ _ (KA.err (fun h => absurd h c))
theorem n0 {x : Int64} (h : ¬ x = 0) : ¬ -x = 0 := fun q => h (by grind)
theorem ok_times {m : Nat} {σ : Hp} {x y : Int64} : ok_X6_times m σ x y := by
  have k69 : ∀ w0 : Int32, w0 = 0 ∨ w0 = 1 → oj_X6_times_69 m σ x y w0 := fun w0 h => h
  have k49 : ∀ w0 : Int32, oj_X6_times_49 m σ x y w0 := fun w0 => ⟨fun _ => ⟨fun _ => Or.inl rfl, fun _ => Or.inr rfl⟩, fun _ => Or.inr rfl⟩
  have k39 : ∀ a b c : Int64, ¬ a = 0 → oj_X6_times_39 m σ x y a b c := fun a b c h => ⟨h, fun _ => k49 _, fun _ => k49 _⟩
  refine ⟨fun _ => k49 _, fun h => ⟨fun _ => k49 _, fun _ => ⟨fun _ => ⟨fun _ => k39 _ _ _ h, fun _ => k39 _ _ _ (n0 h)⟩, fun _ => ⟨fun _ => k39 _ _ _ h, fun _ => k39 _ _ _ (n0 h)⟩⟩⟩⟩
theorem m_times {m : Nat} {σ : Hp} {x y : Int64} {Q : Int64 → Hp → Prop} (hb : gI σ m 57 = 0 → bd x ∧ bd y) (hQ : ∀ r σ', KA m σ σ' (vTimes x y) r → Q r σ') : ∀ (r : Int64) (s : Hp), (r, s) = f_X6_times m σ x y → Q r s := by
  intro r s e
  have ab : ∀ z : Int64, f_J7_abs z = if 0 ≤ z then z else -z := fun _ => rfl
  have k48 : (r, s) = fj_X6_times_48 m σ x y → (gI σ m 57 = 0 → vTimes x y = some (x * y)) → Q r s := fun e h => by
    unfold fj_X6_times_48 fj_X6_times_49 fj_X6_times_64 fj_X6_times_69 at e
    by_cases c : gI σ m 57 = 0
    · rw [if_pos c, if_pos rfl, if_pos rfl] at e; cases e
      exact hQ _ _ (KA.ok c (h c))
    · rw [if_neg c, if_neg (by decide)] at e; cases e
      exact hQ _ _ (KA.err (fun h => absurd h c))
  have k49 : (r, s) = fj_X6_times_49 m σ x y 1 → (gI σ m 57 = 0 → vTimes x y = none) → Q r s := fun e h => by
    unfold fj_X6_times_49 fj_X6_times_64 fj_X6_times_69 at e
    by_cases c : gI σ m 57 = 0
    · rw [if_pos c, if_neg (by decide), if_neg (by decide)] at e; cases e
      exact hQ _ _ (KA.err h)
    · rw [if_neg c, if_neg (by decide)] at e; cases e
      exact hQ _ _ (KA.err (fun h => absurd h c))
  have k39 : ¬ x = 0 → (r, s) = fj_X6_times_39 m σ x y (f_J7_abs x) 1000000000000 (f_J7_abs y) → Q r s := fun hx e => by
    unfold fj_X6_times_39 at e
    by_cases c : f_J7_abs y ≤ 1000000000000 / f_J7_abs x
    · rw [if_pos c] at e
      exact k48 e (fun _ => by simp [vTimes, hx, c])
    · rw [if_neg c] at e
      exact k49 e (fun _ => by simp [vTimes, hx, c])
  unfold f_X6_times at e
  by_cases x0 : x = 0
  · rw [if_pos x0] at e
    exact k48 e (fun _ => by simp [vTimes, x0])
  rw [if_neg x0] at e
  by_cases y0 : y = 0
  · rw [if_pos y0] at e
    refine k48 e (fun h57 => ?_)
    obtain ⟨bx, by'⟩ := hb h57
    have c : f_J7_abs y ≤ 1000000000000 / f_J7_abs x := by
      have ax := abs_i bx
      have xn : x.toInt ≠ 0 := fun q => x0 (by rw [l2_eq, q]; rfl)
      have ed := l3_div (a := 1000000000000) (x := 1000000000000) (by rfl) ax (by omega) (by omega)
      rw [l3_le (abs_i by') ed, y0]
      have := ediv_b (a := 1000000000000) (b := (x.toInt.natAbs : Int)) (by omega) (by omega)
      exact this.1
    simp [vTimes, x0, c]
  rw [if_neg y0] at e
  have k24 : ∀ w0, w0 = f_J7_abs y → (r, s) = fj_X6_times_24 m σ x y w0 → Q r s := fun w0 hw e => by
    unfold fj_X6_times_24 at e
    refine k39 x0 ?_
    rw [ab x, ← hw]
    by_cases c : 0 ≤ x
    · rw [if_pos c] at e ⊢; exact e
    · rw [if_neg c] at e ⊢; exact e
  by_cases c : 0 ≤ y
  · rw [if_pos c] at e
    exact k24 _ (by rw [ab, if_pos c]) e
  · rw [if_neg c] at e
    exact k24 _ (by rw [ab, if_neg c]) e
theorem m_div {m j : Nat} {σ : Hp} {k : Nat} {x y : Int64} {Q : Int64 → Hp → Prop} (hj : j < 64) (hk : k = 14 ∨ k = 15) (hn : gI σ (m + 17) j = Int32.ofNat k) (hQ : ∀ r σ', KA m σ σ' (vTwo k x y) r → Q r σ') : (gI σ m 57 = 0 → (y = 0 → wj_X6_valueOf_243 m σ (Int32.ofNat j) x y Q) ∧ (¬ y = 0 → wj_X6_valueOf_248 m σ (Int32.ofNat j) x y 0 Q)) ∧ (¬ gI σ m 57 = 0 → wj_X6_valueOf_243 m σ (Int32.ofNat j) x y Q) := by
  have k243 : (gI σ m 57 = 0 → vTwo k x y = none) → wj_X6_valueOf_243 m σ (Int32.ofNat j) x y Q := fun h => ⟨Or.inr rfl, cF (by decide) (hQ _ _ (KA.err h))⟩
  refine ⟨fun c => ⟨fun y0 => k243 (fun _ => ?_), fun y0 => ⟨Or.inl rfl, cT rfl ⟨nat_v (by omega) (by omega), ?_⟩⟩⟩, fun c => k243 (fun h => absurd h c)⟩
  · rcases hk with rfl | rfl <;> simp [vTwo, y0]
  · rw [pIo (by omega), nat_c (by omega), hn]
    rcases hk with rfl | rfl
    · exact cT rfl ⟨y0, hQ _ _ (KA.ok c (by simp [vTwo, y0]))⟩
    · exact cF (by decide) ⟨y0, hQ _ _ (KA.ok c (by simp [vTwo, y0]))⟩

theorem cm5 (x y : Int64) : f_X6_compares (Int32.ofNat 5) x y = if y ≤ x then 0 else 1 := by
  unfold f_X6_compares
  rw [if_pos (show Int32.ofNat 5 = 5 from rfl)]
theorem cm6 (x y : Int64) : f_X6_compares (Int32.ofNat 6) x y = if y < x then 0 else 1 := by
  unfold f_X6_compares
  rw [if_neg (by decide), if_pos (show Int32.ofNat 6 = 6 from rfl)]
theorem cm7 (x y : Int64) : f_X6_compares (Int32.ofNat 7) x y = if x = y then 1 else 0 := by
  unfold f_X6_compares
  rw [if_neg (by decide), if_neg (by decide), if_pos (show Int32.ofNat 7 = 7 from rfl)]
theorem cm8 (x y : Int64) : f_X6_compares (Int32.ofNat 8) x y = if x = y then 0 else 1 := by
  unfold f_X6_compares
  rw [if_neg (by decide), if_neg (by decide), if_neg (by decide), if_pos (show Int32.ofNat 8 = 8 from rfl)]
theorem cm9 (x y : Int64) : f_X6_compares (Int32.ofNat 9) x y = if x < y then 0 else 1 := by
  unfold f_X6_compares
  rw [if_neg (by decide), if_neg (by decide), if_neg (by decide), if_neg (by decide), if_pos (show Int32.ofNat 9 = 9 from rfl)]
theorem cm10 (x y : Int64) : f_X6_compares (Int32.ofNat 10) x y = if x ≤ y then 0 else 1 := by
  unfold f_X6_compares
  rw [if_neg (by decide), if_neg (by decide), if_neg (by decide), if_neg (by decide), if_neg (by decide)]
theorem m_two {m j k p q : Nat} {σ : Hp} {x y : Int64} {Q : Int64 → Hp → Prop} (hj : j < 64) (hk : 3 ≤ k ∧ k ≤ 15) (hp : p < 64) (hq : q < 64) (h57 : gI σ m 57 = 0 ∨ gI σ m 57 = 1) (hn : gI σ (m + 17) j = Int32.ofNat k) (h1 : gI σ (m + 18) j = Int32.ofNat p) (h2 : gI σ (m + 19) j = Int32.ofNat q) (vx : gL σ (m + 23) p = x) (vy : gL σ (m + 23) q = y) (hb : gI σ m 57 = 0 → bd x ∧ bd y) (hQ : ∀ r σ', KA m σ σ' (vTwo k x y) r → Q r σ') : wp_X6_valueOf m σ (Int32.ofNat j) Q := by
  have v : vp_in (Int32.ofNat j) 128 := nat_v (by omega) (by omega)
  have vp : vp_in (Int32.ofNat p) 64 := nat_v (by omega) (by omega)
  have vq : vp_in (Int32.ofNat q) 64 := nat_v (by omega) (by omega)
  have hd := fun hk' => m_div (m := m) (σ := σ) (x := x) (y := y) (Q := Q) hj hk' hn hQ
  unfold wp_X6_valueOf
  rw [nat_c (show j ≤ 2147483647 by omega), hn, h1, h2, nat_c (show p ≤ 2147483647 by omega), nat_c (show q ≤ 2147483647 by omega), vx, vy]
  have hP : ∀ r, vTwo k x y = some r → Q r σ := fun r e => hQ r σ (KA.pure h57 e)
  have hk : k = 3 ∨ k = 4 ∨ k = 5 ∨ k = 6 ∨ k = 7 ∨ k = 8 ∨ k = 9 ∨ k = 10 ∨ k = 11 ∨ k = 12 ∨ k = 13 ∨ k = 14 ∨ k = 15 := by omega
  rcases hk with rfl | rfl | rfl | rfl | rfl | rfl | rfl | rfl | rfl | rfl | rfl | rfl | rfl
  · refine ⟨v, cF (by decide) ⟨v, cF (by decide) ⟨v, vp, fun a ea => ⟨v, cF (by decide) ⟨v, vq, fun b eb => ⟨v, ?_⟩⟩⟩⟩⟩⟩
    rw [ea, eb]
    exact cT rfl (⟨fun g => hP _ (by simp [vTwo, vIs, g]), fun g => ⟨fun g2 => hP _ (by simp [vTwo, vIs, g2]), fun g2 => hP _ (by simp [vTwo, vIs, g, g2])⟩⟩)
  · refine ⟨v, cF (by decide) ⟨v, cF (by decide) ⟨v, vp, fun a ea => ⟨v, cF (by decide) ⟨v, vq, fun b eb => ⟨v, ?_⟩⟩⟩⟩⟩⟩
    rw [ea, eb]
    exact cF (by decide) (cT rfl (⟨fun g => ⟨fun g2 => hP _ (by simp [vTwo, vIs, g, g2]), fun g2 => hP _ (by simp [vTwo, vIs, g2])⟩, fun g => hP _ (by simp [vTwo, vIs, g])⟩))
  · refine ⟨v, cF (by decide) ⟨v, cF (by decide) ⟨v, vp, fun a ea => ⟨v, cF (by decide) ⟨v, vq, fun b eb => ⟨v, ?_⟩⟩⟩⟩⟩⟩
    rw [ea, eb]
    exact cF (by decide) (cF (by decide) (cT rfl (⟨v, by
      rw [cm5]
      by_cases g : y ≤ x
      · rw [if_pos g]; exact cT rfl (hP _ (by simp [vTwo, vIs, lt_nle, g]))
      · rw [if_neg g]; exact cF (by decide) (hP _ (by simp [vTwo, vIs, lt_nle, g]))⟩)))
  · refine ⟨v, cF (by decide) ⟨v, cF (by decide) ⟨v, vp, fun a ea => ⟨v, cF (by decide) ⟨v, vq, fun b eb => ⟨v, ?_⟩⟩⟩⟩⟩⟩
    rw [ea, eb]
    exact cF (by decide) (cF (by decide) (cF (by decide) (cT rfl (⟨v, by
      rw [cm6]
      by_cases g : y < x
      · rw [if_pos g]; exact cT rfl (hP _ (by rw [lt_nle] at g; simp [vTwo, vIs, g]))
      · rw [if_neg g]; exact cF (by decide) (hP _ (by rw [lt_nle, Classical.not_not] at g; simp [vTwo, vIs, g]))⟩))))
  · refine ⟨v, cF (by decide) ⟨v, cF (by decide) ⟨v, vp, fun a ea => ⟨v, cF (by decide) ⟨v, vq, fun b eb => ⟨v, ?_⟩⟩⟩⟩⟩⟩
    rw [ea, eb]
    exact cF (by decide) (cF (by decide) (cF (by decide) (cF (by decide) (cT rfl (⟨v, by
      rw [cm7]
      by_cases g : x = y
      · rw [if_pos g]; exact cF (by decide) (hP _ (by simp [vTwo, vIs, g]))
      · rw [if_neg g]; exact cT rfl (hP _ (by simp [vTwo, vIs, g]))⟩)))))
  · refine ⟨v, cF (by decide) ⟨v, cF (by decide) ⟨v, vp, fun a ea => ⟨v, cF (by decide) ⟨v, vq, fun b eb => ⟨v, ?_⟩⟩⟩⟩⟩⟩
    rw [ea, eb]
    exact cF (by decide) (cF (by decide) (cF (by decide) (cF (by decide) (cF (by decide) (cT rfl (⟨v, by
      rw [cm8]
      by_cases g : x = y
      · rw [if_pos g]; exact cT rfl (hP _ (by simp [vTwo, vIs, g]))
      · rw [if_neg g]; exact cF (by decide) (hP _ (by simp [vTwo, vIs, g]))⟩))))))
  · refine ⟨v, cF (by decide) ⟨v, cF (by decide) ⟨v, vp, fun a ea => ⟨v, cF (by decide) ⟨v, vq, fun b eb => ⟨v, ?_⟩⟩⟩⟩⟩⟩
    rw [ea, eb]
    exact cF (by decide) (cF (by decide) (cF (by decide) (cF (by decide) (cF (by decide) (cF (by decide) (cT rfl (⟨v, by
      rw [cm9]
      by_cases g : x < y
      · rw [if_pos g]; exact cT rfl (hP _ (by rw [lt_nle] at g; simp [vTwo, vIs, g]))
      · rw [if_neg g]; exact cF (by decide) (hP _ (by rw [lt_nle, Classical.not_not] at g; simp [vTwo, vIs, g]))⟩)))))))
  · refine ⟨v, cF (by decide) ⟨v, cF (by decide) ⟨v, vp, fun a ea => ⟨v, cF (by decide) ⟨v, vq, fun b eb => ⟨v, ?_⟩⟩⟩⟩⟩⟩
    rw [ea, eb]
    exact cF (by decide) (cF (by decide) (cF (by decide) (cF (by decide) (cF (by decide) (cF (by decide) (cF (by decide) (cT rfl (⟨v, by
      rw [cm10]
      by_cases g : x ≤ y
      · rw [if_pos g]; exact cT rfl (hP _ (by simp [vTwo, vIs, lt_nle, g]))
      · rw [if_neg g]; exact cF (by decide) (hP _ (by simp [vTwo, vIs, lt_nle, g]))⟩))))))))
  · refine ⟨v, cF (by decide) ⟨v, cF (by decide) ⟨v, vp, fun a ea => ⟨v, cF (by decide) ⟨v, vq, fun b eb => ⟨v, ?_⟩⟩⟩⟩⟩⟩
    rw [ea, eb]
    exact cF (by decide) (cF (by decide) (cF (by decide) (cF (by decide) (cF (by decide) (cF (by decide) (cF (by decide) (cF (by decide) (cT rfl (m_bounded hQ)))))))))
  · refine ⟨v, cF (by decide) ⟨v, cF (by decide) ⟨v, vp, fun a ea => ⟨v, cF (by decide) ⟨v, vq, fun b eb => ⟨v, ?_⟩⟩⟩⟩⟩⟩
    rw [ea, eb]
    exact cF (by decide) (cF (by decide) (cF (by decide) (cF (by decide) (cF (by decide) (cF (by decide) (cF (by decide) (cF (by decide) (cF (by decide) (cT rfl (m_bounded hQ))))))))))
  · refine ⟨v, cF (by decide) ⟨v, cF (by decide) ⟨v, vp, fun a ea => ⟨v, cF (by decide) ⟨v, vq, fun b eb => ⟨v, ?_⟩⟩⟩⟩⟩⟩
    rw [ea, eb]
    exact cF (by decide) (cF (by decide) (cF (by decide) (cF (by decide) (cF (by decide) (cF (by decide) (cF (by decide) (cF (by decide) (cF (by decide) (cF (by decide) (cT rfl (⟨ok_times, m_times hb hQ⟩)))))))))))
  · refine ⟨v, cF (by decide) ⟨v, cF (by decide) ⟨v, vp, fun a ea => ⟨v, cF (by decide) ⟨v, vq, fun b eb => ⟨v, ?_⟩⟩⟩⟩⟩⟩
    rw [ea, eb]
    exact cF (by decide) (cF (by decide) (cF (by decide) (cF (by decide) (cF (by decide) (cF (by decide) (cF (by decide) (cF (by decide) (cF (by decide) (cF (by decide) (cF (by decide) (cT rfl (hd (Or.inl rfl)))))))))))))
  · refine ⟨v, cF (by decide) ⟨v, cF (by decide) ⟨v, vp, fun a ea => ⟨v, cF (by decide) ⟨v, vq, fun b eb => ⟨v, ?_⟩⟩⟩⟩⟩⟩
    rw [ea, eb]
    exact cF (by decide) (cF (by decide) (cF (by decide) (cF (by decide) (cF (by decide) (cF (by decide) (cF (by decide) (cF (by decide) (cF (by decide) (cF (by decide) (cF (by decide) (cF (by decide) (cT rfl (hd (Or.inr rfl))))))))))))))
def LoopN (m : Nat) (σ0 : Hp) : Nat → Nat → Hp → (Hp → Prop) → Prop
  | 0, _, σ, P => P σ
  | n + 1, k, σ, P => Ch (SV m) σ0 σ ∧ ∀ Q : Int64 → Hp → Prop, (∀ r s, LoopN m σ0 n (k + 1) (pL s (m + 23) k r) P → Q r s) → wp_X6_valueOf m σ (Int32.ofNat k) Q
theorem LoopN.add {m : Nat} {σ0 : Hp} {P : Hp → Prop} : ∀ (n1 : Nat) {n2 k k2 : Nat} {σ : Hp}, k2 = k + n1 → LoopN m σ0 n1 k σ (fun σ' => LoopN m σ0 n2 k2 σ' P) = LoopN m σ0 (n1 + n2) k σ P := by
  intro n1
  induction n1 with
  | zero => intro n2 k k2 σ e; rw [Nat.zero_add, e]; rfl
  | succ n1 ih =>
    intro n2 k k2 σ e
    rw [show n1 + 1 + n2 = (n1 + n2) + 1 by omega]
    have e3 : ∀ r s, LoopN m σ0 n1 (k + 1) (pL s (m + 23) k r) (fun σ' => LoopN m σ0 n2 k2 σ' P) = LoopN m σ0 (n1 + n2) (k + 1) (pL s (m + 23) k r) P := fun r s => ih (by omega)
    show (_ ∧ ∀ Q : Int64 → Hp → Prop, (∀ r s, LoopN m σ0 n1 (k + 1) (pL s (m + 23) k r) (fun σ' => LoopN m σ0 n2 k2 σ' P) → Q r s) → wp_X6_valueOf m σ (Int32.ofNat k) Q) = (_ ∧ ∀ Q : Int64 → Hp → Prop, (∀ r s, LoopN m σ0 (n1 + n2) (k + 1) (pL s (m + 23) k r) P → Q r s) → wp_X6_valueOf m σ (Int32.ofNat k) Q)
    simp only [e3]
theorem S57_SV {m a k : Nat} (h : S57 m a k) : SV m a k := Or.inl h
/-- what a row of knots leaves -/
def KE (m a e : Nat) (σ0 σ σ' : Hp) (v : Option Int64) : Prop := Ch (SV m) σ0 σ' ∧ (gI σ' m 57 = 0 ∨ gI σ' m 57 = 1) ∧ (∀ j, j < a → gL σ' (m + 23) j = gL σ (m + 23) j) ∧ (¬ gI σ m 57 = 0 → ¬ gI σ' m 57 = 0) ∧ (gI σ m 57 = 0 → (∀ r, v = some r → gI σ' m 57 = 0 ∧ gL σ' (m + 23) (e - 1) = r ∧ bd r) ∧ (v = none → ¬ gI σ' m 57 = 0))
theorem seg_wp {m : Nat} {σ0 : Hp} {ν : Nat → Int64} (hν : ∀ i, i < 6 → gL σ0 (m + 22) i = ν i) : ∀ (f : Nat) {a e : Nat} {v : Ev} {σ : Hp} {P : Hp → Prop}, Seg (fun i => gI σ0 (m + 17) i) (fun i => gI σ0 (m + 18) i) (fun i => gI σ0 (m + 19) i) f a e v → e ≤ 64 → Ch (SV m) σ0 σ → (gI σ m 57 = 0 ∨ gI σ m 57 = 1) → (∀ σ', KE m a e σ0 σ σ' (v ν) → P σ') → LoopN m σ0 (e - a) a σ P := by
  intro f
  induction f with
  | zero => intro a e v σ P h; exact h.elim
  | succ f ih =>
    intro a e v σ P h he hc h57 hP
    obtain ⟨hae, h⟩ := h
    -- one knot at the end, its answer laid
    have last : ∀ (σ1 : Hp) (u : Option Int64), Ch (SV m) σ0 σ1 → (∀ j, j < a → gL σ1 (m + 23) j = gL σ (m + 23) j) → (¬ gI σ m 57 = 0 → ¬ gI σ1 m 57 = 0) → (gI σ m 57 = 0 → gI σ1 m 57 = 0 → u = v ν) → (gI σ m 57 = 0 → ¬ gI σ1 m 57 = 0 → v ν = none) → (∀ r, u = some r → bd r) → ∀ r s, KA m σ1 s u r → P (pL s (m + 23) (e - 1) r) := fun σ1 u c1 c2 c3 c4 c5 c6 r s hk => by
      obtain ⟨k1, k2, k3, k4⟩ := hk
      refine hP _ ⟨(c1.tr (k1.up (fun a k q => S57_SV q))).l (Or.inr rfl), k2, fun j hj => ?_, fun n => k3 (c3 n), fun h0 => ⟨fun q hq => ?_, fun hn => ?_⟩⟩
      · rw [gL_pL, if_neg (by omega), k1.gl (by unfold S57; omega)]; exact c2 j hj
      · by_cases g : gI σ1 m 57 = 0
        · have eu := c4 h0 g
          obtain ⟨a1, a2⟩ := (k4 g).1 q (by rw [eu, hq])
          exact ⟨a1, by rw [gL_pL, if_pos ⟨rfl, rfl⟩]; exact a2, c6 q (by rw [eu, hq])⟩
        · rw [c5 h0 g] at hq; cases hq
      · by_cases g : gI σ1 m 57 = 0
        · exact (k4 g).2 (by rw [c4 h0 g, hn])
        · exact k3 g
    have fr : ∀ {σ1 : Hp}, Ch (SV m) σ0 σ1 → ∀ r i, r = 17 ∨ r = 18 ∨ r = 19 → gI σ1 (m + r) i = gI σ0 (m + r) i := fun c r i hr => c.gi (by unfold SV; omega)
    have vj : vp_in (Int32.ofNat (e - 1)) 128 := nat_v (by omega) (by omega)
    rcases h with ⟨g1, g2, rfl⟩ | ⟨g1, g2, i, hi, g3, rfl⟩ | ⟨g1, g2, u, hu, rfl⟩ | ⟨k, s, u, u', k1, k2, g1, g2, g3, hu, hu', rfl⟩
    · obtain rfl : a = e - 1 := by omega
      rw [show e - (e - 1) = 0 + 1 by omega]
      refine ⟨hc, fun Q hQ' => ?_⟩
      unfold wp_X6_valueOf
      have g1 : gI σ0 (m + 17) (e - 1) = 0 := g1
      rw [nat_c (by omega), fr hc 17 _ (by omega), fr hc 18 _ (by omega), g1]
      refine ⟨vj, cT rfl ⟨vj, ?_⟩⟩
      refine hQ' _ _ (last σ (some _) hc (fun _ _ => rfl) id (fun _ _ => rfl) (fun q w => absurd q w) (fun r hr => ?_) _ _ (KA.pure h57 rfl))
      cases hr
      show bd (gI σ0 (m + 18) (e - 1)).toInt64
      unfold bd
      have := i2_b (gI σ0 (m + 18) (e - 1))
      rw [i2_l]
      omega
    · obtain rfl : a = e - 1 := by omega
      rw [show e - (e - 1) = 0 + 1 by omega]
      refine ⟨hc, fun Q hQ' => ?_⟩
      unfold wp_X6_valueOf
      have g1 : gI σ0 (m + 17) (e - 1) = 1 := g1
      have g3 : gI σ0 (m + 18) (e - 1) = Int32.ofNat i := g3
      rw [nat_c (show e - 1 ≤ 2147483647 by omega), fr hc 17 _ (by omega), fr hc 18 _ (by omega), g1, g3, nat_c (show i ≤ 2147483647 by omega), hc.gl (show ¬ SV m (m + 22) i by unfold SV; omega), hν i hi]
      refine ⟨vj, cF (by decide) ⟨vj, cT rfl ⟨vj, nat_v (by omega) (by omega), m_bounded (fun r s hk => ?_)⟩⟩⟩
      exact hQ' _ _ (last σ (vSure (ν i)) hc (fun _ _ => rfl) id (fun _ _ => rfl) (fun q w => absurd q w) (fun r hr => bd_sure hr) _ _ hk)
    · have lt := hu.lt
      rw [show e - a = (e - 1 - a) + 1 by omega, ← LoopN.add (e - 1 - a) (k2 := e - 1) (by omega)]
      refine ih hu (by omega) hc h57 (fun σ1 hk1 => ?_)
      obtain ⟨c1, c2, c3, c4, c5⟩ := hk1
      refine ⟨c1, fun Q hQ' => ?_⟩
      unfold wp_X6_valueOf
      have g1 : gI σ0 (m + 17) (e - 1) = 2 := g1
      have g2 : gI σ0 (m + 18) (e - 1) = Int32.ofNat (e - 2) := g2
      rw [nat_c (show e - 1 ≤ 2147483647 by omega), fr c1 17 _ (by omega), fr c1 18 _ (by omega), g1, g2, nat_c (show e - 2 ≤ 2147483647 by omega)]
      refine ⟨vj, cF (by decide) ⟨vj, cF (by decide) ⟨vj, nat_v (by omega) (by omega), fun x ex => ⟨vj, cT rfl ?_⟩⟩⟩⟩
      have fin : ∀ r, r = (if x = 0 then 1 else 0) → P (pL σ1 (m + 23) (e - 1) r) := fun r er => by
        refine last σ1 (some r) c1 c3 c4 (fun h0 h1 => ?_) (fun h0 h1 => ?_) (fun q hq => ?_) _ _ (KA.pure c2 rfl)
        · cases hu' : u ν with
          | none => exact absurd h1 ((c5 h0).2 hu')
          | some y =>
            have := ((c5 h0).1 y hu').2.1
            rw [show e - 1 - 1 = e - 2 by omega, ← ex] at this
            subst this
            show some r = eNot u ν
            unfold eNot
            rw [hu', er]
        · cases hu' : u ν with
          | none => show eNot u ν = none; unfold eNot; rw [hu']
          | some y => exact absurd ((c5 h0).1 y hu').1 h1
        · cases hq
          rw [er]
          unfold bd
          split <;> decide
      exact ⟨fun x0 => hQ' _ _ (fin _ (by rw [if_pos x0])), fun x0 => hQ' _ _ (fin _ (by rw [if_neg x0]))⟩
    · have lt := hu.lt
      have lt' := hu'.lt
      rw [show e - a = (s - a) + ((e - 1 - s) + 1) by omega, ← LoopN.add (s - a) (k2 := s) (by omega)]
      refine ih hu (by omega) hc h57 (fun σ1 hk1 => ?_)
      obtain ⟨c1, c2, c3, c4, c5⟩ := hk1
      rw [← LoopN.add (e - 1 - s) (k2 := e - 1) (by omega)]
      refine ih hu' (by omega) c1 c2 (fun σ2 hk2 => ?_)
      obtain ⟨d1, d2, d3, d4, d5⟩ := hk2
      refine ⟨d1, fun Q hQ' => ?_⟩
      have g1 : gI σ0 (m + 17) (e - 1) = Int32.ofNat k := g1
      have g2 : gI σ0 (m + 18) (e - 1) = Int32.ofNat (s - 1) := g2
      have g3 : gI σ0 (m + 19) (e - 1) = Int32.ofNat (e - 2) := g3
      have all : gI σ m 57 = 0 → gI σ2 m 57 = 0 → ∃ x y, u ν = some x ∧ u' ν = some y ∧ gL σ2 (m + 23) (s - 1) = x ∧ gL σ2 (m + 23) (e - 2) = y ∧ bd x ∧ bd y := fun h0 h2 => by
        have h1 : gI σ1 m 57 = 0 := Classical.byContradiction (fun q => d4 q h2)
        cases hx : u ν with
        | none => exact absurd h1 ((c5 h0).2 hx)
        | some x =>
          cases hy : u' ν with
          | none => exact absurd h2 ((d5 h1).2 hy)
          | some y =>
            obtain ⟨x1, x2, x3⟩ := (c5 h0).1 x hx
            obtain ⟨y1, y2, y3⟩ := (d5 h1).1 y hy
            exact ⟨x, y, rfl, rfl, by rw [d3 _ (by omega)]; exact x2, by rw [show e - 2 = e - 1 - 1 by omega]; exact y2, x3, y3⟩
      by_cases h0 : gI σ m 57 = 0
      · refine m_two (p := s - 1) (q := e - 2) (x := gL σ2 (m + 23) (s - 1)) (y := gL σ2 (m + 23) (e - 2)) (by omega) ⟨k1, k2⟩ (by omega) (by omega) d2 (by rw [fr d1 17 _ (by omega)]; exact g1) (by rw [fr d1 18 _ (by omega)]; exact g2) (by rw [fr d1 19 _ (by omega)]; exact g3) rfl rfl (fun h2 => ?_) (fun r t hk => ?_)
        · obtain ⟨x, y, -, -, e1, e2, b1, b2⟩ := all h0 h2
          rw [e1, e2]
          exact ⟨b1, b2⟩
        · by_cases h2 : gI σ2 m 57 = 0
          · obtain ⟨x, y, f1, f2, e1, e2, b1, b2⟩ := all h0 h2
            rw [e1, e2] at hk
            refine hQ' r t (last σ2 (vTwo k x y) d1 (fun j hj => ?_) (fun n => absurd h0 n) (fun _ _ => ?_) (fun _ n => absurd h2 n) (fun r hr => bd_two b1 b2 hr) r t hk)
            · rw [d3 _ (by omega)]; exact c3 j hj
            · show _ = eTwo k u u' ν
              unfold eTwo
              rw [f1]
              simp only [f2]
          · have hk' : KA m σ2 t none r := ⟨hk.1, hk.2.1, hk.2.2.1, fun z => absurd z h2⟩
            refine hQ' r t (last σ2 none d1 (fun j hj => ?_) (fun n => absurd h0 n) (fun _ z => absurd z h2) (fun _ _ => ?_) (fun r hr => (by cases hr)) r t hk')
            · rw [d3 _ (by omega)]; exact c3 j hj
            · show eTwo k u u' ν = none
              unfold eTwo
              cases hx : u ν with
              | none => rfl
              | some x =>
                cases hy : u' ν with
                | none => rfl
                | some y =>
                  exact absurd ((d5 ((c5 h0).1 x hx).1).1 y hy).1 h2
      · have h2 := d4 (c4 h0)
        refine m_two (p := s - 1) (q := e - 2) (x := gL σ2 (m + 23) (s - 1)) (y := gL σ2 (m + 23) (e - 2)) (by omega) ⟨k1, k2⟩ (by omega) (by omega) d2 (by rw [fr d1 17 _ (by omega)]; exact g1) (by rw [fr d1 18 _ (by omega)]; exact g2) (by rw [fr d1 19 _ (by omega)]; exact g3) rfl rfl (fun z => absurd z h2) (fun r t hk => ?_)
        have hk' : KA m σ2 t none r := ⟨hk.1, hk.2.1, hk.2.2.1, fun z => absurd z h2⟩
        refine hQ' r t (last σ2 none d1 (fun j hj => ?_) (fun _ => h2) (fun z => absurd z h0) (fun z => absurd z h0) (fun r hr => (by cases hr)) r t hk')
        rw [d3 _ (by omega)]; exact c3 j hj
