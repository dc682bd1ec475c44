set_option maxRecDepth 100000
theorem msign {m : Nat} {σ : Hp} {t : Tok} (h : TKM m σ t) (c : Int32) : f_X6_isSign m σ c = 0 ↔ tIsSign t c = false := by
  unfold f_X6_isSign tIsSign
  rw [h.2.2.1]
  by_cases k : tKd t = 4
  · rw [if_pos k, h.2.2.2 (by rw [k]; decide) (by rw [k]; decide)]
    by_cases w : tWh t = c
    · rw [if_pos w]; simp [k, w]
    · rw [if_neg w]; simp [k, w]
  · rw [if_neg k]; simp [k]
theorem mkey {m : Nat} {σ : Hp} {t : Tok} (h : TKM m σ t) (c : Int32) : f_X6_isKey m σ c = 0 ↔ tIsKey t c = false := by
  unfold f_X6_isKey tIsKey
  rw [h.2.2.1]
  by_cases k : tKd t = 1
  · rw [if_pos k, h.2.2.2 (by rw [k]; decide) (by rw [k]; decide)]
    by_cases w : tWh t = c
    · rw [if_pos w]; simp [k, w]
    · rw [if_neg w]; simp [k, w]
  · rw [if_neg k]; simp [k]
def nmI32 (r : Option Nat) : Int32 := match r with
  | some i => Int32.ofNat i
  | none => -1
theorem nmOf_b {t : Tok} {i : Nat} (h : nmOf t = some i) : i < 6 := by
  unfold nmOf at h
  repeat' split at h
  all_goals cases h
  all_goals omega
theorem mname {m : Nat} {σ : Hp} {t : Tok} (h : TKM m σ t) : f_X6_nameMet m σ = nmI32 (nmOf t) := by
  unfold f_X6_nameMet nmOf
  rw [h.2.2.1]
  by_cases k : tKd t = 1
  · rw [if_pos k, if_pos k, h.2.2.2 (by rw [k]; decide) (by rw [k]; decide)]
    generalize tWh t = x
    by_cases n6 : x = 6
    · subst n6; rfl
    by_cases n7 : x = 7
    · subst n7; rfl
    by_cases n19 : x = 19
    · subst n19; rfl
    by_cases n20 : x = 20
    · subst n20; rfl
    by_cases n21 : x = 21
    · subst n21; rfl
    by_cases n22 : x = 22
    · subst n22; rfl
    simp only [if_neg n6, if_neg n7, if_neg n19, if_neg n20, if_neg n21, if_neg n22, ite_self]
    rfl
  · rw [if_neg k, if_neg k]; rfl
def bI (x : Bool) : Int32 := if x then 1 else 0
/-- the reference's sum reader holds the machine's state -/
def SYR (m : Nat) (b : Nat → Int32) (n s0 : Nat) (S : SYs) (σ : Hp) : Prop := MTB m b n σ ∧ TKM m σ S.2.2.2.2.2.2 ∧ TV n S.2.2.2.2.2.2 ∧ STK m σ s0 S.1 S.2.1 S.2.2.2.1 ∧ nbr S.1 = S.2.2.1 ∧ gI σ m 49 = Int32.ofNat S.2.2.1 ∧ gI σ m 50 = Int32.ofNat S.2.2.2.1 ∧ gI σ m 51 = bI S.2.2.2.2.1 ∧ gI σ m 52 = bI S.2.2.2.2.2.1 ∧ S.2.1.length = nbi S.1 + (if S.2.2.2.2.1 then 0 else 1)
/-- what it writes -/
def SQ (m s0 a k : Nat) : Prop := (a = m ∧ (k = 4 ∨ k = 5 ∨ k = 7 ∨ k = 8 ∨ k = 9 ∨ k = 10 ∨ k = 23 ∨ k = 47 ∨ k = 48 ∨ k = 49 ∨ k = 50 ∨ k = 51 ∨ k = 52)) ∨ ((a = m + 17 ∨ a = m + 18 ∨ a = m + 19) ∧ 64 + s0 ≤ k) ∨ a = m + 20 ∨ a = m + 21
theorem SB_SQ {m s0 a k : Nat} (h : SB m s0 a k) : SQ m s0 a k := by unfold SB at h; unfold SQ; omega
theorem S4_SQ {m s0 a k : Nat} (h : S4m m a k) : SQ m s0 a k := by unfold S4m at h; unfold SQ; omega
/-- the stacks stand where nothing of theirs is written -/
theorem STK.ch {m s0 : Nat} {σ σ' : Hp} {w : List Nat} {h : List Ev} {cnt : Nat} (hS : STK m σ s0 w h cnt) (hc : ∀ a k, (a = m ∧ (k = 23 ∨ k = 47 ∨ k = 48)) ∨ ((a = m + 17 ∨ a = m + 18 ∨ a = m + 19) ∧ 64 + s0 ≤ k) ∨ a = m + 20 ∨ a = m + 21 → gI σ' a k = gI σ a k) : STK m σ' s0 w h cnt := by
  obtain ⟨k1, k2, k3, k4, k5, e, k6, k7, k8⟩ := hS
  refine ⟨by rw [hc _ _ (by omega)]; exact k1, k2.cg (fun i _ => hc _ _ (by omega)), by rw [hc _ _ (by omega)]; exact k3, k4, k5, e, by rw [hc _ _ (by omega)]; exact k6, k7.cg (fun i _ => hc _ _ (by omega)) (fun i q1 q2 => ?_), k8⟩
  unfold kN kP kO
  exact ⟨hc _ _ (by omega), hc _ _ (by omega), hc _ _ (by omega)⟩
theorem MTB.fr {m : Nat} {b : Nat → Int32} {n : Nat} {σ σ' : Hp} (h : MTB m b n σ) (hc : ∀ a k, (a = m ∧ (k = 4 ∨ k = 5 ∨ k = 6)) ∨ a = m + 1 ∨ a = m + 2 → gI σ' a k = gI σ a k) : MTB m b n σ' := by
  obtain ⟨h1, h2, h3, h4, h9⟩ := h
  refine ⟨?_, h2, fun i hi => ?_, fun i hi => ?_, ?_, ?_⟩
  · rw [hc _ _ (by omega)]; exact h1
  · rw [hc _ _ (by omega)]; exact h3 i hi
  · rw [hc _ _ (by omega)]; exact h4 i hi
  · rw [hc _ _ (by omega)]; exact h9.1
  · rw [hc _ _ (by omega)]; exact h9.2
/-- the token, then on -/
theorem SYR.tok {m : Nat} {b : Nat → Int32} {n s0 : Nat} {σ0 σ : Hp} {w : List Nat} {h : List Ev} {brk cnt : Nat} {wants mn : Bool} {t : Tok} {Q : Hp → Prop} (hB : MTB m b n σ) (h7 : gI σ m 7 = Int32.ofNat (tNx t)) (hn : TV n t) (hS : STK m σ s0 w h cnt) (hbr : nbr w = brk) (h49 : gI σ m 49 = Int32.ofNat brk) (h50 : gI σ m 50 = Int32.ofNat cnt) (h51 : gI σ m 51 = bI wants) (h52 : gI σ m 52 = bI mn) (hl : h.length = nbi w + (if wants then 0 else 1)) (hc : Ch (SQ m s0) σ0 σ)
    (hQ : ∀ σ', Ch (SQ m s0) σ0 σ' → SYR m b n s0 (w, h, brk, cnt, wants, mn, adv b n t) σ' → Q σ') : wp_X6_token m σ Q := by
  refine wp_token hB h7 hn.1 (fun σ' c1 c2 => hQ σ' (hc.tr (c1.up (fun a k => S4_SQ))) ⟨hB.ch c1, c2, tv_tk hn.1, hS.ch (fun a k q => c1.gi (by unfold S4m; omega)), hbr, ?_, ?_, ?_, ?_, hl⟩)
  · rw [c1.gi (by unfold S4m; omega)]; exact h49
  · rw [c1.gi (by unfold S4m; omega)]; exact h50
  · rw [c1.gi (by unfold S4m; omega)]; exact h51
  · rw [c1.gi (by unfold S4m; omega)]; exact h52
/-- a sign more waits -/
theorem STK.push {m s0 : Nat} {σ : Hp} {w : List Nat} {h : List Ev} {cnt k cnt' : Nat} (hS : STK m σ s0 w h cnt) (hk : k ≤ 15 ∧ k ≠ 1) (hb : nbr (k :: w) ≤ 8) (hcn : cnt' ≤ 64) (hc : cnt' = cnt + (if k = 0 then 0 else 1)) : ok_X6_waitsFor m σ (Int32.ofNat k) ∧ STK m (f_X6_waitsFor m σ (Int32.ofNat k)) s0 (k :: w) h cnt' ∧ (∀ σ0, Ch (SQ m s0) σ0 σ → Ch (SQ m s0) σ0 (f_X6_waitsFor m σ (Int32.ofNat k))) ∧ (∀ a j, (a ≠ m ∨ j ≠ 47) → a ≠ m + 20 → gI (f_X6_waitsFor m σ (Int32.ofNat k)) a j = gI σ a j) := by
  obtain ⟨k1, k2, k3, k4, k5, e, k6, k7, k8⟩ := hS
  have hwl := nop_nbr w
  unfold ok_X6_waitsFor f_X6_waitsFor
  rw [k1, nat_c (by omega), nat_s (by omega)]
  refine ⟨nat_v (by omega) (by omega), ⟨?_, ⟨?_, hk.1, hk.2, k2.cg (fun i hi => ?_)⟩, ?_, hb, hcn, e, ?_, k7.cg (fun i hi => ?_) (fun i q1 q2 => ?_), ?_⟩, fun σ0 c => (c.i (by unfold SQ; omega)).i (by unfold SQ; omega), fun a j q1 q2 => ?_⟩
  · rw [gI_pI, if_pos ⟨rfl, rfl⟩]; rfl
  · simp [gI_pI]
  · simp [gI_pI]; omega
  · simp [gI_pI, k3]
  · simp [gI_pI, k6]
  · simp [gI_pI]
  · unfold kN kP kO; simp [gI_pI]
  · simp only [nop]; omega
  · rw [gI_pI, if_neg (by omega), gI_pI, if_neg (by omega)]
/-- one is held more: a knot without parts -/
theorem STK.leaf {m s0 : Nat} {σ : Hp} {w : List Nat} {h : List Ev} {cnt : Nat} {kd pa : Int32} {v : Ev} (hS : STK m σ s0 w h cnt) (hcn : cnt + 1 ≤ 64) (hseg : ∀ (kn pt ot : Nat → Int32) e, kn e = kd → pt e = pa → SegE kn pt ot e (e + 1) v) : ok_X6_grown m σ kd pa 0 ∧ STK m (f_X6_grown m σ kd pa 0) s0 w (v :: h) (cnt + 1) ∧ (∀ σ0, Ch (SQ m s0) σ0 σ → Ch (SQ m s0) σ0 (f_X6_grown m σ kd pa 0)) ∧ (∀ a j, (a ≠ m ∨ (j ≠ 23 ∧ j ≠ 48)) → a ≠ m + 17 → a ≠ m + 18 → a ≠ m + 19 → a ≠ m + 21 → gI (f_X6_grown m σ kd pa 0) a j = gI σ a j) := by
  obtain ⟨k1, k2, k3, k4, k5, e, k6, k7, k8⟩ := hS
  have hle := k7.le
  have e64 : (64 : Int32) + gI σ m 23 = Int32.ofNat (64 + e) := by rw [k6]; exact nat_a (p := 64) (by omega)
  unfold ok_X6_grown f_X6_grown
  rw [e64, k3, k6, nat_c (by omega), nat_c (by omega), nat_s (by omega), nat_s (by omega)]
  refine ⟨⟨nat_v (by omega) (by omega), nat_v (by omega) (by omega), nat_v (by omega) (by omega), nat_v (by omega) (by omega)⟩, ⟨?_, k2.cg (fun i hi => ?_), ?_, k4, hcn, e + 1, ?_, ⟨e, ?_, hseg _ _ _ _ ?_ ?_, k7.cg (fun i hi => ?_) (fun i q1 q2 => ?_)⟩, by omega⟩, fun σ0 c => (((((c.i ?_).i ?_).i ?_).i ?_).i ?_).i ?_, fun a j q1 q2 q3 q4 q5 => ?_⟩
  · simp [gI_pI, k1]
  · simp [gI_pI]
  · rw [gI_pI, if_neg (by omega), gI_pI, if_pos ⟨rfl, rfl⟩]; rfl
  · rw [gI_pI, if_pos ⟨rfl, rfl⟩]
  · simp [gI_pI]
  · unfold kN; simp [gI_pI]
  · unfold kP; simp [gI_pI]
  · simp [gI_pI]; omega
  · unfold kN kP kO; simp [gI_pI]; omega
  · unfold SQ; omega
  · unfold SQ; omega
  · unfold SQ; omega
  · unfold SQ; omega
  · unfold SQ; omega
  · unfold SQ; omega
  · rw [gI_pI, if_neg (by omega), gI_pI, if_neg (by omega), gI_pI, if_neg (by omega), gI_pI, if_neg (by omega), gI_pI, if_neg (by omega), gI_pI, if_neg (by omega)]
