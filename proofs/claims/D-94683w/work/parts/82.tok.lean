set_option maxRecDepth 100000
/-! TOKENS of the bytes b, up to n -/
def isLtB (v : Int32) : Bool := decide (97 ≤ v) && decide (v ≤ 122)
def isDgB (v : Int32) : Bool := decide (48 ≤ v) && decide (v ≤ 57)
def isSpB (v : Int32) : Bool := decide (v = 10) || decide (v = 32)
/-- the first place from p on where a run of bytes of a kind ends -/
def runE (f : Int32 → Bool) (b : Nat → Int32) : Nat → Nat → Nat
  | 0, p => p
  | k + 1, p => if f (b p) then runE f b k (p + 1) else p
def skp (b : Nat → Int32) (n p : Nat) : Nat := runE isSpB b (n - p) p
def runL (b : Nat → Int32) (n p : Nat) : Nat := runE isLtB b (n - p) p
def runD (b : Nat → Int32) (n p : Nat) : Nat := runE isDgB b (n - p) p
theorem runE_ge (f : Int32 → Bool) (b : Nat → Int32) : ∀ k p, p ≤ runE f b k p ∧ runE f b k p ≤ p + k := by
  intro k
  induction k with
  | zero => exact fun p => ⟨Nat.le_refl _, Nat.le_refl _⟩
  | succ k ih =>
    intro p
    unfold runE
    by_cases h : f (b p) = true
    · rw [if_pos h]
      have := ih (p + 1)
      omega
    · rw [if_neg h]
      omega
theorem runE_in {f : Int32 → Bool} {b : Nat → Int32} {n p : Nat} (h : p < n) (hf : f (b p) = true) : runE f b (n - p) p = runE f b (n - (p + 1)) (p + 1) := by
  obtain ⟨k, hk⟩ : ∃ k, n - p = k + 1 := ⟨n - p - 1, by omega⟩
  rw [hk, show n - (p + 1) = k by omega, runE, if_pos hf]
theorem runE_out {f : Int32 → Bool} {b : Nat → Int32} {n p : Nat} (h : n ≤ p ∨ f (b p) = false) : runE f b (n - p) p = p := by
  rcases h with h | h
  · rw [show n - p = 0 by omega]; rfl
  · cases n - p with
    | zero => rfl
    | succ k => rw [runE, if_neg (by rw [h]; exact Bool.false_ne_true)]
/-- a number, counted on while it is no great one -/
def numV (b : Nat → Int32) : Nat → Nat → Int32 → Int32
  | 0, _, v => v
  | k + 1, p, v => if isDgB (b p) then numV b k (p + 1) (if v ≤ 99999 then ((10 * v) + b p) - 48 else v) else v
theorem numV_in {b : Nat → Int32} {n p : Nat} {v : Int32} (h : p < n) (hf : isDgB (b p) = true) : numV b (n - p) p v = numV b (n - (p + 1)) (p + 1) (if v ≤ 99999 then ((10 * v) + b p) - 48 else v) := by
  obtain ⟨k, hk⟩ : ∃ k, n - p = k + 1 := ⟨n - p - 1, by omega⟩
  rw [hk, show n - (p + 1) = k by omega, numV, if_pos hf]
theorem numV_out {b : Nat → Int32} {n p : Nat} {v : Int32} (h : n ≤ p ∨ isDgB (b p) = false) : numV b (n - p) p v = v := by
  rcases h with h | h
  · rw [show n - p = 0 by omega]; rfl
  · cases n - p with
    | zero => rfl
    | succ k => rw [numV, if_neg (by rw [h]; exact Bool.false_ne_true)]
/-- the words, in the reference's order -/
def WM : List (List Int32) := [[108, 97, 110, 100], [102, 101, 97, 115, 116], [112, 101, 114, 115, 111, 110], [100, 101, 101, 100], [110, 111, 116, 101], [115, 117, 110], [119, 101, 101, 107], [109, 111, 111, 110], [102, 114, 111, 109], [100, 105, 101, 100], [121, 101, 97, 114, 115], [100, 97, 121, 115], [116, 105, 108, 108], [112, 97, 121], [97, 108, 105, 118, 101], [97, 102, 116, 101, 114], [97, 110, 100], [111, 114], [110, 111, 116], [100, 97, 121], [121, 101, 97, 114], [115, 101, 97, 115, 111, 110], [108, 101, 110, 103, 116, 104]]
def seg (b : Nat → Int32) (p e : Nat) : List Int32 := (List.range (e - p)).map (fun i => b (p + i))
/-- the first of a list of words that is s, from k on -/
def wdF (s : List Int32) : List (List Int32) → Nat → Option Nat
  | [], _ => none
  | w :: ws, k => if w = s then some k else wdF s ws (k + 1)
def pkN (b : Nat → Int32) (p e : Nat) : Nat → Int32
  | 0 => 0
  | k + 1 => (pkN b p e k <<< (5 &&& 31)) ||| (if p + k < e then b (p + k) - 96 else 0)
def sgOk (c : Int32) : Bool := decide (c = 59) || decide (c = 40) || decide (c = 41) || decide (c = 43) || decide (c = 45) || decide (c = 42) || decide (c = 47) || decide (c = 37)
def sgT (b : Nat → Int32) (n q : Nat) : Tok :=
  if b q = 60 then (if q + 1 < n ∧ b (q + 1) = 61 then (q, q + 2, 5, 1) else if q + 1 < n ∧ b (q + 1) = 62 then (q, q + 2, 5, 3) else (q, q + 1, 5, 0))
  else if b q = 62 then (if q + 1 < n ∧ b (q + 1) = 61 then (q, q + 2, 5, 4) else (q, q + 1, 5, 5))
  else if b q = 61 then (q, q + 1, 5, 2)
  else if sgOk (b q) then (q, q + 1, 4, b q) else (q, q + 1, 6, 0)
def wdT (b : Nat → Int32) (q e : Nat) : Tok := match wdF (seg b q e) WM 0 with
  | some k => (q, e, 1, Int32.ofNat k)
  | none => if e - q ≤ 6 then (q, e, 2, pkN b q e 6) else (q, e, 6, 0)
def tkAt (b : Nat → Int32) (n q : Nat) : Tok :=
  if n ≤ q then (q, q, 0, 0) else if isLtB (b q) then wdT b q (runL b n q) else if isDgB (b q) then (q, runD b n q, 3, numV b (n - q) q 0) else sgT b n q
def tk (b : Nat → Int32) (n p : Nat) : Tok := tkAt b n (skp b n p)
theorem tkAt_b {b : Nat → Int32} {n q : Nat} (h : q ≤ n) : tPl (tkAt b n q) = q ∧ (q < n → q < tNx (tkAt b n q)) ∧ q ≤ tNx (tkAt b n q) ∧ tNx (tkAt b n q) ≤ n ∧ (tKd (tkAt b n q) = 0 ↔ q = n) := by
  unfold tkAt
  by_cases h1 : n ≤ q
  · rw [if_pos h1]
    exact ⟨rfl, fun w => by omega, Nat.le_refl _, h, fun _ => by omega, fun _ => rfl⟩
  · rw [if_neg h1]
    by_cases h2 : isLtB (b q) = true
    · rw [if_pos h2]
      have e1 : runL b n q = runL b n (q + 1) := runE_in (by omega) h2
      have e2 := runE_ge isLtB b (n - (q + 1)) (q + 1)
      have e3 : q + 1 ≤ runL b n q ∧ runL b n q ≤ n := by
        rw [e1]; unfold runL; omega
      unfold wdT
      split
      · rename_i k hk
        refine ⟨rfl, fun _ => ?_, ?_, ?_, fun w => ?_, fun w => ?_⟩
        · show q < runL b n q; omega
        · show q ≤ runL b n q; omega
        · show runL b n q ≤ n; omega
        · cases w
        · omega
      · split
        all_goals
          refine ⟨rfl, fun _ => ?_, ?_, ?_, fun w => ?_, fun w => ?_⟩
          · show q < runL b n q; omega
          · show q ≤ runL b n q; omega
          · show runL b n q ≤ n; omega
          · cases w
          · omega
    · rw [if_neg h2]
      by_cases h3 : isDgB (b q) = true
      · rw [if_pos h3]
        have e1 : runD b n q = runD b n (q + 1) := runE_in (by omega) h3
        have e2 := runE_ge isDgB b (n - (q + 1)) (q + 1)
        have e3 : q + 1 ≤ runD b n q ∧ runD b n q ≤ n := by
          rw [e1]; unfold runD; omega
        refine ⟨rfl, fun _ => ?_, ?_, ?_, fun w => ?_, fun w => ?_⟩
        · show q < runD b n q; omega
        · show q ≤ runD b n q; omega
        · show runD b n q ≤ n; omega
        · cases w
        · omega
      · rw [if_neg h3]
        unfold sgT
        repeat' split
        all_goals
          refine ⟨rfl, fun _ => ?_, ?_, ?_, fun w => ?_, fun w => ?_⟩
          · simp only [tNx]; omega
          · simp only [tNx]; omega
          · simp only [tNx]; omega
          · cases w
          · omega
theorem tk_b {b : Nat → Int32} {n p : Nat} (h : p ≤ n) : p ≤ tPl (tk b n p) ∧ tPl (tk b n p) ≤ tNx (tk b n p) ∧ tNx (tk b n p) ≤ n ∧ (tKd (tk b n p) = 0 ↔ tPl (tk b n p) = n) ∧ (tKd (tk b n p) ≠ 0 → tPl (tk b n p) < tNx (tk b n p)) := by
  have e := runE_ge isSpB b (n - p) p
  have hq : skp b n p ≤ n ∧ p ≤ skp b n p := by unfold skp; omega
  have := tkAt_b (b := b) (n := n) hq.1
  unfold tk
  refine ⟨by omega, by omega, by omega, by rw [this.1]; exact this.2.2.2.2, fun w => ?_⟩
  have : skp b n p ≠ n := fun q => w (this.2.2.2.2.mpr q)
  omega
/-- the next token -/
def adv (b : Nat → Int32) (n : Nat) (t : Tok) : Tok := tk b n (tNx t)
/-- tokens are in order -/
def TV (n : Nat) (t : Tok) : Prop := tNx t ≤ n ∧ tPl t ≤ tNx t ∧ (tKd t = 0 ↔ tPl t = n) ∧ (tKd t ≠ 0 → tPl t < tNx t) ∧ (tKd t = 5 → 0 ≤ (tWh t).toInt ∧ (tWh t).toInt ≤ 5) ∧ (tKd t = 1 → 0 ≤ (tWh t).toInt ∧ (tWh t).toInt < 23) ∧ (tKd t = 0 ∨ tKd t = 1 ∨ tKd t = 2 ∨ tKd t = 3 ∨ tKd t = 4 ∨ tKd t = 5 ∨ tKd t = 6) ∧ (tKd t = 4 → sgOk (tWh t) = true) ∧ (tKd t = 3 → 0 ≤ (tWh t).toInt ∧ (tWh t).toInt ≤ 999999)
theorem wdF_lt {s : List Int32} : ∀ (L : List (List Int32)) (k j : Nat), wdF s L k = some j → j < k + L.length := by
  intro L
  induction L with
  | nil => intro k j h; cases h
  | cons w L ih =>
    intro k j h
    rw [wdF] at h
    split at h
    · cases h; simp
    · have := ih _ _ h
      simp only [List.length_cons]; omega
theorem numV_b {b : Nat → Int32} : ∀ (k p : Nat) (v : Int32), 0 ≤ v.toInt → v.toInt ≤ 999999 → 0 ≤ (numV b k p v).toInt ∧ (numV b k p v).toInt ≤ 999999 := by
  intro k
  induction k with
  | zero => intro p v h1 h2; exact ⟨h1, h2⟩
  | succ k ih =>
    intro p v h1 h2
    rw [numV]
    split
    · rename_i hd
      have hd : 48 ≤ (b p).toInt ∧ (b p).toInt ≤ 57 := by
        unfold isDgB at hd
        rw [Bool.and_eq_true, decide_eq_true_iff, decide_eq_true_iff, i3_le (x := 48) (by rfl) rfl, i3_le rfl (y := 57) (by rfl)] at hd
        exact hd
      by_cases h9 : v ≤ 99999
      · rw [if_pos h9]
        rw [i3_le rfl (y := 99999) (by rfl)] at h9
        have e : ((10 * v) + b p - 48).toInt = 10 * v.toInt + (b p).toInt - 48 := i3_sub (i3_add (i3_mul (x := 10) (by rfl) rfl (by omega) (by omega)) rfl (by omega) (by omega)) (by rfl) (by omega) (by omega)
        exact ih _ _ (by rw [e]; omega) (by rw [e]; omega)
      · rw [if_neg h9]
        exact ih _ _ h1 h2
    · exact ⟨h1, h2⟩
theorem tv_at {b : Nat → Int32} {n q : Nat} : (tKd (tkAt b n q) = 5 → 0 ≤ (tWh (tkAt b n q)).toInt ∧ (tWh (tkAt b n q)).toInt ≤ 5) ∧ (tKd (tkAt b n q) = 1 → 0 ≤ (tWh (tkAt b n q)).toInt ∧ (tWh (tkAt b n q)).toInt < 23) ∧ (tKd (tkAt b n q) = 0 ∨ tKd (tkAt b n q) = 1 ∨ tKd (tkAt b n q) = 2 ∨ tKd (tkAt b n q) = 3 ∨ tKd (tkAt b n q) = 4 ∨ tKd (tkAt b n q) = 5 ∨ tKd (tkAt b n q) = 6) ∧ (tKd (tkAt b n q) = 4 → sgOk (tWh (tkAt b n q)) = true) ∧ (tKd (tkAt b n q) = 3 → 0 ≤ (tWh (tkAt b n q)).toInt ∧ (tWh (tkAt b n q)).toInt ≤ 999999) := by
  unfold tkAt
  split
  · simp [tKd]
  · split
    · unfold wdT
      split
      · rename_i k hk
        have hk := wdF_lt _ _ _ hk
        have h23 : k < 23 := by simpa [WM] using hk
        refine ⟨fun w => (by cases w), fun _ => ?_, Or.inr (Or.inl rfl), fun w => (by cases w), fun w => (by cases w)⟩
        show 0 ≤ (Int32.ofNat k).toInt ∧ (Int32.ofNat k).toInt < 23
        rw [i2_ofNat (by omega)]
        omega
      · split
        · simp [tKd]
        · simp [tKd]
    · split
      · refine ⟨fun w => (by cases w), fun w => (by cases w), by simp [tKd], fun w => (by cases w), fun _ => ?_⟩
        exact numV_b _ _ _ (by decide) (by decide)
      · unfold sgT
        repeat' split
        all_goals simp [tKd, tWh]
        all_goals first | decide | assumption
theorem tv_tk {b : Nat → Int32} {n p : Nat} (h : p ≤ n) : TV n (tk b n p) := by
  have a := tk_b (b := b) h
  have c := tv_at (b := b) (n := n) (q := skp b n p)
  exact ⟨a.2.2.1, a.2.1, a.2.2.2.1, a.2.2.2.2, c⟩
