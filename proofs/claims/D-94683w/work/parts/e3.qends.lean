set_option maxRecDepth 100000
theorem ed_iff (c s l : Int64) : c = s + l - 1 ↔ c - s + 1 = l := by
  constructor <;> intro h <;> grind
/-- a land that doesn't shrink has a year for every count from its first on -/
theorem yp_ex {L g f c : Int} (hL : 1 ≤ L) (hg : 0 ≤ g) : ∀ (n : Nat), f ≤ c → c < begI L g f (1 + n) → ∃ y : Int, 1 ≤ y ∧ y ≤ n ∧ YP L g f c y := by
  intro n
  induction n with
  | zero =>
    intro h1 h2
    have e : begI L g f (1 + (0 : Nat)) = f := beg_one L g f
    omega
  | succ n ih =>
    intro h1 h2
    by_cases q : c < begI L g f (1 + n)
    · obtain ⟨y, y1, y2, y3⟩ := ih h1 q
      exact ⟨y, y1, by omega, y3⟩
    · have e := beg_succ L g f (1 + n)
      have e2 : begI L g f (1 + ((n + 1 : Nat) : Int)) = begI L g f (1 + n + 1) := by congr 1
      refine ⟨1 + (n : Int), by omega, by omega, by omega, len_dn hL (by omega) (Int.le_refl _) (Or.inl hg), by omega, by omega⟩
theorem yr_neg {L g f : Int32} {c : Int64} (k : LOK3 L g f) (hc0 : 0 ≤ c.toInt) (hc : c.toInt ≤ 1000000000000) (hf : f.toInt ≤ c.toInt) (h : yr L g f c = -1) : g.toInt < 0 := by
  refine Classical.byContradiction (fun q => ?_)
  have hm := beg_mono (L := L.toInt) (g := g.toInt) (f := f.toInt) k.1 (y := 1) (by omega) (c.toInt.toNat + 1) (Or.inl (by omega))
  rw [beg_one] at hm
  have k5 := k.2.2.2.2.1
  obtain ⟨y, y1, y2, y3⟩ := yp_ex (L := L.toInt) (g := g.toInt) (f := f.toInt) (c := c.toInt) k.1 (by omega) (c.toInt.toNat + 1) hf (by omega)
  have e := l2_ofInt (n := y) (by omega) (by omega)
  have := yr_of k (c := c) (y := Int64.ofInt y) (by rw [e]; exact y3)
  rw [h] at this
  have w : (-1 : Int64).toInt = (Int64.ofInt y).toInt := congrArg Int64.toInt this
  rw [e] at w
  have : (-1 : Int64).toInt = -1 := by rfl
  omega
noncomputable def endA (x : LandA) (c : Int64) : Int64 := if x.2.2.2.toInt ≤ c.toInt then (if yrA x c = -1 then mLast x.2.1 x.2.2.1 else if dyA x c = mLen x.2.1 x.2.2.1 (yrA x c) then yrA x c else yrA x c - 1) else 0
theorem l_ended {a : Nat} {σ : Hp} {x : LandA} {c : Int64} {Q : Int64 → Prop} (h : LDo a σ x.2.1 x.2.2.1 x.2.2.2) (k : LOK3 x.2.1 x.2.2.1 x.2.2.2) (hc : cOk c) (hQ : Q (endA x c)) : wp_X8_ended a σ c Q := by
  unfold endA at hQ
  unfold wp_X8_ended
  rw [h.2.2, l3_le (i2_l x.2.2.2) rfl]
  refine ⟨fun q => ?_, fun q => ?_⟩
  · rw [if_pos q] at hQ
    refine wp_year h k hc.1 hc.2 ⟨fun e => ?_, fun e => ?_⟩
    · rw [if_pos (show yrA x c = -1 from e)] at hQ
      exact ⟨ok_last h k, by rw [fl_last h]; exact hQ⟩
    · rw [if_neg (show ¬ yrA x c = -1 from e)] at hQ
      rw [fl_start h, fl_len h, ed_iff]
      refine ⟨fun w => ?_, fun w => ?_⟩
      · rw [if_pos (show dyA x c = mLen x.2.1 x.2.2.1 (yrA x c) from w)] at hQ; exact hQ
      · rw [if_neg (show ¬ dyA x c = mLen x.2.1 x.2.2.1 (yrA x c) from w)] at hQ; exact hQ
  · rw [if_neg q] at hQ; exact hQ
