set_option maxRecDepth 100000
/-! SUMS: what they mean, and the machine of waiting signs -/
abbrev Ev : Type := (Nat → Int64) → Option Int64
/-- a token: its place, where the next one is looked for, its kind and which (as the reference has them) -/
abbrev Tok : Type := Nat × Nat × Int32 × Int32
def tPl (t : Tok) : Nat := t.1
def tNx (t : Tok) : Nat := t.2.1
def tKd (t : Tok) : Int32 := t.2.2.1
def tWh (t : Tok) : Int32 := t.2.2.2
def vSure (v : Int64) : Option Int64 := if 1000000000000 < v then none else if -1000000000000 ≤ v then some v else none
def vTimes (x y : Int64) : Option Int64 := if x = 0 then some (x * y) else if f_J7_abs y ≤ 1000000000000 / f_J7_abs x then some (x * y) else none
def vIs (b : Bool) : Option Int64 := some (if b then 1 else 0)
def vTwo (k : Nat) (x y : Int64) : Option Int64 :=
  if k = 3 then vIs (decide (x ≠ 0) && decide (y ≠ 0))
  else if k = 4 then vIs (decide (x ≠ 0) || decide (y ≠ 0))
  else if k = 5 then vIs (decide (x < y))
  else if k = 6 then vIs (decide (x ≤ y))
  else if k = 7 then vIs (decide (x = y))
  else if k = 8 then vIs (decide (x ≠ y))
  else if k = 9 then vIs (decide (y ≤ x))
  else if k = 10 then vIs (decide (y < x))
  else if k = 11 then vSure (x + y)
  else if k = 12 then vSure (x - y)
  else if k = 13 then vTimes x y
  else if k = 14 then (if y = 0 then none else some (x / y))
  else (if y = 0 then none else some (x - x / y * y))
def eNum (n : Int32) : Ev := fun _ => some n.toInt64
def eName (i : Nat) : Ev := fun ν => vSure (ν i)
def eNot (a : Ev) : Ev := fun ν => match a ν with
  | some x => some (if x = 0 then 1 else 0)
  | none => none
def eTwo (k : Nat) (a b : Ev) : Ev := fun ν => match a ν with
  | some x => match b ν with
    | some y => vTwo k x y
    | none => none
  | none => none
/-- ranks: 0 a bracket, 2 not, 3 and, 4 or, 5 to 10 comparisons, 11 + 12 - 13 * 14 / 15 % -/
def rk (k : Nat) : Nat := if 13 ≤ k then 6 else if 11 ≤ k then 5 else if 5 ≤ k then 4 else if k = 2 then 3 else if k = 3 then 2 else if k = 4 then 1 else 0
def tr (w : List Nat) : Nat := match w with
  | [] => 0
  | k :: _ => rk k
def bnd (r : Nat) : List Nat → List Ev → List Nat × List Ev
  | [], h => ([], h)
  | k :: w, h => if rk k < r then (k :: w, h) else if k = 2 then (match h with
      | a :: h' => bnd r w (eNot a :: h')
      | [] => (k :: w, h))
    else (match h with
      | b :: a :: h' => bnd r w (eTwo k a b :: h')
      | _ => (k :: w, h))
theorem bnd_stop {r : Nat} {w : List Nat} {h : List Ev} (hr : 0 < r) (ht : tr w < r) : bnd r w h = (w, h) := by
  cases w with
  | nil => rfl
  | cons k w =>
    unfold bnd
    rw [if_pos (show rk k < r from ht)]
theorem bnd_two {r k : Nat} {w : List Nat} {a b : Ev} {h : List Ev} (h1 : ¬ rk k < r) (h2 : k ≠ 2) : bnd r (k :: w) (b :: a :: h) = bnd r w (eTwo k a b :: h) := by
  rw [bnd, if_neg h1, if_neg h2]
theorem bnd_not {r : Nat} {w : List Nat} {a : Ev} {h : List Ev} (h1 : ¬ 3 < r) : bnd r (2 :: w) (a :: h) = bnd r w (eNot a :: h) := by
  rw [bnd, if_neg (by exact h1), if_pos rfl]
/-- to bind less and then more is to bind more -/
theorem bnd_bnd {r q : Nat} (hq : r ≤ q) : ∀ (w : List Nat) (h : List Ev), bnd r (bnd q w h).1 (bnd q w h).2 = bnd r w h := by
  intro w
  induction w with
  | nil => exact fun h => rfl
  | cons k w ih =>
    intro h
    by_cases h1 : rk k < q
    · rw [show bnd q (k :: w) h = (k :: w, h) by unfold bnd; rw [if_pos h1]]
    · have h2 : ¬ rk k < r := by omega
      by_cases hk : k = 2
      · cases h with
        | nil => rw [show bnd q (k :: w) [] = (k :: w, []) by rw [bnd, if_neg h1, if_pos hk]]
        | cons a h =>
          rw [show bnd q (k :: w) (a :: h) = bnd q w (eNot a :: h) by rw [bnd, if_neg h1, if_pos hk]]
          rw [ih, show bnd r (k :: w) (a :: h) = bnd r w (eNot a :: h) by rw [bnd, if_neg h2, if_pos hk]]
      · match h with
        | [] => rw [show bnd q (k :: w) [] = (k :: w, []) by rw [bnd, if_neg h1, if_neg hk]]
        | [a] => rw [show bnd q (k :: w) [a] = (k :: w, [a]) by rw [bnd, if_neg h1, if_neg hk]]
        | b :: a :: h =>
          rw [show bnd q (k :: w) (b :: a :: h) = bnd q w (eTwo k a b :: h) by rw [bnd, if_neg h1, if_neg hk]]
          rw [ih, show bnd r (k :: w) (b :: a :: h) = bnd r w (eTwo k a b :: h) by rw [bnd, if_neg h2, if_neg hk]]
theorem bnd_eqv {r q : Nat} (hq : r ≤ q) {w w' : List Nat} {h h' : List Ev} (e : bnd q w' h' = bnd q w h) : bnd r w' h' = bnd r w h := by
  rw [← bnd_bnd hq w' h', e, bnd_bnd hq]
def tIsSign (t : Tok) (c : Int32) : Bool := decide (tKd t = 4) && decide (tWh t = c)
def tIsKey (t : Tok) (k : Int32) : Bool := decide (tKd t = 1) && decide (tWh t = k)
def opOf (t : Tok) : Nat :=
  if tIsKey t 16 then 3 else if tIsKey t 17 then 4 else if tKd t = 5 then 5 + (tWh t).toNatClampNeg
  else if tIsSign t 43 then 11 else if tIsSign t 45 then 12 else if tIsSign t 42 then 13 else if tIsSign t 47 then 14 else if tIsSign t 37 then 15 else 0
/-- 0 day, 1 year, 2 week, 3 moon, 4 season, 5 length -/
def nmOf (t : Tok) : Option Nat :=
  if tKd t = 1 then (if tWh t = 19 then some 0 else if tWh t = 20 then some 1 else if tWh t = 6 then some 2 else if tWh t = 7 then some 3 else if tWh t = 21 then some 4 else if tWh t = 22 then some 5 else none) else none
/-- the signs that wait, what is held, brackets, knots, whether a leaf is wanted, whether a not may stand there, the token -/
abbrev SYs : Type := List Nat × List Ev × Nat × Nat × Bool × Bool × Tok
/-- an end: what is held, knots, the token; or a fault and its place -/
abbrev SYr : Type := (List Ev × Nat × Tok) ⊕ (Int32 × Nat)
def syLeaf (adv : Tok → Tok) (w : List Nat) (h : List Ev) (brk cnt : Nat) (mn : Bool) (t : Tok) : SYs ⊕ SYr :=
  if tIsSign t 40 then (if brk = 8 then .inr (.inr (2, tPl t)) else .inl (0 :: w, h, brk + 1, cnt, true, true, adv t))
  else if tIsKey t 18 && mn then (if cnt = 64 then .inr (.inr (2, tPl t)) else .inl (2 :: w, h, brk, cnt + 1, true, mn, adv t))
  else match nmOf t with
    | some i => if cnt = 64 then .inr (.inr (2, tPl t)) else .inl (w, eName i :: h, brk, cnt + 1, false, mn, adv t)
    | none => if tKd t = 3 then (if tWh t ≤ 9999 then (if cnt = 64 then .inr (.inr (2, tPl t)) else .inl (w, eNum (tWh t) :: h, brk, cnt + 1, false, mn, adv t)) else .inr (.inr (2, tPl t))) else .inr (.inr (1, tPl t))
def sySign (adv : Tok → Tok) (w : List Nat) (h : List Ev) (brk cnt : Nat) (mn : Bool) (t : Tok) : SYs ⊕ SYr :=
  if tIsSign t 41 && decide (0 < brk) then .inl ((bnd 1 w h).1.tail, (bnd 1 w h).2, brk - 1, cnt, false, mn, adv t)
  else if opOf t = 0 then .inr (.inr (1, tPl t))
  else if rk (opOf t) = 4 then
    (if tr (bnd 5 w h).1 = 4 then .inr (.inr (1, tPl t)) else if cnt = 64 then .inr (.inr (2, tPl t)) else .inl (opOf t :: (bnd 5 w h).1, (bnd 5 w h).2, brk, cnt + 1, true, false, adv t))
  else if cnt = 64 then .inr (.inr (2, tPl t)) else .inl (opOf t :: (bnd (rk (opOf t)) w h).1, (bnd (rk (opOf t)) w h).2, brk, cnt + 1, true, decide (rk (opOf t) < 3), adv t)
def syStep (adv : Tok → Tok) : SYs → SYs ⊕ SYr
  | (w, h, brk, cnt, wants, mn, t) =>
    if tIsSign t 59 && !wants && decide (brk = 0) then .inr (.inl ((bnd 1 w h).2, cnt, t))
    else if wants then syLeaf adv w h brk cnt mn t else sySign adv w h brk cnt mn t
