set_option maxRecDepth 100000
/-! WHAT A TEXT TELLS -/
abbrev LandA : Type := Int32 × Int32 × Int32 × Int32
abbrev FeastA : Type := Int32 × Ev
abbrev PersA : Type := Int32 × Int64 × Int64
abbrev DeedA : Type := Int32 × Int64 × Int32 × Int32 × Int32
abbrev NoteW : Type := Int32 × (Nat → Int32) × (Nat → Int32)
abbrev NoteA : Type := Int32 × NoteW
/-- lands, feasts, people, deeds, notes, sky, knots -/
abbrev RlA : Type := List LandA × List FeastA × List PersA × List DeedA × List NoteA × (Nat → Int32) × Nat
def aL (R : RlA) : List LandA := R.1
def aF (R : RlA) : List FeastA := R.2.1
def aP (R : RlA) : List PersA := R.2.2.1
def aD (R : RlA) : List DeedA := R.2.2.2.1
def aN (R : RlA) : List NoteA := R.2.2.2.2.1
def aS (R : RlA) : Nat → Int32 := R.2.2.2.2.2.1
def aK (R : RlA) : Nat := R.2.2.2.2.2.2
def sky0 : Nat → Int32 := fun j => if j = 0 then 7 else if j = 1 then 0 else if j = 2 then 59 else if j = 3 then 2 else if j = 4 then 0 else if j = 5 then 1461 else 4
def rl0 : RlA := ([], [], [], [], [], sky0, 0)
abbrev Flt : Type := Int32 × Nat
abbrev PR (α : Type) : Type := (α × Tok) ⊕ Flt
def pb {α β : Type} (x : PR α) (f : α → Tok → PR β) : PR β := match x with
  | .inl (a, t) => f a t
  | .inr e => .inr e
section
variable (b : Nat → Int32) (n : Nat)
def numS (lo hi : Int32) (t : Tok) : PR Int32 := if tKd t = 3 then (if lo.toInt ≤ (tWh t).toInt ∧ (tWh t).toInt ≤ hi.toInt then .inl (tWh t, adv b n t) else .inr (2, tPl t)) else .inr (1, tPl t)
def sgdS (hi : Int32) (t : Tok) : PR Int32 := if tIsSign t 45 = true then pb (numS b n 0 hi (adv b n t)) (fun v t => .inl (-v, t)) else numS b n 0 hi t
/-- the first place of a name -/
def fnd (x : Int32) : List Int32 → Nat → Option Nat
  | [], _ => none
  | y :: l, k => if y = x then some k else fnd x l (k + 1)
def frS (names : List Int32) (t : Tok) : PR Int32 := if tKd t = 2 then (match fnd (tWh t) names 0 with
  | some _ => .inr (3, tPl t)
  | none => .inl (tWh t, adv b n t)) else .inr (1, tPl t)
def ahS (names : List Int32) (t : Tok) : PR Int32 := if tKd t = 2 then (match fnd (tWh t) names 0 with
  | some k => .inl (Int32.ofNat k, adv b n t)
  | none => .inr (4, tPl t)) else .inr (1, tPl t)
def keyS (k : Int32) (t : Tok) : PR Unit := if tIsKey t k = true then .inl ((), adv b n t) else .inr (1, tPl t)
def landS (names : List Int32) (t : Tok) : PR LandA :=
  pb (frS b n names t) fun nm t => pb (numS b n 1 9999 t) fun len t => pb (sgdS b n 99 t) fun g t =>
  if tIsKey t 8 = true then pb (numS b n 0 99999 (adv b n t)) (fun f t => .inl ((nm, len, g, f), t)) else .inl ((nm, len, g, 0), t)
/-- a day of a year by a land; not ahead of lo -/
def dateS (lands : List LandA) (lo : Int64) (t : Tok) : PR Int64 :=
  pb (numS b n 0 99999 t) fun y t =>
  if tKd t = 3 then (if (tWh t).toInt ≤ 99999 then (match lands with
    | [] => .inr (5, tPl t)
    | l :: _ => if 1 ≤ y.toInt ∧ 1 ≤ lenI l.2.1.toInt l.2.2.1.toInt y.toInt ∧ 1 ≤ (tWh t).toInt ∧ (tWh t).toInt ≤ lenI l.2.1.toInt l.2.2.1.toInt y.toInt ∧ lo.toInt ≤ begI l.2.1.toInt l.2.2.1.toInt l.2.2.2.toInt y.toInt + (tWh t).toInt - 1 then .inl (mStart l.2.1 l.2.2.1 l.2.2.2 y.toInt64 + (tWh t).toInt64 - 1, adv b n t) else .inr (5, tPl t)) else .inr (2, tPl t)) else .inr (1, tPl t)
def persS (lands : List LandA) (names : List Int32) (t : Tok) : PR PersA :=
  pb (frS b n names t) fun nm t => pb (dateS b n lands 0 t) fun c t =>
  if tIsKey t 9 = true then pb (dateS b n lands c (adv b n t)) (fun e t => .inl ((nm, c, e), t)) else .inl ((nm, c, -1), t)
def deedS (lands : List LandA) (fnames names : List Int32) (t : Tok) : PR DeedA :=
  pb (frS b n names t) fun nm t => pb (dateS b n lands 0 t) fun c t =>
  if tKd t = 1 ∧ 10 ≤ (tWh t).toInt ∧ (tWh t).toInt ≤ 12 then
    pb (if tWh t = 10 then numS b n 0 999 (adv b n t) else if tWh t = 11 then numS b n 0 99999 (adv b n t) else ahS b n fnames (adv b n t)) fun x t' =>
    pb (keyS b n 13 t') fun _ t' => pb (numS b n 0 999 t') fun p t' => .inl ((nm, c, tWh t - 10, x, p), t')
  else .inr (1, tPl t)
/-- which word of a note stands there -/
def nwOf (t : Tok) : Option Nat := if tKd t = 1 then (if tWh t = 20 then some 0 else if tWh t = 19 then some 1 else if tWh t = 6 then some 2 else if tWh t = 7 then some 3 else if tWh t = 21 then some 4 else if tWh t = 14 then some 5 else if tWh t = 1 then some 6 else if tWh t = 15 then some 7 else none) else none
def nHas (w : Int32) (k : Nat) : Bool := w.toBitVec.getLsbD k
def up1 (f : Nat → Int32) (k : Nat) (v : Int32) : Nat → Int32 := fun j => if j = k then v else f j
def nSay (x : NoteW) (k : Nat) (a c : Int32) : NoteW := (x.1 ||| (1 <<< (Int32.ofNat k &&& 31)), up1 x.2.1 k a, up1 x.2.2 k c)
/-- what a word says -/
def sayS (pnames fnames nnames : List Int32) (w : Nat) (t : Tok) : PR (Int32 × Int32) :=
  if w = 0 then pb (numS b n 1 9999 t) (fun x t => pb (numS b n x 9999 t) (fun y t => .inl ((x, y), t)))
  else if w = 1 then pb (numS b n 1 99999 t) (fun x t => .inl ((x, 0), t))
  else if w = 2 then pb (numS b n 0 99999 t) (fun x t => .inl ((x, 0), t))
  else if w = 3 then pb (numS b n 0 7 t) (fun x t => .inl ((x, 0), t))
  else if w = 4 then pb (numS b n 0 3 t) (fun x t => .inl ((x, 0), t))
  else if w = 5 then pb (ahS b n pnames t) (fun x t => .inl ((x, 0), t))
  else if w = 6 then pb (ahS b n fnames t) (fun x t => .inl ((x, 0), t))
  else pb (ahS b n nnames t) (fun x t => pb (sgdS b n 9999 t) (fun y t => .inl ((x, y), t)))
/-- a note's words, one behind another -/
def nwStep (pnames fnames nnames : List Int32) (s : NoteW × Tok) : (NoteW × Tok) ⊕ (PR NoteW) := match nwOf s.2 with
  | none => .inr (.inl s)
  | some w => if nHas s.1.1 w = true then .inr (.inr (3, tPl s.2)) else match sayS b n pnames fnames nnames w (adv b n s.2) with
    | .inl ((x, y), t) => .inl (nSay s.1 w x y, t)
    | .inr e => .inr (.inr e)
end
