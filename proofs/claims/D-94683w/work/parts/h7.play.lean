set_option maxRecDepth 100000
/-! THE STATE OF PLAY: fed, bytes, fault (kind, place), realm, notes, told, image, what can be undone (the last one first) -/
abbrev PlS : Type := (Nat × (Nat → Int32)) × (Int32 × Int32) × RlA × List NoteW × List Tld × Option (List NoteW × List Tld) × List Int32
def yF (S : PlS) : Nat := S.1.1
def yB (S : PlS) : Nat → Int32 := S.1.2
def yK (S : PlS) : Int32 := S.2.1.1
def yP (S : PlS) : Int32 := S.2.1.2
def yR (S : PlS) : RlA := S.2.2.1
def yN (S : PlS) : List NoteW := S.2.2.2.1
def yT (S : PlS) : List Tld := S.2.2.2.2.1
def yI (S : PlS) : Option (List NoteW × List Tld) := S.2.2.2.2.2.1
def yU (S : PlS) : List Int32 := S.2.2.2.2.2.2
/-- what can be undone fits the number of notes -/
def UOk : Nat → List Int32 → Prop
  | _, [] => True
  | n, v :: l => 1 ≤ n ∧ ((v = -1 ∧ UOk (n - 1) l) ∨ (∃ w, w < 8 ∧ v = Int32.ofNat w ∧ UOk n l))
def PlOk (n : Nat) (S : PlS) : Prop := ROk (yR S) ∧ TOk (yT S) ∧ (∀ IN IT, yI S = some (IN, IT) → NOk (yR S) IN ∧ TOk IT) ∧ UOk (yN S).length (yU S) ∧ (yU S).length ≤ n
/-- a row of what can be undone -/
def UR (σ : Hp) (a : Nat) (U : List Int32) : Prop := ∀ (i : Nat) (v : Int32), U.reverse[i]? = some v → gI σ a i = v
theorem UR.fr {σ σ' : Hp} {a : Nat} {U : List Int32} (h : UR σ a U) (hf : ∀ k, k < U.length → gI σ' a k = gI σ a k) : UR σ' a U := fun i v hi => by
  have il := get_lt hi
  rw [List.length_reverse] at il
  rw [hf i il]; exact h i v hi
theorem UR.push {σ σ' : Hp} {a : Nat} {U : List Int32} {v : Int32} (h : UR σ a U) (hv : gI σ' a U.length = v) (hf : ∀ k, k < U.length → gI σ' a k = gI σ a k) : UR σ' a (v :: U) := fun i x hi => by
  rw [List.reverse_cons] at hi
  rcases put_get hi with ⟨q1, q2⟩ | ⟨q1, q2⟩
  · rw [List.length_reverse] at q1
    rw [hf i q1]; exact h i x q2
  · rw [List.length_reverse] at q1
    rw [q1, q2]; exact hv
theorem UR.pop {σ : Hp} {a : Nat} {U : List Int32} {v : Int32} (h : UR σ a (v :: U)) : gI σ a U.length = v ∧ UR σ a U := by
  refine ⟨h U.length v ?_, fun i x hi => h i x ?_⟩
  · rw [List.reverse_cons, List.getElem?_append_right (by rw [List.length_reverse]; exact Nat.le_refl _), List.length_reverse, Nat.sub_self]
    rfl
  · rw [List.reverse_cons, List.getElem?_append_left (get_lt hi)]
    exact hi
/-- LongYears' parts of it -/
def LF (o : Nat) (σ : Hp) (S : PlS) : Prop := gI σ o 1 = Int32.ofNat (yF S) ∧ TB0 o (yB S) (yF S) σ ∧ gI σ o 2 = yK S ∧ gI σ o 3 = yP S
def LT (o : Nat) (σ : Hp) (T : List Tld) : Prop := gI σ o 11 = Int32.ofNat T.length ∧ TR2 σ (o + 18) (o + 19) T
def LU (o : Nat) (σ : Hp) (U : List Int32) : Prop := gI σ o 14 = Int32.ofNat U.length ∧ UR σ (o + 17) U
def LIm (o : Nat) (σ : Hp) (I : Option (List NoteW × List Tld)) : Prop := match I with
  | none => gI σ o 15 = 0
  | some (IN, IT) => ¬ gI σ o 15 = 0 ∧ gI σ o 10 = Int32.ofNat IN.length ∧ gI σ o 12 = Int32.ofNat IT.length ∧ IN.length ≤ 12 ∧ (∀ i w, IN[i]? = some w → pNw σ (o + 41 + 6 * i) w) ∧ TR2 σ (o + 20) (o + 21) IT
def RepL (o c z : Nat) (σ : Hp) (S : PlS) : Prop := LB o c σ ∧ o + 110 ≤ gS σ ∧ (c = o + 3 ∨ z ≤ c) ∧ LQ o c (yR S) (yN S) σ ∧ gI σ c 10 = Int32.ofNat (aK (yR S)) ∧ LF o σ S ∧ LT o σ (yT S) ∧ LU o σ (yU S) ∧ LIm o σ (yI S)
/-- what LongYears' calls write, but for a text -/
def SLw (o a k : Nat) : Prop := a = o ∨ a = o + 1 ∨ (o + 14 ≤ a ∧ a < o + 110)
theorem LF.fr {o : Nat} {σ σ' : Hp} {S : PlS} (h : LF o σ S) (h0 : ∀ k, 1 ≤ k → k ≤ 3 → gI σ' o k = gI σ o k) (h1 : ∀ k, gI σ' (o + 1) k = gI σ (o + 1) k) : LF o σ' S := by
  obtain ⟨a, b, c, d⟩ := h
  refine ⟨by rw [h0 _ (by omega) (by omega)]; exact a, ⟨b.1, fun i hi => ?_⟩, by rw [h0 _ (by omega) (by omega)]; exact c, by rw [h0 _ (by omega) (by omega)]; exact d⟩
  rw [h1]; exact b.2 i hi
theorem LT.fr {o : Nat} {σ σ' : Hp} {T : List Tld} (h : LT o σ T) (h0 : gI σ' o 11 = gI σ o 11) (h1 : ∀ k, gI σ' (o + 18) k = gI σ (o + 18) k) (h2 : ∀ k, gI σ' (o + 19) k = gI σ (o + 19) k) : LT o σ' T := ⟨h0.trans h.1, h.2.fr h1 h2⟩
theorem LU.fr {o : Nat} {σ σ' : Hp} {U : List Int32} (h : LU o σ U) (h0 : gI σ' o 14 = gI σ o 14) (h1 : ∀ k, gI σ' (o + 17) k = gI σ (o + 17) k) : LU o σ' U := ⟨h0.trans h.1, h.2.fr (fun k _ => h1 k)⟩
theorem LIm.fr {o : Nat} {σ σ' : Hp} {I : Option (List NoteW × List Tld)} (h : LIm o σ I) (h0 : ∀ k, k = 10 ∨ k = 12 ∨ k = 15 → gI σ' o k = gI σ o k) (h1 : ∀ k, gI σ' (o + 20) k = gI σ (o + 20) k ∧ gI σ' (o + 21) k = gI σ (o + 21) k) (h2 : ∀ i a k, i < 12 → o + 41 + 6 * i ≤ a → a < o + 41 + 6 * i + 3 → gI σ' a k = gI σ a k) : LIm o σ' I := by
  cases I with
  | none => exact (h0 15 (by omega)).trans h
  | some x =>
    obtain ⟨IN, IT⟩ := x
    obtain ⟨a, b, c, d, e, f⟩ := h
    refine ⟨by rw [h0 15 (by omega)]; exact a, (h0 10 (by omega)).trans b, (h0 12 (by omega)).trans c, d, fun i w hi => (e i w hi).fr (fun a k q1 q2 => h2 i a k (by have := get_lt hi; omega) q1 q2), f.fr (fun k => (h1 k).1) (fun k => (h1 k).2)⟩
theorem RepL.of {o c z : Nat} {σ σ' : Hp} {S S' : PlS} (h : RepL o c z σ S) (hz : o + 110 ≤ z) (hc : Ch (SLw o) σ σ') (hR : yR S' = yR S) (hN : LNt o σ' (yR S) (yN S')) (hF : LF o σ' S') (hT : LT o σ' (yT S')) (hU : LU o σ' (yU S')) (hI : LIm o σ' (yI S')) : RepL o c z σ' S' := by
  obtain ⟨a, b, cz, q, c10, -⟩ := h
  have ng : ∀ a k, (o + 110 ≤ a ∨ (o + 3 ≤ a ∧ a < o + 14)) → ¬ SLw o a k := fun a k q => by unfold SLw; omega
  refine ⟨a.sh hc.1, by rw [hc.gs]; exact b, cz, ?_, ?_, hF, hT, hU, hI⟩
  · rw [hR]
    exact ⟨q.1.fr (by rw [hc.gs]; exact Nat.le_refl _) (fun a w _ => ⟨hc.gt, fun k => ⟨hc.gr, hc.gi (ng a k w), hc.gl (ng a k w)⟩⟩), hN⟩
  · rw [hR, hc.gi (ng _ _ (by omega))]; exact c10
/-- a query leaves all -/
theorem SLf.a {o a k : Nat} (h : SLf o a k) : SLw o a k := by
  unfold SLf SLn SLk at h
  unfold SLw
  omega
theorem nSLf {o a k : Nat} (h : ¬ (a = o + 14 ∨ (o + 23 ≤ a ∧ a < o + 38) ∨ (a = o ∧ 24 ≤ k ∧ k ≤ 26))) : ¬ SLf o a k := by
  unfold SLf SLn SLk
  omega
theorem RepL.q {o c z : Nat} {σ σ' : Hp} {S : PlS} (h : RepL o c z σ S) (hz : o + 110 ≤ z) (hc : Ch (SLf o) σ σ') (hq : LQ o c (yR S) (yN S) σ') : RepL o c z σ' S := by
  have h0 := h
  obtain ⟨a, b, cz, q, c10, f, t, u, i⟩ := h
  refine h0.of hz (hc.up (fun a k q => q.a)) rfl hq.2 (f.fr (fun k _ _ => hc.gi (nSLf (by omega))) (fun k => hc.gi (nSLf (by omega)))) (t.fr (hc.gi (nSLf (by omega))) (fun k => hc.gi (nSLf (by omega))) (fun k => hc.gi (nSLf (by omega)))) (u.fr (hc.gi (nSLf (by omega))) (fun k => hc.gi (nSLf (by omega)))) (i.fr (fun k _ => hc.gi (nSLf (by omega))) (fun k => ⟨hc.gi (nSLf (by omega)), hc.gi (nSLf (by omega))⟩) (fun i a k _ _ _ => hc.gi (nSLf (by omega))))
/-! THE REFERENCE's PARTS -/
def MF (m : Nat) (τ : Hp) (S : PlS) : Prop := gI τ m 1 = Int32.ofNat (yF S) ∧ (∀ i, i < yF S → gI τ (m + 1) i = yB S i) ∧ gI τ m 4 = yK S ∧ gI τ m 5 = yP S
def MT2 (m : Nat) (τ : Hp) (T : List Tld) : Prop := gI τ m 67 = Int32.ofNat T.length ∧ TR2 τ (m + 28) (m + 29) T
def MU (m : Nat) (τ : Hp) (U : List Int32) : Prop := gI τ m 59 = Int32.ofNat U.length ∧ UR τ (m + 24) U
def MI2 (m : Nat) (τ : Hp) (I : Option (List NoteW × List Tld)) : Prop := match I with
  | none => gI τ m 70 = 0
  | some (IN, IT) => ¬ gI τ m 70 = 0 ∧ gI τ m 71 = Int32.ofNat IN.length ∧ gI τ m 72 = Int32.ofNat IT.length ∧ IN.length ≤ 12 ∧ (∀ i w, IN[i]? = some w → mNw (m + 14) τ (11 * i) w) ∧ TR2 τ (m + 31) (m + 32) IT
def RepM (m : Nat) (τ : Hp) (S : PlS) : Prop := MB m τ ∧ m + 33 ≤ gS τ ∧ (∀ i, i < 118 → gI τ (m + 2) i = ws1.getD i 0) ∧ MQt m (yR S) (yN S) τ ∧ MF m τ S ∧ MT2 m τ (yT S) ∧ MU m τ (yU S) ∧ MI2 m τ (yI S)
theorem MF.fr {m : Nat} {τ τ' : Hp} {S : PlS} (h : MF m τ S) (h0 : ∀ k, k = 1 ∨ k = 4 ∨ k = 5 → gI τ' m k = gI τ m k) (h1 : ∀ k, gI τ' (m + 1) k = gI τ (m + 1) k) : MF m τ' S := by
  obtain ⟨a, b, c, d⟩ := h
  exact ⟨by rw [h0 _ (by omega)]; exact a, fun i hi => by rw [h1]; exact b i hi, by rw [h0 _ (by omega)]; exact c, by rw [h0 _ (by omega)]; exact d⟩
theorem MT2.fr {m : Nat} {τ τ' : Hp} {T : List Tld} (h : MT2 m τ T) (h0 : gI τ' m 67 = gI τ m 67) (h1 : ∀ k, gI τ' (m + 28) k = gI τ (m + 28) k) (h2 : ∀ k, gI τ' (m + 29) k = gI τ (m + 29) k) : MT2 m τ' T := ⟨h0.trans h.1, h.2.fr h1 h2⟩
theorem MU.fr {m : Nat} {τ τ' : Hp} {U : List Int32} (h : MU m τ U) (h0 : gI τ' m 59 = gI τ m 59) (h1 : ∀ k, gI τ' (m + 24) k = gI τ (m + 24) k) : MU m τ' U := ⟨h0.trans h.1, h.2.fr (fun k _ => h1 k)⟩
theorem MI2.fr {m : Nat} {τ τ' : Hp} {I : Option (List NoteW × List Tld)} (h : MI2 m τ I) (h0 : ∀ k, 70 ≤ k → k ≤ 72 → gI τ' m k = gI τ m k) (h1 : ∀ k, gI τ' (m + 30) k = gI τ (m + 30) k ∧ gI τ' (m + 31) k = gI τ (m + 31) k ∧ gI τ' (m + 32) k = gI τ (m + 32) k) : MI2 m τ' I := by
  cases I with
  | none => exact (h0 70 (by omega) (by omega)).trans h
  | some x =>
    obtain ⟨IN, IT⟩ := x
    obtain ⟨a, b, c, d, e, f⟩ := h
    exact ⟨by rw [h0 70 (by omega) (by omega)]; exact a, (h0 71 (by omega) (by omega)).trans b, (h0 72 (by omega) (by omega)).trans c, d, fun i w hi => (e i w hi).fr (fun k _ _ => (h1 k).1), f.fr (fun k => (h1 k).2.1) (fun k => (h1 k).2.2)⟩
theorem RepM.of {m : Nat} {τ τ' : Hp} {S S' : PlS} (h : RepM m τ S) (hc : Ch (SMp m) τ τ') (hR : yR S' = yR S) (hN : MN m τ' (yR S) (yN S')) (hF : MF m τ' S') (hT : MT2 m τ' (yT S')) (hU : MU m τ' (yU S')) (hI : MI2 m τ' (yI S')) : RepM m τ' S' := by
  obtain ⟨a, b, d, q, -⟩ := h
  refine ⟨a.sh hc.1, by rw [hc.gs]; exact b, fun i hi => ?_, ?_, hF, hT, hU, hI⟩
  · rw [hc.gi (by unfold SMp; omega)]; exact d i hi
  · rw [hR]; exact ⟨q.1.p hc, hN⟩
theorem nSMn {m a k : Nat} (h : ¬ ((a = m ∧ (k = 2 ∨ k = 53 ∨ k = 54 ∨ k = 57 ∨ k = 62 ∨ k = 63 ∨ k = 64)) ∨ a = m + 22 ∨ a = m + 23 ∨ a = m + 25 ∨ a = m + 26 ∨ a = m + 27)) : ¬ SMn m a k := by
  unfold SMn SMq
  omega
theorem RepM.q {m : Nat} {τ τ' : Hp} {S : PlS} (h : RepM m τ S) (hc : Ch (SMn m) τ τ') : RepM m τ' S := by
  have h0 := h
  obtain ⟨a, b, d, q, f, t, u, i⟩ := h
  exact h0.of (hc.up (fun a k q => q.p)) rfl (q.2.n hc) (f.fr (fun k _ => hc.gi (nSMn (by omega))) (fun k => hc.gi (nSMn (by omega)))) (t.fr (hc.gi (nSMn (by omega))) (fun k => hc.gi (nSMn (by omega))) (fun k => hc.gi (nSMn (by omega)))) (u.fr (hc.gi (nSMn (by omega))) (fun k => hc.gi (nSMn (by omega)))) (i.fr (fun k _ _ => hc.gi (nSMn (by omega))) (fun k => ⟨hc.gi (nSMn (by omega)), hc.gi (nSMn (by omega)), hc.gi (nSMn (by omega))⟩))
/-! A CALL OF BOTH -/
def PLl {α : Type} (o c z : Nat) (σ : Hp) (w : (α → Hp → Prop) → Prop) (v : α) (S' : PlS) : Prop := ∀ Q : α → Hp → Prop, (∀ σ', Ch (SLw o) σ σ' → RepL o c z σ' S' → Q v σ') → w Q
def PMl {α : Type} (m : Nat) (τ : Hp) (w : (α → Hp → Prop) → Prop) (v : α) (S' : PlS) : Prop := ∀ Q : α → Hp → Prop, (∀ τ', Ch (SMp m) τ τ' → RepM m τ' S' → gI τ' m 2 = 0 → Q v τ') → w Q
/-- a function as a walk -/
def fw {α : Type} (ok : Prop) (f : α × Hp) (Q : α → Hp → Prop) : Prop := ok ∧ Q f.1 f.2
def fv {α : Type} (ok : Prop) (f : α) (σ : Hp) (Q : α → Hp → Prop) : Prop := ok ∧ Q f σ
def wv {α : Type} (w : (α → Prop) → Prop) (σ : Hp) (Q : α → Hp → Prop) : Prop := w (fun v => Q v σ)
section
variable {α : Type} {o c z m n : Nat} {σ τ : Hp} {S : PlS}
theorem pl_n {w : (α → Hp → Prop) → Prop} {v : α} (hz : o + 110 ≤ z) (h : RepL o c z σ S) (hw : QLn o c (yR S) (yN S) σ w v) : PLl o c z σ w v S := fun Q hQ => hw Q (fun σ' h1 h2 => hQ σ' (h1.up (fun a k q => q.a)) (h.q hz h1 h2))
theorem pm_n {w : (α → Hp → Prop) → Prop} {v : α} (h : RepM m τ S) (hw : QMn m τ w v) : PMl m τ w v S := fun Q hQ => hw Q (fun τ' h1 h2 => hQ τ' (h1.up (fun a k q => q.p)) (h.q h1) h2)
/-- the realm's queries -/
theorem pl_v {w : (α → Prop) → Prop} {v : α} (h : RepL o c z σ S) (hw : QL w v) : PLl o c z σ (wv w σ) v S := fun Q hQ => hw _ (hQ σ Ch.rf h)
theorem pl_h {w : (α → Hp → Prop) → Prop} {v : α} (hz : o + 110 ≤ z) (h : RepL o c z σ S) (hw : QLh o σ w v) : PLl o c z σ w v S := fun Q hQ => hw Q (fun σ' h1 => by
  have k1 : Ch (SLf o) σ σ' := h1.up (fun a k q => Or.inl (Or.inl q))
  have k2 : Ch (SLn o) σ σ' := h1.up (fun a k q => Or.inl q)
  have q := h.2.2.2.1
  refine hQ σ' (k1.up (fun a k q => q.a)) (h.q hz k1 ⟨q.1.n k2, q.2.fr (h1.gi (by unfold SLq; omega)) (fun a k _ _ => h1.gi (by unfold SLq; omega)) (fun i w hi hl => ?_)⟩)
  rw [h1.gi (by unfold SLq; omega)] at hl
  exact (q.2.2.2.2 i w hi hl).fr (fun k => h1.gl (by unfold SLq; omega)))
theorem pm_q {w : (α → Hp → Prop) → Prop} {v : α} (h : RepM m τ S) (hw : QM m τ w v) : PMl m τ w v S := pm_n h (fun Q hQ => hw Q (fun τ' h1 h2 => hQ τ' (h1.up (fun a k q => Or.inl q)) h2))
theorem pl_f {ok : Prop} {f v : α} (h : RepL o c z σ S) (hk : ok) (hv : f = v) : PLl o c z σ (fv ok f σ) v S := fun Q hQ => ⟨hk, by rw [hv]; exact hQ σ Ch.rf h⟩
theorem pm_f {ok : Prop} {f : α × Hp} {v : α} (h : RepM m τ S) (hk : ok) (hv : f = (v, pI τ m 2 0)) : PMl m τ (fw ok f) v S := fun Q hQ => ⟨hk, by rw [hv]; exact hQ _ (t0n.up (fun a k q => q.p)) (h.q t0n) t0_2⟩
end
