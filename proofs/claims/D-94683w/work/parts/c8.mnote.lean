set_option maxRecDepth 100000
theorem swm_all : ∀ w, w < 23 → (if Int32.ofNat w = 1 then (6 : Int32) else if Int32.ofNat w = 2 then (-1) else if Int32.ofNat w = 3 then (-1) else if Int32.ofNat w = 4 then (-1) else if Int32.ofNat w = 5 then (-1) else if Int32.ofNat w = 6 then 2 else if Int32.ofNat w = 7 then 3 else if Int32.ofNat w = 8 then (-1) else if Int32.ofNat w = 9 then (-1) else if Int32.ofNat w = 10 then (-1) else if Int32.ofNat w = 11 then (-1) else if Int32.ofNat w = 12 then (-1) else if Int32.ofNat w = 13 then (-1) else if Int32.ofNat w = 14 then 5 else if Int32.ofNat w = 15 then 7 else if Int32.ofNat w = 16 then (-1) else if Int32.ofNat w = 17 then (-1) else if Int32.ofNat w = 18 then (-1) else if Int32.ofNat w = 19 then 1 else if Int32.ofNat w = 20 then 0 else if Int32.ofNat w = 21 then 4 else (-1)) = fndI (nwOf (0, 0, 1, Int32.ofNat w)) := by decide +kernel
theorem mword {m n : Nat} {σ : Hp} {t : Tok} (h : TKM m σ t) (hv : TV n t) : f_X6_noteWord m σ = fndI (nwOf t) := by
  unfold f_X6_noteWord
  rw [h.2.2.1]
  by_cases k : tKd t = 1
  · obtain ⟨w, hw, e⟩ := wh_nat hv k
    rw [k, h.2.2.2 (by rw [k]; decide) (by rw [k]; decide), if_pos rfl, e, swm_all w hw]
    have : nwOf t = nwOf (0, 0, 1, Int32.ofNat w) := by
      unfold nwOf tKd tWh at *
      rw [k, e]
    rw [this]
  · rw [if_neg k]
    unfold nwOf
    rw [if_neg k]
    rfl
def SW (m p w a k : Nat) : Prop := Sp m a k ∨ (a = m + 16 ∧ ((w = 0 ∧ (k = p + 1 ∨ k = p + 2)) ∨ (w ≠ 0 ∧ (k = p + 2 + w ∨ (w = 7 ∧ k = p + 10)))))
def sv (m p w : Nat) (v : Int32 × Int32) (σ : Hp) : Prop := gI σ (m + 16) (p + (if w = 0 then 1 else 2 + w)) = v.1 ∧ (w = 0 → gI σ (m + 16) (p + 2) = v.2) ∧ (w = 7 → gI σ (m + 16) (p + 10) = v.2)
theorem m_says {m : Nat} {b : Nat → Int32} {n p w : Nat} {pn fn nn : List Int32} {σ : Hp} {t : Tok} {Q : Int32 → Hp → Prop} (hp : p + 11 ≤ 264) (hw : w < 8) (hT : MT m b n σ t) (h3 : ∀ i y, pn[i]? = some y → gI σ (m + 9) (6 + i) = y) (l3 : gI σ m 20 = Int32.ofNat pn.length) (b3 : pn.length ≤ 6) (h2 : ∀ i y, fn[i]? = some y → gI σ (m + 6) (4 + i) = y) (l2 : gI σ m 19 = Int32.ofNat fn.length) (b2 : fn.length ≤ 4) (h5 : ∀ i y, nn[i]? = some y → gI σ (m + 15) (6 + i) = y) (l5 : gI σ m 22 = Int32.ofNat nn.length) (b5 : nn.length ≤ 6) (hg : MG m b n (SW m p w) σ (sayS b n pn fn nn w t) (sv m p w) Q) : wp_X6_saysRead m σ (Int32.ofNat p) (Int32.ofNat w) Q := by
  obtain ⟨hok, hbad⟩ := hg
  have spu : ∀ a k, Sp m a k → SW m p w a k := fun a k q => Or.inl q
  have e2 : Int32.ofNat p + 2 = Int32.ofNat (p + 2) := nat_a (q := 2) (by omega)
  have e3 : Int32.ofNat (p + 2) + Int32.ofNat w = Int32.ofNat (p + 2 + w) := nat_a (by omega)
  have e1 : Int32.ofNat p + 1 = Int32.ofNat (p + 1) := nat_s (by omega)
  have e10 : Int32.ofNat p + 10 = Int32.ofNat (p + 10) := nat_a (q := 10) (by omega)
  have le7 : (7 : Int32) ≤ Int32.ofNat w ↔ 7 ≤ w := nat_le (p := 7) (by omega) (by omega)
  have tl : w ≠ 0 → w ≠ 7 → ∀ (σ1 : Hp) (t1 : Tok) (x : Int32), Ch (Sp m) σ σ1 → MT m b n σ1 t1 → gI σ1 m 11 = x → sayS b n pn fn nn w t = .inl ((x, 0), t1) → wj_X6_saysRead_176 m σ1 (Int32.ofNat p) (Int32.ofNat w) 1 Q := by
    intro w0 w7 σ1 t1 x c1 c2 c3 e
    unfold wj_X6_saysRead_176
    rw [e2, e3, nat_c (by omega), le7, c3]
    refine ⟨fun q => (by cases q), fun _ => ⟨nat_v (by omega) (by omega), fun q => absurd q (by omega), fun _ => ?_⟩⟩
    refine hok (x, 0) t1 _ e ((c1.up spu).i (Or.inr ⟨rfl, Or.inr ⟨w0, Or.inl rfl⟩⟩)) (c2.w (by omega)) ⟨?_, fun q => absurd q w0, fun q => absurd q w7⟩
    rw [if_neg w0, show p + (2 + w) = p + 2 + w by omega, gI_pI, if_pos ⟨rfl, rfl⟩]
  have bd : ∀ k pl σ', sayS b n pn fn nn w t = .inr (k, pl) → Ch (Sp m) σ σ' → gI σ' m 4 = k → gI σ' m 5 = Int32.ofNat pl → wj_X6_saysRead_176 m σ' (Int32.ofNat p) (Int32.ofNat w) 0 Q := fun k pl σ' e c1 c2 c3 => ⟨fun _ => hbad k pl σ' e (c1.up spu) c2 c3, fun q => absurd rfl q⟩
  unfold wp_X6_saysRead
  rcases (show w = 0 ∨ w = 1 ∨ w = 2 ∨ w = 3 ∨ w = 4 ∨ w = 5 ∨ w = 6 ∨ w = 7 by omega) with rfl | rfl | rfl | rfl | rfl | rfl | rfl | rfl
  · refine ⟨fun _ => ?_, fun q => absurd rfl q⟩
    have es : sayS b n pn fn nn 0 t = pb (numS b n 1 9999 t) (fun x t => pb (numS b n x 9999 t) (fun y t => .inl ((x, y), t))) := rfl
    rw [e1, e2, nat_c (by omega), nat_c (by omega)]
    refine m_number hT ⟨fun x t1 s29 z1 c1 c2 c3 => ⟨fun w => (by cases w), fun _ => ⟨nat_v (by omega) (by omega), ?_⟩⟩, fun k pl σ' e c1 c2 c3 => ⟨fun _ => hbad k pl σ' (by rw [es, e]; rfl) (c1.up spu) c2 c3, fun w => absurd rfl w⟩⟩
    have c3 : gI s29 m 11 = x := c3
    rw [c3]
    have k1 : Ch (SW m p 0) σ (pI s29 (m + 16) (p + 1) x) := (c1.up spu).i (Or.inr ⟨rfl, Or.inl ⟨rfl, Or.inl rfl⟩⟩)
    refine m_number (c2.w (by omega)) ⟨fun y t2 s34 z2 d1 d2 d3 => ⟨fun w => (by cases w), fun _ => ⟨nat_v (by omega) (by omega), ?_⟩⟩, fun k pl σ' e c1 c2 c3 => ⟨fun _ => hbad k pl σ' (by rw [es, z1, pb_inl, e]; rfl) (k1.tr (c1.up spu)) c2 c3, fun w => absurd rfl w⟩⟩
    have d3 : gI s34 m 11 = y := d3
    rw [d3]
    refine hok (x, y) t2 _ (by rw [es, z1, pb_inl, z2]; rfl) ((k1.tr (d1.up spu)).i (Or.inr ⟨rfl, Or.inl ⟨rfl, Or.inr rfl⟩⟩)) (d2.w (by omega)) ⟨?_, fun _ => ?_, fun q => (by cases q)⟩
    · rw [if_pos rfl, pIo (by omega), d1.gi (by unfold Sp; omega), gI_pI, if_pos ⟨rfl, rfl⟩]
    · rw [gI_pI, if_pos ⟨rfl, rfl⟩]
  · have es : sayS b n pn fn nn 1 t = pb (numS b n 1 99999 t) (fun x t => .inl ((x, 0), t)) := rfl
    refine ⟨fun q => absurd q (by decide), fun _ => ⟨fun _ => ?_, fun q => absurd rfl q⟩⟩
    exact m_number hT ⟨fun x t1 σ' e c1 c2 c3 => tl (by decide) (by decide) σ' t1 x c1 c2 c3 (by rw [es, e]; rfl), fun k pl σ' e c1 c2 c3 => bd k pl σ' (by rw [es, e]; rfl) c1 c2 c3⟩
  · have es : sayS b n pn fn nn 2 t = pb (numS b n 0 99999 t) (fun x t => .inl ((x, 0), t)) := rfl
    refine ⟨fun q => absurd q (by decide), fun _ => ⟨fun q => absurd q (by decide), fun _ => ⟨fun _ => ?_, fun q => absurd rfl q⟩⟩⟩
    exact m_number hT ⟨fun x t1 σ' e c1 c2 c3 => tl (by decide) (by decide) σ' t1 x c1 c2 c3 (by rw [es, e]; rfl), fun k pl σ' e c1 c2 c3 => bd k pl σ' (by rw [es, e]; rfl) c1 c2 c3⟩
  · have es : sayS b n pn fn nn 3 t = pb (numS b n 0 7 t) (fun x t => .inl ((x, 0), t)) := rfl
    refine ⟨fun q => absurd q (by decide), fun _ => ⟨fun q => absurd q (by decide), fun _ => ⟨fun q => absurd q (by decide), fun _ => ⟨fun _ => ?_, fun q => absurd rfl q⟩⟩⟩⟩
    exact m_number hT ⟨fun x t1 σ' e c1 c2 c3 => tl (by decide) (by decide) σ' t1 x c1 c2 c3 (by rw [es, e]; rfl), fun k pl σ' e c1 c2 c3 => bd k pl σ' (by rw [es, e]; rfl) c1 c2 c3⟩
  · have es : sayS b n pn fn nn 4 t = pb (numS b n 0 3 t) (fun x t => .inl ((x, 0), t)) := rfl
    refine ⟨fun q => absurd q (by decide), fun _ => ⟨fun q => absurd q (by decide), fun _ => ⟨fun q => absurd q (by decide), fun _ => ⟨fun q => absurd q (by decide), fun _ => ⟨fun _ => ?_, fun q => absurd rfl q⟩⟩⟩⟩⟩
    exact m_number hT ⟨fun x t1 σ' e c1 c2 c3 => tl (by decide) (by decide) σ' t1 x c1 c2 c3 (by rw [es, e]; rfl), fun k pl σ' e c1 c2 c3 => bd k pl σ' (by rw [es, e]; rfl) c1 c2 c3⟩
  · have es : sayS b n pn fn nn 5 t = pb (ahS b n pn t) (fun x t => .inl ((x, 0), t)) := rfl
    refine ⟨fun q => absurd q (by decide), fun _ => ⟨fun q => absurd q (by decide), fun _ => ⟨fun q => absurd q (by decide), fun _ => ⟨fun q => absurd q (by decide), fun _ => ⟨fun q => absurd q (by decide), fun _ => ⟨fun _ => ?_, fun q => absurd rfl q⟩⟩⟩⟩⟩⟩
    rw [l3]
    exact m_oldName (fr := 6) hT h3 (by omega) (by omega) ⟨fun x t1 σ' e c1 c2 c3 => tl (by decide) (by decide) σ' t1 x c1 c2 c3 (by rw [es, e]; rfl), fun k pl σ' e c1 c2 c3 => bd k pl σ' (by rw [es, e]; rfl) c1 c2 c3⟩
  · have es : sayS b n pn fn nn 6 t = pb (ahS b n fn t) (fun x t => .inl ((x, 0), t)) := rfl
    refine ⟨fun q => absurd q (by decide), fun _ => ⟨fun q => absurd q (by decide), fun _ => ⟨fun q => absurd q (by decide), fun _ => ⟨fun q => absurd q (by decide), fun _ => ⟨fun q => absurd q (by decide), fun _ => ⟨fun q => absurd q (by decide), fun _ => ⟨fun _ => ?_, fun q => absurd rfl q⟩⟩⟩⟩⟩⟩⟩
    rw [l2]
    exact m_oldName (fr := 4) hT h2 (by omega) (by omega) ⟨fun x t1 σ' e c1 c2 c3 => tl (by decide) (by decide) σ' t1 x c1 c2 c3 (by rw [es, e]; rfl), fun k pl σ' e c1 c2 c3 => bd k pl σ' (by rw [es, e]; rfl) c1 c2 c3⟩
  · have es : sayS b n pn fn nn 7 t = pb (ahS b n nn t) (fun x t => pb (sgdS b n 9999 t) (fun y t => .inl ((x, y), t))) := rfl
    refine ⟨fun q => absurd q (by decide), fun _ => ⟨fun q => absurd q (by decide), fun _ => ⟨fun q => absurd q (by decide), fun _ => ⟨fun q => absurd q (by decide), fun _ => ⟨fun q => absurd q (by decide), fun _ => ⟨fun q => absurd q (by decide), fun _ => ⟨fun q => absurd q (by decide), fun _ => ?_⟩⟩⟩⟩⟩⟩⟩
    rw [l5]
    refine m_oldName (fr := 6) hT h5 (by omega) (by omega) ⟨fun x t1 s8 z1 c1 c2 c3 => ?_, fun k pl σ' e c1 c2 c3 => bd k pl σ' (by rw [es, e]; rfl) c1 c2 c3⟩
    have c3 : gI s8 m 11 = x := c3
    show wj_X6_saysRead_176 m s8 (Int32.ofNat p) (Int32.ofNat 7) 1 Q
    unfold wj_X6_saysRead_176
    rw [e2, e3, e10, nat_c (by omega), nat_c (by omega), le7, c3]
    refine ⟨fun q => (by cases q), fun _ => ⟨nat_v (by omega) (by omega), fun _ => ?_, fun q => absurd (Nat.le_refl 7) q⟩⟩
    have k1 : Ch (SW m p 7) σ (pI s8 (m + 16) (p + 2 + 7) x) := (c1.up spu).i (Or.inr ⟨rfl, Or.inr ⟨by decide, Or.inl rfl⟩⟩)
    refine m_signed (c2.w (by omega)) ⟨fun y t2 s34 z2 d1 d2 d3 => ⟨fun w => (by cases w), fun _ => ⟨nat_v (by omega) (by omega), ?_⟩⟩, fun k pl σ' e c1 c2 c3 => ⟨fun _ => hbad k pl σ' (by rw [es, z1, pb_inl, e]; rfl) (k1.tr (c1.up spu)) c2 c3, fun w => absurd rfl w⟩⟩
    have d3 : gI s34 m 11 = y := d3
    rw [d3]
    refine hok (x, y) t2 _ (by rw [es, z1, pb_inl, z2]; rfl) ((k1.tr (d1.up spu)).i (Or.inr ⟨rfl, Or.inr ⟨by decide, Or.inr ⟨rfl, rfl⟩⟩⟩)) (d2.w (by omega)) ⟨?_, fun q => (by cases q), fun _ => ?_⟩
    · rw [if_neg (by decide), pIo (by omega), d1.gi (by unfold Sp; omega), show p + (2 + 7) = p + 2 + 7 by omega, gI_pI, if_pos ⟨rfl, rfl⟩]
    · rw [gI_pI, if_pos ⟨rfl, rfl⟩]
def SNb (m ln a k : Nat) : Prop := Sp m a k ∨ (a = m + 15 ∧ k = 6 + ln) ∨ (a = m + 16 ∧ 132 + 11 * ln ≤ k ∧ k < 143 + 11 * ln)
def SNe (m ln a k : Nat) : Prop := SNb m ln a k ∨ (a = m ∧ k = 22)
theorem SNe_SRd {m ln a k : Nat} (h : SNe m ln a k) : SRd m a k := by
  rcases h with (h | ⟨rfl, rfl⟩ | ⟨rfl, h1, h2⟩) | ⟨rfl, rfl⟩
  · exact Sp_SRd h
  · exact Or.inr (Or.inr (Or.inr (Or.inr (Or.inr (Or.inr (Or.inr (Or.inr (Or.inl ⟨rfl, by omega⟩))))))))
  · exact Or.inr (Or.inr (Or.inr (Or.inr (Or.inr (Or.inr (Or.inr (Or.inr (Or.inr (Or.inl ⟨rfl, by omega⟩)))))))))
  · exact Or.inl ⟨rfl, by omega⟩
theorem m_putN {m : Nat} {σ σ' : Hp} {P : PSt} {x : NoteA} (h : MRl m 1 σ P.1) (hC : MC m σ P) (hl : (aN P.1).length ≠ 6) (hc : Ch (SNe m (aN P.1).length) σ σ') (h22 : gI σ' m 22 = Int32.ofNat ((aN P.1).length + 1)) (x0 : gI σ' (m + 15) (6 + (aN P.1).length) = x.1) (x1 : mNw m σ' (132 + 11 * (aN P.1).length) x.2) : MRl m 1 σ' (putN P.1 x) ∧ MC m σ' (putN P.1 x, P.2) := by
  have hu : ∀ a k, US m 1 P.1 a k → ¬ SNe m (aN P.1).length a k := fun a k q => q.by (fun k _ _ => by unfold SNe SNb Sp; omega) (fun k _ _ => by unfold SNe SNb Sp; omega) (fun k _ _ => by unfold SNe SNb Sp; omega) (fun k _ _ => by unfold SNe SNb Sp; omega) (fun k _ _ => by unfold SNe SNb Sp; omega) (fun k _ _ => by unfold SNe SNb Sp; omega) (fun k _ _ => by unfold SNe SNb Sp; omega) (fun k _ _ => by unfold SNe SNb Sp; omega) (fun k _ _ => by unfold SNe SNb Sp; omega) (fun k _ _ => by unfold SNe SNb Sp; omega)
  have h' : MRl m 1 σ' P.1 := h.fr (fun a k q => ⟨hc.gi (hu a k q), hc.gl (hu a k q)⟩)
  obtain ⟨c1, c2, c3, c4, c5, c6, c7, c8, c9⟩ := hC
  have f : ∀ k, k ≠ 22 → 12 ≤ k → gI σ' m k = gI σ m k := fun k q1 q2 => hc.gi (by unfold SNe SNb Sp; omega)
  refine ⟨⟨h'.1, h'.2.1, h'.2.2.1, h'.2.2.2.1, fun i y hi => ?_, h'.2.2.2.2.2⟩, ?_, ?_, ?_, ?_, ⟨?_, ?_⟩, ?_, ?_⟩
  · rcases put_get (show (aN P.1 ++ [x])[i]? = some y from hi) with ⟨q1, q2⟩ | ⟨q1, q2⟩
    · exact h'.2.2.2.2.1 i y q2
    · subst q1; subst q2
      exact ⟨x0, x1⟩
  · rw [f _ (by omega) (by omega)]; exact c1
  · rw [f _ (by omega) (by omega)]; exact c2
  · rw [f _ (by omega) (by omega)]; exact c3
  · rw [f _ (by omega) (by omega)]; exact c4
  · rw [h22]; show _ = Int32.ofNat (aN P.1 ++ [x]).length; rw [List.length_append]; rfl
  · show (aN P.1 ++ [x]).length ≤ 6; rw [List.length_append]; show _ + 1 ≤ 6; omega
  · rw [f _ (by omega) (by omega), f _ (by omega) (by omega)]; exact c6
  · rw [f _ (by omega) (by omega), f _ (by omega) (by omega), f _ (by omega) (by omega)]; exact ⟨c7, c8, c9⟩
theorem m_note {m : Nat} {b : Nat → Int32} {n : Nat} {σ : Hp} {P : PSt} {t : Tok} {Q : Int32 → Hp → Prop} (hT : MT m b n σ t) (hR : MRl m 1 σ P.1) (hC : MC m σ P) (hx : MLn m b n σ (if (aN P.1).length = 6 then .inr (2, tPl t) else noteS b n (nms3 P.1) (nms2 P.1) (nms5 P.1) (adv b n t)) (fun v => (putN P.1 v, P.2)) Q) : wp_X6_noteLine m σ Q := by
  obtain ⟨hok, hbad⟩ := hx
  have c22 := hC.2.2.2.2.1.1
  have cl := hC.2.2.2.2.1.2
  have l2 : gI σ m 19 = Int32.ofNat (nms2 P.1).length := by unfold nms2; rw [List.length_map]; exact hC.2.1.1
  have l3 : gI σ m 20 = Int32.ofNat (nms3 P.1).length := by unfold nms3; rw [List.length_map]; exact hC.2.2.1.1
  have l5 : gI σ m 22 = Int32.ofNat (nms5 P.1).length := by unfold nms5; rw [List.length_map]; exact hC.2.2.2.2.1.1
  have b2 : (nms2 P.1).length ≤ 4 := by unfold nms2; rw [List.length_map]; exact hC.2.1.2
  have b3 : (nms3 P.1).length ≤ 6 := by unfold nms3; rw [List.length_map]; exact hC.2.2.1.2
  have b5 : (nms5 P.1).length ≤ 6 := by unfold nms5; rw [List.length_map]; exact hC.2.2.2.2.1.2
  have put := fun (σ' : Hp) (x : NoteA) => m_putN (σ' := σ') (x := x) hR hC
  have nl : (nms5 P.1).length = (aN P.1).length := by unfold nms5; rw [List.length_map]
  generalize hln : (aN P.1).length = ln at *
  unfold wp_X6_noteLine
  rw [c22, show (6 : Int32) = Int32.ofNat 6 from rfl, nat_e (by omega) (by omega)]
  refine ⟨fun q => ?_, fun q => ?_⟩
  · rw [if_pos q] at hbad
    exact m_wrong hT (fun _ _ q => Sp_SRd q) (fun σ' c1 c2 c3 => hbad _ _ σ' rfl c1 c2 c3)
  rw [if_neg q] at hok hbad
  have bad : ∀ k pl σ', noteS b n (nms3 P.1) (nms2 P.1) (nms5 P.1) (adv b n t) = .inr (k, pl) → Ch (SNb m ln) σ σ' → gI σ' m 4 = k → gI σ' m 5 = Int32.ofNat pl → Q 0 σ' := fun k pl σ' e c1 c2 c3 => hbad k pl σ' e (c1.up (fun a k q => SNe_SRd (Or.inl q))) c2 c3
  have spu : ∀ a k, Sp m a k → SNb m ln a k := fun a k q => Or.inl q
  have nI : ∀ k, 12 ≤ k → ¬ SNb m ln m k := fun k hk => by unfold SNb Sp; omega
  refine m_token hT.1 hT.2.1.1 hT.2.2 (fun s2 a1 a2 _ => ?_)
  have k2 : Ch (SNb m ln) σ s2 := a1.up spu
  have R2 := hR.sp a1
  rw [k2.gi (nI _ (by omega)), c22]
  refine m_newN (fr := 6) nl a2 (mnms5 R2) (by omega) (by omega) (by omega) (S := SNb m ln) (fun a k q => q.elim Or.inl (fun q => Or.inr (Or.inl q))) ⟨fun nm t1 s4 e1 d1 d2 d3 => ⟨fun w => (by cases w), fun _ => ?_⟩, fun k pl σ' e c1 c2 c3 => ⟨fun _ => bad k pl σ' (by unfold noteS; rw [e]; rfl) (k2.tr c1) c2 c3, fun w => absurd rfl w⟩⟩
  have k4 := k2.tr d1
  have d3 : gI s4 (m + 15) (6 + ln) = nm := d3
  have ex0 : (132 : Int32) + 11 * gI s4 m 22 = Int32.ofNat (132 + 11 * ln) := by
    rw [k4.gi (nI _ (by omega)), c22, show (11 : Int32) = Int32.ofNat 11 from rfl, nat_m (by omega) (by omega) (by omega), show (132 : Int32) = Int32.ofNat 132 from rfl, nat_a (by omega)]
  rw [ex0]
  obtain ⟨r, hr⟩ := nw_tot (b := b) (n := n) (pn := nms3 P.1) (fn := nms2 P.1) (nn := nms5 P.1) ((0, fun _ => 0, fun _ => 0), t1) d2.2.2
  have ex : noteS b n (nms3 P.1) (nms2 P.1) (nms5 P.1) (adv b n t) = pb r fun x t => .inl ((nm, x), t) := by
    unfold noteS
    rw [e1, pb_inl, rsOf_eq hr]
  generalize noteS b n (nms3 P.1) (nms2 P.1) (nms5 P.1) (adv b n t) = X at *
  -- the row is cleared
  refine lp_of (fun z => ∃ k, k ≤ 11 ∧ z.1 = Int32.ofNat k ∧ Ch (SNb m ln) σ z.2 ∧ MT m b n z.2 t1 ∧ gI z.2 (m + 15) (6 + ln) = nm ∧ (0 < k → gI z.2 (m + 16) (132 + 11 * ln) = 0)) (fun z => 11 - z.1.toNatClampNeg) ?_ ⟨0, by omega, rfl, k4, d2, d3, fun q => absurd q (by omega)⟩
  rintro K ⟨x2, τ⟩ ⟨k, hk, rfl, g1, g2, g3, g4⟩ hK
  simp only at g1 g2 g3 g4
  show (_ → _) ∧ (_ → _)
  rw [show (11 : Int32) = Int32.ofNat 11 from rfl, nat_le (by omega) (by omega)]
  refine ⟨fun hk2 => ?_, fun hk2 => ?_⟩
  rotate_left
  · rw [nat_a (by omega), nat_c (by omega), nat_s (by omega)]
    refine ⟨nat_v (by omega) (by omega), hK _ ⟨k + 1, by omega, rfl, g1.i (Or.inr (Or.inr ⟨rfl, by omega, by omega⟩)), g2.w (by omega), ?_, fun _ => ?_⟩ ?_⟩
    · show gI (pI τ (m + 16) (132 + 11 * ln + k) 0) (m + 15) (6 + ln) = nm
      rw [pIo (by omega)]; exact g3
    · show gI (pI τ (m + 16) (132 + 11 * ln + k) 0) (m + 16) (132 + 11 * ln) = 0
      rw [gI_pI]
      by_cases k0 : k = 0
      · rw [if_pos (by subst k0; exact ⟨rfl, rfl⟩)]
      · rw [if_neg (by omega)]; exact g4 (by omega)
    · show 11 - (Int32.ofNat (k + 1)).toNatClampNeg < 11 - (Int32.ofNat k).toNatClampNeg
      rw [nat_c (by omega), nat_c (by omega)]; omega
  have g4 := g4 (by omega)
  rw [mword g2.2.1 g2.2.2]
  refine lp_rn (step := nwStep b n (nms3 P.1) (nms2 P.1) (nms5 P.1)) (fun S z => z.1 = fndI (nwOf S.2) ∧ MT m b n z.2 S.2 ∧ Ch (SNb m ln) σ z.2 ∧ gI z.2 (m + 15) (6 + ln) = nm ∧ mNw m z.2 (132 + 11 * ln) S.1) ?_ (s := ((0, fun _ => 0, fun _ => 0), t1)) ⟨rfl, g2, g1, g3, g4, fun k _ hh => by rw [has_0] at hh; cases hh⟩ hr
  rintro K ⟨nw, t2⟩ ⟨x2, τ⟩ ⟨hx2, T2, f2, n2, N2⟩ hK hE
  simp only at hx2 T2 f2 n2 N2
  subst hx2
  cases hw : nwOf t2 with
  | none =>
    have es : nwStep b n (nms3 P.1) (nms2 P.1) (nms5 P.1) (nw, t2) = .inr (.inl (nw, t2)) := by
      unfold nwStep
      simp only [hw]
    have er := hE _ es
    rw [← er] at ex
    refine ⟨fun _ => ?_, fun w => absurd (by decide) w⟩
    have i22 : gI τ m 22 + 1 = Int32.ofNat (ln + 1) := by rw [f2.gi (nI _ (by omega)), c22, nat_s (by omega)]
    rw [i22]
    have kz : Ch (SNe m ln) σ (pI τ m 22 (Int32.ofNat (ln + 1))) := (f2.up (fun a k q => Or.inl q)).i (Or.inr ⟨rfl, rfl⟩)
    obtain ⟨z1, z2⟩ := put _ (nm, nw) q kz (by rw [gI_pI, if_pos ⟨rfl, rfl⟩]) (by rw [pIo (by omega)]; exact n2) (N2.fr (fun k _ _ => pIo (by omega)))
    exact hok (nm, nw) t2 _ ex (kz.up (fun a k => SNe_SRd)) (T2.w (by omega)) z1 z2
  | some w =>
    obtain ⟨kd, w8⟩ := nw_kd hw
    have hlt : ¬ Int32.ofNat w < 0 := by rw [i3_lt (nat_i (by omega)) (y := 0) (by rfl)]; omega
    refine ⟨fun q => absurd q hlt, fun _ => ⟨nat_v (by omega) (by omega), ?_⟩⟩
    show (_ → _) ∧ (_ → _)
    rw [show fndI (some w) = Int32.ofNat w from rfl, isOf_iff (by omega), nat_c (by omega), N2.1]
    refine ⟨fun q => ⟨nat_v (by omega) (by omega), nat_v (by omega) (by omega), ?_⟩, fun q => ?_⟩
    · have kw : Ch (SNb m ln) σ (pI τ (m + 16) (132 + 11 * ln) (nw.1 ||| (1 <<< (Int32.ofNat w &&& 31)))) := f2.i (Or.inr (Or.inr ⟨rfl, by omega, by omega⟩))
      have Tw : MT m b n (pI τ (m + 16) (132 + 11 * ln) (nw.1 ||| (1 <<< (Int32.ofNat w &&& 31)))) t2 := T2.w (by omega)
      refine m_token Tw.1 Tw.2.1.1 Tw.2.2 (fun s25 h1 h2 _ => ?_)
      have k25 := kw.tr (h1.up spu)
      have stepOk : ∀ x y t', sayS b n (nms3 P.1) (nms2 P.1) (nms5 P.1) w (adv b n t2) = .inl ((x, y), t') → nwStep b n (nms3 P.1) (nms2 P.1) (nms5 P.1) (nw, t2) = .inl (nSay nw w x y, t') := fun x y t' e => by
        unfold nwStep
        simp only [hw, e]
        rw [if_neg (by rw [q]; exact Bool.false_ne_true)]
      have stepBad : ∀ e', sayS b n (nms3 P.1) (nms2 P.1) (nms5 P.1) w (adv b n t2) = .inr e' → X = .inr e' := fun e' e => by
        have es : nwStep b n (nms3 P.1) (nms2 P.1) (nms5 P.1) (nw, t2) = .inr (.inr e') := by
          unfold nwStep
          simp only [hw, e]
          rw [if_neg (by rw [q]; exact Bool.false_ne_true)]
        rw [ex, ← hE _ es]
        rfl
      have swu : ∀ a k, SW m (132 + 11 * ln) w a k → SNb m ln a k := fun a k q => q.elim Or.inl (fun q => Or.inr (Or.inr ⟨q.1, by omega, by omega⟩))
      refine m_says (by omega) w8 h2 (fun i y hi => by rw [k25.gi (by unfold SNb Sp; omega)]; exact mnms3 hR i y hi) (by rw [k25.gi (nI _ (by omega))]; exact l3) b3 (fun i y hi => by rw [k25.gi (by unfold SNb Sp; omega)]; exact mnms2 hR i y hi) (by rw [k25.gi (nI _ (by omega))]; exact l2) b2 (fun i y hi => by have := get_lt hi; rw [k25.gi (by unfold SNb Sp; omega)]; exact mnms5 hR i y hi) (by rw [k25.gi (nI _ (by omega))]; exact l5) b5 ⟨fun v t3 s27 e3 j1 j2 j3 => ⟨fun w => (by cases w), fun _ => ?_⟩, fun k pl σ' e c1 c2 c3 => ⟨fun _ => bad k pl σ' (stepBad _ e) (k25.tr (c1.up swu)) c2 c3, fun w => absurd rfl w⟩⟩
      rw [mword j2.2.1 j2.2.2]
      refine hK _ _ (stepOk v.1 v.2 t3 e3) ⟨rfl, j2, k25.tr (j1.up swu), ?_, ?_, fun k hk hh => ?_⟩
      · show gI s27 (m + 15) (6 + ln) = nm
        rw [j1.gi (by unfold SW Sp; omega), h1.gi (by unfold Sp; omega), pIo (by omega)]; exact n2
      · show gI s27 (m + 16) (132 + 11 * ln) = _
        rw [j1.gi (by unfold SW Sp; omega), h1.gi (by unfold Sp; omega), gI_pI, if_pos ⟨rfl, rfl⟩]; rfl
      · have hh : nHas (nw.1 ||| (1 <<< (Int32.ofNat w &&& 31))) k = true := hh
        rw [has_or _ (by omega) (by omega)] at hh
        show gI s27 (m + 16) (132 + 11 * ln + (if k = 0 then 1 else 2 + k)) = up1 nw.2.1 w v.1 k ∧ (k = 0 → gI s27 (m + 16) (132 + 11 * ln + 2) = up1 nw.2.2 w v.2 k) ∧ (k = 7 → gI s27 (m + 16) (132 + 11 * ln + 10) = up1 nw.2.2 w v.2 k)
        unfold up1
        by_cases kw' : k = w
        · subst kw'
          rw [if_pos rfl, if_pos rfl]
          exact j3
        · rw [if_neg kw', if_neg kw']
          have hh : nHas nw.1 k = true := by simpa [kw'] using hh
          have N3 := N2.2 k hk hh
          have fr : ∀ j, 132 + 11 * ln < j → ¬ SW m (132 + 11 * ln) w (m + 16) j → gI s27 (m + 16) j = gI τ (m + 16) j := fun j q1 q2 => by
            rw [j1.gi q2, h1.gi (by unfold Sp; omega), pIo (by omega)]
          refine ⟨?_, fun k0 => ?_, fun k7 => ?_⟩
          · rw [fr _ (by split <;> omega) (by unfold SW Sp; split <;> omega)]; exact N3.1
          · rw [fr _ (by omega) (by unfold SW Sp; omega)]; exact N3.2.1 k0
          · rw [fr _ (by omega) (by unfold SW Sp; omega)]; exact N3.2.2 k7
    · have es : nwStep b n (nms3 P.1) (nms2 P.1) (nms5 P.1) (nw, t2) = .inr (.inr (3, tPl t2)) := by
        unfold nwStep
        simp only [hw]
        rw [if_pos (bt q)]
      exact m_wrong T2 spu (fun σ' c1 c2 c3 => bad 3 (tPl t2) σ' (by rw [ex, ← hE _ es]; rfl) (f2.tr c1) c2 c3)
