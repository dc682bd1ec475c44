set_option maxRecDepth 100000
theorem MC.fr {m : Nat} {σ σ' : Hp} {P : PSt} (h : MC m σ P) (hf : ∀ k, 18 ≤ k → k ≤ 27 ∨ k = 50 → gI σ' m k = gI σ m k) : MC m σ' P := by
  obtain ⟨c1, c2, c3, c4, c5, c6, c7, c8, c9⟩ := h
  refine ⟨?_, ?_, ?_, ?_, ?_, ?_, ?_, ?_, ?_⟩
  · rw [hf _ (by omega) (by omega)]; exact c1
  · rw [hf _ (by omega) (by omega)]; exact c2
  · rw [hf _ (by omega) (by omega)]; exact c3
  · rw [hf _ (by omega) (by omega)]; exact c4
  · rw [hf _ (by omega) (by omega)]; exact c5
  · rw [hf _ (by omega) (by omega), hf _ (by omega) (by omega)]; exact c6
  · rw [hf _ (by omega) (by omega)]; exact c7
  · rw [hf _ (by omega) (by omega)]; exact c8
  · rw [hf _ (by omega) (by omega)]; exact c9
theorem MC.sp {m : Nat} {σ σ' : Hp} {P : PSt} (h : MC m σ P) (hc : Ch (Sp m) σ σ') : MC m σ' P := h.fr (fun k q1 q2 => hc.gi (by unfold Sp; omega))
def MLr (m : Nat) (b : Nat → Int32) (n : Nat) (σ : Hp) (X : PR PSt) (Q : Int32 → Hp → Prop) : Prop := (∀ P' t' σ', X = .inl (P', t') → Ch (SRd m) σ σ' → MT m b n σ' t' → MRl m 1 σ' P'.1 → MC m σ' P' → Q 1 σ') ∧ (∀ k pl σ', X = .inr (k, pl) → Ch (SRd m) σ σ' → gI σ' m 4 = k → gI σ' m 5 = Int32.ofNat pl → Q 0 σ')
theorem m_join {α : Type} {m : Nat} {b : Nat → Int32} {n : Nat} {σ : Hp} {X : PR PSt} {x : PR α} {P' : α → PSt} {Q : Int32 → Hp → Prop} (hx : MLr m b n σ X Q) (ex : X = pb x (fun v t => endS b n (P' v) t)) : MLn m b n σ x P' (fun r s => wj_X6_lineRead_129 m s r Q) := by
  obtain ⟨hok, hbad⟩ := hx
  refine ⟨fun v t' σ' e c1 c2 c3 c4 => ⟨fun q => (by cases q), fun _ => ?_⟩, fun k pl σ' e c1 c2 c3 => ⟨fun _ => hbad k pl σ' (by rw [ex, e]; rfl) c1 c2 c3, fun q => absurd rfl q⟩⟩
  rw [e, pb_inl] at ex
  rw [msign c2.2.1 59]
  unfold endS at ex
  refine ⟨fun q => ?_, fun q => ?_⟩
  · rw [if_neg (by rw [q]; exact Bool.false_ne_true)] at ex
    exact m_wrong c2 (fun _ _ q => Sp_SRd q) (fun τ d1 d2 d3 => hbad _ _ τ ex (c1.tr d1) d2 d3)
  · rw [if_pos (bt q)] at ex
    exact m_token c2.1 c2.2.1.1 c2.2.2 (fun τ d1 d2 _ => hok _ _ τ ex (c1.tr (d1.up (fun _ _ q => Sp_SRd q))) d2 (c3.sp d1) (c4.sp d1))
theorem pb_if {α β : Type} {c : Prop} [Decidable c] {e : Flt} {x : PR α} {f : α → Tok → PR β} : pb (if c then .inr e else x) f = if c then .inr e else pb x f := by
  split <;> rfl
theorem m_line {m : Nat} {b : Nat → Int32} {n : Nat} {σ : Hp} {P : PSt} {t : Tok} {Q : Int32 → Hp → Prop} (hT : MT m b n σ t) (hR : MRl m 1 σ P.1) (hC : MC m σ P) (hk : LsOk (aL P.1)) (hx : MLr m b n σ (lineS b n P t) Q) : wp_X6_lineRead m σ Q := by
  have wr1 : lineS b n P t = .inr (1, tPl t) → ∀ (r : Int32) (s : Hp), (r, s) = f_X6_wrong m σ 1 → (r = 0 ∨ r = 1) ∧ (Q r s) := fun e => m_wrong hT (fun _ _ q => Sp_SRd q) (fun σ' c1 c2 c3 => hx.2 _ _ σ' e c1 c2 c3)
  unfold wp_X6_lineRead
  rw [hT.2.1.2.2.1]
  refine ⟨fun kd => ?_, fun kd => wr1 (by unfold lineS; rw [if_neg (fun z => kd z.1)])⟩
  rw [hT.2.1.2.2.2 (by rw [kd]; decide) (by rw [kd]; decide)]
  have le7 : tWh t ≤ 7 ↔ (tWh t).toInt ≤ 7 := i3_le rfl (by rfl)
  refine ⟨fun w => ?_, fun w => wr1 (by unfold lineS; rw [if_neg (fun z => w (le7.mpr z.2))])⟩
  clear wr1
  unfold lineS at hx
  rw [if_pos ⟨kd, le7.mp w⟩] at hx
  refine ⟨fun w0 => ?_, fun w0 => ?_⟩
  · rw [if_pos w0] at hx
    exact m_land hT hR hC (m_join hx pb_if.symm)
  rw [if_neg w0] at hx
  refine ⟨fun w1 => ?_, fun w1 => ?_⟩
  · rw [if_pos w1] at hx
    exact m_feast hT hR hC (m_join hx pb_if.symm)
  rw [if_neg w1] at hx
  refine ⟨fun w2 => ?_, fun w2 => ?_⟩
  · rw [if_pos w2] at hx
    exact m_person hT hR hC hk (m_join hx pb_if.symm)
  rw [if_neg w2] at hx
  refine ⟨fun w3 => ?_, fun w3 => ?_⟩
  · rw [if_pos w3] at hx
    exact m_deed hT hR hC hk (m_join hx pb_if.symm)
  rw [if_neg w3] at hx
  refine ⟨fun w4 => ?_, fun w4 => ?_⟩
  · rw [if_pos w4] at hx
    exact m_note hT hR hC (m_join hx pb_if.symm)
  rw [if_neg w4] at hx
  refine ⟨fun w5 => ?_, fun w5 => ?_⟩
  · rw [if_pos w5] at hx
    exact m_sun hT hR hC (m_join hx pb_if.symm)
  rw [if_neg w5] at hx
  refine ⟨fun w6 => ?_, fun w6 => ?_⟩
  · rw [if_pos w6] at hx
    exact m_week hT hR hC (m_join hx pb_if.symm)
  rw [if_neg w6] at hx
  exact m_moon hT hR hC (m_join hx pb_if.symm)
