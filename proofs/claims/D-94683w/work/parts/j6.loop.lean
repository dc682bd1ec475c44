set_option maxRecDepth 100000
/-! TEXT, LOOK, THE LOOP -/
theorem STx.lt {m a k : Nat} (h : STx m a k) : m ≤ a ∧ a < m + 33 := by
  rcases h with (h | ⟨h, _⟩) | (⟨h, _⟩ | ⟨r, q1, q2, q3, _⟩)
  · rcases h with ⟨q, _⟩ | ⟨q, _⟩ | ⟨q, _⟩ | ⟨q, _⟩ | ⟨q, _⟩ | ⟨q, _⟩ | ⟨q, _⟩ | ⟨q, _⟩ | ⟨q, _⟩ | ⟨q, _⟩ | ⟨q, _⟩ | q | q <;> omega
  · omega
  · omega
  · omega
section
variable {o m q c c' n : Nat} {σ σ' : Hp} {S S' : PlS}
theorem J.aftx (h : J o m q c n σ S) (hf : FTx o σ σ') (hr : RepL o c' (m + 34) σ' S') : J1 o m q c' σ' S S' := by
  have e := h.1
  have e2 := h.2.1
  have z := h.2.2.1
  refine ⟨h.1, h.2.1, by have := hf.1; omega, ((hf.2 q (by omega)).1).trans h.2.2.2.1, hr, h.mm.fr ⟨hf.1, fun a ha hp => ⟨(hf.2 a ha).1, fun i => ⟨((hf.2 a ha).2 i).1 (by omega) (by omega), ?_⟩⟩⟩⟩
  exact ((hf.2 a ha).2 i).2 (nSTl (by omega))
theorem J1.aftx {τ : Hp} (h : J1 o m q c σ S S') (hc : Ch (STx m) σ τ) (hr : RepM m τ S') (hk : PlOk (n + 1) S') : J o m q c (n + 1) τ S' := by
  have e := h.1
  have e2 := h.2.1
  exact ⟨h.1, h.2.1, by rw [hc.gs]; exact h.2.2.1, by rw [hc.gt]; exact h.2.2.2.1, h.2.2.2.2.1.fr (hc.kp (fun a k q w => by have := w.lt; omega)), hr, hk⟩
theorem J.sz (h : J o m q c n σ S) {k : Nat} (hk : gS σ ≤ k) : J1 o m q c (sz k σ) S S := ⟨h.1, h.2.1, Nat.le_trans h.2.2.1 hk, h.2.2.2.1, h.l.fr ⟨hk, fun a _ _ => ⟨rfl, fun i => ⟨rfl, rfl, rfl⟩⟩⟩, h.mm.fr ⟨hk, fun a _ _ => ⟨rfl, fun i => ⟨rfl, rfl, rfl⟩⟩⟩⟩
theorem J.out (h : J o m q c n σ S) {v : Int64} : J1 o m q c (pL σ q 0 v) S S := by
  have e := h.1
  have e2 := h.2.1
  have hc : Ch (fun a _ => a = q) σ (pL σ q 0 v) := Ch.l (S := fun a _ => a = q) Ch.rf (show q = q from rfl)
  exact ⟨h.1, h.2.1, h.2.2.1, h.2.2.2.1, h.l.fr (hc.kp (fun a k w => by omega)), h.mm.fr (hc.kp (fun a k w => by omega))⟩
end
theorem law_1 {G : XE} {b L i o m q c n : Nat} {xs : Nat → Int32} {σ : Hp} {S : PlS} {cells slots : Nat} (hs : SCR G b L xs) (hL : L ≤ 384) (hi : i + 6 ≤ L) (hcs : cells + 3700 ≤ 603072 ∧ slots + 59200 ≤ 7198826) (hJ : J o m q c n σ S) (nx : ∀ c' s' S', J o m q c' (n + 1) s' S' → X G room_1 cL_law RX0 7 (some .boolean) s' (cells + 3700) (slots + 59200) 2053 [(0, .ref b), (1, .ref o), (2, .ref m), (3, .ref q), (4, .int (Int32.ofNat i))] []) : X G room_1 cL_law RX0 7 (some .boolean) σ cells slots 277 [(0, .ref b), (1, .ref o), (2, .ref m), (3, .ref q), (4, .int (Int32.ofNat i))] [] := by
  obtain ⟨v, S', c', hk', hl, hm⟩ := p_text (m := m) (x := xs (i + 1)) (Mx := gS σ + 3700) hJ.z hJ.2.2.1 (Nat.le_refl _) hJ.k hJ.l
  have hB := hJ.l.1
  have e37 : gS σ + 3700 - gS σ = 3700 := by omega
  refine x_aload_n dL_law_277 (n := 278) rfl rfl 1 rfl ?_
  refine x_arg (k := 1) (p1 := 279) (p3 := 281) (p4 := 282) (p5 := 283) hs (by omega) hL dL_law_278 rfl rfl dL_law_279 rfl rfl dL_law_281 rfl (by decide) dL_law_282 rfl dL_law_283 (n := 284) rfl ?_
  refine x_callVW (mc := gS σ + 3700 - gS σ) (ms := 16 * (gS σ + 3700 - gS σ)) (As := [.int (xs (i + 1))]) (rest := []) cvw_X0_26 ck1 (met_X1_text o c σ (xs (i + 1)) (gS σ + 3700) (fun r s => r = v ∧ J1 o m q c' s S S') hB (Nat.le_add_right _ _) (hl _ (fun s a b => ⟨rfl, hJ.aftx a b⟩))) hB.1 ⟨rfl, rfl, Nat.le_of_ble_eq_true rfl, Nat.le_of_ble_eq_true rfl, by show cells + (gS σ + 3700 - gS σ) ≤ 603072; omega, by show slots + 16 * (gS σ + 3700 - gS σ) ≤ 7198826; omega⟩ rfl rfl rfl dL_law_284 (n := 287) rfl (fun w s1 hw => ?_)
  obtain ⟨r1, rfl, -, -, e1, j1⟩ := hw
  rw [e37]
  show X G room_1 cL_law RX0 7 (some .boolean) s1 (cells + 3700) (slots + 59200) 287 [(0, .ref b), (1, .ref o), (2, .ref m), (3, .ref q), (4, .int (Int32.ofNat i))] [.int r1]
  have hMB := j1.2.2.2.2.2.1
  refine x_aload_n dL_law_287 (n := 288) rfl rfl 2 rfl ?_
  refine x_arg (k := 1) (p1 := 289) (p3 := 291) (p4 := 292) (p5 := 293) hs (by omega) hL dL_law_288 rfl rfl dL_law_289 rfl rfl dL_law_291 rfl (by decide) dL_law_292 rfl dL_law_293 (n := 294) rfl ?_
  refine x_cVim (As := [.int (xs (i + 1))]) (rest := [.int r1]) cv_X0_30 ck0 (met_X6_text m s1 (xs (i + 1)) (fun r s => r = v ∧ J o m q c' (n + 1) s S') hMB (hm s1 j1.2.2.2.2.2 _ (fun s a b _ => ⟨rfl, j1.aftx a b hk'⟩))) hMB.1 ⟨rfl, rfl, Nat.le_of_ble_eq_true rfl, Nat.le_of_ble_eq_true rfl, hcs.1, hcs.2⟩ rfl rfl rfl dL_law_294 (n := 297) rfl (fun r2 s2 _ h2 => ?_)
  obtain ⟨e2, j2⟩ := h2
  exact x_icmp_eq (tgt := 2053) dL_law_297 rfl (n := 300) rfl (fun _ => nx c' s2 S' j2) (fun ne => absurd (e1.trans e2.symm) ne)
theorem law_4 {G : XE} {b L i o m q c n : Nat} {xs : Nat → Int32} {σ : Hp} {S : PlS} {cells slots : Nat} (hs : SCR G b L xs) (hL : L ≤ 384) (hi : i + 6 ≤ L) (hcs : cells + 1 ≤ 603072 ∧ slots + 6 ≤ 7198826) (hJ : J o m q c n σ S) (nx : ∀ c' s' S', J o m q c' (n + 1) s' S' → X G room_1 cL_law RX0 7 (some .boolean) s' (cells + 1) (slots + 6) 2053 [(0, .ref b), (1, .ref o), (2, .ref m), (3, .ref q), (4, .int (Int32.ofNat i))] []) : X G room_1 cL_law RX0 7 (some .boolean) σ cells slots 364 [(0, .ref b), (1, .ref o), (2, .ref m), (3, .ref q), (4, .int (Int32.ofNat i))] [] := by
  have hB := hJ.l.1
  have ha3 := hJ.2.2.2.1
  have eo := hJ.1
  have eq := hJ.2.1
  obtain ⟨K, hK⟩ : ∃ K, lkK (yR S) (xs (i + 1)) (xs (i + 2)) = K := ⟨_, rfl⟩
  obtain ⟨V, hV⟩ : ∃ V, lkV (yR S) (xs (i + 1)) (xs (i + 2)) = V := ⟨_, rfl⟩
  refine x_aload_n dL_law_364 (n := 365) rfl rfl 1 rfl ?_
  refine x_arg (k := 1) (p1 := 366) (p3 := 368) (p4 := 369) (p5 := 370) hs (by omega) hL dL_law_365 rfl rfl dL_law_366 rfl rfl dL_law_368 rfl (by decide) dL_law_369 rfl dL_law_370 (n := 371) rfl ?_
  refine x_arg (k := 2) (p1 := 372) (p3 := 374) (p4 := 375) (p5 := 376) hs (by omega) hL dL_law_371 rfl rfl dL_law_372 rfl rfl dL_law_374 rfl (by decide) dL_law_375 rfl dL_law_376 (n := 377) rfl ?_
  refine x_aload_n dL_law_377 (n := 378) rfl rfl 3 rfl ?_
  refine x_callSW (mc := 1) (ms := 6) (As := [.ref o, .int (xs (i + 1)), .int (xs (i + 2)), .ref q]) (rest := []) csw_X0_39 (met_X0_look σ o c (xs (i + 1)) (xs (i + 2)) q (fun r s => r = K ∧ J1 o m q c s S S ∧ (K = 0 → gL s q 0 = V.toInt64)) hB ha3 (pl_look hJ.lr (fun h => ?_) (fun h k hk => ?_))) ⟨rfl, rfl, Nat.le_of_ble_eq_true rfl, Nat.le_of_ble_eq_true rfl, hcs.1, hcs.2⟩ rfl rfl rfl dL_law_378 (n := 381) rfl (fun w s1 hw => ?_)
  · rw [hK] at h
    rw [hV]
    exact ⟨h.symm, hJ.out, fun _ => by rw [gL_pL, if_pos ⟨rfl, rfl⟩]⟩
  · rw [hK] at h ⊢
    exact ⟨rfl, hJ.sz hk, fun z => absurd z h⟩
  obtain ⟨r1, rfl, -, e1, j1, g1⟩ := hw
  show X G room_1 cL_law RX0 7 (some .boolean) s1 (cells + 1) (slots + 6) 381 [(0, .ref b), (1, .ref o), (2, .ref m), (3, .ref q), (4, .int (Int32.ofNat i))] [.int r1]
  refine x_istore (lvs' := [(5, .int r1), (0, .ref b), (1, .ref o), (2, .ref m), (3, .ref q), (4, .int (Int32.ofNat i))]) dL_law_381 (n := 383) rfl (by decide) rfl ?_
  refine x_sub (lvs' := [(0, .ref b), (1, .ref o), (2, .ref m), (3, .ref q), (4, .int (Int32.ofNat i)), (5, .int r1)]) [1, 2, 3, 4, 5, 0] rfl ?_
  have hMB := j1.2.2.2.2.2.1
  refine x_aload_n dL_law_383 (n := 384) rfl rfl 2 rfl ?_
  refine x_arg (k := 1) (p1 := 385) (p3 := 387) (p4 := 388) (p5 := 389) hs (by omega) hL dL_law_384 rfl rfl dL_law_385 rfl rfl dL_law_387 rfl (by decide) dL_law_388 rfl dL_law_389 (n := 390) rfl ?_
  refine x_arg (k := 2) (p1 := 391) (p3 := 393) (p4 := 394) (p5 := 395) hs (by omega) hL dL_law_390 rfl rfl dL_law_391 rfl rfl dL_law_393 rfl (by decide) dL_law_394 rfl dL_law_395 (n := 396) rfl ?_
  refine x_cVim (As := [.int (xs (i + 1)), .int (xs (i + 2))]) (rest := []) cv_X0_44 ck0 (met_X6_look m s1 (xs (i + 1)) (xs (i + 2)) (fun r s => J o m q c (n + 1) s S ∧ gI s m 2 = K ∧ (K = 0 → r = V) ∧ gL s q 0 = gL s1 q 0) hMB (pm_look j1.2.2.2.2.2 (fun r s a b d => ?_))) hMB.1 ⟨rfl, rfl, Nat.le_of_ble_eq_true rfl, Nat.le_of_ble_eq_true rfl, hcs.1, hcs.2⟩ rfl rfl rfl dL_law_396 (n := 399) rfl (fun r2 s2 _ h2 => ?_)
  · rw [hK] at b d
    rw [hV] at d
    exact ⟨j1.aft (a.up (fun a k q => q.p)) (j1.2.2.2.2.2.q a) hJ.k.s, b, d, a.gl (nSMn (by omega))⟩
  obtain ⟨j2, k2, v2, g2⟩ := h2
  have hMB2 := j2.mm.1
  refine x_istore (lvs' := [(6, .int r2), (0, .ref b), (1, .ref o), (2, .ref m), (3, .ref q), (4, .int (Int32.ofNat i)), (5, .int r1)]) dL_law_399 (n := 401) rfl (by decide) rfl ?_
  refine x_sub (lvs' := [(0, .ref b), (1, .ref o), (2, .ref m), (3, .ref q), (4, .int (Int32.ofNat i)), (5, .int r1), (6, .int r2)]) [1, 2, 3, 4, 5, 6, 0] rfl ?_
  refine x_aload_n dL_law_401 (n := 402) rfl rfl 2 rfl ?_
  refine x_cVip (As := []) (rest := []) cv_X0_45 ck0 (met_X6_thrown m s2 hMB2) hMB2.1 ⟨rfl, rfl, Nat.le_of_ble_eq_true rfl, Nat.le_of_ble_eq_true rfl, hcs.1, hcs.2⟩ rfl rfl rfl dL_law_402 (n := 405) rfl (fun r3 e3 => ?_)
  refine x_iload dL_law_405 (n := 407) rfl 5 rfl ?_
  refine x_icmp_eq (tgt := 412) dL_law_407 rfl (n := 410) rfl (fun _ => ?_) (fun ne => absurd ((e3.trans k2).trans e1.symm) ne)
  have fin : X G room_1 cL_law RX0 7 (some .boolean) s2 (cells + 1) (slots + 6) 429 [(0, .ref b), (1, .ref o), (2, .ref m), (3, .ref q), (4, .int (Int32.ofNat i)), (5, .int r1), (6, .int r2)] [] := by
    refine x_goto (tgt := 2053) dL_law_429 rfl ?_
    exact x_sub [0, 1, 2, 3, 4] rfl (nx c s2 S j2)
  refine x_iload dL_law_412 (n := 414) rfl 5 rfl ?_
  refine x_if_ne (tgt := 429) dL_law_414 rfl (n := 417) rfl (fun _ => fin) (fun z => ?_)
  refine x_aload_n dL_law_417 (n := 418) rfl rfl 3 rfl ?_
  refine x_iconst dL_law_418 (n := 419) rfl ic_0 ?_
  refine x_lald j2.2.2.2.1 (vin_of (by decide) tn_0 rfl) tn_0 dL_law_419 (n := 420) rfl ?_
  refine x_iload dL_law_420 (n := 422) rfl 6 rfl ?_
  refine x_i2l dL_law_422 (n := 423) rfl ?_
  refine x_lcmp_eq (tgt := 429) dL_law_423 rfl dL_law_424 rfl (n := 427) rfl (fun _ => fin) (fun ne => absurd ?_ ne)
  have zK : K = 0 := e1.symm.trans z
  rw [g2, g1 zK, v2 zK]
