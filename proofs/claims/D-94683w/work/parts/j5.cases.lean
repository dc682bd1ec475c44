set_option maxRecDepth 100000
/-! THE LAW, CASE BY CASE -/
theorem law_0 {G : XE} {b L i o m q c n : Nat} {xs : Nat → Int32} {σ : Hp} {S : PlS} {cells slots : Nat} (hs : SCR G b L xs) (hL : L ≤ 384) (hi : i + 6 ≤ L) (hn : n ≤ 64) (hcs : cells ≤ 603072 ∧ slots ≤ 7198826) (hJ : J o m q c n σ S) (nx : ∀ c' s' S', J o m q c' (n + 1) s' S' → X G room_1 cL_law RX0 7 (some .boolean) s' cells slots 2053 [(0, .ref b), (1, .ref o), (2, .ref m), (3, .ref q), (4, .int (Int32.ofNat i))] []) : X G room_1 cL_law RX0 7 (some .boolean) σ cells slots 204 [(0, .ref b), (1, .ref o), (2, .ref m), (3, .ref q), (4, .int (Int32.ofNat i))] [] := by
  obtain ⟨v, S', hk', hl, hm⟩ := p_feed (m := m) (a := (xs (i + 1))) (b := (xs (i + 2))) (d := (xs (i + 3))) (e := (xs (i + 4))) (g := (xs (i + 5))) hJ.z hJ.k hJ.l
  have hB := hJ.l.1
  refine x_aload_n dL_law_204 (n := 205) rfl rfl 1 rfl ?_
  refine x_arg (k := 1) (p1 := 206) (p3 := 208) (p4 := 209) (p5 := 210) hs (by omega) hL dL_law_205 rfl rfl dL_law_206 rfl rfl dL_law_208 rfl (by decide) dL_law_209 rfl dL_law_210 (n := 211) rfl ?_
  refine x_arg (k := 2) (p1 := 212) (p3 := 214) (p4 := 215) (p5 := 216) hs (by omega) hL dL_law_211 rfl rfl dL_law_212 rfl rfl dL_law_214 rfl (by decide) dL_law_215 rfl dL_law_216 (n := 217) rfl ?_
  refine x_arg (k := 3) (p1 := 218) (p3 := 220) (p4 := 221) (p5 := 222) hs (by omega) hL dL_law_217 rfl rfl dL_law_218 rfl rfl dL_law_220 rfl (by decide) dL_law_221 rfl dL_law_222 (n := 223) rfl ?_
  refine x_arg (k := 4) (p1 := 224) (p3 := 226) (p4 := 227) (p5 := 228) hs (by omega) hL dL_law_223 rfl rfl dL_law_224 rfl rfl dL_law_226 rfl (by decide) dL_law_227 rfl dL_law_228 (n := 229) rfl ?_
  refine x_arg (k := 5) (p1 := 230) (p3 := 232) (p4 := 233) (p5 := 234) hs (by omega) hL dL_law_229 rfl rfl dL_law_230 rfl rfl dL_law_232 rfl (by decide) dL_law_233 rfl dL_law_234 (n := 235) rfl ?_
  refine x_cVim (As := [.int (xs (i + 1)), .int (xs (i + 2)), .int (xs (i + 3)), .int (xs (i + 4)), .int (xs (i + 5))]) (rest := []) cv_X0_21 ck1 (met_X1_feed o c σ (xs (i + 1)) (xs (i + 2)) (xs (i + 3)) (xs (i + 4)) (xs (i + 5)) (fun r s => r = v ∧ J1 o m q c s S S') hB (hl _ (fun s a b => ⟨rfl, hJ.aft a b⟩))) hB.1 ⟨rfl, rfl, Nat.le_of_ble_eq_true rfl, Nat.le_of_ble_eq_true rfl, hcs.1, hcs.2⟩ rfl rfl rfl dL_law_235 (n := 238) rfl (fun r1 s1 _ h1 => ?_)
  obtain ⟨e1, j1⟩ := h1
  have hMB := j1.2.2.2.2.2.1
  have hm := hm s1 j1.2.2.2.2.2
  refine x_aload_n dL_law_238 (n := 239) rfl rfl 2 rfl ?_
  refine x_arg (k := 1) (p1 := 240) (p3 := 242) (p4 := 243) (p5 := 244) hs (by omega) hL dL_law_239 rfl rfl dL_law_240 rfl rfl dL_law_242 rfl (by decide) dL_law_243 rfl dL_law_244 (n := 245) rfl ?_
  refine x_arg (k := 2) (p1 := 246) (p3 := 248) (p4 := 249) (p5 := 250) hs (by omega) hL dL_law_245 rfl rfl dL_law_246 rfl rfl dL_law_248 rfl (by decide) dL_law_249 rfl dL_law_250 (n := 251) rfl ?_
  refine x_arg (k := 3) (p1 := 252) (p3 := 254) (p4 := 255) (p5 := 256) hs (by omega) hL dL_law_251 rfl rfl dL_law_252 rfl rfl dL_law_254 rfl (by decide) dL_law_255 rfl dL_law_256 (n := 257) rfl ?_
  refine x_arg (k := 4) (p1 := 258) (p3 := 260) (p4 := 261) (p5 := 262) hs (by omega) hL dL_law_257 rfl rfl dL_law_258 rfl rfl dL_law_260 rfl (by decide) dL_law_261 rfl dL_law_262 (n := 263) rfl ?_
  refine x_arg (k := 5) (p1 := 264) (p3 := 266) (p4 := 267) (p5 := 268) hs (by omega) hL dL_law_263 rfl rfl dL_law_264 rfl rfl dL_law_266 rfl (by decide) dL_law_267 rfl dL_law_268 (n := 269) rfl ?_
  refine x_cVim (As := [.int (xs (i + 1)), .int (xs (i + 2)), .int (xs (i + 3)), .int (xs (i + 4)), .int (xs (i + 5))]) (rest := [.int r1]) cv_X0_25 ck0 (met_X6_feed m s1 (xs (i + 1)) (xs (i + 2)) (xs (i + 3)) (xs (i + 4)) (xs (i + 5)) (fun r s => r = v ∧ J o m q c (n + 1) s S') hMB (hm _ (fun s a b _ => ⟨rfl, j1.aft a b hk'⟩))) hMB.1 ⟨rfl, rfl, Nat.le_of_ble_eq_true rfl, Nat.le_of_ble_eq_true rfl, hcs.1, hcs.2⟩ rfl rfl rfl dL_law_269 (n := 272) rfl (fun r2 s2 _ h2 => ?_)
  obtain ⟨e2, j2⟩ := h2
  exact x_icmp_eq (tgt := 2053) dL_law_272 rfl (n := 275) rfl (fun _ => nx c s2 S' j2) (fun ne => absurd (e1.trans e2.symm) ne)
theorem law_2 {G : XE} {b L i o m q c n : Nat} {xs : Nat → Int32} {σ : Hp} {S : PlS} {cells slots : Nat} (hs : SCR G b L xs) (hL : L ≤ 384) (hi : i + 6 ≤ L) (hn : n ≤ 64) (hcs : cells ≤ 603072 ∧ slots ≤ 7198826) (hJ : J o m q c n σ S) (nx : ∀ c' s' S', J o m q c' (n + 1) s' S' → X G room_1 cL_law RX0 7 (some .boolean) s' cells slots 2053 [(0, .ref b), (1, .ref o), (2, .ref m), (3, .ref q), (4, .int (Int32.ofNat i))] []) : X G room_1 cL_law RX0 7 (some .boolean) σ cells slots 302 [(0, .ref b), (1, .ref o), (2, .ref m), (3, .ref q), (4, .int (Int32.ofNat i))] [] := by
  obtain ⟨v, hl0, hm0⟩ := p_fault (x := (xs (i + 1))) hJ.l hJ.mm
  have hl : f_X1_fault o c σ (xs (i + 1)) = v := (hl0 (fun r _ => r = v) (fun _ _ _ => rfl)).2
  have hm := fun (_ : Unit) => hm0
  have hk' := hJ.k.s
  have hB := hJ.l.1
  refine x_aload_n dL_law_302 (n := 303) rfl rfl 1 rfl ?_
  refine x_arg (k := 1) (p1 := 304) (p3 := 306) (p4 := 307) (p5 := 308) hs (by omega) hL dL_law_303 rfl rfl dL_law_304 rfl rfl dL_law_306 rfl (by decide) dL_law_307 rfl dL_law_308 (n := 309) rfl ?_
  refine x_cVip (As := [.int (xs (i + 1))]) (rest := []) cv_X0_31 ck1 (met_X1_fault o c σ (xs (i + 1)) hB ) hB.1 ⟨rfl, rfl, Nat.le_of_ble_eq_true rfl, Nat.le_of_ble_eq_true rfl, hcs.1, hcs.2⟩ rfl rfl rfl dL_law_309 (n := 312) rfl (fun r1 e1 => ?_)
  have e1 : r1 = v := e1.trans hl
  have j1 := hJ.j1
  have hMB := j1.2.2.2.2.2.1
  have hm := hm ()
  refine x_aload_n dL_law_312 (n := 313) rfl rfl 2 rfl ?_
  refine x_arg (k := 1) (p1 := 314) (p3 := 316) (p4 := 317) (p5 := 318) hs (by omega) hL dL_law_313 rfl rfl dL_law_314 rfl rfl dL_law_316 rfl (by decide) dL_law_317 rfl dL_law_318 (n := 319) rfl ?_
  refine x_cVim (As := [.int (xs (i + 1))]) (rest := [.int r1]) cv_X0_34 ck0 (met_X6_fault m σ (xs (i + 1)) hMB ) hMB.1 ⟨rfl, rfl, Nat.le_of_ble_eq_true rfl, Nat.le_of_ble_eq_true rfl, hcs.1, hcs.2⟩ rfl rfl rfl dL_law_319 (n := 322) rfl (fun r2 s2 _ h2 => ?_)
  have g2 := (hm (fun r s => r = v ∧ J o m q c (n + 1) s S) (fun s a b _ => ⟨rfl, j1.aft a b hk'⟩)).2
  rw [← h2] at g2
  obtain ⟨e2, j2⟩ := g2
  exact x_icmp_eq (tgt := 2053) dL_law_322 rfl (n := 325) rfl (fun _ => nx c s2 S j2) (fun ne => absurd (e1.trans e2.symm) ne)
theorem law_3 {G : XE} {b L i o m q c n : Nat} {xs : Nat → Int32} {σ : Hp} {S : PlS} {cells slots : Nat} (hs : SCR G b L xs) (hL : L ≤ 384) (hi : i + 6 ≤ L) (hn : n ≤ 64) (hcs : cells ≤ 603072 ∧ slots ≤ 7198826) (hJ : J o m q c n σ S) (nx : ∀ c' s' S', J o m q c' (n + 1) s' S' → X G room_1 cL_law RX0 7 (some .boolean) s' cells slots 2053 [(0, .ref b), (1, .ref o), (2, .ref m), (3, .ref q), (4, .int (Int32.ofNat i))] []) : X G room_1 cL_law RX0 7 (some .boolean) σ cells slots 327 [(0, .ref b), (1, .ref o), (2, .ref m), (3, .ref q), (4, .int (Int32.ofNat i))] [] := by
  have hl : QL (wp_X1_named o c σ (xs (i + 1)) (xs (i + 2))) (nameS (yR S) (xs (i + 1)) (xs (i + 2))) := fun Q h => ql_named hJ.lr h
  have hm : Unit → PMl m σ (wp_X6_named m σ (xs (i + 1)) (xs (i + 2))) (nameS (yR S) (xs (i + 1)) (xs (i + 2))) S := fun _ Q hQ => qm_named hJ.mk (hQ _ (t0n.up (fun a k q => q.p)) (hJ.mm.q t0n) t0_2)
  generalize nameS (yR S) (xs (i + 1)) (xs (i + 2)) = v at hl hm
  have hk' := hJ.k.s
  have hB := hJ.l.1
  refine x_aload_n dL_law_327 (n := 328) rfl rfl 1 rfl ?_
  refine x_arg (k := 1) (p1 := 329) (p3 := 331) (p4 := 332) (p5 := 333) hs (by omega) hL dL_law_328 rfl rfl dL_law_329 rfl rfl dL_law_331 rfl (by decide) dL_law_332 rfl dL_law_333 (n := 334) rfl ?_
  refine x_arg (k := 2) (p1 := 335) (p3 := 337) (p4 := 338) (p5 := 339) hs (by omega) hL dL_law_334 rfl rfl dL_law_335 rfl rfl dL_law_337 rfl (by decide) dL_law_338 rfl dL_law_339 (n := 340) rfl ?_
  refine x_cVip (As := [.int (xs (i + 1)), .int (xs (i + 2))]) (rest := []) cv_X0_35 ck1 (met_X1_named o c σ (xs (i + 1)) (xs (i + 2)) (fun r => r = v) hB (hl _ rfl)) hB.1 ⟨rfl, rfl, Nat.le_of_ble_eq_true rfl, Nat.le_of_ble_eq_true rfl, hcs.1, hcs.2⟩ rfl rfl rfl dL_law_340 (n := 343) rfl (fun r1 e1 => ?_)
  have j1 := hJ.j1
  have hMB := j1.2.2.2.2.2.1
  have hm := hm ()
  refine x_aload_n dL_law_343 (n := 344) rfl rfl 2 rfl ?_
  refine x_arg (k := 1) (p1 := 345) (p3 := 347) (p4 := 348) (p5 := 349) hs (by omega) hL dL_law_344 rfl rfl dL_law_345 rfl rfl dL_law_347 rfl (by decide) dL_law_348 rfl dL_law_349 (n := 350) rfl ?_
  refine x_arg (k := 2) (p1 := 351) (p3 := 353) (p4 := 354) (p5 := 355) hs (by omega) hL dL_law_350 rfl rfl dL_law_351 rfl rfl dL_law_353 rfl (by decide) dL_law_354 rfl dL_law_355 (n := 356) rfl ?_
  refine x_cVim (As := [.int (xs (i + 1)), .int (xs (i + 2))]) (rest := [.int r1]) cv_X0_38 ck0 (met_X6_named m σ (xs (i + 1)) (xs (i + 2)) (fun r s => r = v ∧ J o m q c (n + 1) s S) hMB (hm _ (fun s a b _ => ⟨rfl, j1.aft a b hk'⟩))) hMB.1 ⟨rfl, rfl, Nat.le_of_ble_eq_true rfl, Nat.le_of_ble_eq_true rfl, hcs.1, hcs.2⟩ rfl rfl rfl dL_law_356 (n := 359) rfl (fun r2 s2 _ h2 => ?_)
  obtain ⟨e2, j2⟩ := h2
  exact x_icmp_eq (tgt := 2053) dL_law_359 rfl (n := 362) rfl (fun _ => nx c s2 S j2) (fun ne => absurd (e1.trans e2.symm) ne)
theorem law_5 {G : XE} {b L i o m q c n : Nat} {xs : Nat → Int32} {σ : Hp} {S : PlS} {cells slots : Nat} (hs : SCR G b L xs) (hL : L ≤ 384) (hi : i + 6 ≤ L) (hn : n ≤ 64) (hcs : cells ≤ 603072 ∧ slots ≤ 7198826) (hJ : J o m q c n σ S) (nx : ∀ c' s' S', J o m q c' (n + 1) s' S' → X G room_1 cL_law RX0 7 (some .boolean) s' cells slots 2053 [(0, .ref b), (1, .ref o), (2, .ref m), (3, .ref q), (4, .int (Int32.ofNat i))] []) : X G room_1 cL_law RX0 7 (some .boolean) σ cells slots 432 [(0, .ref b), (1, .ref o), (2, .ref m), (3, .ref q), (4, .int (Int32.ofNat i))] [] := by
  obtain ⟨k1, k2, k3⟩ := q_length (o := o) (l := (xs (i + 1))) (y := (xs (i + 2))) hJ.lr hJ.mk hJ.r.1
  have hm := fun (_ : Unit) => pm_f hJ.mm k2 k3
  have hk' := hJ.k.s
  obtain ⟨v, hl⟩ : ∃ v, f_X1_length o c σ (xs (i + 1)) (xs (i + 2)) = v := ⟨_, rfl⟩
  rw [hl] at hm
  have hB := hJ.l.1
  refine x_aload_n dL_law_432 (n := 433) rfl rfl 1 rfl ?_
  refine x_arg (k := 1) (p1 := 434) (p3 := 436) (p4 := 437) (p5 := 438) hs (by omega) hL dL_law_433 rfl rfl dL_law_434 rfl rfl dL_law_436 rfl (by decide) dL_law_437 rfl dL_law_438 (n := 439) rfl ?_
  refine x_arg (k := 2) (p1 := 440) (p3 := 442) (p4 := 443) (p5 := 444) hs (by omega) hL dL_law_439 rfl rfl dL_law_440 rfl rfl dL_law_442 rfl (by decide) dL_law_443 rfl dL_law_444 (n := 445) rfl ?_
  refine x_cVlp (As := [.int (xs (i + 1)), .int (xs (i + 2))]) (rest := []) cv_X0_49 ck1 (met_X1_length o c σ (xs (i + 1)) (xs (i + 2)) hB k1) hB.1 ⟨rfl, rfl, Nat.le_of_ble_eq_true rfl, Nat.le_of_ble_eq_true rfl, hcs.1, hcs.2⟩ rfl rfl rfl dL_law_445 (n := 448) rfl (fun r1 e1 => ?_)
  have e1 : r1 = v := e1.trans hl
  have j1 := hJ.j1
  have hMB := j1.2.2.2.2.2.1
  have hm := hm ()
  refine x_aload_n dL_law_448 (n := 449) rfl rfl 2 rfl ?_
  refine x_arg (k := 1) (p1 := 450) (p3 := 452) (p4 := 453) (p5 := 454) hs (by omega) hL dL_law_449 rfl rfl dL_law_450 rfl rfl dL_law_452 rfl (by decide) dL_law_453 rfl dL_law_454 (n := 455) rfl ?_
  refine x_arg (k := 2) (p1 := 456) (p3 := 458) (p4 := 459) (p5 := 460) hs (by omega) hL dL_law_455 rfl rfl dL_law_456 rfl rfl dL_law_458 rfl (by decide) dL_law_459 rfl dL_law_460 (n := 461) rfl ?_
  refine x_cVlm (As := [.int (xs (i + 1)), .int (xs (i + 2))]) (rest := [.long r1]) cv_X0_53 ck0 (met_X6_length m σ (xs (i + 1)) (xs (i + 2)) hMB (hm (fun r s => r = v ∧ J o m q c (n + 1) s S) (fun s a b _ => ⟨rfl, j1.aft a b hk'⟩)).1) hMB.1 ⟨rfl, rfl, Nat.le_of_ble_eq_true rfl, Nat.le_of_ble_eq_true rfl, hcs.1, hcs.2⟩ rfl rfl rfl dL_law_461 (n := 464) rfl (fun r2 s2 _ h2 => ?_)
  have g2 := (hm (fun r s => r = v ∧ J o m q c (n + 1) s S) (fun s a b _ => ⟨rfl, j1.aft a b hk'⟩)).2
  rw [← h2] at g2
  obtain ⟨e2, j2⟩ := g2
  exact x_lcmp_eq (tgt := 2053) dL_law_464 rfl dL_law_465 rfl (n := 468) rfl (fun _ => nx c s2 S j2) (fun ne => absurd (e1.trans e2.symm) ne)
theorem law_6 {G : XE} {b L i o m q c n : Nat} {xs : Nat → Int32} {σ : Hp} {S : PlS} {cells slots : Nat} (hs : SCR G b L xs) (hL : L ≤ 384) (hi : i + 6 ≤ L) (hn : n ≤ 64) (hcs : cells ≤ 603072 ∧ slots ≤ 7198826) (hJ : J o m q c n σ S) (nx : ∀ c' s' S', J o m q c' (n + 1) s' S' → X G room_1 cL_law RX0 7 (some .boolean) s' cells slots 2053 [(0, .ref b), (1, .ref o), (2, .ref m), (3, .ref q), (4, .int (Int32.ofNat i))] []) : X G room_1 cL_law RX0 7 (some .boolean) σ cells slots 470 [(0, .ref b), (1, .ref o), (2, .ref m), (3, .ref q), (4, .int (Int32.ofNat i))] [] := by
  have hl : QL (wp_X1_date o c σ (xs (i + 1)) (w64 (xs (i + 2)) (xs (i + 3))) (xs (i + 4))) (dateQ (yR S) (xs (i + 1)) (w64 (xs (i + 2)) (xs (i + 3))) (xs (i + 4))) := fun Q h => ql_date hJ.lr hJ.r.1 h
  have hm : Unit → PMl m σ (wp_X6_date m σ (xs (i + 1)) (w64 (xs (i + 2)) (xs (i + 3))) (xs (i + 4))) (dateQ (yR S) (xs (i + 1)) (w64 (xs (i + 2)) (xs (i + 3))) (xs (i + 4))) S := fun _ Q hQ => qm_date hJ.mk hJ.r.1 (fun s ds => hQ s ((t0n.tr (ds.chq.up (fun a k q => Or.inl q))).up (fun a k q => q.p)) (hJ.mm.q (t0n.tr (ds.chq.up (fun a k q => Or.inl q)))) (ds.two t0_2))
  generalize dateQ (yR S) (xs (i + 1)) (w64 (xs (i + 2)) (xs (i + 3))) (xs (i + 4)) = v at hl hm
  have hk' := hJ.k.s
  have hB := hJ.l.1
  refine x_aload_n dL_law_470 (n := 471) rfl rfl 1 rfl ?_
  refine x_arg (k := 1) (p1 := 472) (p3 := 474) (p4 := 475) (p5 := 476) hs (by omega) hL dL_law_471 rfl rfl dL_law_472 rfl rfl dL_law_474 rfl (by decide) dL_law_475 rfl dL_law_476 (n := 477) rfl ?_
  refine x_arg (k := 2) (p1 := 478) (p3 := 480) (p4 := 481) (p5 := 482) hs (by omega) hL dL_law_477 rfl rfl dL_law_478 rfl rfl dL_law_480 rfl (by decide) dL_law_481 rfl dL_law_482 (n := 483) rfl ?_
  refine x_i2l dL_law_483 (n := 484) rfl ?_
  refine x_bipush dL_law_484 (n := 486) rfl bp_32 ?_
  refine x_lshl dL_law_486 (n := 487) rfl ?_
  refine x_arg (k := 3) (p1 := 488) (p3 := 490) (p4 := 491) (p5 := 492) hs (by omega) hL dL_law_487 rfl rfl dL_law_488 rfl rfl dL_law_490 rfl (by decide) dL_law_491 rfl dL_law_492 (n := 493) rfl ?_
  refine x_i2l dL_law_493 (n := 494) rfl ?_
  refine x_ldc2 dL_law_494 (n := 497) rfl q2228 ?_
  refine x_land dL_law_497 (n := 498) rfl ?_
  refine x_lor dL_law_498 (n := 499) rfl ?_
  refine x_arg (k := 4) (p1 := 500) (p3 := 502) (p4 := 503) (p5 := 504) hs (by omega) hL dL_law_499 rfl rfl dL_law_500 rfl rfl dL_law_502 rfl (by decide) dL_law_503 rfl dL_law_504 (n := 505) rfl ?_
  refine x_cVlp (As := [.int (xs (i + 1)), .long (w64 (xs (i + 2)) (xs (i + 3))), .int (xs (i + 4))]) (rest := []) cv_X0_56 ck1 (met_X1_date o c σ (xs (i + 1)) (w64 (xs (i + 2)) (xs (i + 3))) (xs (i + 4)) (fun r => r = v) hB (hl _ rfl)) hB.1 ⟨rfl, rfl, Nat.le_of_ble_eq_true rfl, Nat.le_of_ble_eq_true rfl, hcs.1, hcs.2⟩ rfl rfl rfl dL_law_505 (n := 508) rfl (fun r1 e1 => ?_)
  have j1 := hJ.j1
  have hMB := j1.2.2.2.2.2.1
  have hm := hm ()
  refine x_aload_n dL_law_508 (n := 509) rfl rfl 2 rfl ?_
  refine x_arg (k := 1) (p1 := 510) (p3 := 512) (p4 := 513) (p5 := 514) hs (by omega) hL dL_law_509 rfl rfl dL_law_510 rfl rfl dL_law_512 rfl (by decide) dL_law_513 rfl dL_law_514 (n := 515) rfl ?_
  refine x_arg (k := 2) (p1 := 516) (p3 := 518) (p4 := 519) (p5 := 520) hs (by omega) hL dL_law_515 rfl rfl dL_law_516 rfl rfl dL_law_518 rfl (by decide) dL_law_519 rfl dL_law_520 (n := 521) rfl ?_
  refine x_i2l dL_law_521 (n := 522) rfl ?_
  refine x_bipush dL_law_522 (n := 524) rfl bp_32 ?_
  refine x_lshl dL_law_524 (n := 525) rfl ?_
  refine x_arg (k := 3) (p1 := 526) (p3 := 528) (p4 := 529) (p5 := 530) hs (by omega) hL dL_law_525 rfl rfl dL_law_526 rfl rfl dL_law_528 rfl (by decide) dL_law_529 rfl dL_law_530 (n := 531) rfl ?_
  refine x_i2l dL_law_531 (n := 532) rfl ?_
  refine x_ldc2 dL_law_532 (n := 535) rfl q2228 ?_
  refine x_land dL_law_535 (n := 536) rfl ?_
  refine x_lor dL_law_536 (n := 537) rfl ?_
  refine x_arg (k := 4) (p1 := 538) (p3 := 540) (p4 := 541) (p5 := 542) hs (by omega) hL dL_law_537 rfl rfl dL_law_538 rfl rfl dL_law_540 rfl (by decide) dL_law_541 rfl dL_law_542 (n := 543) rfl ?_
  refine x_cVlm (As := [.int (xs (i + 1)), .long (w64 (xs (i + 2)) (xs (i + 3))), .int (xs (i + 4))]) (rest := [.long r1]) cv_X0_60 ck0 (met_X6_date m σ (xs (i + 1)) (w64 (xs (i + 2)) (xs (i + 3))) (xs (i + 4)) (fun r s => r = v ∧ J o m q c (n + 1) s S) hMB (hm _ (fun s a b _ => ⟨rfl, j1.aft a b hk'⟩))) hMB.1 ⟨rfl, rfl, Nat.le_of_ble_eq_true rfl, Nat.le_of_ble_eq_true rfl, hcs.1, hcs.2⟩ rfl rfl rfl dL_law_543 (n := 546) rfl (fun r2 s2 _ h2 => ?_)
  obtain ⟨e2, j2⟩ := h2
  exact x_lcmp_eq (tgt := 2053) dL_law_546 rfl dL_law_547 rfl (n := 550) rfl (fun _ => nx c s2 S j2) (fun ne => absurd (e1.trans e2.symm) ne)
theorem law_7 {G : XE} {b L i o m q c n : Nat} {xs : Nat → Int32} {σ : Hp} {S : PlS} {cells slots : Nat} (hs : SCR G b L xs) (hL : L ≤ 384) (hi : i + 6 ≤ L) (hn : n ≤ 64) (hcs : cells ≤ 603072 ∧ slots ≤ 7198826) (hJ : J o m q c n σ S) (nx : ∀ c' s' S', J o m q c' (n + 1) s' S' → X G room_1 cL_law RX0 7 (some .boolean) s' cells slots 2053 [(0, .ref b), (1, .ref o), (2, .ref m), (3, .ref q), (4, .int (Int32.ofNat i))] []) : X G room_1 cL_law RX0 7 (some .boolean) σ cells slots 552 [(0, .ref b), (1, .ref o), (2, .ref m), (3, .ref q), (4, .int (Int32.ofNat i))] [] := by
  obtain ⟨k1, k2, k3⟩ := q_count (o := o) (l := (xs (i + 1))) (y := (xs (i + 2))) (d := (w64 (xs (i + 3)) (xs (i + 4)))) hJ.lr hJ.mk hJ.r.1
  have hm := fun (_ : Unit) => pm_f hJ.mm k2 k3
  have hk' := hJ.k.s
  obtain ⟨v, hl⟩ : ∃ v, f_X1_count o c σ (xs (i + 1)) (xs (i + 2)) (w64 (xs (i + 3)) (xs (i + 4))) = v := ⟨_, rfl⟩
  rw [hl] at hm
  have hB := hJ.l.1
  refine x_aload_n dL_law_552 (n := 553) rfl rfl 1 rfl ?_
  refine x_arg (k := 1) (p1 := 554) (p3 := 556) (p4 := 557) (p5 := 558) hs (by omega) hL dL_law_553 rfl rfl dL_law_554 rfl rfl dL_law_556 rfl (by decide) dL_law_557 rfl dL_law_558 (n := 559) rfl ?_
  refine x_arg (k := 2) (p1 := 560) (p3 := 562) (p4 := 563) (p5 := 564) hs (by omega) hL dL_law_559 rfl rfl dL_law_560 rfl rfl dL_law_562 rfl (by decide) dL_law_563 rfl dL_law_564 (n := 565) rfl ?_
  refine x_arg (k := 3) (p1 := 566) (p3 := 568) (p4 := 569) (p5 := 570) hs (by omega) hL dL_law_565 rfl rfl dL_law_566 rfl rfl dL_law_568 rfl (by decide) dL_law_569 rfl dL_law_570 (n := 571) rfl ?_
  refine x_i2l dL_law_571 (n := 572) rfl ?_
  refine x_bipush dL_law_572 (n := 574) rfl bp_32 ?_
  refine x_lshl dL_law_574 (n := 575) rfl ?_
  refine x_arg (k := 4) (p1 := 576) (p3 := 578) (p4 := 579) (p5 := 580) hs (by omega) hL dL_law_575 rfl rfl dL_law_576 rfl rfl dL_law_578 rfl (by decide) dL_law_579 rfl dL_law_580 (n := 581) rfl ?_
  refine x_i2l dL_law_581 (n := 582) rfl ?_
  refine x_ldc2 dL_law_582 (n := 585) rfl q2228 ?_
  refine x_land dL_law_585 (n := 586) rfl ?_
  refine x_lor dL_law_586 (n := 587) rfl ?_
  refine x_cVlp (As := [.int (xs (i + 1)), .int (xs (i + 2)), .long (w64 (xs (i + 3)) (xs (i + 4)))]) (rest := []) cv_X0_61 ck1 (met_X1_count o c σ (xs (i + 1)) (xs (i + 2)) (w64 (xs (i + 3)) (xs (i + 4))) hB k1) hB.1 ⟨rfl, rfl, Nat.le_of_ble_eq_true rfl, Nat.le_of_ble_eq_true rfl, hcs.1, hcs.2⟩ rfl rfl rfl dL_law_587 (n := 590) rfl (fun r1 e1 => ?_)
  have e1 : r1 = v := e1.trans hl
  have j1 := hJ.j1
  have hMB := j1.2.2.2.2.2.1
  have hm := hm ()
  refine x_aload_n dL_law_590 (n := 591) rfl rfl 2 rfl ?_
  refine x_arg (k := 1) (p1 := 592) (p3 := 594) (p4 := 595) (p5 := 596) hs (by omega) hL dL_law_591 rfl rfl dL_law_592 rfl rfl dL_law_594 rfl (by decide) dL_law_595 rfl dL_law_596 (n := 597) rfl ?_
  refine x_arg (k := 2) (p1 := 598) (p3 := 600) (p4 := 601) (p5 := 602) hs (by omega) hL dL_law_597 rfl rfl dL_law_598 rfl rfl dL_law_600 rfl (by decide) dL_law_601 rfl dL_law_602 (n := 603) rfl ?_
  refine x_arg (k := 3) (p1 := 604) (p3 := 606) (p4 := 607) (p5 := 608) hs (by omega) hL dL_law_603 rfl rfl dL_law_604 rfl rfl dL_law_606 rfl (by decide) dL_law_607 rfl dL_law_608 (n := 609) rfl ?_
  refine x_i2l dL_law_609 (n := 610) rfl ?_
  refine x_bipush dL_law_610 (n := 612) rfl bp_32 ?_
  refine x_lshl dL_law_612 (n := 613) rfl ?_
  refine x_arg (k := 4) (p1 := 614) (p3 := 616) (p4 := 617) (p5 := 618) hs (by omega) hL dL_law_613 rfl rfl dL_law_614 rfl rfl dL_law_616 rfl (by decide) dL_law_617 rfl dL_law_618 (n := 619) rfl ?_
  refine x_i2l dL_law_619 (n := 620) rfl ?_
  refine x_ldc2 dL_law_620 (n := 623) rfl q2228 ?_
  refine x_land dL_law_623 (n := 624) rfl ?_
  refine x_lor dL_law_624 (n := 625) rfl ?_
  refine x_cVlm (As := [.int (xs (i + 1)), .int (xs (i + 2)), .long (w64 (xs (i + 3)) (xs (i + 4)))]) (rest := [.long r1]) cv_X0_65 ck0 (met_X6_count m σ (xs (i + 1)) (xs (i + 2)) (w64 (xs (i + 3)) (xs (i + 4))) hMB (hm (fun r s => r = v ∧ J o m q c (n + 1) s S) (fun s a b _ => ⟨rfl, j1.aft a b hk'⟩)).1) hMB.1 ⟨rfl, rfl, Nat.le_of_ble_eq_true rfl, Nat.le_of_ble_eq_true rfl, hcs.1, hcs.2⟩ rfl rfl rfl dL_law_625 (n := 628) rfl (fun r2 s2 _ h2 => ?_)
  have g2 := (hm (fun r s => r = v ∧ J o m q c (n + 1) s S) (fun s a b _ => ⟨rfl, j1.aft a b hk'⟩)).2
  rw [← h2] at g2
  obtain ⟨e2, j2⟩ := g2
  exact x_lcmp_eq (tgt := 2053) dL_law_628 rfl dL_law_629 rfl (n := 632) rfl (fun _ => nx c s2 S j2) (fun ne => absurd (e1.trans e2.symm) ne)
theorem law_8 {G : XE} {b L i o m q c n : Nat} {xs : Nat → Int32} {σ : Hp} {S : PlS} {cells slots : Nat} (hs : SCR G b L xs) (hL : L ≤ 384) (hi : i + 6 ≤ L) (hn : n ≤ 64) (hcs : cells ≤ 603072 ∧ slots ≤ 7198826) (hJ : J o m q c n σ S) (nx : ∀ c' s' S', J o m q c' (n + 1) s' S' → X G room_1 cL_law RX0 7 (some .boolean) s' cells slots 2053 [(0, .ref b), (1, .ref o), (2, .ref m), (3, .ref q), (4, .int (Int32.ofNat i))] []) : X G room_1 cL_law RX0 7 (some .boolean) σ cells slots 634 [(0, .ref b), (1, .ref o), (2, .ref m), (3, .ref q), (4, .int (Int32.ofNat i))] [] := by
  obtain ⟨k1, k2, k3⟩ := q_round (o := o) (y := (w64 (xs (i + 1)) (xs (i + 2)))) (w := (xs (i + 3))) hJ.lr hJ.mk hJ.r
  have hm := fun (_ : Unit) => pm_f hJ.mm k2 k3
  have hk' := hJ.k.s
  obtain ⟨v, hl⟩ : ∃ v, f_X1_round o c σ (w64 (xs (i + 1)) (xs (i + 2))) (xs (i + 3)) = v := ⟨_, rfl⟩
  rw [hl] at hm
  have hB := hJ.l.1
  refine x_aload_n dL_law_634 (n := 635) rfl rfl 1 rfl ?_
  refine x_arg (k := 1) (p1 := 636) (p3 := 638) (p4 := 639) (p5 := 640) hs (by omega) hL dL_law_635 rfl rfl dL_law_636 rfl rfl dL_law_638 rfl (by decide) dL_law_639 rfl dL_law_640 (n := 641) rfl ?_
  refine x_i2l dL_law_641 (n := 642) rfl ?_
  refine x_bipush dL_law_642 (n := 644) rfl bp_32 ?_
  refine x_lshl dL_law_644 (n := 645) rfl ?_
  refine x_arg (k := 2) (p1 := 646) (p3 := 648) (p4 := 649) (p5 := 650) hs (by omega) hL dL_law_645 rfl rfl dL_law_646 rfl rfl dL_law_648 rfl (by decide) dL_law_649 rfl dL_law_650 (n := 651) rfl ?_
  refine x_i2l dL_law_651 (n := 652) rfl ?_
  refine x_ldc2 dL_law_652 (n := 655) rfl q2228 ?_
  refine x_land dL_law_655 (n := 656) rfl ?_
  refine x_lor dL_law_656 (n := 657) rfl ?_
  refine x_arg (k := 3) (p1 := 658) (p3 := 660) (p4 := 661) (p5 := 662) hs (by omega) hL dL_law_657 rfl rfl dL_law_658 rfl rfl dL_law_660 rfl (by decide) dL_law_661 rfl dL_law_662 (n := 663) rfl ?_
  refine x_cVip (As := [.long (w64 (xs (i + 1)) (xs (i + 2))), .int (xs (i + 3))]) (rest := []) cv_X0_66 ck1 (met_X1_round o c σ (w64 (xs (i + 1)) (xs (i + 2))) (xs (i + 3)) hB k1) hB.1 ⟨rfl, rfl, Nat.le_of_ble_eq_true rfl, Nat.le_of_ble_eq_true rfl, hcs.1, hcs.2⟩ rfl rfl rfl dL_law_663 (n := 666) rfl (fun r1 e1 => ?_)
  have e1 : r1 = v := e1.trans hl
  have j1 := hJ.j1
  have hMB := j1.2.2.2.2.2.1
  have hm := hm ()
  refine x_aload_n dL_law_666 (n := 667) rfl rfl 2 rfl ?_
  refine x_arg (k := 1) (p1 := 668) (p3 := 670) (p4 := 671) (p5 := 672) hs (by omega) hL dL_law_667 rfl rfl dL_law_668 rfl rfl dL_law_670 rfl (by decide) dL_law_671 rfl dL_law_672 (n := 673) rfl ?_
  refine x_i2l dL_law_673 (n := 674) rfl ?_
  refine x_bipush dL_law_674 (n := 676) rfl bp_32 ?_
  refine x_lshl dL_law_676 (n := 677) rfl ?_
  refine x_arg (k := 2) (p1 := 678) (p3 := 680) (p4 := 681) (p5 := 682) hs (by omega) hL dL_law_677 rfl rfl dL_law_678 rfl rfl dL_law_680 rfl (by decide) dL_law_681 rfl dL_law_682 (n := 683) rfl ?_
  refine x_i2l dL_law_683 (n := 684) rfl ?_
  refine x_ldc2 dL_law_684 (n := 687) rfl q2228 ?_
  refine x_land dL_law_687 (n := 688) rfl ?_
  refine x_lor dL_law_688 (n := 689) rfl ?_
  refine x_arg (k := 3) (p1 := 690) (p3 := 692) (p4 := 693) (p5 := 694) hs (by omega) hL dL_law_689 rfl rfl dL_law_690 rfl rfl dL_law_692 rfl (by decide) dL_law_693 rfl dL_law_694 (n := 695) rfl ?_
  refine x_cVim (As := [.long (w64 (xs (i + 1)) (xs (i + 2))), .int (xs (i + 3))]) (rest := [.int r1]) cv_X0_70 ck0 (met_X6_round m σ (w64 (xs (i + 1)) (xs (i + 2))) (xs (i + 3)) hMB (hm (fun r s => r = v ∧ J o m q c (n + 1) s S) (fun s a b _ => ⟨rfl, j1.aft a b hk'⟩)).1) hMB.1 ⟨rfl, rfl, Nat.le_of_ble_eq_true rfl, Nat.le_of_ble_eq_true rfl, hcs.1, hcs.2⟩ rfl rfl rfl dL_law_695 (n := 698) rfl (fun r2 s2 _ h2 => ?_)
  have g2 := (hm (fun r s => r = v ∧ J o m q c (n + 1) s S) (fun s a b _ => ⟨rfl, j1.aft a b hk'⟩)).2
  rw [← h2] at g2
  obtain ⟨e2, j2⟩ := g2
  exact x_icmp_eq (tgt := 2053) dL_law_698 rfl (n := 701) rfl (fun _ => nx c s2 S j2) (fun ne => absurd (e1.trans e2.symm) ne)
theorem law_9 {G : XE} {b L i o m q c n : Nat} {xs : Nat → Int32} {σ : Hp} {S : PlS} {cells slots : Nat} (hs : SCR G b L xs) (hL : L ≤ 384) (hi : i + 6 ≤ L) (hn : n ≤ 64) (hcs : cells ≤ 603072 ∧ slots ≤ 7198826) (hJ : J o m q c n σ S) (nx : ∀ c' s' S', J o m q c' (n + 1) s' S' → X G room_1 cL_law RX0 7 (some .boolean) s' cells slots 2053 [(0, .ref b), (1, .ref o), (2, .ref m), (3, .ref q), (4, .int (Int32.ofNat i))] []) : X G room_1 cL_law RX0 7 (some .boolean) σ cells slots 703 [(0, .ref b), (1, .ref o), (2, .ref m), (3, .ref q), (4, .int (Int32.ofNat i))] [] := by
  obtain ⟨v, hl0, hm0⟩ := q_feast (m := m) (f := (xs (i + 1))) (d := (w64 (xs (i + 2)) (xs (i + 3)))) hJ.qq.1 hJ.r
  have hl := pl_h hJ.z hJ.l hl0
  have hm := fun τ (hM : RepM m τ S) => pm_q hM (hm0 τ hM.2.2.2.1.1)
  have hk' := hJ.k.s
  have hB := hJ.l.1
  refine x_aload_n dL_law_703 (n := 704) rfl rfl 1 rfl ?_
  refine x_arg (k := 1) (p1 := 705) (p3 := 707) (p4 := 708) (p5 := 709) hs (by omega) hL dL_law_704 rfl rfl dL_law_705 rfl rfl dL_law_707 rfl (by decide) dL_law_708 rfl dL_law_709 (n := 710) rfl ?_
  refine x_arg (k := 2) (p1 := 711) (p3 := 713) (p4 := 714) (p5 := 715) hs (by omega) hL dL_law_710 rfl rfl dL_law_711 rfl rfl dL_law_713 rfl (by decide) dL_law_714 rfl dL_law_715 (n := 716) rfl ?_
  refine x_i2l dL_law_716 (n := 717) rfl ?_
  refine x_bipush dL_law_717 (n := 719) rfl bp_32 ?_
  refine x_lshl dL_law_719 (n := 720) rfl ?_
  refine x_arg (k := 3) (p1 := 721) (p3 := 723) (p4 := 724) (p5 := 725) hs (by omega) hL dL_law_720 rfl rfl dL_law_721 rfl rfl dL_law_723 rfl (by decide) dL_law_724 rfl dL_law_725 (n := 726) rfl ?_
  refine x_i2l dL_law_726 (n := 727) rfl ?_
  refine x_ldc2 dL_law_727 (n := 730) rfl q2228 ?_
  refine x_land dL_law_730 (n := 731) rfl ?_
  refine x_lor dL_law_731 (n := 732) rfl ?_
  refine x_cVim (As := [.int (xs (i + 1)), .long (w64 (xs (i + 2)) (xs (i + 3)))]) (rest := []) cv_X0_71 ck1 (met_X1_feast o c σ (xs (i + 1)) (w64 (xs (i + 2)) (xs (i + 3))) (fun r s => r = v ∧ J1 o m q c s S S) hB (hl _ (fun s a b => ⟨rfl, hJ.aft a b⟩))) hB.1 ⟨rfl, rfl, Nat.le_of_ble_eq_true rfl, Nat.le_of_ble_eq_true rfl, hcs.1, hcs.2⟩ rfl rfl rfl dL_law_732 (n := 735) rfl (fun r1 s1 _ h1 => ?_)
  obtain ⟨e1, j1⟩ := h1
  have hMB := j1.2.2.2.2.2.1
  have hm := hm s1 j1.2.2.2.2.2
  refine x_aload_n dL_law_735 (n := 736) rfl rfl 2 rfl ?_
  refine x_arg (k := 1) (p1 := 737) (p3 := 739) (p4 := 740) (p5 := 741) hs (by omega) hL dL_law_736 rfl rfl dL_law_737 rfl rfl dL_law_739 rfl (by decide) dL_law_740 rfl dL_law_741 (n := 742) rfl ?_
  refine x_arg (k := 2) (p1 := 743) (p3 := 745) (p4 := 746) (p5 := 747) hs (by omega) hL dL_law_742 rfl rfl dL_law_743 rfl rfl dL_law_745 rfl (by decide) dL_law_746 rfl dL_law_747 (n := 748) rfl ?_
  refine x_i2l dL_law_748 (n := 749) rfl ?_
  refine x_bipush dL_law_749 (n := 751) rfl bp_32 ?_
  refine x_lshl dL_law_751 (n := 752) rfl ?_
  refine x_arg (k := 3) (p1 := 753) (p3 := 755) (p4 := 756) (p5 := 757) hs (by omega) hL dL_law_752 rfl rfl dL_law_753 rfl rfl dL_law_755 rfl (by decide) dL_law_756 rfl dL_law_757 (n := 758) rfl ?_
  refine x_i2l dL_law_758 (n := 759) rfl ?_
  refine x_ldc2 dL_law_759 (n := 762) rfl q2228 ?_
  refine x_land dL_law_762 (n := 763) rfl ?_
  refine x_lor dL_law_763 (n := 764) rfl ?_
  refine x_cVim (As := [.int (xs (i + 1)), .long (w64 (xs (i + 2)) (xs (i + 3)))]) (rest := [.int r1]) cv_X0_75 ck0 (met_X6_feast m s1 (xs (i + 1)) (w64 (xs (i + 2)) (xs (i + 3))) (fun r s => r = v ∧ J o m q c (n + 1) s S) hMB (hm _ (fun s a b _ => ⟨rfl, j1.aft a b hk'⟩))) hMB.1 ⟨rfl, rfl, Nat.le_of_ble_eq_true rfl, Nat.le_of_ble_eq_true rfl, hcs.1, hcs.2⟩ rfl rfl rfl dL_law_764 (n := 767) rfl (fun r2 s2 _ h2 => ?_)
  obtain ⟨e2, j2⟩ := h2
  exact x_icmp_eq (tgt := 2053) dL_law_767 rfl (n := 770) rfl (fun _ => nx c s2 S j2) (fun ne => absurd (e1.trans e2.symm) ne)
theorem law_10 {G : XE} {b L i o m q c n : Nat} {xs : Nat → Int32} {σ : Hp} {S : PlS} {cells slots : Nat} (hs : SCR G b L xs) (hL : L ≤ 384) (hi : i + 6 ≤ L) (hn : n ≤ 64) (hcs : cells ≤ 603072 ∧ slots ≤ 7198826) (hJ : J o m q c n σ S) (nx : ∀ c' s' S', J o m q c' (n + 1) s' S' → X G room_1 cL_law RX0 7 (some .boolean) s' cells slots 2053 [(0, .ref b), (1, .ref o), (2, .ref m), (3, .ref q), (4, .int (Int32.ofNat i))] []) : X G room_1 cL_law RX0 7 (some .boolean) σ cells slots 772 [(0, .ref b), (1, .ref o), (2, .ref m), (3, .ref q), (4, .int (Int32.ofNat i))] [] := by
  obtain ⟨v, hl0, hm0⟩ := q_festive (m := m) (f := (xs (i + 1))) (d := (w64 (xs (i + 2)) (xs (i + 3)))) hJ.qq.1 hJ.r
  have hl := pl_h hJ.z hJ.l hl0
  have hm := fun τ (hM : RepM m τ S) => pm_q hM (hm0 τ hM.2.2.2.1.1)
  have hk' := hJ.k.s
  have hB := hJ.l.1
  refine x_aload_n dL_law_772 (n := 773) rfl rfl 1 rfl ?_
  refine x_arg (k := 1) (p1 := 774) (p3 := 776) (p4 := 777) (p5 := 778) hs (by omega) hL dL_law_773 rfl rfl dL_law_774 rfl rfl dL_law_776 rfl (by decide) dL_law_777 rfl dL_law_778 (n := 779) rfl ?_
  refine x_arg (k := 2) (p1 := 780) (p3 := 782) (p4 := 783) (p5 := 784) hs (by omega) hL dL_law_779 rfl rfl dL_law_780 rfl rfl dL_law_782 rfl (by decide) dL_law_783 rfl dL_law_784 (n := 785) rfl ?_
  refine x_i2l dL_law_785 (n := 786) rfl ?_
  refine x_bipush dL_law_786 (n := 788) rfl bp_32 ?_
  refine x_lshl dL_law_788 (n := 789) rfl ?_
  refine x_arg (k := 3) (p1 := 790) (p3 := 792) (p4 := 793) (p5 := 794) hs (by omega) hL dL_law_789 rfl rfl dL_law_790 rfl rfl dL_law_792 rfl (by decide) dL_law_793 rfl dL_law_794 (n := 795) rfl ?_
  refine x_i2l dL_law_795 (n := 796) rfl ?_
  refine x_ldc2 dL_law_796 (n := 799) rfl q2228 ?_
  refine x_land dL_law_799 (n := 800) rfl ?_
  refine x_lor dL_law_800 (n := 801) rfl ?_
  refine x_cVlm (As := [.int (xs (i + 1)), .long (w64 (xs (i + 2)) (xs (i + 3)))]) (rest := []) cv_X0_76 ck1 (met_X1_festive o c σ (xs (i + 1)) (w64 (xs (i + 2)) (xs (i + 3))) (fun r s => r = v ∧ J1 o m q c s S S) hB (hl _ (fun s a b => ⟨rfl, hJ.aft a b⟩))) hB.1 ⟨rfl, rfl, Nat.le_of_ble_eq_true rfl, Nat.le_of_ble_eq_true rfl, hcs.1, hcs.2⟩ rfl rfl rfl dL_law_801 (n := 804) rfl (fun r1 s1 _ h1 => ?_)
  obtain ⟨e1, j1⟩ := h1
  have hMB := j1.2.2.2.2.2.1
  have hm := hm s1 j1.2.2.2.2.2
  refine x_aload_n dL_law_804 (n := 805) rfl rfl 2 rfl ?_
  refine x_arg (k := 1) (p1 := 806) (p3 := 808) (p4 := 809) (p5 := 810) hs (by omega) hL dL_law_805 rfl rfl dL_law_806 rfl rfl dL_law_808 rfl (by decide) dL_law_809 rfl dL_law_810 (n := 811) rfl ?_
  refine x_arg (k := 2) (p1 := 812) (p3 := 814) (p4 := 815) (p5 := 816) hs (by omega) hL dL_law_811 rfl rfl dL_law_812 rfl rfl dL_law_814 rfl (by decide) dL_law_815 rfl dL_law_816 (n := 817) rfl ?_
  refine x_i2l dL_law_817 (n := 818) rfl ?_
  refine x_bipush dL_law_818 (n := 820) rfl bp_32 ?_
  refine x_lshl dL_law_820 (n := 821) rfl ?_
  refine x_arg (k := 3) (p1 := 822) (p3 := 824) (p4 := 825) (p5 := 826) hs (by omega) hL dL_law_821 rfl rfl dL_law_822 rfl rfl dL_law_824 rfl (by decide) dL_law_825 rfl dL_law_826 (n := 827) rfl ?_
  refine x_i2l dL_law_827 (n := 828) rfl ?_
  refine x_ldc2 dL_law_828 (n := 831) rfl q2228 ?_
  refine x_land dL_law_831 (n := 832) rfl ?_
  refine x_lor dL_law_832 (n := 833) rfl ?_
  refine x_cVlm (As := [.int (xs (i + 1)), .long (w64 (xs (i + 2)) (xs (i + 3)))]) (rest := [.long r1]) cv_X0_80 ck0 (met_X6_festive m s1 (xs (i + 1)) (w64 (xs (i + 2)) (xs (i + 3))) (fun r s => r = v ∧ J o m q c (n + 1) s S) hMB (hm _ (fun s a b _ => ⟨rfl, j1.aft a b hk'⟩))) hMB.1 ⟨rfl, rfl, Nat.le_of_ble_eq_true rfl, Nat.le_of_ble_eq_true rfl, hcs.1, hcs.2⟩ rfl rfl rfl dL_law_833 (n := 836) rfl (fun r2 s2 _ h2 => ?_)
  obtain ⟨e2, j2⟩ := h2
  exact x_lcmp_eq (tgt := 2053) dL_law_836 rfl dL_law_837 rfl (n := 840) rfl (fun _ => nx c s2 S j2) (fun ne => absurd (e1.trans e2.symm) ne)
theorem law_11 {G : XE} {b L i o m q c n : Nat} {xs : Nat → Int32} {σ : Hp} {S : PlS} {cells slots : Nat} (hs : SCR G b L xs) (hL : L ≤ 384) (hi : i + 6 ≤ L) (hn : n ≤ 64) (hcs : cells ≤ 603072 ∧ slots ≤ 7198826) (hJ : J o m q c n σ S) (nx : ∀ c' s' S', J o m q c' (n + 1) s' S' → X G room_1 cL_law RX0 7 (some .boolean) s' cells slots 2053 [(0, .ref b), (1, .ref o), (2, .ref m), (3, .ref q), (4, .int (Int32.ofNat i))] []) : X G room_1 cL_law RX0 7 (some .boolean) σ cells slots 842 [(0, .ref b), (1, .ref o), (2, .ref m), (3, .ref q), (4, .int (Int32.ofNat i))] [] := by
  obtain ⟨v, hl0, hm0⟩ := q_rule (m := m) (f := (xs (i + 1))) (d := (w64 (xs (i + 2)) (xs (i + 3)))) hJ.qq.1 hJ.r
  have hl := pl_h hJ.z hJ.l hl0
  have hm := fun τ (hM : RepM m τ S) => pm_q hM (hm0 τ hM.2.2.2.1.1)
  have hk' := hJ.k.s
  have hB := hJ.l.1
  refine x_aload_n dL_law_842 (n := 843) rfl rfl 1 rfl ?_
  refine x_arg (k := 1) (p1 := 844) (p3 := 846) (p4 := 847) (p5 := 848) hs (by omega) hL dL_law_843 rfl rfl dL_law_844 rfl rfl dL_law_846 rfl (by decide) dL_law_847 rfl dL_law_848 (n := 849) rfl ?_
  refine x_arg (k := 2) (p1 := 850) (p3 := 852) (p4 := 853) (p5 := 854) hs (by omega) hL dL_law_849 rfl rfl dL_law_850 rfl rfl dL_law_852 rfl (by decide) dL_law_853 rfl dL_law_854 (n := 855) rfl ?_
  refine x_i2l dL_law_855 (n := 856) rfl ?_
  refine x_bipush dL_law_856 (n := 858) rfl bp_32 ?_
  refine x_lshl dL_law_858 (n := 859) rfl ?_
  refine x_arg (k := 3) (p1 := 860) (p3 := 862) (p4 := 863) (p5 := 864) hs (by omega) hL dL_law_859 rfl rfl dL_law_860 rfl rfl dL_law_862 rfl (by decide) dL_law_863 rfl dL_law_864 (n := 865) rfl ?_
  refine x_i2l dL_law_865 (n := 866) rfl ?_
  refine x_ldc2 dL_law_866 (n := 869) rfl q2228 ?_
  refine x_land dL_law_869 (n := 870) rfl ?_
  refine x_lor dL_law_870 (n := 871) rfl ?_
  refine x_cVlm (As := [.int (xs (i + 1)), .long (w64 (xs (i + 2)) (xs (i + 3)))]) (rest := []) cv_X0_81 ck1 (met_X1_rule o c σ (xs (i + 1)) (w64 (xs (i + 2)) (xs (i + 3))) (fun r s => r = v ∧ J1 o m q c s S S) hB (hl _ (fun s a b => ⟨rfl, hJ.aft a b⟩))) hB.1 ⟨rfl, rfl, Nat.le_of_ble_eq_true rfl, Nat.le_of_ble_eq_true rfl, hcs.1, hcs.2⟩ rfl rfl rfl dL_law_871 (n := 874) rfl (fun r1 s1 _ h1 => ?_)
  obtain ⟨e1, j1⟩ := h1
  have hMB := j1.2.2.2.2.2.1
  have hm := hm s1 j1.2.2.2.2.2
  refine x_aload_n dL_law_874 (n := 875) rfl rfl 2 rfl ?_
  refine x_arg (k := 1) (p1 := 876) (p3 := 878) (p4 := 879) (p5 := 880) hs (by omega) hL dL_law_875 rfl rfl dL_law_876 rfl rfl dL_law_878 rfl (by decide) dL_law_879 rfl dL_law_880 (n := 881) rfl ?_
  refine x_arg (k := 2) (p1 := 882) (p3 := 884) (p4 := 885) (p5 := 886) hs (by omega) hL dL_law_881 rfl rfl dL_law_882 rfl rfl dL_law_884 rfl (by decide) dL_law_885 rfl dL_law_886 (n := 887) rfl ?_
  refine x_i2l dL_law_887 (n := 888) rfl ?_
  refine x_bipush dL_law_888 (n := 890) rfl bp_32 ?_
  refine x_lshl dL_law_890 (n := 891) rfl ?_
  refine x_arg (k := 3) (p1 := 892) (p3 := 894) (p4 := 895) (p5 := 896) hs (by omega) hL dL_law_891 rfl rfl dL_law_892 rfl rfl dL_law_894 rfl (by decide) dL_law_895 rfl dL_law_896 (n := 897) rfl ?_
  refine x_i2l dL_law_897 (n := 898) rfl ?_
  refine x_ldc2 dL_law_898 (n := 901) rfl q2228 ?_
  refine x_land dL_law_901 (n := 902) rfl ?_
  refine x_lor dL_law_902 (n := 903) rfl ?_
  refine x_cVlm (As := [.int (xs (i + 1)), .long (w64 (xs (i + 2)) (xs (i + 3)))]) (rest := [.long r1]) cv_X0_84 ck0 (met_X6_rule m s1 (xs (i + 1)) (w64 (xs (i + 2)) (xs (i + 3))) (fun r s => r = v ∧ J o m q c (n + 1) s S) hMB (hm _ (fun s a b _ => ⟨rfl, j1.aft a b hk'⟩))) hMB.1 ⟨rfl, rfl, Nat.le_of_ble_eq_true rfl, Nat.le_of_ble_eq_true rfl, hcs.1, hcs.2⟩ rfl rfl rfl dL_law_903 (n := 906) rfl (fun r2 s2 _ h2 => ?_)
  obtain ⟨e2, j2⟩ := h2
  exact x_lcmp_eq (tgt := 2053) dL_law_906 rfl dL_law_907 rfl (n := 910) rfl (fun _ => nx c s2 S j2) (fun ne => absurd (e1.trans e2.symm) ne)
theorem law_12 {G : XE} {b L i o m q c n : Nat} {xs : Nat → Int32} {σ : Hp} {S : PlS} {cells slots : Nat} (hs : SCR G b L xs) (hL : L ≤ 384) (hi : i + 6 ≤ L) (hn : n ≤ 64) (hcs : cells ≤ 603072 ∧ slots ≤ 7198826) (hJ : J o m q c n σ S) (nx : ∀ c' s' S', J o m q c' (n + 1) s' S' → X G room_1 cL_law RX0 7 (some .boolean) s' cells slots 2053 [(0, .ref b), (1, .ref o), (2, .ref m), (3, .ref q), (4, .int (Int32.ofNat i))] []) : X G room_1 cL_law RX0 7 (some .boolean) σ cells slots 912 [(0, .ref b), (1, .ref o), (2, .ref m), (3, .ref q), (4, .int (Int32.ofNat i))] [] := by
  obtain ⟨k1, k2, k3⟩ := q_life (o := o) (p := (xs (i + 1))) (w := (xs (i + 2))) hJ.lr hJ.mk
  have hm := fun (_ : Unit) => pm_f hJ.mm k2 k3
  have hk' := hJ.k.s
  obtain ⟨v, hl⟩ : ∃ v, f_X1_life o c σ (xs (i + 1)) (xs (i + 2)) = v := ⟨_, rfl⟩
  rw [hl] at hm
  have hB := hJ.l.1
  refine x_aload_n dL_law_912 (n := 913) rfl rfl 1 rfl ?_
  refine x_arg (k := 1) (p1 := 914) (p3 := 916) (p4 := 917) (p5 := 918) hs (by omega) hL dL_law_913 rfl rfl dL_law_914 rfl rfl dL_law_916 rfl (by decide) dL_law_917 rfl dL_law_918 (n := 919) rfl ?_
  refine x_arg (k := 2) (p1 := 920) (p3 := 922) (p4 := 923) (p5 := 924) hs (by omega) hL dL_law_919 rfl rfl dL_law_920 rfl rfl dL_law_922 rfl (by decide) dL_law_923 rfl dL_law_924 (n := 925) rfl ?_
  refine x_cVlp (As := [.int (xs (i + 1)), .int (xs (i + 2))]) (rest := []) cv_X0_85 ck1 (met_X1_life o c σ (xs (i + 1)) (xs (i + 2)) hB k1) hB.1 ⟨rfl, rfl, Nat.le_of_ble_eq_true rfl, Nat.le_of_ble_eq_true rfl, hcs.1, hcs.2⟩ rfl rfl rfl dL_law_925 (n := 928) rfl (fun r1 e1 => ?_)
  have e1 : r1 = v := e1.trans hl
  have j1 := hJ.j1
  have hMB := j1.2.2.2.2.2.1
  have hm := hm ()
  refine x_aload_n dL_law_928 (n := 929) rfl rfl 2 rfl ?_
  refine x_arg (k := 1) (p1 := 930) (p3 := 932) (p4 := 933) (p5 := 934) hs (by omega) hL dL_law_929 rfl rfl dL_law_930 rfl rfl dL_law_932 rfl (by decide) dL_law_933 rfl dL_law_934 (n := 935) rfl ?_
  refine x_arg (k := 2) (p1 := 936) (p3 := 938) (p4 := 939) (p5 := 940) hs (by omega) hL dL_law_935 rfl rfl dL_law_936 rfl rfl dL_law_938 rfl (by decide) dL_law_939 rfl dL_law_940 (n := 941) rfl ?_
  refine x_cVlm (As := [.int (xs (i + 1)), .int (xs (i + 2))]) (rest := [.long r1]) cv_X0_88 ck0 (met_X6_life m σ (xs (i + 1)) (xs (i + 2)) hMB (hm (fun r s => r = v ∧ J o m q c (n + 1) s S) (fun s a b _ => ⟨rfl, j1.aft a b hk'⟩)).1) hMB.1 ⟨rfl, rfl, Nat.le_of_ble_eq_true rfl, Nat.le_of_ble_eq_true rfl, hcs.1, hcs.2⟩ rfl rfl rfl dL_law_941 (n := 944) rfl (fun r2 s2 _ h2 => ?_)
  have g2 := (hm (fun r s => r = v ∧ J o m q c (n + 1) s S) (fun s a b _ => ⟨rfl, j1.aft a b hk'⟩)).2
  rw [← h2] at g2
  obtain ⟨e2, j2⟩ := g2
  exact x_lcmp_eq (tgt := 2053) dL_law_944 rfl dL_law_945 rfl (n := 948) rfl (fun _ => nx c s2 S j2) (fun ne => absurd (e1.trans e2.symm) ne)
theorem law_13 {G : XE} {b L i o m q c n : Nat} {xs : Nat → Int32} {σ : Hp} {S : PlS} {cells slots : Nat} (hs : SCR G b L xs) (hL : L ≤ 384) (hi : i + 6 ≤ L) (hn : n ≤ 64) (hcs : cells ≤ 603072 ∧ slots ≤ 7198826) (hJ : J o m q c n σ S) (nx : ∀ c' s' S', J o m q c' (n + 1) s' S' → X G room_1 cL_law RX0 7 (some .boolean) s' cells slots 2053 [(0, .ref b), (1, .ref o), (2, .ref m), (3, .ref q), (4, .int (Int32.ofNat i))] []) : X G room_1 cL_law RX0 7 (some .boolean) σ cells slots 950 [(0, .ref b), (1, .ref o), (2, .ref m), (3, .ref q), (4, .int (Int32.ofNat i))] [] := by
  obtain ⟨v, hl, hm0⟩ := q_age (o := o) (p := (xs (i + 1))) (d := (w64 (xs (i + 2)) (xs (i + 3)))) (l := (xs (i + 4))) hJ.lr hJ.mk hJ.r
  have hm := fun (_ : Unit) => pm_q hJ.mm hm0
  have hk' := hJ.k.s
  have hB := hJ.l.1
  refine x_aload_n dL_law_950 (n := 951) rfl rfl 1 rfl ?_
  refine x_arg (k := 1) (p1 := 952) (p3 := 954) (p4 := 955) (p5 := 956) hs (by omega) hL dL_law_951 rfl rfl dL_law_952 rfl rfl dL_law_954 rfl (by decide) dL_law_955 rfl dL_law_956 (n := 957) rfl ?_
  refine x_arg (k := 2) (p1 := 958) (p3 := 960) (p4 := 961) (p5 := 962) hs (by omega) hL dL_law_957 rfl rfl dL_law_958 rfl rfl dL_law_960 rfl (by decide) dL_law_961 rfl dL_law_962 (n := 963) rfl ?_
  refine x_i2l dL_law_963 (n := 964) rfl ?_
  refine x_bipush dL_law_964 (n := 966) rfl bp_32 ?_
  refine x_lshl dL_law_966 (n := 967) rfl ?_
  refine x_arg (k := 3) (p1 := 968) (p3 := 970) (p4 := 971) (p5 := 972) hs (by omega) hL dL_law_967 rfl rfl dL_law_968 rfl rfl dL_law_970 rfl (by decide) dL_law_971 rfl dL_law_972 (n := 973) rfl ?_
  refine x_i2l dL_law_973 (n := 974) rfl ?_
  refine x_ldc2 dL_law_974 (n := 977) rfl q2228 ?_
  refine x_land dL_law_977 (n := 978) rfl ?_
  refine x_lor dL_law_978 (n := 979) rfl ?_
  refine x_arg (k := 4) (p1 := 980) (p3 := 982) (p4 := 983) (p5 := 984) hs (by omega) hL dL_law_979 rfl rfl dL_law_980 rfl rfl dL_law_982 rfl (by decide) dL_law_983 rfl dL_law_984 (n := 985) rfl ?_
  refine x_cVlp (As := [.int (xs (i + 1)), .long (w64 (xs (i + 2)) (xs (i + 3))), .int (xs (i + 4))]) (rest := []) cv_X0_89 ck1 (met_X1_age o c σ (xs (i + 1)) (w64 (xs (i + 2)) (xs (i + 3))) (xs (i + 4)) (fun r => r = v) hB (hl _ rfl)) hB.1 ⟨rfl, rfl, Nat.le_of_ble_eq_true rfl, Nat.le_of_ble_eq_true rfl, hcs.1, hcs.2⟩ rfl rfl rfl dL_law_985 (n := 988) rfl (fun r1 e1 => ?_)
  have j1 := hJ.j1
  have hMB := j1.2.2.2.2.2.1
  have hm := hm ()
  refine x_aload_n dL_law_988 (n := 989) rfl rfl 2 rfl ?_
  refine x_arg (k := 1) (p1 := 990) (p3 := 992) (p4 := 993) (p5 := 994) hs (by omega) hL dL_law_989 rfl rfl dL_law_990 rfl rfl dL_law_992 rfl (by decide) dL_law_993 rfl dL_law_994 (n := 995) rfl ?_
  refine x_arg (k := 2) (p1 := 996) (p3 := 998) (p4 := 999) (p5 := 1000) hs (by omega) hL dL_law_995 rfl rfl dL_law_996 rfl rfl dL_law_998 rfl (by decide) dL_law_999 rfl dL_law_1000 (n := 1001) rfl ?_
  refine x_i2l dL_law_1001 (n := 1002) rfl ?_
  refine x_bipush dL_law_1002 (n := 1004) rfl bp_32 ?_
  refine x_lshl dL_law_1004 (n := 1005) rfl ?_
  refine x_arg (k := 3) (p1 := 1006) (p3 := 1008) (p4 := 1009) (p5 := 1010) hs (by omega) hL dL_law_1005 rfl rfl dL_law_1006 rfl rfl dL_law_1008 rfl (by decide) dL_law_1009 rfl dL_law_1010 (n := 1011) rfl ?_
  refine x_i2l dL_law_1011 (n := 1012) rfl ?_
  refine x_ldc2 dL_law_1012 (n := 1015) rfl q2228 ?_
  refine x_land dL_law_1015 (n := 1016) rfl ?_
  refine x_lor dL_law_1016 (n := 1017) rfl ?_
  refine x_arg (k := 4) (p1 := 1018) (p3 := 1020) (p4 := 1021) (p5 := 1022) hs (by omega) hL dL_law_1017 rfl rfl dL_law_1018 rfl rfl dL_law_1020 rfl (by decide) dL_law_1021 rfl dL_law_1022 (n := 1023) rfl ?_
  refine x_cVlm (As := [.int (xs (i + 1)), .long (w64 (xs (i + 2)) (xs (i + 3))), .int (xs (i + 4))]) (rest := [.long r1]) cv_X0_92 ck0 (met_X6_age m σ (xs (i + 1)) (w64 (xs (i + 2)) (xs (i + 3))) (xs (i + 4)) (fun r s => r = v ∧ J o m q c (n + 1) s S) hMB (hm _ (fun s a b _ => ⟨rfl, j1.aft a b hk'⟩))) hMB.1 ⟨rfl, rfl, Nat.le_of_ble_eq_true rfl, Nat.le_of_ble_eq_true rfl, hcs.1, hcs.2⟩ rfl rfl rfl dL_law_1023 (n := 1026) rfl (fun r2 s2 _ h2 => ?_)
  obtain ⟨e2, j2⟩ := h2
  exact x_lcmp_eq (tgt := 2053) dL_law_1026 rfl dL_law_1027 rfl (n := 1030) rfl (fun _ => nx c s2 S j2) (fun ne => absurd (e1.trans e2.symm) ne)
theorem law_14 {G : XE} {b L i o m q c n : Nat} {xs : Nat → Int32} {σ : Hp} {S : PlS} {cells slots : Nat} (hs : SCR G b L xs) (hL : L ≤ 384) (hi : i + 6 ≤ L) (hn : n ≤ 64) (hcs : cells ≤ 603072 ∧ slots ≤ 7198826) (hJ : J o m q c n σ S) (nx : ∀ c' s' S', J o m q c' (n + 1) s' S' → X G room_1 cL_law RX0 7 (some .boolean) s' cells slots 2053 [(0, .ref b), (1, .ref o), (2, .ref m), (3, .ref q), (4, .int (Int32.ofNat i))] []) : X G room_1 cL_law RX0 7 (some .boolean) σ cells slots 1032 [(0, .ref b), (1, .ref o), (2, .ref m), (3, .ref q), (4, .int (Int32.ofNat i))] [] := by
  obtain ⟨k1, k2, k3⟩ := q_elder (o := o) (p := (xs (i + 1))) (w := (xs (i + 2))) hJ.lr hJ.mk
  have hm := fun (_ : Unit) => pm_f hJ.mm k2 k3
  have hk' := hJ.k.s
  obtain ⟨v, hl⟩ : ∃ v, f_X1_elder o c σ (xs (i + 1)) (xs (i + 2)) = v := ⟨_, rfl⟩
  rw [hl] at hm
  have hB := hJ.l.1
  refine x_aload_n dL_law_1032 (n := 1033) rfl rfl 1 rfl ?_
  refine x_arg (k := 1) (p1 := 1034) (p3 := 1036) (p4 := 1037) (p5 := 1038) hs (by omega) hL dL_law_1033 rfl rfl dL_law_1034 rfl rfl dL_law_1036 rfl (by decide) dL_law_1037 rfl dL_law_1038 (n := 1039) rfl ?_
  refine x_arg (k := 2) (p1 := 1040) (p3 := 1042) (p4 := 1043) (p5 := 1044) hs (by omega) hL dL_law_1039 rfl rfl dL_law_1040 rfl rfl dL_law_1042 rfl (by decide) dL_law_1043 rfl dL_law_1044 (n := 1045) rfl ?_
  refine x_cVip (As := [.int (xs (i + 1)), .int (xs (i + 2))]) (rest := []) cv_X0_93 ck1 (met_X1_elder o c σ (xs (i + 1)) (xs (i + 2)) hB k1) hB.1 ⟨rfl, rfl, Nat.le_of_ble_eq_true rfl, Nat.le_of_ble_eq_true rfl, hcs.1, hcs.2⟩ rfl rfl rfl dL_law_1045 (n := 1048) rfl (fun r1 e1 => ?_)
  have e1 : r1 = v := e1.trans hl
  have j1 := hJ.j1
  have hMB := j1.2.2.2.2.2.1
  have hm := hm ()
  refine x_aload_n dL_law_1048 (n := 1049) rfl rfl 2 rfl ?_
  refine x_arg (k := 1) (p1 := 1050) (p3 := 1052) (p4 := 1053) (p5 := 1054) hs (by omega) hL dL_law_1049 rfl rfl dL_law_1050 rfl rfl dL_law_1052 rfl (by decide) dL_law_1053 rfl dL_law_1054 (n := 1055) rfl ?_
  refine x_arg (k := 2) (p1 := 1056) (p3 := 1058) (p4 := 1059) (p5 := 1060) hs (by omega) hL dL_law_1055 rfl rfl dL_law_1056 rfl rfl dL_law_1058 rfl (by decide) dL_law_1059 rfl dL_law_1060 (n := 1061) rfl ?_
  refine x_cVim (As := [.int (xs (i + 1)), .int (xs (i + 2))]) (rest := [.int r1]) cv_X0_96 ck0 (met_X6_elder m σ (xs (i + 1)) (xs (i + 2)) hMB (hm (fun r s => r = v ∧ J o m q c (n + 1) s S) (fun s a b _ => ⟨rfl, j1.aft a b hk'⟩)).1) hMB.1 ⟨rfl, rfl, Nat.le_of_ble_eq_true rfl, Nat.le_of_ble_eq_true rfl, hcs.1, hcs.2⟩ rfl rfl rfl dL_law_1061 (n := 1064) rfl (fun r2 s2 _ h2 => ?_)
  have g2 := (hm (fun r s => r = v ∧ J o m q c (n + 1) s S) (fun s a b _ => ⟨rfl, j1.aft a b hk'⟩)).2
  rw [← h2] at g2
  obtain ⟨e2, j2⟩ := g2
  exact x_icmp_eq (tgt := 2053) dL_law_1064 rfl (n := 1067) rfl (fun _ => nx c s2 S j2) (fun ne => absurd (e1.trans e2.symm) ne)
theorem law_15 {G : XE} {b L i o m q c n : Nat} {xs : Nat → Int32} {σ : Hp} {S : PlS} {cells slots : Nat} (hs : SCR G b L xs) (hL : L ≤ 384) (hi : i + 6 ≤ L) (hn : n ≤ 64) (hcs : cells ≤ 603072 ∧ slots ≤ 7198826) (hJ : J o m q c n σ S) (nx : ∀ c' s' S', J o m q c' (n + 1) s' S' → X G room_1 cL_law RX0 7 (some .boolean) s' cells slots 2053 [(0, .ref b), (1, .ref o), (2, .ref m), (3, .ref q), (4, .int (Int32.ofNat i))] []) : X G room_1 cL_law RX0 7 (some .boolean) σ cells slots 1069 [(0, .ref b), (1, .ref o), (2, .ref m), (3, .ref q), (4, .int (Int32.ofNat i))] [] := by
  obtain ⟨k1, k2, k3⟩ := q_often (o := o) (l := (xs (i + 1))) (a := (xs (i + 2))) (b := (xs (i + 3))) (n := (w64 (xs (i + 4)) (xs (i + 5)))) hJ.lr hJ.mk hJ.r
  have hm := fun (_ : Unit) => pm_f hJ.mm k2 k3
  have hk' := hJ.k.s
  obtain ⟨v, hl⟩ : ∃ v, f_X1_often o c σ (xs (i + 1)) (xs (i + 2)) (xs (i + 3)) (w64 (xs (i + 4)) (xs (i + 5))) = v := ⟨_, rfl⟩
  rw [hl] at hm
  have hB := hJ.l.1
  refine x_aload_n dL_law_1069 (n := 1070) rfl rfl 1 rfl ?_
  refine x_arg (k := 1) (p1 := 1071) (p3 := 1073) (p4 := 1074) (p5 := 1075) hs (by omega) hL dL_law_1070 rfl rfl dL_law_1071 rfl rfl dL_law_1073 rfl (by decide) dL_law_1074 rfl dL_law_1075 (n := 1076) rfl ?_
  refine x_arg (k := 2) (p1 := 1077) (p3 := 1079) (p4 := 1080) (p5 := 1081) hs (by omega) hL dL_law_1076 rfl rfl dL_law_1077 rfl rfl dL_law_1079 rfl (by decide) dL_law_1080 rfl dL_law_1081 (n := 1082) rfl ?_
  refine x_arg (k := 3) (p1 := 1083) (p3 := 1085) (p4 := 1086) (p5 := 1087) hs (by omega) hL dL_law_1082 rfl rfl dL_law_1083 rfl rfl dL_law_1085 rfl (by decide) dL_law_1086 rfl dL_law_1087 (n := 1088) rfl ?_
  refine x_arg (k := 4) (p1 := 1089) (p3 := 1091) (p4 := 1092) (p5 := 1093) hs (by omega) hL dL_law_1088 rfl rfl dL_law_1089 rfl rfl dL_law_1091 rfl (by decide) dL_law_1092 rfl dL_law_1093 (n := 1094) rfl ?_
  refine x_i2l dL_law_1094 (n := 1095) rfl ?_
  refine x_bipush dL_law_1095 (n := 1097) rfl bp_32 ?_
  refine x_lshl dL_law_1097 (n := 1098) rfl ?_
  refine x_arg (k := 5) (p1 := 1099) (p3 := 1101) (p4 := 1102) (p5 := 1103) hs (by omega) hL dL_law_1098 rfl rfl dL_law_1099 rfl rfl dL_law_1101 rfl (by decide) dL_law_1102 rfl dL_law_1103 (n := 1104) rfl ?_
  refine x_i2l dL_law_1104 (n := 1105) rfl ?_
  refine x_ldc2 dL_law_1105 (n := 1108) rfl q2228 ?_
  refine x_land dL_law_1108 (n := 1109) rfl ?_
  refine x_lor dL_law_1109 (n := 1110) rfl ?_
  refine x_cVlp (As := [.int (xs (i + 1)), .int (xs (i + 2)), .int (xs (i + 3)), .long (w64 (xs (i + 4)) (xs (i + 5)))]) (rest := []) cv_X0_97 ck1 (met_X1_often o c σ (xs (i + 1)) (xs (i + 2)) (xs (i + 3)) (w64 (xs (i + 4)) (xs (i + 5))) hB k1) hB.1 ⟨rfl, rfl, Nat.le_of_ble_eq_true rfl, Nat.le_of_ble_eq_true rfl, hcs.1, hcs.2⟩ rfl rfl rfl dL_law_1110 (n := 1113) rfl (fun r1 e1 => ?_)
  have e1 : r1 = v := e1.trans hl
  have j1 := hJ.j1
  have hMB := j1.2.2.2.2.2.1
  have hm := hm ()
  refine x_aload_n dL_law_1113 (n := 1114) rfl rfl 2 rfl ?_
  refine x_arg (k := 1) (p1 := 1115) (p3 := 1117) (p4 := 1118) (p5 := 1119) hs (by omega) hL dL_law_1114 rfl rfl dL_law_1115 rfl rfl dL_law_1117 rfl (by decide) dL_law_1118 rfl dL_law_1119 (n := 1120) rfl ?_
  refine x_arg (k := 2) (p1 := 1121) (p3 := 1123) (p4 := 1124) (p5 := 1125) hs (by omega) hL dL_law_1120 rfl rfl dL_law_1121 rfl rfl dL_law_1123 rfl (by decide) dL_law_1124 rfl dL_law_1125 (n := 1126) rfl ?_
  refine x_arg (k := 3) (p1 := 1127) (p3 := 1129) (p4 := 1130) (p5 := 1131) hs (by omega) hL dL_law_1126 rfl rfl dL_law_1127 rfl rfl dL_law_1129 rfl (by decide) dL_law_1130 rfl dL_law_1131 (n := 1132) rfl ?_
  refine x_arg (k := 4) (p1 := 1133) (p3 := 1135) (p4 := 1136) (p5 := 1137) hs (by omega) hL dL_law_1132 rfl rfl dL_law_1133 rfl rfl dL_law_1135 rfl (by decide) dL_law_1136 rfl dL_law_1137 (n := 1138) rfl ?_
  refine x_i2l dL_law_1138 (n := 1139) rfl ?_
  refine x_bipush dL_law_1139 (n := 1141) rfl bp_32 ?_
  refine x_lshl dL_law_1141 (n := 1142) rfl ?_
  refine x_arg (k := 5) (p1 := 1143) (p3 := 1145) (p4 := 1146) (p5 := 1147) hs (by omega) hL dL_law_1142 rfl rfl dL_law_1143 rfl rfl dL_law_1145 rfl (by decide) dL_law_1146 rfl dL_law_1147 (n := 1148) rfl ?_
  refine x_i2l dL_law_1148 (n := 1149) rfl ?_
  refine x_ldc2 dL_law_1149 (n := 1152) rfl q2228 ?_
  refine x_land dL_law_1152 (n := 1153) rfl ?_
  refine x_lor dL_law_1153 (n := 1154) rfl ?_
  refine x_cVlm (As := [.int (xs (i + 1)), .int (xs (i + 2)), .int (xs (i + 3)), .long (w64 (xs (i + 4)) (xs (i + 5)))]) (rest := [.long r1]) cv_X0_101 ck0 (met_X6_often m σ (xs (i + 1)) (xs (i + 2)) (xs (i + 3)) (w64 (xs (i + 4)) (xs (i + 5))) hMB (hm (fun r s => r = v ∧ J o m q c (n + 1) s S) (fun s a b _ => ⟨rfl, j1.aft a b hk'⟩)).1) hMB.1 ⟨rfl, rfl, Nat.le_of_ble_eq_true rfl, Nat.le_of_ble_eq_true rfl, hcs.1, hcs.2⟩ rfl rfl rfl dL_law_1154 (n := 1157) rfl (fun r2 s2 _ h2 => ?_)
  have g2 := (hm (fun r s => r = v ∧ J o m q c (n + 1) s S) (fun s a b _ => ⟨rfl, j1.aft a b hk'⟩)).2
  rw [← h2] at g2
  obtain ⟨e2, j2⟩ := g2
  exact x_lcmp_eq (tgt := 2053) dL_law_1157 rfl dL_law_1158 rfl (n := 1161) rfl (fun _ => nx c s2 S j2) (fun ne => absurd (e1.trans e2.symm) ne)
theorem law_16 {G : XE} {b L i o m q c n : Nat} {xs : Nat → Int32} {σ : Hp} {S : PlS} {cells slots : Nat} (hs : SCR G b L xs) (hL : L ≤ 384) (hi : i + 6 ≤ L) (hn : n ≤ 64) (hcs : cells ≤ 603072 ∧ slots ≤ 7198826) (hJ : J o m q c n σ S) (nx : ∀ c' s' S', J o m q c' (n + 1) s' S' → X G room_1 cL_law RX0 7 (some .boolean) s' cells slots 2053 [(0, .ref b), (1, .ref o), (2, .ref m), (3, .ref q), (4, .int (Int32.ofNat i))] []) : X G room_1 cL_law RX0 7 (some .boolean) σ cells slots 1163 [(0, .ref b), (1, .ref o), (2, .ref m), (3, .ref q), (4, .int (Int32.ofNat i))] [] := by
  obtain ⟨k1, k2, k3⟩ := q_springs (o := o) (l := (xs (i + 1))) (y := (xs (i + 2))) hJ.lr hJ.mk hJ.r
  have hm := fun (_ : Unit) => pm_f hJ.mm k2 k3
  have hk' := hJ.k.s
  obtain ⟨v, hl⟩ : ∃ v, f_X1_springs o c σ (xs (i + 1)) (xs (i + 2)) = v := ⟨_, rfl⟩
  rw [hl] at hm
  have hB := hJ.l.1
  refine x_aload_n dL_law_1163 (n := 1164) rfl rfl 1 rfl ?_
  refine x_arg (k := 1) (p1 := 1165) (p3 := 1167) (p4 := 1168) (p5 := 1169) hs (by omega) hL dL_law_1164 rfl rfl dL_law_1165 rfl rfl dL_law_1167 rfl (by decide) dL_law_1168 rfl dL_law_1169 (n := 1170) rfl ?_
  refine x_arg (k := 2) (p1 := 1171) (p3 := 1173) (p4 := 1174) (p5 := 1175) hs (by omega) hL dL_law_1170 rfl rfl dL_law_1171 rfl rfl dL_law_1173 rfl (by decide) dL_law_1174 rfl dL_law_1175 (n := 1176) rfl ?_
  refine x_cVlp (As := [.int (xs (i + 1)), .int (xs (i + 2))]) (rest := []) cv_X0_102 ck1 (met_X1_springs o c σ (xs (i + 1)) (xs (i + 2)) hB k1) hB.1 ⟨rfl, rfl, Nat.le_of_ble_eq_true rfl, Nat.le_of_ble_eq_true rfl, hcs.1, hcs.2⟩ rfl rfl rfl dL_law_1176 (n := 1179) rfl (fun r1 e1 => ?_)
  have e1 : r1 = v := e1.trans hl
  have j1 := hJ.j1
  have hMB := j1.2.2.2.2.2.1
  have hm := hm ()
  refine x_aload_n dL_law_1179 (n := 1180) rfl rfl 2 rfl ?_
  refine x_arg (k := 1) (p1 := 1181) (p3 := 1183) (p4 := 1184) (p5 := 1185) hs (by omega) hL dL_law_1180 rfl rfl dL_law_1181 rfl rfl dL_law_1183 rfl (by decide) dL_law_1184 rfl dL_law_1185 (n := 1186) rfl ?_
  refine x_arg (k := 2) (p1 := 1187) (p3 := 1189) (p4 := 1190) (p5 := 1191) hs (by omega) hL dL_law_1186 rfl rfl dL_law_1187 rfl rfl dL_law_1189 rfl (by decide) dL_law_1190 rfl dL_law_1191 (n := 1192) rfl ?_
  refine x_cVlm (As := [.int (xs (i + 1)), .int (xs (i + 2))]) (rest := [.long r1]) cv_X0_105 ck0 (met_X6_springs m σ (xs (i + 1)) (xs (i + 2)) hMB (hm (fun r s => r = v ∧ J o m q c (n + 1) s S) (fun s a b _ => ⟨rfl, j1.aft a b hk'⟩)).1) hMB.1 ⟨rfl, rfl, Nat.le_of_ble_eq_true rfl, Nat.le_of_ble_eq_true rfl, hcs.1, hcs.2⟩ rfl rfl rfl dL_law_1192 (n := 1195) rfl (fun r2 s2 _ h2 => ?_)
  have g2 := (hm (fun r s => r = v ∧ J o m q c (n + 1) s S) (fun s a b _ => ⟨rfl, j1.aft a b hk'⟩)).2
  rw [← h2] at g2
  obtain ⟨e2, j2⟩ := g2
  exact x_lcmp_eq (tgt := 2053) dL_law_1195 rfl dL_law_1196 rfl (n := 1199) rfl (fun _ => nx c s2 S j2) (fun ne => absurd (e1.trans e2.symm) ne)
theorem law_17 {G : XE} {b L i o m q c n : Nat} {xs : Nat → Int32} {σ : Hp} {S : PlS} {cells slots : Nat} (hs : SCR G b L xs) (hL : L ≤ 384) (hi : i + 6 ≤ L) (hn : n ≤ 64) (hcs : cells ≤ 603072 ∧ slots ≤ 7198826) (hJ : J o m q c n σ S) (nx : ∀ c' s' S', J o m q c' (n + 1) s' S' → X G room_1 cL_law RX0 7 (some .boolean) s' cells slots 2053 [(0, .ref b), (1, .ref o), (2, .ref m), (3, .ref q), (4, .int (Int32.ofNat i))] []) : X G room_1 cL_law RX0 7 (some .boolean) σ cells slots 1201 [(0, .ref b), (1, .ref o), (2, .ref m), (3, .ref q), (4, .int (Int32.ofNat i))] [] := by
  obtain ⟨v, hl, hm0⟩ := q_many (o := o) (l := (xs (i + 1))) (y := (xs (i + 2))) (w := (xs (i + 3))) hJ.lr hJ.mk hJ.r
  have hm := fun (_ : Unit) => pm_q hJ.mm hm0
  have hk' := hJ.k.s
  have hB := hJ.l.1
  refine x_aload_n dL_law_1201 (n := 1202) rfl rfl 1 rfl ?_
  refine x_arg (k := 1) (p1 := 1203) (p3 := 1205) (p4 := 1206) (p5 := 1207) hs (by omega) hL dL_law_1202 rfl rfl dL_law_1203 rfl rfl dL_law_1205 rfl (by decide) dL_law_1206 rfl dL_law_1207 (n := 1208) rfl ?_
  refine x_arg (k := 2) (p1 := 1209) (p3 := 1211) (p4 := 1212) (p5 := 1213) hs (by omega) hL dL_law_1208 rfl rfl dL_law_1209 rfl rfl dL_law_1211 rfl (by decide) dL_law_1212 rfl dL_law_1213 (n := 1214) rfl ?_
  refine x_arg (k := 3) (p1 := 1215) (p3 := 1217) (p4 := 1218) (p5 := 1219) hs (by omega) hL dL_law_1214 rfl rfl dL_law_1215 rfl rfl dL_law_1217 rfl (by decide) dL_law_1218 rfl dL_law_1219 (n := 1220) rfl ?_
  refine x_cVip (As := [.int (xs (i + 1)), .int (xs (i + 2)), .int (xs (i + 3))]) (rest := []) cv_X0_106 ck1 (met_X1_many o c σ (xs (i + 1)) (xs (i + 2)) (xs (i + 3)) (fun r => r = v) hB (hl _ rfl)) hB.1 ⟨rfl, rfl, Nat.le_of_ble_eq_true rfl, Nat.le_of_ble_eq_true rfl, hcs.1, hcs.2⟩ rfl rfl rfl dL_law_1220 (n := 1223) rfl (fun r1 e1 => ?_)
  have j1 := hJ.j1
  have hMB := j1.2.2.2.2.2.1
  have hm := hm ()
  refine x_aload_n dL_law_1223 (n := 1224) rfl rfl 2 rfl ?_
  refine x_arg (k := 1) (p1 := 1225) (p3 := 1227) (p4 := 1228) (p5 := 1229) hs (by omega) hL dL_law_1224 rfl rfl dL_law_1225 rfl rfl dL_law_1227 rfl (by decide) dL_law_1228 rfl dL_law_1229 (n := 1230) rfl ?_
  refine x_arg (k := 2) (p1 := 1231) (p3 := 1233) (p4 := 1234) (p5 := 1235) hs (by omega) hL dL_law_1230 rfl rfl dL_law_1231 rfl rfl dL_law_1233 rfl (by decide) dL_law_1234 rfl dL_law_1235 (n := 1236) rfl ?_
  refine x_arg (k := 3) (p1 := 1237) (p3 := 1239) (p4 := 1240) (p5 := 1241) hs (by omega) hL dL_law_1236 rfl rfl dL_law_1237 rfl rfl dL_law_1239 rfl (by decide) dL_law_1240 rfl dL_law_1241 (n := 1242) rfl ?_
  refine x_cVim (As := [.int (xs (i + 1)), .int (xs (i + 2)), .int (xs (i + 3))]) (rest := [.int r1]) cv_X0_110 ck0 (met_X6_many m σ (xs (i + 1)) (xs (i + 2)) (xs (i + 3)) (fun r s => r = v ∧ J o m q c (n + 1) s S) hMB (hm _ (fun s a b _ => ⟨rfl, j1.aft a b hk'⟩))) hMB.1 ⟨rfl, rfl, Nat.le_of_ble_eq_true rfl, Nat.le_of_ble_eq_true rfl, hcs.1, hcs.2⟩ rfl rfl rfl dL_law_1242 (n := 1245) rfl (fun r2 s2 _ h2 => ?_)
  obtain ⟨e2, j2⟩ := h2
  exact x_icmp_eq (tgt := 2053) dL_law_1245 rfl (n := 1248) rfl (fun _ => nx c s2 S j2) (fun ne => absurd (e1.trans e2.symm) ne)
theorem law_18 {G : XE} {b L i o m q c n : Nat} {xs : Nat → Int32} {σ : Hp} {S : PlS} {cells slots : Nat} (hs : SCR G b L xs) (hL : L ≤ 384) (hi : i + 6 ≤ L) (hn : n ≤ 64) (hcs : cells ≤ 603072 ∧ slots ≤ 7198826) (hJ : J o m q c n σ S) (nx : ∀ c' s' S', J o m q c' (n + 1) s' S' → X G room_1 cL_law RX0 7 (some .boolean) s' cells slots 2053 [(0, .ref b), (1, .ref o), (2, .ref m), (3, .ref q), (4, .int (Int32.ofNat i))] []) : X G room_1 cL_law RX0 7 (some .boolean) σ cells slots 1250 [(0, .ref b), (1, .ref o), (2, .ref m), (3, .ref q), (4, .int (Int32.ofNat i))] [] := by
  obtain ⟨v, hl, hm0⟩ := q_next (o := o) (d := (w64 (xs (i + 1)) (xs (i + 2)))) (day := (xs (i + 3))) (week := (xs (i + 4))) (moon := (xs (i + 5))) hJ.lr hJ.mk hJ.r
  have hm := fun (_ : Unit) => pm_q hJ.mm hm0
  have hk' := hJ.k.s
  have hB := hJ.l.1
  refine x_aload_n dL_law_1250 (n := 1251) rfl rfl 1 rfl ?_
  refine x_arg (k := 1) (p1 := 1252) (p3 := 1254) (p4 := 1255) (p5 := 1256) hs (by omega) hL dL_law_1251 rfl rfl dL_law_1252 rfl rfl dL_law_1254 rfl (by decide) dL_law_1255 rfl dL_law_1256 (n := 1257) rfl ?_
  refine x_i2l dL_law_1257 (n := 1258) rfl ?_
  refine x_bipush dL_law_1258 (n := 1260) rfl bp_32 ?_
  refine x_lshl dL_law_1260 (n := 1261) rfl ?_
  refine x_arg (k := 2) (p1 := 1262) (p3 := 1264) (p4 := 1265) (p5 := 1266) hs (by omega) hL dL_law_1261 rfl rfl dL_law_1262 rfl rfl dL_law_1264 rfl (by decide) dL_law_1265 rfl dL_law_1266 (n := 1267) rfl ?_
  refine x_i2l dL_law_1267 (n := 1268) rfl ?_
  refine x_ldc2 dL_law_1268 (n := 1271) rfl q2228 ?_
  refine x_land dL_law_1271 (n := 1272) rfl ?_
  refine x_lor dL_law_1272 (n := 1273) rfl ?_
  refine x_arg (k := 3) (p1 := 1274) (p3 := 1276) (p4 := 1277) (p5 := 1278) hs (by omega) hL dL_law_1273 rfl rfl dL_law_1274 rfl rfl dL_law_1276 rfl (by decide) dL_law_1277 rfl dL_law_1278 (n := 1279) rfl ?_
  refine x_arg (k := 4) (p1 := 1280) (p3 := 1282) (p4 := 1283) (p5 := 1284) hs (by omega) hL dL_law_1279 rfl rfl dL_law_1280 rfl rfl dL_law_1282 rfl (by decide) dL_law_1283 rfl dL_law_1284 (n := 1285) rfl ?_
  refine x_arg (k := 5) (p1 := 1286) (p3 := 1288) (p4 := 1289) (p5 := 1290) hs (by omega) hL dL_law_1285 rfl rfl dL_law_1286 rfl rfl dL_law_1288 rfl (by decide) dL_law_1289 rfl dL_law_1290 (n := 1291) rfl ?_
  refine x_cVlp (As := [.long (w64 (xs (i + 1)) (xs (i + 2))), .int (xs (i + 3)), .int (xs (i + 4)), .int (xs (i + 5))]) (rest := []) cv_X0_111 ck1 (met_X1_next o c σ (w64 (xs (i + 1)) (xs (i + 2))) (xs (i + 3)) (xs (i + 4)) (xs (i + 5)) (fun r => r = v) hB (hl _ rfl)) hB.1 ⟨rfl, rfl, Nat.le_of_ble_eq_true rfl, Nat.le_of_ble_eq_true rfl, hcs.1, hcs.2⟩ rfl rfl rfl dL_law_1291 (n := 1294) rfl (fun r1 e1 => ?_)
  have j1 := hJ.j1
  have hMB := j1.2.2.2.2.2.1
  have hm := hm ()
  refine x_aload_n dL_law_1294 (n := 1295) rfl rfl 2 rfl ?_
  refine x_arg (k := 1) (p1 := 1296) (p3 := 1298) (p4 := 1299) (p5 := 1300) hs (by omega) hL dL_law_1295 rfl rfl dL_law_1296 rfl rfl dL_law_1298 rfl (by decide) dL_law_1299 rfl dL_law_1300 (n := 1301) rfl ?_
  refine x_i2l dL_law_1301 (n := 1302) rfl ?_
  refine x_bipush dL_law_1302 (n := 1304) rfl bp_32 ?_
  refine x_lshl dL_law_1304 (n := 1305) rfl ?_
  refine x_arg (k := 2) (p1 := 1306) (p3 := 1308) (p4 := 1309) (p5 := 1310) hs (by omega) hL dL_law_1305 rfl rfl dL_law_1306 rfl rfl dL_law_1308 rfl (by decide) dL_law_1309 rfl dL_law_1310 (n := 1311) rfl ?_
  refine x_i2l dL_law_1311 (n := 1312) rfl ?_
  refine x_ldc2 dL_law_1312 (n := 1315) rfl q2228 ?_
  refine x_land dL_law_1315 (n := 1316) rfl ?_
  refine x_lor dL_law_1316 (n := 1317) rfl ?_
  refine x_arg (k := 3) (p1 := 1318) (p3 := 1320) (p4 := 1321) (p5 := 1322) hs (by omega) hL dL_law_1317 rfl rfl dL_law_1318 rfl rfl dL_law_1320 rfl (by decide) dL_law_1321 rfl dL_law_1322 (n := 1323) rfl ?_
  refine x_arg (k := 4) (p1 := 1324) (p3 := 1326) (p4 := 1327) (p5 := 1328) hs (by omega) hL dL_law_1323 rfl rfl dL_law_1324 rfl rfl dL_law_1326 rfl (by decide) dL_law_1327 rfl dL_law_1328 (n := 1329) rfl ?_
  refine x_arg (k := 5) (p1 := 1330) (p3 := 1332) (p4 := 1333) (p5 := 1334) hs (by omega) hL dL_law_1329 rfl rfl dL_law_1330 rfl rfl dL_law_1332 rfl (by decide) dL_law_1333 rfl dL_law_1334 (n := 1335) rfl ?_
  refine x_cVlm (As := [.long (w64 (xs (i + 1)) (xs (i + 2))), .int (xs (i + 3)), .int (xs (i + 4)), .int (xs (i + 5))]) (rest := [.long r1]) cv_X0_115 ck0 (met_X6_next m σ (w64 (xs (i + 1)) (xs (i + 2))) (xs (i + 3)) (xs (i + 4)) (xs (i + 5)) (fun r s => r = v ∧ J o m q c (n + 1) s S) hMB (hm _ (fun s a b _ => ⟨rfl, j1.aft a b hk'⟩))) hMB.1 ⟨rfl, rfl, Nat.le_of_ble_eq_true rfl, Nat.le_of_ble_eq_true rfl, hcs.1, hcs.2⟩ rfl rfl rfl dL_law_1335 (n := 1338) rfl (fun r2 s2 _ h2 => ?_)
  obtain ⟨e2, j2⟩ := h2
  exact x_lcmp_eq (tgt := 2053) dL_law_1338 rfl dL_law_1339 rfl (n := 1342) rfl (fun _ => nx c s2 S j2) (fun ne => absurd (e1.trans e2.symm) ne)
theorem law_19 {G : XE} {b L i o m q c n : Nat} {xs : Nat → Int32} {σ : Hp} {S : PlS} {cells slots : Nat} (hs : SCR G b L xs) (hL : L ≤ 384) (hi : i + 6 ≤ L) (hn : n ≤ 64) (hcs : cells ≤ 603072 ∧ slots ≤ 7198826) (hJ : J o m q c n σ S) (nx : ∀ c' s' S', J o m q c' (n + 1) s' S' → X G room_1 cL_law RX0 7 (some .boolean) s' cells slots 2053 [(0, .ref b), (1, .ref o), (2, .ref m), (3, .ref q), (4, .int (Int32.ofNat i))] []) : X G room_1 cL_law RX0 7 (some .boolean) σ cells slots 1344 [(0, .ref b), (1, .ref o), (2, .ref m), (3, .ref q), (4, .int (Int32.ofNat i))] [] := by
  rcases Classical.em (xs (i + 5) = 0) with hb | hb
  · skip
    obtain ⟨v, hl, hm0⟩ := q_alike (o := o) (l := (xs (i + 1))) (k := (xs (i + 2))) (d := (w64 (xs (i + 3)) (xs (i + 4)))) (w := 0) hJ.lr hJ.mk hJ.r
    have hm := fun (_ : Unit) => pm_q hJ.mm hm0
    have hk' := hJ.k.s
    have hB := hJ.l.1
    refine x_aload_n dL_law_1344 (n := 1345) rfl rfl 1 rfl ?_
    refine x_arg (k := 1) (p1 := 1346) (p3 := 1348) (p4 := 1349) (p5 := 1350) hs (by omega) hL dL_law_1345 rfl rfl dL_law_1346 rfl rfl dL_law_1348 rfl (by decide) dL_law_1349 rfl dL_law_1350 (n := 1351) rfl ?_
    refine x_arg (k := 2) (p1 := 1352) (p3 := 1354) (p4 := 1355) (p5 := 1356) hs (by omega) hL dL_law_1351 rfl rfl dL_law_1352 rfl rfl dL_law_1354 rfl (by decide) dL_law_1355 rfl dL_law_1356 (n := 1357) rfl ?_
    refine x_arg (k := 3) (p1 := 1358) (p3 := 1360) (p4 := 1361) (p5 := 1362) hs (by omega) hL dL_law_1357 rfl rfl dL_law_1358 rfl rfl dL_law_1360 rfl (by decide) dL_law_1361 rfl dL_law_1362 (n := 1363) rfl ?_
    refine x_i2l dL_law_1363 (n := 1364) rfl ?_
    refine x_bipush dL_law_1364 (n := 1366) rfl bp_32 ?_
    refine x_lshl dL_law_1366 (n := 1367) rfl ?_
    refine x_arg (k := 4) (p1 := 1368) (p3 := 1370) (p4 := 1371) (p5 := 1372) hs (by omega) hL dL_law_1367 rfl rfl dL_law_1368 rfl rfl dL_law_1370 rfl (by decide) dL_law_1371 rfl dL_law_1372 (n := 1373) rfl ?_
    refine x_i2l dL_law_1373 (n := 1374) rfl ?_
    refine x_ldc2 dL_law_1374 (n := 1377) rfl q2228 ?_
    refine x_land dL_law_1377 (n := 1378) rfl ?_
    refine x_lor dL_law_1378 (n := 1379) rfl ?_
    refine x_arg (k := 5) (p1 := 1380) (p3 := 1382) (p4 := 1383) (p5 := 1384) hs (by omega) hL dL_law_1379 rfl rfl dL_law_1380 rfl rfl dL_law_1382 rfl (by decide) dL_law_1383 rfl dL_law_1384 (n := 1385) rfl ?_
    refine x_if_eq (tgt := 1392) dL_law_1385 rfl (n := 1388) rfl (fun _ => ?_) (fun c => absurd hb c)
    refine x_iconst dL_law_1392 (n := 1393) rfl ic_0 ?_
    refine x_cVlp (As := [.int (xs (i + 1)), .int (xs (i + 2)), .long (w64 (xs (i + 3)) (xs (i + 4))), .int 0]) (rest := []) cv_X0_116 ck1 (met_X1_alike o c σ (xs (i + 1)) (xs (i + 2)) (w64 (xs (i + 3)) (xs (i + 4))) 0 (fun r => r = v) hB (hl _ rfl)) hB.1 ⟨rfl, rfl, Nat.le_of_ble_eq_true rfl, Nat.le_of_ble_eq_true rfl, hcs.1, hcs.2⟩ rfl rfl rfl dL_law_1393 (n := 1396) rfl (fun r1 e1 => ?_)
    have j1 := hJ.j1
    have hMB := j1.2.2.2.2.2.1
    have hm := hm ()
    refine x_aload_n dL_law_1396 (n := 1397) rfl rfl 2 rfl ?_
    refine x_arg (k := 1) (p1 := 1398) (p3 := 1400) (p4 := 1401) (p5 := 1402) hs (by omega) hL dL_law_1397 rfl rfl dL_law_1398 rfl rfl dL_law_1400 rfl (by decide) dL_law_1401 rfl dL_law_1402 (n := 1403) rfl ?_
    refine x_arg (k := 2) (p1 := 1404) (p3 := 1406) (p4 := 1407) (p5 := 1408) hs (by omega) hL dL_law_1403 rfl rfl dL_law_1404 rfl rfl dL_law_1406 rfl (by decide) dL_law_1407 rfl dL_law_1408 (n := 1409) rfl ?_
    refine x_arg (k := 3) (p1 := 1410) (p3 := 1412) (p4 := 1413) (p5 := 1414) hs (by omega) hL dL_law_1409 rfl rfl dL_law_1410 rfl rfl dL_law_1412 rfl (by decide) dL_law_1413 rfl dL_law_1414 (n := 1415) rfl ?_
    refine x_i2l dL_law_1415 (n := 1416) rfl ?_
    refine x_bipush dL_law_1416 (n := 1418) rfl bp_32 ?_
    refine x_lshl dL_law_1418 (n := 1419) rfl ?_
    refine x_arg (k := 4) (p1 := 1420) (p3 := 1422) (p4 := 1423) (p5 := 1424) hs (by omega) hL dL_law_1419 rfl rfl dL_law_1420 rfl rfl dL_law_1422 rfl (by decide) dL_law_1423 rfl dL_law_1424 (n := 1425) rfl ?_
    refine x_i2l dL_law_1425 (n := 1426) rfl ?_
    refine x_ldc2 dL_law_1426 (n := 1429) rfl q2228 ?_
    refine x_land dL_law_1429 (n := 1430) rfl ?_
    refine x_lor dL_law_1430 (n := 1431) rfl ?_
    refine x_arg (k := 5) (p1 := 1432) (p3 := 1434) (p4 := 1435) (p5 := 1436) hs (by omega) hL dL_law_1431 rfl rfl dL_law_1432 rfl rfl dL_law_1434 rfl (by decide) dL_law_1435 rfl dL_law_1436 (n := 1437) rfl ?_
    refine x_if_eq (tgt := 1444) dL_law_1437 rfl (n := 1440) rfl (fun _ => ?_) (fun c => absurd hb c)
    refine x_iconst dL_law_1444 (n := 1445) rfl ic_0 ?_
    refine x_cVlm (As := [.int (xs (i + 1)), .int (xs (i + 2)), .long (w64 (xs (i + 3)) (xs (i + 4))), .int 0]) (rest := [.long r1]) cv_X0_120 ck0 (met_X6_alike m σ (xs (i + 1)) (xs (i + 2)) (w64 (xs (i + 3)) (xs (i + 4))) 0 (fun r s => r = v ∧ J o m q c (n + 1) s S) hMB (hm _ (fun s a b _ => ⟨rfl, j1.aft a b hk'⟩))) hMB.1 ⟨rfl, rfl, Nat.le_of_ble_eq_true rfl, Nat.le_of_ble_eq_true rfl, hcs.1, hcs.2⟩ rfl rfl rfl dL_law_1445 (n := 1448) rfl (fun r2 s2 _ h2 => ?_)
    obtain ⟨e2, j2⟩ := h2
    exact x_lcmp_eq (tgt := 2053) dL_law_1448 rfl dL_law_1449 rfl (n := 1452) rfl (fun _ => nx c s2 S j2) (fun ne => absurd (e1.trans e2.symm) ne)
  · skip
    obtain ⟨v, hl, hm0⟩ := q_alike (o := o) (l := (xs (i + 1))) (k := (xs (i + 2))) (d := (w64 (xs (i + 3)) (xs (i + 4)))) (w := 1) hJ.lr hJ.mk hJ.r
    have hm := fun (_ : Unit) => pm_q hJ.mm hm0
    have hk' := hJ.k.s
    have hB := hJ.l.1
    refine x_aload_n dL_law_1344 (n := 1345) rfl rfl 1 rfl ?_
    refine x_arg (k := 1) (p1 := 1346) (p3 := 1348) (p4 := 1349) (p5 := 1350) hs (by omega) hL dL_law_1345 rfl rfl dL_law_1346 rfl rfl dL_law_1348 rfl (by decide) dL_law_1349 rfl dL_law_1350 (n := 1351) rfl ?_
    refine x_arg (k := 2) (p1 := 1352) (p3 := 1354) (p4 := 1355) (p5 := 1356) hs (by omega) hL dL_law_1351 rfl rfl dL_law_1352 rfl rfl dL_law_1354 rfl (by decide) dL_law_1355 rfl dL_law_1356 (n := 1357) rfl ?_
    refine x_arg (k := 3) (p1 := 1358) (p3 := 1360) (p4 := 1361) (p5 := 1362) hs (by omega) hL dL_law_1357 rfl rfl dL_law_1358 rfl rfl dL_law_1360 rfl (by decide) dL_law_1361 rfl dL_law_1362 (n := 1363) rfl ?_
    refine x_i2l dL_law_1363 (n := 1364) rfl ?_
    refine x_bipush dL_law_1364 (n := 1366) rfl bp_32 ?_
    refine x_lshl dL_law_1366 (n := 1367) rfl ?_
    refine x_arg (k := 4) (p1 := 1368) (p3 := 1370) (p4 := 1371) (p5 := 1372) hs (by omega) hL dL_law_1367 rfl rfl dL_law_1368 rfl rfl dL_law_1370 rfl (by decide) dL_law_1371 rfl dL_law_1372 (n := 1373) rfl ?_
    refine x_i2l dL_law_1373 (n := 1374) rfl ?_
    refine x_ldc2 dL_law_1374 (n := 1377) rfl q2228 ?_
    refine x_land dL_law_1377 (n := 1378) rfl ?_
    refine x_lor dL_law_1378 (n := 1379) rfl ?_
    refine x_arg (k := 5) (p1 := 1380) (p3 := 1382) (p4 := 1383) (p5 := 1384) hs (by omega) hL dL_law_1379 rfl rfl dL_law_1380 rfl rfl dL_law_1382 rfl (by decide) dL_law_1383 rfl dL_law_1384 (n := 1385) rfl ?_
    refine x_if_eq (tgt := 1392) dL_law_1385 rfl (n := 1388) rfl (fun c => absurd c hb) (fun _ => ?_)
    refine x_iconst dL_law_1388 (n := 1389) rfl ic_1 ?_
    refine x_goto (tgt := 1393) dL_law_1389 rfl ?_
    refine x_cVlp (As := [.int (xs (i + 1)), .int (xs (i + 2)), .long (w64 (xs (i + 3)) (xs (i + 4))), .int 1]) (rest := []) cv_X0_116 ck1 (met_X1_alike o c σ (xs (i + 1)) (xs (i + 2)) (w64 (xs (i + 3)) (xs (i + 4))) 1 (fun r => r = v) hB (hl _ rfl)) hB.1 ⟨rfl, rfl, Nat.le_of_ble_eq_true rfl, Nat.le_of_ble_eq_true rfl, hcs.1, hcs.2⟩ rfl rfl rfl dL_law_1393 (n := 1396) rfl (fun r1 e1 => ?_)
    have j1 := hJ.j1
    have hMB := j1.2.2.2.2.2.1
    have hm := hm ()
    refine x_aload_n dL_law_1396 (n := 1397) rfl rfl 2 rfl ?_
    refine x_arg (k := 1) (p1 := 1398) (p3 := 1400) (p4 := 1401) (p5 := 1402) hs (by omega) hL dL_law_1397 rfl rfl dL_law_1398 rfl rfl dL_law_1400 rfl (by decide) dL_law_1401 rfl dL_law_1402 (n := 1403) rfl ?_
    refine x_arg (k := 2) (p1 := 1404) (p3 := 1406) (p4 := 1407) (p5 := 1408) hs (by omega) hL dL_law_1403 rfl rfl dL_law_1404 rfl rfl dL_law_1406 rfl (by decide) dL_law_1407 rfl dL_law_1408 (n := 1409) rfl ?_
    refine x_arg (k := 3) (p1 := 1410) (p3 := 1412) (p4 := 1413) (p5 := 1414) hs (by omega) hL dL_law_1409 rfl rfl dL_law_1410 rfl rfl dL_law_1412 rfl (by decide) dL_law_1413 rfl dL_law_1414 (n := 1415) rfl ?_
    refine x_i2l dL_law_1415 (n := 1416) rfl ?_
    refine x_bipush dL_law_1416 (n := 1418) rfl bp_32 ?_
    refine x_lshl dL_law_1418 (n := 1419) rfl ?_
    refine x_arg (k := 4) (p1 := 1420) (p3 := 1422) (p4 := 1423) (p5 := 1424) hs (by omega) hL dL_law_1419 rfl rfl dL_law_1420 rfl rfl dL_law_1422 rfl (by decide) dL_law_1423 rfl dL_law_1424 (n := 1425) rfl ?_
    refine x_i2l dL_law_1425 (n := 1426) rfl ?_
    refine x_ldc2 dL_law_1426 (n := 1429) rfl q2228 ?_
    refine x_land dL_law_1429 (n := 1430) rfl ?_
    refine x_lor dL_law_1430 (n := 1431) rfl ?_
    refine x_arg (k := 5) (p1 := 1432) (p3 := 1434) (p4 := 1435) (p5 := 1436) hs (by omega) hL dL_law_1431 rfl rfl dL_law_1432 rfl rfl dL_law_1434 rfl (by decide) dL_law_1435 rfl dL_law_1436 (n := 1437) rfl ?_
    refine x_if_eq (tgt := 1444) dL_law_1437 rfl (n := 1440) rfl (fun c => absurd c hb) (fun _ => ?_)
    refine x_iconst dL_law_1440 (n := 1441) rfl ic_1 ?_
    refine x_goto (tgt := 1445) dL_law_1441 rfl ?_
    refine x_cVlm (As := [.int (xs (i + 1)), .int (xs (i + 2)), .long (w64 (xs (i + 3)) (xs (i + 4))), .int 1]) (rest := [.long r1]) cv_X0_120 ck0 (met_X6_alike m σ (xs (i + 1)) (xs (i + 2)) (w64 (xs (i + 3)) (xs (i + 4))) 1 (fun r s => r = v ∧ J o m q c (n + 1) s S) hMB (hm _ (fun s a b _ => ⟨rfl, j1.aft a b hk'⟩))) hMB.1 ⟨rfl, rfl, Nat.le_of_ble_eq_true rfl, Nat.le_of_ble_eq_true rfl, hcs.1, hcs.2⟩ rfl rfl rfl dL_law_1445 (n := 1448) rfl (fun r2 s2 _ h2 => ?_)
    obtain ⟨e2, j2⟩ := h2
    exact x_lcmp_eq (tgt := 2053) dL_law_1448 rfl dL_law_1449 rfl (n := 1452) rfl (fun _ => nx c s2 S j2) (fun ne => absurd (e1.trans e2.symm) ne)
theorem law_20 {G : XE} {b L i o m q c n : Nat} {xs : Nat → Int32} {σ : Hp} {S : PlS} {cells slots : Nat} (hs : SCR G b L xs) (hL : L ≤ 384) (hi : i + 6 ≤ L) (hn : n ≤ 64) (hcs : cells ≤ 603072 ∧ slots ≤ 7198826) (hJ : J o m q c n σ S) (nx : ∀ c' s' S', J o m q c' (n + 1) s' S' → X G room_1 cL_law RX0 7 (some .boolean) s' cells slots 2053 [(0, .ref b), (1, .ref o), (2, .ref m), (3, .ref q), (4, .int (Int32.ofNat i))] []) : X G room_1 cL_law RX0 7 (some .boolean) σ cells slots 1454 [(0, .ref b), (1, .ref o), (2, .ref m), (3, .ref q), (4, .int (Int32.ofNat i))] [] := by
  obtain ⟨v, hl0, hm0⟩ := q_deed (m := m) (p := (xs (i + 1))) (l := (xs (i + 2))) (w := (xs (i + 3))) hJ.qq.1 hJ.r
  have hl := pl_h hJ.z hJ.l hl0
  have hm := fun τ (hM : RepM m τ S) => pm_q hM (hm0 τ hM.2.2.2.1.1)
  have hk' := hJ.k.s
  have hB := hJ.l.1
  refine x_aload_n dL_law_1454 (n := 1455) rfl rfl 1 rfl ?_
  refine x_arg (k := 1) (p1 := 1456) (p3 := 1458) (p4 := 1459) (p5 := 1460) hs (by omega) hL dL_law_1455 rfl rfl dL_law_1456 rfl rfl dL_law_1458 rfl (by decide) dL_law_1459 rfl dL_law_1460 (n := 1461) rfl ?_
  refine x_arg (k := 2) (p1 := 1462) (p3 := 1464) (p4 := 1465) (p5 := 1466) hs (by omega) hL dL_law_1461 rfl rfl dL_law_1462 rfl rfl dL_law_1464 rfl (by decide) dL_law_1465 rfl dL_law_1466 (n := 1467) rfl ?_
  refine x_arg (k := 3) (p1 := 1468) (p3 := 1470) (p4 := 1471) (p5 := 1472) hs (by omega) hL dL_law_1467 rfl rfl dL_law_1468 rfl rfl dL_law_1470 rfl (by decide) dL_law_1471 rfl dL_law_1472 (n := 1473) rfl ?_
  refine x_cVlm (As := [.int (xs (i + 1)), .int (xs (i + 2)), .int (xs (i + 3))]) (rest := []) cv_X0_121 ck1 (met_X1_deed o c σ (xs (i + 1)) (xs (i + 2)) (xs (i + 3)) (fun r s => r = v ∧ J1 o m q c s S S) hB (hl _ (fun s a b => ⟨rfl, hJ.aft a b⟩))) hB.1 ⟨rfl, rfl, Nat.le_of_ble_eq_true rfl, Nat.le_of_ble_eq_true rfl, hcs.1, hcs.2⟩ rfl rfl rfl dL_law_1473 (n := 1476) rfl (fun r1 s1 _ h1 => ?_)
  obtain ⟨e1, j1⟩ := h1
  have hMB := j1.2.2.2.2.2.1
  have hm := hm s1 j1.2.2.2.2.2
  refine x_aload_n dL_law_1476 (n := 1477) rfl rfl 2 rfl ?_
  refine x_arg (k := 1) (p1 := 1478) (p3 := 1480) (p4 := 1481) (p5 := 1482) hs (by omega) hL dL_law_1477 rfl rfl dL_law_1478 rfl rfl dL_law_1480 rfl (by decide) dL_law_1481 rfl dL_law_1482 (n := 1483) rfl ?_
  refine x_arg (k := 2) (p1 := 1484) (p3 := 1486) (p4 := 1487) (p5 := 1488) hs (by omega) hL dL_law_1483 rfl rfl dL_law_1484 rfl rfl dL_law_1486 rfl (by decide) dL_law_1487 rfl dL_law_1488 (n := 1489) rfl ?_
  refine x_arg (k := 3) (p1 := 1490) (p3 := 1492) (p4 := 1493) (p5 := 1494) hs (by omega) hL dL_law_1489 rfl rfl dL_law_1490 rfl rfl dL_law_1492 rfl (by decide) dL_law_1493 rfl dL_law_1494 (n := 1495) rfl ?_
  refine x_cVlm (As := [.int (xs (i + 1)), .int (xs (i + 2)), .int (xs (i + 3))]) (rest := [.long r1]) cv_X0_125 ck0 (met_X6_deed m s1 (xs (i + 1)) (xs (i + 2)) (xs (i + 3)) (fun r s => r = v ∧ J o m q c (n + 1) s S) hMB (hm _ (fun s a b _ => ⟨rfl, j1.aft a b hk'⟩))) hMB.1 ⟨rfl, rfl, Nat.le_of_ble_eq_true rfl, Nat.le_of_ble_eq_true rfl, hcs.1, hcs.2⟩ rfl rfl rfl dL_law_1495 (n := 1498) rfl (fun r2 s2 _ h2 => ?_)
  obtain ⟨e2, j2⟩ := h2
  exact x_lcmp_eq (tgt := 2053) dL_law_1498 rfl dL_law_1499 rfl (n := 1502) rfl (fun _ => nx c s2 S j2) (fun ne => absurd (e1.trans e2.symm) ne)
theorem law_21 {G : XE} {b L i o m q c n : Nat} {xs : Nat → Int32} {σ : Hp} {S : PlS} {cells slots : Nat} (hs : SCR G b L xs) (hL : L ≤ 384) (hi : i + 6 ≤ L) (hn : n ≤ 64) (hcs : cells ≤ 603072 ∧ slots ≤ 7198826) (hJ : J o m q c n σ S) (nx : ∀ c' s' S', J o m q c' (n + 1) s' S' → X G room_1 cL_law RX0 7 (some .boolean) s' cells slots 2053 [(0, .ref b), (1, .ref o), (2, .ref m), (3, .ref q), (4, .int (Int32.ofNat i))] []) : X G room_1 cL_law RX0 7 (some .boolean) σ cells slots 1504 [(0, .ref b), (1, .ref o), (2, .ref m), (3, .ref q), (4, .int (Int32.ofNat i))] [] := by
  have hl : QL (wp_X1_ends o c σ (xs (i + 1)) (w64 (xs (i + 2)) (xs (i + 3))) (xs (i + 4))) (endsQ (yR S) (xs (i + 1)) (w64 (xs (i + 2)) (xs (i + 3))) (xs (i + 4))) := fun Q h => ql_ends hJ.lr hJ.r.1 h
  have hm : Unit → PMl m σ (wp_X6_ends m σ (xs (i + 1)) (w64 (xs (i + 2)) (xs (i + 3))) (xs (i + 4))) (endsQ (yR S) (xs (i + 1)) (w64 (xs (i + 2)) (xs (i + 3))) (xs (i + 4))) S := fun _ Q hQ => qm_ends hJ.mk hJ.r.1 (fun s cs h2 => hQ s ((cs.up (S' := SMn m) (fun a k q => Or.inl (Or.inl ⟨q.1, by have := q.2; omega⟩))).up (fun a k q => q.p)) (hJ.mm.q (cs.up (S' := SMn m) (fun a k q => Or.inl (Or.inl ⟨q.1, by have := q.2; omega⟩)))) h2)
  generalize endsQ (yR S) (xs (i + 1)) (w64 (xs (i + 2)) (xs (i + 3))) (xs (i + 4)) = v at hl hm
  have hk' := hJ.k.s
  have hB := hJ.l.1
  refine x_aload_n dL_law_1504 (n := 1505) rfl rfl 1 rfl ?_
  refine x_arg (k := 1) (p1 := 1506) (p3 := 1508) (p4 := 1509) (p5 := 1510) hs (by omega) hL dL_law_1505 rfl rfl dL_law_1506 rfl rfl dL_law_1508 rfl (by decide) dL_law_1509 rfl dL_law_1510 (n := 1511) rfl ?_
  refine x_arg (k := 2) (p1 := 1512) (p3 := 1514) (p4 := 1515) (p5 := 1516) hs (by omega) hL dL_law_1511 rfl rfl dL_law_1512 rfl rfl dL_law_1514 rfl (by decide) dL_law_1515 rfl dL_law_1516 (n := 1517) rfl ?_
  refine x_i2l dL_law_1517 (n := 1518) rfl ?_
  refine x_bipush dL_law_1518 (n := 1520) rfl bp_32 ?_
  refine x_lshl dL_law_1520 (n := 1521) rfl ?_
  refine x_arg (k := 3) (p1 := 1522) (p3 := 1524) (p4 := 1525) (p5 := 1526) hs (by omega) hL dL_law_1521 rfl rfl dL_law_1522 rfl rfl dL_law_1524 rfl (by decide) dL_law_1525 rfl dL_law_1526 (n := 1527) rfl ?_
  refine x_i2l dL_law_1527 (n := 1528) rfl ?_
  refine x_ldc2 dL_law_1528 (n := 1531) rfl q2228 ?_
  refine x_land dL_law_1531 (n := 1532) rfl ?_
  refine x_lor dL_law_1532 (n := 1533) rfl ?_
  refine x_arg (k := 4) (p1 := 1534) (p3 := 1536) (p4 := 1537) (p5 := 1538) hs (by omega) hL dL_law_1533 rfl rfl dL_law_1534 rfl rfl dL_law_1536 rfl (by decide) dL_law_1537 rfl dL_law_1538 (n := 1539) rfl ?_
  refine x_cVip (As := [.int (xs (i + 1)), .long (w64 (xs (i + 2)) (xs (i + 3))), .int (xs (i + 4))]) (rest := []) cv_X0_126 ck1 (met_X1_ends o c σ (xs (i + 1)) (w64 (xs (i + 2)) (xs (i + 3))) (xs (i + 4)) (fun r => r = v) hB (hl _ rfl)) hB.1 ⟨rfl, rfl, Nat.le_of_ble_eq_true rfl, Nat.le_of_ble_eq_true rfl, hcs.1, hcs.2⟩ rfl rfl rfl dL_law_1539 (n := 1542) rfl (fun r1 e1 => ?_)
  have j1 := hJ.j1
  have hMB := j1.2.2.2.2.2.1
  have hm := hm ()
  refine x_aload_n dL_law_1542 (n := 1543) rfl rfl 2 rfl ?_
  refine x_arg (k := 1) (p1 := 1544) (p3 := 1546) (p4 := 1547) (p5 := 1548) hs (by omega) hL dL_law_1543 rfl rfl dL_law_1544 rfl rfl dL_law_1546 rfl (by decide) dL_law_1547 rfl dL_law_1548 (n := 1549) rfl ?_
  refine x_arg (k := 2) (p1 := 1550) (p3 := 1552) (p4 := 1553) (p5 := 1554) hs (by omega) hL dL_law_1549 rfl rfl dL_law_1550 rfl rfl dL_law_1552 rfl (by decide) dL_law_1553 rfl dL_law_1554 (n := 1555) rfl ?_
  refine x_i2l dL_law_1555 (n := 1556) rfl ?_
  refine x_bipush dL_law_1556 (n := 1558) rfl bp_32 ?_
  refine x_lshl dL_law_1558 (n := 1559) rfl ?_
  refine x_arg (k := 3) (p1 := 1560) (p3 := 1562) (p4 := 1563) (p5 := 1564) hs (by omega) hL dL_law_1559 rfl rfl dL_law_1560 rfl rfl dL_law_1562 rfl (by decide) dL_law_1563 rfl dL_law_1564 (n := 1565) rfl ?_
  refine x_i2l dL_law_1565 (n := 1566) rfl ?_
  refine x_ldc2 dL_law_1566 (n := 1569) rfl q2228 ?_
  refine x_land dL_law_1569 (n := 1570) rfl ?_
  refine x_lor dL_law_1570 (n := 1571) rfl ?_
  refine x_arg (k := 4) (p1 := 1572) (p3 := 1574) (p4 := 1575) (p5 := 1576) hs (by omega) hL dL_law_1571 rfl rfl dL_law_1572 rfl rfl dL_law_1574 rfl (by decide) dL_law_1575 rfl dL_law_1576 (n := 1577) rfl ?_
  refine x_cVim (As := [.int (xs (i + 1)), .long (w64 (xs (i + 2)) (xs (i + 3))), .int (xs (i + 4))]) (rest := [.int r1]) cv_X0_130 ck0 (met_X6_ends m σ (xs (i + 1)) (w64 (xs (i + 2)) (xs (i + 3))) (xs (i + 4)) (fun r s => r = v ∧ J o m q c (n + 1) s S) hMB (hm _ (fun s a b _ => ⟨rfl, j1.aft a b hk'⟩))) hMB.1 ⟨rfl, rfl, Nat.le_of_ble_eq_true rfl, Nat.le_of_ble_eq_true rfl, hcs.1, hcs.2⟩ rfl rfl rfl dL_law_1577 (n := 1580) rfl (fun r2 s2 _ h2 => ?_)
  obtain ⟨e2, j2⟩ := h2
  exact x_icmp_eq (tgt := 2053) dL_law_1580 rfl (n := 1583) rfl (fun _ => nx c s2 S j2) (fun ne => absurd (e1.trans e2.symm) ne)
theorem law_22 {G : XE} {b L i o m q c n : Nat} {xs : Nat → Int32} {σ : Hp} {S : PlS} {cells slots : Nat} (hs : SCR G b L xs) (hL : L ≤ 384) (hi : i + 6 ≤ L) (hn : n ≤ 64) (hcs : cells ≤ 603072 ∧ slots ≤ 7198826) (hJ : J o m q c n σ S) (nx : ∀ c' s' S', J o m q c' (n + 1) s' S' → X G room_1 cL_law RX0 7 (some .boolean) s' cells slots 2053 [(0, .ref b), (1, .ref o), (2, .ref m), (3, .ref q), (4, .int (Int32.ofNat i))] []) : X G room_1 cL_law RX0 7 (some .boolean) σ cells slots 1585 [(0, .ref b), (1, .ref o), (2, .ref m), (3, .ref q), (4, .int (Int32.ofNat i))] [] := by
  obtain ⟨v, hl, hm0⟩ := q_hire (o := o) (l := (xs (i + 1))) (d := (w64 (xs (i + 2)) (xs (i + 3)))) (w := (xs (i + 4))) (n := (xs (i + 5))) hJ.lr hJ.mk hJ.r
  have hm := fun (_ : Unit) => pm_q hJ.mm hm0
  have hk' := hJ.k.s
  have hB := hJ.l.1
  refine x_aload_n dL_law_1585 (n := 1586) rfl rfl 1 rfl ?_
  refine x_arg (k := 1) (p1 := 1587) (p3 := 1589) (p4 := 1590) (p5 := 1591) hs (by omega) hL dL_law_1586 rfl rfl dL_law_1587 rfl rfl dL_law_1589 rfl (by decide) dL_law_1590 rfl dL_law_1591 (n := 1592) rfl ?_
  refine x_arg (k := 2) (p1 := 1593) (p3 := 1595) (p4 := 1596) (p5 := 1597) hs (by omega) hL dL_law_1592 rfl rfl dL_law_1593 rfl rfl dL_law_1595 rfl (by decide) dL_law_1596 rfl dL_law_1597 (n := 1598) rfl ?_
  refine x_i2l dL_law_1598 (n := 1599) rfl ?_
  refine x_bipush dL_law_1599 (n := 1601) rfl bp_32 ?_
  refine x_lshl dL_law_1601 (n := 1602) rfl ?_
  refine x_arg (k := 3) (p1 := 1603) (p3 := 1605) (p4 := 1606) (p5 := 1607) hs (by omega) hL dL_law_1602 rfl rfl dL_law_1603 rfl rfl dL_law_1605 rfl (by decide) dL_law_1606 rfl dL_law_1607 (n := 1608) rfl ?_
  refine x_i2l dL_law_1608 (n := 1609) rfl ?_
  refine x_ldc2 dL_law_1609 (n := 1612) rfl q2228 ?_
  refine x_land dL_law_1612 (n := 1613) rfl ?_
  refine x_lor dL_law_1613 (n := 1614) rfl ?_
  refine x_arg (k := 4) (p1 := 1615) (p3 := 1617) (p4 := 1618) (p5 := 1619) hs (by omega) hL dL_law_1614 rfl rfl dL_law_1615 rfl rfl dL_law_1617 rfl (by decide) dL_law_1618 rfl dL_law_1619 (n := 1620) rfl ?_
  refine x_arg (k := 5) (p1 := 1621) (p3 := 1623) (p4 := 1624) (p5 := 1625) hs (by omega) hL dL_law_1620 rfl rfl dL_law_1621 rfl rfl dL_law_1623 rfl (by decide) dL_law_1624 rfl dL_law_1625 (n := 1626) rfl ?_
  refine x_cVlp (As := [.int (xs (i + 1)), .long (w64 (xs (i + 2)) (xs (i + 3))), .int (xs (i + 4)), .int (xs (i + 5))]) (rest := []) cv_X0_131 ck1 (met_X1_hire o c σ (xs (i + 1)) (w64 (xs (i + 2)) (xs (i + 3))) (xs (i + 4)) (xs (i + 5)) (fun r => r = v) hB (hl _ rfl)) hB.1 ⟨rfl, rfl, Nat.le_of_ble_eq_true rfl, Nat.le_of_ble_eq_true rfl, hcs.1, hcs.2⟩ rfl rfl rfl dL_law_1626 (n := 1629) rfl (fun r1 e1 => ?_)
  have j1 := hJ.j1
  have hMB := j1.2.2.2.2.2.1
  have hm := hm ()
  refine x_aload_n dL_law_1629 (n := 1630) rfl rfl 2 rfl ?_
  refine x_arg (k := 1) (p1 := 1631) (p3 := 1633) (p4 := 1634) (p5 := 1635) hs (by omega) hL dL_law_1630 rfl rfl dL_law_1631 rfl rfl dL_law_1633 rfl (by decide) dL_law_1634 rfl dL_law_1635 (n := 1636) rfl ?_
  refine x_arg (k := 2) (p1 := 1637) (p3 := 1639) (p4 := 1640) (p5 := 1641) hs (by omega) hL dL_law_1636 rfl rfl dL_law_1637 rfl rfl dL_law_1639 rfl (by decide) dL_law_1640 rfl dL_law_1641 (n := 1642) rfl ?_
  refine x_i2l dL_law_1642 (n := 1643) rfl ?_
  refine x_bipush dL_law_1643 (n := 1645) rfl bp_32 ?_
  refine x_lshl dL_law_1645 (n := 1646) rfl ?_
  refine x_arg (k := 3) (p1 := 1647) (p3 := 1649) (p4 := 1650) (p5 := 1651) hs (by omega) hL dL_law_1646 rfl rfl dL_law_1647 rfl rfl dL_law_1649 rfl (by decide) dL_law_1650 rfl dL_law_1651 (n := 1652) rfl ?_
  refine x_i2l dL_law_1652 (n := 1653) rfl ?_
  refine x_ldc2 dL_law_1653 (n := 1656) rfl q2228 ?_
  refine x_land dL_law_1656 (n := 1657) rfl ?_
  refine x_lor dL_law_1657 (n := 1658) rfl ?_
  refine x_arg (k := 4) (p1 := 1659) (p3 := 1661) (p4 := 1662) (p5 := 1663) hs (by omega) hL dL_law_1658 rfl rfl dL_law_1659 rfl rfl dL_law_1661 rfl (by decide) dL_law_1662 rfl dL_law_1663 (n := 1664) rfl ?_
  refine x_arg (k := 5) (p1 := 1665) (p3 := 1667) (p4 := 1668) (p5 := 1669) hs (by omega) hL dL_law_1664 rfl rfl dL_law_1665 rfl rfl dL_law_1667 rfl (by decide) dL_law_1668 rfl dL_law_1669 (n := 1670) rfl ?_
  refine x_cVlm (As := [.int (xs (i + 1)), .long (w64 (xs (i + 2)) (xs (i + 3))), .int (xs (i + 4)), .int (xs (i + 5))]) (rest := [.long r1]) cv_X0_135 ck0 (met_X6_hire m σ (xs (i + 1)) (w64 (xs (i + 2)) (xs (i + 3))) (xs (i + 4)) (xs (i + 5)) (fun r s => r = v ∧ J o m q c (n + 1) s S) hMB (hm _ (fun s a b _ => ⟨rfl, j1.aft a b hk'⟩))) hMB.1 ⟨rfl, rfl, Nat.le_of_ble_eq_true rfl, Nat.le_of_ble_eq_true rfl, hcs.1, hcs.2⟩ rfl rfl rfl dL_law_1670 (n := 1673) rfl (fun r2 s2 _ h2 => ?_)
  obtain ⟨e2, j2⟩ := h2
  exact x_lcmp_eq (tgt := 2053) dL_law_1673 rfl dL_law_1674 rfl (n := 1677) rfl (fun _ => nx c s2 S j2) (fun ne => absurd (e1.trans e2.symm) ne)
theorem law_23 {G : XE} {b L i o m q c n : Nat} {xs : Nat → Int32} {σ : Hp} {S : PlS} {cells slots : Nat} (hs : SCR G b L xs) (hL : L ≤ 384) (hi : i + 6 ≤ L) (hn : n ≤ 64) (hcs : cells ≤ 603072 ∧ slots ≤ 7198826) (hJ : J o m q c n σ S) (nx : ∀ c' s' S', J o m q c' (n + 1) s' S' → X G room_1 cL_law RX0 7 (some .boolean) s' cells slots 2053 [(0, .ref b), (1, .ref o), (2, .ref m), (3, .ref q), (4, .int (Int32.ofNat i))] []) : X G room_1 cL_law RX0 7 (some .boolean) σ cells slots 1679 [(0, .ref b), (1, .ref o), (2, .ref m), (3, .ref q), (4, .int (Int32.ofNat i))] [] := by
  have hl : QL (wp_X1_parts o c σ (xs (i + 1)) (xs (i + 2)) (xs (i + 3))) (partS (yR S) (xs (i + 1)) (xs (i + 2)) (xs (i + 3))) := fun Q h => ql_parts hJ.lr hJ.r.1 h
  have hm : Unit → PMl m σ (wp_X6_parts m σ (xs (i + 1)) (xs (i + 2)) (xs (i + 3))) (partS (yR S) (xs (i + 1)) (xs (i + 2)) (xs (i + 3))) S := fun _ Q hQ => qm_parts hJ.mk hJ.r.1 (hQ _ (t0n.up (fun a k q => q.p)) (hJ.mm.q t0n) t0_2)
  generalize partS (yR S) (xs (i + 1)) (xs (i + 2)) (xs (i + 3)) = v at hl hm
  have hk' := hJ.k.s
  have hB := hJ.l.1
  refine x_aload_n dL_law_1679 (n := 1680) rfl rfl 1 rfl ?_
  refine x_arg (k := 1) (p1 := 1681) (p3 := 1683) (p4 := 1684) (p5 := 1685) hs (by omega) hL dL_law_1680 rfl rfl dL_law_1681 rfl rfl dL_law_1683 rfl (by decide) dL_law_1684 rfl dL_law_1685 (n := 1686) rfl ?_
  refine x_arg (k := 2) (p1 := 1687) (p3 := 1689) (p4 := 1690) (p5 := 1691) hs (by omega) hL dL_law_1686 rfl rfl dL_law_1687 rfl rfl dL_law_1689 rfl (by decide) dL_law_1690 rfl dL_law_1691 (n := 1692) rfl ?_
  refine x_arg (k := 3) (p1 := 1693) (p3 := 1695) (p4 := 1696) (p5 := 1697) hs (by omega) hL dL_law_1692 rfl rfl dL_law_1693 rfl rfl dL_law_1695 rfl (by decide) dL_law_1696 rfl dL_law_1697 (n := 1698) rfl ?_
  refine x_cVip (As := [.int (xs (i + 1)), .int (xs (i + 2)), .int (xs (i + 3))]) (rest := []) cv_X0_136 ck1 (met_X1_parts o c σ (xs (i + 1)) (xs (i + 2)) (xs (i + 3)) (fun r => r = v) hB (hl _ rfl)) hB.1 ⟨rfl, rfl, Nat.le_of_ble_eq_true rfl, Nat.le_of_ble_eq_true rfl, hcs.1, hcs.2⟩ rfl rfl rfl dL_law_1698 (n := 1701) rfl (fun r1 e1 => ?_)
  have j1 := hJ.j1
  have hMB := j1.2.2.2.2.2.1
  have hm := hm ()
  refine x_aload_n dL_law_1701 (n := 1702) rfl rfl 2 rfl ?_
  refine x_arg (k := 1) (p1 := 1703) (p3 := 1705) (p4 := 1706) (p5 := 1707) hs (by omega) hL dL_law_1702 rfl rfl dL_law_1703 rfl rfl dL_law_1705 rfl (by decide) dL_law_1706 rfl dL_law_1707 (n := 1708) rfl ?_
  refine x_arg (k := 2) (p1 := 1709) (p3 := 1711) (p4 := 1712) (p5 := 1713) hs (by omega) hL dL_law_1708 rfl rfl dL_law_1709 rfl rfl dL_law_1711 rfl (by decide) dL_law_1712 rfl dL_law_1713 (n := 1714) rfl ?_
  refine x_arg (k := 3) (p1 := 1715) (p3 := 1717) (p4 := 1718) (p5 := 1719) hs (by omega) hL dL_law_1714 rfl rfl dL_law_1715 rfl rfl dL_law_1717 rfl (by decide) dL_law_1718 rfl dL_law_1719 (n := 1720) rfl ?_
  refine x_cVim (As := [.int (xs (i + 1)), .int (xs (i + 2)), .int (xs (i + 3))]) (rest := [.int r1]) cv_X0_139 ck0 (met_X6_parts m σ (xs (i + 1)) (xs (i + 2)) (xs (i + 3)) (fun r s => r = v ∧ J o m q c (n + 1) s S) hMB (hm _ (fun s a b _ => ⟨rfl, j1.aft a b hk'⟩))) hMB.1 ⟨rfl, rfl, Nat.le_of_ble_eq_true rfl, Nat.le_of_ble_eq_true rfl, hcs.1, hcs.2⟩ rfl rfl rfl dL_law_1720 (n := 1723) rfl (fun r2 s2 _ h2 => ?_)
  obtain ⟨e2, j2⟩ := h2
  exact x_icmp_eq (tgt := 2053) dL_law_1723 rfl (n := 1726) rfl (fun _ => nx c s2 S j2) (fun ne => absurd (e1.trans e2.symm) ne)
theorem law_24 {G : XE} {b L i o m q c n : Nat} {xs : Nat → Int32} {σ : Hp} {S : PlS} {cells slots : Nat} (hs : SCR G b L xs) (hL : L ≤ 384) (hi : i + 6 ≤ L) (hn : n ≤ 64) (hcs : cells ≤ 603072 ∧ slots ≤ 7198826) (hJ : J o m q c n σ S) (nx : ∀ c' s' S', J o m q c' (n + 1) s' S' → X G room_1 cL_law RX0 7 (some .boolean) s' cells slots 2053 [(0, .ref b), (1, .ref o), (2, .ref m), (3, .ref q), (4, .int (Int32.ofNat i))] []) : X G room_1 cL_law RX0 7 (some .boolean) σ cells slots 1728 [(0, .ref b), (1, .ref o), (2, .ref m), (3, .ref q), (4, .int (Int32.ofNat i))] [] := by
  obtain ⟨v, hl, hm0⟩ := q_months (o := o) (l := (xs (i + 1))) (y := (xs (i + 2))) (w := (xs (i + 3))) hJ.lr hJ.mk hJ.r
  have hm := fun (_ : Unit) => pm_q hJ.mm hm0
  have hk' := hJ.k.s
  have hB := hJ.l.1
  refine x_aload_n dL_law_1728 (n := 1729) rfl rfl 1 rfl ?_
  refine x_arg (k := 1) (p1 := 1730) (p3 := 1732) (p4 := 1733) (p5 := 1734) hs (by omega) hL dL_law_1729 rfl rfl dL_law_1730 rfl rfl dL_law_1732 rfl (by decide) dL_law_1733 rfl dL_law_1734 (n := 1735) rfl ?_
  refine x_arg (k := 2) (p1 := 1736) (p3 := 1738) (p4 := 1739) (p5 := 1740) hs (by omega) hL dL_law_1735 rfl rfl dL_law_1736 rfl rfl dL_law_1738 rfl (by decide) dL_law_1739 rfl dL_law_1740 (n := 1741) rfl ?_
  refine x_arg (k := 3) (p1 := 1742) (p3 := 1744) (p4 := 1745) (p5 := 1746) hs (by omega) hL dL_law_1741 rfl rfl dL_law_1742 rfl rfl dL_law_1744 rfl (by decide) dL_law_1745 rfl dL_law_1746 (n := 1747) rfl ?_
  refine x_cVip (As := [.int (xs (i + 1)), .int (xs (i + 2)), .int (xs (i + 3))]) (rest := []) cv_X0_140 ck1 (met_X1_months o c σ (xs (i + 1)) (xs (i + 2)) (xs (i + 3)) (fun r => r = v) hB (hl _ rfl)) hB.1 ⟨rfl, rfl, Nat.le_of_ble_eq_true rfl, Nat.le_of_ble_eq_true rfl, hcs.1, hcs.2⟩ rfl rfl rfl dL_law_1747 (n := 1750) rfl (fun r1 e1 => ?_)
  have j1 := hJ.j1
  have hMB := j1.2.2.2.2.2.1
  have hm := hm ()
  refine x_aload_n dL_law_1750 (n := 1751) rfl rfl 2 rfl ?_
  refine x_arg (k := 1) (p1 := 1752) (p3 := 1754) (p4 := 1755) (p5 := 1756) hs (by omega) hL dL_law_1751 rfl rfl dL_law_1752 rfl rfl dL_law_1754 rfl (by decide) dL_law_1755 rfl dL_law_1756 (n := 1757) rfl ?_
  refine x_arg (k := 2) (p1 := 1758) (p3 := 1760) (p4 := 1761) (p5 := 1762) hs (by omega) hL dL_law_1757 rfl rfl dL_law_1758 rfl rfl dL_law_1760 rfl (by decide) dL_law_1761 rfl dL_law_1762 (n := 1763) rfl ?_
  refine x_arg (k := 3) (p1 := 1764) (p3 := 1766) (p4 := 1767) (p5 := 1768) hs (by omega) hL dL_law_1763 rfl rfl dL_law_1764 rfl rfl dL_law_1766 rfl (by decide) dL_law_1767 rfl dL_law_1768 (n := 1769) rfl ?_
  refine x_cVim (As := [.int (xs (i + 1)), .int (xs (i + 2)), .int (xs (i + 3))]) (rest := [.int r1]) cv_X0_143 ck0 (met_X6_months m σ (xs (i + 1)) (xs (i + 2)) (xs (i + 3)) (fun r s => r = v ∧ J o m q c (n + 1) s S) hMB (hm _ (fun s a b _ => ⟨rfl, j1.aft a b hk'⟩))) hMB.1 ⟨rfl, rfl, Nat.le_of_ble_eq_true rfl, Nat.le_of_ble_eq_true rfl, hcs.1, hcs.2⟩ rfl rfl rfl dL_law_1769 (n := 1772) rfl (fun r2 s2 _ h2 => ?_)
  obtain ⟨e2, j2⟩ := h2
  exact x_icmp_eq (tgt := 2053) dL_law_1772 rfl (n := 1775) rfl (fun _ => nx c s2 S j2) (fun ne => absurd (e1.trans e2.symm) ne)
theorem law_25 {G : XE} {b L i o m q c n : Nat} {xs : Nat → Int32} {σ : Hp} {S : PlS} {cells slots : Nat} (hs : SCR G b L xs) (hL : L ≤ 384) (hi : i + 6 ≤ L) (hn : n ≤ 64) (hcs : cells ≤ 603072 ∧ slots ≤ 7198826) (hJ : J o m q c n σ S) (nx : ∀ c' s' S', J o m q c' (n + 1) s' S' → X G room_1 cL_law RX0 7 (some .boolean) s' cells slots 2053 [(0, .ref b), (1, .ref o), (2, .ref m), (3, .ref q), (4, .int (Int32.ofNat i))] []) : X G room_1 cL_law RX0 7 (some .boolean) σ cells slots 1777 [(0, .ref b), (1, .ref o), (2, .ref m), (3, .ref q), (4, .int (Int32.ofNat i))] [] := by
  obtain ⟨v, S', hk', hl, hm⟩ := p_note (m := m) hJ.z hn hJ.k hJ.l
  have hB := hJ.l.1
  refine x_aload_n dL_law_1777 (n := 1778) rfl rfl 1 rfl ?_
  refine x_cVim (As := []) (rest := []) cv_X0_144 ck1 (met_X1_note o c σ  hB (hl (fun r s => r = v ∧ J1 o m q c s S S') (fun s a b => ⟨rfl, hJ.aft a b⟩)).1) hB.1 ⟨rfl, rfl, Nat.le_of_ble_eq_true rfl, Nat.le_of_ble_eq_true rfl, hcs.1, hcs.2⟩ rfl rfl rfl dL_law_1778 (n := 1781) rfl (fun r1 s1 _ h1 => ?_)
  have g1 := (hl (fun r s => r = v ∧ J1 o m q c s S S') (fun s a b => ⟨rfl, hJ.aft a b⟩)).2
  rw [← h1] at g1
  obtain ⟨e1, j1⟩ := g1
  have hMB := j1.2.2.2.2.2.1
  have hm := hm s1 j1.2.2.2.2.2
  refine x_aload_n dL_law_1781 (n := 1782) rfl rfl 2 rfl ?_
  refine x_cVim (As := []) (rest := [.int r1]) cv_X0_147 ck0 (met_X6_note m s1  (fun r s => r = v ∧ J o m q c (n + 1) s S') hMB (hm _ (fun s a b _ => ⟨rfl, j1.aft a b hk'⟩))) hMB.1 ⟨rfl, rfl, Nat.le_of_ble_eq_true rfl, Nat.le_of_ble_eq_true rfl, hcs.1, hcs.2⟩ rfl rfl rfl dL_law_1782 (n := 1785) rfl (fun r2 s2 _ h2 => ?_)
  obtain ⟨e2, j2⟩ := h2
  exact x_icmp_eq (tgt := 2053) dL_law_1785 rfl (n := 1788) rfl (fun _ => nx c s2 S' j2) (fun ne => absurd (e1.trans e2.symm) ne)
theorem law_26 {G : XE} {b L i o m q c n : Nat} {xs : Nat → Int32} {σ : Hp} {S : PlS} {cells slots : Nat} (hs : SCR G b L xs) (hL : L ≤ 384) (hi : i + 6 ≤ L) (hn : n ≤ 64) (hcs : cells ≤ 603072 ∧ slots ≤ 7198826) (hJ : J o m q c n σ S) (nx : ∀ c' s' S', J o m q c' (n + 1) s' S' → X G room_1 cL_law RX0 7 (some .boolean) s' cells slots 2053 [(0, .ref b), (1, .ref o), (2, .ref m), (3, .ref q), (4, .int (Int32.ofNat i))] []) : X G room_1 cL_law RX0 7 (some .boolean) σ cells slots 1790 [(0, .ref b), (1, .ref o), (2, .ref m), (3, .ref q), (4, .int (Int32.ofNat i))] [] := by
  obtain ⟨v, S', hk', hl, hm⟩ := p_says (m := m) (x := (xs (i + 1))) (a := (xs (i + 2))) (b := (xs (i + 3))) hJ.z hn hJ.k hJ.l
  have hB := hJ.l.1
  refine x_aload_n dL_law_1790 (n := 1791) rfl rfl 1 rfl ?_
  refine x_arg (k := 1) (p1 := 1792) (p3 := 1794) (p4 := 1795) (p5 := 1796) hs (by omega) hL dL_law_1791 rfl rfl dL_law_1792 rfl rfl dL_law_1794 rfl (by decide) dL_law_1795 rfl dL_law_1796 (n := 1797) rfl ?_
  refine x_arg (k := 2) (p1 := 1798) (p3 := 1800) (p4 := 1801) (p5 := 1802) hs (by omega) hL dL_law_1797 rfl rfl dL_law_1798 rfl rfl dL_law_1800 rfl (by decide) dL_law_1801 rfl dL_law_1802 (n := 1803) rfl ?_
  refine x_arg (k := 3) (p1 := 1804) (p3 := 1806) (p4 := 1807) (p5 := 1808) hs (by omega) hL dL_law_1803 rfl rfl dL_law_1804 rfl rfl dL_law_1806 rfl (by decide) dL_law_1807 rfl dL_law_1808 (n := 1809) rfl ?_
  refine x_cVim (As := [.int (xs (i + 1)), .int (xs (i + 2)), .int (xs (i + 3))]) (rest := []) cv_X0_148 ck1 (met_X1_says o c σ (xs (i + 1)) (xs (i + 2)) (xs (i + 3)) (fun r s => r = v ∧ J1 o m q c s S S') hB (hl _ (fun s a b => ⟨rfl, hJ.aft a b⟩))) hB.1 ⟨rfl, rfl, Nat.le_of_ble_eq_true rfl, Nat.le_of_ble_eq_true rfl, hcs.1, hcs.2⟩ rfl rfl rfl dL_law_1809 (n := 1812) rfl (fun r1 s1 _ h1 => ?_)
  obtain ⟨e1, j1⟩ := h1
  have hMB := j1.2.2.2.2.2.1
  have hm := hm s1 j1.2.2.2.2.2
  refine x_aload_n dL_law_1812 (n := 1813) rfl rfl 2 rfl ?_
  refine x_arg (k := 1) (p1 := 1814) (p3 := 1816) (p4 := 1817) (p5 := 1818) hs (by omega) hL dL_law_1813 rfl rfl dL_law_1814 rfl rfl dL_law_1816 rfl (by decide) dL_law_1817 rfl dL_law_1818 (n := 1819) rfl ?_
  refine x_arg (k := 2) (p1 := 1820) (p3 := 1822) (p4 := 1823) (p5 := 1824) hs (by omega) hL dL_law_1819 rfl rfl dL_law_1820 rfl rfl dL_law_1822 rfl (by decide) dL_law_1823 rfl dL_law_1824 (n := 1825) rfl ?_
  refine x_arg (k := 3) (p1 := 1826) (p3 := 1828) (p4 := 1829) (p5 := 1830) hs (by omega) hL dL_law_1825 rfl rfl dL_law_1826 rfl rfl dL_law_1828 rfl (by decide) dL_law_1829 rfl dL_law_1830 (n := 1831) rfl ?_
  refine x_cVim (As := [.int (xs (i + 1)), .int (xs (i + 2)), .int (xs (i + 3))]) (rest := [.int r1]) cv_X0_152 ck0 (met_X6_says m s1 (xs (i + 1)) (xs (i + 2)) (xs (i + 3)) hMB (hm (fun r s => r = v ∧ J o m q c (n + 1) s S') (fun s a b _ => ⟨rfl, j1.aft a b hk'⟩)).1) hMB.1 ⟨rfl, rfl, Nat.le_of_ble_eq_true rfl, Nat.le_of_ble_eq_true rfl, hcs.1, hcs.2⟩ rfl rfl rfl dL_law_1831 (n := 1834) rfl (fun r2 s2 _ h2 => ?_)
  have g2 := (hm (fun r s => r = v ∧ J o m q c (n + 1) s S') (fun s a b _ => ⟨rfl, j1.aft a b hk'⟩)).2
  rw [← h2] at g2
  obtain ⟨e2, j2⟩ := g2
  exact x_icmp_eq (tgt := 2053) dL_law_1834 rfl (n := 1837) rfl (fun _ => nx c s2 S' j2) (fun ne => absurd (e1.trans e2.symm) ne)
theorem law_27 {G : XE} {b L i o m q c n : Nat} {xs : Nat → Int32} {σ : Hp} {S : PlS} {cells slots : Nat} (hs : SCR G b L xs) (hL : L ≤ 384) (hi : i + 6 ≤ L) (hn : n ≤ 64) (hcs : cells ≤ 603072 ∧ slots ≤ 7198826) (hJ : J o m q c n σ S) (nx : ∀ c' s' S', J o m q c' (n + 1) s' S' → X G room_1 cL_law RX0 7 (some .boolean) s' cells slots 2053 [(0, .ref b), (1, .ref o), (2, .ref m), (3, .ref q), (4, .int (Int32.ofNat i))] []) : X G room_1 cL_law RX0 7 (some .boolean) σ cells slots 1839 [(0, .ref b), (1, .ref o), (2, .ref m), (3, .ref q), (4, .int (Int32.ofNat i))] [] := by
  obtain ⟨v, S', hk', hl, hm⟩ := p_undo (m := m) hJ.z hn hJ.k hJ.l
  have hB := hJ.l.1
  refine x_aload_n dL_law_1839 (n := 1840) rfl rfl 1 rfl ?_
  refine x_cVim (As := []) (rest := []) cv_X0_153 ck1 (met_X1_undo o c σ  hB (hl (fun r s => r = v ∧ J1 o m q c s S S') (fun s a b => ⟨rfl, hJ.aft a b⟩)).1) hB.1 ⟨rfl, rfl, Nat.le_of_ble_eq_true rfl, Nat.le_of_ble_eq_true rfl, hcs.1, hcs.2⟩ rfl rfl rfl dL_law_1840 (n := 1843) rfl (fun r1 s1 _ h1 => ?_)
  have g1 := (hl (fun r s => r = v ∧ J1 o m q c s S S') (fun s a b => ⟨rfl, hJ.aft a b⟩)).2
  rw [← h1] at g1
  obtain ⟨e1, j1⟩ := g1
  have hMB := j1.2.2.2.2.2.1
  have hm := hm s1 j1.2.2.2.2.2
  refine x_aload_n dL_law_1843 (n := 1844) rfl rfl 2 rfl ?_
  refine x_cVim (As := []) (rest := [.int r1]) cv_X0_156 ck0 (met_X6_undo m s1  hMB (hm (fun r s => r = v ∧ J o m q c (n + 1) s S') (fun s a b _ => ⟨rfl, j1.aft a b hk'⟩)).1) hMB.1 ⟨rfl, rfl, Nat.le_of_ble_eq_true rfl, Nat.le_of_ble_eq_true rfl, hcs.1, hcs.2⟩ rfl rfl rfl dL_law_1844 (n := 1847) rfl (fun r2 s2 _ h2 => ?_)
  have g2 := (hm (fun r s => r = v ∧ J o m q c (n + 1) s S') (fun s a b _ => ⟨rfl, j1.aft a b hk'⟩)).2
  rw [← h2] at g2
  obtain ⟨e2, j2⟩ := g2
  exact x_icmp_eq (tgt := 2053) dL_law_1847 rfl (n := 1850) rfl (fun _ => nx c s2 S' j2) (fun ne => absurd (e1.trans e2.symm) ne)
theorem law_28 {G : XE} {b L i o m q c n : Nat} {xs : Nat → Int32} {σ : Hp} {S : PlS} {cells slots : Nat} (hs : SCR G b L xs) (hL : L ≤ 384) (hi : i + 6 ≤ L) (hn : n ≤ 64) (hcs : cells ≤ 603072 ∧ slots ≤ 7198826) (hJ : J o m q c n σ S) (nx : ∀ c' s' S', J o m q c' (n + 1) s' S' → X G room_1 cL_law RX0 7 (some .boolean) s' cells slots 2053 [(0, .ref b), (1, .ref o), (2, .ref m), (3, .ref q), (4, .int (Int32.ofNat i))] []) : X G room_1 cL_law RX0 7 (some .boolean) σ cells slots 1852 [(0, .ref b), (1, .ref o), (2, .ref m), (3, .ref q), (4, .int (Int32.ofNat i))] [] := by
  obtain ⟨v, hl0, hm0⟩ := q_alone (m := m) (x1 := (xs (i + 1))) (x2 := (xs (i + 2))) hJ.r hJ.qq
  have hl := pl_n hJ.z hJ.l hl0
  have hm := fun τ (hM : RepM m τ S) => pm_n hM (hm0 τ hM.2.2.2.1)
  have hk' := hJ.k.s
  have hB := hJ.l.1
  refine x_aload_n dL_law_1852 (n := 1853) rfl rfl 1 rfl ?_
  refine x_arg (k := 1) (p1 := 1854) (p3 := 1856) (p4 := 1857) (p5 := 1858) hs (by omega) hL dL_law_1853 rfl rfl dL_law_1854 rfl rfl dL_law_1856 rfl (by decide) dL_law_1857 rfl dL_law_1858 (n := 1859) rfl ?_
  refine x_arg (k := 2) (p1 := 1860) (p3 := 1862) (p4 := 1863) (p5 := 1864) hs (by omega) hL dL_law_1859 rfl rfl dL_law_1860 rfl rfl dL_law_1862 rfl (by decide) dL_law_1863 rfl dL_law_1864 (n := 1865) rfl ?_
  refine x_cVim (As := [.int (xs (i + 1)), .int (xs (i + 2))]) (rest := []) cv_X0_157 ck1 (met_X1_alone o c σ (xs (i + 1)) (xs (i + 2)) (fun r s => r = v ∧ J1 o m q c s S S) hB (hl _ (fun s a b => ⟨rfl, hJ.aft a b⟩))) hB.1 ⟨rfl, rfl, Nat.le_of_ble_eq_true rfl, Nat.le_of_ble_eq_true rfl, hcs.1, hcs.2⟩ rfl rfl rfl dL_law_1865 (n := 1868) rfl (fun r1 s1 _ h1 => ?_)
  obtain ⟨e1, j1⟩ := h1
  have hMB := j1.2.2.2.2.2.1
  have hm := hm s1 j1.2.2.2.2.2
  refine x_aload_n dL_law_1868 (n := 1869) rfl rfl 2 rfl ?_
  refine x_arg (k := 1) (p1 := 1870) (p3 := 1872) (p4 := 1873) (p5 := 1874) hs (by omega) hL dL_law_1869 rfl rfl dL_law_1870 rfl rfl dL_law_1872 rfl (by decide) dL_law_1873 rfl dL_law_1874 (n := 1875) rfl ?_
  refine x_arg (k := 2) (p1 := 1876) (p3 := 1878) (p4 := 1879) (p5 := 1880) hs (by omega) hL dL_law_1875 rfl rfl dL_law_1876 rfl rfl dL_law_1878 rfl (by decide) dL_law_1879 rfl dL_law_1880 (n := 1881) rfl ?_
  refine x_cVim (As := [.int (xs (i + 1)), .int (xs (i + 2))]) (rest := [.int r1]) cv_X0_160 ck0 (met_X6_alone m s1 (xs (i + 1)) (xs (i + 2)) (fun r s => r = v ∧ J o m q c (n + 1) s S) hMB (hm _ (fun s a b _ => ⟨rfl, j1.aft a b hk'⟩))) hMB.1 ⟨rfl, rfl, Nat.le_of_ble_eq_true rfl, Nat.le_of_ble_eq_true rfl, hcs.1, hcs.2⟩ rfl rfl rfl dL_law_1881 (n := 1884) rfl (fun r2 s2 _ h2 => ?_)
  obtain ⟨e2, j2⟩ := h2
  exact x_icmp_eq (tgt := 2053) dL_law_1884 rfl (n := 1887) rfl (fun _ => nx c s2 S j2) (fun ne => absurd (e1.trans e2.symm) ne)
theorem law_29 {G : XE} {b L i o m q c n : Nat} {xs : Nat → Int32} {σ : Hp} {S : PlS} {cells slots : Nat} (hs : SCR G b L xs) (hL : L ≤ 384) (hi : i + 6 ≤ L) (hn : n ≤ 64) (hcs : cells ≤ 603072 ∧ slots ≤ 7198826) (hJ : J o m q c n σ S) (nx : ∀ c' s' S', J o m q c' (n + 1) s' S' → X G room_1 cL_law RX0 7 (some .boolean) s' cells slots 2053 [(0, .ref b), (1, .ref o), (2, .ref m), (3, .ref q), (4, .int (Int32.ofNat i))] []) : X G room_1 cL_law RX0 7 (some .boolean) σ cells slots 1889 [(0, .ref b), (1, .ref o), (2, .ref m), (3, .ref q), (4, .int (Int32.ofNat i))] [] := by
  obtain ⟨v, hl0, hm0⟩ := q_fits (m := m) (x1 := (xs (i + 1))) (x2 := (xs (i + 2))) hJ.r hJ.qq
  have hl := pl_n hJ.z hJ.l hl0
  have hm := fun τ (hM : RepM m τ S) => pm_n hM (hm0 τ hM.2.2.2.1)
  have hk' := hJ.k.s
  have hB := hJ.l.1
  refine x_aload_n dL_law_1889 (n := 1890) rfl rfl 1 rfl ?_
  refine x_arg (k := 1) (p1 := 1891) (p3 := 1893) (p4 := 1894) (p5 := 1895) hs (by omega) hL dL_law_1890 rfl rfl dL_law_1891 rfl rfl dL_law_1893 rfl (by decide) dL_law_1894 rfl dL_law_1895 (n := 1896) rfl ?_
  refine x_arg (k := 2) (p1 := 1897) (p3 := 1899) (p4 := 1900) (p5 := 1901) hs (by omega) hL dL_law_1896 rfl rfl dL_law_1897 rfl rfl dL_law_1899 rfl (by decide) dL_law_1900 rfl dL_law_1901 (n := 1902) rfl ?_
  refine x_cVim (As := [.int (xs (i + 1)), .int (xs (i + 2))]) (rest := []) cv_X0_161 ck1 (met_X1_fits o c σ (xs (i + 1)) (xs (i + 2)) (fun r s => r = v ∧ J1 o m q c s S S) hB (hl _ (fun s a b => ⟨rfl, hJ.aft a b⟩))) hB.1 ⟨rfl, rfl, Nat.le_of_ble_eq_true rfl, Nat.le_of_ble_eq_true rfl, hcs.1, hcs.2⟩ rfl rfl rfl dL_law_1902 (n := 1905) rfl (fun r1 s1 _ h1 => ?_)
  obtain ⟨e1, j1⟩ := h1
  have hMB := j1.2.2.2.2.2.1
  have hm := hm s1 j1.2.2.2.2.2
  refine x_aload_n dL_law_1905 (n := 1906) rfl rfl 2 rfl ?_
  refine x_arg (k := 1) (p1 := 1907) (p3 := 1909) (p4 := 1910) (p5 := 1911) hs (by omega) hL dL_law_1906 rfl rfl dL_law_1907 rfl rfl dL_law_1909 rfl (by decide) dL_law_1910 rfl dL_law_1911 (n := 1912) rfl ?_
  refine x_arg (k := 2) (p1 := 1913) (p3 := 1915) (p4 := 1916) (p5 := 1917) hs (by omega) hL dL_law_1912 rfl rfl dL_law_1913 rfl rfl dL_law_1915 rfl (by decide) dL_law_1916 rfl dL_law_1917 (n := 1918) rfl ?_
  refine x_cVim (As := [.int (xs (i + 1)), .int (xs (i + 2))]) (rest := [.int r1]) cv_X0_164 ck0 (met_X6_fits m s1 (xs (i + 1)) (xs (i + 2)) (fun r s => r = v ∧ J o m q c (n + 1) s S) hMB (hm _ (fun s a b _ => ⟨rfl, j1.aft a b hk'⟩))) hMB.1 ⟨rfl, rfl, Nat.le_of_ble_eq_true rfl, Nat.le_of_ble_eq_true rfl, hcs.1, hcs.2⟩ rfl rfl rfl dL_law_1918 (n := 1921) rfl (fun r2 s2 _ h2 => ?_)
  obtain ⟨e2, j2⟩ := h2
  exact x_icmp_eq (tgt := 2053) dL_law_1921 rfl (n := 1924) rfl (fun _ => nx c s2 S j2) (fun ne => absurd (e1.trans e2.symm) ne)
theorem law_30 {G : XE} {b L i o m q c n : Nat} {xs : Nat → Int32} {σ : Hp} {S : PlS} {cells slots : Nat} (hs : SCR G b L xs) (hL : L ≤ 384) (hi : i + 6 ≤ L) (hn : n ≤ 64) (hcs : cells ≤ 603072 ∧ slots ≤ 7198826) (hJ : J o m q c n σ S) (nx : ∀ c' s' S', J o m q c' (n + 1) s' S' → X G room_1 cL_law RX0 7 (some .boolean) s' cells slots 2053 [(0, .ref b), (1, .ref o), (2, .ref m), (3, .ref q), (4, .int (Int32.ofNat i))] []) : X G room_1 cL_law RX0 7 (some .boolean) σ cells slots 1926 [(0, .ref b), (1, .ref o), (2, .ref m), (3, .ref q), (4, .int (Int32.ofNat i))] [] := by
  obtain ⟨v, hl0, hm0⟩ := q_gap (m := m) hJ.r hJ.qq
  have hl := pl_n hJ.z hJ.l hl0
  have hm := fun τ (hM : RepM m τ S) => pm_n hM (hm0 τ hM.2.2.2.1)
  have hk' := hJ.k.s
  have hB := hJ.l.1
  refine x_aload_n dL_law_1926 (n := 1927) rfl rfl 1 rfl ?_
  refine x_cVim (As := []) (rest := []) cv_X0_165 ck1 (met_X1_gap o c σ  (fun r s => r = v ∧ J1 o m q c s S S) hB (hl _ (fun s a b => ⟨rfl, hJ.aft a b⟩))) hB.1 ⟨rfl, rfl, Nat.le_of_ble_eq_true rfl, Nat.le_of_ble_eq_true rfl, hcs.1, hcs.2⟩ rfl rfl rfl dL_law_1927 (n := 1930) rfl (fun r1 s1 _ h1 => ?_)
  obtain ⟨e1, j1⟩ := h1
  have hMB := j1.2.2.2.2.2.1
  have hm := hm s1 j1.2.2.2.2.2
  refine x_aload_n dL_law_1930 (n := 1931) rfl rfl 2 rfl ?_
  refine x_cVim (As := []) (rest := [.int r1]) cv_X0_168 ck0 (met_X6_gap m s1  (fun r s => r = v ∧ J o m q c (n + 1) s S) hMB (hm _ (fun s a b _ => ⟨rfl, j1.aft a b hk'⟩))) hMB.1 ⟨rfl, rfl, Nat.le_of_ble_eq_true rfl, Nat.le_of_ble_eq_true rfl, hcs.1, hcs.2⟩ rfl rfl rfl dL_law_1931 (n := 1934) rfl (fun r2 s2 _ h2 => ?_)
  obtain ⟨e2, j2⟩ := h2
  exact x_icmp_eq (tgt := 2053) dL_law_1934 rfl (n := 1937) rfl (fun _ => nx c s2 S j2) (fun ne => absurd (e1.trans e2.symm) ne)
theorem law_31 {G : XE} {b L i o m q c n : Nat} {xs : Nat → Int32} {σ : Hp} {S : PlS} {cells slots : Nat} (hs : SCR G b L xs) (hL : L ≤ 384) (hi : i + 6 ≤ L) (hn : n ≤ 64) (hcs : cells ≤ 603072 ∧ slots ≤ 7198826) (hJ : J o m q c n σ S) (nx : ∀ c' s' S', J o m q c' (n + 1) s' S' → X G room_1 cL_law RX0 7 (some .boolean) s' cells slots 2053 [(0, .ref b), (1, .ref o), (2, .ref m), (3, .ref q), (4, .int (Int32.ofNat i))] []) : X G room_1 cL_law RX0 7 (some .boolean) σ cells slots 1939 [(0, .ref b), (1, .ref o), (2, .ref m), (3, .ref q), (4, .int (Int32.ofNat i))] [] := by
  obtain ⟨v, S', hk', hl, hm⟩ := p_told (m := m) (x := (xs (i + 1))) (y := (xs (i + 2))) hJ.z hJ.k hJ.l
  have hB := hJ.l.1
  refine x_aload_n dL_law_1939 (n := 1940) rfl rfl 1 rfl ?_
  refine x_arg (k := 1) (p1 := 1941) (p3 := 1943) (p4 := 1944) (p5 := 1945) hs (by omega) hL dL_law_1940 rfl rfl dL_law_1941 rfl rfl dL_law_1943 rfl (by decide) dL_law_1944 rfl dL_law_1945 (n := 1946) rfl ?_
  refine x_arg (k := 2) (p1 := 1947) (p3 := 1949) (p4 := 1950) (p5 := 1951) hs (by omega) hL dL_law_1946 rfl rfl dL_law_1947 rfl rfl dL_law_1949 rfl (by decide) dL_law_1950 rfl dL_law_1951 (n := 1952) rfl ?_
  refine x_cVim (As := [.int (xs (i + 1)), .int (xs (i + 2))]) (rest := []) cv_X0_169 ck1 (met_X1_told o c σ (xs (i + 1)) (xs (i + 2)) hB (hl (fun r s => r = v ∧ J1 o m q c s S S') (fun s a b => ⟨rfl, hJ.aft a b⟩)).1) hB.1 ⟨rfl, rfl, Nat.le_of_ble_eq_true rfl, Nat.le_of_ble_eq_true rfl, hcs.1, hcs.2⟩ rfl rfl rfl dL_law_1952 (n := 1955) rfl (fun r1 s1 _ h1 => ?_)
  have g1 := (hl (fun r s => r = v ∧ J1 o m q c s S S') (fun s a b => ⟨rfl, hJ.aft a b⟩)).2
  rw [← h1] at g1
  obtain ⟨e1, j1⟩ := g1
  have hMB := j1.2.2.2.2.2.1
  have hm := hm s1 j1.2.2.2.2.2
  refine x_aload_n dL_law_1955 (n := 1956) rfl rfl 2 rfl ?_
  refine x_arg (k := 1) (p1 := 1957) (p3 := 1959) (p4 := 1960) (p5 := 1961) hs (by omega) hL dL_law_1956 rfl rfl dL_law_1957 rfl rfl dL_law_1959 rfl (by decide) dL_law_1960 rfl dL_law_1961 (n := 1962) rfl ?_
  refine x_arg (k := 2) (p1 := 1963) (p3 := 1965) (p4 := 1966) (p5 := 1967) hs (by omega) hL dL_law_1962 rfl rfl dL_law_1963 rfl rfl dL_law_1965 rfl (by decide) dL_law_1966 rfl dL_law_1967 (n := 1968) rfl ?_
  refine x_cVim (As := [.int (xs (i + 1)), .int (xs (i + 2))]) (rest := [.int r1]) cv_X0_172 ck0 (met_X6_told m s1 (xs (i + 1)) (xs (i + 2)) hMB (hm (fun r s => r = v ∧ J o m q c (n + 1) s S') (fun s a b _ => ⟨rfl, j1.aft a b hk'⟩)).1) hMB.1 ⟨rfl, rfl, Nat.le_of_ble_eq_true rfl, Nat.le_of_ble_eq_true rfl, hcs.1, hcs.2⟩ rfl rfl rfl dL_law_1968 (n := 1971) rfl (fun r2 s2 _ h2 => ?_)
  have g2 := (hm (fun r s => r = v ∧ J o m q c (n + 1) s S') (fun s a b _ => ⟨rfl, j1.aft a b hk'⟩)).2
  rw [← h2] at g2
  obtain ⟨e2, j2⟩ := g2
  exact x_icmp_eq (tgt := 2053) dL_law_1971 rfl (n := 1974) rfl (fun _ => nx c s2 S' j2) (fun ne => absurd (e1.trans e2.symm) ne)
theorem law_32 {G : XE} {b L i o m q c n : Nat} {xs : Nat → Int32} {σ : Hp} {S : PlS} {cells slots : Nat} (hs : SCR G b L xs) (hL : L ≤ 384) (hi : i + 6 ≤ L) (hn : n ≤ 64) (hcs : cells ≤ 603072 ∧ slots ≤ 7198826) (hJ : J o m q c n σ S) (nx : ∀ c' s' S', J o m q c' (n + 1) s' S' → X G room_1 cL_law RX0 7 (some .boolean) s' cells slots 2053 [(0, .ref b), (1, .ref o), (2, .ref m), (3, .ref q), (4, .int (Int32.ofNat i))] []) : X G room_1 cL_law RX0 7 (some .boolean) σ cells slots 1976 [(0, .ref b), (1, .ref o), (2, .ref m), (3, .ref q), (4, .int (Int32.ofNat i))] [] := by
  obtain ⟨v, hl0, hm0⟩ := q_judged (m := m) hJ.r hJ.qq hJ.k.2.1 hJ.l.2.2.2.2.2.2.1.1 hJ.l.2.2.2.2.2.2.1.2
  have hl := pl_n hJ.z hJ.l hl0
  have hm := fun τ (hM : RepM m τ S) => pm_n hM (hm0 τ hM.2.2.2.1 hM.2.2.2.2.2.1.1 hM.2.2.2.2.2.1.2)
  have hk' := hJ.k.s
  have hB := hJ.l.1
  refine x_aload_n dL_law_1976 (n := 1977) rfl rfl 1 rfl ?_
  refine x_cVim (As := []) (rest := []) cv_X0_173 ck1 (met_X1_judged o c σ  (fun r s => r = v ∧ J1 o m q c s S S) hB (hl _ (fun s a b => ⟨rfl, hJ.aft a b⟩))) hB.1 ⟨rfl, rfl, Nat.le_of_ble_eq_true rfl, Nat.le_of_ble_eq_true rfl, hcs.1, hcs.2⟩ rfl rfl rfl dL_law_1977 (n := 1980) rfl (fun r1 s1 _ h1 => ?_)
  obtain ⟨e1, j1⟩ := h1
  have hMB := j1.2.2.2.2.2.1
  have hm := hm s1 j1.2.2.2.2.2
  refine x_aload_n dL_law_1980 (n := 1981) rfl rfl 2 rfl ?_
  refine x_cVim (As := []) (rest := [.int r1]) cv_X0_176 ck0 (met_X6_judged m s1  (fun r s => r = v ∧ J o m q c (n + 1) s S) hMB (hm _ (fun s a b _ => ⟨rfl, j1.aft a b hk'⟩))) hMB.1 ⟨rfl, rfl, Nat.le_of_ble_eq_true rfl, Nat.le_of_ble_eq_true rfl, hcs.1, hcs.2⟩ rfl rfl rfl dL_law_1981 (n := 1984) rfl (fun r2 s2 _ h2 => ?_)
  obtain ⟨e2, j2⟩ := h2
  exact x_icmp_eq (tgt := 2053) dL_law_1984 rfl (n := 1987) rfl (fun _ => nx c s2 S j2) (fun ne => absurd (e1.trans e2.symm) ne)
theorem law_33 {G : XE} {b L i o m q c n : Nat} {xs : Nat → Int32} {σ : Hp} {S : PlS} {cells slots : Nat} (hs : SCR G b L xs) (hL : L ≤ 384) (hi : i + 6 ≤ L) (hn : n ≤ 64) (hcs : cells ≤ 603072 ∧ slots ≤ 7198826) (hJ : J o m q c n σ S) (nx : ∀ c' s' S', J o m q c' (n + 1) s' S' → X G room_1 cL_law RX0 7 (some .boolean) s' cells slots 2053 [(0, .ref b), (1, .ref o), (2, .ref m), (3, .ref q), (4, .int (Int32.ofNat i))] []) : X G room_1 cL_law RX0 7 (some .boolean) σ cells slots 1989 [(0, .ref b), (1, .ref o), (2, .ref m), (3, .ref q), (4, .int (Int32.ofNat i))] [] := by
  obtain ⟨v, S', hk', hl, hm⟩ := p_forget (m := m) hJ.z hJ.k hJ.l
  have hB := hJ.l.1
  refine x_aload_n dL_law_1989 (n := 1990) rfl rfl 1 rfl ?_
  refine x_cVim (As := []) (rest := []) cv_X0_177 ck1 (met_X1_forget o c σ  hB ) hB.1 ⟨rfl, rfl, Nat.le_of_ble_eq_true rfl, Nat.le_of_ble_eq_true rfl, hcs.1, hcs.2⟩ rfl rfl rfl dL_law_1990 (n := 1993) rfl (fun r1 s1 _ h1 => ?_)
  have g1 := (hl (fun r s => r = v ∧ J1 o m q c s S S') (fun s a b => ⟨rfl, hJ.aft a b⟩)).2
  rw [← h1] at g1
  obtain ⟨e1, j1⟩ := g1
  have hMB := j1.2.2.2.2.2.1
  have hm := hm s1 j1.2.2.2.2.2
  refine x_aload_n dL_law_1993 (n := 1994) rfl rfl 2 rfl ?_
  refine x_cVim (As := []) (rest := [.int r1]) cv_X0_180 ck0 (met_X6_forget m s1  hMB ) hMB.1 ⟨rfl, rfl, Nat.le_of_ble_eq_true rfl, Nat.le_of_ble_eq_true rfl, hcs.1, hcs.2⟩ rfl rfl rfl dL_law_1994 (n := 1997) rfl (fun r2 s2 _ h2 => ?_)
  have g2 := (hm (fun r s => r = v ∧ J o m q c (n + 1) s S') (fun s a b _ => ⟨rfl, j1.aft a b hk'⟩)).2
  rw [← h2] at g2
  obtain ⟨e2, j2⟩ := g2
  exact x_icmp_eq (tgt := 2053) dL_law_1997 rfl (n := 2000) rfl (fun _ => nx c s2 S' j2) (fun ne => absurd (e1.trans e2.symm) ne)
theorem law_34 {G : XE} {b L i o m q c n : Nat} {xs : Nat → Int32} {σ : Hp} {S : PlS} {cells slots : Nat} (hs : SCR G b L xs) (hL : L ≤ 384) (hi : i + 6 ≤ L) (hn : n ≤ 64) (hcs : cells ≤ 603072 ∧ slots ≤ 7198826) (hJ : J o m q c n σ S) (nx : ∀ c' s' S', J o m q c' (n + 1) s' S' → X G room_1 cL_law RX0 7 (some .boolean) s' cells slots 2053 [(0, .ref b), (1, .ref o), (2, .ref m), (3, .ref q), (4, .int (Int32.ofNat i))] []) : X G room_1 cL_law RX0 7 (some .boolean) σ cells slots 2002 [(0, .ref b), (1, .ref o), (2, .ref m), (3, .ref q), (4, .int (Int32.ofNat i))] [] := by
  obtain ⟨v, S', hk', hl, hm⟩ := p_keep (m := m) hJ.z hJ.k hJ.l
  have hB := hJ.l.1
  refine x_aload_n dL_law_2002 (n := 2003) rfl rfl 1 rfl ?_
  refine x_cVim (As := []) (rest := []) cv_X0_181 ck1 (met_X1_keep o c σ  (fun r s => r = v ∧ J1 o m q c s S S') hB (hl _ (fun s a b => ⟨rfl, hJ.aft a b⟩))) hB.1 ⟨rfl, rfl, Nat.le_of_ble_eq_true rfl, Nat.le_of_ble_eq_true rfl, hcs.1, hcs.2⟩ rfl rfl rfl dL_law_2003 (n := 2006) rfl (fun r1 s1 _ h1 => ?_)
  obtain ⟨e1, j1⟩ := h1
  have hMB := j1.2.2.2.2.2.1
  have hm := hm s1 j1.2.2.2.2.2
  refine x_aload_n dL_law_2006 (n := 2007) rfl rfl 2 rfl ?_
  refine x_cVim (As := []) (rest := [.int r1]) cv_X0_184 ck0 (met_X6_keep m s1  (fun r s => r = v ∧ J o m q c (n + 1) s S') hMB (hm _ (fun s a b _ => ⟨rfl, j1.aft a b hk'⟩))) hMB.1 ⟨rfl, rfl, Nat.le_of_ble_eq_true rfl, Nat.le_of_ble_eq_true rfl, hcs.1, hcs.2⟩ rfl rfl rfl dL_law_2007 (n := 2010) rfl (fun r2 s2 _ h2 => ?_)
  obtain ⟨e2, j2⟩ := h2
  exact x_icmp_eq (tgt := 2053) dL_law_2010 rfl (n := 2013) rfl (fun _ => nx c s2 S' j2) (fun ne => absurd (e1.trans e2.symm) ne)
theorem law_35 {G : XE} {b L i o m q c n : Nat} {xs : Nat → Int32} {σ : Hp} {S : PlS} {cells slots : Nat} (hs : SCR G b L xs) (hL : L ≤ 384) (hi : i + 6 ≤ L) (hn : n ≤ 64) (hcs : cells ≤ 603072 ∧ slots ≤ 7198826) (hJ : J o m q c n σ S) (nx : ∀ c' s' S', J o m q c' (n + 1) s' S' → X G room_1 cL_law RX0 7 (some .boolean) s' cells slots 2053 [(0, .ref b), (1, .ref o), (2, .ref m), (3, .ref q), (4, .int (Int32.ofNat i))] []) : X G room_1 cL_law RX0 7 (some .boolean) σ cells slots 2015 [(0, .ref b), (1, .ref o), (2, .ref m), (3, .ref q), (4, .int (Int32.ofNat i))] [] := by
  obtain ⟨v, S', hk', hl, hm⟩ := p_back (m := m) hJ.z hJ.k hJ.l
  have hB := hJ.l.1
  refine x_aload_n dL_law_2015 (n := 2016) rfl rfl 1 rfl ?_
  refine x_cVim (As := []) (rest := []) cv_X0_185 ck1 (met_X1_back o c σ  (fun r s => r = v ∧ J1 o m q c s S S') hB (hl _ (fun s a b => ⟨rfl, hJ.aft a b⟩))) hB.1 ⟨rfl, rfl, Nat.le_of_ble_eq_true rfl, Nat.le_of_ble_eq_true rfl, hcs.1, hcs.2⟩ rfl rfl rfl dL_law_2016 (n := 2019) rfl (fun r1 s1 _ h1 => ?_)
  obtain ⟨e1, j1⟩ := h1
  have hMB := j1.2.2.2.2.2.1
  have hm := hm s1 j1.2.2.2.2.2
  refine x_aload_n dL_law_2019 (n := 2020) rfl rfl 2 rfl ?_
  refine x_cVim (As := []) (rest := [.int r1]) cv_X0_188 ck0 (met_X6_back m s1  (fun r s => r = v ∧ J o m q c (n + 1) s S') hMB (hm _ (fun s a b _ => ⟨rfl, j1.aft a b hk'⟩))) hMB.1 ⟨rfl, rfl, Nat.le_of_ble_eq_true rfl, Nat.le_of_ble_eq_true rfl, hcs.1, hcs.2⟩ rfl rfl rfl dL_law_2020 (n := 2023) rfl (fun r2 s2 _ h2 => ?_)
  obtain ⟨e2, j2⟩ := h2
  exact x_icmp_eq (tgt := 2053) dL_law_2023 rfl (n := 2026) rfl (fun _ => nx c s2 S' j2) (fun ne => absurd (e1.trans e2.symm) ne)
theorem law_36 {G : XE} {b L i o m q c n : Nat} {xs : Nat → Int32} {σ : Hp} {S : PlS} {cells slots : Nat} (hs : SCR G b L xs) (hL : L ≤ 384) (hi : i + 6 ≤ L) (hn : n ≤ 64) (hcs : cells ≤ 603072 ∧ slots ≤ 7198826) (hJ : J o m q c n σ S) (nx : ∀ c' s' S', J o m q c' (n + 1) s' S' → X G room_1 cL_law RX0 7 (some .boolean) s' cells slots 2053 [(0, .ref b), (1, .ref o), (2, .ref m), (3, .ref q), (4, .int (Int32.ofNat i))] []) : X G room_1 cL_law RX0 7 (some .boolean) σ cells slots 2028 [(0, .ref b), (1, .ref o), (2, .ref m), (3, .ref q), (4, .int (Int32.ofNat i))] [] := by
  obtain ⟨v, hl0, hm0⟩ := p_size (x := (xs (i + 1))) hJ.l hJ.mm
  have hl : f_X1_size o c σ (xs (i + 1)) = v := (hl0 (fun r _ => r = v) (fun _ _ _ => rfl)).2
  have hm := fun (_ : Unit) => hm0
  have hk' := hJ.k.s
  have hB := hJ.l.1
  refine x_aload_n dL_law_2028 (n := 2029) rfl rfl 1 rfl ?_
  refine x_arg (k := 1) (p1 := 2030) (p3 := 2032) (p4 := 2033) (p5 := 2034) hs (by omega) hL dL_law_2029 rfl rfl dL_law_2030 rfl rfl dL_law_2032 rfl (by decide) dL_law_2033 rfl dL_law_2034 (n := 2035) rfl ?_
  refine x_cVip (As := [.int (xs (i + 1))]) (rest := []) cv_X0_189 ck1 (met_X1_size o c σ (xs (i + 1)) hB ) hB.1 ⟨rfl, rfl, Nat.le_of_ble_eq_true rfl, Nat.le_of_ble_eq_true rfl, hcs.1, hcs.2⟩ rfl rfl rfl dL_law_2035 (n := 2038) rfl (fun r1 e1 => ?_)
  have e1 : r1 = v := e1.trans hl
  have j1 := hJ.j1
  have hMB := j1.2.2.2.2.2.1
  have hm := hm ()
  refine x_aload_n dL_law_2038 (n := 2039) rfl rfl 2 rfl ?_
  refine x_arg (k := 1) (p1 := 2040) (p3 := 2042) (p4 := 2043) (p5 := 2044) hs (by omega) hL dL_law_2039 rfl rfl dL_law_2040 rfl rfl dL_law_2042 rfl (by decide) dL_law_2043 rfl dL_law_2044 (n := 2045) rfl ?_
  refine x_cVim (As := [.int (xs (i + 1))]) (rest := [.int r1]) cv_X0_192 ck0 (met_X6_size m σ (xs (i + 1)) hMB ) hMB.1 ⟨rfl, rfl, Nat.le_of_ble_eq_true rfl, Nat.le_of_ble_eq_true rfl, hcs.1, hcs.2⟩ rfl rfl rfl dL_law_2045 (n := 2048) rfl (fun r2 s2 _ h2 => ?_)
  have g2 := (hm (fun r s => r = v ∧ J o m q c (n + 1) s S) (fun s a b _ => ⟨rfl, j1.aft a b hk'⟩)).2
  rw [← h2] at g2
  obtain ⟨e2, j2⟩ := g2
  exact x_icmp_eq (tgt := 2053) dL_law_2048 rfl (n := 2051) rfl (fun _ => nx c s2 S j2) (fun ne => absurd (e1.trans e2.symm) ne)
