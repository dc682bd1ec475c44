set_option maxRecDepth 100000
theorem law_loop {G : XE} {b L o m q : Nat} {xs : Nat → Int32} (hs : SCR G b L xs) (hL : L ≤ 384) (hend : ∀ (s : Hp) (lvs : List (Nat × Value)) (cells slots : Nat), cells ≤ 603072 → slots ≤ 7198826 → X G room_1 cL_law RX0 7 (some .boolean) s cells slots 2059 lvs []) : ∀ (r n c : Nat) (σ : Hp) (S : PlS), L - 6 * n ≤ r → 6 * n ≤ L → J o m q c n σ S → X G room_1 cL_law RX0 7 (some .boolean) σ (300 + 3710 * n) (260000 + 59400 * n) 23 [(0, .ref b), (1, .ref o), (2, .ref m), (3, .ref q), (4, .int (Int32.ofNat (6 * n)))] [] := by
  intro r
  induction r with
  | zero =>
    intro n c σ S hr hn hJ
    refine x_iload dL_law_23 (n := 25) rfl 4 rfl ?_
    refine x_aload_n dL_law_25 (n := 26) rfl rfl 0 rfl ?_
    refine x_slen hs dL_law_26 (n := 27) rfl ?_
    refine x_bipush dL_law_27 (n := 29) rfl bp_6 ?_
    refine x_isub dL_law_29 (n := 30) rfl ?_
    have e6 : (Int32.ofNat L - 6).toInt = (L : Int) - 6 := i3_sub (nat_i (by omega)) (by rfl) (by omega) (by omega)
    refine x_icmp_gt (tgt := 2059) dL_law_30 rfl (n := 33) rfl (fun _ => hend _ _ _ _ (by omega) (by omega)) (fun c => absurd ?_ c)
    rw [i3_lt e6 (nat_i (by omega))]
    omega
  | succ r ih =>
    intro n c σ S hr hn hJ
    refine x_iload dL_law_23 (n := 25) rfl 4 rfl ?_
    refine x_aload_n dL_law_25 (n := 26) rfl rfl 0 rfl ?_
    refine x_slen hs dL_law_26 (n := 27) rfl ?_
    refine x_bipush dL_law_27 (n := 29) rfl bp_6 ?_
    refine x_isub dL_law_29 (n := 30) rfl ?_
    have e6 : (Int32.ofNat L - 6).toInt = (L : Int) - 6 := i3_sub (nat_i (by omega)) (by rfl) (by omega) (by omega)
    refine x_icmp_gt (tgt := 2059) dL_law_30 rfl (n := 33) rfl (fun _ => hend _ _ _ _ (by omega) (by omega)) (fun cc => ?_)
    rw [i3_lt e6 (nat_i (by omega))] at cc
    have hi : 6 * n + 6 ≤ L := by omega
    have nxt : ∀ c' s' S', J o m q c' (n + 1) s' S' → X G room_1 cL_law RX0 7 (some .boolean) s' (300 + 3710 * (n + 1)) (260000 + 59400 * (n + 1)) 2053 [(0, .ref b), (1, .ref o), (2, .ref m), (3, .ref q), (4, .int (Int32.ofNat (6 * n)))] [] := fun c' s' S' j => by
      refine x_iinc (v := Int32.ofNat (6 * (n + 1))) (lvs' := [(4, .int (Int32.ofNat (6 * (n + 1)))), (0, .ref b), (1, .ref o), (2, .ref m), (3, .ref q)]) dL_law_2053 (n := 2056) rfl 4 rfl (by rw [show Int32.ofInt 6 = Int32.ofNat 6 by decide, nat_a (by omega)]; rfl) (by decide) rfl ?_
      refine x_goto (tgt := 23) dL_law_2056 rfl ?_
      exact x_sub [1, 2, 3, 4, 0] rfl (ih (n + 1) c' s' S' (by omega) (by omega) j)
    have nx : ∀ c' s' S', J o m q c' (n + 1) s' S' → X G room_1 cL_law RX0 7 (some .boolean) s' (300 + 3710 * n) (260000 + 59400 * n) 2053 [(0, .ref b), (1, .ref o), (2, .ref m), (3, .ref q), (4, .int (Int32.ofNat (6 * n)))] [] := fun c' s' S' j => x_widen (by omega) (by omega) (nxt c' s' S' j)
    refine x_aload_n dL_law_33 (n := 34) rfl rfl 0 rfl ?_
    refine x_iload dL_law_34 (n := 36) rfl 4 rfl ?_
    refine x_sld hs (nat_v (by omega) (by omega)) dL_law_36 (n := 37) rfl ?_
    rw [nat_c (by omega)]
    refine x_bipush dL_law_37 (n := 39) rfl bp_63 ?_
    refine x_iand dL_law_39 (n := 40) rfl ?_
    generalize xs (6 * n) &&& 63 = x
    by_cases hx : x.toInt < 0 ∨ 36 < x.toInt
    · exact x_tswOut (tgt := 2053) dL_law_40 hx rfl (nx c σ S ⟨hJ.1, hJ.2.1, hJ.2.2.1, hJ.2.2.2.1, hJ.l, hJ.mm, hJ.k.s⟩)
    obtain ⟨t, ht, rfl⟩ := idx (x := x) (n := 37) (by omega) (by omega)
    have hn64 : n ≤ 64 := by omega
    have hcs : 300 + 3710 * n ≤ 603072 ∧ 260000 + 59400 * n ≤ 7198826 := by omega
    rcases (show t = 0 ∨ t = 1 ∨ t = 2 ∨ t = 3 ∨ t = 4 ∨ t = 5 ∨ t = 6 ∨ t = 7 ∨ t = 8 ∨ t = 9 ∨ t = 10 ∨ t = 11 ∨ t = 12 ∨ t = 13 ∨ t = 14 ∨ t = 15 ∨ t = 16 ∨ t = 17 ∨ t = 18 ∨ t = 19 ∨ t = 20 ∨ t = 21 ∨ t = 22 ∨ t = 23 ∨ t = 24 ∨ t = 25 ∨ t = 26 ∨ t = 27 ∨ t = 28 ∨ t = 29 ∨ t = 30 ∨ t = 31 ∨ t = 32 ∨ t = 33 ∨ t = 34 ∨ t = 35 ∨ t = 36 by omega) with rfl | rfl | rfl | rfl | rfl | rfl | rfl | rfl | rfl | rfl | rfl | rfl | rfl | rfl | rfl | rfl | rfl | rfl | rfl | rfl | rfl | rfl | rfl | rfl | rfl | rfl | rfl | rfl | rfl | rfl | rfl | rfl | rfl | rfl | rfl | rfl | rfl
    · exact x_tswIn (off := 164) (tgt := 204) dL_law_40 (by decide) (by decide) (by decide) rfl (law_0 hs hL hi hn64 hcs hJ nx)
    · exact x_tswIn (off := 237) (tgt := 277) dL_law_40 (by decide) (by decide) (by decide) rfl (law_1 hs hL hi (by omega) hJ (fun c' s' S' j => x_widen (by omega) (by omega) (nxt c' s' S' j)))
    · exact x_tswIn (off := 262) (tgt := 302) dL_law_40 (by decide) (by decide) (by decide) rfl (law_2 hs hL hi hn64 hcs hJ nx)
    · exact x_tswIn (off := 287) (tgt := 327) dL_law_40 (by decide) (by decide) (by decide) rfl (law_3 hs hL hi hn64 hcs hJ nx)
    · exact x_tswIn (off := 324) (tgt := 364) dL_law_40 (by decide) (by decide) (by decide) rfl (law_4 hs hL hi (by omega) hJ (fun c' s' S' j => x_widen (by omega) (by omega) (nxt c' s' S' j)))
    · exact x_tswIn (off := 392) (tgt := 432) dL_law_40 (by decide) (by decide) (by decide) rfl (law_5 hs hL hi hn64 hcs hJ nx)
    · exact x_tswIn (off := 430) (tgt := 470) dL_law_40 (by decide) (by decide) (by decide) rfl (law_6 hs hL hi hn64 hcs hJ nx)
    · exact x_tswIn (off := 512) (tgt := 552) dL_law_40 (by decide) (by decide) (by decide) rfl (law_7 hs hL hi hn64 hcs hJ nx)
    · exact x_tswIn (off := 594) (tgt := 634) dL_law_40 (by decide) (by decide) (by decide) rfl (law_8 hs hL hi hn64 hcs hJ nx)
    · exact x_tswIn (off := 663) (tgt := 703) dL_law_40 (by decide) (by decide) (by decide) rfl (law_9 hs hL hi hn64 hcs hJ nx)
    · exact x_tswIn (off := 732) (tgt := 772) dL_law_40 (by decide) (by decide) (by decide) rfl (law_10 hs hL hi hn64 hcs hJ nx)
    · exact x_tswIn (off := 802) (tgt := 842) dL_law_40 (by decide) (by decide) (by decide) rfl (law_11 hs hL hi hn64 hcs hJ nx)
    · exact x_tswIn (off := 872) (tgt := 912) dL_law_40 (by decide) (by decide) (by decide) rfl (law_12 hs hL hi hn64 hcs hJ nx)
    · exact x_tswIn (off := 910) (tgt := 950) dL_law_40 (by decide) (by decide) (by decide) rfl (law_13 hs hL hi hn64 hcs hJ nx)
    · exact x_tswIn (off := 992) (tgt := 1032) dL_law_40 (by decide) (by decide) (by decide) rfl (law_14 hs hL hi hn64 hcs hJ nx)
    · exact x_tswIn (off := 1029) (tgt := 1069) dL_law_40 (by decide) (by decide) (by decide) rfl (law_15 hs hL hi hn64 hcs hJ nx)
    · exact x_tswIn (off := 1123) (tgt := 1163) dL_law_40 (by decide) (by decide) (by decide) rfl (law_16 hs hL hi hn64 hcs hJ nx)
    · exact x_tswIn (off := 1161) (tgt := 1201) dL_law_40 (by decide) (by decide) (by decide) rfl (law_17 hs hL hi hn64 hcs hJ nx)
    · exact x_tswIn (off := 1210) (tgt := 1250) dL_law_40 (by decide) (by decide) (by decide) rfl (law_18 hs hL hi hn64 hcs hJ nx)
    · exact x_tswIn (off := 1304) (tgt := 1344) dL_law_40 (by decide) (by decide) (by decide) rfl (law_19 hs hL hi hn64 hcs hJ nx)
    · exact x_tswIn (off := 1414) (tgt := 1454) dL_law_40 (by decide) (by decide) (by decide) rfl (law_20 hs hL hi hn64 hcs hJ nx)
    · exact x_tswIn (off := 1464) (tgt := 1504) dL_law_40 (by decide) (by decide) (by decide) rfl (law_21 hs hL hi hn64 hcs hJ nx)
    · exact x_tswIn (off := 1545) (tgt := 1585) dL_law_40 (by decide) (by decide) (by decide) rfl (law_22 hs hL hi hn64 hcs hJ nx)
    · exact x_tswIn (off := 1639) (tgt := 1679) dL_law_40 (by decide) (by decide) (by decide) rfl (law_23 hs hL hi hn64 hcs hJ nx)
    · exact x_tswIn (off := 1688) (tgt := 1728) dL_law_40 (by decide) (by decide) (by decide) rfl (law_24 hs hL hi hn64 hcs hJ nx)
    · exact x_tswIn (off := 1737) (tgt := 1777) dL_law_40 (by decide) (by decide) (by decide) rfl (law_25 hs hL hi hn64 hcs hJ nx)
    · exact x_tswIn (off := 1750) (tgt := 1790) dL_law_40 (by decide) (by decide) (by decide) rfl (law_26 hs hL hi hn64 hcs hJ nx)
    · exact x_tswIn (off := 1799) (tgt := 1839) dL_law_40 (by decide) (by decide) (by decide) rfl (law_27 hs hL hi hn64 hcs hJ nx)
    · exact x_tswIn (off := 1812) (tgt := 1852) dL_law_40 (by decide) (by decide) (by decide) rfl (law_28 hs hL hi hn64 hcs hJ nx)
    · exact x_tswIn (off := 1849) (tgt := 1889) dL_law_40 (by decide) (by decide) (by decide) rfl (law_29 hs hL hi hn64 hcs hJ nx)
    · exact x_tswIn (off := 1886) (tgt := 1926) dL_law_40 (by decide) (by decide) (by decide) rfl (law_30 hs hL hi hn64 hcs hJ nx)
    · exact x_tswIn (off := 1899) (tgt := 1939) dL_law_40 (by decide) (by decide) (by decide) rfl (law_31 hs hL hi hn64 hcs hJ nx)
    · exact x_tswIn (off := 1936) (tgt := 1976) dL_law_40 (by decide) (by decide) (by decide) rfl (law_32 hs hL hi hn64 hcs hJ nx)
    · exact x_tswIn (off := 1949) (tgt := 1989) dL_law_40 (by decide) (by decide) (by decide) rfl (law_33 hs hL hi hn64 hcs hJ nx)
    · exact x_tswIn (off := 1962) (tgt := 2002) dL_law_40 (by decide) (by decide) (by decide) rfl (law_34 hs hL hi hn64 hcs hJ nx)
    · exact x_tswIn (off := 1975) (tgt := 2015) dL_law_40 (by decide) (by decide) (by decide) rfl (law_35 hs hL hi hn64 hcs hJ nx)
    · exact x_tswIn (off := 1988) (tgt := 2028) dL_law_40 (by decide) (by decide) (by decide) rfl (law_36 hs hL hi hn64 hcs hJ nx)
