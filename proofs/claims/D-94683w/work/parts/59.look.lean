set_option maxRecDepth 100000
theorem nc_look : Cond.not (Cond.castable "java/util/NoSuchElementException" "java/lang/IndexOutOfBoundsException") ∈ flatC (Jvm.Cond.and given_1 narrow_1) := by decide +kernel
section XH
variable {G : XE} {rm : Room} {cc : ByteArray} {own : String} {nL : Nat} {ret : Option FieldType} {σ : Hp} {cells slots pc n : Nat} {lvs : List (Nat × Value)} {st : List Value}
/-- caught by the second row of the table: the first is not for it -/
theorem t_catch2 {hh suf : List (Nat × Nat × Nat × Nat)} {mc ms q : Nat} {E name nm1 : String} {Post : Option Value → Hp → Prop} {PX' : Nat → String → Hp → Prop} {y x : Nat × Nat × Nat × Nat} {hpc ct ct1 : Nat} (rq : RQx G hh mc ms Post PX') (hsp : tableOf hh = tableOf (y :: x :: suf)) (hy : ∀ z ∈ tableOf [y], z.catchType = ct1) (h1 : ct1 ≠ 0) (hl1 : Cond.classLink own ct1 nm1 ∈ lw_all) (hnc : Cond.not (Cond.castable E nm1) ∈ flatC (Jvm.Cond.and given_1 narrow_1)) (hx : ∀ z ∈ tableOf [x], covers z pc = true ∧ z.catchType = ct ∧ z.handlerPc = hpc) (h0 : ct ≠ 0) (hl0 : Cond.classLink own ct name ∈ lw_all) (hcast : Cond.castable E name ∈ lw_tbl)
    (kk : X G rm cc own nL ret σ cells slots hpc lvs [.ref q]) : TX G rm cc own nL ret σ cells slots pc lvs q E := by
  intro hF H locs ls rest hB hl hce
  obtain ⟨ce, h2, h3, h4⟩ := hce
  obtain ⟨w, hw⟩ : ∃ w, tableOf [y] = [w] := ⟨_, rfl⟩
  obtain ⟨z, hz⟩ : ∃ z, tableOf [x] = [z] := ⟨_, rfl⟩
  obtain ⟨c1, c2, c3⟩ := hx z (by rw [hz]; exact List.mem_singleton.mpr rfl)
  have d1 := hy w (by rw [hw]; exact List.mem_singleton.mpr rfl)
  have hs2 : tableOf (y :: x :: suf) = [w] ++ z :: tableOf suf := by
    have : tableOf (y :: x :: suf) = tableOf [y] ++ (tableOf [x] ++ tableOf suf) := rfl
    rw [this, hw, hz]; rfl
  have hN : va_Nc E nm1 G.2.2.2.1 := by
    obtain ⟨s0, b0, g1, g2, g3, g4, g5⟩ := hB.2.2.2.2.2.2.2
    exact va_Nc.moved g3.alike (va_Nc.of (narrow_flat g2 _ hnc))
  subst c2
  subst c3
  subst d1
  exact vx_catch hF.2.2.2.1 [w] z (tableOf suf) (by rw [rq.2, hsp, hs2]) (fun v hv => by rw [List.mem_singleton.mp hv]; exact Or.inr ⟨h1, nm1, hF.2.2.2.2.1 _ hl1, hN⟩) c1 h0 (hF.2.2.2.2.1 _ hl0) (va_Nw.use rfl (hB.cast hcast)) h2 h3 h4 (kk hF H locs ls hB hl)
end XH
def wp_X0_look (σ : Hp) (a0 c0 : Nat) (x1 x2 : Int32) (a3 : Nat) (Q : Int32 → Hp → Prop) : Prop := wp_X1_look a0 c0 σ x1 x2 (fun r => Q 0 (pL σ a3 0 r.toInt64)) (∀ n, gS σ ≤ n → Q 1 (sz n σ)) (∀ n, gS σ ≤ n → Q 2 (sz n σ))
abbrev rm_X0_look : Room := { frames := 7, cells := 1, slots := 6, locals := 122 }
theorem met_X0_look (σ : Hp) (a0 c0 : Nat) (x1 x2 : Int32) (a3 : Nat) (Q : Int32 → Hp → Prop) (hB0 : LB a0 c0 σ) (ha3 : gT σ a3 = some (.inr (.long, 1))) (h : wp_X0_look σ a0 c0 x1 x2 a3 Q) : MetYW yX0_look cX0_look 5 (some .int) [((0 : Nat), (10 : Nat), (13 : Nat), (13 : Nat)), ((0 : Nat), (10 : Nat), (17 : Nat), (15 : Nat))] rm_X0_look σ [.ref a0, .int x1, .int x2, .ref a3] (oI (fun r σ' => (∃ n, gS σ ≤ n ∧ SH (sz n σ) σ') ∧ Q r σ')) (fun _ _ _ => False) 1 6 := by
  refine metYW_of (own := RX0) (lvs := [(0, .ref a0), (1, .int x1), (2, .int x2), (3, .ref a3)]) (by decide) rfl (Nat.le_of_ble_eq_true rfl) rfl (fun G rq => ?_)
  refine x_aload_n dX0_look_0 (n := 1) rfl rfl 3 rfl ?_
  refine x_iconst dX0_look_1 (n := 2) rfl ic_0 ?_
  refine x_aload_n dX0_look_2 (n := 3) rfl rfl 0 rfl ?_
  refine x_iload_n dX0_look_3 (n := 4) rfl rfl 1 rfl ?_
  refine x_iload_n dX0_look_4 (n := 5) rfl rfl 2 rfl ?_
  refine y_callV (As := [.int x1, .int x2]) (rest := [.int 0, .ref a3]) cv_X0_7 ck1 (met_X1_look a0 c0 σ x1 x2 _ _ _ hB0 h) hB0.1 (by decide) rfl rfl rfl dX0_look_5 (n := 8) rfl (fun q C s hp => ?_) (fun v s hp => ?_)
  · obtain ⟨hp, n, hn, rfl⟩ := hp
    rcases hp with ⟨rfl, h⟩ | ⟨rfl, h⟩
    · refine t_catch (x := (0, 10, 13, 13)) (suf := [(0, 10, 17, 15)]) (hpc := 13) (ct := 13) rq rfl (by decide) (by decide) q1429 q1470 ?_
      refine x_astore (lvs' := [(4, .ref q), (0, .ref a0), (1, .int x1), (2, .int x2), (3, .ref a3)]) dX0_look_13 (n := 15) rfl (by decide) rfl ?_
      refine x_iconst dX0_look_15 (n := 16) rfl ic_1 ?_
      exact y_iret rq ⟨⟨n, hn, SH.rf⟩, h n hn⟩ dX0_look_16
    · refine t_catch2 (y := (0, 10, 13, 13)) (x := (0, 10, 17, 15)) (suf := []) (hpc := 17) (ct := 15) (ct1 := 13) rq rfl (by decide) (by decide) q1429 nc_look (by decide) (by decide) q1463 q1491 ?_
      refine x_astore (lvs' := [(4, .ref q), (0, .ref a0), (1, .int x1), (2, .int x2), (3, .ref a3)]) dX0_look_17 (n := 19) rfl (by decide) rfl ?_
      refine x_iconst dX0_look_19 (n := 20) rfl ic_2 ?_
      exact y_iret rq ⟨⟨n, hn, SH.rf⟩, h n hn⟩ dX0_look_20
  · obtain ⟨r, rfl, e, h⟩ := hp
    have e := e.symm
    subst e
    refine x_i2l dX0_look_8 (n := 9) rfl ?_
    refine x_last ha3 (vin_of (by decide) tn_0 rfl) tn_0 dX0_look_9 (n := 10) rfl ?_
    refine x_goto (tgt := 21) dX0_look_10 rfl ?_
    refine x_iconst dX0_look_21 (n := 22) rfl ic_0 ?_
    exact y_iret rq ⟨⟨gS σ, Nat.le_refl _, SH.rf⟩, h⟩ dX0_look_22
