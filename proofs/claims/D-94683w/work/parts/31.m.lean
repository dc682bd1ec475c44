set_option maxRecDepth 100000
abbrev rm_X6_signs : Room := { frames := 2, cells := 0, slots := 0, locals := 47 }
def wj_X6_signs_231 (o : Nat) (σ : Hp) (x1 : Int32) (Q : Int32 → Hp → Prop)  : Prop := wp_X6_isCounted o σ (fun r61 s59 => (r61 = 0 → Q 0 s59) ∧ (¬ r61 = 0 → (ok_X6_waitsFor o s59 x1) ∧ (∀ s63 : Hp, s63 = f_X6_waitsFor o s59 x1 → (3 ≤ (f_X6_rank x1) → wp_X6_token o (pI (pI s63 o 51 1) o 52 0) (fun  s70 => Q 1 s70)) ∧ (¬ 3 ≤ (f_X6_rank x1) → wp_X6_token o (pI (pI s63 o 51 1) o 52 1) (fun  s72 => Q 1 s72)))))
def wj_X6_signs_189 (o : Nat) (σ : Hp) (x1 : Int32) (w0 : Int32) (Q : Int32 → Hp → Prop)  : Prop := wp_X6_bind o σ w0 (fun  s43 => ((f_X6_rank x1) = 4 → ((gI s43 o 47) ≤ 0 → wj_X6_signs_231 o s43 x1 Q) ∧ (¬ (gI s43 o 47) ≤ 0 → (vp_in ((gI s43 o 47) - 1) 96) ∧ (((f_X6_rank (gI s43 (o + 20) ((gI s43 o 47) - 1).toNatClampNeg)) = 4 → ∀ (r57 : Int32) (s53 : Hp), (r57, s53) = f_X6_wrong o s43 1 → (r57 = 0 ∨ r57 = 1) ∧ (Q r57 s53)) ∧ (¬ (f_X6_rank (gI s43 (o + 20) ((gI s43 o 47) - 1).toNatClampNeg)) = 4 → wj_X6_signs_231 o s43 x1 Q)))) ∧ (¬ (f_X6_rank x1) = 4 → wj_X6_signs_231 o s43 x1 Q))
def wj_X6_signs_161 (o : Nat) (σ : Hp) (w0 : Int32) (Q : Int32 → Hp → Prop)  : Prop := (w0 = 0 → ∀ (r41 : Int32) (s37 : Hp), (r41, s37) = f_X6_wrong o σ 1 → (r41 = 0 ∨ r41 = 1) ∧ (Q r41 s37)) ∧ (¬ w0 = 0 → ((f_X6_rank w0) = 4 → wj_X6_signs_189 o σ w0 5 Q) ∧ (¬ (f_X6_rank w0) = 4 → wj_X6_signs_189 o σ w0 (f_X6_rank w0) Q))
def wj_X6_signs_47 (o : Nat) (σ : Hp)  (Q : Int32 → Hp → Prop)  : Prop := ((f_X6_isKey o σ 16) = 0 → ((f_X6_isKey o σ 17) = 0 → ((gI σ o 8) = 5 → wj_X6_signs_161 o σ (5 + (gI σ o 9)) Q) ∧ (¬ (gI σ o 8) = 5 → ((f_X6_isSign o σ 43) = 0 → ((f_X6_isSign o σ 45) = 0 → ((f_X6_isSign o σ 42) = 0 → ((f_X6_isSign o σ 47) = 0 → ((f_X6_isSign o σ 37) = 0 → wj_X6_signs_161 o σ 0 Q) ∧ (¬ (f_X6_isSign o σ 37) = 0 → wj_X6_signs_161 o σ 15 Q)) ∧ (¬ (f_X6_isSign o σ 47) = 0 → wj_X6_signs_161 o σ 14 Q)) ∧ (¬ (f_X6_isSign o σ 42) = 0 → wj_X6_signs_161 o σ 13 Q)) ∧ (¬ (f_X6_isSign o σ 45) = 0 → wj_X6_signs_161 o σ 12 Q)) ∧ (¬ (f_X6_isSign o σ 43) = 0 → wj_X6_signs_161 o σ 11 Q))) ∧ (¬ (f_X6_isKey o σ 17) = 0 → wj_X6_signs_161 o σ 4 Q)) ∧ (¬ (f_X6_isKey o σ 16) = 0 → wj_X6_signs_161 o σ 3 Q)
def wp_X6_signs (o : Nat) (σ0 : Hp) (Q : Int32 → Hp → Prop) : Prop := ((f_X6_isSign o σ0 41) = 0 → wj_X6_signs_47 o σ0 Q) ∧ (¬ (f_X6_isSign o σ0 41) = 0 → ((gI σ0 o 49) ≤ 0 → wj_X6_signs_47 o σ0 Q) ∧ (¬ (gI σ0 o 49) ≤ 0 → wp_X6_bind o σ0 1 (fun  s5 => wp_X6_token o (pI (pI s5 o 47 ((gI s5 o 47) - 1)) o 49 ((gI s5 o 49) - 1)) (fun  s7 => Q 1 s7))))
theorem xj_X6_signs_231 (o : Nat) (σ0 : Hp) (Q : Int32 → Hp → Prop) (G : XE) (hB0 : MB o σ0) (rq : RQ G 0 0 (oI (fun r σ' => SH σ0 σ' ∧ Q r σ'))) (σ : Hp) (x1 : Int32)    (hs : SH σ0 σ) (h : wj_X6_signs_231 o σ x1 Q ) : X G rm_X6_signs cX6_signs RX6 2 (some .boolean) σ 0 0 231 [(0, .ref o), (1, .int x1)] [] := by
  have hs : SH σ0 σ := hs
  have hB := hB0.sh hs
  unfold wj_X6_signs_231 at h
  refine x_aload_n dX6_signs_231 (n := 232) rfl rfl 0 rfl ?_
  refine x_cVim (As := []) (rest := []) cv_X6_357 ck0 (met_X6_isCounted o σ _ hB h) hB.1 (by decide) rfl rfl rfl dX6_signs_232 (n := 235) rfl (fun r61 s59 hs60 h => ?_)
  have hs60t := hs.tr hs60; have hBs59 := hB0.sh hs60t
  refine x_if_ne (tgt := 240) dX6_signs_235 rfl (n := 238) rfl (fun c62 => ?_) (fun c62 => ?_)
  · have h := h.2 c62
    refine x_aload_n dX6_signs_240 (n := 241) rfl rfl 0 rfl ?_
    refine x_iload_n dX6_signs_241 (n := 242) rfl rfl 1 rfl ?_
    obtain ⟨b65, h⟩ := h
    refine x_cVvm (As := [.int x1]) (rest := []) cv_X6_350 ck0 (met_X6_waitsFor o s59 x1 hBs59 b65) hBs59.1 (by decide) rfl rfl rfl dX6_signs_242 (n := 245) rfl (fun  s63 hs64 e66 => ?_)
    have hs64t := hs60t.tr hs64; have hBs63 := hB0.sh hs64t
    have h := h s63 e66
    refine x_aload_n dX6_signs_245 (n := 246) rfl rfl 0 rfl ?_
    refine x_iconst dX6_signs_246 (n := 247) rfl ic_1 ?_
    refine x_putz fp_X6_363_0 rfl hBs63.1 isB1 dX6_signs_247 (n := 250) rfl ?_
    refine x_aload_n dX6_signs_250 (n := 251) rfl rfl 0 rfl ?_
    refine x_iload_n dX6_signs_251 (n := 252) rfl rfl 1 rfl ?_
    refine x_cSip (As := [.int x1]) (rest := [.ref o]) cs_X6_336 (met_X6_rank (pI s63 o 51 1) x1 ) (by decide) rfl rfl rfl dX6_signs_252 (n := 255) rfl (fun r68 q => ?_)
    subst q
    refine x_iconst dX6_signs_255 (n := 256) rfl ic_3 ?_
    refine x_icmp_ge (tgt := 263) dX6_signs_256 rfl (n := 259) rfl (fun c69 => ?_) (fun c69 => ?_)
    · have h := h.1 c69
      refine x_iconst dX6_signs_263 (n := 264) rfl ic_0 ?_
      refine x_putz fp_X6_354_0 rfl hBs63.i.1 isB0 dX6_signs_264 (n := 267) rfl ?_
      refine x_aload_n dX6_signs_267 (n := 268) rfl rfl 0 rfl ?_
      refine x_cVvm (As := []) (rest := []) cv_X6_173 ck0 (met_X6_token o (pI (pI s63 o 51 1) o 52 0) _ hBs63.i.i h) hBs63.i.i.1 (by decide) rfl rfl rfl dX6_signs_268 (n := 271) rfl (fun  s70 hs71 h => ?_)
      have hs71t := hs64t.i.i.tr hs71; have hBs70 := hB0.sh hs71t
      refine x_iconst dX6_signs_271 (n := 272) rfl ic_1 ?_
      exact x_zret rq ⟨hs71t, h⟩ isB1 dX6_signs_272
    · have h := h.2 c69
      refine x_iconst dX6_signs_259 (n := 260) rfl ic_1 ?_
      refine x_goto (tgt := 264) dX6_signs_260 rfl ?_
      refine x_putz fp_X6_354_0 rfl hBs63.i.1 isB1 dX6_signs_264 (n := 267) rfl ?_
      refine x_aload_n dX6_signs_267 (n := 268) rfl rfl 0 rfl ?_
      refine x_cVvm (As := []) (rest := []) cv_X6_173 ck0 (met_X6_token o (pI (pI s63 o 51 1) o 52 1) _ hBs63.i.i h) hBs63.i.i.1 (by decide) rfl rfl rfl dX6_signs_268 (n := 271) rfl (fun  s72 hs73 h => ?_)
      have hs73t := hs64t.i.i.tr hs73; have hBs72 := hB0.sh hs73t
      refine x_iconst dX6_signs_271 (n := 272) rfl ic_1 ?_
      exact x_zret rq ⟨hs73t, h⟩ isB1 dX6_signs_272
  · have h := h.1 c62
    refine x_iconst dX6_signs_238 (n := 239) rfl ic_0 ?_
    exact x_zret rq ⟨hs60t, h⟩ isB0 dX6_signs_239
theorem xj_X6_signs_189 (o : Nat) (σ0 : Hp) (Q : Int32 → Hp → Prop) (G : XE) (hB0 : MB o σ0) (rq : RQ G 0 0 (oI (fun r σ' => SH σ0 σ' ∧ Q r σ'))) (σ : Hp) (x1 : Int32) (w0 : Int32)    (hs : SH σ0 σ) (h : wj_X6_signs_189 o σ x1 w0 Q ) : X G rm_X6_signs cX6_signs RX6 2 (some .boolean) σ 0 0 189 [(0, .ref o), (1, .int x1)] [.int w0, .ref o] := by
  have hs : SH σ0 σ := hs
  have hB := hB0.sh hs
  unfold wj_X6_signs_189 at h
  refine x_cVvm (As := [.int w0]) (rest := []) cv_X6_366 ck0 (met_X6_bind o σ w0 _ hB h) hB.1 (by decide) rfl rfl rfl dX6_signs_189 (n := 192) rfl (fun  s43 hs44 h => ?_)
  have hs44t := hs.tr hs44; have hBs43 := hB0.sh hs44t
  refine x_iload_n dX6_signs_192 (n := 193) rfl rfl 1 rfl ?_
  refine x_cSip (As := [.int x1]) (rest := []) cs_X6_336 (met_X6_rank s43 x1 ) (by decide) rfl rfl rfl dX6_signs_193 (n := 196) rfl (fun r46 q => ?_)
  subst q
  refine x_iconst dX6_signs_196 (n := 197) rfl ic_4 ?_
  refine x_icmp_ne (tgt := 231) dX6_signs_197 rfl (n := 200) rfl (fun c47 => ?_) (fun c47 => ?_)
  · have h := h.2 c47
    exact x_sub [0, 1] rfl (xj_X6_signs_231 o σ0 Q G hB0 rq s43 x1 hs44t h)
  · have h := h.1 c47
    refine x_aload_n dX6_signs_200 (n := 201) rfl rfl 0 rfl ?_
    refine x_geti fl_X6_333_0 rfl hBs43.1 rfl dX6_signs_201 (n := 204) rfl ?_
    refine x_if_le (tgt := 231) dX6_signs_204 rfl (n := 207) rfl (fun c48 => ?_) (fun c48 => ?_)
    · have h := h.1 c48
      exact x_sub [0, 1] rfl (xj_X6_signs_231 o σ0 Q G hB0 rq s43 x1 hs44t h)
    · have h := h.2 c48
      refine x_aload_n dX6_signs_207 (n := 208) rfl rfl 0 rfl ?_
      refine x_getr fl_X6_72_0 rfl hBs43.1 hBs43.r45 dX6_signs_208 (n := 211) rfl ?_
      refine x_aload_n dX6_signs_211 (n := 212) rfl rfl 0 rfl ?_
      refine x_geti fl_X6_333_0 rfl hBs43.1 rfl dX6_signs_212 (n := 215) rfl ?_
      refine x_iconst dX6_signs_215 (n := 216) rfl ic_1 ?_
      refine x_isub dX6_signs_216 (n := 217) rfl ?_
      obtain ⟨b49, h⟩ := h
      refine x_iald hBs43.a45 b49 rfl dX6_signs_217 (n := 218) rfl ?_
      refine x_cSip (As := [.int (gI s43 (o + 20) ((gI s43 o 47) - 1).toNatClampNeg)]) (rest := []) cs_X6_336 (met_X6_rank s43 (gI s43 (o + 20) ((gI s43 o 47) - 1).toNatClampNeg) ) (by decide) rfl rfl rfl dX6_signs_218 (n := 221) rfl (fun r51 q => ?_)
      subst q
      refine x_iconst dX6_signs_221 (n := 222) rfl ic_4 ?_
      refine x_icmp_ne (tgt := 231) dX6_signs_222 rfl (n := 225) rfl (fun c52 => ?_) (fun c52 => ?_)
      · have h := h.2 c52
        exact x_sub [0, 1] rfl (xj_X6_signs_231 o σ0 Q G hB0 rq s43 x1 hs44t h)
      · have h := h.1 c52
        refine x_aload_n dX6_signs_225 (n := 226) rfl rfl 0 rfl ?_
        refine x_iconst dX6_signs_226 (n := 227) rfl ic_1 ?_
        refine x_cVim (As := [.int 1]) (rest := []) cv_X6_163 ck0 (met_X6_wrong o s43 1 hBs43) hBs43.1 (by decide) rfl rfl rfl dX6_signs_227 (n := 230) rfl (fun r57 s53 hs54 e56 => ?_)
        have hs54t := hs44t.tr hs54; have hBs53 := hB0.sh hs54t
        have h := h r57 s53 e56
        obtain ⟨b58, h⟩ := h
        exact x_zret rq ⟨hs54t, h⟩ b58 dX6_signs_230
theorem xj_X6_signs_161 (o : Nat) (σ0 : Hp) (Q : Int32 → Hp → Prop) (G : XE) (hB0 : MB o σ0) (rq : RQ G 0 0 (oI (fun r σ' => SH σ0 σ' ∧ Q r σ'))) (σ : Hp) (w0 : Int32)    (hs : SH σ0 σ) (h : wj_X6_signs_161 o σ w0 Q ) : X G rm_X6_signs cX6_signs RX6 2 (some .boolean) σ 0 0 161 [(0, .ref o)] [.int w0] := by
  have hs : SH σ0 σ := hs
  have hB := hB0.sh hs
  unfold wj_X6_signs_161 at h
  refine x_istore_n (lvs' := [(1, .int w0), (0, .ref o)]) dX6_signs_161 (n := 162) rfl rfl (by decide) rfl ?_
  refine x_iload_n dX6_signs_162 (n := 163) rfl rfl 0 rfl ?_
  refine x_if_ne (tgt := 172) dX6_signs_163 rfl (n := 166) rfl (fun c31 => ?_) (fun c31 => ?_)
  · have h := h.2 c31
    refine x_aload_n dX6_signs_172 (n := 173) rfl rfl 1 rfl ?_
    refine x_iload_n dX6_signs_173 (n := 174) rfl rfl 0 rfl ?_
    refine x_cSip (As := [.int w0]) (rest := [.ref o]) cs_X6_336 (met_X6_rank σ w0 ) (by decide) rfl rfl rfl dX6_signs_174 (n := 177) rfl (fun r33 q => ?_)
    subst q
    refine x_iconst dX6_signs_177 (n := 178) rfl ic_4 ?_
    refine x_icmp_ne (tgt := 185) dX6_signs_178 rfl (n := 181) rfl (fun c34 => ?_) (fun c34 => ?_)
    · have h := h.2 c34
      refine x_iload_n dX6_signs_185 (n := 186) rfl rfl 0 rfl ?_
      refine x_cSip (As := [.int w0]) (rest := [.ref o]) cs_X6_336 (met_X6_rank σ w0 ) (by decide) rfl rfl rfl dX6_signs_186 (n := 189) rfl (fun r36 q => ?_)
      subst q
      exact x_sub [1, 0] rfl (xj_X6_signs_189 o σ0 Q G hB0 rq σ w0 (f_X6_rank w0) hs h)
    · have h := h.1 c34
      refine x_iconst dX6_signs_181 (n := 182) rfl ic_5 ?_
      refine x_goto (tgt := 189) dX6_signs_182 rfl ?_
      exact x_sub [1, 0] rfl (xj_X6_signs_189 o σ0 Q G hB0 rq σ w0 5 hs h)
  · have h := h.1 c31
    refine x_aload_n dX6_signs_166 (n := 167) rfl rfl 1 rfl ?_
    refine x_iconst dX6_signs_167 (n := 168) rfl ic_1 ?_
    refine x_cVim (As := [.int 1]) (rest := []) cv_X6_163 ck0 (met_X6_wrong o σ 1 hB) hB.1 (by decide) rfl rfl rfl dX6_signs_168 (n := 171) rfl (fun r41 s37 hs38 e40 => ?_)
    have hs38t := hs.tr hs38; have hBs37 := hB0.sh hs38t
    have h := h r41 s37 e40
    obtain ⟨b42, h⟩ := h
    exact x_zret rq ⟨hs38t, h⟩ b42 dX6_signs_171
theorem xj_X6_signs_47 (o : Nat) (σ0 : Hp) (Q : Int32 → Hp → Prop) (G : XE) (hB0 : MB o σ0) (rq : RQ G 0 0 (oI (fun r σ' => SH σ0 σ' ∧ Q r σ'))) (σ : Hp)     (hs : SH σ0 σ) (h : wj_X6_signs_47 o σ Q ) : X G rm_X6_signs cX6_signs RX6 2 (some .boolean) σ 0 0 47 [(0, .ref o)] [] := by
  have hs : SH σ0 σ := hs
  have hB := hB0.sh hs
  unfold wj_X6_signs_47 at h
  refine x_aload_n dX6_signs_47 (n := 48) rfl rfl 0 rfl ?_
  refine x_bipush dX6_signs_48 (n := 50) rfl bp_16 ?_
  refine x_cVip (As := [.int 16]) (rest := []) cv_X6_183 ck0 (met_X6_isKey o σ 16 hB) hB.1 (by decide) rfl rfl rfl dX6_signs_50 (n := 53) rfl (fun r10 q => ?_)
  subst q
  refine x_if_eq (tgt := 60) dX6_signs_53 rfl (n := 56) rfl (fun c11 => ?_) (fun c11 => ?_)
  · have h := h.1 c11
    refine x_aload_n dX6_signs_60 (n := 61) rfl rfl 0 rfl ?_
    refine x_bipush dX6_signs_61 (n := 63) rfl bp_17 ?_
    refine x_cVip (As := [.int 17]) (rest := []) cv_X6_183 ck0 (met_X6_isKey o σ 17 hB) hB.1 (by decide) rfl rfl rfl dX6_signs_63 (n := 66) rfl (fun r13 q => ?_)
    subst q
    refine x_if_eq (tgt := 73) dX6_signs_66 rfl (n := 69) rfl (fun c14 => ?_) (fun c14 => ?_)
    · have h := h.1 c14
      refine x_aload_n dX6_signs_73 (n := 74) rfl rfl 0 rfl ?_
      refine x_geti fl_X6_139_0 rfl hB.1 rfl dX6_signs_74 (n := 77) rfl ?_
      refine x_iconst dX6_signs_77 (n := 78) rfl ic_5 ?_
      refine x_icmp_ne (tgt := 90) dX6_signs_78 rfl (n := 81) rfl (fun c15 => ?_) (fun c15 => ?_)
      · have h := h.2 c15
        refine x_aload_n dX6_signs_90 (n := 91) rfl rfl 0 rfl ?_
        refine x_bipush dX6_signs_91 (n := 93) rfl bp_43 ?_
        refine x_cVip (As := [.int 43]) (rest := []) cv_X6_176 ck0 (met_X6_isSign o σ 43 hB) hB.1 (by decide) rfl rfl rfl dX6_signs_93 (n := 96) rfl (fun r17 q => ?_)
        subst q
        refine x_if_eq (tgt := 104) dX6_signs_96 rfl (n := 99) rfl (fun c18 => ?_) (fun c18 => ?_)
        · have h := h.1 c18
          refine x_aload_n dX6_signs_104 (n := 105) rfl rfl 0 rfl ?_
          refine x_bipush dX6_signs_105 (n := 107) rfl bp_45 ?_
          refine x_cVip (As := [.int 45]) (rest := []) cv_X6_176 ck0 (met_X6_isSign o σ 45 hB) hB.1 (by decide) rfl rfl rfl dX6_signs_107 (n := 110) rfl (fun r20 q => ?_)
          subst q
          refine x_if_eq (tgt := 118) dX6_signs_110 rfl (n := 113) rfl (fun c21 => ?_) (fun c21 => ?_)
          · have h := h.1 c21
            refine x_aload_n dX6_signs_118 (n := 119) rfl rfl 0 rfl ?_
            refine x_bipush dX6_signs_119 (n := 121) rfl bp_42 ?_
            refine x_cVip (As := [.int 42]) (rest := []) cv_X6_176 ck0 (met_X6_isSign o σ 42 hB) hB.1 (by decide) rfl rfl rfl dX6_signs_121 (n := 124) rfl (fun r23 q => ?_)
            subst q
            refine x_if_eq (tgt := 132) dX6_signs_124 rfl (n := 127) rfl (fun c24 => ?_) (fun c24 => ?_)
            · have h := h.1 c24
              refine x_aload_n dX6_signs_132 (n := 133) rfl rfl 0 rfl ?_
              refine x_bipush dX6_signs_133 (n := 135) rfl bp_47 ?_
              refine x_cVip (As := [.int 47]) (rest := []) cv_X6_176 ck0 (met_X6_isSign o σ 47 hB) hB.1 (by decide) rfl rfl rfl dX6_signs_135 (n := 138) rfl (fun r26 q => ?_)
              subst q
              refine x_if_eq (tgt := 146) dX6_signs_138 rfl (n := 141) rfl (fun c27 => ?_) (fun c27 => ?_)
              · have h := h.1 c27
                refine x_aload_n dX6_signs_146 (n := 147) rfl rfl 0 rfl ?_
                refine x_bipush dX6_signs_147 (n := 149) rfl bp_37 ?_
                refine x_cVip (As := [.int 37]) (rest := []) cv_X6_176 ck0 (met_X6_isSign o σ 37 hB) hB.1 (by decide) rfl rfl rfl dX6_signs_149 (n := 152) rfl (fun r29 q => ?_)
                subst q
                refine x_if_eq (tgt := 160) dX6_signs_152 rfl (n := 155) rfl (fun c30 => ?_) (fun c30 => ?_)
                · have h := h.1 c30
                  refine x_iconst dX6_signs_160 (n := 161) rfl ic_0 ?_
                  exact x_sub [0] rfl (xj_X6_signs_161 o σ0 Q G hB0 rq σ 0 hs h)
                · have h := h.2 c30
                  refine x_bipush dX6_signs_155 (n := 157) rfl bp_15 ?_
                  refine x_goto (tgt := 161) dX6_signs_157 rfl ?_
                  exact x_sub [0] rfl (xj_X6_signs_161 o σ0 Q G hB0 rq σ 15 hs h)
              · have h := h.2 c27
                refine x_bipush dX6_signs_141 (n := 143) rfl bp_14 ?_
                refine x_goto (tgt := 161) dX6_signs_143 rfl ?_
                exact x_sub [0] rfl (xj_X6_signs_161 o σ0 Q G hB0 rq σ 14 hs h)
            · have h := h.2 c24
              refine x_bipush dX6_signs_127 (n := 129) rfl bp_13 ?_
              refine x_goto (tgt := 161) dX6_signs_129 rfl ?_
              exact x_sub [0] rfl (xj_X6_signs_161 o σ0 Q G hB0 rq σ 13 hs h)
          · have h := h.2 c21
            refine x_bipush dX6_signs_113 (n := 115) rfl bp_12 ?_
            refine x_goto (tgt := 161) dX6_signs_115 rfl ?_
            exact x_sub [0] rfl (xj_X6_signs_161 o σ0 Q G hB0 rq σ 12 hs h)
        · have h := h.2 c18
          refine x_bipush dX6_signs_99 (n := 101) rfl bp_11 ?_
          refine x_goto (tgt := 161) dX6_signs_101 rfl ?_
          exact x_sub [0] rfl (xj_X6_signs_161 o σ0 Q G hB0 rq σ 11 hs h)
      · have h := h.1 c15
        refine x_iconst dX6_signs_81 (n := 82) rfl ic_5 ?_
        refine x_aload_n dX6_signs_82 (n := 83) rfl rfl 0 rfl ?_
        refine x_geti fl_X6_150_0 rfl hB.1 rfl dX6_signs_83 (n := 86) rfl ?_
        refine x_iadd dX6_signs_86 (n := 87) rfl ?_
        refine x_goto (tgt := 161) dX6_signs_87 rfl ?_
        exact x_sub [0] rfl (xj_X6_signs_161 o σ0 Q G hB0 rq σ (5 + (gI σ o 9)) hs h)
    · have h := h.2 c14
      refine x_iconst dX6_signs_69 (n := 70) rfl ic_4 ?_
      refine x_goto (tgt := 161) dX6_signs_70 rfl ?_
      exact x_sub [0] rfl (xj_X6_signs_161 o σ0 Q G hB0 rq σ 4 hs h)
  · have h := h.2 c11
    refine x_iconst dX6_signs_56 (n := 57) rfl ic_3 ?_
    refine x_goto (tgt := 161) dX6_signs_57 rfl ?_
    exact x_sub [0] rfl (xj_X6_signs_161 o σ0 Q G hB0 rq σ 3 hs h)
theorem met_X6_signs (o : Nat) (σ0 : Hp) (Q : Int32 → Hp → Prop) (hB0 : MB o σ0) (h : wp_X6_signs o σ0 Q) : MetX yX6_signs cX6_signs 2 (some .boolean) rm_X6_signs σ0 [.ref o] (oI (fun r σ' => SH σ0 σ' ∧ Q r σ')) 0 0 := by
  refine metX_of (own := RX6) (lvs := [(0, .ref o)]) (by decide) rfl (Nat.le_of_ble_eq_true rfl) rfl (fun G rq => ?_)
  unfold wp_X6_signs at h
  refine x_aload_n dX6_signs_0 (n := 1) rfl rfl 0 rfl ?_
  refine x_bipush dX6_signs_1 (n := 3) rfl bp_41 ?_
  refine x_cVip (As := [.int 41]) (rest := []) cv_X6_176 ck0 (met_X6_isSign o σ0 41 hB0) hB0.1 (by decide) rfl rfl rfl dX6_signs_3 (n := 6) rfl (fun r2 q => ?_)
  subst q
  refine x_if_eq (tgt := 47) dX6_signs_6 rfl (n := 9) rfl (fun c3 => ?_) (fun c3 => ?_)
  · have h := h.1 c3
    exact x_sub [0] rfl (xj_X6_signs_47 o σ0 Q G hB0 rq σ0 (SH.rf (σ := σ0)) h)
  · have h := h.2 c3
    refine x_aload_n dX6_signs_9 (n := 10) rfl rfl 0 rfl ?_
    refine x_geti fl_X6_347_0 rfl hB0.1 rfl dX6_signs_10 (n := 13) rfl ?_
    refine x_if_le (tgt := 47) dX6_signs_13 rfl (n := 16) rfl (fun c4 => ?_) (fun c4 => ?_)
    · have h := h.1 c4
      exact x_sub [0] rfl (xj_X6_signs_47 o σ0 Q G hB0 rq σ0 (SH.rf (σ := σ0)) h)
    · have h := h.2 c4
      refine x_aload_n dX6_signs_16 (n := 17) rfl rfl 0 rfl ?_
      refine x_iconst dX6_signs_17 (n := 18) rfl ic_1 ?_
      refine x_cVvm (As := [.int 1]) (rest := []) cv_X6_366 ck0 (met_X6_bind o σ0 1 _ hB0 h) hB0.1 (by decide) rfl rfl rfl dX6_signs_18 (n := 21) rfl (fun  s5 hs6 h => ?_)
      have hs6t := (SH.rf (σ := σ0)).tr hs6; have hBs5 := hB0.sh hs6t
      refine x_aload_n dX6_signs_21 (n := 22) rfl rfl 0 rfl ?_
      refine x_dup dX6_signs_22 (n := 23) rfl rfl ?_
      refine x_geti fl_X6_333_0 rfl hBs5.1 rfl dX6_signs_23 (n := 26) rfl ?_
      refine x_iconst dX6_signs_26 (n := 27) rfl ic_1 ?_
      refine x_isub dX6_signs_27 (n := 28) rfl ?_
      refine x_puti fp_X6_333_0 rfl hBs5.1 dX6_signs_28 (n := 31) rfl ?_
      refine x_aload_n dX6_signs_31 (n := 32) rfl rfl 0 rfl ?_
      refine x_dup dX6_signs_32 (n := 33) rfl rfl ?_
      refine x_geti fl_X6_347_0 rfl hBs5.i.1 (gIn (by decide)) dX6_signs_33 (n := 36) rfl ?_
      refine x_iconst dX6_signs_36 (n := 37) rfl ic_1 ?_
      refine x_isub dX6_signs_37 (n := 38) rfl ?_
      refine x_puti fp_X6_347_0 rfl hBs5.i.1 dX6_signs_38 (n := 41) rfl ?_
      refine x_aload_n dX6_signs_41 (n := 42) rfl rfl 0 rfl ?_
      refine x_cVvm (As := []) (rest := []) cv_X6_173 ck0 (met_X6_token o (pI (pI s5 o 47 ((gI s5 o 47) - 1)) o 49 ((gI s5 o 49) - 1)) _ hBs5.i.i h) hBs5.i.i.1 (by decide) rfl rfl rfl dX6_signs_42 (n := 45) rfl (fun  s7 hs8 h => ?_)
      have hs8t := hs6t.i.i.tr hs8; have hBs7 := hB0.sh hs8t
      refine x_iconst dX6_signs_45 (n := 46) rfl ic_1 ?_
      exact x_zret rq ⟨hs8t, h⟩ isB1 dX6_signs_46
abbrev rm_X6_sumRead : Room := { frames := 3, cells := 0, slots := 0, locals := 68 }
def wj_X6_sumRead_48 (o : Nat) (σ : Hp)  (Q : Int32 → Hp → Prop) (K25 : (Hp) → Prop) : Prop := ((gI σ o 51) = 0 → wp_X6_signs o σ (fun r11 s9 => (r11 = 0 → Q 0 s9) ∧ (¬ r11 = 0 → K25 s9))) ∧ (¬ (gI σ o 51) = 0 → wp_X6_leafRead o σ (fun r15 s13 => (r15 = 0 → Q 0 s13) ∧ (¬ r15 = 0 → K25 s13)))
def lb_X6_sumRead_25 (o : Nat)  (Q : Int32 → Hp → Prop)  (K25 : Hp → Prop) (σ : Hp) : Prop := ((f_X6_isSign o σ 59) = 0 → wj_X6_sumRead_48 o σ Q K25) ∧ (¬ (f_X6_isSign o σ 59) = 0 → ((gI σ o 51) = 0 → ((gI σ o 49) ≤ 0 → wp_X6_bind o σ 1 (fun  s6 => Q 1 s6)) ∧ (¬ (gI σ o 49) ≤ 0 → wj_X6_sumRead_48 o σ Q K25)) ∧ (¬ (gI σ o 51) = 0 → wj_X6_sumRead_48 o σ Q K25))
def wp_X6_sumRead (o : Nat) (σ0 : Hp) (Q : Int32 → Hp → Prop) : Prop := lp (lb_X6_sumRead_25 o Q) (pI (pI (pI (pI (pI σ0 o 47 0) o 48 0) o 49 0) o 51 1) o 52 1)
theorem xj_X6_sumRead_48 (o : Nat) (σ0 : Hp) (Q : Int32 → Hp → Prop) (G : XE) (hB0 : MB o σ0) (rq : RQ G 0 0 (oI (fun r σ' => SH σ0 σ' ∧ Q r σ'))) (σ : Hp)   (K25 : (Hp) → Prop) (hK25 : ∀ z : (Hp), SH σ0 z → K25 z → X G rm_X6_sumRead cX6_sumRead RX6 1 (some .boolean) z 0 0 25 [(0, .ref o)] []) (hs : SH σ0 σ) (h : wj_X6_sumRead_48 o σ Q K25) : X G rm_X6_sumRead cX6_sumRead RX6 1 (some .boolean) σ 0 0 48 [(0, .ref o)] [] := by
  have hs : SH σ0 σ := hs
  have hB := hB0.sh hs
  unfold wj_X6_sumRead_48 at h
  refine x_aload_n dX6_sumRead_48 (n := 49) rfl rfl 0 rfl ?_
  refine x_geti fl_X6_363_0 rfl hB.1 rfl dX6_sumRead_49 (n := 52) rfl ?_
  refine x_if_eq (tgt := 65) dX6_sumRead_52 rfl (n := 55) rfl (fun c8 => ?_) (fun c8 => ?_)
  · have h := h.1 c8
    refine x_aload_n dX6_sumRead_65 (n := 66) rfl rfl 0 rfl ?_
    refine x_cVim (As := []) (rest := []) cv_X6_372 ck0 (met_X6_signs o σ _ hB h) hB.1 (by decide) rfl rfl rfl dX6_sumRead_66 (n := 69) rfl (fun r11 s9 hs10 h => ?_)
    have hs10t := hs.tr hs10; have hBs9 := hB0.sh hs10t
    refine x_if_ne (tgt := 25) dX6_sumRead_69 rfl (n := 72) rfl (fun c12 => ?_) (fun c12 => ?_)
    · have h := h.2 c12
      exact x_sub [0] rfl (hK25 s9 hs10t h)
    · have h := h.1 c12
      refine x_iconst dX6_sumRead_72 (n := 73) rfl ic_0 ?_
      exact x_zret rq ⟨hs10t, h⟩ isB0 dX6_sumRead_73
  · have h := h.2 c8
    refine x_aload_n dX6_sumRead_55 (n := 56) rfl rfl 0 rfl ?_
    refine x_cVim (As := []) (rest := []) cv_X6_369 ck0 (met_X6_leafRead o σ _ hB h) hB.1 (by decide) rfl rfl rfl dX6_sumRead_56 (n := 59) rfl (fun r15 s13 hs14 h => ?_)
    have hs14t := hs.tr hs14; have hBs13 := hB0.sh hs14t
    refine x_if_eq (tgt := 72) dX6_sumRead_59 rfl (n := 62) rfl (fun c16 => ?_) (fun c16 => ?_)
    · have h := h.1 c16
      refine x_iconst dX6_sumRead_72 (n := 73) rfl ic_0 ?_
      exact x_zret rq ⟨hs14t, h⟩ isB0 dX6_sumRead_73
    · have h := h.2 c16
      refine x_goto (tgt := 25) dX6_sumRead_62 rfl ?_
      exact x_sub [0] rfl (hK25 s13 hs14t h)
theorem xl_X6_sumRead_25 (o : Nat) (σ0 : Hp) (Q : Int32 → Hp → Prop) (G : XE) (hB0 : MB o σ0) (rq : RQ G 0 0 (oI (fun r σ' => SH σ0 σ' ∧ Q r σ')))     : ∀ z : Hp, SH σ0 z → lp (lb_X6_sumRead_25 o  Q ) z → X G rm_X6_sumRead cX6_sumRead RX6 1 (some .boolean) z 0 0 25 [(0, .ref o)] [] := by
  intro z
  refine fun hs h => lp_X (P := fun z => SH σ0 z → X G rm_X6_sumRead cX6_sumRead RX6 1 (some .boolean) z 0 0 25 [(0, .ref o)] []) ?_ h hs
  intro K25 hK25 σ h hs
  have hs : SH σ0 σ := hs
  have hB := hB0.sh hs
  simp only [lb_X6_sumRead_25] at h
  show X G rm_X6_sumRead cX6_sumRead RX6 1 (some .boolean) σ 0 0 25 [(0, .ref o)] []
  have hK25 : ∀ z : (Hp), SH σ0 z → K25 z → X G rm_X6_sumRead cX6_sumRead RX6 1 (some .boolean) z 0 0 25 [(0, .ref o)] [] := fun z hs h => hK25 z h hs
  refine x_aload_n dX6_sumRead_25 (n := 26) rfl rfl 0 rfl ?_
  refine x_bipush dX6_sumRead_26 (n := 28) rfl bp_59 ?_
  refine x_cVip (As := [.int 59]) (rest := []) cv_X6_176 ck0 (met_X6_isSign o σ 59 hB) hB.1 (by decide) rfl rfl rfl dX6_sumRead_28 (n := 31) rfl (fun r2 q => ?_)
  subst q
  refine x_if_eq (tgt := 48) dX6_sumRead_31 rfl (n := 34) rfl (fun c3 => ?_) (fun c3 => ?_)
  · have h := h.1 c3
    exact x_sub [0] rfl (xj_X6_sumRead_48 o σ0 Q G hB0 rq σ K25 hK25 hs h)
  · have h := h.2 c3
    refine x_aload_n dX6_sumRead_34 (n := 35) rfl rfl 0 rfl ?_
    refine x_geti fl_X6_363_0 rfl hB.1 rfl dX6_sumRead_35 (n := 38) rfl ?_
    refine x_if_ne (tgt := 48) dX6_sumRead_38 rfl (n := 41) rfl (fun c4 => ?_) (fun c4 => ?_)
    · have h := h.2 c4
      exact x_sub [0] rfl (xj_X6_sumRead_48 o σ0 Q G hB0 rq σ K25 hK25 hs h)
    · have h := h.1 c4
      refine x_aload_n dX6_sumRead_41 (n := 42) rfl rfl 0 rfl ?_
      refine x_geti fl_X6_347_0 rfl hB.1 rfl dX6_sumRead_42 (n := 45) rfl ?_
      refine x_if_le (tgt := 74) dX6_sumRead_45 rfl (n := 48) rfl (fun c5 => ?_) (fun c5 => ?_)
      · have h := h.1 c5
        refine x_aload_n dX6_sumRead_74 (n := 75) rfl rfl 0 rfl ?_
        refine x_iconst dX6_sumRead_75 (n := 76) rfl ic_1 ?_
        refine x_cVvm (As := [.int 1]) (rest := []) cv_X6_366 ck0 (met_X6_bind o σ 1 _ hB h) hB.1 (by decide) rfl rfl rfl dX6_sumRead_76 (n := 79) rfl (fun  s6 hs7 h => ?_)
        have hs7t := hs.tr hs7; have hBs6 := hB0.sh hs7t
        refine x_iconst dX6_sumRead_79 (n := 80) rfl ic_1 ?_
        exact x_zret rq ⟨hs7t, h⟩ isB1 dX6_sumRead_80
      · have h := h.2 c5
        exact x_sub [0] rfl (xj_X6_sumRead_48 o σ0 Q G hB0 rq σ K25 hK25 hs h)
theorem met_X6_sumRead (o : Nat) (σ0 : Hp) (Q : Int32 → Hp → Prop) (hB0 : MB o σ0) (h : wp_X6_sumRead o σ0 Q) : MetX yX6_sumRead cX6_sumRead 1 (some .boolean) rm_X6_sumRead σ0 [.ref o] (oI (fun r σ' => SH σ0 σ' ∧ Q r σ')) 0 0 := by
  refine metX_of (own := RX6) (lvs := [(0, .ref o)]) (by decide) rfl (Nat.le_of_ble_eq_true rfl) rfl (fun G rq => ?_)
  unfold wp_X6_sumRead at h
  refine x_aload_n dX6_sumRead_0 (n := 1) rfl rfl 0 rfl ?_
  refine x_iconst dX6_sumRead_1 (n := 2) rfl ic_0 ?_
  refine x_puti fp_X6_333_0 rfl hB0.1 dX6_sumRead_2 (n := 5) rfl ?_
  refine x_aload_n dX6_sumRead_5 (n := 6) rfl rfl 0 rfl ?_
  refine x_iconst dX6_sumRead_6 (n := 7) rfl ic_0 ?_
  refine x_puti fp_X6_330_0 rfl hB0.i.1 dX6_sumRead_7 (n := 10) rfl ?_
  refine x_aload_n dX6_sumRead_10 (n := 11) rfl rfl 0 rfl ?_
  refine x_iconst dX6_sumRead_11 (n := 12) rfl ic_0 ?_
  refine x_puti fp_X6_347_0 rfl hB0.i.i.1 dX6_sumRead_12 (n := 15) rfl ?_
  refine x_aload_n dX6_sumRead_15 (n := 16) rfl rfl 0 rfl ?_
  refine x_iconst dX6_sumRead_16 (n := 17) rfl ic_1 ?_
  refine x_putz fp_X6_363_0 rfl hB0.i.i.i.1 isB1 dX6_sumRead_17 (n := 20) rfl ?_
  refine x_aload_n dX6_sumRead_20 (n := 21) rfl rfl 0 rfl ?_
  refine x_iconst dX6_sumRead_21 (n := 22) rfl ic_1 ?_
  refine x_putz fp_X6_354_0 rfl hB0.i.i.i.i.1 isB1 dX6_sumRead_22 (n := 25) rfl ?_
  exact x_sub [0] rfl (xl_X6_sumRead_25 o σ0 Q G hB0 rq (pI (pI (pI (pI (pI σ0 o 47 0) o 48 0) o 49 0) o 51 1) o 52 1) (SH.rf (σ := σ0)).i.i.i.i.i h)
abbrev rm_X6_feastLine : Room := { frames := 4, cells := 0, slots := 0, locals := 88 }
def wp_X6_feastLine (o : Nat) (σ0 : Hp) (Q : Int32 → Hp → Prop) : Prop := ((gI σ0 o 19) = 4 → ∀ (r18 : Int32) (s14 : Hp), (r18, s14) = f_X6_wrong o σ0 2 → (r18 = 0 ∨ r18 = 1) ∧ (Q r18 s14)) ∧ (¬ (gI σ0 o 19) = 4 → wp_X6_token o σ0 (fun  s2 => wp_X6_newName o s2 (o + 6) 8 4 (gI s2 o 19) (fun r6 s4 => (r6 = 0 → Q 0 s4) ∧ (¬ r6 = 0 → (vp_in (4 + (gI s4 o 19)) 8) ∧ (wp_X6_sumRead o (pI s4 (o + 7) (4 + (gI s4 o 19)).toNatClampNeg (gI s4 o 23)) (fun r11 s9 => (r11 = 0 → Q 0 s9) ∧ (¬ r11 = 0 → (vp_in (4 + (gI s9 o 19)) 8) ∧ (Q 1 (pI (pI s9 (o + 8) (4 + (gI s9 o 19)).toNatClampNeg (gI s9 o 23)) o 19 ((gI s9 o 19) + 1))))))))))
theorem met_X6_feastLine (o : Nat) (σ0 : Hp) (Q : Int32 → Hp → Prop) (hB0 : MB o σ0) (h : wp_X6_feastLine o σ0 Q) : MetX yX6_feastLine cX6_feastLine 1 (some .boolean) rm_X6_feastLine σ0 [.ref o] (oI (fun r σ' => SH σ0 σ' ∧ Q r σ')) 0 0 := by
  refine metX_of (own := RX6) (lvs := [(0, .ref o)]) (by decide) rfl (Nat.le_of_ble_eq_true rfl) rfl (fun G rq => ?_)
  unfold wp_X6_feastLine at h
  refine x_aload_n dX6_feastLine_0 (n := 1) rfl rfl 0 rfl ?_
  refine x_geti fl_X6_189_0 rfl hB0.1 rfl dX6_feastLine_1 (n := 4) rfl ?_
  refine x_iconst dX6_feastLine_4 (n := 5) rfl ic_4 ?_
  refine x_icmp_ne (tgt := 14) dX6_feastLine_5 rfl (n := 8) rfl (fun c1 => ?_) (fun c1 => ?_)
  · have h := h.2 c1
    refine x_aload_n dX6_feastLine_14 (n := 15) rfl rfl 0 rfl ?_
    refine x_cVvm (As := []) (rest := []) cv_X6_173 ck0 (met_X6_token o σ0 _ hB0 h) hB0.1 (by decide) rfl rfl rfl dX6_feastLine_15 (n := 18) rfl (fun  s2 hs3 h => ?_)
    have hs3t := (SH.rf (σ := σ0)).tr hs3; have hBs2 := hB0.sh hs3t
    refine x_aload_n dX6_feastLine_18 (n := 19) rfl rfl 0 rfl ?_
    refine x_aload_n dX6_feastLine_19 (n := 20) rfl rfl 0 rfl ?_
    refine x_getr fl_X6_29_0 rfl hBs2.1 hBs2.r30 dX6_feastLine_20 (n := 23) rfl ?_
    refine x_iconst dX6_feastLine_23 (n := 24) rfl ic_4 ?_
    refine x_aload_n dX6_feastLine_24 (n := 25) rfl rfl 0 rfl ?_
    refine x_geti fl_X6_189_0 rfl hBs2.1 rfl dX6_feastLine_25 (n := 28) rfl ?_
    refine x_cVim (As := [.ref (o + 6), .int 4, .int (gI s2 o 19)]) (rest := []) cv_X6_259 ck0 (met_X6_newName o s2 (o + 6) 8 4 (gI s2 o 19) _ hBs2 hBs2.a30 h) hBs2.1 (by decide) rfl rfl rfl dX6_feastLine_28 (n := 31) rfl (fun r6 s4 hs5 h => ?_)
    have hs5t := hs3t.tr hs5; have hBs4 := hB0.sh hs5t
    refine x_if_ne (tgt := 36) dX6_feastLine_31 rfl (n := 34) rfl (fun c7 => ?_) (fun c7 => ?_)
    · have h := h.2 c7
      refine x_aload_n dX6_feastLine_36 (n := 37) rfl rfl 0 rfl ?_
      refine x_getr fl_X6_32_0 rfl hBs4.1 hBs4.r31 dX6_feastLine_37 (n := 40) rfl ?_
      refine x_iconst dX6_feastLine_40 (n := 41) rfl ic_4 ?_
      refine x_aload_n dX6_feastLine_41 (n := 42) rfl rfl 0 rfl ?_
      refine x_geti fl_X6_189_0 rfl hBs4.1 rfl dX6_feastLine_42 (n := 45) rfl ?_
      refine x_iadd dX6_feastLine_45 (n := 46) rfl ?_
      refine x_aload_n dX6_feastLine_46 (n := 47) rfl rfl 0 rfl ?_
      refine x_geti fl_X6_201_0 rfl hBs4.1 rfl dX6_feastLine_47 (n := 50) rfl ?_
      obtain ⟨b8, h⟩ := h
      refine x_iast hBs4.a31 b8 rfl dX6_feastLine_50 (n := 51) rfl ?_
      refine x_aload_n dX6_feastLine_51 (n := 52) rfl rfl 0 rfl ?_
      refine x_cVim (As := []) (rest := []) cv_X6_269 ck0 (met_X6_sumRead o (pI s4 (o + 7) (4 + (gI s4 o 19)).toNatClampNeg (gI s4 o 23)) _ hBs4.i h) hBs4.i.1 (by decide) rfl rfl rfl dX6_feastLine_52 (n := 55) rfl (fun r11 s9 hs10 h => ?_)
      have hs10t := hs5t.i.tr hs10; have hBs9 := hB0.sh hs10t
      refine x_if_ne (tgt := 60) dX6_feastLine_55 rfl (n := 58) rfl (fun c12 => ?_) (fun c12 => ?_)
      · have h := h.2 c12
        refine x_aload_n dX6_feastLine_60 (n := 61) rfl rfl 0 rfl ?_
        refine x_getr fl_X6_35_0 rfl hBs9.1 hBs9.r32 dX6_feastLine_61 (n := 64) rfl ?_
        refine x_iconst dX6_feastLine_64 (n := 65) rfl ic_4 ?_
        refine x_aload_n dX6_feastLine_65 (n := 66) rfl rfl 0 rfl ?_
        refine x_geti fl_X6_189_0 rfl hBs9.1 rfl dX6_feastLine_66 (n := 69) rfl ?_
        refine x_iadd dX6_feastLine_69 (n := 70) rfl ?_
        refine x_aload_n dX6_feastLine_70 (n := 71) rfl rfl 0 rfl ?_
        refine x_geti fl_X6_201_0 rfl hBs9.1 rfl dX6_feastLine_71 (n := 74) rfl ?_
        obtain ⟨b13, h⟩ := h
        refine x_iast hBs9.a32 b13 rfl dX6_feastLine_74 (n := 75) rfl ?_
        refine x_aload_n dX6_feastLine_75 (n := 76) rfl rfl 0 rfl ?_
        refine x_dup dX6_feastLine_76 (n := 77) rfl rfl ?_
        refine x_geti fl_X6_189_0 rfl hBs9.i.1 (gIo (by omega)) dX6_feastLine_77 (n := 80) rfl ?_
        refine x_iconst dX6_feastLine_80 (n := 81) rfl ic_1 ?_
        refine x_iadd dX6_feastLine_81 (n := 82) rfl ?_
        refine x_puti fp_X6_189_0 rfl hBs9.i.1 dX6_feastLine_82 (n := 85) rfl ?_
        refine x_iconst dX6_feastLine_85 (n := 86) rfl ic_1 ?_
        exact x_zret rq ⟨hs10t.i.i, h⟩ isB1 dX6_feastLine_86
      · have h := h.1 c12
        refine x_iconst dX6_feastLine_58 (n := 59) rfl ic_0 ?_
        exact x_zret rq ⟨hs10t, h⟩ isB0 dX6_feastLine_59
    · have h := h.1 c7
      refine x_iconst dX6_feastLine_34 (n := 35) rfl ic_0 ?_
      exact x_zret rq ⟨hs5t, h⟩ isB0 dX6_feastLine_35
  · have h := h.1 c1
    refine x_aload_n dX6_feastLine_8 (n := 9) rfl rfl 0 rfl ?_
    refine x_iconst dX6_feastLine_9 (n := 10) rfl ic_2 ?_
    refine x_cVim (As := [.int 2]) (rest := []) cv_X6_163 ck0 (met_X6_wrong o σ0 2 hB0) hB0.1 (by decide) rfl rfl rfl dX6_feastLine_10 (n := 13) rfl (fun r18 s14 hs15 e17 => ?_)
    have hs15t := (SH.rf (σ := σ0)).tr hs15; have hBs14 := hB0.sh hs15t
    have h := h r18 s14 e17
    obtain ⟨b19, h⟩ := h
    exact x_zret rq ⟨hs15t, h⟩ b19 dX6_feastLine_13
abbrev rm_X6_signed : Room := { frames := 3, cells := 0, slots := 0, locals := 69 }
def wj_X6_signed_15 (o : Nat) (σ : Hp) (x1 : Int32) (x2 : Int32) (Q : Int32 → Hp → Prop)  : Prop := wp_X6_number o σ 0 x1 (fun r8 s6 => (r8 = 0 → Q 0 s6) ∧ (¬ r8 = 0 → (x2 = 0 → Q 1 (pI s6 o 11 (gI s6 o 11))) ∧ (¬ x2 = 0 → Q 1 (pI s6 o 11 (-(gI s6 o 11))))))
def wp_X6_signed (o : Nat) (σ0 : Hp) (x1 : Int32) (Q : Int32 → Hp → Prop) : Prop := ((f_X6_isSign o σ0 45) = 0 → wj_X6_signed_15 o σ0 x1 (f_X6_isSign o σ0 45) Q) ∧ (¬ (f_X6_isSign o σ0 45) = 0 → wp_X6_token o σ0 (fun  s4 => wj_X6_signed_15 o s4 x1 (f_X6_isSign o σ0 45) Q))
theorem xj_X6_signed_15 (o : Nat) (σ0 : Hp) (Q : Int32 → Hp → Prop) (G : XE) (hB0 : MB o σ0) (rq : RQ G 0 0 (oI (fun r σ' => SH σ0 σ' ∧ Q r σ'))) (σ : Hp) (x1 : Int32) (x2 : Int32)    (hs : SH σ0 σ) (h : wj_X6_signed_15 o σ x1 x2 Q ) : X G rm_X6_signed cX6_signed RX6 3 (some .boolean) σ 0 0 15 [(0, .ref o), (1, .int x1), (2, .int x2)] [] := by
  have hs : SH σ0 σ := hs
  have hB := hB0.sh hs
  unfold wj_X6_signed_15 at h
  refine x_aload_n dX6_signed_15 (n := 16) rfl rfl 0 rfl ?_
  refine x_iconst dX6_signed_16 (n := 17) rfl ic_0 ?_
  refine x_iload_n dX6_signed_17 (n := 18) rfl rfl 1 rfl ?_
  refine x_cVim (As := [.int 0, .int x1]) (rest := []) cv_X6_179 ck0 (met_X6_number o σ 0 x1 _ hB h) hB.1 (by decide) rfl rfl rfl dX6_signed_18 (n := 21) rfl (fun r8 s6 hs7 h => ?_)
  have hs7t := hs.tr hs7; have hBs6 := hB0.sh hs7t
  refine x_if_ne (tgt := 26) dX6_signed_21 rfl (n := 24) rfl (fun c9 => ?_) (fun c9 => ?_)
  · have h := h.2 c9
    refine x_aload_n dX6_signed_26 (n := 27) rfl rfl 0 rfl ?_
    refine x_iload_n dX6_signed_27 (n := 28) rfl rfl 2 rfl ?_
    refine x_if_eq (tgt := 39) dX6_signed_28 rfl (n := 31) rfl (fun c10 => ?_) (fun c10 => ?_)
    · have h := h.1 c10
      refine x_aload_n dX6_signed_39 (n := 40) rfl rfl 0 rfl ?_
      refine x_geti fl_X6_170_0 rfl hBs6.1 rfl dX6_signed_40 (n := 43) rfl ?_
      refine x_puti fp_X6_170_0 rfl hBs6.1 dX6_signed_43 (n := 46) rfl ?_
      refine x_iconst dX6_signed_46 (n := 47) rfl ic_1 ?_
      exact x_zret rq ⟨hs7t.i, h⟩ isB1 dX6_signed_47
    · have h := h.2 c10
      refine x_aload_n dX6_signed_31 (n := 32) rfl rfl 0 rfl ?_
      refine x_geti fl_X6_170_0 rfl hBs6.1 rfl dX6_signed_32 (n := 35) rfl ?_
      refine x_ineg dX6_signed_35 (n := 36) rfl ?_
      refine x_goto (tgt := 43) dX6_signed_36 rfl ?_
      refine x_puti fp_X6_170_0 rfl hBs6.1 dX6_signed_43 (n := 46) rfl ?_
      refine x_iconst dX6_signed_46 (n := 47) rfl ic_1 ?_
      exact x_zret rq ⟨hs7t.i, h⟩ isB1 dX6_signed_47
  · have h := h.1 c9
    refine x_iconst dX6_signed_24 (n := 25) rfl ic_0 ?_
    exact x_zret rq ⟨hs7t, h⟩ isB0 dX6_signed_25
theorem met_X6_signed (o : Nat) (σ0 : Hp) (x1 : Int32) (Q : Int32 → Hp → Prop) (hB0 : MB o σ0) (h : wp_X6_signed o σ0 x1 Q) : MetX yX6_signed cX6_signed 3 (some .boolean) rm_X6_signed σ0 [.ref o, .int x1] (oI (fun r σ' => SH σ0 σ' ∧ Q r σ')) 0 0 := by
  refine metX_of (own := RX6) (lvs := [(0, .ref o), (1, .int x1)]) (by decide) rfl (Nat.le_of_ble_eq_true rfl) rfl (fun G rq => ?_)
  unfold wp_X6_signed at h
  refine x_aload_n dX6_signed_0 (n := 1) rfl rfl 0 rfl ?_
  refine x_bipush dX6_signed_1 (n := 3) rfl bp_45 ?_
  refine x_cVip (As := [.int 45]) (rest := []) cv_X6_176 ck0 (met_X6_isSign o σ0 45 hB0) hB0.1 (by decide) rfl rfl rfl dX6_signed_3 (n := 6) rfl (fun r2 q => ?_)
  subst q
  refine x_istore_n (lvs' := [(2, .int (f_X6_isSign o σ0 45)), (0, .ref o), (1, .int x1)]) dX6_signed_6 (n := 7) rfl rfl (by decide) rfl ?_
  refine x_iload_n dX6_signed_7 (n := 8) rfl rfl 0 rfl ?_
  refine x_if_eq (tgt := 15) dX6_signed_8 rfl (n := 11) rfl (fun c3 => ?_) (fun c3 => ?_)
  · have h := h.1 c3
    exact x_sub [1, 2, 0] rfl (xj_X6_signed_15 o σ0 Q G hB0 rq σ0 x1 (f_X6_isSign o σ0 45) (SH.rf (σ := σ0)) h)
  · have h := h.2 c3
    refine x_aload_n dX6_signed_11 (n := 12) rfl rfl 1 rfl ?_
    refine x_cVvm (As := []) (rest := []) cv_X6_173 ck0 (met_X6_token o σ0 _ hB0 h) hB0.1 (by decide) rfl rfl rfl dX6_signed_12 (n := 15) rfl (fun  s4 hs5 h => ?_)
    have hs5t := (SH.rf (σ := σ0)).tr hs5; have hBs4 := hB0.sh hs5t
    exact x_sub [1, 2, 0] rfl (xj_X6_signed_15 o σ0 Q G hB0 rq s4 x1 (f_X6_isSign o σ0 45) hs5t h)
abbrev rm_X6_landLine : Room := { frames := 4, cells := 0, slots := 0, locals := 91 }
def wp_X6_landLine (o : Nat) (σ0 : Hp) (Q : Int32 → Hp → Prop) : Prop := ((gI σ0 o 18) = 4 → ∀ (r33 : Int32) (s29 : Hp), (r33, s29) = f_X6_wrong o σ0 2 → (r33 = 0 ∨ r33 = 1) ∧ (Q r33 s29)) ∧ (¬ (gI σ0 o 18) = 4 → wp_X6_token o σ0 (fun  s2 => wp_X6_newName o s2 (o + 4) 8 4 (gI s2 o 18) (fun r6 s4 => (r6 = 0 → Q 0 s4) ∧ (¬ r6 = 0 → wp_X6_number o s4 1 9999 (fun r10 s8 => (r10 = 0 → Q 0 s8) ∧ (¬ r10 = 0 → (vp_in (12 + (3 * (gI s4 o 18))) 24) ∧ (wp_X6_signed o (pI s8 (o + 5) (12 + (3 * (gI s4 o 18))).toNatClampNeg (gI s8 o 11)) 99 (fun r15 s13 => (r15 = 0 → Q 0 s13) ∧ (¬ r15 = 0 → (vp_in ((12 + (3 * (gI s4 o 18))) + 1) 24) ∧ ((vp_in ((12 + (3 * (gI s4 o 18))) + 2) 24) ∧ (((f_X6_isKey o (pI (pI s13 (o + 5) ((12 + (3 * (gI s4 o 18))) + 1).toNatClampNeg (gI s13 o 11)) (o + 5) ((12 + (3 * (gI s4 o 18))) + 2).toNatClampNeg 0) 8) = 0 → Q 1 (pI (pI (pI s13 (o + 5) ((12 + (3 * (gI s4 o 18))) + 1).toNatClampNeg (gI s13 o 11)) (o + 5) ((12 + (3 * (gI s4 o 18))) + 2).toNatClampNeg 0) o 18 ((gI s13 o 18) + 1))) ∧ (¬ (f_X6_isKey o (pI (pI s13 (o + 5) ((12 + (3 * (gI s4 o 18))) + 1).toNatClampNeg (gI s13 o 11)) (o + 5) ((12 + (3 * (gI s4 o 18))) + 2).toNatClampNeg 0) 8) = 0 → wp_X6_token o (pI (pI s13 (o + 5) ((12 + (3 * (gI s4 o 18))) + 1).toNatClampNeg (gI s13 o 11)) (o + 5) ((12 + (3 * (gI s4 o 18))) + 2).toNatClampNeg 0) (fun  s22 => wp_X6_number o s22 0 99999 (fun r26 s24 => (r26 = 0 → Q 0 s24) ∧ (¬ r26 = 0 → (vp_in ((12 + (3 * (gI s4 o 18))) + 2) 24) ∧ (Q 1 (pI (pI s24 (o + 5) ((12 + (3 * (gI s4 o 18))) + 2).toNatClampNeg (gI s24 o 11)) o 18 ((gI s24 o 18) + 1))))))))))))))))))
theorem met_X6_landLine (o : Nat) (σ0 : Hp) (Q : Int32 → Hp → Prop) (hB0 : MB o σ0) (h : wp_X6_landLine o σ0 Q) : MetX yX6_landLine cX6_landLine 2 (some .boolean) rm_X6_landLine σ0 [.ref o] (oI (fun r σ' => SH σ0 σ' ∧ Q r σ')) 0 0 := by
  refine metX_of (own := RX6) (lvs := [(0, .ref o)]) (by decide) rfl (Nat.le_of_ble_eq_true rfl) rfl (fun G rq => ?_)
  unfold wp_X6_landLine at h
  refine x_aload_n dX6_landLine_0 (n := 1) rfl rfl 0 rfl ?_
  refine x_geti fl_X6_186_0 rfl hB0.1 rfl dX6_landLine_1 (n := 4) rfl ?_
  refine x_iconst dX6_landLine_4 (n := 5) rfl ic_4 ?_
  refine x_icmp_ne (tgt := 14) dX6_landLine_5 rfl (n := 8) rfl (fun c1 => ?_) (fun c1 => ?_)
  · have h := h.2 c1
    refine x_aload_n dX6_landLine_14 (n := 15) rfl rfl 0 rfl ?_
    refine x_cVvm (As := []) (rest := []) cv_X6_173 ck0 (met_X6_token o σ0 _ hB0 h) hB0.1 (by decide) rfl rfl rfl dX6_landLine_15 (n := 18) rfl (fun  s2 hs3 h => ?_)
    have hs3t := (SH.rf (σ := σ0)).tr hs3; have hBs2 := hB0.sh hs3t
    refine x_aload_n dX6_landLine_18 (n := 19) rfl rfl 0 rfl ?_
    refine x_aload_n dX6_landLine_19 (n := 20) rfl rfl 0 rfl ?_
    refine x_getr fl_X6_23_0 rfl hBs2.1 hBs2.r28 dX6_landLine_20 (n := 23) rfl ?_
    refine x_iconst dX6_landLine_23 (n := 24) rfl ic_4 ?_
    refine x_aload_n dX6_landLine_24 (n := 25) rfl rfl 0 rfl ?_
    refine x_geti fl_X6_186_0 rfl hBs2.1 rfl dX6_landLine_25 (n := 28) rfl ?_
    refine x_cVim (As := [.ref (o + 4), .int 4, .int (gI s2 o 18)]) (rest := []) cv_X6_259 ck0 (met_X6_newName o s2 (o + 4) 8 4 (gI s2 o 18) _ hBs2 hBs2.a28 h) hBs2.1 (by decide) rfl rfl rfl dX6_landLine_28 (n := 31) rfl (fun r6 s4 hs5 h => ?_)
    have hs5t := hs3t.tr hs5; have hBs4 := hB0.sh hs5t
    refine x_if_ne (tgt := 36) dX6_landLine_31 rfl (n := 34) rfl (fun c7 => ?_) (fun c7 => ?_)
    · have h := h.2 c7
      refine x_bipush dX6_landLine_36 (n := 38) rfl bp_12 ?_
      refine x_iconst dX6_landLine_38 (n := 39) rfl ic_3 ?_
      refine x_aload_n dX6_landLine_39 (n := 40) rfl rfl 0 rfl ?_
      refine x_geti fl_X6_186_0 rfl hBs4.1 rfl dX6_landLine_40 (n := 43) rfl ?_
      refine x_imul dX6_landLine_43 (n := 44) rfl ?_
      refine x_iadd dX6_landLine_44 (n := 45) rfl ?_
      refine x_istore_n (lvs' := [(1, .int (12 + (3 * (gI s4 o 18)))), (0, .ref o)]) dX6_landLine_45 (n := 46) rfl rfl (by decide) rfl ?_
      refine x_aload_n dX6_landLine_46 (n := 47) rfl rfl 1 rfl ?_
      refine x_iconst dX6_landLine_47 (n := 48) rfl ic_1 ?_
      refine x_sipush dX6_landLine_48 (n := 51) rfl sp_9999 ?_
      refine x_cVim (As := [.int 1, .int 9999]) (rest := []) cv_X6_179 ck0 (met_X6_number o s4 1 9999 _ hBs4 h) hBs4.1 (by decide) rfl rfl rfl dX6_landLine_51 (n := 54) rfl (fun r10 s8 hs9 h => ?_)
      have hs9t := hs5t.tr hs9; have hBs8 := hB0.sh hs9t
      refine x_if_ne (tgt := 59) dX6_landLine_54 rfl (n := 57) rfl (fun c11 => ?_) (fun c11 => ?_)
      · have h := h.2 c11
        refine x_aload_n dX6_landLine_59 (n := 60) rfl rfl 1 rfl ?_
        refine x_getr fl_X6_26_0 rfl hBs8.1 hBs8.r29 dX6_landLine_60 (n := 63) rfl ?_
        refine x_iload_n dX6_landLine_63 (n := 64) rfl rfl 0 rfl ?_
        refine x_aload_n dX6_landLine_64 (n := 65) rfl rfl 1 rfl ?_
        refine x_geti fl_X6_170_0 rfl hBs8.1 rfl dX6_landLine_65 (n := 68) rfl ?_
        obtain ⟨b12, h⟩ := h
        refine x_iast hBs8.a29 b12 rfl dX6_landLine_68 (n := 69) rfl ?_
        refine x_aload_n dX6_landLine_69 (n := 70) rfl rfl 1 rfl ?_
        refine x_bipush dX6_landLine_70 (n := 72) rfl bp_99 ?_
        refine x_cVim (As := [.int 99]) (rest := []) cv_X6_263 ck0 (met_X6_signed o (pI s8 (o + 5) (12 + (3 * (gI s4 o 18))).toNatClampNeg (gI s8 o 11)) 99 _ hBs8.i h) hBs8.i.1 (by decide) rfl rfl rfl dX6_landLine_72 (n := 75) rfl (fun r15 s13 hs14 h => ?_)
        have hs14t := hs9t.i.tr hs14; have hBs13 := hB0.sh hs14t
        refine x_if_ne (tgt := 80) dX6_landLine_75 rfl (n := 78) rfl (fun c16 => ?_) (fun c16 => ?_)
        · have h := h.2 c16
          refine x_aload_n dX6_landLine_80 (n := 81) rfl rfl 1 rfl ?_
          refine x_getr fl_X6_26_0 rfl hBs13.1 hBs13.r29 dX6_landLine_81 (n := 84) rfl ?_
          refine x_iload_n dX6_landLine_84 (n := 85) rfl rfl 0 rfl ?_
          refine x_iconst dX6_landLine_85 (n := 86) rfl ic_1 ?_
          refine x_iadd dX6_landLine_86 (n := 87) rfl ?_
          refine x_aload_n dX6_landLine_87 (n := 88) rfl rfl 1 rfl ?_
          refine x_geti fl_X6_170_0 rfl hBs13.1 rfl dX6_landLine_88 (n := 91) rfl ?_
          obtain ⟨b17, h⟩ := h
          refine x_iast hBs13.a29 b17 rfl dX6_landLine_91 (n := 92) rfl ?_
          refine x_aload_n dX6_landLine_92 (n := 93) rfl rfl 1 rfl ?_
          refine x_getr fl_X6_26_0 rfl hBs13.i.1 hBs13.i.r29 dX6_landLine_93 (n := 96) rfl ?_
          refine x_iload_n dX6_landLine_96 (n := 97) rfl rfl 0 rfl ?_
          refine x_iconst dX6_landLine_97 (n := 98) rfl ic_2 ?_
          refine x_iadd dX6_landLine_98 (n := 99) rfl ?_
          refine x_iconst dX6_landLine_99 (n := 100) rfl ic_0 ?_
          obtain ⟨b18, h⟩ := h
          refine x_iast hBs13.i.a29 b18 rfl dX6_landLine_100 (n := 101) rfl ?_
          refine x_aload_n dX6_landLine_101 (n := 102) rfl rfl 1 rfl ?_
          refine x_bipush dX6_landLine_102 (n := 104) rfl bp_8 ?_
          refine x_cVip (As := [.int 8]) (rest := []) cv_X6_183 ck0 (met_X6_isKey o (pI (pI s13 (o + 5) ((12 + (3 * (gI s4 o 18))) + 1).toNatClampNeg (gI s13 o 11)) (o + 5) ((12 + (3 * (gI s4 o 18))) + 2).toNatClampNeg 0) 8 hBs13.i.i) hBs13.i.i.1 (by decide) rfl rfl rfl dX6_landLine_104 (n := 107) rfl (fun r20 q => ?_)
          subst q
          refine x_if_eq (tgt := 138) dX6_landLine_107 rfl (n := 110) rfl (fun c21 => ?_) (fun c21 => ?_)
          · have h := h.1 c21
            refine x_aload_n dX6_landLine_138 (n := 139) rfl rfl 1 rfl ?_
            refine x_dup dX6_landLine_139 (n := 140) rfl rfl ?_
            refine x_geti fl_X6_186_0 rfl hBs13.i.i.1 ((gIo (by omega)).trans (gIo (by omega))) dX6_landLine_140 (n := 143) rfl ?_
            refine x_iconst dX6_landLine_143 (n := 144) rfl ic_1 ?_
            refine x_iadd dX6_landLine_144 (n := 145) rfl ?_
            refine x_puti fp_X6_186_0 rfl hBs13.i.i.1 dX6_landLine_145 (n := 148) rfl ?_
            refine x_iconst dX6_landLine_148 (n := 149) rfl ic_1 ?_
            exact x_zret rq ⟨hs14t.i.i.i, h⟩ isB1 dX6_landLine_149
          · have h := h.2 c21
            refine x_aload_n dX6_landLine_110 (n := 111) rfl rfl 1 rfl ?_
            refine x_cVvm (As := []) (rest := []) cv_X6_173 ck0 (met_X6_token o (pI (pI s13 (o + 5) ((12 + (3 * (gI s4 o 18))) + 1).toNatClampNeg (gI s13 o 11)) (o + 5) ((12 + (3 * (gI s4 o 18))) + 2).toNatClampNeg 0) _ hBs13.i.i h) hBs13.i.i.1 (by decide) rfl rfl rfl dX6_landLine_111 (n := 114) rfl (fun  s22 hs23 h => ?_)
            have hs23t := hs14t.i.i.tr hs23; have hBs22 := hB0.sh hs23t
            refine x_aload_n dX6_landLine_114 (n := 115) rfl rfl 1 rfl ?_
            refine x_iconst dX6_landLine_115 (n := 116) rfl ic_0 ?_
            refine x_ldc dX6_landLine_116 (n := 118) rfl q1786 ?_
            refine x_cVim (As := [.int 0, .int 99999]) (rest := []) cv_X6_179 ck0 (met_X6_number o s22 0 99999 _ hBs22 h) hBs22.1 (by decide) rfl rfl rfl dX6_landLine_118 (n := 121) rfl (fun r26 s24 hs25 h => ?_)
            have hs25t := hs23t.tr hs25; have hBs24 := hB0.sh hs25t
            refine x_if_ne (tgt := 126) dX6_landLine_121 rfl (n := 124) rfl (fun c27 => ?_) (fun c27 => ?_)
            · have h := h.2 c27
              refine x_aload_n dX6_landLine_126 (n := 127) rfl rfl 1 rfl ?_
              refine x_getr fl_X6_26_0 rfl hBs24.1 hBs24.r29 dX6_landLine_127 (n := 130) rfl ?_
              refine x_iload_n dX6_landLine_130 (n := 131) rfl rfl 0 rfl ?_
              refine x_iconst dX6_landLine_131 (n := 132) rfl ic_2 ?_
              refine x_iadd dX6_landLine_132 (n := 133) rfl ?_
              refine x_aload_n dX6_landLine_133 (n := 134) rfl rfl 1 rfl ?_
              refine x_geti fl_X6_170_0 rfl hBs24.1 rfl dX6_landLine_134 (n := 137) rfl ?_
              obtain ⟨b28, h⟩ := h
              refine x_iast hBs24.a29 b28 rfl dX6_landLine_137 (n := 138) rfl ?_
              refine x_aload_n dX6_landLine_138 (n := 139) rfl rfl 1 rfl ?_
              refine x_dup dX6_landLine_139 (n := 140) rfl rfl ?_
              refine x_geti fl_X6_186_0 rfl hBs24.i.1 (gIo (by omega)) dX6_landLine_140 (n := 143) rfl ?_
              refine x_iconst dX6_landLine_143 (n := 144) rfl ic_1 ?_
              refine x_iadd dX6_landLine_144 (n := 145) rfl ?_
              refine x_puti fp_X6_186_0 rfl hBs24.i.1 dX6_landLine_145 (n := 148) rfl ?_
              refine x_iconst dX6_landLine_148 (n := 149) rfl ic_1 ?_
              exact x_zret rq ⟨hs25t.i.i, h⟩ isB1 dX6_landLine_149
            · have h := h.1 c27
              refine x_iconst dX6_landLine_124 (n := 125) rfl ic_0 ?_
              exact x_zret rq ⟨hs25t, h⟩ isB0 dX6_landLine_125
        · have h := h.1 c16
          refine x_iconst dX6_landLine_78 (n := 79) rfl ic_0 ?_
          exact x_zret rq ⟨hs14t, h⟩ isB0 dX6_landLine_79
      · have h := h.1 c11
        refine x_iconst dX6_landLine_57 (n := 58) rfl ic_0 ?_
        exact x_zret rq ⟨hs9t, h⟩ isB0 dX6_landLine_58
    · have h := h.1 c7
      refine x_iconst dX6_landLine_34 (n := 35) rfl ic_0 ?_
      exact x_zret rq ⟨hs5t, h⟩ isB0 dX6_landLine_35
  · have h := h.1 c1
    refine x_aload_n dX6_landLine_8 (n := 9) rfl rfl 0 rfl ?_
    refine x_iconst dX6_landLine_9 (n := 10) rfl ic_2 ?_
    refine x_cVim (As := [.int 2]) (rest := []) cv_X6_163 ck0 (met_X6_wrong o σ0 2 hB0) hB0.1 (by decide) rfl rfl rfl dX6_landLine_10 (n := 13) rfl (fun r33 s29 hs30 e32 => ?_)
    have hs30t := (SH.rf (σ := σ0)).tr hs30; have hBs29 := hB0.sh hs30t
    have h := h r33 s29 e32
    obtain ⟨b34, h⟩ := h
    exact x_zret rq ⟨hs30t, h⟩ b34 dX6_landLine_13
abbrev rm_X6_roundRead : Room := { frames := 3, cells := 0, slots := 0, locals := 69 }
def wj_X6_roundRead_53 (o : Nat) (σ : Hp) (x1 : Int32) (w0 : Int32) (Q : Int32 → Hp → Prop)  : Prop := wp_X6_number o σ 1 w0 (fun r11 s9 => (r11 = 0 → Q 0 s9) ∧ (¬ r11 = 0 → (vp_in (x1 + 1) 14) ∧ (Q 1 (pI s9 (o + 3) (x1 + 1).toNatClampNeg (gI s9 o 11)))))
def wp_X6_roundRead (o : Nat) (σ0 : Hp) (x1 : Int32) (Q : Int32 → Hp → Prop) : Prop := wp_X6_number o σ0 1 9999 (fun r3 s1 => (r3 = 0 → Q 0 s1) ∧ (¬ r3 = 0 → (vp_in x1 14) ∧ ((vp_in x1 14) ∧ ((99 ≤ ((gI (pI s1 (o + 3) x1.toNatClampNeg (gI s1 o 11)) (o + 3) x1.toNatClampNeg) / 8) → wj_X6_roundRead_53 o (pI s1 (o + 3) x1.toNatClampNeg (gI s1 o 11)) x1 99 Q) ∧ (¬ 99 ≤ ((gI (pI s1 (o + 3) x1.toNatClampNeg (gI s1 o 11)) (o + 3) x1.toNatClampNeg) / 8) → (vp_in x1 14) ∧ (wj_X6_roundRead_53 o (pI s1 (o + 3) x1.toNatClampNeg (gI s1 o 11)) x1 ((gI (pI s1 (o + 3) x1.toNatClampNeg (gI s1 o 11)) (o + 3) x1.toNatClampNeg) / 8) Q))))))
theorem xj_X6_roundRead_53 (o : Nat) (σ0 : Hp) (Q : Int32 → Hp → Prop) (G : XE) (hB0 : MB o σ0) (rq : RQ G 0 0 (oI (fun r σ' => SH σ0 σ' ∧ Q r σ'))) (σ : Hp) (x1 : Int32) (w0 : Int32)    (hs : SH σ0 σ) (h : wj_X6_roundRead_53 o σ x1 w0 Q ) : X G rm_X6_roundRead cX6_roundRead RX6 2 (some .boolean) σ 0 0 53 [(0, .ref o), (1, .int x1)] [.int w0, .int 1, .ref o] := by
  have hs : SH σ0 σ := hs
  have hB := hB0.sh hs
  unfold wj_X6_roundRead_53 at h
  refine x_cVim (As := [.int 1, .int w0]) (rest := []) cv_X6_179 ck0 (met_X6_number o σ 1 w0 _ hB h) hB.1 (by decide) rfl rfl rfl dX6_roundRead_53 (n := 56) rfl (fun r11 s9 hs10 h => ?_)
  have hs10t := hs.tr hs10; have hBs9 := hB0.sh hs10t
  refine x_if_ne (tgt := 61) dX6_roundRead_56 rfl (n := 59) rfl (fun c12 => ?_) (fun c12 => ?_)
  · have h := h.2 c12
    refine x_aload_n dX6_roundRead_61 (n := 62) rfl rfl 0 rfl ?_
    refine x_getr fl_X6_20_0 rfl hBs9.1 hBs9.r24 dX6_roundRead_62 (n := 65) rfl ?_
    refine x_iload_n dX6_roundRead_65 (n := 66) rfl rfl 1 rfl ?_
    refine x_iconst dX6_roundRead_66 (n := 67) rfl ic_1 ?_
    refine x_iadd dX6_roundRead_67 (n := 68) rfl ?_
    refine x_aload_n dX6_roundRead_68 (n := 69) rfl rfl 0 rfl ?_
    refine x_geti fl_X6_170_0 rfl hBs9.1 rfl dX6_roundRead_69 (n := 72) rfl ?_
    obtain ⟨b13, h⟩ := h
    refine x_iast hBs9.a24 b13 rfl dX6_roundRead_72 (n := 73) rfl ?_
    refine x_iconst dX6_roundRead_73 (n := 74) rfl ic_1 ?_
    exact x_zret rq ⟨hs10t.i, h⟩ isB1 dX6_roundRead_74
  · have h := h.1 c12
    refine x_iconst dX6_roundRead_59 (n := 60) rfl ic_0 ?_
    exact x_zret rq ⟨hs10t, h⟩ isB0 dX6_roundRead_60
theorem met_X6_roundRead (o : Nat) (σ0 : Hp) (x1 : Int32) (Q : Int32 → Hp → Prop) (hB0 : MB o σ0) (h : wp_X6_roundRead o σ0 x1 Q) : MetX yX6_roundRead cX6_roundRead 2 (some .boolean) rm_X6_roundRead σ0 [.ref o, .int x1] (oI (fun r σ' => SH σ0 σ' ∧ Q r σ')) 0 0 := by
  refine metX_of (own := RX6) (lvs := [(0, .ref o), (1, .int x1)]) (by decide) rfl (Nat.le_of_ble_eq_true rfl) rfl (fun G rq => ?_)
  unfold wp_X6_roundRead at h
  refine x_aload_n dX6_roundRead_0 (n := 1) rfl rfl 0 rfl ?_
  refine x_iconst dX6_roundRead_1 (n := 2) rfl ic_1 ?_
  refine x_sipush dX6_roundRead_2 (n := 5) rfl sp_9999 ?_
  refine x_cVim (As := [.int 1, .int 9999]) (rest := []) cv_X6_179 ck0 (met_X6_number o σ0 1 9999 _ hB0 h) hB0.1 (by decide) rfl rfl rfl dX6_roundRead_5 (n := 8) rfl (fun r3 s1 hs2 h => ?_)
  have hs2t := (SH.rf (σ := σ0)).tr hs2; have hBs1 := hB0.sh hs2t
  refine x_if_ne (tgt := 13) dX6_roundRead_8 rfl (n := 11) rfl (fun c4 => ?_) (fun c4 => ?_)
  · have h := h.2 c4
    refine x_aload_n dX6_roundRead_13 (n := 14) rfl rfl 0 rfl ?_
    refine x_getr fl_X6_20_0 rfl hBs1.1 hBs1.r24 dX6_roundRead_14 (n := 17) rfl ?_
    refine x_iload_n dX6_roundRead_17 (n := 18) rfl rfl 1 rfl ?_
    refine x_aload_n dX6_roundRead_18 (n := 19) rfl rfl 0 rfl ?_
    refine x_geti fl_X6_170_0 rfl hBs1.1 rfl dX6_roundRead_19 (n := 22) rfl ?_
    obtain ⟨b5, h⟩ := h
    refine x_iast hBs1.a24 b5 rfl dX6_roundRead_22 (n := 23) rfl ?_
    refine x_aload_n dX6_roundRead_23 (n := 24) rfl rfl 0 rfl ?_
    refine x_iconst dX6_roundRead_24 (n := 25) rfl ic_1 ?_
    refine x_aload_n dX6_roundRead_25 (n := 26) rfl rfl 0 rfl ?_
    refine x_getr fl_X6_20_0 rfl hBs1.i.1 hBs1.i.r24 dX6_roundRead_26 (n := 29) rfl ?_
    refine x_iload_n dX6_roundRead_29 (n := 30) rfl rfl 1 rfl ?_
    obtain ⟨b6, h⟩ := h
    refine x_iald hBs1.i.a24 b6 rfl dX6_roundRead_30 (n := 31) rfl ?_
    refine x_bipush dX6_roundRead_31 (n := 33) rfl bp_8 ?_
    refine x_idiv dX6_roundRead_33 (n := 34) rfl (by decide) ?_
    refine x_bipush dX6_roundRead_34 (n := 36) rfl bp_99 ?_
    refine x_icmp_ge (tgt := 51) dX6_roundRead_36 rfl (n := 39) rfl (fun c7 => ?_) (fun c7 => ?_)
    · have h := h.1 c7
      refine x_bipush dX6_roundRead_51 (n := 53) rfl bp_99 ?_
      exact x_sub [0, 1] rfl (xj_X6_roundRead_53 o σ0 Q G hB0 rq (pI s1 (o + 3) x1.toNatClampNeg (gI s1 o 11)) x1 99 hs2t.i h)
    · have h := h.2 c7
      refine x_aload_n dX6_roundRead_39 (n := 40) rfl rfl 0 rfl ?_
      refine x_getr fl_X6_20_0 rfl hBs1.i.1 hBs1.i.r24 dX6_roundRead_40 (n := 43) rfl ?_
      refine x_iload_n dX6_roundRead_43 (n := 44) rfl rfl 1 rfl ?_
      obtain ⟨b8, h⟩ := h
      refine x_iald hBs1.i.a24 b8 rfl dX6_roundRead_44 (n := 45) rfl ?_
      refine x_bipush dX6_roundRead_45 (n := 47) rfl bp_8 ?_
      refine x_idiv dX6_roundRead_47 (n := 48) rfl (by decide) ?_
      refine x_goto (tgt := 53) dX6_roundRead_48 rfl ?_
      exact x_sub [0, 1] rfl (xj_X6_roundRead_53 o σ0 Q G hB0 rq (pI s1 (o + 3) x1.toNatClampNeg (gI s1 o 11)) x1 ((gI (pI s1 (o + 3) x1.toNatClampNeg (gI s1 o 11)) (o + 3) x1.toNatClampNeg) / 8) hs2t.i h)
  · have h := h.1 c4
    refine x_iconst dX6_roundRead_11 (n := 12) rfl ic_0 ?_
    exact x_zret rq ⟨hs2t, h⟩ isB0 dX6_roundRead_12
abbrev rm_X6_moonLine : Room := { frames := 4, cells := 0, slots := 0, locals := 90 }
def wp_X6_moonLine (o : Nat) (σ0 : Hp) (Q : Int32 → Hp → Prop) : Prop := ((gI σ0 o 26) = 0 → wp_X6_token o (pI σ0 o 26 1) (fun  s2 => wp_X6_roundRead o s2 9 (fun r6 s4 => (r6 = 0 → Q 0 s4) ∧ (¬ r6 = 0 → wp_X6_number o s4 0 ((gI s4 (o + 3) 9) - 1) (fun r10 s8 => (r10 = 0 → Q 0 s8) ∧ (¬ r10 = 0 → Q 1 (pI s8 (o + 3) 11 (gI s8 o 11)))))))) ∧ (¬ (gI σ0 o 26) = 0 → ∀ (r16 : Int32) (s12 : Hp), (r16, s12) = f_X6_wrong o σ0 3 → (r16 = 0 ∨ r16 = 1) ∧ (Q r16 s12))
theorem met_X6_moonLine (o : Nat) (σ0 : Hp) (Q : Int32 → Hp → Prop) (hB0 : MB o σ0) (h : wp_X6_moonLine o σ0 Q) : MetX yX6_moonLine cX6_moonLine 1 (some .boolean) rm_X6_moonLine σ0 [.ref o] (oI (fun r σ' => SH σ0 σ' ∧ Q r σ')) 0 0 := by
  refine metX_of (own := RX6) (lvs := [(0, .ref o)]) (by decide) rfl (Nat.le_of_ble_eq_true rfl) rfl (fun G rq => ?_)
  unfold wp_X6_moonLine at h
  refine x_aload_n dX6_moonLine_0 (n := 1) rfl rfl 0 rfl ?_
  refine x_geti fl_X6_211_0 rfl hB0.1 rfl dX6_moonLine_1 (n := 4) rfl ?_
  refine x_if_eq (tgt := 13) dX6_moonLine_4 rfl (n := 7) rfl (fun c1 => ?_) (fun c1 => ?_)
  · have h := h.1 c1
    refine x_aload_n dX6_moonLine_13 (n := 14) rfl rfl 0 rfl ?_
    refine x_iconst dX6_moonLine_14 (n := 15) rfl ic_1 ?_
    refine x_putz fp_X6_211_0 rfl hB0.1 isB1 dX6_moonLine_15 (n := 18) rfl ?_
    refine x_aload_n dX6_moonLine_18 (n := 19) rfl rfl 0 rfl ?_
    refine x_cVvm (As := []) (rest := []) cv_X6_173 ck0 (met_X6_token o (pI σ0 o 26 1) _ hB0.i h) hB0.i.1 (by decide) rfl rfl rfl dX6_moonLine_19 (n := 22) rfl (fun  s2 hs3 h => ?_)
    have hs3t := (SH.rf (σ := σ0)).i.tr hs3; have hBs2 := hB0.sh hs3t
    refine x_aload_n dX6_moonLine_22 (n := 23) rfl rfl 0 rfl ?_
    refine x_bipush dX6_moonLine_23 (n := 25) rfl bp_9 ?_
    refine x_cVim (As := [.int 9]) (rest := []) cv_X6_266 ck0 (met_X6_roundRead o s2 9 _ hBs2 h) hBs2.1 (by decide) rfl rfl rfl dX6_moonLine_25 (n := 28) rfl (fun r6 s4 hs5 h => ?_)
    have hs5t := hs3t.tr hs5; have hBs4 := hB0.sh hs5t
    refine x_if_eq (tgt := 48) dX6_moonLine_28 rfl (n := 31) rfl (fun c7 => ?_) (fun c7 => ?_)
    · have h := h.1 c7
      refine x_iconst dX6_moonLine_48 (n := 49) rfl ic_0 ?_
      exact x_zret rq ⟨hs5t, h⟩ isB0 dX6_moonLine_49
    · have h := h.2 c7
      refine x_aload_n dX6_moonLine_31 (n := 32) rfl rfl 0 rfl ?_
      refine x_iconst dX6_moonLine_32 (n := 33) rfl ic_0 ?_
      refine x_aload_n dX6_moonLine_33 (n := 34) rfl rfl 0 rfl ?_
      refine x_getr fl_X6_20_0 rfl hBs4.1 hBs4.r24 dX6_moonLine_34 (n := 37) rfl ?_
      refine x_bipush dX6_moonLine_37 (n := 39) rfl bp_9 ?_
      refine x_iald hBs4.a24 (vin_of (by decide) tn_9 rfl) tn_9 dX6_moonLine_39 (n := 40) rfl ?_
      refine x_iconst dX6_moonLine_40 (n := 41) rfl ic_1 ?_
      refine x_isub dX6_moonLine_41 (n := 42) rfl ?_
      refine x_cVim (As := [.int 0, .int ((gI s4 (o + 3) 9) - 1)]) (rest := []) cv_X6_179 ck0 (met_X6_number o s4 0 ((gI s4 (o + 3) 9) - 1) _ hBs4 h) hBs4.1 (by decide) rfl rfl rfl dX6_moonLine_42 (n := 45) rfl (fun r10 s8 hs9 h => ?_)
      have hs9t := hs5t.tr hs9; have hBs8 := hB0.sh hs9t
      refine x_if_ne (tgt := 50) dX6_moonLine_45 rfl (n := 48) rfl (fun c11 => ?_) (fun c11 => ?_)
      · have h := h.2 c11
        refine x_aload_n dX6_moonLine_50 (n := 51) rfl rfl 0 rfl ?_
        refine x_getr fl_X6_20_0 rfl hBs8.1 hBs8.r24 dX6_moonLine_51 (n := 54) rfl ?_
        refine x_bipush dX6_moonLine_54 (n := 56) rfl bp_11 ?_
        refine x_aload_n dX6_moonLine_56 (n := 57) rfl rfl 0 rfl ?_
        refine x_geti fl_X6_170_0 rfl hBs8.1 rfl dX6_moonLine_57 (n := 60) rfl ?_
        refine x_iast hBs8.a24 (vin_of (by decide) tn_11 rfl) tn_11 dX6_moonLine_60 (n := 61) rfl ?_
        refine x_iconst dX6_moonLine_61 (n := 62) rfl ic_1 ?_
        exact x_zret rq ⟨hs9t.i, h⟩ isB1 dX6_moonLine_62
      · have h := h.1 c11
        refine x_iconst dX6_moonLine_48 (n := 49) rfl ic_0 ?_
        exact x_zret rq ⟨hs9t, h⟩ isB0 dX6_moonLine_49
  · have h := h.2 c1
    refine x_aload_n dX6_moonLine_7 (n := 8) rfl rfl 0 rfl ?_
    refine x_iconst dX6_moonLine_8 (n := 9) rfl ic_3 ?_
    refine x_cVim (As := [.int 3]) (rest := []) cv_X6_163 ck0 (met_X6_wrong o σ0 3 hB0) hB0.1 (by decide) rfl rfl rfl dX6_moonLine_9 (n := 12) rfl (fun r16 s12 hs13 e15 => ?_)
    have hs13t := (SH.rf (σ := σ0)).tr hs13; have hBs12 := hB0.sh hs13t
    have h := h r16 s12 e15
    obtain ⟨b17, h⟩ := h
    exact x_zret rq ⟨hs13t, h⟩ b17 dX6_moonLine_12
abbrev rm_X6_isOf : Room := { frames := 0, cells := 0, slots := 0, locals := 0 }
def f_X6_isOf (x0 : Int32) (x1 : Int32) : Int32 := if ((x0 >>> (x1 &&& 31)) &&& 1) = 1 then 1 else 0
theorem met_X6_isOf (σ : Hp) (x0 : Int32) (x1 : Int32)  : MetX yX6_isOf cX6_isOf 2 (some .boolean) rm_X6_isOf σ [.int x0, .int x1] (oI (fun r σ' => σ' = σ ∧ r = (f_X6_isOf x0 x1))) 0 0 := by
  refine metX_of (own := RX6) (lvs := [(0, .int x0), (1, .int x1)]) (by decide) rfl (Nat.le_of_ble_eq_true rfl) rfl (fun G rq => ?_)
  have hv : (f_X6_isOf x0 x1) = _ := f_X6_isOf.eq_1 _ _
  refine x_iload_n dX6_isOf_0 (n := 1) rfl rfl 0 rfl ?_
  refine x_iload_n dX6_isOf_1 (n := 2) rfl rfl 1 rfl ?_
  refine x_ishr dX6_isOf_2 (n := 3) rfl ?_
  refine x_iconst dX6_isOf_3 (n := 4) rfl ic_1 ?_
  refine x_iand dX6_isOf_4 (n := 5) rfl ?_
  refine x_iconst dX6_isOf_5 (n := 6) rfl ic_1 ?_
  refine x_icmp_ne (tgt := 13) dX6_isOf_6 rfl (n := 9) rfl (fun c1 => ?_) (fun c1 => ?_)
  · have hv := hv.trans (if_neg c1)
    refine x_iconst dX6_isOf_13 (n := 14) rfl ic_0 ?_
    exact x_zret rq ⟨rfl, hv.symm⟩ isB0 dX6_isOf_14
  · have hv := hv.trans (if_pos c1)
    refine x_iconst dX6_isOf_9 (n := 10) rfl ic_1 ?_
    refine x_goto (tgt := 14) dX6_isOf_10 rfl ?_
    exact x_zret rq ⟨rfl, hv.symm⟩ isB1 dX6_isOf_14
abbrev rm_X6_noteWord : Room := { frames := 0, cells := 0, slots := 0, locals := 0 }
def f_X6_noteWord (o : Nat) (σ : Hp) : Int32 := if (gI σ o 8) = 1 then if (gI σ o 9) = 1 then 6 else if (gI σ o 9) = 2 then (-1) else if (gI σ o 9) = 3 then (-1) else if (gI σ o 9) = 4 then (-1) else if (gI σ o 9) = 5 then (-1) else if (gI σ o 9) = 6 then 2 else if (gI σ o 9) = 7 then 3 else if (gI σ o 9) = 8 then (-1) else if (gI σ o 9) = 9 then (-1) else if (gI σ o 9) = 10 then (-1) else if (gI σ o 9) = 11 then (-1) else if (gI σ o 9) = 12 then (-1) else if (gI σ o 9) = 13 then (-1) else if (gI σ o 9) = 14 then 5 else if (gI σ o 9) = 15 then 7 else if (gI σ o 9) = 16 then (-1) else if (gI σ o 9) = 17 then (-1) else if (gI σ o 9) = 18 then (-1) else if (gI σ o 9) = 19 then 1 else if (gI σ o 9) = 20 then 0 else if (gI σ o 9) = 21 then 4 else (-1) else (-1)
theorem met_X6_noteWord (o : Nat) (σ : Hp) (hB : MB o σ) : MetX yX6_noteWord cX6_noteWord 1 (some .int) rm_X6_noteWord σ [.ref o] (oI (fun r σ' => σ' = σ ∧ r = (f_X6_noteWord o σ))) 0 0 := by
  refine metX_of (own := RX6) (lvs := [(0, .ref o)]) (by decide) rfl (Nat.le_of_ble_eq_true rfl) rfl (fun G rq => ?_)
  have hv : (f_X6_noteWord o σ) = _ := f_X6_noteWord.eq_1 _ _
  refine x_aload_n dX6_noteWord_0 (n := 1) rfl rfl 0 rfl ?_
  refine x_geti fl_X6_139_0 rfl hB.1 rfl dX6_noteWord_1 (n := 4) rfl ?_
  refine x_iconst dX6_noteWord_4 (n := 5) rfl ic_1 ?_
  refine x_icmp_eq (tgt := 10) dX6_noteWord_5 rfl (n := 8) rfl (fun c1 => ?_) (fun c1 => ?_)
  · have hv := hv.trans (if_pos c1)
    refine x_aload_n dX6_noteWord_10 (n := 11) rfl rfl 0 rfl ?_
    refine x_geti fl_X6_150_0 rfl hB.1 rfl dX6_noteWord_11 (n := 14) rfl ?_
    refine x_by ((gI σ o 9) = 1) (fun c2 => ?_) (fun c2 => ?_)
    · have hv := hv.trans (if_pos c2)
      have z2 := tsw_in c2 ti_1
      refine x_tswIn (tgt := 124) dX6_noteWord_14 (by rw [z2]; decide) (by rw [z2]; decide) (by rw [z2]; rfl) rfl ?_
      refine x_bipush dX6_noteWord_124 (n := 126) rfl bp_6 ?_
      exact x_iret rq ⟨rfl, hv.symm⟩ dX6_noteWord_126
    · have hv := hv.trans (if_neg c2)
      refine x_by ((gI σ o 9) = 2) (fun c3 => ?_) (fun c3 => ?_)
      · have hv := hv.trans (if_pos c3)
        have z3 := tsw_in c3 ti_2
        refine x_tswIn (tgt := 130) dX6_noteWord_14 (by rw [z3]; decide) (by rw [z3]; decide) (by rw [z3]; rfl) rfl ?_
        refine x_iconst dX6_noteWord_130 (n := 131) rfl ic_m1 ?_
        exact x_iret rq ⟨rfl, hv.symm⟩ dX6_noteWord_131
      · have hv := hv.trans (if_neg c3)
        refine x_by ((gI σ o 9) = 3) (fun c4 => ?_) (fun c4 => ?_)
        · have hv := hv.trans (if_pos c4)
          have z4 := tsw_in c4 ti_3
          refine x_tswIn (tgt := 130) dX6_noteWord_14 (by rw [z4]; decide) (by rw [z4]; decide) (by rw [z4]; rfl) rfl ?_
          refine x_iconst dX6_noteWord_130 (n := 131) rfl ic_m1 ?_
          exact x_iret rq ⟨rfl, hv.symm⟩ dX6_noteWord_131
        · have hv := hv.trans (if_neg c4)
          refine x_by ((gI σ o 9) = 4) (fun c5 => ?_) (fun c5 => ?_)
          · have hv := hv.trans (if_pos c5)
            have z5 := tsw_in c5 ti_4
            refine x_tswIn (tgt := 130) dX6_noteWord_14 (by rw [z5]; decide) (by rw [z5]; decide) (by rw [z5]; rfl) rfl ?_
            refine x_iconst dX6_noteWord_130 (n := 131) rfl ic_m1 ?_
            exact x_iret rq ⟨rfl, hv.symm⟩ dX6_noteWord_131
          · have hv := hv.trans (if_neg c5)
            refine x_by ((gI σ o 9) = 5) (fun c6 => ?_) (fun c6 => ?_)
            · have hv := hv.trans (if_pos c6)
              have z6 := tsw_in c6 ti_5
              refine x_tswIn (tgt := 130) dX6_noteWord_14 (by rw [z6]; decide) (by rw [z6]; decide) (by rw [z6]; rfl) rfl ?_
              refine x_iconst dX6_noteWord_130 (n := 131) rfl ic_m1 ?_
              exact x_iret rq ⟨rfl, hv.symm⟩ dX6_noteWord_131
            · have hv := hv.trans (if_neg c6)
              refine x_by ((gI σ o 9) = 6) (fun c7 => ?_) (fun c7 => ?_)
              · have hv := hv.trans (if_pos c7)
                have z7 := tsw_in c7 ti_6
                refine x_tswIn (tgt := 116) dX6_noteWord_14 (by rw [z7]; decide) (by rw [z7]; decide) (by rw [z7]; rfl) rfl ?_
                refine x_iconst dX6_noteWord_116 (n := 117) rfl ic_2 ?_
                exact x_iret rq ⟨rfl, hv.symm⟩ dX6_noteWord_117
              · have hv := hv.trans (if_neg c7)
                refine x_by ((gI σ o 9) = 7) (fun c8 => ?_) (fun c8 => ?_)
                · have hv := hv.trans (if_pos c8)
                  have z8 := tsw_in c8 ti_7
                  refine x_tswIn (tgt := 118) dX6_noteWord_14 (by rw [z8]; decide) (by rw [z8]; decide) (by rw [z8]; rfl) rfl ?_
                  refine x_iconst dX6_noteWord_118 (n := 119) rfl ic_3 ?_
                  exact x_iret rq ⟨rfl, hv.symm⟩ dX6_noteWord_119
                · have hv := hv.trans (if_neg c8)
                  refine x_by ((gI σ o 9) = 8) (fun c9 => ?_) (fun c9 => ?_)
                  · have hv := hv.trans (if_pos c9)
                    have z9 := tsw_in c9 ti_8
                    refine x_tswIn (tgt := 130) dX6_noteWord_14 (by rw [z9]; decide) (by rw [z9]; decide) (by rw [z9]; rfl) rfl ?_
                    refine x_iconst dX6_noteWord_130 (n := 131) rfl ic_m1 ?_
                    exact x_iret rq ⟨rfl, hv.symm⟩ dX6_noteWord_131
                  · have hv := hv.trans (if_neg c9)
                    refine x_by ((gI σ o 9) = 9) (fun c10 => ?_) (fun c10 => ?_)
                    · have hv := hv.trans (if_pos c10)
                      have z10 := tsw_in c10 ti_9
                      refine x_tswIn (tgt := 130) dX6_noteWord_14 (by rw [z10]; decide) (by rw [z10]; decide) (by rw [z10]; rfl) rfl ?_
                      refine x_iconst dX6_noteWord_130 (n := 131) rfl ic_m1 ?_
                      exact x_iret rq ⟨rfl, hv.symm⟩ dX6_noteWord_131
                    · have hv := hv.trans (if_neg c10)
                      refine x_by ((gI σ o 9) = 10) (fun c11 => ?_) (fun c11 => ?_)
                      · have hv := hv.trans (if_pos c11)
                        have z11 := tsw_in c11 ti_10
                        refine x_tswIn (tgt := 130) dX6_noteWord_14 (by rw [z11]; decide) (by rw [z11]; decide) (by rw [z11]; rfl) rfl ?_
                        refine x_iconst dX6_noteWord_130 (n := 131) rfl ic_m1 ?_
                        exact x_iret rq ⟨rfl, hv.symm⟩ dX6_noteWord_131
                      · have hv := hv.trans (if_neg c11)
                        refine x_by ((gI σ o 9) = 11) (fun c12 => ?_) (fun c12 => ?_)
                        · have hv := hv.trans (if_pos c12)
                          have z12 := tsw_in c12 ti_11
                          refine x_tswIn (tgt := 130) dX6_noteWord_14 (by rw [z12]; decide) (by rw [z12]; decide) (by rw [z12]; rfl) rfl ?_
                          refine x_iconst dX6_noteWord_130 (n := 131) rfl ic_m1 ?_
                          exact x_iret rq ⟨rfl, hv.symm⟩ dX6_noteWord_131
                        · have hv := hv.trans (if_neg c12)
                          refine x_by ((gI σ o 9) = 12) (fun c13 => ?_) (fun c13 => ?_)
                          · have hv := hv.trans (if_pos c13)
                            have z13 := tsw_in c13 ti_12
                            refine x_tswIn (tgt := 130) dX6_noteWord_14 (by rw [z13]; decide) (by rw [z13]; decide) (by rw [z13]; rfl) rfl ?_
                            refine x_iconst dX6_noteWord_130 (n := 131) rfl ic_m1 ?_
                            exact x_iret rq ⟨rfl, hv.symm⟩ dX6_noteWord_131
                          · have hv := hv.trans (if_neg c13)
                            refine x_by ((gI σ o 9) = 13) (fun c14 => ?_) (fun c14 => ?_)
                            · have hv := hv.trans (if_pos c14)
                              have z14 := tsw_in c14 ti_13
                              refine x_tswIn (tgt := 130) dX6_noteWord_14 (by rw [z14]; decide) (by rw [z14]; decide) (by rw [z14]; rfl) rfl ?_
                              refine x_iconst dX6_noteWord_130 (n := 131) rfl ic_m1 ?_
                              exact x_iret rq ⟨rfl, hv.symm⟩ dX6_noteWord_131
                            · have hv := hv.trans (if_neg c14)
                              refine x_by ((gI σ o 9) = 14) (fun c15 => ?_) (fun c15 => ?_)
                              · have hv := hv.trans (if_pos c15)
                                have z15 := tsw_in c15 ti_14
                                refine x_tswIn (tgt := 122) dX6_noteWord_14 (by rw [z15]; decide) (by rw [z15]; decide) (by rw [z15]; rfl) rfl ?_
                                refine x_iconst dX6_noteWord_122 (n := 123) rfl ic_5 ?_
                                exact x_iret rq ⟨rfl, hv.symm⟩ dX6_noteWord_123
                              · have hv := hv.trans (if_neg c15)
                                refine x_by ((gI σ o 9) = 15) (fun c16 => ?_) (fun c16 => ?_)
                                · have hv := hv.trans (if_pos c16)
                                  have z16 := tsw_in c16 ti_15
                                  refine x_tswIn (tgt := 127) dX6_noteWord_14 (by rw [z16]; decide) (by rw [z16]; decide) (by rw [z16]; rfl) rfl ?_
                                  refine x_bipush dX6_noteWord_127 (n := 129) rfl bp_7 ?_
                                  exact x_iret rq ⟨rfl, hv.symm⟩ dX6_noteWord_129
                                · have hv := hv.trans (if_neg c16)
                                  refine x_by ((gI σ o 9) = 16) (fun c17 => ?_) (fun c17 => ?_)
                                  · have hv := hv.trans (if_pos c17)
                                    have z17 := tsw_in c17 ti_16
                                    refine x_tswIn (tgt := 130) dX6_noteWord_14 (by rw [z17]; decide) (by rw [z17]; decide) (by rw [z17]; rfl) rfl ?_
                                    refine x_iconst dX6_noteWord_130 (n := 131) rfl ic_m1 ?_
                                    exact x_iret rq ⟨rfl, hv.symm⟩ dX6_noteWord_131
                                  · have hv := hv.trans (if_neg c17)
                                    refine x_by ((gI σ o 9) = 17) (fun c18 => ?_) (fun c18 => ?_)
                                    · have hv := hv.trans (if_pos c18)
                                      have z18 := tsw_in c18 ti_17
                                      refine x_tswIn (tgt := 130) dX6_noteWord_14 (by rw [z18]; decide) (by rw [z18]; decide) (by rw [z18]; rfl) rfl ?_
                                      refine x_iconst dX6_noteWord_130 (n := 131) rfl ic_m1 ?_
                                      exact x_iret rq ⟨rfl, hv.symm⟩ dX6_noteWord_131
                                    · have hv := hv.trans (if_neg c18)
                                      refine x_by ((gI σ o 9) = 18) (fun c19 => ?_) (fun c19 => ?_)
                                      · have hv := hv.trans (if_pos c19)
                                        have z19 := tsw_in c19 ti_18
                                        refine x_tswIn (tgt := 130) dX6_noteWord_14 (by rw [z19]; decide) (by rw [z19]; decide) (by rw [z19]; rfl) rfl ?_
                                        refine x_iconst dX6_noteWord_130 (n := 131) rfl ic_m1 ?_
                                        exact x_iret rq ⟨rfl, hv.symm⟩ dX6_noteWord_131
                                      · have hv := hv.trans (if_neg c19)
                                        refine x_by ((gI σ o 9) = 19) (fun c20 => ?_) (fun c20 => ?_)
                                        · have hv := hv.trans (if_pos c20)
                                          have z20 := tsw_in c20 ti_19
                                          refine x_tswIn (tgt := 114) dX6_noteWord_14 (by rw [z20]; decide) (by rw [z20]; decide) (by rw [z20]; rfl) rfl ?_
                                          refine x_iconst dX6_noteWord_114 (n := 115) rfl ic_1 ?_
                                          exact x_iret rq ⟨rfl, hv.symm⟩ dX6_noteWord_115
                                        · have hv := hv.trans (if_neg c20)
                                          refine x_by ((gI σ o 9) = 20) (fun c21 => ?_) (fun c21 => ?_)
                                          · have hv := hv.trans (if_pos c21)
                                            have z21 := tsw_in c21 ti_20
                                            refine x_tswIn (tgt := 112) dX6_noteWord_14 (by rw [z21]; decide) (by rw [z21]; decide) (by rw [z21]; rfl) rfl ?_
                                            refine x_iconst dX6_noteWord_112 (n := 113) rfl ic_0 ?_
                                            exact x_iret rq ⟨rfl, hv.symm⟩ dX6_noteWord_113
                                          · have hv := hv.trans (if_neg c21)
                                            refine x_by ((gI σ o 9) = 21) (fun c22 => ?_) (fun c22 => ?_)
                                            · have hv := hv.trans (if_pos c22)
                                              have z22 := tsw_in c22 ti_21
                                              refine x_tswIn (tgt := 120) dX6_noteWord_14 (by rw [z22]; decide) (by rw [z22]; decide) (by rw [z22]; rfl) rfl ?_
                                              refine x_iconst dX6_noteWord_120 (n := 121) rfl ic_4 ?_
                                              exact x_iret rq ⟨rfl, hv.symm⟩ dX6_noteWord_121
                                            · have hv := hv.trans (if_neg c22)
                                              have z2 := ne_int c2 ti_1
                                              have z3 := ne_int c3 ti_2
                                              have z4 := ne_int c4 ti_3
                                              have z5 := ne_int c5 ti_4
                                              have z6 := ne_int c6 ti_5
                                              have z7 := ne_int c7 ti_6
                                              have z8 := ne_int c8 ti_7
                                              have z9 := ne_int c9 ti_8
                                              have z10 := ne_int c10 ti_9
                                              have z11 := ne_int c11 ti_10
                                              have z12 := ne_int c12 ti_11
                                              have z13 := ne_int c13 ti_12
                                              have z14 := ne_int c14 ti_13
                                              have z15 := ne_int c15 ti_14
                                              have z16 := ne_int c16 ti_15
                                              have z17 := ne_int c17 ti_16
                                              have z18 := ne_int c18 ti_17
                                              have z19 := ne_int c19 ti_18
                                              have z20 := ne_int c20 ti_19
                                              have z21 := ne_int c21 ti_20
                                              have z22 := ne_int c22 ti_21
                                              refine x_tswOut (tgt := 130) dX6_noteWord_14 (by omega) rfl ?_
                                              refine x_iconst dX6_noteWord_130 (n := 131) rfl ic_m1 ?_
                                              exact x_iret rq ⟨rfl, hv.symm⟩ dX6_noteWord_131
  · have hv := hv.trans (if_neg c1)
    refine x_iconst dX6_noteWord_8 (n := 9) rfl ic_m1 ?_
    exact x_iret rq ⟨rfl, hv.symm⟩ dX6_noteWord_9
abbrev rm_X6_saysRead : Room := { frames := 4, cells := 0, slots := 0, locals := 91 }
def wj_X6_saysRead_176 (o : Nat) (σ : Hp) (x1 : Int32) (x2 : Int32) (w0 : Int32) (Q : Int32 → Hp → Prop)  : Prop := (w0 = 0 → Q 0 σ) ∧ (¬ w0 = 0 → (vp_in ((x1 + 2) + x2) 264) ∧ ((7 ≤ x2 → wp_X6_signed o (pI σ (o + 16) ((x1 + 2) + x2).toNatClampNeg (gI σ o 11)) 9999 (fun r44 s42 => (r44 = 0 → Q 0 s42) ∧ (¬ r44 = 0 → (vp_in (x1 + 10) 264) ∧ (Q 1 (pI s42 (o + 16) (x1 + 10).toNatClampNeg (gI s42 o 11)))))) ∧ (¬ 7 ≤ x2 → Q 1 (pI σ (o + 16) ((x1 + 2) + x2).toNatClampNeg (gI σ o 11)))))
def wp_X6_saysRead (o : Nat) (σ0 : Hp) (x1 : Int32) (x2 : Int32) (Q : Int32 → Hp → Prop) : Prop := (x2 = 0 → wp_X6_number o σ0 1 9999 (fun r31 s29 => (r31 = 0 → Q 0 s29) ∧ (¬ r31 = 0 → (vp_in (x1 + 1) 264) ∧ (wp_X6_number o (pI s29 (o + 16) (x1 + 1).toNatClampNeg (gI s29 o 11)) (gI s29 o 11) 9999 (fun r36 s34 => (r36 = 0 → Q 0 s34) ∧ (¬ r36 = 0 → (vp_in (x1 + 2) 264) ∧ (Q 1 (pI s34 (o + 16) (x1 + 2).toNatClampNeg (gI s34 o 11))))))))) ∧ (¬ x2 = 0 → (x2 = 1 → wp_X6_number o σ0 1 99999 (fun r28 s26 => wj_X6_saysRead_176 o s26 x1 x2 r28 Q)) ∧ (¬ x2 = 1 → (x2 = 2 → wp_X6_number o σ0 0 99999 (fun r25 s23 => wj_X6_saysRead_176 o s23 x1 x2 r25 Q)) ∧ (¬ x2 = 2 → (x2 = 3 → wp_X6_number o σ0 0 7 (fun r22 s20 => wj_X6_saysRead_176 o s20 x1 x2 r22 Q)) ∧ (¬ x2 = 3 → (x2 = 4 → wp_X6_number o σ0 0 3 (fun r19 s17 => wj_X6_saysRead_176 o s17 x1 x2 r19 Q)) ∧ (¬ x2 = 4 → (x2 = 5 → wp_X6_oldName o σ0 (o + 9) 12 6 (gI σ0 o 20) (fun r16 s14 => wj_X6_saysRead_176 o s14 x1 x2 r16 Q)) ∧ (¬ x2 = 5 → (x2 = 6 → wp_X6_oldName o σ0 (o + 6) 8 4 (gI σ0 o 19) (fun r13 s11 => wj_X6_saysRead_176 o s11 x1 x2 r13 Q)) ∧ (¬ x2 = 6 → wp_X6_oldName o σ0 (o + 15) 12 6 (gI σ0 o 22) (fun r10 s8 => wj_X6_saysRead_176 o s8 x1 x2 r10 Q))))))))
theorem xj_X6_saysRead_176 (o : Nat) (σ0 : Hp) (Q : Int32 → Hp → Prop) (G : XE) (hB0 : MB o σ0) (rq : RQ G 0 0 (oI (fun r σ' => SH σ0 σ' ∧ Q r σ'))) (σ : Hp) (x1 : Int32) (x2 : Int32) (w0 : Int32)    (hs : SH σ0 σ) (h : wj_X6_saysRead_176 o σ x1 x2 w0 Q ) : X G rm_X6_saysRead cX6_saysRead RX6 4 (some .boolean) σ 0 0 176 [(0, .ref o), (1, .int x1), (2, .int x2)] [.int w0] := by
  have hs : SH σ0 σ := hs
  have hB := hB0.sh hs
  unfold wj_X6_saysRead_176 at h
  refine x_istore_n (lvs' := [(3, .int w0), (0, .ref o), (1, .int x1), (2, .int x2)]) dX6_saysRead_176 (n := 177) rfl rfl (by decide) rfl ?_
  refine x_iload_n dX6_saysRead_177 (n := 178) rfl rfl 0 rfl ?_
  refine x_if_ne (tgt := 183) dX6_saysRead_178 rfl (n := 181) rfl (fun c39 => ?_) (fun c39 => ?_)
  · have h := h.2 c39
    refine x_aload_n dX6_saysRead_183 (n := 184) rfl rfl 1 rfl ?_
    refine x_getr fl_X6_60_0 rfl hB.1 hB.r40 dX6_saysRead_184 (n := 187) rfl ?_
    refine x_iload_n dX6_saysRead_187 (n := 188) rfl rfl 2 rfl ?_
    refine x_iconst dX6_saysRead_188 (n := 189) rfl ic_2 ?_
    refine x_iadd dX6_saysRead_189 (n := 190) rfl ?_
    refine x_iload_n dX6_saysRead_190 (n := 191) rfl rfl 3 rfl ?_
    refine x_iadd dX6_saysRead_191 (n := 192) rfl ?_
    refine x_aload_n dX6_saysRead_192 (n := 193) rfl rfl 1 rfl ?_
    refine x_geti fl_X6_170_0 rfl hB.1 rfl dX6_saysRead_193 (n := 196) rfl ?_
    obtain ⟨b40, h⟩ := h
    refine x_iast hB.a40 b40 rfl dX6_saysRead_196 (n := 197) rfl ?_
    refine x_iload_n dX6_saysRead_197 (n := 198) rfl rfl 3 rfl ?_
    refine x_bipush dX6_saysRead_198 (n := 200) rfl bp_7 ?_
    refine x_icmp_ge (tgt := 205) dX6_saysRead_200 rfl (n := 203) rfl (fun c41 => ?_) (fun c41 => ?_)
    · have h := h.1 c41
      refine x_aload_n dX6_saysRead_205 (n := 206) rfl rfl 1 rfl ?_
      refine x_sipush dX6_saysRead_206 (n := 209) rfl sp_9999 ?_
      refine x_cVim (As := [.int 9999]) (rest := []) cv_X6_263 ck0 (met_X6_signed o (pI σ (o + 16) ((x1 + 2) + x2).toNatClampNeg (gI σ o 11)) 9999 _ hB.i h) hB.i.1 (by decide) rfl rfl rfl dX6_saysRead_209 (n := 212) rfl (fun r44 s42 hs43 h => ?_)
      have hs43t := hs.i.tr hs43; have hBs42 := hB0.sh hs43t
      refine x_if_ne (tgt := 217) dX6_saysRead_212 rfl (n := 215) rfl (fun c45 => ?_) (fun c45 => ?_)
      · have h := h.2 c45
        refine x_aload_n dX6_saysRead_217 (n := 218) rfl rfl 1 rfl ?_
        refine x_getr fl_X6_60_0 rfl hBs42.1 hBs42.r40 dX6_saysRead_218 (n := 221) rfl ?_
        refine x_iload_n dX6_saysRead_221 (n := 222) rfl rfl 2 rfl ?_
        refine x_bipush dX6_saysRead_222 (n := 224) rfl bp_10 ?_
        refine x_iadd dX6_saysRead_224 (n := 225) rfl ?_
        refine x_aload_n dX6_saysRead_225 (n := 226) rfl rfl 1 rfl ?_
        refine x_geti fl_X6_170_0 rfl hBs42.1 rfl dX6_saysRead_226 (n := 229) rfl ?_
        obtain ⟨b46, h⟩ := h
        refine x_iast hBs42.a40 b46 rfl dX6_saysRead_229 (n := 230) rfl ?_
        refine x_iconst dX6_saysRead_230 (n := 231) rfl ic_1 ?_
        exact x_zret rq ⟨hs43t.i, h⟩ isB1 dX6_saysRead_231
      · have h := h.1 c45
        refine x_iconst dX6_saysRead_215 (n := 216) rfl ic_0 ?_
        exact x_zret rq ⟨hs43t, h⟩ isB0 dX6_saysRead_216
    · have h := h.2 c41
      refine x_iconst dX6_saysRead_203 (n := 204) rfl ic_1 ?_
      exact x_zret rq ⟨hs.i, h⟩ isB1 dX6_saysRead_204
  · have h := h.1 c39
    refine x_iconst dX6_saysRead_181 (n := 182) rfl ic_0 ?_
    exact x_zret rq ⟨hs, h⟩ isB0 dX6_saysRead_182
theorem met_X6_saysRead (o : Nat) (σ0 : Hp) (x1 : Int32) (x2 : Int32) (Q : Int32 → Hp → Prop) (hB0 : MB o σ0) (h : wp_X6_saysRead o σ0 x1 x2 Q) : MetX yX6_saysRead cX6_saysRead 4 (some .boolean) rm_X6_saysRead σ0 [.ref o, .int x1, .int x2] (oI (fun r σ' => SH σ0 σ' ∧ Q r σ')) 0 0 := by
  refine metX_of (own := RX6) (lvs := [(0, .ref o), (1, .int x1), (2, .int x2)]) (by decide) rfl (Nat.le_of_ble_eq_true rfl) rfl (fun G rq => ?_)
  unfold wp_X6_saysRead at h
  refine x_iload_n dX6_saysRead_0 (n := 1) rfl rfl 2 rfl ?_
  refine x_if_ne (tgt := 59) dX6_saysRead_1 rfl (n := 4) rfl (fun c1 => ?_) (fun c1 => ?_)
  · have h := h.2 c1
    refine x_iload_n dX6_saysRead_59 (n := 60) rfl rfl 2 rfl ?_
    refine x_iconst dX6_saysRead_60 (n := 61) rfl ic_1 ?_
    refine x_icmp_ne (tgt := 74) dX6_saysRead_61 rfl (n := 64) rfl (fun c2 => ?_) (fun c2 => ?_)
    · have h := h.2 c2
      refine x_iload_n dX6_saysRead_74 (n := 75) rfl rfl 2 rfl ?_
      refine x_iconst dX6_saysRead_75 (n := 76) rfl ic_2 ?_
      refine x_icmp_ne (tgt := 89) dX6_saysRead_76 rfl (n := 79) rfl (fun c3 => ?_) (fun c3 => ?_)
      · have h := h.2 c3
        refine x_iload_n dX6_saysRead_89 (n := 90) rfl rfl 2 rfl ?_
        refine x_iconst dX6_saysRead_90 (n := 91) rfl ic_3 ?_
        refine x_icmp_ne (tgt := 104) dX6_saysRead_91 rfl (n := 94) rfl (fun c4 => ?_) (fun c4 => ?_)
        · have h := h.2 c4
          refine x_iload_n dX6_saysRead_104 (n := 105) rfl rfl 2 rfl ?_
          refine x_iconst dX6_saysRead_105 (n := 106) rfl ic_4 ?_
          refine x_icmp_ne (tgt := 118) dX6_saysRead_106 rfl (n := 109) rfl (fun c5 => ?_) (fun c5 => ?_)
          · have h := h.2 c5
            refine x_iload_n dX6_saysRead_118 (n := 119) rfl rfl 2 rfl ?_
            refine x_iconst dX6_saysRead_119 (n := 120) rfl ic_5 ?_
            refine x_icmp_ne (tgt := 140) dX6_saysRead_120 rfl (n := 123) rfl (fun c6 => ?_) (fun c6 => ?_)
            · have h := h.2 c6
              refine x_iload_n dX6_saysRead_140 (n := 141) rfl rfl 2 rfl ?_
              refine x_bipush dX6_saysRead_141 (n := 143) rfl bp_6 ?_
              refine x_icmp_ne (tgt := 162) dX6_saysRead_143 rfl (n := 146) rfl (fun c7 => ?_) (fun c7 => ?_)
              · have h := h.2 c7
                refine x_aload_n dX6_saysRead_162 (n := 163) rfl rfl 0 rfl ?_
                refine x_aload_n dX6_saysRead_163 (n := 164) rfl rfl 0 rfl ?_
                refine x_getr fl_X6_57_0 rfl hB0.1 hB0.r39 dX6_saysRead_164 (n := 167) rfl ?_
                refine x_bipush dX6_saysRead_167 (n := 169) rfl bp_6 ?_
                refine x_aload_n dX6_saysRead_169 (n := 170) rfl rfl 0 rfl ?_
                refine x_geti fl_X6_198_0 rfl hB0.1 rfl dX6_saysRead_170 (n := 173) rfl ?_
                refine x_cVim (As := [.ref (o + 15), .int 6, .int (gI σ0 o 22)]) (rest := []) cv_X6_287 ck0 (met_X6_oldName o σ0 (o + 15) 12 6 (gI σ0 o 22) _ hB0 hB0.a39 h) hB0.1 (by decide) rfl rfl rfl dX6_saysRead_173 (n := 176) rfl (fun r10 s8 hs9 h => ?_)
                have hs9t := (SH.rf (σ := σ0)).tr hs9; have hBs8 := hB0.sh hs9t
                exact x_sub [0, 1, 2] rfl (xj_X6_saysRead_176 o σ0 Q G hB0 rq s8 x1 x2 r10 hs9t h)
              · have h := h.1 c7
                refine x_aload_n dX6_saysRead_146 (n := 147) rfl rfl 0 rfl ?_
                refine x_aload_n dX6_saysRead_147 (n := 148) rfl rfl 0 rfl ?_
                refine x_getr fl_X6_29_0 rfl hB0.1 hB0.r30 dX6_saysRead_148 (n := 151) rfl ?_
                refine x_iconst dX6_saysRead_151 (n := 152) rfl ic_4 ?_
                refine x_aload_n dX6_saysRead_152 (n := 153) rfl rfl 0 rfl ?_
                refine x_geti fl_X6_189_0 rfl hB0.1 rfl dX6_saysRead_153 (n := 156) rfl ?_
                refine x_cVim (As := [.ref (o + 6), .int 4, .int (gI σ0 o 19)]) (rest := []) cv_X6_287 ck0 (met_X6_oldName o σ0 (o + 6) 8 4 (gI σ0 o 19) _ hB0 hB0.a30 h) hB0.1 (by decide) rfl rfl rfl dX6_saysRead_156 (n := 159) rfl (fun r13 s11 hs12 h => ?_)
                have hs12t := (SH.rf (σ := σ0)).tr hs12; have hBs11 := hB0.sh hs12t
                refine x_goto (tgt := 176) dX6_saysRead_159 rfl ?_
                exact x_sub [0, 1, 2] rfl (xj_X6_saysRead_176 o σ0 Q G hB0 rq s11 x1 x2 r13 hs12t h)
            · have h := h.1 c6
              refine x_aload_n dX6_saysRead_123 (n := 124) rfl rfl 0 rfl ?_
              refine x_aload_n dX6_saysRead_124 (n := 125) rfl rfl 0 rfl ?_
              refine x_getr fl_X6_38_0 rfl hB0.1 hB0.r33 dX6_saysRead_125 (n := 128) rfl ?_
              refine x_bipush dX6_saysRead_128 (n := 130) rfl bp_6 ?_
              refine x_aload_n dX6_saysRead_130 (n := 131) rfl rfl 0 rfl ?_
              refine x_geti fl_X6_192_0 rfl hB0.1 rfl dX6_saysRead_131 (n := 134) rfl ?_
              refine x_cVim (As := [.ref (o + 9), .int 6, .int (gI σ0 o 20)]) (rest := []) cv_X6_287 ck0 (met_X6_oldName o σ0 (o + 9) 12 6 (gI σ0 o 20) _ hB0 hB0.a33 h) hB0.1 (by decide) rfl rfl rfl dX6_saysRead_134 (n := 137) rfl (fun r16 s14 hs15 h => ?_)
              have hs15t := (SH.rf (σ := σ0)).tr hs15; have hBs14 := hB0.sh hs15t
              refine x_goto (tgt := 176) dX6_saysRead_137 rfl ?_
              exact x_sub [0, 1, 2] rfl (xj_X6_saysRead_176 o σ0 Q G hB0 rq s14 x1 x2 r16 hs15t h)
          · have h := h.1 c5
            refine x_aload_n dX6_saysRead_109 (n := 110) rfl rfl 0 rfl ?_
            refine x_iconst dX6_saysRead_110 (n := 111) rfl ic_0 ?_
            refine x_iconst dX6_saysRead_111 (n := 112) rfl ic_3 ?_
            refine x_cVim (As := [.int 0, .int 3]) (rest := []) cv_X6_179 ck0 (met_X6_number o σ0 0 3 _ hB0 h) hB0.1 (by decide) rfl rfl rfl dX6_saysRead_112 (n := 115) rfl (fun r19 s17 hs18 h => ?_)
            have hs18t := (SH.rf (σ := σ0)).tr hs18; have hBs17 := hB0.sh hs18t
            refine x_goto (tgt := 176) dX6_saysRead_115 rfl ?_
            exact x_sub [0, 1, 2] rfl (xj_X6_saysRead_176 o σ0 Q G hB0 rq s17 x1 x2 r19 hs18t h)
        · have h := h.1 c4
          refine x_aload_n dX6_saysRead_94 (n := 95) rfl rfl 0 rfl ?_
          refine x_iconst dX6_saysRead_95 (n := 96) rfl ic_0 ?_
          refine x_bipush dX6_saysRead_96 (n := 98) rfl bp_7 ?_
          refine x_cVim (As := [.int 0, .int 7]) (rest := []) cv_X6_179 ck0 (met_X6_number o σ0 0 7 _ hB0 h) hB0.1 (by decide) rfl rfl rfl dX6_saysRead_98 (n := 101) rfl (fun r22 s20 hs21 h => ?_)
          have hs21t := (SH.rf (σ := σ0)).tr hs21; have hBs20 := hB0.sh hs21t
          refine x_goto (tgt := 176) dX6_saysRead_101 rfl ?_
          exact x_sub [0, 1, 2] rfl (xj_X6_saysRead_176 o σ0 Q G hB0 rq s20 x1 x2 r22 hs21t h)
      · have h := h.1 c3
        refine x_aload_n dX6_saysRead_79 (n := 80) rfl rfl 0 rfl ?_
        refine x_iconst dX6_saysRead_80 (n := 81) rfl ic_0 ?_
        refine x_ldc dX6_saysRead_81 (n := 83) rfl q1786 ?_
        refine x_cVim (As := [.int 0, .int 99999]) (rest := []) cv_X6_179 ck0 (met_X6_number o σ0 0 99999 _ hB0 h) hB0.1 (by decide) rfl rfl rfl dX6_saysRead_83 (n := 86) rfl (fun r25 s23 hs24 h => ?_)
        have hs24t := (SH.rf (σ := σ0)).tr hs24; have hBs23 := hB0.sh hs24t
        refine x_goto (tgt := 176) dX6_saysRead_86 rfl ?_
        exact x_sub [0, 1, 2] rfl (xj_X6_saysRead_176 o σ0 Q G hB0 rq s23 x1 x2 r25 hs24t h)
    · have h := h.1 c2
      refine x_aload_n dX6_saysRead_64 (n := 65) rfl rfl 0 rfl ?_
      refine x_iconst dX6_saysRead_65 (n := 66) rfl ic_1 ?_
      refine x_ldc dX6_saysRead_66 (n := 68) rfl q1786 ?_
      refine x_cVim (As := [.int 1, .int 99999]) (rest := []) cv_X6_179 ck0 (met_X6_number o σ0 1 99999 _ hB0 h) hB0.1 (by decide) rfl rfl rfl dX6_saysRead_68 (n := 71) rfl (fun r28 s26 hs27 h => ?_)
      have hs27t := (SH.rf (σ := σ0)).tr hs27; have hBs26 := hB0.sh hs27t
      refine x_goto (tgt := 176) dX6_saysRead_71 rfl ?_
      exact x_sub [0, 1, 2] rfl (xj_X6_saysRead_176 o σ0 Q G hB0 rq s26 x1 x2 r28 hs27t h)
  · have h := h.1 c1
    refine x_aload_n dX6_saysRead_4 (n := 5) rfl rfl 0 rfl ?_
    refine x_iconst dX6_saysRead_5 (n := 6) rfl ic_1 ?_
    refine x_sipush dX6_saysRead_6 (n := 9) rfl sp_9999 ?_
    refine x_cVim (As := [.int 1, .int 9999]) (rest := []) cv_X6_179 ck0 (met_X6_number o σ0 1 9999 _ hB0 h) hB0.1 (by decide) rfl rfl rfl dX6_saysRead_9 (n := 12) rfl (fun r31 s29 hs30 h => ?_)
    have hs30t := (SH.rf (σ := σ0)).tr hs30; have hBs29 := hB0.sh hs30t
    refine x_if_ne (tgt := 17) dX6_saysRead_12 rfl (n := 15) rfl (fun c32 => ?_) (fun c32 => ?_)
    · have h := h.2 c32
      refine x_aload_n dX6_saysRead_17 (n := 18) rfl rfl 0 rfl ?_
      refine x_getr fl_X6_60_0 rfl hBs29.1 hBs29.r40 dX6_saysRead_18 (n := 21) rfl ?_
      refine x_iload_n dX6_saysRead_21 (n := 22) rfl rfl 1 rfl ?_
      refine x_iconst dX6_saysRead_22 (n := 23) rfl ic_1 ?_
      refine x_iadd dX6_saysRead_23 (n := 24) rfl ?_
      refine x_aload_n dX6_saysRead_24 (n := 25) rfl rfl 0 rfl ?_
      refine x_geti fl_X6_170_0 rfl hBs29.1 rfl dX6_saysRead_25 (n := 28) rfl ?_
      obtain ⟨b33, h⟩ := h
      refine x_iast hBs29.a40 b33 rfl dX6_saysRead_28 (n := 29) rfl ?_
      refine x_aload_n dX6_saysRead_29 (n := 30) rfl rfl 0 rfl ?_
      refine x_aload_n dX6_saysRead_30 (n := 31) rfl rfl 0 rfl ?_
      refine x_geti fl_X6_170_0 rfl hBs29.i.1 (gIo (by omega)) dX6_saysRead_31 (n := 34) rfl ?_
      refine x_sipush dX6_saysRead_34 (n := 37) rfl sp_9999 ?_
      refine x_cVim (As := [.int (gI s29 o 11), .int 9999]) (rest := []) cv_X6_179 ck0 (met_X6_number o (pI s29 (o + 16) (x1 + 1).toNatClampNeg (gI s29 o 11)) (gI s29 o 11) 9999 _ hBs29.i h) hBs29.i.1 (by decide) rfl rfl rfl dX6_saysRead_37 (n := 40) rfl (fun r36 s34 hs35 h => ?_)
      have hs35t := hs30t.i.tr hs35; have hBs34 := hB0.sh hs35t
      refine x_if_ne (tgt := 45) dX6_saysRead_40 rfl (n := 43) rfl (fun c37 => ?_) (fun c37 => ?_)
      · have h := h.2 c37
        refine x_aload_n dX6_saysRead_45 (n := 46) rfl rfl 0 rfl ?_
        refine x_getr fl_X6_60_0 rfl hBs34.1 hBs34.r40 dX6_saysRead_46 (n := 49) rfl ?_
        refine x_iload_n dX6_saysRead_49 (n := 50) rfl rfl 1 rfl ?_
        refine x_iconst dX6_saysRead_50 (n := 51) rfl ic_2 ?_
        refine x_iadd dX6_saysRead_51 (n := 52) rfl ?_
        refine x_aload_n dX6_saysRead_52 (n := 53) rfl rfl 0 rfl ?_
        refine x_geti fl_X6_170_0 rfl hBs34.1 rfl dX6_saysRead_53 (n := 56) rfl ?_
        obtain ⟨b38, h⟩ := h
        refine x_iast hBs34.a40 b38 rfl dX6_saysRead_56 (n := 57) rfl ?_
        refine x_iconst dX6_saysRead_57 (n := 58) rfl ic_1 ?_
        exact x_zret rq ⟨hs35t.i, h⟩ isB1 dX6_saysRead_58
      · have h := h.1 c37
        refine x_iconst dX6_saysRead_43 (n := 44) rfl ic_0 ?_
        exact x_zret rq ⟨hs35t, h⟩ isB0 dX6_saysRead_44
    · have h := h.1 c32
      refine x_iconst dX6_saysRead_15 (n := 16) rfl ic_0 ?_
      exact x_zret rq ⟨hs30t, h⟩ isB0 dX6_saysRead_16
abbrev rm_X6_noteLine : Room := { frames := 5, cells := 0, slots := 0, locals := 114 }
def lb_X6_noteLine_78 (o : Nat) (x1 : Int32) (Q : Int32 → Hp → Prop)  (K78 : Int32 × Hp → Prop) (z : Int32 × Hp) : Prop := match z with
  | (x2, σ) => (x2 < 0 → Q 1 (pI σ o 22 ((gI σ o 22) + 1))) ∧ (¬ x2 < 0 → (vp_in x1 264) ∧ (((f_X6_isOf (gI σ (o + 16) x1.toNatClampNeg) x2) = 0 → (vp_in x1 264) ∧ ((vp_in x1 264) ∧ (wp_X6_token o (pI σ (o + 16) x1.toNatClampNeg ((gI σ (o + 16) x1.toNatClampNeg) ||| (1 <<< (x2 &&& 31)))) (fun  s25 => wp_X6_saysRead o s25 x1 x2 (fun r29 s27 => (r29 = 0 → Q 0 s27) ∧ (¬ r29 = 0 → K78 (f_X6_noteWord o s27, s27))))))) ∧ (¬ (f_X6_isOf (gI σ (o + 16) x1.toNatClampNeg) x2) = 0 → ∀ (r37 : Int32) (s33 : Hp), (r37, s33) = f_X6_wrong o σ 3 → (r37 = 0 ∨ r37 = 1) ∧ (Q r37 s33))))
def lb_X6_noteLine_52 (o : Nat) (x1 : Int32) (Q : Int32 → Hp → Prop)  (K52 : Int32 × Hp → Prop) (z : Int32 × Hp) : Prop := match z with
  | (x2, σ) => (11 ≤ x2 → lp (lb_X6_noteLine_78 o x1 Q) (f_X6_noteWord o σ, σ)) ∧ (¬ 11 ≤ x2 → (vp_in (x1 + x2) 264) ∧ (K52 (x2 + 1, pI σ (o + 16) (x1 + x2).toNatClampNeg 0)))
def wp_X6_noteLine (o : Nat) (σ0 : Hp) (Q : Int32 → Hp → Prop) : Prop := ((gI σ0 o 22) = 6 → ∀ (r12 : Int32) (s8 : Hp), (r12, s8) = f_X6_wrong o σ0 2 → (r12 = 0 ∨ r12 = 1) ∧ (Q r12 s8)) ∧ (¬ (gI σ0 o 22) = 6 → wp_X6_token o σ0 (fun  s2 => wp_X6_newName o s2 (o + 15) 12 6 (gI s2 o 22) (fun r6 s4 => (r6 = 0 → Q 0 s4) ∧ (¬ r6 = 0 → lp (lb_X6_noteLine_52 o (132 + (11 * (gI s4 o 22))) Q) (0, s4)))))
theorem xl_X6_noteLine_78 (o : Nat) (σ0 : Hp) (Q : Int32 → Hp → Prop) (G : XE) (hB0 : MB o σ0) (rq : RQ G 0 0 (oI (fun r σ' => SH σ0 σ' ∧ Q r σ'))) (x1 : Int32)    : ∀ z : Int32 × Hp, SH σ0 z.2 → lp (lb_X6_noteLine_78 o x1 Q ) z → X G rm_X6_noteLine cX6_noteLine RX6 3 (some .boolean) z.2 0 0 78 [(0, .ref o), (1, .int x1), (2, .int z.1)] [] := by
  intro z
  refine fun hs h => lp_X (P := fun z => SH σ0 z.2 → X G rm_X6_noteLine cX6_noteLine RX6 3 (some .boolean) z.2 0 0 78 [(0, .ref o), (1, .int x1), (2, .int z.1)] []) ?_ h hs
  intro K78 hK78 z h hs
  obtain ⟨x2, σ⟩ := z
  have hs : SH σ0 σ := hs
  have hB := hB0.sh hs
  simp only [lb_X6_noteLine_78] at h
  show X G rm_X6_noteLine cX6_noteLine RX6 3 (some .boolean) σ 0 0 78 [(0, .ref o), (1, .int x1), (2, .int x2)] []
  have hK78 : ∀ z : (Int32 × Hp), SH σ0 z.2 → K78 z → X G rm_X6_noteLine cX6_noteLine RX6 3 (some .boolean) z.2 0 0 78 [(0, .ref o), (1, .int x1), (2, .int z.1)] [] := fun z hs h => hK78 z h hs
  refine x_iload_n dX6_noteLine_78 (n := 79) rfl rfl 2 rfl ?_
  refine x_if_lt (tgt := 136) dX6_noteLine_79 rfl (n := 82) rfl (fun c18 => ?_) (fun c18 => ?_)
  · have h := h.1 c18
    refine x_aload_n dX6_noteLine_136 (n := 137) rfl rfl 0 rfl ?_
    refine x_dup dX6_noteLine_137 (n := 138) rfl rfl ?_
    refine x_geti fl_X6_198_0 rfl hB.1 rfl dX6_noteLine_138 (n := 141) rfl ?_
    refine x_iconst dX6_noteLine_141 (n := 142) rfl ic_1 ?_
    refine x_iadd dX6_noteLine_142 (n := 143) rfl ?_
    refine x_puti fp_X6_198_0 rfl hB.1 dX6_noteLine_143 (n := 146) rfl ?_
    refine x_iconst dX6_noteLine_146 (n := 147) rfl ic_1 ?_
    exact x_zret rq ⟨hs.i, h⟩ isB1 dX6_noteLine_147
  · have h := h.2 c18
    refine x_aload_n dX6_noteLine_82 (n := 83) rfl rfl 0 rfl ?_
    refine x_getr fl_X6_60_0 rfl hB.1 hB.r40 dX6_noteLine_83 (n := 86) rfl ?_
    refine x_iload_n dX6_noteLine_86 (n := 87) rfl rfl 1 rfl ?_
    obtain ⟨b19, h⟩ := h
    refine x_iald hB.a40 b19 rfl dX6_noteLine_87 (n := 88) rfl ?_
    refine x_iload_n dX6_noteLine_88 (n := 89) rfl rfl 2 rfl ?_
    refine x_cSip (As := [.int (gI σ (o + 16) x1.toNatClampNeg), .int x2]) (rest := []) cs_X6_297 (met_X6_isOf σ (gI σ (o + 16) x1.toNatClampNeg) x2 ) (by decide) rfl rfl rfl dX6_noteLine_89 (n := 92) rfl (fun r21 q => ?_)
    subst q
    refine x_if_eq (tgt := 101) dX6_noteLine_92 rfl (n := 95) rfl (fun c22 => ?_) (fun c22 => ?_)
    · have h := h.1 c22
      refine x_aload_n dX6_noteLine_101 (n := 102) rfl rfl 0 rfl ?_
      refine x_getr fl_X6_60_0 rfl hB.1 hB.r40 dX6_noteLine_102 (n := 105) rfl ?_
      refine x_iload_n dX6_noteLine_105 (n := 106) rfl rfl 1 rfl ?_
      refine x_dup2 dX6_noteLine_106 (n := 107) rfl rfl rfl ?_
      obtain ⟨b23, h⟩ := h
      refine x_iald hB.a40 b23 rfl dX6_noteLine_107 (n := 108) rfl ?_
      refine x_iconst dX6_noteLine_108 (n := 109) rfl ic_1 ?_
      refine x_iload_n dX6_noteLine_109 (n := 110) rfl rfl 2 rfl ?_
      refine x_ishl dX6_noteLine_110 (n := 111) rfl ?_
      refine x_ior dX6_noteLine_111 (n := 112) rfl ?_
      obtain ⟨b24, h⟩ := h
      refine x_iast hB.a40 b24 rfl dX6_noteLine_112 (n := 113) rfl ?_
      refine x_aload_n dX6_noteLine_113 (n := 114) rfl rfl 0 rfl ?_
      refine x_cVvm (As := []) (rest := []) cv_X6_173 ck0 (met_X6_token o (pI σ (o + 16) x1.toNatClampNeg ((gI σ (o + 16) x1.toNatClampNeg) ||| (1 <<< (x2 &&& 31)))) _ hB.i h) hB.i.1 (by decide) rfl rfl rfl dX6_noteLine_114 (n := 117) rfl (fun  s25 hs26 h => ?_)
      have hs26t := hs.i.tr hs26; have hBs25 := hB0.sh hs26t
      refine x_aload_n dX6_noteLine_117 (n := 118) rfl rfl 0 rfl ?_
      refine x_iload_n dX6_noteLine_118 (n := 119) rfl rfl 1 rfl ?_
      refine x_iload_n dX6_noteLine_119 (n := 120) rfl rfl 2 rfl ?_
      refine x_cVim (As := [.int x1, .int x2]) (rest := []) cv_X6_300 ck0 (met_X6_saysRead o s25 x1 x2 _ hBs25 h) hBs25.1 (by decide) rfl rfl rfl dX6_noteLine_120 (n := 123) rfl (fun r29 s27 hs28 h => ?_)
      have hs28t := hs26t.tr hs28; have hBs27 := hB0.sh hs28t
      refine x_if_ne (tgt := 128) dX6_noteLine_123 rfl (n := 126) rfl (fun c30 => ?_) (fun c30 => ?_)
      · have h := h.2 c30
        refine x_aload_n dX6_noteLine_128 (n := 129) rfl rfl 0 rfl ?_
        refine x_cVip (As := []) (rest := []) cv_X6_293 ck0 (met_X6_noteWord o s27 hBs27) hBs27.1 (by decide) rfl rfl rfl dX6_noteLine_129 (n := 132) rfl (fun r32 q => ?_)
        subst q
        refine x_istore_n (lvs' := [(2, .int (f_X6_noteWord o s27)), (0, .ref o), (1, .int x1)]) dX6_noteLine_132 (n := 133) rfl rfl (by decide) rfl ?_
        refine x_goto (tgt := 78) dX6_noteLine_133 rfl ?_
        exact x_sub [1, 2, 0] rfl (hK78 (f_X6_noteWord o s27, s27) hs28t h)
      · have h := h.1 c30
        refine x_iconst dX6_noteLine_126 (n := 127) rfl ic_0 ?_
        exact x_zret rq ⟨hs28t, h⟩ isB0 dX6_noteLine_127
    · have h := h.2 c22
      refine x_aload_n dX6_noteLine_95 (n := 96) rfl rfl 0 rfl ?_
      refine x_iconst dX6_noteLine_96 (n := 97) rfl ic_3 ?_
      refine x_cVim (As := [.int 3]) (rest := []) cv_X6_163 ck0 (met_X6_wrong o σ 3 hB) hB.1 (by decide) rfl rfl rfl dX6_noteLine_97 (n := 100) rfl (fun r37 s33 hs34 e36 => ?_)
      have hs34t := hs.tr hs34; have hBs33 := hB0.sh hs34t
      have h := h r37 s33 e36
      obtain ⟨b38, h⟩ := h
      exact x_zret rq ⟨hs34t, h⟩ b38 dX6_noteLine_100
theorem xl_X6_noteLine_52 (o : Nat) (σ0 : Hp) (Q : Int32 → Hp → Prop) (G : XE) (hB0 : MB o σ0) (rq : RQ G 0 0 (oI (fun r σ' => SH σ0 σ' ∧ Q r σ'))) (x1 : Int32)    : ∀ z : Int32 × Hp, SH σ0 z.2 → lp (lb_X6_noteLine_52 o x1 Q ) z → X G rm_X6_noteLine cX6_noteLine RX6 3 (some .boolean) z.2 0 0 52 [(0, .ref o), (1, .int x1), (2, .int z.1)] [] := by
  intro z
  refine fun hs h => lp_X (P := fun z => SH σ0 z.2 → X G rm_X6_noteLine cX6_noteLine RX6 3 (some .boolean) z.2 0 0 52 [(0, .ref o), (1, .int x1), (2, .int z.1)] []) ?_ h hs
  intro K52 hK52 z h hs
  obtain ⟨x2, σ⟩ := z
  have hs : SH σ0 σ := hs
  have hB := hB0.sh hs
  simp only [lb_X6_noteLine_52] at h
  show X G rm_X6_noteLine cX6_noteLine RX6 3 (some .boolean) σ 0 0 52 [(0, .ref o), (1, .int x1), (2, .int x2)] []
  have hK52 : ∀ z : (Int32 × Hp), SH σ0 z.2 → K52 z → X G rm_X6_noteLine cX6_noteLine RX6 3 (some .boolean) z.2 0 0 52 [(0, .ref o), (1, .int x1), (2, .int z.1)] [] := fun z hs h => hK52 z h hs
  refine x_iload_n dX6_noteLine_52 (n := 53) rfl rfl 2 rfl ?_
  refine x_bipush dX6_noteLine_53 (n := 55) rfl bp_11 ?_
  refine x_icmp_ge (tgt := 73) dX6_noteLine_55 rfl (n := 58) rfl (fun c14 => ?_) (fun c14 => ?_)
  · have h := h.1 c14
    refine x_aload_n dX6_noteLine_73 (n := 74) rfl rfl 0 rfl ?_
    refine x_cVip (As := []) (rest := []) cv_X6_293 ck0 (met_X6_noteWord o σ hB) hB.1 (by decide) rfl rfl rfl dX6_noteLine_74 (n := 77) rfl (fun r16 q => ?_)
    subst q
    refine x_istore_n (lvs' := [(2, .int (f_X6_noteWord o σ)), (0, .ref o), (1, .int x1)]) dX6_noteLine_77 (n := 78) rfl rfl (by decide) rfl ?_
    exact x_sub [1, 2, 0] rfl (xl_X6_noteLine_78 o σ0 Q G hB0 rq x1 (f_X6_noteWord o σ, σ) hs h)
  · have h := h.2 c14
    refine x_aload_n dX6_noteLine_58 (n := 59) rfl rfl 0 rfl ?_
    refine x_getr fl_X6_60_0 rfl hB.1 hB.r40 dX6_noteLine_59 (n := 62) rfl ?_
    refine x_iload_n dX6_noteLine_62 (n := 63) rfl rfl 1 rfl ?_
    refine x_iload_n dX6_noteLine_63 (n := 64) rfl rfl 2 rfl ?_
    refine x_iadd dX6_noteLine_64 (n := 65) rfl ?_
    refine x_iconst dX6_noteLine_65 (n := 66) rfl ic_0 ?_
    obtain ⟨b17, h⟩ := h
    refine x_iast hB.a40 b17 rfl dX6_noteLine_66 (n := 67) rfl ?_
    refine x_iinc (v := x2 + 1) (lvs' := [(2, .int (x2 + 1)), (0, .ref o), (1, .int x1)]) dX6_noteLine_67 (n := 70) rfl 2 rfl rfl (by decide) rfl ?_
    refine x_goto (tgt := 52) dX6_noteLine_70 rfl ?_
    exact x_sub [1, 2, 0] rfl (hK52 (x2 + 1, pI σ (o + 16) (x1 + x2).toNatClampNeg 0) hs.i h)
theorem met_X6_noteLine (o : Nat) (σ0 : Hp) (Q : Int32 → Hp → Prop) (hB0 : MB o σ0) (h : wp_X6_noteLine o σ0 Q) : MetX yX6_noteLine cX6_noteLine 3 (some .boolean) rm_X6_noteLine σ0 [.ref o] (oI (fun r σ' => SH σ0 σ' ∧ Q r σ')) 0 0 := by
  refine metX_of (own := RX6) (lvs := [(0, .ref o)]) (by decide) rfl (Nat.le_of_ble_eq_true rfl) rfl (fun G rq => ?_)
  unfold wp_X6_noteLine at h
  refine x_aload_n dX6_noteLine_0 (n := 1) rfl rfl 0 rfl ?_
  refine x_geti fl_X6_198_0 rfl hB0.1 rfl dX6_noteLine_1 (n := 4) rfl ?_
  refine x_bipush dX6_noteLine_4 (n := 6) rfl bp_6 ?_
  refine x_icmp_ne (tgt := 15) dX6_noteLine_6 rfl (n := 9) rfl (fun c1 => ?_) (fun c1 => ?_)
  · have h := h.2 c1
    refine x_aload_n dX6_noteLine_15 (n := 16) rfl rfl 0 rfl ?_
    refine x_cVvm (As := []) (rest := []) cv_X6_173 ck0 (met_X6_token o σ0 _ hB0 h) hB0.1 (by decide) rfl rfl rfl dX6_noteLine_16 (n := 19) rfl (fun  s2 hs3 h => ?_)
    have hs3t := (SH.rf (σ := σ0)).tr hs3; have hBs2 := hB0.sh hs3t
    refine x_aload_n dX6_noteLine_19 (n := 20) rfl rfl 0 rfl ?_
    refine x_aload_n dX6_noteLine_20 (n := 21) rfl rfl 0 rfl ?_
    refine x_getr fl_X6_57_0 rfl hBs2.1 hBs2.r39 dX6_noteLine_21 (n := 24) rfl ?_
    refine x_bipush dX6_noteLine_24 (n := 26) rfl bp_6 ?_
    refine x_aload_n dX6_noteLine_26 (n := 27) rfl rfl 0 rfl ?_
    refine x_geti fl_X6_198_0 rfl hBs2.1 rfl dX6_noteLine_27 (n := 30) rfl ?_
    refine x_cVim (As := [.ref (o + 15), .int 6, .int (gI s2 o 22)]) (rest := []) cv_X6_259 ck0 (met_X6_newName o s2 (o + 15) 12 6 (gI s2 o 22) _ hBs2 hBs2.a39 h) hBs2.1 (by decide) rfl rfl rfl dX6_noteLine_30 (n := 33) rfl (fun r6 s4 hs5 h => ?_)
    have hs5t := hs3t.tr hs5; have hBs4 := hB0.sh hs5t
    refine x_if_ne (tgt := 38) dX6_noteLine_33 rfl (n := 36) rfl (fun c7 => ?_) (fun c7 => ?_)
    · have h := h.2 c7
      refine x_sipush dX6_noteLine_38 (n := 41) rfl sp_132 ?_
      refine x_bipush dX6_noteLine_41 (n := 43) rfl bp_11 ?_
      refine x_aload_n dX6_noteLine_43 (n := 44) rfl rfl 0 rfl ?_
      refine x_geti fl_X6_198_0 rfl hBs4.1 rfl dX6_noteLine_44 (n := 47) rfl ?_
      refine x_imul dX6_noteLine_47 (n := 48) rfl ?_
      refine x_iadd dX6_noteLine_48 (n := 49) rfl ?_
      refine x_istore_n (lvs' := [(1, .int (132 + (11 * (gI s4 o 22)))), (0, .ref o)]) dX6_noteLine_49 (n := 50) rfl rfl (by decide) rfl ?_
      refine x_iconst dX6_noteLine_50 (n := 51) rfl ic_0 ?_
      refine x_istore_n (lvs' := [(2, .int 0), (1, .int (132 + (11 * (gI s4 o 22)))), (0, .ref o)]) dX6_noteLine_51 (n := 52) rfl rfl (by decide) rfl ?_
      exact x_sub [2, 1, 0] rfl (xl_X6_noteLine_52 o σ0 Q G hB0 rq (132 + (11 * (gI s4 o 22))) (0, s4) hs5t h)
    · have h := h.1 c7
      refine x_iconst dX6_noteLine_36 (n := 37) rfl ic_0 ?_
      exact x_zret rq ⟨hs5t, h⟩ isB0 dX6_noteLine_37
  · have h := h.1 c1
    refine x_aload_n dX6_noteLine_9 (n := 10) rfl rfl 0 rfl ?_
    refine x_iconst dX6_noteLine_10 (n := 11) rfl ic_2 ?_
    refine x_cVim (As := [.int 2]) (rest := []) cv_X6_163 ck0 (met_X6_wrong o σ0 2 hB0) hB0.1 (by decide) rfl rfl rfl dX6_noteLine_11 (n := 14) rfl (fun r12 s8 hs9 e11 => ?_)
    have hs9t := (SH.rf (σ := σ0)).tr hs9; have hBs8 := hB0.sh hs9t
    have h := h r12 s8 e11
    obtain ⟨b13, h⟩ := h
    exact x_zret rq ⟨hs9t, h⟩ b13 dX6_noteLine_14
abbrev rm_X6_personLine : Room := { frames := 4, cells := 0, slots := 0, locals := 97 }
def wp_X6_personLine (o : Nat) (σ0 : Hp) (Q : Int32 → Hp → Prop) : Prop := ((gI σ0 o 20) = 6 → ∀ (r28 : Int32) (s24 : Hp), (r28, s24) = f_X6_wrong o σ0 2 → (r28 = 0 ∨ r28 = 1) ∧ (Q r28 s24)) ∧ (¬ (gI σ0 o 20) = 6 → wp_X6_token o σ0 (fun  s2 => wp_X6_newName o s2 (o + 9) 12 6 (gI s2 o 20) (fun r6 s4 => (r6 = 0 → Q 0 s4) ∧ (¬ r6 = 0 → wp_X6_dateRead o s4 0 (fun r10 s8 => (r10 = 0 → Q 0 s8) ∧ (¬ r10 = 0 → (vp_in (6 + (gI s8 o 20)) 12) ∧ ((vp_in (6 + (gI s8 o 20)) 12) ∧ (((f_X6_isKey o (pL (pL s8 (o + 10) (6 + (gI s8 o 20)).toNatClampNeg (gL s8 o 44)) (o + 11) (6 + (gI s8 o 20)).toNatClampNeg (-1)) 9) = 0 → Q 1 (pI (pL (pL s8 (o + 10) (6 + (gI s8 o 20)).toNatClampNeg (gL s8 o 44)) (o + 11) (6 + (gI s8 o 20)).toNatClampNeg (-1)) o 20 ((gI s8 o 20) + 1))) ∧ (¬ (f_X6_isKey o (pL (pL s8 (o + 10) (6 + (gI s8 o 20)).toNatClampNeg (gL s8 o 44)) (o + 11) (6 + (gI s8 o 20)).toNatClampNeg (-1)) 9) = 0 → wp_X6_token o (pL (pL s8 (o + 10) (6 + (gI s8 o 20)).toNatClampNeg (gL s8 o 44)) (o + 11) (6 + (gI s8 o 20)).toNatClampNeg (-1)) (fun  s17 => wp_X6_dateRead o s17 (gL s17 o 44) (fun r21 s19 => (r21 = 0 → Q 0 s19) ∧ (¬ r21 = 0 → (vp_in (6 + (gI s19 o 20)) 12) ∧ (Q 1 (pI (pL s19 (o + 11) (6 + (gI s19 o 20)).toNatClampNeg (gL s19 o 44)) o 20 ((gI s19 o 20) + 1)))))))))))))))
theorem met_X6_personLine (o : Nat) (σ0 : Hp) (Q : Int32 → Hp → Prop) (hB0 : MB o σ0) (h : wp_X6_personLine o σ0 Q) : MetX yX6_personLine cX6_personLine 1 (some .boolean) rm_X6_personLine σ0 [.ref o] (oI (fun r σ' => SH σ0 σ' ∧ Q r σ')) 0 0 := by
  refine metX_of (own := RX6) (lvs := [(0, .ref o)]) (by decide) rfl (Nat.le_of_ble_eq_true rfl) rfl (fun G rq => ?_)
  unfold wp_X6_personLine at h
  refine x_aload_n dX6_personLine_0 (n := 1) rfl rfl 0 rfl ?_
  refine x_geti fl_X6_192_0 rfl hB0.1 rfl dX6_personLine_1 (n := 4) rfl ?_
  refine x_bipush dX6_personLine_4 (n := 6) rfl bp_6 ?_
  refine x_icmp_ne (tgt := 15) dX6_personLine_6 rfl (n := 9) rfl (fun c1 => ?_) (fun c1 => ?_)
  · have h := h.2 c1
    refine x_aload_n dX6_personLine_15 (n := 16) rfl rfl 0 rfl ?_
    refine x_cVvm (As := []) (rest := []) cv_X6_173 ck0 (met_X6_token o σ0 _ hB0 h) hB0.1 (by decide) rfl rfl rfl dX6_personLine_16 (n := 19) rfl (fun  s2 hs3 h => ?_)
    have hs3t := (SH.rf (σ := σ0)).tr hs3; have hBs2 := hB0.sh hs3t
    refine x_aload_n dX6_personLine_19 (n := 20) rfl rfl 0 rfl ?_
    refine x_aload_n dX6_personLine_20 (n := 21) rfl rfl 0 rfl ?_
    refine x_getr fl_X6_38_0 rfl hBs2.1 hBs2.r33 dX6_personLine_21 (n := 24) rfl ?_
    refine x_bipush dX6_personLine_24 (n := 26) rfl bp_6 ?_
    refine x_aload_n dX6_personLine_26 (n := 27) rfl rfl 0 rfl ?_
    refine x_geti fl_X6_192_0 rfl hBs2.1 rfl dX6_personLine_27 (n := 30) rfl ?_
    refine x_cVim (As := [.ref (o + 9), .int 6, .int (gI s2 o 20)]) (rest := []) cv_X6_259 ck0 (met_X6_newName o s2 (o + 9) 12 6 (gI s2 o 20) _ hBs2 hBs2.a33 h) hBs2.1 (by decide) rfl rfl rfl dX6_personLine_30 (n := 33) rfl (fun r6 s4 hs5 h => ?_)
    have hs5t := hs3t.tr hs5; have hBs4 := hB0.sh hs5t
    refine x_if_eq (tgt := 44) dX6_personLine_33 rfl (n := 36) rfl (fun c7 => ?_) (fun c7 => ?_)
    · have h := h.1 c7
      refine x_iconst dX6_personLine_44 (n := 45) rfl ic_0 ?_
      exact x_zret rq ⟨hs5t, h⟩ isB0 dX6_personLine_45
    · have h := h.2 c7
      refine x_aload_n dX6_personLine_36 (n := 37) rfl rfl 0 rfl ?_
      refine x_lconst dX6_personLine_37 (n := 38) rfl lc_0 ?_
      refine x_cVim (As := [.long 0]) (rest := []) cv_X6_283 ck0 (met_X6_dateRead o s4 0 _ hBs4 h) hBs4.1 (by decide) rfl rfl rfl dX6_personLine_38 (n := 41) rfl (fun r10 s8 hs9 h => ?_)
      have hs9t := hs5t.tr hs9; have hBs8 := hB0.sh hs9t
      refine x_if_ne (tgt := 46) dX6_personLine_41 rfl (n := 44) rfl (fun c11 => ?_) (fun c11 => ?_)
      · have h := h.2 c11
        refine x_aload_n dX6_personLine_46 (n := 47) rfl rfl 0 rfl ?_
        refine x_getr fl_X6_41_0 rfl hBs8.1 hBs8.r34 dX6_personLine_47 (n := 50) rfl ?_
        refine x_bipush dX6_personLine_50 (n := 52) rfl bp_6 ?_
        refine x_aload_n dX6_personLine_52 (n := 53) rfl rfl 0 rfl ?_
        refine x_geti fl_X6_192_0 rfl hBs8.1 rfl dX6_personLine_53 (n := 56) rfl ?_
        refine x_iadd dX6_personLine_56 (n := 57) rfl ?_
        refine x_aload_n dX6_personLine_57 (n := 58) rfl rfl 0 rfl ?_
        refine x_getl fl_X6_279_0 rfl hBs8.1 rfl dX6_personLine_58 (n := 61) rfl ?_
        obtain ⟨b12, h⟩ := h
        refine x_last hBs8.a34 b12 rfl dX6_personLine_61 (n := 62) rfl ?_
        refine x_aload_n dX6_personLine_62 (n := 63) rfl rfl 0 rfl ?_
        refine x_getr fl_X6_45_0 rfl hBs8.l.1 hBs8.l.r35 dX6_personLine_63 (n := 66) rfl ?_
        refine x_bipush dX6_personLine_66 (n := 68) rfl bp_6 ?_
        refine x_aload_n dX6_personLine_68 (n := 69) rfl rfl 0 rfl ?_
        refine x_geti fl_X6_192_0 rfl hBs8.l.1 (gIl) dX6_personLine_69 (n := 72) rfl ?_
        refine x_iadd dX6_personLine_72 (n := 73) rfl ?_
        refine x_ldc2 dX6_personLine_73 (n := 76) rfl q1880 ?_
        obtain ⟨b13, h⟩ := h
        refine x_last hBs8.l.a35 b13 rfl dX6_personLine_76 (n := 77) rfl ?_
        refine x_aload_n dX6_personLine_77 (n := 78) rfl rfl 0 rfl ?_
        refine x_bipush dX6_personLine_78 (n := 80) rfl bp_9 ?_
        refine x_cVip (As := [.int 9]) (rest := []) cv_X6_183 ck0 (met_X6_isKey o (pL (pL s8 (o + 10) (6 + (gI s8 o 20)).toNatClampNeg (gL s8 o 44)) (o + 11) (6 + (gI s8 o 20)).toNatClampNeg (-1)) 9 hBs8.l.l) hBs8.l.l.1 (by decide) rfl rfl rfl dX6_personLine_80 (n := 83) rfl (fun r15 q => ?_)
        subst q
        refine x_if_eq (tgt := 119) dX6_personLine_83 rfl (n := 86) rfl (fun c16 => ?_) (fun c16 => ?_)
        · have h := h.1 c16
          refine x_aload_n dX6_personLine_119 (n := 120) rfl rfl 0 rfl ?_
          refine x_dup dX6_personLine_120 (n := 121) rfl rfl ?_
          refine x_geti fl_X6_192_0 rfl hBs8.l.l.1 (gIl.trans (gIl)) dX6_personLine_121 (n := 124) rfl ?_
          refine x_iconst dX6_personLine_124 (n := 125) rfl ic_1 ?_
          refine x_iadd dX6_personLine_125 (n := 126) rfl ?_
          refine x_puti fp_X6_192_0 rfl hBs8.l.l.1 dX6_personLine_126 (n := 129) rfl ?_
          refine x_iconst dX6_personLine_129 (n := 130) rfl ic_1 ?_
          exact x_zret rq ⟨hs9t.l.l.i, h⟩ isB1 dX6_personLine_130
        · have h := h.2 c16
          refine x_aload_n dX6_personLine_86 (n := 87) rfl rfl 0 rfl ?_
          refine x_cVvm (As := []) (rest := []) cv_X6_173 ck0 (met_X6_token o (pL (pL s8 (o + 10) (6 + (gI s8 o 20)).toNatClampNeg (gL s8 o 44)) (o + 11) (6 + (gI s8 o 20)).toNatClampNeg (-1)) _ hBs8.l.l h) hBs8.l.l.1 (by decide) rfl rfl rfl dX6_personLine_87 (n := 90) rfl (fun  s17 hs18 h => ?_)
          have hs18t := hs9t.l.l.tr hs18; have hBs17 := hB0.sh hs18t
          refine x_aload_n dX6_personLine_90 (n := 91) rfl rfl 0 rfl ?_
          refine x_aload_n dX6_personLine_91 (n := 92) rfl rfl 0 rfl ?_
          refine x_getl fl_X6_279_0 rfl hBs17.1 rfl dX6_personLine_92 (n := 95) rfl ?_
          refine x_cVim (As := [.long (gL s17 o 44)]) (rest := []) cv_X6_283 ck0 (met_X6_dateRead o s17 (gL s17 o 44) _ hBs17 h) hBs17.1 (by decide) rfl rfl rfl dX6_personLine_95 (n := 98) rfl (fun r21 s19 hs20 h => ?_)
          have hs20t := hs18t.tr hs20; have hBs19 := hB0.sh hs20t
          refine x_if_ne (tgt := 103) dX6_personLine_98 rfl (n := 101) rfl (fun c22 => ?_) (fun c22 => ?_)
          · have h := h.2 c22
            refine x_aload_n dX6_personLine_103 (n := 104) rfl rfl 0 rfl ?_
            refine x_getr fl_X6_45_0 rfl hBs19.1 hBs19.r35 dX6_personLine_104 (n := 107) rfl ?_
            refine x_bipush dX6_personLine_107 (n := 109) rfl bp_6 ?_
            refine x_aload_n dX6_personLine_109 (n := 110) rfl rfl 0 rfl ?_
            refine x_geti fl_X6_192_0 rfl hBs19.1 rfl dX6_personLine_110 (n := 113) rfl ?_
            refine x_iadd dX6_personLine_113 (n := 114) rfl ?_
            refine x_aload_n dX6_personLine_114 (n := 115) rfl rfl 0 rfl ?_
            refine x_getl fl_X6_279_0 rfl hBs19.1 rfl dX6_personLine_115 (n := 118) rfl ?_
            obtain ⟨b23, h⟩ := h
            refine x_last hBs19.a35 b23 rfl dX6_personLine_118 (n := 119) rfl ?_
            refine x_aload_n dX6_personLine_119 (n := 120) rfl rfl 0 rfl ?_
            refine x_dup dX6_personLine_120 (n := 121) rfl rfl ?_
            refine x_geti fl_X6_192_0 rfl hBs19.l.1 (gIl) dX6_personLine_121 (n := 124) rfl ?_
            refine x_iconst dX6_personLine_124 (n := 125) rfl ic_1 ?_
            refine x_iadd dX6_personLine_125 (n := 126) rfl ?_
            refine x_puti fp_X6_192_0 rfl hBs19.l.1 dX6_personLine_126 (n := 129) rfl ?_
            refine x_iconst dX6_personLine_129 (n := 130) rfl ic_1 ?_
            exact x_zret rq ⟨hs20t.l.i, h⟩ isB1 dX6_personLine_130
          · have h := h.1 c22
            refine x_iconst dX6_personLine_101 (n := 102) rfl ic_0 ?_
            exact x_zret rq ⟨hs20t, h⟩ isB0 dX6_personLine_102
      · have h := h.1 c11
        refine x_iconst dX6_personLine_44 (n := 45) rfl ic_0 ?_
        exact x_zret rq ⟨hs9t, h⟩ isB0 dX6_personLine_45
  · have h := h.1 c1
    refine x_aload_n dX6_personLine_9 (n := 10) rfl rfl 0 rfl ?_
    refine x_iconst dX6_personLine_10 (n := 11) rfl ic_2 ?_
    refine x_cVim (As := [.int 2]) (rest := []) cv_X6_163 ck0 (met_X6_wrong o σ0 2 hB0) hB0.1 (by decide) rfl rfl rfl dX6_personLine_11 (n := 14) rfl (fun r28 s24 hs25 e27 => ?_)
    have hs25t := (SH.rf (σ := σ0)).tr hs25; have hBs24 := hB0.sh hs25t
    have h := h r28 s24 e27
    obtain ⟨b29, h⟩ := h
    exact x_zret rq ⟨hs25t, h⟩ b29 dX6_personLine_14
abbrev rm_X6_sunLine : Room := { frames := 4, cells := 0, slots := 0, locals := 90 }
def wp_X6_sunLine (o : Nat) (σ0 : Hp) (Q : Int32 → Hp → Prop) : Prop := ((gI σ0 o 27) = 0 → wp_X6_token o (pI σ0 o 27 1) (fun  s2 => wp_X6_roundRead o s2 12 (fun r6 s4 => (r6 = 0 ∨ r6 = 1) ∧ (Q r6 s4)))) ∧ (¬ (gI σ0 o 27) = 0 → ∀ (r12 : Int32) (s8 : Hp), (r12, s8) = f_X6_wrong o σ0 3 → (r12 = 0 ∨ r12 = 1) ∧ (Q r12 s8))
theorem met_X6_sunLine (o : Nat) (σ0 : Hp) (Q : Int32 → Hp → Prop) (hB0 : MB o σ0) (h : wp_X6_sunLine o σ0 Q) : MetX yX6_sunLine cX6_sunLine 1 (some .boolean) rm_X6_sunLine σ0 [.ref o] (oI (fun r σ' => SH σ0 σ' ∧ Q r σ')) 0 0 := by
  refine metX_of (own := RX6) (lvs := [(0, .ref o)]) (by decide) rfl (Nat.le_of_ble_eq_true rfl) rfl (fun G rq => ?_)
  unfold wp_X6_sunLine at h
  refine x_aload_n dX6_sunLine_0 (n := 1) rfl rfl 0 rfl ?_
  refine x_geti fl_X6_214_0 rfl hB0.1 rfl dX6_sunLine_1 (n := 4) rfl ?_
  refine x_if_eq (tgt := 13) dX6_sunLine_4 rfl (n := 7) rfl (fun c1 => ?_) (fun c1 => ?_)
  · have h := h.1 c1
    refine x_aload_n dX6_sunLine_13 (n := 14) rfl rfl 0 rfl ?_
    refine x_iconst dX6_sunLine_14 (n := 15) rfl ic_1 ?_
    refine x_putz fp_X6_214_0 rfl hB0.1 isB1 dX6_sunLine_15 (n := 18) rfl ?_
    refine x_aload_n dX6_sunLine_18 (n := 19) rfl rfl 0 rfl ?_
    refine x_cVvm (As := []) (rest := []) cv_X6_173 ck0 (met_X6_token o (pI σ0 o 27 1) _ hB0.i h) hB0.i.1 (by decide) rfl rfl rfl dX6_sunLine_19 (n := 22) rfl (fun  s2 hs3 h => ?_)
    have hs3t := (SH.rf (σ := σ0)).i.tr hs3; have hBs2 := hB0.sh hs3t
    refine x_aload_n dX6_sunLine_22 (n := 23) rfl rfl 0 rfl ?_
    refine x_bipush dX6_sunLine_23 (n := 25) rfl bp_12 ?_
    refine x_cVim (As := [.int 12]) (rest := []) cv_X6_266 ck0 (met_X6_roundRead o s2 12 _ hBs2 h) hBs2.1 (by decide) rfl rfl rfl dX6_sunLine_25 (n := 28) rfl (fun r6 s4 hs5 h => ?_)
    have hs5t := hs3t.tr hs5; have hBs4 := hB0.sh hs5t
    obtain ⟨b7, h⟩ := h
    exact x_zret rq ⟨hs5t, h⟩ b7 dX6_sunLine_28
  · have h := h.2 c1
    refine x_aload_n dX6_sunLine_7 (n := 8) rfl rfl 0 rfl ?_
    refine x_iconst dX6_sunLine_8 (n := 9) rfl ic_3 ?_
    refine x_cVim (As := [.int 3]) (rest := []) cv_X6_163 ck0 (met_X6_wrong o σ0 3 hB0) hB0.1 (by decide) rfl rfl rfl dX6_sunLine_9 (n := 12) rfl (fun r12 s8 hs9 e11 => ?_)
    have hs9t := (SH.rf (σ := σ0)).tr hs9; have hBs8 := hB0.sh hs9t
    have h := h r12 s8 e11
    obtain ⟨b13, h⟩ := h
    exact x_zret rq ⟨hs9t, h⟩ b13 dX6_sunLine_12
abbrev rm_X6_weekLine : Room := { frames := 3, cells := 0, slots := 0, locals := 69 }
def wp_X6_weekLine (o : Nat) (σ0 : Hp) (Q : Int32 → Hp → Prop) : Prop := ((gI σ0 o 25) = 0 → wp_X6_token o (pI σ0 o 25 1) (fun  s2 => wp_X6_number o s2 2 30 (fun r6 s4 => (r6 = 0 → Q 0 s4) ∧ (¬ r6 = 0 → wp_X6_number o (pI s4 (o + 3) 7 (gI s4 o 11)) 0 ((gI (pI s4 (o + 3) 7 (gI s4 o 11)) (o + 3) 7) - 1) (fun r10 s8 => (r10 = 0 → Q 0 s8) ∧ (¬ r10 = 0 → Q 1 (pI s8 (o + 3) 8 (gI s8 o 11)))))))) ∧ (¬ (gI σ0 o 25) = 0 → ∀ (r16 : Int32) (s12 : Hp), (r16, s12) = f_X6_wrong o σ0 3 → (r16 = 0 ∨ r16 = 1) ∧ (Q r16 s12))
theorem met_X6_weekLine (o : Nat) (σ0 : Hp) (Q : Int32 → Hp → Prop) (hB0 : MB o σ0) (h : wp_X6_weekLine o σ0 Q) : MetX yX6_weekLine cX6_weekLine 1 (some .boolean) rm_X6_weekLine σ0 [.ref o] (oI (fun r σ' => SH σ0 σ' ∧ Q r σ')) 0 0 := by
  refine metX_of (own := RX6) (lvs := [(0, .ref o)]) (by decide) rfl (Nat.le_of_ble_eq_true rfl) rfl (fun G rq => ?_)
  unfold wp_X6_weekLine at h
  refine x_aload_n dX6_weekLine_0 (n := 1) rfl rfl 0 rfl ?_
  refine x_geti fl_X6_207_0 rfl hB0.1 rfl dX6_weekLine_1 (n := 4) rfl ?_
  refine x_if_eq (tgt := 13) dX6_weekLine_4 rfl (n := 7) rfl (fun c1 => ?_) (fun c1 => ?_)
  · have h := h.1 c1
    refine x_aload_n dX6_weekLine_13 (n := 14) rfl rfl 0 rfl ?_
    refine x_iconst dX6_weekLine_14 (n := 15) rfl ic_1 ?_
    refine x_putz fp_X6_207_0 rfl hB0.1 isB1 dX6_weekLine_15 (n := 18) rfl ?_
    refine x_aload_n dX6_weekLine_18 (n := 19) rfl rfl 0 rfl ?_
    refine x_cVvm (As := []) (rest := []) cv_X6_173 ck0 (met_X6_token o (pI σ0 o 25 1) _ hB0.i h) hB0.i.1 (by decide) rfl rfl rfl dX6_weekLine_19 (n := 22) rfl (fun  s2 hs3 h => ?_)
    have hs3t := (SH.rf (σ := σ0)).i.tr hs3; have hBs2 := hB0.sh hs3t
    refine x_aload_n dX6_weekLine_22 (n := 23) rfl rfl 0 rfl ?_
    refine x_iconst dX6_weekLine_23 (n := 24) rfl ic_2 ?_
    refine x_bipush dX6_weekLine_24 (n := 26) rfl bp_30 ?_
    refine x_cVim (As := [.int 2, .int 30]) (rest := []) cv_X6_179 ck0 (met_X6_number o s2 2 30 _ hBs2 h) hBs2.1 (by decide) rfl rfl rfl dX6_weekLine_26 (n := 29) rfl (fun r6 s4 hs5 h => ?_)
    have hs5t := hs3t.tr hs5; have hBs4 := hB0.sh hs5t
    refine x_if_ne (tgt := 34) dX6_weekLine_29 rfl (n := 32) rfl (fun c7 => ?_) (fun c7 => ?_)
    · have h := h.2 c7
      refine x_aload_n dX6_weekLine_34 (n := 35) rfl rfl 0 rfl ?_
      refine x_getr fl_X6_20_0 rfl hBs4.1 hBs4.r24 dX6_weekLine_35 (n := 38) rfl ?_
      refine x_bipush dX6_weekLine_38 (n := 40) rfl bp_7 ?_
      refine x_aload_n dX6_weekLine_40 (n := 41) rfl rfl 0 rfl ?_
      refine x_geti fl_X6_170_0 rfl hBs4.1 rfl dX6_weekLine_41 (n := 44) rfl ?_
      refine x_iast hBs4.a24 (vin_of (by decide) tn_7 rfl) tn_7 dX6_weekLine_44 (n := 45) rfl ?_
      refine x_aload_n dX6_weekLine_45 (n := 46) rfl rfl 0 rfl ?_
      refine x_iconst dX6_weekLine_46 (n := 47) rfl ic_0 ?_
      refine x_aload_n dX6_weekLine_47 (n := 48) rfl rfl 0 rfl ?_
      refine x_getr fl_X6_20_0 rfl hBs4.i.1 hBs4.i.r24 dX6_weekLine_48 (n := 51) rfl ?_
      refine x_bipush dX6_weekLine_51 (n := 53) rfl bp_7 ?_
      refine x_iald hBs4.i.a24 (vin_of (by decide) tn_7 rfl) tn_7 dX6_weekLine_53 (n := 54) rfl ?_
      refine x_iconst dX6_weekLine_54 (n := 55) rfl ic_1 ?_
      refine x_isub dX6_weekLine_55 (n := 56) rfl ?_
      refine x_cVim (As := [.int 0, .int ((gI (pI s4 (o + 3) 7 (gI s4 o 11)) (o + 3) 7) - 1)]) (rest := []) cv_X6_179 ck0 (met_X6_number o (pI s4 (o + 3) 7 (gI s4 o 11)) 0 ((gI (pI s4 (o + 3) 7 (gI s4 o 11)) (o + 3) 7) - 1) _ hBs4.i h) hBs4.i.1 (by decide) rfl rfl rfl dX6_weekLine_56 (n := 59) rfl (fun r10 s8 hs9 h => ?_)
      have hs9t := hs5t.i.tr hs9; have hBs8 := hB0.sh hs9t
      refine x_if_ne (tgt := 64) dX6_weekLine_59 rfl (n := 62) rfl (fun c11 => ?_) (fun c11 => ?_)
      · have h := h.2 c11
        refine x_aload_n dX6_weekLine_64 (n := 65) rfl rfl 0 rfl ?_
        refine x_getr fl_X6_20_0 rfl hBs8.1 hBs8.r24 dX6_weekLine_65 (n := 68) rfl ?_
        refine x_bipush dX6_weekLine_68 (n := 70) rfl bp_8 ?_
        refine x_aload_n dX6_weekLine_70 (n := 71) rfl rfl 0 rfl ?_
        refine x_geti fl_X6_170_0 rfl hBs8.1 rfl dX6_weekLine_71 (n := 74) rfl ?_
        refine x_iast hBs8.a24 (vin_of (by decide) tn_8 rfl) tn_8 dX6_weekLine_74 (n := 75) rfl ?_
        refine x_iconst dX6_weekLine_75 (n := 76) rfl ic_1 ?_
        exact x_zret rq ⟨hs9t.i, h⟩ isB1 dX6_weekLine_76
      · have h := h.1 c11
        refine x_iconst dX6_weekLine_62 (n := 63) rfl ic_0 ?_
        exact x_zret rq ⟨hs9t, h⟩ isB0 dX6_weekLine_63
    · have h := h.1 c7
      refine x_iconst dX6_weekLine_32 (n := 33) rfl ic_0 ?_
      exact x_zret rq ⟨hs5t, h⟩ isB0 dX6_weekLine_33
  · have h := h.2 c1
    refine x_aload_n dX6_weekLine_7 (n := 8) rfl rfl 0 rfl ?_
    refine x_iconst dX6_weekLine_8 (n := 9) rfl ic_3 ?_
    refine x_cVim (As := [.int 3]) (rest := []) cv_X6_163 ck0 (met_X6_wrong o σ0 3 hB0) hB0.1 (by decide) rfl rfl rfl dX6_weekLine_9 (n := 12) rfl (fun r16 s12 hs13 e15 => ?_)
    have hs13t := (SH.rf (σ := σ0)).tr hs13; have hBs12 := hB0.sh hs13t
    have h := h r16 s12 e15
    obtain ⟨b17, h⟩ := h
    exact x_zret rq ⟨hs13t, h⟩ b17 dX6_weekLine_12
abbrev rm_X6_lineRead : Room := { frames := 6, cells := 0, slots := 0, locals := 136 }
def wj_X6_lineRead_129 (o : Nat) (σ : Hp) (x1 : Int32) (Q : Int32 → Hp → Prop)  : Prop := (x1 = 0 → Q 0 σ) ∧ (¬ x1 = 0 → ((f_X6_isSign o σ 59) = 0 → ∀ (r56 : Int32) (s52 : Hp), (r56, s52) = f_X6_wrong o σ 1 → (r56 = 0 ∨ r56 = 1) ∧ (Q r56 s52)) ∧ (¬ (f_X6_isSign o σ 59) = 0 → wp_X6_token o σ (fun  s50 => Q 1 s50)))
def wp_X6_lineRead (o : Nat) (σ0 : Hp) (Q : Int32 → Hp → Prop) : Prop := ((gI σ0 o 8) = 1 → ((gI σ0 o 9) ≤ 7 → ((gI σ0 o 9) = 0 → wp_X6_landLine o σ0 (fun r12 s10 => wj_X6_lineRead_129 o s10 r12 Q)) ∧ (¬ (gI σ0 o 9) = 0 → ((gI σ0 o 9) = 1 → wp_X6_feastLine o σ0 (fun r16 s14 => wj_X6_lineRead_129 o s14 r16 Q)) ∧ (¬ (gI σ0 o 9) = 1 → ((gI σ0 o 9) = 2 → wp_X6_personLine o σ0 (fun r20 s18 => wj_X6_lineRead_129 o s18 r20 Q)) ∧ (¬ (gI σ0 o 9) = 2 → ((gI σ0 o 9) = 3 → wp_X6_deedLine o σ0 (fun r24 s22 => wj_X6_lineRead_129 o s22 r24 Q)) ∧ (¬ (gI σ0 o 9) = 3 → ((gI σ0 o 9) = 4 → wp_X6_noteLine o σ0 (fun r28 s26 => wj_X6_lineRead_129 o s26 r28 Q)) ∧ (¬ (gI σ0 o 9) = 4 → ((gI σ0 o 9) = 5 → wp_X6_sunLine o σ0 (fun r32 s30 => wj_X6_lineRead_129 o s30 r32 Q)) ∧ (¬ (gI σ0 o 9) = 5 → ((gI σ0 o 9) = 6 → wp_X6_weekLine o σ0 (fun r36 s34 => wj_X6_lineRead_129 o s34 r36 Q)) ∧ (¬ (gI σ0 o 9) = 6 → wp_X6_moonLine o σ0 (fun r39 s37 => wj_X6_lineRead_129 o s37 r39 Q))))))))) ∧ (¬ (gI σ0 o 9) ≤ 7 → ∀ (r44 : Int32) (s40 : Hp), (r44, s40) = f_X6_wrong o σ0 1 → (r44 = 0 ∨ r44 = 1) ∧ (Q r44 s40))) ∧ (¬ (gI σ0 o 8) = 1 → ∀ (r6 : Int32) (s2 : Hp), (r6, s2) = f_X6_wrong o σ0 1 → (r6 = 0 ∨ r6 = 1) ∧ (Q r6 s2))
theorem xj_X6_lineRead_129 (o : Nat) (σ0 : Hp) (Q : Int32 → Hp → Prop) (G : XE) (hB0 : MB o σ0) (rq : RQ G 0 0 (oI (fun r σ' => SH σ0 σ' ∧ Q r σ'))) (σ : Hp) (x1 : Int32)    (hs : SH σ0 σ) (h : wj_X6_lineRead_129 o σ x1 Q ) : X G rm_X6_lineRead cX6_lineRead RX6 2 (some .boolean) σ 0 0 129 [(0, .ref o), (1, .int x1)] [] := by
  have hs : SH σ0 σ := hs
  have hB := hB0.sh hs
  unfold wj_X6_lineRead_129 at h
  refine x_iload_n dX6_lineRead_129 (n := 130) rfl rfl 1 rfl ?_
  refine x_if_ne (tgt := 135) dX6_lineRead_130 rfl (n := 133) rfl (fun c46 => ?_) (fun c46 => ?_)
  · have h := h.2 c46
    refine x_aload_n dX6_lineRead_135 (n := 136) rfl rfl 0 rfl ?_
    refine x_bipush dX6_lineRead_136 (n := 138) rfl bp_59 ?_
    refine x_cVip (As := [.int 59]) (rest := []) cv_X6_176 ck0 (met_X6_isSign o σ 59 hB) hB.1 (by decide) rfl rfl rfl dX6_lineRead_138 (n := 141) rfl (fun r48 q => ?_)
    subst q
    refine x_if_ne (tgt := 150) dX6_lineRead_141 rfl (n := 144) rfl (fun c49 => ?_) (fun c49 => ?_)
    · have h := h.2 c49
      refine x_aload_n dX6_lineRead_150 (n := 151) rfl rfl 0 rfl ?_
      refine x_cVvm (As := []) (rest := []) cv_X6_173 ck0 (met_X6_token o σ _ hB h) hB.1 (by decide) rfl rfl rfl dX6_lineRead_151 (n := 154) rfl (fun  s50 hs51 h => ?_)
      have hs51t := hs.tr hs51; have hBs50 := hB0.sh hs51t
      refine x_iconst dX6_lineRead_154 (n := 155) rfl ic_1 ?_
      exact x_zret rq ⟨hs51t, h⟩ isB1 dX6_lineRead_155
    · have h := h.1 c49
      refine x_aload_n dX6_lineRead_144 (n := 145) rfl rfl 0 rfl ?_
      refine x_iconst dX6_lineRead_145 (n := 146) rfl ic_1 ?_
      refine x_cVim (As := [.int 1]) (rest := []) cv_X6_163 ck0 (met_X6_wrong o σ 1 hB) hB.1 (by decide) rfl rfl rfl dX6_lineRead_146 (n := 149) rfl (fun r56 s52 hs53 e55 => ?_)
      have hs53t := hs.tr hs53; have hBs52 := hB0.sh hs53t
      have h := h r56 s52 e55
      obtain ⟨b57, h⟩ := h
      exact x_zret rq ⟨hs53t, h⟩ b57 dX6_lineRead_149
  · have h := h.1 c46
    refine x_iconst dX6_lineRead_133 (n := 134) rfl ic_0 ?_
    exact x_zret rq ⟨hs, h⟩ isB0 dX6_lineRead_134
theorem met_X6_lineRead (o : Nat) (σ0 : Hp) (Q : Int32 → Hp → Prop) (hB0 : MB o σ0) (h : wp_X6_lineRead o σ0 Q) : MetX yX6_lineRead cX6_lineRead 2 (some .boolean) rm_X6_lineRead σ0 [.ref o] (oI (fun r σ' => SH σ0 σ' ∧ Q r σ')) 0 0 := by
  refine metX_of (own := RX6) (lvs := [(0, .ref o)]) (by decide) rfl (Nat.le_of_ble_eq_true rfl) rfl (fun G rq => ?_)
  unfold wp_X6_lineRead at h
  refine x_aload_n dX6_lineRead_0 (n := 1) rfl rfl 0 rfl ?_
  refine x_geti fl_X6_139_0 rfl hB0.1 rfl dX6_lineRead_1 (n := 4) rfl ?_
  refine x_iconst dX6_lineRead_4 (n := 5) rfl ic_1 ?_
  refine x_icmp_ne (tgt := 17) dX6_lineRead_5 rfl (n := 8) rfl (fun c1 => ?_) (fun c1 => ?_)
  · have h := h.2 c1
    refine x_aload_n dX6_lineRead_17 (n := 18) rfl rfl 0 rfl ?_
    refine x_iconst dX6_lineRead_18 (n := 19) rfl ic_1 ?_
    refine x_cVim (As := [.int 1]) (rest := []) cv_X6_163 ck0 (met_X6_wrong o σ0 1 hB0) hB0.1 (by decide) rfl rfl rfl dX6_lineRead_19 (n := 22) rfl (fun r6 s2 hs3 e5 => ?_)
    have hs3t := (SH.rf (σ := σ0)).tr hs3; have hBs2 := hB0.sh hs3t
    have h := h r6 s2 e5
    obtain ⟨b7, h⟩ := h
    exact x_zret rq ⟨hs3t, h⟩ b7 dX6_lineRead_22
  · have h := h.1 c1
    refine x_aload_n dX6_lineRead_8 (n := 9) rfl rfl 0 rfl ?_
    refine x_geti fl_X6_150_0 rfl hB0.1 rfl dX6_lineRead_9 (n := 12) rfl ?_
    refine x_bipush dX6_lineRead_12 (n := 14) rfl bp_7 ?_
    refine x_icmp_le (tgt := 23) dX6_lineRead_14 rfl (n := 17) rfl (fun c8 => ?_) (fun c8 => ?_)
    · have h := h.1 c8
      refine x_aload_n dX6_lineRead_23 (n := 24) rfl rfl 0 rfl ?_
      refine x_geti fl_X6_150_0 rfl hB0.1 rfl dX6_lineRead_24 (n := 27) rfl ?_
      refine x_by ((gI σ0 o 9) = 0) (fun c9 => ?_) (fun c9 => ?_)
      · have h := h.1 c9
        have z9 := tsw_in c9 ti_0
        refine x_tswIn (tgt := 68) dX6_lineRead_27 (by rw [z9]; decide) (by rw [z9]; decide) (by rw [z9]; rfl) rfl ?_
        refine x_aload_n dX6_lineRead_68 (n := 69) rfl rfl 0 rfl ?_
        refine x_cVim (As := []) (rest := []) cv_X6_303 ck0 (met_X6_landLine o σ0 _ hB0 h) hB0.1 (by decide) rfl rfl rfl dX6_lineRead_69 (n := 72) rfl (fun r12 s10 hs11 h => ?_)
        have hs11t := (SH.rf (σ := σ0)).tr hs11; have hBs10 := hB0.sh hs11t
        refine x_istore_n (lvs' := [(1, .int r12), (0, .ref o)]) dX6_lineRead_72 (n := 73) rfl rfl (by decide) rfl ?_
        refine x_goto (tgt := 129) dX6_lineRead_73 rfl ?_
        exact x_sub [1, 0] rfl (xj_X6_lineRead_129 o σ0 Q G hB0 rq s10 r12 hs11t h)
      · have h := h.2 c9
        refine x_by ((gI σ0 o 9) = 1) (fun c13 => ?_) (fun c13 => ?_)
        · have h := h.1 c13
          have z13 := tsw_in c13 ti_1
          refine x_tswIn (tgt := 76) dX6_lineRead_27 (by rw [z13]; decide) (by rw [z13]; decide) (by rw [z13]; rfl) rfl ?_
          refine x_aload_n dX6_lineRead_76 (n := 77) rfl rfl 0 rfl ?_
          refine x_cVim (As := []) (rest := []) cv_X6_306 ck0 (met_X6_feastLine o σ0 _ hB0 h) hB0.1 (by decide) rfl rfl rfl dX6_lineRead_77 (n := 80) rfl (fun r16 s14 hs15 h => ?_)
          have hs15t := (SH.rf (σ := σ0)).tr hs15; have hBs14 := hB0.sh hs15t
          refine x_istore_n (lvs' := [(1, .int r16), (0, .ref o)]) dX6_lineRead_80 (n := 81) rfl rfl (by decide) rfl ?_
          refine x_goto (tgt := 129) dX6_lineRead_81 rfl ?_
          exact x_sub [1, 0] rfl (xj_X6_lineRead_129 o σ0 Q G hB0 rq s14 r16 hs15t h)
        · have h := h.2 c13
          refine x_by ((gI σ0 o 9) = 2) (fun c17 => ?_) (fun c17 => ?_)
          · have h := h.1 c17
            have z17 := tsw_in c17 ti_2
            refine x_tswIn (tgt := 84) dX6_lineRead_27 (by rw [z17]; decide) (by rw [z17]; decide) (by rw [z17]; rfl) rfl ?_
            refine x_aload_n dX6_lineRead_84 (n := 85) rfl rfl 0 rfl ?_
            refine x_cVim (As := []) (rest := []) cv_X6_309 ck0 (met_X6_personLine o σ0 _ hB0 h) hB0.1 (by decide) rfl rfl rfl dX6_lineRead_85 (n := 88) rfl (fun r20 s18 hs19 h => ?_)
            have hs19t := (SH.rf (σ := σ0)).tr hs19; have hBs18 := hB0.sh hs19t
            refine x_istore_n (lvs' := [(1, .int r20), (0, .ref o)]) dX6_lineRead_88 (n := 89) rfl rfl (by decide) rfl ?_
            refine x_goto (tgt := 129) dX6_lineRead_89 rfl ?_
            exact x_sub [1, 0] rfl (xj_X6_lineRead_129 o σ0 Q G hB0 rq s18 r20 hs19t h)
          · have h := h.2 c17
            refine x_by ((gI σ0 o 9) = 3) (fun c21 => ?_) (fun c21 => ?_)
            · have h := h.1 c21
              have z21 := tsw_in c21 ti_3
              refine x_tswIn (tgt := 92) dX6_lineRead_27 (by rw [z21]; decide) (by rw [z21]; decide) (by rw [z21]; rfl) rfl ?_
              refine x_aload_n dX6_lineRead_92 (n := 93) rfl rfl 0 rfl ?_
              refine x_cVim (As := []) (rest := []) cv_X6_312 ck0 (met_X6_deedLine o σ0 _ hB0 h) hB0.1 (by decide) rfl rfl rfl dX6_lineRead_93 (n := 96) rfl (fun r24 s22 hs23 h => ?_)
              have hs23t := (SH.rf (σ := σ0)).tr hs23; have hBs22 := hB0.sh hs23t
              refine x_istore_n (lvs' := [(1, .int r24), (0, .ref o)]) dX6_lineRead_96 (n := 97) rfl rfl (by decide) rfl ?_
              refine x_goto (tgt := 129) dX6_lineRead_97 rfl ?_
              exact x_sub [1, 0] rfl (xj_X6_lineRead_129 o σ0 Q G hB0 rq s22 r24 hs23t h)
            · have h := h.2 c21
              refine x_by ((gI σ0 o 9) = 4) (fun c25 => ?_) (fun c25 => ?_)
              · have h := h.1 c25
                have z25 := tsw_in c25 ti_4
                refine x_tswIn (tgt := 100) dX6_lineRead_27 (by rw [z25]; decide) (by rw [z25]; decide) (by rw [z25]; rfl) rfl ?_
                refine x_aload_n dX6_lineRead_100 (n := 101) rfl rfl 0 rfl ?_
                refine x_cVim (As := []) (rest := []) cv_X6_315 ck0 (met_X6_noteLine o σ0 _ hB0 h) hB0.1 (by decide) rfl rfl rfl dX6_lineRead_101 (n := 104) rfl (fun r28 s26 hs27 h => ?_)
                have hs27t := (SH.rf (σ := σ0)).tr hs27; have hBs26 := hB0.sh hs27t
                refine x_istore_n (lvs' := [(1, .int r28), (0, .ref o)]) dX6_lineRead_104 (n := 105) rfl rfl (by decide) rfl ?_
                refine x_goto (tgt := 129) dX6_lineRead_105 rfl ?_
                exact x_sub [1, 0] rfl (xj_X6_lineRead_129 o σ0 Q G hB0 rq s26 r28 hs27t h)
              · have h := h.2 c25
                refine x_by ((gI σ0 o 9) = 5) (fun c29 => ?_) (fun c29 => ?_)
                · have h := h.1 c29
                  have z29 := tsw_in c29 ti_5
                  refine x_tswIn (tgt := 108) dX6_lineRead_27 (by rw [z29]; decide) (by rw [z29]; decide) (by rw [z29]; rfl) rfl ?_
                  refine x_aload_n dX6_lineRead_108 (n := 109) rfl rfl 0 rfl ?_
                  refine x_cVim (As := []) (rest := []) cv_X6_318 ck0 (met_X6_sunLine o σ0 _ hB0 h) hB0.1 (by decide) rfl rfl rfl dX6_lineRead_109 (n := 112) rfl (fun r32 s30 hs31 h => ?_)
                  have hs31t := (SH.rf (σ := σ0)).tr hs31; have hBs30 := hB0.sh hs31t
                  refine x_istore_n (lvs' := [(1, .int r32), (0, .ref o)]) dX6_lineRead_112 (n := 113) rfl rfl (by decide) rfl ?_
                  refine x_goto (tgt := 129) dX6_lineRead_113 rfl ?_
                  exact x_sub [1, 0] rfl (xj_X6_lineRead_129 o σ0 Q G hB0 rq s30 r32 hs31t h)
                · have h := h.2 c29
                  refine x_by ((gI σ0 o 9) = 6) (fun c33 => ?_) (fun c33 => ?_)
                  · have h := h.1 c33
                    have z33 := tsw_in c33 ti_6
                    refine x_tswIn (tgt := 116) dX6_lineRead_27 (by rw [z33]; decide) (by rw [z33]; decide) (by rw [z33]; rfl) rfl ?_
                    refine x_aload_n dX6_lineRead_116 (n := 117) rfl rfl 0 rfl ?_
                    refine x_cVim (As := []) (rest := []) cv_X6_321 ck0 (met_X6_weekLine o σ0 _ hB0 h) hB0.1 (by decide) rfl rfl rfl dX6_lineRead_117 (n := 120) rfl (fun r36 s34 hs35 h => ?_)
                    have hs35t := (SH.rf (σ := σ0)).tr hs35; have hBs34 := hB0.sh hs35t
                    refine x_istore_n (lvs' := [(1, .int r36), (0, .ref o)]) dX6_lineRead_120 (n := 121) rfl rfl (by decide) rfl ?_
                    refine x_goto (tgt := 129) dX6_lineRead_121 rfl ?_
                    exact x_sub [1, 0] rfl (xj_X6_lineRead_129 o σ0 Q G hB0 rq s34 r36 hs35t h)
                  · have h := h.2 c33
                    have z9 := ne_int c9 ti_0
                    have z13 := ne_int c13 ti_1
                    have z17 := ne_int c17 ti_2
                    have z21 := ne_int c21 ti_3
                    have z25 := ne_int c25 ti_4
                    have z29 := ne_int c29 ti_5
                    have z33 := ne_int c33 ti_6
                    refine x_tswOut (tgt := 124) dX6_lineRead_27 (by omega) rfl ?_
                    refine x_aload_n dX6_lineRead_124 (n := 125) rfl rfl 0 rfl ?_
                    refine x_cVim (As := []) (rest := []) cv_X6_324 ck0 (met_X6_moonLine o σ0 _ hB0 h) hB0.1 (by decide) rfl rfl rfl dX6_lineRead_125 (n := 128) rfl (fun r39 s37 hs38 h => ?_)
                    have hs38t := (SH.rf (σ := σ0)).tr hs38; have hBs37 := hB0.sh hs38t
                    refine x_istore_n (lvs' := [(1, .int r39), (0, .ref o)]) dX6_lineRead_128 (n := 129) rfl rfl (by decide) rfl ?_
                    exact x_sub [1, 0] rfl (xj_X6_lineRead_129 o σ0 Q G hB0 rq s37 r39 hs38t h)
    · have h := h.2 c8
      refine x_aload_n dX6_lineRead_17 (n := 18) rfl rfl 0 rfl ?_
      refine x_iconst dX6_lineRead_18 (n := 19) rfl ic_1 ?_
      refine x_cVim (As := [.int 1]) (rest := []) cv_X6_163 ck0 (met_X6_wrong o σ0 1 hB0) hB0.1 (by decide) rfl rfl rfl dX6_lineRead_19 (n := 22) rfl (fun r44 s40 hs41 e43 => ?_)
      have hs41t := (SH.rf (σ := σ0)).tr hs41; have hBs40 := hB0.sh hs41t
      have h := h r44 s40 e43
      obtain ⟨b45, h⟩ := h
      exact x_zret rq ⟨hs41t, h⟩ b45 dX6_lineRead_22
abbrev rm_X6_text : Room := { frames := 7, cells := 0, slots := 0, locals := 157 }
def lb_X6_text_55 (o : Nat)  (Q : Int32 → Hp → Prop)  (K55 : Int32 × Hp → Prop) (z : Int32 × Hp) : Prop := match z with
  | (x2, σ) => ((gI σ o 8) = 0 → wp_X6_keepText o σ (fun  s10 => Q x2 s10)) ∧ (¬ (gI σ o 8) = 0 → wp_X6_lineRead o σ (fun r14 s12 => (r14 = 0 → Q (-1) s12) ∧ (¬ r14 = 0 → K55 (x2 + 1, s12))))
def wp_X6_text (o : Nat) (σ0 : Hp) (x1 : Int32) (Q : Int32 → Hp → Prop) : Prop := (x1 < 0 → Q (-2) (pI σ0 o 2 0)) ∧ (¬ x1 < 0 → (x1 ≤ (gI σ0 o 1) → ∀ s3 : Hp, s3 = f_X6_plain o (pI (pI (pI (pI (pI (pI σ0 o 2 0) o 6 x1) o 1 0) o 4 0) o 5 (-1)) o 7 0) → wp_X6_token o s3 (fun  s7 => lp (lb_X6_text_55 o Q) (0, s7))) ∧ (¬ x1 ≤ (gI σ0 o 1) → Q (-2) (pI σ0 o 2 0)))
theorem xl_X6_text_55 (o : Nat) (σ0 : Hp) (Q : Int32 → Hp → Prop) (G : XE) (hB0 : MB o σ0) (rq : RQ G 0 0 (oI (fun r σ' => SH σ0 σ' ∧ Q r σ')))     : ∀ z : Int32 × Hp, SH σ0 z.2 → lp (lb_X6_text_55 o  Q ) z → X G rm_X6_text cX6_text RX6 3 (some .int) z.2 0 0 55 [(0, .ref o), (2, .int z.1)] [] := by
  intro z
  refine fun hs h => lp_X (P := fun z => SH σ0 z.2 → X G rm_X6_text cX6_text RX6 3 (some .int) z.2 0 0 55 [(0, .ref o), (2, .int z.1)] []) ?_ h hs
  intro K55 hK55 z h hs
  obtain ⟨x2, σ⟩ := z
  have hs : SH σ0 σ := hs
  have hB := hB0.sh hs
  simp only [lb_X6_text_55] at h
  show X G rm_X6_text cX6_text RX6 3 (some .int) σ 0 0 55 [(0, .ref o), (2, .int x2)] []
  have hK55 : ∀ z : (Int32 × Hp), SH σ0 z.2 → K55 z → X G rm_X6_text cX6_text RX6 3 (some .int) z.2 0 0 55 [(0, .ref o), (2, .int z.1)] [] := fun z hs h => hK55 z h hs
  refine x_aload_n dX6_text_55 (n := 56) rfl rfl 0 rfl ?_
  refine x_geti fl_X6_139_0 rfl hB.1 rfl dX6_text_56 (n := 59) rfl ?_
  refine x_if_eq (tgt := 77) dX6_text_59 rfl (n := 62) rfl (fun c9 => ?_) (fun c9 => ?_)
  · have h := h.1 c9
    refine x_aload_n dX6_text_77 (n := 78) rfl rfl 0 rfl ?_
    refine x_cVvm (As := []) (rest := []) cv_X6_116 ck0 (met_X6_keepText o σ _ hB h) hB.1 (by decide) rfl rfl rfl dX6_text_78 (n := 81) rfl (fun  s10 hs11 h => ?_)
    have hs11t := hs.tr hs11; have hBs10 := hB0.sh hs11t
    refine x_iload_n dX6_text_81 (n := 82) rfl rfl 1 rfl ?_
    exact x_iret rq ⟨hs11t, h⟩ dX6_text_82
  · have h := h.2 c9
    refine x_aload_n dX6_text_62 (n := 63) rfl rfl 0 rfl ?_
    refine x_cVim (As := []) (rest := []) cv_X6_327 ck0 (met_X6_lineRead o σ _ hB h) hB.1 (by decide) rfl rfl rfl dX6_text_63 (n := 66) rfl (fun r14 s12 hs13 h => ?_)
    have hs13t := hs.tr hs13; have hBs12 := hB0.sh hs13t
    refine x_if_ne (tgt := 71) dX6_text_66 rfl (n := 69) rfl (fun c15 => ?_) (fun c15 => ?_)
    · have h := h.2 c15
      refine x_iinc (v := x2 + 1) (lvs' := [(2, .int (x2 + 1)), (0, .ref o)]) dX6_text_71 (n := 74) rfl 1 rfl rfl (by decide) rfl ?_
      refine x_goto (tgt := 55) dX6_text_74 rfl ?_
      exact x_sub [1, 0] rfl (hK55 (x2 + 1, s12) hs13t h)
    · have h := h.1 c15
      refine x_iconst dX6_text_69 (n := 70) rfl ic_m1 ?_
      exact x_iret rq ⟨hs13t, h⟩ dX6_text_70
theorem met_X6_text (o : Nat) (σ0 : Hp) (x1 : Int32) (Q : Int32 → Hp → Prop) (hB0 : MB o σ0) (h : wp_X6_text o σ0 x1 Q) : MetX yX6_text cX6_text 3 (some .int) rm_X6_text σ0 [.ref o, .int x1] (oI (fun r σ' => SH σ0 σ' ∧ Q r σ')) 0 0 := by
  refine metX_of (own := RX6) (lvs := [(0, .ref o), (1, .int x1)]) (by decide) rfl (Nat.le_of_ble_eq_true rfl) rfl (fun G rq => ?_)
  unfold wp_X6_text at h
  refine x_aload_n dX6_text_0 (n := 1) rfl rfl 0 rfl ?_
  refine x_iconst dX6_text_1 (n := 2) rfl ic_0 ?_
  refine x_puti fp_X6_119_0 rfl hB0.1 dX6_text_2 (n := 5) rfl ?_
  refine x_iload_n dX6_text_5 (n := 6) rfl rfl 1 rfl ?_
  refine x_if_lt (tgt := 17) dX6_text_6 rfl (n := 9) rfl (fun c1 => ?_) (fun c1 => ?_)
  · have h := h.1 c1
    refine x_bipush dX6_text_17 (n := 19) rfl bp_m2 ?_
    exact x_iret rq ⟨(SH.rf (σ := σ0)).i, h⟩ dX6_text_19
  · have h := h.2 c1
    refine x_iload_n dX6_text_9 (n := 10) rfl rfl 1 rfl ?_
    refine x_aload_n dX6_text_10 (n := 11) rfl rfl 0 rfl ?_
    refine x_geti fl_X6_122_0 rfl hB0.i.1 (gIn (by decide)) dX6_text_11 (n := 14) rfl ?_
    refine x_icmp_le (tgt := 20) dX6_text_14 rfl (n := 17) rfl (fun c2 => ?_) (fun c2 => ?_)
    · have h := h.1 c2
      refine x_aload_n dX6_text_20 (n := 21) rfl rfl 0 rfl ?_
      refine x_iload_n dX6_text_21 (n := 22) rfl rfl 1 rfl ?_
      refine x_puti fp_X6_133_0 rfl hB0.i.1 dX6_text_22 (n := 25) rfl ?_
      refine x_aload_n dX6_text_25 (n := 26) rfl rfl 0 rfl ?_
      refine x_iconst dX6_text_26 (n := 27) rfl ic_0 ?_
      refine x_puti fp_X6_122_0 rfl hB0.i.i.1 dX6_text_27 (n := 30) rfl ?_
      refine x_aload_n dX6_text_30 (n := 31) rfl rfl 0 rfl ?_
      refine x_iconst dX6_text_31 (n := 32) rfl ic_0 ?_
      refine x_puti fp_X6_127_0 rfl hB0.i.i.i.1 dX6_text_32 (n := 35) rfl ?_
      refine x_aload_n dX6_text_35 (n := 36) rfl rfl 0 rfl ?_
      refine x_iconst dX6_text_36 (n := 37) rfl ic_m1 ?_
      refine x_puti fp_X6_16_0 rfl hB0.i.i.i.i.1 dX6_text_37 (n := 40) rfl ?_
      refine x_aload_n dX6_text_40 (n := 41) rfl rfl 0 rfl ?_
      refine x_iconst dX6_text_41 (n := 42) rfl ic_0 ?_
      refine x_puti fp_X6_136_0 rfl hB0.i.i.i.i.i.1 dX6_text_42 (n := 45) rfl ?_
      refine x_aload_n dX6_text_45 (n := 46) rfl rfl 0 rfl ?_
      refine x_cVvm (As := []) (rest := []) cv_X6_113 ck0 (met_X6_plain o (pI (pI (pI (pI (pI (pI σ0 o 2 0) o 6 x1) o 1 0) o 4 0) o 5 (-1)) o 7 0) hB0.i.i.i.i.i.i) hB0.i.i.i.i.i.i.1 (by decide) rfl rfl rfl dX6_text_46 (n := 49) rfl (fun  s3 hs4 e6 => ?_)
      have hs4t := (SH.rf (σ := σ0)).i.i.i.i.i.i.tr hs4; have hBs3 := hB0.sh hs4t
      have h := h s3 e6
      refine x_aload_n dX6_text_49 (n := 50) rfl rfl 0 rfl ?_
      refine x_cVvm (As := []) (rest := []) cv_X6_173 ck0 (met_X6_token o s3 _ hBs3 h) hBs3.1 (by decide) rfl rfl rfl dX6_text_50 (n := 53) rfl (fun  s7 hs8 h => ?_)
      have hs8t := hs4t.tr hs8; have hBs7 := hB0.sh hs8t
      refine x_iconst dX6_text_53 (n := 54) rfl ic_0 ?_
      refine x_istore_n (lvs' := [(2, .int 0), (0, .ref o), (1, .int x1)]) dX6_text_54 (n := 55) rfl rfl (by decide) rfl ?_
      exact x_sub [1, 0] rfl (xl_X6_text_55 o σ0 Q G hB0 rq (0, s7) hs8t h)
    · have h := h.2 c2
      refine x_bipush dX6_text_17 (n := 19) rfl bp_m2 ?_
      exact x_iret rq ⟨(SH.rf (σ := σ0)).i, h⟩ dX6_text_19
abbrev rm_X6_fault : Room := { frames := 0, cells := 0, slots := 0, locals := 0 }
def f_X6_fault (o : Nat) (σ0 : Hp) (x1 : Int32) : Int32 × Hp := if x1 = 0 then (gI σ0 o 4, pI σ0 o 2 0) else if x1 = 1 then (gI σ0 o 5, pI σ0 o 2 0) else ((-1), pI σ0 o 2 0)
theorem met_X6_fault (o : Nat) (σ0 : Hp) (x1 : Int32) (hB0 : MB o σ0) : MetX yX6_fault cX6_fault 2 (some .int) rm_X6_fault σ0 [.ref o, .int x1] (oI (fun r σ' => SH σ0 σ' ∧ (r, σ') = (f_X6_fault o σ0 x1))) 0 0 := by
  refine metX_of (own := RX6) (lvs := [(0, .ref o), (1, .int x1)]) (by decide) rfl (Nat.le_of_ble_eq_true rfl) rfl (fun G rq => ?_)
  have hv : (f_X6_fault o σ0 x1) = _ := f_X6_fault.eq_1 _ _ _
  refine x_aload_n dX6_fault_0 (n := 1) rfl rfl 0 rfl ?_
  refine x_iconst dX6_fault_1 (n := 2) rfl ic_0 ?_
  refine x_puti fp_X6_119_0 rfl hB0.1 dX6_fault_2 (n := 5) rfl ?_
  refine x_iload_n dX6_fault_5 (n := 6) rfl rfl 1 rfl ?_
  refine x_if_ne (tgt := 16) dX6_fault_6 rfl (n := 9) rfl (fun c1 => ?_) (fun c1 => ?_)
  · have hv := hv.trans (if_neg c1)
    refine x_iload_n dX6_fault_16 (n := 17) rfl rfl 1 rfl ?_
    refine x_iconst dX6_fault_17 (n := 18) rfl ic_1 ?_
    refine x_icmp_ne (tgt := 28) dX6_fault_18 rfl (n := 21) rfl (fun c2 => ?_) (fun c2 => ?_)
    · have hv := hv.trans (if_neg c2)
      refine x_iconst dX6_fault_28 (n := 29) rfl ic_m1 ?_
      exact x_iret rq ⟨(SH.rf (σ := σ0)).i, hv.symm⟩ dX6_fault_29
    · have hv := hv.trans (if_pos c2)
      refine x_aload_n dX6_fault_21 (n := 22) rfl rfl 0 rfl ?_
      refine x_geti fl_X6_16_0 rfl hB0.i.1 (gIn (by decide)) dX6_fault_22 (n := 25) rfl ?_
      refine x_goto (tgt := 29) dX6_fault_25 rfl ?_
      exact x_iret rq ⟨(SH.rf (σ := σ0)).i, hv.symm⟩ dX6_fault_29
  · have hv := hv.trans (if_pos c1)
    refine x_aload_n dX6_fault_9 (n := 10) rfl rfl 0 rfl ?_
    refine x_geti fl_X6_127_0 rfl hB0.i.1 (gIn (by decide)) dX6_fault_10 (n := 13) rfl ?_
    refine x_goto (tgt := 29) dX6_fault_13 rfl ?_
    exact x_iret rq ⟨(SH.rf (σ := σ0)).i, hv.symm⟩ dX6_fault_29
abbrev rm_X6_named : Room := { frames := 1, cells := 0, slots := 0, locals := 24 }
def wp_X6_named (o : Nat) (σ0 : Hp) (x1 : Int32) (x2 : Int32) (Q : Int32 → Hp → Prop) : Prop := (x1 = 0 → wp_X6_find (pI σ0 o 2 0) (o + 4) 8 0 (gI σ0 o 12) x2 (fun r2 => Q r2 (pI σ0 o 2 0))) ∧ (¬ x1 = 0 → (x1 = 1 → wp_X6_find (pI σ0 o 2 0) (o + 6) 8 0 (gI σ0 o 13) x2 (fun r4 => Q r4 (pI σ0 o 2 0))) ∧ (¬ x1 = 1 → (x1 = 2 → wp_X6_find (pI σ0 o 2 0) (o + 9) 12 0 (gI σ0 o 14) x2 (fun r6 => Q r6 (pI σ0 o 2 0))) ∧ (¬ x1 = 2 → (x1 = 3 → wp_X6_find (pI σ0 o 2 0) (o + 12) 8 0 (gI σ0 o 15) x2 (fun r8 => Q r8 (pI σ0 o 2 0))) ∧ (¬ x1 = 3 → (x1 = 4 → wp_X6_find (pI σ0 o 2 0) (o + 15) 12 0 (gI σ0 o 58) x2 (fun r10 => Q r10 (pI σ0 o 2 0))) ∧ (¬ x1 = 4 → Q (-1) (pI σ0 o 2 0))))))
theorem met_X6_named (o : Nat) (σ0 : Hp) (x1 : Int32) (x2 : Int32) (Q : Int32 → Hp → Prop) (hB0 : MB o σ0) (h : wp_X6_named o σ0 x1 x2 Q) : MetX yX6_named cX6_named 3 (some .int) rm_X6_named σ0 [.ref o, .int x1, .int x2] (oI (fun r σ' => SH σ0 σ' ∧ Q r σ')) 0 0 := by
  refine metX_of (own := RX6) (lvs := [(0, .ref o), (1, .int x1), (2, .int x2)]) (by decide) rfl (Nat.le_of_ble_eq_true rfl) rfl (fun G rq => ?_)
  unfold wp_X6_named at h
  refine x_aload_n dX6_named_0 (n := 1) rfl rfl 0 rfl ?_
  refine x_iconst dX6_named_1 (n := 2) rfl ic_0 ?_
  refine x_puti fp_X6_119_0 rfl hB0.1 dX6_named_2 (n := 5) rfl ?_
  refine x_iload_n dX6_named_5 (n := 6) rfl rfl 1 rfl ?_
  refine x_by (x1 = 0) (fun c1 => ?_) (fun c1 => ?_)
  · have h := h.1 c1
    have z1 := tsw_in c1 ti_0
    refine x_tswIn (tgt := 40) dX6_named_6 (by rw [z1]; decide) (by rw [z1]; decide) (by rw [z1]; rfl) rfl ?_
    refine x_aload_n dX6_named_40 (n := 41) rfl rfl 0 rfl ?_
    refine x_getr fl_X6_23_0 rfl hB0.i.1 hB0.i.r28 dX6_named_41 (n := 44) rfl ?_
    refine x_iconst dX6_named_44 (n := 45) rfl ic_0 ?_
    refine x_aload_n dX6_named_45 (n := 46) rfl rfl 0 rfl ?_
    refine x_geti fl_X6_217_0 rfl hB0.i.1 (gIn (by decide)) dX6_named_46 (n := 49) rfl ?_
    refine x_iload_n dX6_named_49 (n := 50) rfl rfl 2 rfl ?_
    refine x_cSip (As := [.ref (o + 4), .int 0, .int (gI σ0 o 12), .int x2]) (rest := []) cs_X6_255 (met_X6_find (pI σ0 o 2 0) (o + 4) 8 0 (gI σ0 o 12) x2 _ hB0.i.a28 h) (by decide) rfl rfl rfl dX6_named_50 (n := 53) rfl (fun r2 h => ?_)
    exact x_iret rq ⟨(SH.rf (σ := σ0)).i, h⟩ dX6_named_53
  · have h := h.2 c1
    refine x_by (x1 = 1) (fun c3 => ?_) (fun c3 => ?_)
    · have h := h.1 c3
      have z3 := tsw_in c3 ti_1
      refine x_tswIn (tgt := 54) dX6_named_6 (by rw [z3]; decide) (by rw [z3]; decide) (by rw [z3]; rfl) rfl ?_
      refine x_aload_n dX6_named_54 (n := 55) rfl rfl 0 rfl ?_
      refine x_getr fl_X6_29_0 rfl hB0.i.1 hB0.i.r30 dX6_named_55 (n := 58) rfl ?_
      refine x_iconst dX6_named_58 (n := 59) rfl ic_0 ?_
      refine x_aload_n dX6_named_59 (n := 60) rfl rfl 0 rfl ?_
      refine x_geti fl_X6_220_0 rfl hB0.i.1 (gIn (by decide)) dX6_named_60 (n := 63) rfl ?_
      refine x_iload_n dX6_named_63 (n := 64) rfl rfl 2 rfl ?_
      refine x_cSip (As := [.ref (o + 6), .int 0, .int (gI σ0 o 13), .int x2]) (rest := []) cs_X6_255 (met_X6_find (pI σ0 o 2 0) (o + 6) 8 0 (gI σ0 o 13) x2 _ hB0.i.a30 h) (by decide) rfl rfl rfl dX6_named_64 (n := 67) rfl (fun r4 h => ?_)
      exact x_iret rq ⟨(SH.rf (σ := σ0)).i, h⟩ dX6_named_67
    · have h := h.2 c3
      refine x_by (x1 = 2) (fun c5 => ?_) (fun c5 => ?_)
      · have h := h.1 c5
        have z5 := tsw_in c5 ti_2
        refine x_tswIn (tgt := 68) dX6_named_6 (by rw [z5]; decide) (by rw [z5]; decide) (by rw [z5]; rfl) rfl ?_
        refine x_aload_n dX6_named_68 (n := 69) rfl rfl 0 rfl ?_
        refine x_getr fl_X6_38_0 rfl hB0.i.1 hB0.i.r33 dX6_named_69 (n := 72) rfl ?_
        refine x_iconst dX6_named_72 (n := 73) rfl ic_0 ?_
        refine x_aload_n dX6_named_73 (n := 74) rfl rfl 0 rfl ?_
        refine x_geti fl_X6_223_0 rfl hB0.i.1 (gIn (by decide)) dX6_named_74 (n := 77) rfl ?_
        refine x_iload_n dX6_named_77 (n := 78) rfl rfl 2 rfl ?_
        refine x_cSip (As := [.ref (o + 9), .int 0, .int (gI σ0 o 14), .int x2]) (rest := []) cs_X6_255 (met_X6_find (pI σ0 o 2 0) (o + 9) 12 0 (gI σ0 o 14) x2 _ hB0.i.a33 h) (by decide) rfl rfl rfl dX6_named_78 (n := 81) rfl (fun r6 h => ?_)
        exact x_iret rq ⟨(SH.rf (σ := σ0)).i, h⟩ dX6_named_81
      · have h := h.2 c5
        refine x_by (x1 = 3) (fun c7 => ?_) (fun c7 => ?_)
        · have h := h.1 c7
          have z7 := tsw_in c7 ti_3
          refine x_tswIn (tgt := 82) dX6_named_6 (by rw [z7]; decide) (by rw [z7]; decide) (by rw [z7]; rfl) rfl ?_
          refine x_aload_n dX6_named_82 (n := 83) rfl rfl 0 rfl ?_
          refine x_getr fl_X6_48_0 rfl hB0.i.1 hB0.i.r36 dX6_named_83 (n := 86) rfl ?_
          refine x_iconst dX6_named_86 (n := 87) rfl ic_0 ?_
          refine x_aload_n dX6_named_87 (n := 88) rfl rfl 0 rfl ?_
          refine x_geti fl_X6_226_0 rfl hB0.i.1 (gIn (by decide)) dX6_named_88 (n := 91) rfl ?_
          refine x_iload_n dX6_named_91 (n := 92) rfl rfl 2 rfl ?_
          refine x_cSip (As := [.ref (o + 12), .int 0, .int (gI σ0 o 15), .int x2]) (rest := []) cs_X6_255 (met_X6_find (pI σ0 o 2 0) (o + 12) 8 0 (gI σ0 o 15) x2 _ hB0.i.a36 h) (by decide) rfl rfl rfl dX6_named_92 (n := 95) rfl (fun r8 h => ?_)
          exact x_iret rq ⟨(SH.rf (σ := σ0)).i, h⟩ dX6_named_95
        · have h := h.2 c7
          refine x_by (x1 = 4) (fun c9 => ?_) (fun c9 => ?_)
          · have h := h.1 c9
            have z9 := tsw_in c9 ti_4
            refine x_tswIn (tgt := 96) dX6_named_6 (by rw [z9]; decide) (by rw [z9]; decide) (by rw [z9]; rfl) rfl ?_
            refine x_aload_n dX6_named_96 (n := 97) rfl rfl 0 rfl ?_
            refine x_getr fl_X6_57_0 rfl hB0.i.1 hB0.i.r39 dX6_named_97 (n := 100) rfl ?_
            refine x_iconst dX6_named_100 (n := 101) rfl ic_0 ?_
            refine x_aload_n dX6_named_101 (n := 102) rfl rfl 0 rfl ?_
            refine x_geti fl_X6_243_0 rfl hB0.i.1 (gIn (by decide)) dX6_named_102 (n := 105) rfl ?_
            refine x_iload_n dX6_named_105 (n := 106) rfl rfl 2 rfl ?_
            refine x_cSip (As := [.ref (o + 15), .int 0, .int (gI σ0 o 58), .int x2]) (rest := []) cs_X6_255 (met_X6_find (pI σ0 o 2 0) (o + 15) 12 0 (gI σ0 o 58) x2 _ hB0.i.a39 h) (by decide) rfl rfl rfl dX6_named_106 (n := 109) rfl (fun r10 h => ?_)
            exact x_iret rq ⟨(SH.rf (σ := σ0)).i, h⟩ dX6_named_109
          · have h := h.2 c9
            have z1 := ne_int c1 ti_0
            have z3 := ne_int c3 ti_1
            have z5 := ne_int c5 ti_2
            have z7 := ne_int c7 ti_3
            have z9 := ne_int c9 ti_4
            refine x_tswOut (tgt := 110) dX6_named_6 (by omega) rfl ?_
            refine x_iconst dX6_named_110 (n := 111) rfl ic_m1 ?_
            exact x_iret rq ⟨(SH.rf (σ := σ0)).i, h⟩ dX6_named_111
abbrev rm_X6_fails : Room := { frames := 0, cells := 0, slots := 0, locals := 0 }
def f_X6_fails (o : Nat) (σ0 : Hp) (x1 : Int32) : Int32 × Hp := (0, pI σ0 o 2 x1)
theorem met_X6_fails (o : Nat) (σ0 : Hp) (x1 : Int32) (hB0 : MB o σ0) : MetX yX6_fails cX6_fails 2 (some .int) rm_X6_fails σ0 [.ref o, .int x1] (oI (fun r σ' => SH σ0 σ' ∧ (r, σ') = (f_X6_fails o σ0 x1))) 0 0 := by
  refine metX_of (own := RX6) (lvs := [(0, .ref o), (1, .int x1)]) (by decide) rfl (Nat.le_of_ble_eq_true rfl) rfl (fun G rq => ?_)
  have hv : (f_X6_fails o σ0 x1) = _ := f_X6_fails.eq_1 _ _ _
  refine x_aload_n dX6_fails_0 (n := 1) rfl rfl 0 rfl ?_
  refine x_iload_n dX6_fails_1 (n := 2) rfl rfl 1 rfl ?_
  refine x_puti fp_X6_119_0 rfl hB0.1 dX6_fails_2 (n := 5) rfl ?_
  refine x_iconst dX6_fails_5 (n := 6) rfl ic_0 ?_
  exact x_iret rq ⟨(SH.rf (σ := σ0)).i, hv.symm⟩ dX6_fails_6
abbrev rm_X6_isLand : Room := { frames := 0, cells := 0, slots := 0, locals := 0 }
def f_X6_isLand (o : Nat) (σ : Hp) (x1 : Int32) : Int32 := if x1 < 0 then 0 else if (gI σ o 12) ≤ x1 then 0 else 1
theorem met_X6_isLand (o : Nat) (σ : Hp) (x1 : Int32) (hB : MB o σ) : MetX yX6_isLand cX6_isLand 2 (some .boolean) rm_X6_isLand σ [.ref o, .int x1] (oI (fun r σ' => σ' = σ ∧ r = (f_X6_isLand o σ x1))) 0 0 := by
  refine metX_of (own := RX6) (lvs := [(0, .ref o), (1, .int x1)]) (by decide) rfl (Nat.le_of_ble_eq_true rfl) rfl (fun G rq => ?_)
  have hv : (f_X6_isLand o σ x1) = _ := f_X6_isLand.eq_1 _ _ _
  refine x_iload_n dX6_isLand_0 (n := 1) rfl rfl 1 rfl ?_
  refine x_if_lt (tgt := 16) dX6_isLand_1 rfl (n := 4) rfl (fun c1 => ?_) (fun c1 => ?_)
  · have hv := hv.trans (if_pos c1)
    refine x_iconst dX6_isLand_16 (n := 17) rfl ic_0 ?_
    exact x_zret rq ⟨rfl, hv.symm⟩ isB0 dX6_isLand_17
  · have hv := hv.trans (if_neg c1)
    refine x_iload_n dX6_isLand_4 (n := 5) rfl rfl 1 rfl ?_
    refine x_aload_n dX6_isLand_5 (n := 6) rfl rfl 0 rfl ?_
    refine x_geti fl_X6_217_0 rfl hB.1 rfl dX6_isLand_6 (n := 9) rfl ?_
    refine x_icmp_ge (tgt := 16) dX6_isLand_9 rfl (n := 12) rfl (fun c2 => ?_) (fun c2 => ?_)
    · have hv := hv.trans (if_pos c2)
      refine x_iconst dX6_isLand_16 (n := 17) rfl ic_0 ?_
      exact x_zret rq ⟨rfl, hv.symm⟩ isB0 dX6_isLand_17
    · have hv := hv.trans (if_neg c2)
      refine x_iconst dX6_isLand_12 (n := 13) rfl ic_1 ?_
      refine x_goto (tgt := 17) dX6_isLand_13 rfl ?_
      exact x_zret rq ⟨rfl, hv.symm⟩ isB1 dX6_isLand_17
abbrev rm_X6_look : Room := { frames := 1, cells := 0, slots := 0, locals := 22 }
def wp_X6_look (o : Nat) (σ0 : Hp) (x1 : Int32) (x2 : Int32) (Q : Int32 → Hp → Prop) : Prop := ((f_X6_isLand o (pI σ0 o 2 0) x1) = 0 → ∀ (r17 : Int32) (s13 : Hp), (r17, s13) = f_X6_fails o (pI σ0 o 2 0) 1 → Q r17 s13) ∧ (¬ (f_X6_isLand o (pI σ0 o 2 0) x1) = 0 → ((f_X6_isIn x2 0 2) = 0 → ∀ (r11 : Int32) (s7 : Hp), (r11, s7) = f_X6_fails o (pI σ0 o 2 0) 2 → Q r11 s7) ∧ (¬ (f_X6_isIn x2 0 2) = 0 → (vp_in ((3 * x1) + x2) 24) ∧ (Q (gI (pI σ0 o 2 0) (o + 5) ((3 * x1) + x2).toNatClampNeg) (pI σ0 o 2 0))))
theorem met_X6_look (o : Nat) (σ0 : Hp) (x1 : Int32) (x2 : Int32) (Q : Int32 → Hp → Prop) (hB0 : MB o σ0) (h : wp_X6_look o σ0 x1 x2 Q) : MetX yX6_look cX6_look 3 (some .int) rm_X6_look σ0 [.ref o, .int x1, .int x2] (oI (fun r σ' => SH σ0 σ' ∧ Q r σ')) 0 0 := by
  refine metX_of (own := RX6) (lvs := [(0, .ref o), (1, .int x1), (2, .int x2)]) (by decide) rfl (Nat.le_of_ble_eq_true rfl) rfl (fun G rq => ?_)
  unfold wp_X6_look at h
  refine x_aload_n dX6_look_0 (n := 1) rfl rfl 0 rfl ?_
  refine x_iconst dX6_look_1 (n := 2) rfl ic_0 ?_
  refine x_puti fp_X6_119_0 rfl hB0.1 dX6_look_2 (n := 5) rfl ?_
  refine x_aload_n dX6_look_5 (n := 6) rfl rfl 0 rfl ?_
  refine x_iload_n dX6_look_6 (n := 7) rfl rfl 1 rfl ?_
  refine x_cVip (As := [.int x1]) (rest := []) cv_X6_404 ck0 (met_X6_isLand o (pI σ0 o 2 0) x1 hB0.i) hB0.i.1 (by decide) rfl rfl rfl dX6_look_7 (n := 10) rfl (fun r2 q => ?_)
  subst q
  refine x_if_ne (tgt := 19) dX6_look_10 rfl (n := 13) rfl (fun c3 => ?_) (fun c3 => ?_)
  · have h := h.2 c3
    refine x_iload_n dX6_look_19 (n := 20) rfl rfl 2 rfl ?_
    refine x_iconst dX6_look_20 (n := 21) rfl ic_0 ?_
    refine x_iconst dX6_look_21 (n := 22) rfl ic_2 ?_
    refine x_cSip (As := [.int x2, .int 0, .int 2]) (rest := []) cs_X6_166 (met_X6_isIn (pI σ0 o 2 0) x2 0 2 ) (by decide) rfl rfl rfl dX6_look_22 (n := 25) rfl (fun r5 q => ?_)
    subst q
    refine x_if_eq (tgt := 41) dX6_look_25 rfl (n := 28) rfl (fun c6 => ?_) (fun c6 => ?_)
    · have h := h.1 c6
      refine x_aload_n dX6_look_41 (n := 42) rfl rfl 0 rfl ?_
      refine x_iconst dX6_look_42 (n := 43) rfl ic_2 ?_
      refine x_cVim (As := [.int 2]) (rest := []) cv_X6_407 ck0 (met_X6_fails o (pI σ0 o 2 0) 2 hB0.i) hB0.i.1 (by decide) rfl rfl rfl dX6_look_43 (n := 46) rfl (fun r11 s7 hs8 e10 => ?_)
      have hs8t := (SH.rf (σ := σ0)).i.tr hs8; have hBs7 := hB0.sh hs8t
      have h := h r11 s7 e10
      exact x_iret rq ⟨hs8t, h⟩ dX6_look_46
    · have h := h.2 c6
      refine x_aload_n dX6_look_28 (n := 29) rfl rfl 0 rfl ?_
      refine x_getr fl_X6_26_0 rfl hB0.i.1 hB0.i.r29 dX6_look_29 (n := 32) rfl ?_
      refine x_iconst dX6_look_32 (n := 33) rfl ic_3 ?_
      refine x_iload_n dX6_look_33 (n := 34) rfl rfl 1 rfl ?_
      refine x_imul dX6_look_34 (n := 35) rfl ?_
      refine x_iload_n dX6_look_35 (n := 36) rfl rfl 2 rfl ?_
      refine x_iadd dX6_look_36 (n := 37) rfl ?_
      obtain ⟨b12, h⟩ := h
      refine x_iald hB0.i.a29 b12 rfl dX6_look_37 (n := 38) rfl ?_
      refine x_goto (tgt := 46) dX6_look_38 rfl ?_
      exact x_iret rq ⟨(SH.rf (σ := σ0)).i, h⟩ dX6_look_46
  · have h := h.1 c3
    refine x_aload_n dX6_look_13 (n := 14) rfl rfl 0 rfl ?_
    refine x_iconst dX6_look_14 (n := 15) rfl ic_1 ?_
    refine x_cVim (As := [.int 1]) (rest := []) cv_X6_407 ck0 (met_X6_fails o (pI σ0 o 2 0) 1 hB0.i) hB0.i.1 (by decide) rfl rfl rfl dX6_look_15 (n := 18) rfl (fun r17 s13 hs14 e16 => ?_)
    have hs14t := (SH.rf (σ := σ0)).i.tr hs14; have hBs13 := hB0.sh hs14t
    have h := h r17 s13 e16
    exact x_iret rq ⟨hs14t, h⟩ dX6_look_18
abbrev rm_X6_isAsked : Room := { frames := 2, cells := 0, slots := 0, locals := 46 }
def f_X6_isAsked (o : Nat) (σ : Hp) (x1 : Int32) (y2 : Int64) : Int32 := if 1000000000 < y2 then 0 else if (f_X6_isYear o σ x1 y2) = 0 then 0 else 1
def ok_X6_isAsked (o : Nat) (σ : Hp) (x1 : Int32) (y2 : Int64) : Prop := (1000000000 < y2 → True) ∧ (¬ 1000000000 < y2 → (ok_X6_isYear o σ x1 y2))
theorem met_X6_isAsked (o : Nat) (σ : Hp) (x1 : Int32) (y2 : Int64) (hB : MB o σ) (hk : ok_X6_isAsked o σ x1 y2) : MetX yX6_isAsked cX6_isAsked 4 (some .boolean) rm_X6_isAsked σ [.ref o, .int x1, .long y2] (oI (fun r σ' => σ' = σ ∧ r = (f_X6_isAsked o σ x1 y2))) 0 0 := by
  refine metX_of (own := RX6) (lvs := [(0, .ref o), (1, .int x1), (2, .long y2)]) (by decide) rfl (Nat.le_of_ble_eq_true rfl) rfl (fun G rq => ?_)
  have hv : (f_X6_isAsked o σ x1 y2) = _ := f_X6_isAsked.eq_1 _ _ _ _
  unfold ok_X6_isAsked at hk
  refine x_lload_n dX6_isAsked_0 (n := 1) rfl rfl 2 rfl ?_
  refine x_ldc2 dX6_isAsked_1 (n := 4) rfl q1972 ?_
  refine x_lcmp_gt (tgt := 21) dX6_isAsked_4 (pc1 := 5) rfl dX6_isAsked_5 rfl (n := 8) rfl (fun c1 => ?_) (fun c1 => ?_)
  · have hk := hk.1 c1
    have hv := hv.trans (if_pos c1)
    refine x_iconst dX6_isAsked_21 (n := 22) rfl ic_0 ?_
    exact x_zret rq ⟨rfl, hv.symm⟩ isB0 dX6_isAsked_22
  · have hk := hk.2 c1
    have hv := hv.trans (if_neg c1)
    refine x_aload_n dX6_isAsked_8 (n := 9) rfl rfl 0 rfl ?_
    refine x_iload_n dX6_isAsked_9 (n := 10) rfl rfl 1 rfl ?_
    refine x_lload_n dX6_isAsked_10 (n := 11) rfl rfl 2 rfl ?_
    have b2 := hk
    refine x_cVip (As := [.int x1, .long y2]) (rest := []) cv_X6_385 ck0 (met_X6_isYear o σ x1 y2 hB b2) hB.1 (by decide) rfl rfl rfl dX6_isAsked_11 (n := 14) rfl (fun r3 q => ?_)
    subst q
    refine x_if_eq (tgt := 21) dX6_isAsked_14 rfl (n := 17) rfl (fun c4 => ?_) (fun c4 => ?_)
    · have hv := hv.trans (if_pos c4)
      refine x_iconst dX6_isAsked_21 (n := 22) rfl ic_0 ?_
      exact x_zret rq ⟨rfl, hv.symm⟩ isB0 dX6_isAsked_22
    · have hv := hv.trans (if_neg c4)
      refine x_iconst dX6_isAsked_17 (n := 18) rfl ic_1 ?_
      refine x_goto (tgt := 22) dX6_isAsked_18 rfl ?_
      exact x_zret rq ⟨rfl, hv.symm⟩ isB1 dX6_isAsked_22
abbrev rm_X6_length : Room := { frames := 3, cells := 0, slots := 0, locals := 69 }
def f_X6_length (o : Nat) (σ0 : Hp) (x1 : Int32) (x2 : Int32) : Int64 × Hp := if (f_X6_isLand o (pI σ0 o 2 0) x1) = 0 then ((-1), pI σ0 o 2 0) else if (f_X6_isAsked o (pI σ0 o 2 0) x1 x2.toInt64) = 0 then ((-1), pI σ0 o 2 0) else (f_X6_lengthOf o (pI σ0 o 2 0) x1 x2.toInt64, pI σ0 o 2 0)
def ok_X6_length (o : Nat) (σ0 : Hp) (x1 : Int32) (x2 : Int32) : Prop := ((f_X6_isLand o (pI σ0 o 2 0) x1) = 0 → True) ∧ (¬ (f_X6_isLand o (pI σ0 o 2 0) x1) = 0 → ((ok_X6_isAsked o (pI σ0 o 2 0) x1 x2.toInt64) ∧ (((f_X6_isAsked o (pI σ0 o 2 0) x1 x2.toInt64) = 0 → True) ∧ (¬ (f_X6_isAsked o (pI σ0 o 2 0) x1 x2.toInt64) = 0 → (ok_X6_lengthOf o (pI σ0 o 2 0) x1 x2.toInt64)))))
theorem met_X6_length (o : Nat) (σ0 : Hp) (x1 : Int32) (x2 : Int32) (hB0 : MB o σ0) (hk : ok_X6_length o σ0 x1 x2) : MetX yX6_length cX6_length 3 (some .long) rm_X6_length σ0 [.ref o, .int x1, .int x2] (oL (fun r σ' => SH σ0 σ' ∧ (r, σ') = (f_X6_length o σ0 x1 x2))) 0 0 := by
  refine metX_of (own := RX6) (lvs := [(0, .ref o), (1, .int x1), (2, .int x2)]) (by decide) rfl (Nat.le_of_ble_eq_true rfl) rfl (fun G rq => ?_)
  have hv : (f_X6_length o σ0 x1 x2) = _ := f_X6_length.eq_1 _ _ _ _
  unfold ok_X6_length at hk
  refine x_aload_n dX6_length_0 (n := 1) rfl rfl 0 rfl ?_
  refine x_iconst dX6_length_1 (n := 2) rfl ic_0 ?_
  refine x_puti fp_X6_119_0 rfl hB0.1 dX6_length_2 (n := 5) rfl ?_
  refine x_aload_n dX6_length_5 (n := 6) rfl rfl 0 rfl ?_
  refine x_iload_n dX6_length_6 (n := 7) rfl rfl 1 rfl ?_
  refine x_cVip (As := [.int x1]) (rest := []) cv_X6_404 ck0 (met_X6_isLand o (pI σ0 o 2 0) x1 hB0.i) hB0.i.1 (by decide) rfl rfl rfl dX6_length_7 (n := 10) rfl (fun r2 q => ?_)
  subst q
  refine x_if_eq (tgt := 33) dX6_length_10 rfl (n := 13) rfl (fun c3 => ?_) (fun c3 => ?_)
  · have hk := hk.1 c3
    have hv := hv.trans (if_pos c3)
    refine x_ldc2 dX6_length_33 (n := 36) rfl q1880 ?_
    exact x_lret rq ⟨(SH.rf (σ := σ0)).i, hv.symm⟩ dX6_length_36
  · have hk := hk.2 c3
    have hv := hv.trans (if_neg c3)
    refine x_aload_n dX6_length_13 (n := 14) rfl rfl 0 rfl ?_
    refine x_iload_n dX6_length_14 (n := 15) rfl rfl 1 rfl ?_
    refine x_iload_n dX6_length_15 (n := 16) rfl rfl 2 rfl ?_
    refine x_i2l dX6_length_16 (n := 17) rfl ?_
    obtain ⟨b4, hk⟩ := hk
    refine x_cVip (As := [.int x1, .long x2.toInt64]) (rest := []) cv_X6_410 ck0 (met_X6_isAsked o (pI σ0 o 2 0) x1 x2.toInt64 hB0.i b4) hB0.i.1 (by decide) rfl rfl rfl dX6_length_17 (n := 20) rfl (fun r5 q => ?_)
    subst q
    refine x_if_eq (tgt := 33) dX6_length_20 rfl (n := 23) rfl (fun c6 => ?_) (fun c6 => ?_)
    · have hk := hk.1 c6
      have hv := hv.trans (if_pos c6)
      refine x_ldc2 dX6_length_33 (n := 36) rfl q1880 ?_
      exact x_lret rq ⟨(SH.rf (σ := σ0)).i, hv.symm⟩ dX6_length_36
    · have hk := hk.2 c6
      have hv := hv.trans (if_neg c6)
      refine x_aload_n dX6_length_23 (n := 24) rfl rfl 0 rfl ?_
      refine x_iload_n dX6_length_24 (n := 25) rfl rfl 1 rfl ?_
      refine x_iload_n dX6_length_25 (n := 26) rfl rfl 2 rfl ?_
      refine x_i2l dX6_length_26 (n := 27) rfl ?_
      have b7 := hk
      refine x_cVlp (As := [.int x1, .long x2.toInt64]) (rest := []) cv_X6_375 ck0 (met_X6_lengthOf o (pI σ0 o 2 0) x1 x2.toInt64 hB0.i b7) hB0.i.1 (by decide) rfl rfl rfl dX6_length_27 (n := 30) rfl (fun r8 q => ?_)
      subst q
      refine x_goto (tgt := 36) dX6_length_30 rfl ?_
      exact x_lret rq ⟨(SH.rf (σ := σ0)).i, hv.symm⟩ dX6_length_36
abbrev rm_X6_endYear : Room := { frames := 0, cells := 0, slots := 0, locals := 0 }
def f_X6_endYear (o : Nat) (σ : Hp) (x1 : Int32) : Int64 := ((((gI σ (o + 5) (3 * x1).toNatClampNeg).toInt64) - 1) / ((-(gI σ (o + 5) ((3 * x1) + 1).toNatClampNeg)).toInt64)) + 1
def ok_X6_endYear (o : Nat) (σ : Hp) (x1 : Int32) : Prop := (vp_in (3 * x1) 24) ∧ ((vp_in ((3 * x1) + 1) 24) ∧ (¬ ((-(gI σ (o + 5) ((3 * x1) + 1).toNatClampNeg)).toInt64) = 0))
theorem met_X6_endYear (o : Nat) (σ : Hp) (x1 : Int32) (hB : MB o σ) (hk : ok_X6_endYear o σ x1) : MetX yX6_endYear cX6_endYear 2 (some .long) rm_X6_endYear σ [.ref o, .int x1] (oL (fun r σ' => σ' = σ ∧ r = (f_X6_endYear o σ x1))) 0 0 := by
  refine metX_of (own := RX6) (lvs := [(0, .ref o), (1, .int x1)]) (by decide) rfl (Nat.le_of_ble_eq_true rfl) rfl (fun G rq => ?_)
  have hv : (f_X6_endYear o σ x1) = _ := f_X6_endYear.eq_1 _ _ _
  unfold ok_X6_endYear at hk
  refine x_aload_n dX6_endYear_0 (n := 1) rfl rfl 0 rfl ?_
  refine x_getr fl_X6_26_0 rfl hB.1 hB.r29 dX6_endYear_1 (n := 4) rfl ?_
  refine x_iconst dX6_endYear_4 (n := 5) rfl ic_3 ?_
  refine x_iload_n dX6_endYear_5 (n := 6) rfl rfl 1 rfl ?_
  refine x_imul dX6_endYear_6 (n := 7) rfl ?_
  obtain ⟨b1, hk⟩ := hk
  refine x_iald hB.a29 b1 rfl dX6_endYear_7 (n := 8) rfl ?_
  refine x_i2l dX6_endYear_8 (n := 9) rfl ?_
  refine x_lconst dX6_endYear_9 (n := 10) rfl lc_1 ?_
  refine x_lsub dX6_endYear_10 (n := 11) rfl ?_
  refine x_aload_n dX6_endYear_11 (n := 12) rfl rfl 0 rfl ?_
  refine x_getr fl_X6_26_0 rfl hB.1 hB.r29 dX6_endYear_12 (n := 15) rfl ?_
  refine x_iconst dX6_endYear_15 (n := 16) rfl ic_3 ?_
  refine x_iload_n dX6_endYear_16 (n := 17) rfl rfl 1 rfl ?_
  refine x_imul dX6_endYear_17 (n := 18) rfl ?_
  refine x_iconst dX6_endYear_18 (n := 19) rfl ic_1 ?_
  refine x_iadd dX6_endYear_19 (n := 20) rfl ?_
  obtain ⟨b2, hk⟩ := hk
  refine x_iald hB.a29 b2 rfl dX6_endYear_20 (n := 21) rfl ?_
  refine x_ineg dX6_endYear_21 (n := 22) rfl ?_
  refine x_i2l dX6_endYear_22 (n := 23) rfl ?_
  have b3 := hk
  refine x_ldiv dX6_endYear_23 (n := 24) rfl b3 ?_
  refine x_lconst dX6_endYear_24 (n := 25) rfl lc_1 ?_
  refine x_ladd dX6_endYear_25 (n := 26) rfl ?_
  exact x_lret rq ⟨rfl, hv.symm⟩ dX6_endYear_26
abbrev rm_X6_date1 : Room := { frames := 1, cells := 0, slots := 0, locals := 25 }
def lb_X6_date1_89 (o : Nat) (x1 : Int32) (y2 : Int64) (Q : Int32 → Hp → Prop)  (K89 : Int64 × Int64 × Hp → Prop) (z : Int64 × Int64 × Hp) : Prop := match z with
  | (y6, y8, σ) => (y8 ≤ y6 → (ok_X6_beginOf o (pL σ o 53 y6) x1 y6) ∧ ((ok_X6_lengthOf o (pL (pL σ o 53 y6) o 54 ((y2 - (f_X6_beginOf o (pL σ o 53 y6) x1 y6)) + 1)) x1 y6) ∧ (((f_X6_lengthOf o (pL (pL σ o 53 y6) o 54 ((y2 - (f_X6_beginOf o (pL σ o 53 y6) x1 y6)) + 1)) x1 y6) < ((y2 - (f_X6_beginOf o (pL σ o 53 y6) x1 y6)) + 1) → Q 0 (pL (pL σ o 53 y6) o 54 ((y2 - (f_X6_beginOf o (pL σ o 53 y6) x1 y6)) + 1))) ∧ (¬ (f_X6_lengthOf o (pL (pL σ o 53 y6) o 54 ((y2 - (f_X6_beginOf o (pL σ o 53 y6) x1 y6)) + 1)) x1 y6) < ((y2 - (f_X6_beginOf o (pL σ o 53 y6) x1 y6)) + 1) → Q 1 (pL (pL σ o 53 y6) o 54 ((y2 - (f_X6_beginOf o (pL σ o 53 y6) x1 y6)) + 1)))))) ∧ (¬ y8 ≤ y6 → (ok_X6_beginOf o σ x1 (((y6 + y8) + 1) / 2)) ∧ ((y2 < (f_X6_beginOf o σ x1 (((y6 + y8) + 1) / 2)) → K89 (y6, (((y6 + y8) + 1) / 2) - 1, σ)) ∧ (¬ y2 < (f_X6_beginOf o σ x1 (((y6 + y8) + 1) / 2)) → K89 (((y6 + y8) + 1) / 2, y8, σ))))
def wp_X6_date1 (o : Nat) (σ0 : Hp) (x1 : Int32) (y2 : Int64) (Q : Int32 → Hp → Prop) : Prop := (vp_in ((3 * x1) + 2) 24) ∧ ((((gI σ0 (o + 5) ((3 * x1) + 2).toNatClampNeg).toInt64) ≤ y2 → (vp_in ((3 * x1) + 1) 24) ∧ (∀ v4 : Int64, v4 = (gI σ0 (o + 5) ((3 * x1) + 1).toNatClampNeg).toInt64 → (0 ≤ v4 → (v4 ≤ 0 → (vp_in ((3 * x1) + 2) 24) ∧ ((vp_in (3 * x1) 24) ∧ ((¬ ((gI σ0 (o + 5) (3 * x1).toNatClampNeg).toInt64) = 0) ∧ (∀ v11 : Int64, v11 = ((y2 - ((gI σ0 (o + 5) ((3 * x1) + 2).toNatClampNeg).toInt64)) / ((gI σ0 (o + 5) (3 * x1).toNatClampNeg).toInt64)) + 1 → lp (lb_X6_date1_89 o x1 y2 Q) (1, v11, σ0))))) ∧ (¬ v4 ≤ 0 → lp (lb_X6_date1_89 o x1 y2 Q) (1, 3000000, σ0))) ∧ (¬ 0 ≤ v4 → (ok_X6_endYear o σ0 x1) ∧ (lp (lb_X6_date1_89 o x1 y2 Q) (1, f_X6_endYear o σ0 x1, σ0))))) ∧ (¬ ((gI σ0 (o + 5) ((3 * x1) + 2).toNatClampNeg).toInt64) ≤ y2 → Q 0 σ0))
theorem xl_X6_date1_89 (o : Nat) (σ0 : Hp) (Q : Int32 → Hp → Prop) (G : XE) (hB0 : MB o σ0) (rq : RQ G 0 0 (oI (fun r σ' => SH σ0 σ' ∧ Q r σ'))) (x1 : Int32) (y2 : Int64)    : ∀ z : Int64 × Int64 × Hp, SH σ0 z.2.2 → lp (lb_X6_date1_89 o x1 y2 Q ) z → X G rm_X6_date1 cX6_date1 RX6 12 (some .boolean) z.2.2 0 0 89 [(0, .ref o), (1, .int x1), (2, .long y2), (6, .long z.1), (8, .long z.2.1)] [] := by
  intro z
  refine fun hs h => lp_X (P := fun z => SH σ0 z.2.2 → X G rm_X6_date1 cX6_date1 RX6 12 (some .boolean) z.2.2 0 0 89 [(0, .ref o), (1, .int x1), (2, .long y2), (6, .long z.1), (8, .long z.2.1)] []) ?_ h hs
  intro K89 hK89 z h hs
  obtain ⟨y6, y8, σ⟩ := z
  have hs : SH σ0 σ := hs
  have hB := hB0.sh hs
  simp only [lb_X6_date1_89] at h
  show X G rm_X6_date1 cX6_date1 RX6 12 (some .boolean) σ 0 0 89 [(0, .ref o), (1, .int x1), (2, .long y2), (6, .long y6), (8, .long y8)] []
  have hK89 : ∀ z : (Int64 × Int64 × Hp), SH σ0 z.2.2 → K89 z → X G rm_X6_date1 cX6_date1 RX6 12 (some .boolean) z.2.2 0 0 89 [(0, .ref o), (1, .int x1), (2, .long y2), (6, .long z.1), (8, .long z.2.1)] [] := fun z hs h => hK89 z h hs
  refine x_lload dX6_date1_89 (n := 91) rfl 3 rfl ?_
  refine x_lload dX6_date1_91 (n := 93) rfl 4 rfl ?_
  refine x_lcmp_ge (tgt := 138) dX6_date1_93 (pc1 := 94) rfl dX6_date1_94 rfl (n := 97) rfl (fun c15 => ?_) (fun c15 => ?_)
  · have h := h.1 c15
    refine x_aload_n dX6_date1_138 (n := 139) rfl rfl 0 rfl ?_
    refine x_lload dX6_date1_139 (n := 141) rfl 3 rfl ?_
    refine x_putl fp_X6_396_0 rfl hB.1 dX6_date1_141 (n := 144) rfl ?_
    refine x_aload_n dX6_date1_144 (n := 145) rfl rfl 0 rfl ?_
    refine x_lload_n dX6_date1_145 (n := 146) rfl rfl 2 rfl ?_
    refine x_aload_n dX6_date1_146 (n := 147) rfl rfl 0 rfl ?_
    refine x_iload_n dX6_date1_147 (n := 148) rfl rfl 1 rfl ?_
    refine x_lload dX6_date1_148 (n := 150) rfl 3 rfl ?_
    obtain ⟨b16, h⟩ := h
    refine x_cVlp (As := [.int x1, .long y6]) (rest := [.long y2, .ref o]) cv_X6_389 ck0 (met_X6_beginOf o (pL σ o 53 y6) x1 y6 hB.l b16) hB.l.1 (by decide) rfl rfl rfl dX6_date1_150 (n := 153) rfl (fun r17 q => ?_)
    subst q
    refine x_lsub dX6_date1_153 (n := 154) rfl ?_
    refine x_lconst dX6_date1_154 (n := 155) rfl lc_1 ?_
    refine x_ladd dX6_date1_155 (n := 156) rfl ?_
    refine x_putl fp_X6_399_0 rfl hB.l.1 dX6_date1_156 (n := 159) rfl ?_
    refine x_aload_n dX6_date1_159 (n := 160) rfl rfl 0 rfl ?_
    refine x_getl fl_X6_399_0 rfl hB.l.l.1 (gLs) dX6_date1_160 (n := 163) rfl ?_
    refine x_aload_n dX6_date1_163 (n := 164) rfl rfl 0 rfl ?_
    refine x_iload_n dX6_date1_164 (n := 165) rfl rfl 1 rfl ?_
    refine x_lload dX6_date1_165 (n := 167) rfl 3 rfl ?_
    obtain ⟨b18, h⟩ := h
    refine x_cVlp (As := [.int x1, .long y6]) (rest := [.long ((y2 - (f_X6_beginOf o (pL σ o 53 y6) x1 y6)) + 1)]) cv_X6_375 ck0 (met_X6_lengthOf o (pL (pL σ o 53 y6) o 54 ((y2 - (f_X6_beginOf o (pL σ o 53 y6) x1 y6)) + 1)) x1 y6 hB.l.l b18) hB.l.l.1 (by decide) rfl rfl rfl dX6_date1_167 (n := 170) rfl (fun r19 q => ?_)
    subst q
    refine x_lcmp_gt (tgt := 178) dX6_date1_170 (pc1 := 171) rfl dX6_date1_171 rfl (n := 174) rfl (fun c20 => ?_) (fun c20 => ?_)
    · have h := h.1 c20
      refine x_iconst dX6_date1_178 (n := 179) rfl ic_0 ?_
      exact x_zret rq ⟨hs.l.l, h⟩ isB0 dX6_date1_179
    · have h := h.2 c20
      refine x_iconst dX6_date1_174 (n := 175) rfl ic_1 ?_
      refine x_goto (tgt := 179) dX6_date1_175 rfl ?_
      exact x_zret rq ⟨hs.l.l, h⟩ isB1 dX6_date1_179
  · have h := h.2 c15
    refine x_lload dX6_date1_97 (n := 99) rfl 3 rfl ?_
    refine x_lload dX6_date1_99 (n := 101) rfl 4 rfl ?_
    refine x_ladd dX6_date1_101 (n := 102) rfl ?_
    refine x_lconst dX6_date1_102 (n := 103) rfl lc_1 ?_
    refine x_ladd dX6_date1_103 (n := 104) rfl ?_
    refine x_ldc2 dX6_date1_104 (n := 107) rfl q1899 ?_
    refine x_ldiv dX6_date1_107 (n := 108) rfl (by decide) ?_
    refine x_lstore (lvs' := [(10, .long (((y6 + y8) + 1) / 2)), (0, .ref o), (1, .int x1), (2, .long y2), (6, .long y6), (8, .long y8)]) dX6_date1_108 (n := 110) rfl (by decide) rfl ?_
    refine x_aload_n dX6_date1_110 (n := 111) rfl rfl 1 rfl ?_
    refine x_iload_n dX6_date1_111 (n := 112) rfl rfl 2 rfl ?_
    refine x_lload dX6_date1_112 (n := 114) rfl 0 rfl ?_
    obtain ⟨b21, h⟩ := h
    refine x_cVlp (As := [.int x1, .long (((y6 + y8) + 1) / 2)]) (rest := []) cv_X6_389 ck0 (met_X6_beginOf o σ x1 (((y6 + y8) + 1) / 2) hB b21) hB.1 (by decide) rfl rfl rfl dX6_date1_114 (n := 117) rfl (fun r22 q => ?_)
    subst q
    refine x_lload_n dX6_date1_117 (n := 118) rfl rfl 3 rfl ?_
    refine x_lcmp_gt (tgt := 129) dX6_date1_118 (pc1 := 119) rfl dX6_date1_119 rfl (n := 122) rfl (fun c23 => ?_) (fun c23 => ?_)
    · have h := h.1 c23
      refine x_lload dX6_date1_129 (n := 131) rfl 0 rfl ?_
      refine x_lconst dX6_date1_131 (n := 132) rfl lc_1 ?_
      refine x_lsub dX6_date1_132 (n := 133) rfl ?_
      refine x_lstore (lvs' := [(8, .long ((((y6 + y8) + 1) / 2) - 1)), (10, .long (((y6 + y8) + 1) / 2)), (0, .ref o), (1, .int x1), (2, .long y2), (6, .long y6)]) dX6_date1_133 (n := 135) rfl (by decide) rfl ?_
      refine x_goto (tgt := 89) dX6_date1_135 rfl ?_
      exact x_sub [2, 3, 4, 5, 0] rfl (hK89 (y6, (((y6 + y8) + 1) / 2) - 1, σ) hs h)
    · have h := h.2 c23
      refine x_lload dX6_date1_122 (n := 124) rfl 0 rfl ?_
      refine x_lstore (lvs' := [(6, .long (((y6 + y8) + 1) / 2)), (10, .long (((y6 + y8) + 1) / 2)), (0, .ref o), (1, .int x1), (2, .long y2), (8, .long y8)]) dX6_date1_124 (n := 126) rfl (by decide) rfl ?_
      refine x_goto (tgt := 135) dX6_date1_126 rfl ?_
      refine x_goto (tgt := 89) dX6_date1_135 rfl ?_
      exact x_sub [2, 3, 4, 0, 5] rfl (hK89 (((y6 + y8) + 1) / 2, y8, σ) hs h)
theorem met_X6_date1 (o : Nat) (σ0 : Hp) (x1 : Int32) (y2 : Int64) (Q : Int32 → Hp → Prop) (hB0 : MB o σ0) (h : wp_X6_date1 o σ0 x1 y2 Q) : MetX yX6_date1 cX6_date1 12 (some .boolean) rm_X6_date1 σ0 [.ref o, .int x1, .long y2] (oI (fun r σ' => SH σ0 σ' ∧ Q r σ')) 0 0 := by
  refine metX_of (own := RX6) (lvs := [(0, .ref o), (1, .int x1), (2, .long y2)]) (by decide) rfl (Nat.le_of_ble_eq_true rfl) rfl (fun G rq => ?_)
  unfold wp_X6_date1 at h
  refine x_lload_n dX6_date1_0 (n := 1) rfl rfl 2 rfl ?_
  refine x_aload_n dX6_date1_1 (n := 2) rfl rfl 0 rfl ?_
  refine x_getr fl_X6_26_0 rfl hB0.1 hB0.r29 dX6_date1_2 (n := 5) rfl ?_
  refine x_iconst dX6_date1_5 (n := 6) rfl ic_3 ?_
  refine x_iload_n dX6_date1_6 (n := 7) rfl rfl 1 rfl ?_
  refine x_imul dX6_date1_7 (n := 8) rfl ?_
  refine x_iconst dX6_date1_8 (n := 9) rfl ic_2 ?_
  refine x_iadd dX6_date1_9 (n := 10) rfl ?_
  obtain ⟨b1, h⟩ := h
  refine x_iald hB0.a29 b1 rfl dX6_date1_10 (n := 11) rfl ?_
  refine x_i2l dX6_date1_11 (n := 12) rfl ?_
  refine x_lcmp_ge (tgt := 18) dX6_date1_12 (pc1 := 13) rfl dX6_date1_13 rfl (n := 16) rfl (fun c2 => ?_) (fun c2 => ?_)
  · have h := h.1 c2
    refine x_aload_n dX6_date1_18 (n := 19) rfl rfl 0 rfl ?_
    refine x_getr fl_X6_26_0 rfl hB0.1 hB0.r29 dX6_date1_19 (n := 22) rfl ?_
    refine x_iconst dX6_date1_22 (n := 23) rfl ic_3 ?_
    refine x_iload_n dX6_date1_23 (n := 24) rfl rfl 1 rfl ?_
    refine x_imul dX6_date1_24 (n := 25) rfl ?_
    refine x_iconst dX6_date1_25 (n := 26) rfl ic_1 ?_
    refine x_iadd dX6_date1_26 (n := 27) rfl ?_
    obtain ⟨b3, h⟩ := h
    refine x_iald hB0.a29 b3 rfl dX6_date1_27 (n := 28) rfl ?_
    refine x_i2l dX6_date1_28 (n := 29) rfl ?_
    refine x_topl (fun v4 e5 => ?_)
    have h := h v4 e5
    refine x_lstore (lvs' := [(4, .long v4), (0, .ref o), (1, .int x1), (2, .long y2)]) dX6_date1_29 (n := 31) rfl (by decide) rfl ?_
    refine x_lconst dX6_date1_31 (n := 32) rfl lc_1 ?_
    refine x_lstore (lvs' := [(6, .long 1), (4, .long v4), (0, .ref o), (1, .int x1), (2, .long y2)]) dX6_date1_32 (n := 34) rfl (by decide) rfl ?_
    refine x_lload dX6_date1_34 (n := 36) rfl 1 rfl ?_
    refine x_lconst dX6_date1_36 (n := 37) rfl lc_0 ?_
    refine x_lcmp_ge (tgt := 49) dX6_date1_37 (pc1 := 38) rfl dX6_date1_38 rfl (n := 41) rfl (fun c6 => ?_) (fun c6 => ?_)
    · have h := h.1 c6
      refine x_lload dX6_date1_49 (n := 51) rfl 1 rfl ?_
      refine x_lconst dX6_date1_51 (n := 52) rfl lc_0 ?_
      refine x_lcmp_le (tgt := 62) dX6_date1_52 (pc1 := 53) rfl dX6_date1_53 rfl (n := 56) rfl (fun c7 => ?_) (fun c7 => ?_)
      · have h := h.1 c7
        refine x_lload_n dX6_date1_62 (n := 63) rfl rfl 4 rfl ?_
        refine x_aload_n dX6_date1_63 (n := 64) rfl rfl 2 rfl ?_
        refine x_getr fl_X6_26_0 rfl hB0.1 hB0.r29 dX6_date1_64 (n := 67) rfl ?_
        refine x_iconst dX6_date1_67 (n := 68) rfl ic_3 ?_
        refine x_iload_n dX6_date1_68 (n := 69) rfl rfl 3 rfl ?_
        refine x_imul dX6_date1_69 (n := 70) rfl ?_
        refine x_iconst dX6_date1_70 (n := 71) rfl ic_2 ?_
        refine x_iadd dX6_date1_71 (n := 72) rfl ?_
        obtain ⟨b8, h⟩ := h
        refine x_iald hB0.a29 b8 rfl dX6_date1_72 (n := 73) rfl ?_
        refine x_i2l dX6_date1_73 (n := 74) rfl ?_
        refine x_lsub dX6_date1_74 (n := 75) rfl ?_
        refine x_aload_n dX6_date1_75 (n := 76) rfl rfl 2 rfl ?_
        refine x_getr fl_X6_26_0 rfl hB0.1 hB0.r29 dX6_date1_76 (n := 79) rfl ?_
        refine x_iconst dX6_date1_79 (n := 80) rfl ic_3 ?_
        refine x_iload_n dX6_date1_80 (n := 81) rfl rfl 3 rfl ?_
        refine x_imul dX6_date1_81 (n := 82) rfl ?_
        obtain ⟨b9, h⟩ := h
        refine x_iald hB0.a29 b9 rfl dX6_date1_82 (n := 83) rfl ?_
        refine x_i2l dX6_date1_83 (n := 84) rfl ?_
        obtain ⟨b10, h⟩ := h
        refine x_ldiv dX6_date1_84 (n := 85) rfl b10 ?_
        refine x_lconst dX6_date1_85 (n := 86) rfl lc_1 ?_
        refine x_ladd dX6_date1_86 (n := 87) rfl ?_
        refine x_topl (fun v11 e12 => ?_)
        have h := h v11 e12
        refine x_lstore (lvs' := [(8, .long v11), (6, .long 1), (4, .long v4), (0, .ref o), (1, .int x1), (2, .long y2)]) dX6_date1_87 (n := 89) rfl (by decide) rfl ?_
        exact x_sub [3, 4, 5, 1, 0] rfl (xl_X6_date1_89 o σ0 Q G hB0 rq x1 y2 (1, v11, σ0) (SH.rf (σ := σ0)) h)
      · have h := h.2 c7
        refine x_ldc2 dX6_date1_56 (n := 59) rfl q1897 ?_
        refine x_goto (tgt := 87) dX6_date1_59 rfl ?_
        refine x_lstore (lvs' := [(8, .long 3000000), (6, .long 1), (4, .long v4), (0, .ref o), (1, .int x1), (2, .long y2)]) dX6_date1_87 (n := 89) rfl (by decide) rfl ?_
        exact x_sub [3, 4, 5, 1, 0] rfl (xl_X6_date1_89 o σ0 Q G hB0 rq x1 y2 (1, 3000000, σ0) (SH.rf (σ := σ0)) h)
    · have h := h.2 c6
      refine x_aload_n dX6_date1_41 (n := 42) rfl rfl 2 rfl ?_
      refine x_iload_n dX6_date1_42 (n := 43) rfl rfl 3 rfl ?_
      obtain ⟨b13, h⟩ := h
      refine x_cVlp (As := [.int x1]) (rest := []) cv_X6_392 ck0 (met_X6_endYear o σ0 x1 hB0 b13) hB0.1 (by decide) rfl rfl rfl dX6_date1_43 (n := 46) rfl (fun r14 q => ?_)
      subst q
      refine x_goto (tgt := 87) dX6_date1_46 rfl ?_
      refine x_lstore (lvs' := [(8, .long (f_X6_endYear o σ0 x1)), (6, .long 1), (4, .long v4), (0, .ref o), (1, .int x1), (2, .long y2)]) dX6_date1_87 (n := 89) rfl (by decide) rfl ?_
      exact x_sub [3, 4, 5, 1, 0] rfl (xl_X6_date1_89 o σ0 Q G hB0 rq x1 y2 (1, f_X6_endYear o σ0 x1, σ0) (SH.rf (σ := σ0)) h)
  · have h := h.2 c2
    refine x_iconst dX6_date1_16 (n := 17) rfl ic_0 ?_
    exact x_zret rq ⟨(SH.rf (σ := σ0)), h⟩ isB0 dX6_date1_17
abbrev rm_X6_isCount : Room := { frames := 0, cells := 0, slots := 0, locals := 0 }
def f_X6_isCount (y0 : Int64) : Int32 := if y0 < 0 then 0 else if 1000000000000 < y0 then 0 else 1
theorem met_X6_isCount (σ : Hp) (y0 : Int64)  : MetX yX6_isCount cX6_isCount 2 (some .boolean) rm_X6_isCount σ [.long y0] (oI (fun r σ' => σ' = σ ∧ r = (f_X6_isCount y0))) 0 0 := by
  refine metX_of (own := RX6) (lvs := [(0, .long y0)]) (by decide) rfl (Nat.le_of_ble_eq_true rfl) rfl (fun G rq => ?_)
  have hv : (f_X6_isCount y0) = _ := f_X6_isCount.eq_1 _
  refine x_lload_n dX6_isCount_0 (n := 1) rfl rfl 0 rfl ?_
  refine x_lconst dX6_isCount_1 (n := 2) rfl lc_0 ?_
  refine x_lcmp_lt (tgt := 18) dX6_isCount_2 (pc1 := 3) rfl dX6_isCount_3 rfl (n := 6) rfl (fun c1 => ?_) (fun c1 => ?_)
  · have hv := hv.trans (if_pos c1)
    refine x_iconst dX6_isCount_18 (n := 19) rfl ic_0 ?_
    exact x_zret rq ⟨rfl, hv.symm⟩ isB0 dX6_isCount_19
  · have hv := hv.trans (if_neg c1)
    refine x_lload_n dX6_isCount_6 (n := 7) rfl rfl 0 rfl ?_
    refine x_ldc2 dX6_isCount_7 (n := 10) rfl q1900 ?_
    refine x_lcmp_gt (tgt := 18) dX6_isCount_10 (pc1 := 11) rfl dX6_isCount_11 rfl (n := 14) rfl (fun c2 => ?_) (fun c2 => ?_)
    · have hv := hv.trans (if_pos c2)
      refine x_iconst dX6_isCount_18 (n := 19) rfl ic_0 ?_
      exact x_zret rq ⟨rfl, hv.symm⟩ isB0 dX6_isCount_19
    · have hv := hv.trans (if_neg c2)
      refine x_iconst dX6_isCount_14 (n := 15) rfl ic_1 ?_
      refine x_goto (tgt := 19) dX6_isCount_15 rfl ?_
      exact x_zret rq ⟨rfl, hv.symm⟩ isB1 dX6_isCount_19
abbrev rm_X6_date : Room := { frames := 2, cells := 0, slots := 0, locals := 56 }
def wp_X6_date (o : Nat) (σ0 : Hp) (x1 : Int32) (y2 : Int64) (x4 : Int32) (Q : Int64 → Hp → Prop) : Prop := ((f_X6_isLand o (pI σ0 o 2 0) x1) = 0 → Q (-1) (pI σ0 o 2 0)) ∧ (¬ (f_X6_isLand o (pI σ0 o 2 0) x1) = 0 → ((f_X6_isCount y2) = 0 → Q (-1) (pI σ0 o 2 0)) ∧ (¬ (f_X6_isCount y2) = 0 → ((f_X6_isIn x4 0 1) = 0 → Q (-1) (pI σ0 o 2 0)) ∧ (¬ (f_X6_isIn x4 0 1) = 0 → wp_X6_date1 o (pI σ0 o 2 0) x1 y2 (fun r12 s10 => (r12 = 0 → Q (-1) s10) ∧ (¬ r12 = 0 → (x4 = 0 → Q (gL s10 o 53) s10) ∧ (¬ x4 = 0 → Q (gL s10 o 54) s10))))))
theorem met_X6_date (o : Nat) (σ0 : Hp) (x1 : Int32) (y2 : Int64) (x4 : Int32) (Q : Int64 → Hp → Prop) (hB0 : MB o σ0) (h : wp_X6_date o σ0 x1 y2 x4 Q) : MetX yX6_date cX6_date 5 (some .long) rm_X6_date σ0 [.ref o, .int x1, .long y2, .int x4] (oL (fun r σ' => SH σ0 σ' ∧ Q r σ')) 0 0 := by
  refine metX_of (own := RX6) (lvs := [(0, .ref o), (1, .int x1), (2, .long y2), (4, .int x4)]) (by decide) rfl (Nat.le_of_ble_eq_true rfl) rfl (fun G rq => ?_)
  unfold wp_X6_date at h
  refine x_aload_n dX6_date_0 (n := 1) rfl rfl 0 rfl ?_
  refine x_iconst dX6_date_1 (n := 2) rfl ic_0 ?_
  refine x_puti fp_X6_119_0 rfl hB0.1 dX6_date_2 (n := 5) rfl ?_
  refine x_aload_n dX6_date_5 (n := 6) rfl rfl 0 rfl ?_
  refine x_iload_n dX6_date_6 (n := 7) rfl rfl 1 rfl ?_
  refine x_cVip (As := [.int x1]) (rest := []) cv_X6_404 ck0 (met_X6_isLand o (pI σ0 o 2 0) x1 hB0.i) hB0.i.1 (by decide) rfl rfl rfl dX6_date_7 (n := 10) rfl (fun r2 q => ?_)
  subst q
  refine x_if_eq (tgt := 39) dX6_date_10 rfl (n := 13) rfl (fun c3 => ?_) (fun c3 => ?_)
  · have h := h.1 c3
    refine x_ldc2 dX6_date_39 (n := 42) rfl q1880 ?_
    exact x_lret rq ⟨(SH.rf (σ := σ0)).i, h⟩ dX6_date_42
  · have h := h.2 c3
    refine x_lload_n dX6_date_13 (n := 14) rfl rfl 2 rfl ?_
    refine x_cSip (As := [.long y2]) (rest := []) cs_X6_413 (met_X6_isCount (pI σ0 o 2 0) y2 ) (by decide) rfl rfl rfl dX6_date_14 (n := 17) rfl (fun r5 q => ?_)
    subst q
    refine x_if_eq (tgt := 39) dX6_date_17 rfl (n := 20) rfl (fun c6 => ?_) (fun c6 => ?_)
    · have h := h.1 c6
      refine x_ldc2 dX6_date_39 (n := 42) rfl q1880 ?_
      exact x_lret rq ⟨(SH.rf (σ := σ0)).i, h⟩ dX6_date_42
    · have h := h.2 c6
      refine x_iload dX6_date_20 (n := 22) rfl 3 rfl ?_
      refine x_iconst dX6_date_22 (n := 23) rfl ic_0 ?_
      refine x_iconst dX6_date_23 (n := 24) rfl ic_1 ?_
      refine x_cSip (As := [.int x4, .int 0, .int 1]) (rest := []) cs_X6_166 (met_X6_isIn (pI σ0 o 2 0) x4 0 1 ) (by decide) rfl rfl rfl dX6_date_24 (n := 27) rfl (fun r8 q => ?_)
      subst q
      refine x_if_eq (tgt := 39) dX6_date_27 rfl (n := 30) rfl (fun c9 => ?_) (fun c9 => ?_)
      · have h := h.1 c9
        refine x_ldc2 dX6_date_39 (n := 42) rfl q1880 ?_
        exact x_lret rq ⟨(SH.rf (σ := σ0)).i, h⟩ dX6_date_42
      · have h := h.2 c9
        refine x_aload_n dX6_date_30 (n := 31) rfl rfl 0 rfl ?_
        refine x_iload_n dX6_date_31 (n := 32) rfl rfl 1 rfl ?_
        refine x_lload_n dX6_date_32 (n := 33) rfl rfl 2 rfl ?_
        refine x_cVim (As := [.int x1, .long y2]) (rest := []) cv_X6_416 ck0 (met_X6_date1 o (pI σ0 o 2 0) x1 y2 _ hB0.i h) hB0.i.1 (by decide) rfl rfl rfl dX6_date_33 (n := 36) rfl (fun r12 s10 hs11 h => ?_)
        have hs11t := (SH.rf (σ := σ0)).i.tr hs11; have hBs10 := hB0.sh hs11t
        refine x_if_ne (tgt := 43) dX6_date_36 rfl (n := 39) rfl (fun c13 => ?_) (fun c13 => ?_)
        · have h := h.2 c13
          refine x_iload dX6_date_43 (n := 45) rfl 3 rfl ?_
          refine x_if_ne (tgt := 55) dX6_date_45 rfl (n := 48) rfl (fun c14 => ?_) (fun c14 => ?_)
          · have h := h.2 c14
            refine x_aload_n dX6_date_55 (n := 56) rfl rfl 0 rfl ?_
            refine x_getl fl_X6_399_0 rfl hBs10.1 rfl dX6_date_56 (n := 59) rfl ?_
            exact x_lret rq ⟨hs11t, h⟩ dX6_date_59
          · have h := h.1 c14
            refine x_aload_n dX6_date_48 (n := 49) rfl rfl 0 rfl ?_
            refine x_getl fl_X6_396_0 rfl hBs10.1 rfl dX6_date_49 (n := 52) rfl ?_
            refine x_goto (tgt := 59) dX6_date_52 rfl ?_
            exact x_lret rq ⟨hs11t, h⟩ dX6_date_59
        · have h := h.1 c13
          refine x_ldc2 dX6_date_39 (n := 42) rfl q1880 ?_
          exact x_lret rq ⟨hs11t, h⟩ dX6_date_42
abbrev rm_X6_count : Room := { frames := 3, cells := 0, slots := 0, locals := 73 }
def f_X6_count (o : Nat) (σ0 : Hp) (x1 : Int32) (x2 : Int32) (y3 : Int64) : Int64 × Hp := if (f_X6_isLand o (pI σ0 o 2 0) x1) = 0 then ((-1), pI σ0 o 2 0) else if 1000000000 < x2 then ((-1), pI σ0 o 2 0) else (f_X6_countOf o (pI σ0 o 2 0) x1 x2.toInt64 y3, pI σ0 o 2 0)
def ok_X6_count (o : Nat) (σ0 : Hp) (x1 : Int32) (x2 : Int32) (y3 : Int64) : Prop := ((f_X6_isLand o (pI σ0 o 2 0) x1) = 0 → True) ∧ (¬ (f_X6_isLand o (pI σ0 o 2 0) x1) = 0 → ((1000000000 < x2 → True) ∧ (¬ 1000000000 < x2 → (ok_X6_countOf o (pI σ0 o 2 0) x1 x2.toInt64 y3))))
theorem met_X6_count (o : Nat) (σ0 : Hp) (x1 : Int32) (x2 : Int32) (y3 : Int64) (hB0 : MB o σ0) (hk : ok_X6_count o σ0 x1 x2 y3) : MetX yX6_count cX6_count 5 (some .long) rm_X6_count σ0 [.ref o, .int x1, .int x2, .long y3] (oL (fun r σ' => SH σ0 σ' ∧ (r, σ') = (f_X6_count o σ0 x1 x2 y3))) 0 0 := by
  refine metX_of (own := RX6) (lvs := [(0, .ref o), (1, .int x1), (2, .int x2), (3, .long y3)]) (by decide) rfl (Nat.le_of_ble_eq_true rfl) rfl (fun G rq => ?_)
  have hv : (f_X6_count o σ0 x1 x2 y3) = _ := f_X6_count.eq_1 _ _ _ _ _
  unfold ok_X6_count at hk
  refine x_aload_n dX6_count_0 (n := 1) rfl rfl 0 rfl ?_
  refine x_iconst dX6_count_1 (n := 2) rfl ic_0 ?_
  refine x_puti fp_X6_119_0 rfl hB0.1 dX6_count_2 (n := 5) rfl ?_
  refine x_aload_n dX6_count_5 (n := 6) rfl rfl 0 rfl ?_
  refine x_iload_n dX6_count_6 (n := 7) rfl rfl 1 rfl ?_
  refine x_cVip (As := [.int x1]) (rest := []) cv_X6_404 ck0 (met_X6_isLand o (pI σ0 o 2 0) x1 hB0.i) hB0.i.1 (by decide) rfl rfl rfl dX6_count_7 (n := 10) rfl (fun r2 q => ?_)
  subst q
  refine x_if_eq (tgt := 31) dX6_count_10 rfl (n := 13) rfl (fun c3 => ?_) (fun c3 => ?_)
  · have hk := hk.1 c3
    have hv := hv.trans (if_pos c3)
    refine x_ldc2 dX6_count_31 (n := 34) rfl q1880 ?_
    exact x_lret rq ⟨(SH.rf (σ := σ0)).i, hv.symm⟩ dX6_count_34
  · have hk := hk.2 c3
    have hv := hv.trans (if_neg c3)
    refine x_iload_n dX6_count_13 (n := 14) rfl rfl 2 rfl ?_
    refine x_ldcw dX6_count_14 (n := 17) rfl q1992 ?_
    refine x_icmp_gt (tgt := 31) dX6_count_17 rfl (n := 20) rfl (fun c4 => ?_) (fun c4 => ?_)
    · have hk := hk.1 c4
      have hv := hv.trans (if_pos c4)
      refine x_ldc2 dX6_count_31 (n := 34) rfl q1880 ?_
      exact x_lret rq ⟨(SH.rf (σ := σ0)).i, hv.symm⟩ dX6_count_34
    · have hk := hk.2 c4
      have hv := hv.trans (if_neg c4)
      refine x_aload_n dX6_count_20 (n := 21) rfl rfl 0 rfl ?_
      refine x_iload_n dX6_count_21 (n := 22) rfl rfl 1 rfl ?_
      refine x_iload_n dX6_count_22 (n := 23) rfl rfl 2 rfl ?_
      refine x_i2l dX6_count_23 (n := 24) rfl ?_
      refine x_lload_n dX6_count_24 (n := 25) rfl rfl 3 rfl ?_
      have b5 := hk
      refine x_cVlp (As := [.int x1, .long x2.toInt64, .long y3]) (rest := []) cv_X6_275 ck0 (met_X6_countOf o (pI σ0 o 2 0) x1 x2.toInt64 y3 hB0.i b5) hB0.i.1 (by decide) rfl rfl rfl dX6_count_25 (n := 28) rfl (fun r6 q => ?_)
      subst q
      refine x_goto (tgt := 34) dX6_count_28 rfl ?_
      exact x_lret rq ⟨(SH.rf (σ := σ0)).i, hv.symm⟩ dX6_count_34
abbrev rm_X6_roundOf : Room := { frames := 0, cells := 0, slots := 0, locals := 0 }
def f_X6_roundOf (o : Nat) (σ : Hp) (y1 : Int64) (x3 : Int32) : Int32 := if x3 = 0 then ((y1 + ((gI σ (o + 3) 1).toInt64)) - (y1 + ((gI σ (o + 3) 1).toInt64)) / ((gI σ (o + 3) 0).toInt64) * ((gI σ (o + 3) 0).toInt64)).toInt32 else if x3 = 1 then (((((y1 * ((gI σ (o + 3) 3).toInt64)) + ((gI σ (o + 3) 4).toInt64)) - ((y1 * ((gI σ (o + 3) 3).toInt64)) + ((gI σ (o + 3) 4).toInt64)) / ((gI σ (o + 3) 2).toInt64) * ((gI σ (o + 3) 2).toInt64)) * 8) / ((gI σ (o + 3) 2).toInt64)).toInt32 else ((((y1 * ((gI σ (o + 3) 6).toInt64)) - (y1 * ((gI σ (o + 3) 6).toInt64)) / ((gI σ (o + 3) 5).toInt64) * ((gI σ (o + 3) 5).toInt64)) * 4) / ((gI σ (o + 3) 5).toInt64)).toInt32
def ok_X6_roundOf (o : Nat) (σ : Hp) (y1 : Int64) (x3 : Int32) : Prop := (x3 = 0 → (¬ ((gI σ (o + 3) 0).toInt64) = 0)) ∧ (¬ x3 = 0 → ((x3 = 1 → ((¬ ((gI σ (o + 3) 2).toInt64) = 0) ∧ (¬ ((gI σ (o + 3) 2).toInt64) = 0))) ∧ (¬ x3 = 1 → ((¬ ((gI σ (o + 3) 5).toInt64) = 0) ∧ (¬ ((gI σ (o + 3) 5).toInt64) = 0)))))
theorem met_X6_roundOf (o : Nat) (σ : Hp) (y1 : Int64) (x3 : Int32) (hB : MB o σ) (hk : ok_X6_roundOf o σ y1 x3) : MetX yX6_roundOf cX6_roundOf 4 (some .int) rm_X6_roundOf σ [.ref o, .long y1, .int x3] (oI (fun r σ' => σ' = σ ∧ r = (f_X6_roundOf o σ y1 x3))) 0 0 := by
  refine metX_of (own := RX6) (lvs := [(0, .ref o), (1, .long y1), (3, .int x3)]) (by decide) rfl (Nat.le_of_ble_eq_true rfl) rfl (fun G rq => ?_)
  have hv : (f_X6_roundOf o σ y1 x3) = _ := f_X6_roundOf.eq_1 _ _ _ _
  unfold ok_X6_roundOf at hk
  refine x_iload_n dX6_roundOf_0 (n := 1) rfl rfl 2 rfl ?_
  refine x_if_ne (tgt := 23) dX6_roundOf_1 rfl (n := 4) rfl (fun c1 => ?_) (fun c1 => ?_)
  · have hk := hk.2 c1
    have hv := hv.trans (if_neg c1)
    refine x_iload_n dX6_roundOf_23 (n := 24) rfl rfl 2 rfl ?_
    refine x_iconst dX6_roundOf_24 (n := 25) rfl ic_1 ?_
    refine x_icmp_ne (tgt := 67) dX6_roundOf_25 rfl (n := 28) rfl (fun c2 => ?_) (fun c2 => ?_)
    · have hk := hk.2 c2
      have hv := hv.trans (if_neg c2)
      refine x_lload_n dX6_roundOf_67 (n := 68) rfl rfl 1 rfl ?_
      refine x_aload_n dX6_roundOf_68 (n := 69) rfl rfl 0 rfl ?_
      refine x_getr fl_X6_20_0 rfl hB.1 hB.r24 dX6_roundOf_69 (n := 72) rfl ?_
      refine x_bipush dX6_roundOf_72 (n := 74) rfl bp_6 ?_
      refine x_iald hB.a24 (vin_of (by decide) tn_6 rfl) tn_6 dX6_roundOf_74 (n := 75) rfl ?_
      refine x_i2l dX6_roundOf_75 (n := 76) rfl ?_
      refine x_lmul dX6_roundOf_76 (n := 77) rfl ?_
      refine x_aload_n dX6_roundOf_77 (n := 78) rfl rfl 0 rfl ?_
      refine x_getr fl_X6_20_0 rfl hB.1 hB.r24 dX6_roundOf_78 (n := 81) rfl ?_
      refine x_iconst dX6_roundOf_81 (n := 82) rfl ic_5 ?_
      refine x_iald hB.a24 (vin_of (by decide) tn_5 rfl) tn_5 dX6_roundOf_82 (n := 83) rfl ?_
      refine x_i2l dX6_roundOf_83 (n := 84) rfl ?_
      obtain ⟨b3, hk⟩ := hk
      refine x_lrem dX6_roundOf_84 (n := 85) rfl b3 ?_
      refine x_ldc2 dX6_roundOf_85 (n := 88) rfl q2002 ?_
      refine x_lmul dX6_roundOf_88 (n := 89) rfl ?_
      refine x_aload_n dX6_roundOf_89 (n := 90) rfl rfl 0 rfl ?_
      refine x_getr fl_X6_20_0 rfl hB.1 hB.r24 dX6_roundOf_90 (n := 93) rfl ?_
      refine x_iconst dX6_roundOf_93 (n := 94) rfl ic_5 ?_
      refine x_iald hB.a24 (vin_of (by decide) tn_5 rfl) tn_5 dX6_roundOf_94 (n := 95) rfl ?_
      refine x_i2l dX6_roundOf_95 (n := 96) rfl ?_
      have b4 := hk
      refine x_ldiv dX6_roundOf_96 (n := 97) rfl b4 ?_
      refine x_l2i dX6_roundOf_97 (n := 98) rfl ?_
      exact x_iret rq ⟨rfl, hv.symm⟩ dX6_roundOf_98
    · have hk := hk.1 c2
      have hv := hv.trans (if_pos c2)
      refine x_lload_n dX6_roundOf_28 (n := 29) rfl rfl 1 rfl ?_
      refine x_aload_n dX6_roundOf_29 (n := 30) rfl rfl 0 rfl ?_
      refine x_getr fl_X6_20_0 rfl hB.1 hB.r24 dX6_roundOf_30 (n := 33) rfl ?_
      refine x_iconst dX6_roundOf_33 (n := 34) rfl ic_3 ?_
      refine x_iald hB.a24 (vin_of (by decide) tn_3 rfl) tn_3 dX6_roundOf_34 (n := 35) rfl ?_
      refine x_i2l dX6_roundOf_35 (n := 36) rfl ?_
      refine x_lmul dX6_roundOf_36 (n := 37) rfl ?_
      refine x_aload_n dX6_roundOf_37 (n := 38) rfl rfl 0 rfl ?_
      refine x_getr fl_X6_20_0 rfl hB.1 hB.r24 dX6_roundOf_38 (n := 41) rfl ?_
      refine x_iconst dX6_roundOf_41 (n := 42) rfl ic_4 ?_
      refine x_iald hB.a24 (vin_of (by decide) tn_4 rfl) tn_4 dX6_roundOf_42 (n := 43) rfl ?_
      refine x_i2l dX6_roundOf_43 (n := 44) rfl ?_
      refine x_ladd dX6_roundOf_44 (n := 45) rfl ?_
      refine x_aload_n dX6_roundOf_45 (n := 46) rfl rfl 0 rfl ?_
      refine x_getr fl_X6_20_0 rfl hB.1 hB.r24 dX6_roundOf_46 (n := 49) rfl ?_
      refine x_iconst dX6_roundOf_49 (n := 50) rfl ic_2 ?_
      refine x_iald hB.a24 (vin_of (by decide) tn_2 rfl) tn_2 dX6_roundOf_50 (n := 51) rfl ?_
      refine x_i2l dX6_roundOf_51 (n := 52) rfl ?_
      obtain ⟨b5, hk⟩ := hk
      refine x_lrem dX6_roundOf_52 (n := 53) rfl b5 ?_
      refine x_ldc2 dX6_roundOf_53 (n := 56) rfl q2001 ?_
      refine x_lmul dX6_roundOf_56 (n := 57) rfl ?_
      refine x_aload_n dX6_roundOf_57 (n := 58) rfl rfl 0 rfl ?_
      refine x_getr fl_X6_20_0 rfl hB.1 hB.r24 dX6_roundOf_58 (n := 61) rfl ?_
      refine x_iconst dX6_roundOf_61 (n := 62) rfl ic_2 ?_
      refine x_iald hB.a24 (vin_of (by decide) tn_2 rfl) tn_2 dX6_roundOf_62 (n := 63) rfl ?_
      refine x_i2l dX6_roundOf_63 (n := 64) rfl ?_
      have b6 := hk
      refine x_ldiv dX6_roundOf_64 (n := 65) rfl b6 ?_
      refine x_l2i dX6_roundOf_65 (n := 66) rfl ?_
      exact x_iret rq ⟨rfl, hv.symm⟩ dX6_roundOf_66
  · have hk := hk.1 c1
    have hv := hv.trans (if_pos c1)
    refine x_lload_n dX6_roundOf_4 (n := 5) rfl rfl 1 rfl ?_
    refine x_aload_n dX6_roundOf_5 (n := 6) rfl rfl 0 rfl ?_
    refine x_getr fl_X6_20_0 rfl hB.1 hB.r24 dX6_roundOf_6 (n := 9) rfl ?_
    refine x_iconst dX6_roundOf_9 (n := 10) rfl ic_1 ?_
    refine x_iald hB.a24 (vin_of (by decide) tn_1 rfl) tn_1 dX6_roundOf_10 (n := 11) rfl ?_
    refine x_i2l dX6_roundOf_11 (n := 12) rfl ?_
    refine x_ladd dX6_roundOf_12 (n := 13) rfl ?_
    refine x_aload_n dX6_roundOf_13 (n := 14) rfl rfl 0 rfl ?_
    refine x_getr fl_X6_20_0 rfl hB.1 hB.r24 dX6_roundOf_14 (n := 17) rfl ?_
    refine x_iconst dX6_roundOf_17 (n := 18) rfl ic_0 ?_
    refine x_iald hB.a24 (vin_of (by decide) tn_0 rfl) tn_0 dX6_roundOf_18 (n := 19) rfl ?_
    refine x_i2l dX6_roundOf_19 (n := 20) rfl ?_
    have b7 := hk
    refine x_lrem dX6_roundOf_20 (n := 21) rfl b7 ?_
    refine x_l2i dX6_roundOf_21 (n := 22) rfl ?_
    exact x_iret rq ⟨rfl, hv.symm⟩ dX6_roundOf_22
abbrev rm_X6_round : Room := { frames := 1, cells := 0, slots := 0, locals := 23 }
def f_X6_round (o : Nat) (σ0 : Hp) (y1 : Int64) (x3 : Int32) : Int32 × Hp := if (f_X6_isCount y1) = 0 then ((-1), pI σ0 o 2 0) else if (f_X6_isIn x3 0 2) = 0 then ((-1), pI σ0 o 2 0) else (f_X6_roundOf o (pI σ0 o 2 0) y1 x3, pI σ0 o 2 0)
def ok_X6_round (o : Nat) (σ0 : Hp) (y1 : Int64) (x3 : Int32) : Prop := ((f_X6_isCount y1) = 0 → True) ∧ (¬ (f_X6_isCount y1) = 0 → (((f_X6_isIn x3 0 2) = 0 → True) ∧ (¬ (f_X6_isIn x3 0 2) = 0 → (ok_X6_roundOf o (pI σ0 o 2 0) y1 x3))))
theorem met_X6_round (o : Nat) (σ0 : Hp) (y1 : Int64) (x3 : Int32) (hB0 : MB o σ0) (hk : ok_X6_round o σ0 y1 x3) : MetX yX6_round cX6_round 4 (some .int) rm_X6_round σ0 [.ref o, .long y1, .int x3] (oI (fun r σ' => SH σ0 σ' ∧ (r, σ') = (f_X6_round o σ0 y1 x3))) 0 0 := by
  refine metX_of (own := RX6) (lvs := [(0, .ref o), (1, .long y1), (3, .int x3)]) (by decide) rfl (Nat.le_of_ble_eq_true rfl) rfl (fun G rq => ?_)
  have hv : (f_X6_round o σ0 y1 x3) = _ := f_X6_round.eq_1 _ _ _ _
  unfold ok_X6_round at hk
  refine x_aload_n dX6_round_0 (n := 1) rfl rfl 0 rfl ?_
  refine x_iconst dX6_round_1 (n := 2) rfl ic_0 ?_
  refine x_puti fp_X6_119_0 rfl hB0.1 dX6_round_2 (n := 5) rfl ?_
  refine x_lload_n dX6_round_5 (n := 6) rfl rfl 1 rfl ?_
  refine x_cSip (As := [.long y1]) (rest := []) cs_X6_413 (met_X6_isCount (pI σ0 o 2 0) y1 ) (by decide) rfl rfl rfl dX6_round_6 (n := 9) rfl (fun r2 q => ?_)
  subst q
  refine x_if_eq (tgt := 30) dX6_round_9 rfl (n := 12) rfl (fun c3 => ?_) (fun c3 => ?_)
  · have hk := hk.1 c3
    have hv := hv.trans (if_pos c3)
    refine x_iconst dX6_round_30 (n := 31) rfl ic_m1 ?_
    exact x_iret rq ⟨(SH.rf (σ := σ0)).i, hv.symm⟩ dX6_round_31
  · have hk := hk.2 c3
    have hv := hv.trans (if_neg c3)
    refine x_iload_n dX6_round_12 (n := 13) rfl rfl 2 rfl ?_
    refine x_iconst dX6_round_13 (n := 14) rfl ic_0 ?_
    refine x_iconst dX6_round_14 (n := 15) rfl ic_2 ?_
    refine x_cSip (As := [.int x3, .int 0, .int 2]) (rest := []) cs_X6_166 (met_X6_isIn (pI σ0 o 2 0) x3 0 2 ) (by decide) rfl rfl rfl dX6_round_15 (n := 18) rfl (fun r5 q => ?_)
    subst q
    refine x_if_eq (tgt := 30) dX6_round_18 rfl (n := 21) rfl (fun c6 => ?_) (fun c6 => ?_)
    · have hk := hk.1 c6
      have hv := hv.trans (if_pos c6)
      refine x_iconst dX6_round_30 (n := 31) rfl ic_m1 ?_
      exact x_iret rq ⟨(SH.rf (σ := σ0)).i, hv.symm⟩ dX6_round_31
    · have hk := hk.2 c6
      have hv := hv.trans (if_neg c6)
      refine x_aload_n dX6_round_21 (n := 22) rfl rfl 0 rfl ?_
      refine x_lload_n dX6_round_22 (n := 23) rfl rfl 1 rfl ?_
      refine x_iload_n dX6_round_23 (n := 24) rfl rfl 2 rfl ?_
      have b7 := hk
      refine x_cVip (As := [.long y1, .int x3]) (rest := []) cv_X6_424 ck0 (met_X6_roundOf o (pI σ0 o 2 0) y1 x3 hB0.i b7) hB0.i.1 (by decide) rfl rfl rfl dX6_round_24 (n := 27) rfl (fun r8 q => ?_)
      subst q
      refine x_goto (tgt := 31) dX6_round_27 rfl ?_
      exact x_iret rq ⟨(SH.rf (σ := σ0)).i, hv.symm⟩ dX6_round_31
abbrev rm_X6_isFeast : Room := { frames := 0, cells := 0, slots := 0, locals := 0 }
def f_X6_isFeast (o : Nat) (σ : Hp) (x1 : Int32) : Int32 := if x1 < 0 then 0 else if (gI σ o 13) ≤ x1 then 0 else 1
theorem met_X6_isFeast (o : Nat) (σ : Hp) (x1 : Int32) (hB : MB o σ) : MetX yX6_isFeast cX6_isFeast 2 (some .boolean) rm_X6_isFeast σ [.ref o, .int x1] (oI (fun r σ' => σ' = σ ∧ r = (f_X6_isFeast o σ x1))) 0 0 := by
  refine metX_of (own := RX6) (lvs := [(0, .ref o), (1, .int x1)]) (by decide) rfl (Nat.le_of_ble_eq_true rfl) rfl (fun G rq => ?_)
  have hv : (f_X6_isFeast o σ x1) = _ := f_X6_isFeast.eq_1 _ _ _
  refine x_iload_n dX6_isFeast_0 (n := 1) rfl rfl 1 rfl ?_
  refine x_if_lt (tgt := 16) dX6_isFeast_1 rfl (n := 4) rfl (fun c1 => ?_) (fun c1 => ?_)
  · have hv := hv.trans (if_pos c1)
    refine x_iconst dX6_isFeast_16 (n := 17) rfl ic_0 ?_
    exact x_zret rq ⟨rfl, hv.symm⟩ isB0 dX6_isFeast_17
  · have hv := hv.trans (if_neg c1)
    refine x_iload_n dX6_isFeast_4 (n := 5) rfl rfl 1 rfl ?_
    refine x_aload_n dX6_isFeast_5 (n := 6) rfl rfl 0 rfl ?_
    refine x_geti fl_X6_220_0 rfl hB.1 rfl dX6_isFeast_6 (n := 9) rfl ?_
    refine x_icmp_ge (tgt := 16) dX6_isFeast_9 rfl (n := 12) rfl (fun c2 => ?_) (fun c2 => ?_)
    · have hv := hv.trans (if_pos c2)
      refine x_iconst dX6_isFeast_16 (n := 17) rfl ic_0 ?_
      exact x_zret rq ⟨rfl, hv.symm⟩ isB0 dX6_isFeast_17
    · have hv := hv.trans (if_neg c2)
      refine x_iconst dX6_isFeast_12 (n := 13) rfl ic_1 ?_
      refine x_goto (tgt := 17) dX6_isFeast_13 rfl ?_
      exact x_zret rq ⟨rfl, hv.symm⟩ isB1 dX6_isFeast_17
abbrev rm_X6_bounded : Room := { frames := 0, cells := 0, slots := 0, locals := 0 }
def fj_X6_bounded_24 (o : Nat) (σ : Hp) (y1 : Int64) : Int64 × Hp := (0, pI σ o 57 1)
def f_X6_bounded (o : Nat) (σ0 : Hp) (y1 : Int64) : Int64 × Hp := if (gI σ0 o 57) = 0 then if 1000000000000 < y1 then fj_X6_bounded_24 o σ0 y1 else if (-1000000000000) ≤ y1 then (y1, pI σ0 o 57 0) else fj_X6_bounded_24 o σ0 y1 else fj_X6_bounded_24 o σ0 y1
theorem xj_X6_bounded_24 (o : Nat) (σ0 : Hp) (G : XE) (hB0 : MB o σ0) (σ : Hp) (y1 : Int64)  (hs : SH σ0 σ) (V : Int64 × Hp) (hv : V = fj_X6_bounded_24 o σ y1) (rq : RQ G 0 0 (oL (fun r σ' => SH σ0 σ' ∧ (r, σ') = V)))  : X G rm_X6_bounded cX6_bounded RX6 3 (some .long) σ 0 0 24 [(0, .ref o), (1, .long y1)] [.ref o] := by
  have hB := hB0.sh hs
  unfold fj_X6_bounded_24 at hv
  refine x_iconst dX6_bounded_24 (n := 25) rfl ic_1 ?_
  refine x_goto (tgt := 29) dX6_bounded_25 rfl ?_
  refine x_putz fp_X6_428_0 rfl hB.1 isB1 dX6_bounded_29 (n := 32) rfl ?_
  refine x_aload_n dX6_bounded_32 (n := 33) rfl rfl 0 rfl ?_
  refine x_geti fl_X6_428_0 rfl hB.i.1 (gIs) dX6_bounded_33 (n := 36) rfl ?_
  refine x_if_eq (tgt := 43) dX6_bounded_36 rfl (n := 39) rfl (fun q => absurd q (by decide)) (fun _ => ?_)
  refine x_lconst dX6_bounded_39 (n := 40) rfl lc_0 ?_
  refine x_goto (tgt := 44) dX6_bounded_40 rfl ?_
  exact x_lret rq ⟨hs.i, hv.symm⟩ dX6_bounded_44
theorem met_X6_bounded (o : Nat) (σ0 : Hp) (y1 : Int64) (hB0 : MB o σ0) : MetX yX6_bounded cX6_bounded 3 (some .long) rm_X6_bounded σ0 [.ref o, .long y1] (oL (fun r σ' => SH σ0 σ' ∧ (r, σ') = (f_X6_bounded o σ0 y1))) 0 0 := by
  refine metX_of (own := RX6) (lvs := [(0, .ref o), (1, .long y1)]) (by decide) rfl (Nat.le_of_ble_eq_true rfl) rfl (fun G rq => ?_)
  have hv : (f_X6_bounded o σ0 y1) = _ := f_X6_bounded.eq_1 _ _ _
  refine x_aload_n dX6_bounded_0 (n := 1) rfl rfl 0 rfl ?_
  refine x_aload_n dX6_bounded_1 (n := 2) rfl rfl 0 rfl ?_
  refine x_geti fl_X6_428_0 rfl hB0.1 rfl dX6_bounded_2 (n := 5) rfl ?_
  refine x_if_ne (tgt := 24) dX6_bounded_5 rfl (n := 8) rfl (fun c1 => ?_) (fun c1 => ?_)
  · have hv := hv.trans (if_neg c1)
    exact x_sub [0, 1] rfl (xj_X6_bounded_24 o σ0 G hB0 σ0 y1 (SH.rf (σ := σ0)) _ hv rq)
  · have hv := hv.trans (if_pos c1)
    refine x_lload_n dX6_bounded_8 (n := 9) rfl rfl 1 rfl ?_
    refine x_ldc2 dX6_bounded_9 (n := 12) rfl q1900 ?_
    refine x_lcmp_gt (tgt := 24) dX6_bounded_12 (pc1 := 13) rfl dX6_bounded_13 rfl (n := 16) rfl (fun c2 => ?_) (fun c2 => ?_)
    · have hv := hv.trans (if_pos c2)
      exact x_sub [0, 1] rfl (xj_X6_bounded_24 o σ0 G hB0 σ0 y1 (SH.rf (σ := σ0)) _ hv rq)
    · have hv := hv.trans (if_neg c2)
      refine x_lload_n dX6_bounded_16 (n := 17) rfl rfl 1 rfl ?_
      refine x_ldc2 dX6_bounded_17 (n := 20) rfl q2023 ?_
      refine x_lcmp_ge (tgt := 28) dX6_bounded_20 (pc1 := 21) rfl dX6_bounded_21 rfl (n := 24) rfl (fun c3 => ?_) (fun c3 => ?_)
      · have hv := hv.trans (if_pos c3)
        refine x_iconst dX6_bounded_28 (n := 29) rfl ic_0 ?_
        refine x_putz fp_X6_428_0 rfl hB0.1 isB0 dX6_bounded_29 (n := 32) rfl ?_
        refine x_aload_n dX6_bounded_32 (n := 33) rfl rfl 0 rfl ?_
        refine x_geti fl_X6_428_0 rfl hB0.i.1 (gIs) dX6_bounded_33 (n := 36) rfl ?_
        refine x_if_eq (tgt := 43) dX6_bounded_36 rfl (n := 39) rfl (fun _ => ?_) (fun q => absurd q (by decide))
        refine x_lload_n dX6_bounded_43 (n := 44) rfl rfl 1 rfl ?_
        exact x_lret rq ⟨(SH.rf (σ := σ0)).i, hv.symm⟩ dX6_bounded_44
      · have hv := hv.trans (if_neg c3)
        exact x_sub [0, 1] rfl (xj_X6_bounded_24 o σ0 G hB0 σ0 y1 (SH.rf (σ := σ0)) _ hv rq)
abbrev rm_X6_compares : Room := { frames := 0, cells := 0, slots := 0, locals := 0 }
def f_X6_compares (x0 : Int32) (y1 : Int64) (y3 : Int64) : Int32 := if x0 = 5 then if y3 ≤ y1 then 0 else 1 else if x0 = 6 then if y3 < y1 then 0 else 1 else if x0 = 7 then if y1 = y3 then 1 else 0 else if x0 = 8 then if y1 = y3 then 0 else 1 else if x0 = 9 then if y1 < y3 then 0 else 1 else if y1 ≤ y3 then 0 else 1
theorem met_X6_compares (σ : Hp) (x0 : Int32) (y1 : Int64) (y3 : Int64)  : MetX yX6_compares cX6_compares 5 (some .boolean) rm_X6_compares σ [.int x0, .long y1, .long y3] (oI (fun r σ' => σ' = σ ∧ r = (f_X6_compares x0 y1 y3))) 0 0 := by
  refine metX_of (own := RX6) (lvs := [(0, .int x0), (1, .long y1), (3, .long y3)]) (by decide) rfl (Nat.le_of_ble_eq_true rfl) rfl (fun G rq => ?_)
  have hv : (f_X6_compares x0 y1 y3) = _ := f_X6_compares.eq_1 _ _ _
  refine x_iload_n dX6_compares_0 (n := 1) rfl rfl 0 rfl ?_
  refine x_by (x0 = 5) (fun c1 => ?_) (fun c1 => ?_)
  · have hv := hv.trans (if_pos c1)
    have z1 := tsw_in c1 ti_5
    refine x_tswIn (tgt := 36) dX6_compares_1 (by rw [z1]; decide) (by rw [z1]; decide) (by rw [z1]; rfl) rfl ?_
    refine x_lload_n dX6_compares_36 (n := 37) rfl rfl 1 rfl ?_
    refine x_lload_n dX6_compares_37 (n := 38) rfl rfl 2 rfl ?_
    refine x_lcmp_ge (tgt := 46) dX6_compares_38 (pc1 := 39) rfl dX6_compares_39 rfl (n := 42) rfl (fun c2 => ?_) (fun c2 => ?_)
    · have hv := hv.trans (if_pos c2)
      refine x_iconst dX6_compares_46 (n := 47) rfl ic_0 ?_
      exact x_zret rq ⟨rfl, hv.symm⟩ isB0 dX6_compares_47
    · have hv := hv.trans (if_neg c2)
      refine x_iconst dX6_compares_42 (n := 43) rfl ic_1 ?_
      refine x_goto (tgt := 47) dX6_compares_43 rfl ?_
      exact x_zret rq ⟨rfl, hv.symm⟩ isB1 dX6_compares_47
  · have hv := hv.trans (if_neg c1)
    refine x_by (x0 = 6) (fun c3 => ?_) (fun c3 => ?_)
    · have hv := hv.trans (if_pos c3)
      have z3 := tsw_in c3 ti_6
      refine x_tswIn (tgt := 48) dX6_compares_1 (by rw [z3]; decide) (by rw [z3]; decide) (by rw [z3]; rfl) rfl ?_
      refine x_lload_n dX6_compares_48 (n := 49) rfl rfl 1 rfl ?_
      refine x_lload_n dX6_compares_49 (n := 50) rfl rfl 2 rfl ?_
      refine x_lcmp_gt (tgt := 58) dX6_compares_50 (pc1 := 51) rfl dX6_compares_51 rfl (n := 54) rfl (fun c4 => ?_) (fun c4 => ?_)
      · have hv := hv.trans (if_pos c4)
        refine x_iconst dX6_compares_58 (n := 59) rfl ic_0 ?_
        exact x_zret rq ⟨rfl, hv.symm⟩ isB0 dX6_compares_59
      · have hv := hv.trans (if_neg c4)
        refine x_iconst dX6_compares_54 (n := 55) rfl ic_1 ?_
        refine x_goto (tgt := 59) dX6_compares_55 rfl ?_
        exact x_zret rq ⟨rfl, hv.symm⟩ isB1 dX6_compares_59
    · have hv := hv.trans (if_neg c3)
      refine x_by (x0 = 7) (fun c5 => ?_) (fun c5 => ?_)
      · have hv := hv.trans (if_pos c5)
        have z5 := tsw_in c5 ti_7
        refine x_tswIn (tgt := 60) dX6_compares_1 (by rw [z5]; decide) (by rw [z5]; decide) (by rw [z5]; rfl) rfl ?_
        refine x_lload_n dX6_compares_60 (n := 61) rfl rfl 1 rfl ?_
        refine x_lload_n dX6_compares_61 (n := 62) rfl rfl 2 rfl ?_
        refine x_lcmp_ne (tgt := 70) dX6_compares_62 (pc1 := 63) rfl dX6_compares_63 rfl (n := 66) rfl (fun c6 => ?_) (fun c6 => ?_)
        · have hv := hv.trans (if_neg c6)
          refine x_iconst dX6_compares_70 (n := 71) rfl ic_0 ?_
          exact x_zret rq ⟨rfl, hv.symm⟩ isB0 dX6_compares_71
        · have hv := hv.trans (if_pos c6)
          refine x_iconst dX6_compares_66 (n := 67) rfl ic_1 ?_
          refine x_goto (tgt := 71) dX6_compares_67 rfl ?_
          exact x_zret rq ⟨rfl, hv.symm⟩ isB1 dX6_compares_71
      · have hv := hv.trans (if_neg c5)
        refine x_by (x0 = 8) (fun c7 => ?_) (fun c7 => ?_)
        · have hv := hv.trans (if_pos c7)
          have z7 := tsw_in c7 ti_8
          refine x_tswIn (tgt := 72) dX6_compares_1 (by rw [z7]; decide) (by rw [z7]; decide) (by rw [z7]; rfl) rfl ?_
          refine x_lload_n dX6_compares_72 (n := 73) rfl rfl 1 rfl ?_
          refine x_lload_n dX6_compares_73 (n := 74) rfl rfl 2 rfl ?_
          refine x_lcmp_eq (tgt := 82) dX6_compares_74 (pc1 := 75) rfl dX6_compares_75 rfl (n := 78) rfl (fun c8 => ?_) (fun c8 => ?_)
          · have hv := hv.trans (if_pos c8)
            refine x_iconst dX6_compares_82 (n := 83) rfl ic_0 ?_
            exact x_zret rq ⟨rfl, hv.symm⟩ isB0 dX6_compares_83
          · have hv := hv.trans (if_neg c8)
            refine x_iconst dX6_compares_78 (n := 79) rfl ic_1 ?_
            refine x_goto (tgt := 83) dX6_compares_79 rfl ?_
            exact x_zret rq ⟨rfl, hv.symm⟩ isB1 dX6_compares_83
        · have hv := hv.trans (if_neg c7)
          refine x_by (x0 = 9) (fun c9 => ?_) (fun c9 => ?_)
          · have hv := hv.trans (if_pos c9)
            have z9 := tsw_in c9 ti_9
            refine x_tswIn (tgt := 84) dX6_compares_1 (by rw [z9]; decide) (by rw [z9]; decide) (by rw [z9]; rfl) rfl ?_
            refine x_lload_n dX6_compares_84 (n := 85) rfl rfl 1 rfl ?_
            refine x_lload_n dX6_compares_85 (n := 86) rfl rfl 2 rfl ?_
            refine x_lcmp_lt (tgt := 94) dX6_compares_86 (pc1 := 87) rfl dX6_compares_87 rfl (n := 90) rfl (fun c10 => ?_) (fun c10 => ?_)
            · have hv := hv.trans (if_pos c10)
              refine x_iconst dX6_compares_94 (n := 95) rfl ic_0 ?_
              exact x_zret rq ⟨rfl, hv.symm⟩ isB0 dX6_compares_95
            · have hv := hv.trans (if_neg c10)
              refine x_iconst dX6_compares_90 (n := 91) rfl ic_1 ?_
              refine x_goto (tgt := 95) dX6_compares_91 rfl ?_
              exact x_zret rq ⟨rfl, hv.symm⟩ isB1 dX6_compares_95
          · have hv := hv.trans (if_neg c9)
            have z1 := ne_int c1 ti_5
            have z3 := ne_int c3 ti_6
            have z5 := ne_int c5 ti_7
            have z7 := ne_int c7 ti_8
            have z9 := ne_int c9 ti_9
            refine x_tswOut (tgt := 96) dX6_compares_1 (by omega) rfl ?_
            refine x_lload_n dX6_compares_96 (n := 97) rfl rfl 1 rfl ?_
            refine x_lload_n dX6_compares_97 (n := 98) rfl rfl 2 rfl ?_
            refine x_lcmp_le (tgt := 106) dX6_compares_98 (pc1 := 99) rfl dX6_compares_99 rfl (n := 102) rfl (fun c11 => ?_) (fun c11 => ?_)
            · have hv := hv.trans (if_pos c11)
              refine x_iconst dX6_compares_106 (n := 107) rfl ic_0 ?_
              exact x_zret rq ⟨rfl, hv.symm⟩ isB0 dX6_compares_107
            · have hv := hv.trans (if_neg c11)
              refine x_iconst dX6_compares_102 (n := 103) rfl ic_1 ?_
              refine x_goto (tgt := 107) dX6_compares_103 rfl ?_
              exact x_zret rq ⟨rfl, hv.symm⟩ isB1 dX6_compares_107
