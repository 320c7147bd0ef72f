set_option maxRecDepth 100000
set_option maxHeartbeats 4000000 in
theorem w_X8_gone_235 {p : Program} {l : Launch} {e : Env} {R : Room} {s : State} {m : MethodId} {args : Array Value} {below : List Frame} {meth : Method} {c : Code} {D : va_G} {dA : Nat → ClassId} {A : Nat → Prop} {ad : L3 → Nat} (X : CX RX8 cX8_gone 9 none (KA D dA) p s m args meth c A) (hR : 7 ≤ R.frames ∧ 169 ≤ R.locals) {res : Mem} (S : Mem) (x3 : Int32) (x4 : Int64) {H : Heap} {locs : List Loc} {ls : Array Slot} (hP : Wd D clA (shM dA) exM A ad S H) (hS : va_S A s.heap H locs) (hl : lv_has ls 9 [(0, .ref (ad M_o)), (3, .int x3), (4, .long x4)]) (hf : f_X8_gone_235 S x3 x4 = some res) : W p l e R s m args below meth c H locs 0 0 (MQ below (QvW D (shM dA) exM A ad res) args s 0 0 A) (F0 m 235 ls []) := by
  have hx := X.hx
  have hb := X.hb
  unfold f_X8_gone_235 at hf
  refine lv_aload_n hx hb dX8_gone_235 rfl (lv_at hl 0 rfl) ?_
  refine lv_iload_n hx hb dX8_gone_236 rfl (lv_at hl 1 rfl) ?_
  refine lv_lload hx hb dX8_gone_237 (lv_at hl 2 rfl) ?_
  refine lv_l2i hx hb dX8_gone_239 rfl ?_
  obtain ⟨S1, hq, hf⟩ := gB_some hf
  refine gc_v (gc_fixV (S := S) X (mt_X8_looksOver l D dA A ad S x3 (Int64.toInt32 x4) hq) (lw_V q1397 q1399 qs55 q93 q1400) ⟨rfl, rfl⟩ hd_X8_looksOver ⟨Nat.le_trans (Nat.le_of_ble_eq_true rfl) hR.1, Nat.le_trans (Nat.le_of_ble_eq_true rfl) hR.2⟩ (wd_recv (r := M_o) (ci := 0) (q := (RX8, TX8, 61)) X.hK.1 hP ⟨rfl, rfl⟩ rfl rfl) hP hS ⟨Nat.zero_le _, Nat.zero_le _⟩ rfl hl.1 rfl (Nat.le_of_ble_eq_true rfl) dX8_gone_240) hS ?_
  rintro _ H locs rfl hP hS
  refine lv_goto (tgt := 473) hx hb dX8_gone_243 (by decide) ?_
  exact gr_vW X hP hS (Option.some.inj hf) dX8_gone_473
set_option maxHeartbeats 4000000 in
theorem w_X8_gone_212 {p : Program} {l : Launch} {e : Env} {R : Room} {s : State} {m : MethodId} {args : Array Value} {below : List Frame} {meth : Method} {c : Code} {D : va_G} {dA : Nat → ClassId} {A : Nat → Prop} {ad : L3 → Nat} (X : CX RX8 cX8_gone 9 none (KA D dA) p s m args meth c A) (hR : 7 ≤ R.frames ∧ 169 ≤ R.locals) {res : Mem} (S : Mem) (x2 : Int32) (x3 : Int32) (x4 : Int64) (x6 : Int32) {H : Heap} {locs : List Loc} {ls : Array Slot} (hP : Wd D clA (shM dA) exM A ad S H) (hS : va_S A s.heap H locs) (hl : lv_has ls 9 [(0, .ref (ad M_o)), (2, .int x2), (3, .int x3), (4, .long x4), (6, .int x6)]) (hf : f_X8_gone_212 S x2 x3 x4 x6 = some res) : W p l e R s m args below meth c H locs 0 0 (MQ below (QvW D (shM dA) exM A ad res) args s 0 0 A) (F0 m 212 ls []) := by
  have hx := X.hx
  have hb := X.hb
  unfold f_X8_gone_212 at hf
  refine lv_iload_n hx hb dX8_gone_212 rfl (lv_at hl 1 rfl) ?_
  refine gb_if_ne (tgt := 235) hx hb dX8_gone_213 (by decide) hf (fun hf => ?_) (fun hf => ?_)
  · exact w_X8_gone_235 X hR S x3 x4 hP hS (lv_sub hl [0, 2, 3] rfl) hf
  · refine lv_aload_n hx hb dX8_gone_216 rfl (lv_at hl 0 rfl) ?_
    refine rg_X8_63 X hP dX8_gone_217 ?_
    refine lv_iload hx hb dX8_gone_220 (lv_at hl 4 rfl) ?_
    refine ra_resets_ld X hP dX8_gone_222 hf (fun hf => ?_)
    refine lv_iconst (v := 1) hx hb dX8_gone_223 (by decide) ?_
    refine gb_icmp_ne (tgt := 235) hx hb dX8_gone_224 (by decide) hf (fun hf => ?_) (fun hf => ?_)
    · exact w_X8_gone_235 X hR S x3 x4 hP hS (lv_sub hl [0, 2, 3] rfl) hf
    · refine lv_aload_n hx hb dX8_gone_227 rfl (lv_at hl 0 rfl) ?_
      refine rg_X8_66 X hP dX8_gone_228 ?_
      refine lv_iload hx hb dX8_gone_231 (lv_at hl 4 rfl) ?_
      refine lv_iconst (v := 1) hx hb dX8_gone_233 (by decide) ?_
      refine ra_tellReset_st X hP hS dX8_gone_234 hf (fun S1 H locs hP hS hf => ?_)
      exact w_X8_gone_235 X hR S1 x3 x4 hP hS (lv_sub hl [0, 2, 3] rfl) hf
set_option maxHeartbeats 4000000 in
theorem w_X8_gone_80 {p : Program} {l : Launch} {e : Env} {R : Room} {s : State} {m : MethodId} {args : Array Value} {below : List Frame} {meth : Method} {c : Code} {D : va_G} {dA : Nat → ClassId} {A : Nat → Prop} {ad : L3 → Nat} (X : CX RX8 cX8_gone 9 none (KA D dA) p s m args meth c A) (hR : 7 ≤ R.frames ∧ 169 ≤ R.locals) {res : Mem} (S : Mem) (x1 : Int32) (x2 : Int32) (x3 : Int32) (x4 : Int64) (y0 : Int32) (y1 : Int32) {H : Heap} {locs : List Loc} {ls : Array Slot} (hP : Wd D clA (shM dA) exM A ad S H) (hS : va_S A s.heap H locs) (hl : lv_has ls 9 [(0, .ref (ad M_o)), (1, .int x1), (2, .int x2), (3, .int x3), (4, .long x4)]) (hf : f_X8_gone_80 S x1 x2 x3 x4 y0 y1 = some res) : W p l e R s m args below meth c H locs 0 0 (MQ below (QvW D (shM dA) exM A ad res) args s 0 0 A) (F0 m 80 ls [.int y0, .int y1]) := by
  have hx := X.hx
  have hb := X.hb
  unfold f_X8_gone_80 at hf
  obtain ⟨v1, hq, hf⟩ := gS_eq hf
  refine gc_i (gc_fixS (S := S) X (mt_X8_at l D dA A ad S y1 y0 hq) (lw_S q1283 q1284 q93 q1285) ⟨rfl, rfl⟩ hd_X8_at.2 ⟨Nat.le_trans (Nat.le_of_ble_eq_true rfl) hR.1, Nat.le_trans (Nat.le_of_ble_eq_true rfl) hR.2⟩ hP hS ⟨Nat.zero_le _, Nat.zero_le _⟩ rfl hl.1 rfl (Nat.le_of_ble_eq_true rfl) dX8_gone_80) hS ?_
  rintro _ _ H locs ⟨rfl, rfl⟩ hP hS
  refine lv_istore (lv' := [(6, .int v1), (0, .ref (ad M_o)), (1, .int x1), (2, .int x2), (3, .int x3), (4, .long x4)]) hx hb dX8_gone_83 hl (by decide) rfl (fun ls hl => ?_)
  refine lv_aload_n hx hb dX8_gone_85 rfl (lv_at hl 1 rfl) ?_
  refine rg_X8_145 X hP dX8_gone_86 ?_
  refine lv_iload_n hx hb dX8_gone_89 rfl (lv_at hl 2 rfl) ?_
  refine ra_lineKind_ld X hP dX8_gone_90 hf (fun hf => ?_)
  by_cases h91_4 : (S.1 M_lineKind (Int32.toNatClampNeg x1)) = (4 : Int32)
  · rw [if_pos h91_4] at hf
    refine lv_tableIn (tgt := 186) hx hb dX8_gone_91 (by rw [h91_4]; decide) (by rw [h91_4]; decide) (by rw [h91_4]; rfl) (by decide) ?_
    refine lv_iload_n hx hb dX8_gone_186 rfl (lv_at hl 3 rfl) ?_
    refine gb_if_eq (tgt := 212) hx hb dX8_gone_187 (by decide) hf (fun hf => ?_) (fun hf => ?_)
    · exact w_X8_gone_212 X hR S x2 x3 x4 v1 hP hS (lv_sub hl [1, 3, 4, 5, 0] rfl) hf
    · refine lv_aload_n hx hb dX8_gone_190 rfl (lv_at hl 1 rfl) ?_
      refine rg_X8_63 X hP dX8_gone_191 ?_
      refine lv_iload hx hb dX8_gone_194 (lv_at hl 0 rfl) ?_
      refine ra_resets_ld X hP dX8_gone_196 hf (fun hf => ?_)
      refine lv_iconst (v := 1) hx hb dX8_gone_197 (by decide) ?_
      refine gb_icmp_ne (tgt := 212) hx hb dX8_gone_198 (by decide) hf (fun hf => ?_) (fun hf => ?_)
      · exact w_X8_gone_212 X hR S x2 x3 x4 v1 hP hS (lv_sub hl [1, 3, 4, 5, 0] rfl) hf
      · refine lv_aload_n hx hb dX8_gone_201 rfl (lv_at hl 1 rfl) ?_
        refine rg_X8_63 X hP dX8_gone_202 ?_
        refine lv_iload hx hb dX8_gone_205 (lv_at hl 0 rfl) ?_
        refine lv_iconst (v := 2) hx hb dX8_gone_207 (by decide) ?_
        refine ra_resets_st X hP hS dX8_gone_208 hf (fun S2 H locs hP hS hf => ?_)
        refine lv_goto (tgt := 235) hx hb dX8_gone_209 (by decide) ?_
        exact w_X8_gone_235 X hR S2 x3 x4 hP hS (lv_sub hl [1, 4, 5] rfl) hf
  rw [if_neg h91_4] at hf
  by_cases h91_5 : (S.1 M_lineKind (Int32.toNatClampNeg x1)) = (5 : Int32)
  · rw [if_pos h91_5] at hf
    refine lv_tableIn (tgt := 246) hx hb dX8_gone_91 (by rw [h91_5]; decide) (by rw [h91_5]; decide) (by rw [h91_5]; rfl) (by decide) ?_
    refine lv_iload_n hx hb dX8_gone_246 rfl (lv_at hl 3 rfl) ?_
    refine gb_if_ne (tgt := 473) hx hb dX8_gone_247 (by decide) hf (fun hf => ?_) (fun hf => ?_)
    · exact gr_vW X hP hS (Option.some.inj hf) dX8_gone_473
    · refine lv_aload_n hx hb dX8_gone_250 rfl (lv_at hl 1 rfl) ?_
      refine rg_X8_99 X hP dX8_gone_251 ?_
      refine lv_iload hx hb dX8_gone_254 (lv_at hl 0 rfl) ?_
      refine lv_iconst (v := 1) hx hb dX8_gone_256 (by decide) ?_
      refine ra_tellStop_st X hP hS dX8_gone_257 hf (fun S3 H locs hP hS hf => ?_)
      refine lv_goto (tgt := 473) hx hb dX8_gone_258 (by decide) ?_
      exact gr_vW X hP hS (Option.some.inj hf) dX8_gone_473
  rw [if_neg h91_5] at hf
  by_cases h91_8 : (S.1 M_lineKind (Int32.toNatClampNeg x1)) = (8 : Int32)
  · rw [if_pos h91_8] at hf
    refine lv_tableIn (tgt := 176) hx hb dX8_gone_91 (by rw [h91_8]; decide) (by rw [h91_8]; decide) (by rw [h91_8]; rfl) (by decide) ?_
    refine lv_aload_n hx hb dX8_gone_176 rfl (lv_at hl 1 rfl) ?_
    refine lv_iload_n hx hb dX8_gone_177 rfl (lv_at hl 4 rfl) ?_
    refine lv_iload_n hx hb dX8_gone_178 rfl (lv_at hl 2 rfl) ?_
    refine lv_iload_n hx hb dX8_gone_179 rfl (lv_at hl 3 rfl) ?_
    obtain ⟨S4, hq, hf⟩ := gB_some hf
    refine gc_v (gc_fixV (S := S) X (mt_X8_goneStream l D dA A ad S x3 x1 x2 hq) (lw_V q1528 q1530 qs81 q93 q1531) ⟨rfl, rfl⟩ hd_X8_goneStream ⟨Nat.le_trans (Nat.le_of_ble_eq_true rfl) hR.1, Nat.le_trans (Nat.le_of_ble_eq_true rfl) hR.2⟩ (wd_recv (r := M_o) (ci := 0) (q := (RX8, TX8, 61)) X.hK.1 hP ⟨rfl, rfl⟩ rfl rfl) hP hS ⟨Nat.zero_le _, Nat.zero_le _⟩ rfl hl.1 rfl (Nat.le_of_ble_eq_true rfl) dX8_gone_180) hS ?_
    rintro _ H locs rfl hP hS
    refine lv_goto (tgt := 473) hx hb dX8_gone_183 (by decide) ?_
    exact gr_vW X hP hS (Option.some.inj hf) dX8_gone_473
  rw [if_neg h91_8] at hf
  by_cases h91_16 : (S.1 M_lineKind (Int32.toNatClampNeg x1)) = (16 : Int32)
  · rw [if_pos h91_16] at hf
    refine lv_tableIn (tgt := 261) hx hb dX8_gone_91 (by rw [h91_16]; decide) (by rw [h91_16]; decide) (by rw [h91_16]; rfl) (by decide) ?_
    refine lv_iload_n hx hb dX8_gone_261 rfl (lv_at hl 3 rfl) ?_
    refine gb_if_ne (tgt := 473) hx hb dX8_gone_262 (by decide) hf (fun hf => ?_) (fun hf => ?_)
    · exact gr_vW X hP hS (Option.some.inj hf) dX8_gone_473
    · refine lv_lload hx hb dX8_gone_265 (lv_at hl 5 rfl) ?_
      refine lv_aload_n hx hb dX8_gone_267 rfl (lv_at hl 1 rfl) ?_
      refine rg_X8_32 X hP dX8_gone_268 ?_
      refine lv_iload_n hx hb dX8_gone_271 rfl (lv_at hl 4 rfl) ?_
      refine ra_dataGrant_ld X hP dX8_gone_272 hf (fun hf => ?_)
      refine gb_lcmp_ne (tgt := 473) hx hb dX8_gone_273 dX8_gone_274 (by decide) hf (fun hf => ?_) (fun hf => ?_)
      · exact gr_vW X hP hS (Option.some.inj hf) dX8_gone_473
      · refine lv_aload_n hx hb dX8_gone_277 rfl (lv_at hl 1 rfl) ?_
        refine rg_X8_35 X hP dX8_gone_278 ?_
        refine lv_iload_n hx hb dX8_gone_281 rfl (lv_at hl 4 rfl) ?_
        refine lv_iconst (v := 1) hx hb dX8_gone_282 (by decide) ?_
        refine ra_tellData_st X hP hS dX8_gone_283 hf (fun S5 H locs hP hS hf => ?_)
        refine lv_goto (tgt := 473) hx hb dX8_gone_284 (by decide) ?_
        exact gr_vW X hP hS (Option.some.inj hf) dX8_gone_473
  rw [if_neg h91_16] at hf
  by_cases h91_17 : (S.1 M_lineKind (Int32.toNatClampNeg x1)) = (17 : Int32)
  · rw [if_pos h91_17] at hf
    refine lv_tableIn (tgt := 287) hx hb dX8_gone_91 (by rw [h91_17]; decide) (by rw [h91_17]; decide) (by rw [h91_17]; rfl) (by decide) ?_
    refine lv_iload_n hx hb dX8_gone_287 rfl (lv_at hl 3 rfl) ?_
    refine gb_if_ne (tgt := 473) hx hb dX8_gone_288 (by decide) hf (fun hf => ?_) (fun hf => ?_)
    · exact gr_vW X hP hS (Option.some.inj hf) dX8_gone_473
    · refine lv_aload_n hx hb dX8_gone_291 rfl (lv_at hl 1 rfl) ?_
      refine rg_X8_151 X hP dX8_gone_292 ?_
      refine lv_iload_n hx hb dX8_gone_295 rfl (lv_at hl 2 rfl) ?_
      refine ra_lineB_ld X hP dX8_gone_296 hf (fun hf => ?_)
      refine lv_aload_n hx hb dX8_gone_297 rfl (lv_at hl 1 rfl) ?_
      refine rg_X8_90 X hP dX8_gone_298 ?_
      refine lv_iload hx hb dX8_gone_301 (lv_at hl 0 rfl) ?_
      refine ra_grant_ld X hP dX8_gone_303 hf (fun hf => ?_)
      refine gb_lcmp_ne (tgt := 473) hx hb dX8_gone_304 dX8_gone_305 (by decide) hf (fun hf => ?_) (fun hf => ?_)
      · exact gr_vW X hP hS (Option.some.inj hf) dX8_gone_473
      · refine lv_aload_n hx hb dX8_gone_308 rfl (lv_at hl 1 rfl) ?_
        refine rg_X8_93 X hP dX8_gone_309 ?_
        refine lv_iload hx hb dX8_gone_312 (lv_at hl 0 rfl) ?_
        refine lv_iconst (v := 1) hx hb dX8_gone_314 (by decide) ?_
        refine ra_tellGrant_st X hP hS dX8_gone_315 hf (fun S6 H locs hP hS hf => ?_)
        refine lv_goto (tgt := 473) hx hb dX8_gone_316 (by decide) ?_
        exact gr_vW X hP hS (Option.some.inj hf) dX8_gone_473
  rw [if_neg h91_17] at hf
  by_cases h91_18 : (S.1 M_lineKind (Int32.toNatClampNeg x1)) = (18 : Int32)
  · rw [if_pos h91_18] at hf
    refine lv_tableIn (tgt := 319) hx hb dX8_gone_91 (by rw [h91_18]; decide) (by rw [h91_18]; decide) (by rw [h91_18]; rfl) (by decide) ?_
    refine lv_iconst (v := 2) hx hb dX8_gone_319 (by decide) ?_
    refine lv_iload_n hx hb dX8_gone_320 rfl (lv_at hl 4 rfl) ?_
    refine lv_imul hx hb dX8_gone_321 ?_
    refine lv_aload_n hx hb dX8_gone_322 rfl (lv_at hl 1 rfl) ?_
    refine rg_X8_145 X hP dX8_gone_323 ?_
    refine lv_iload_n hx hb dX8_gone_326 rfl (lv_at hl 2 rfl) ?_
    refine ra_lineKind_ld X hP dX8_gone_327 hf (fun hf => ?_)
    refine lv_iadd hx hb dX8_gone_328 ?_
    refine lv_bipush (v := 18) hx hb dX8_gone_329 (by decide) ?_
    refine lv_isub hx hb dX8_gone_331 ?_
    refine lv_istore (lv' := [(7, .int (((2 * x3) + (S.1 M_lineKind (Int32.toNatClampNeg x1))) - 18)), (6, .int v1), (0, .ref (ad M_o)), (1, .int x1), (2, .int x2), (3, .int x3), (4, .long x4)]) hx hb dX8_gone_332 hl (by decide) rfl (fun ls hl => ?_)
    refine lv_iload_n hx hb dX8_gone_334 rfl (lv_at hl 4 rfl) ?_
    refine gb_if_ne (tgt := 473) hx hb dX8_gone_335 (by decide) hf (fun hf => ?_) (fun hf => ?_)
    · exact gr_vW X hP hS (Option.some.inj hf) dX8_gone_473
    · refine lv_lload hx hb dX8_gone_338 (lv_at hl 6 rfl) ?_
      refine lv_aload_n hx hb dX8_gone_340 rfl (lv_at hl 2 rfl) ?_
      refine rg_X8_29 X hP dX8_gone_341 ?_
      refine lv_iload hx hb dX8_gone_344 (lv_at hl 0 rfl) ?_
      refine ra_granted_ld X hP dX8_gone_346 hf (fun hf => ?_)
      refine lv_i2l hx hb dX8_gone_347 rfl ?_
      refine gb_lcmp_ne (tgt := 473) hx hb dX8_gone_348 dX8_gone_349 (by decide) hf (fun hf => ?_) (fun hf => ?_)
      · exact gr_vW X hP hS (Option.some.inj hf) dX8_gone_473
      · refine lv_aload_n hx hb dX8_gone_352 rfl (lv_at hl 2 rfl) ?_
        refine rg_X8_39 X hP dX8_gone_353 ?_
        refine lv_iload hx hb dX8_gone_356 (lv_at hl 0 rfl) ?_
        refine lv_iconst (v := 1) hx hb dX8_gone_358 (by decide) ?_
        refine ra_tellStreams_st X hP hS dX8_gone_359 hf (fun S7 H locs hP hS hf => ?_)
        refine lv_goto (tgt := 473) hx hb dX8_gone_360 (by decide) ?_
        exact gr_vW X hP hS (Option.some.inj hf) dX8_gone_473
  rw [if_neg h91_18] at hf
  by_cases h91_19 : (S.1 M_lineKind (Int32.toNatClampNeg x1)) = (19 : Int32)
  · rw [if_pos h91_19] at hf
    refine lv_tableIn (tgt := 319) hx hb dX8_gone_91 (by rw [h91_19]; decide) (by rw [h91_19]; decide) (by rw [h91_19]; rfl) (by decide) ?_
    refine lv_iconst (v := 2) hx hb dX8_gone_319 (by decide) ?_
    refine lv_iload_n hx hb dX8_gone_320 rfl (lv_at hl 4 rfl) ?_
    refine lv_imul hx hb dX8_gone_321 ?_
    refine lv_aload_n hx hb dX8_gone_322 rfl (lv_at hl 1 rfl) ?_
    refine rg_X8_145 X hP dX8_gone_323 ?_
    refine lv_iload_n hx hb dX8_gone_326 rfl (lv_at hl 2 rfl) ?_
    refine ra_lineKind_ld X hP dX8_gone_327 hf (fun hf => ?_)
    refine lv_iadd hx hb dX8_gone_328 ?_
    refine lv_bipush (v := 18) hx hb dX8_gone_329 (by decide) ?_
    refine lv_isub hx hb dX8_gone_331 ?_
    refine lv_istore (lv' := [(7, .int (((2 * x3) + (S.1 M_lineKind (Int32.toNatClampNeg x1))) - 18)), (6, .int v1), (0, .ref (ad M_o)), (1, .int x1), (2, .int x2), (3, .int x3), (4, .long x4)]) hx hb dX8_gone_332 hl (by decide) rfl (fun ls hl => ?_)
    refine lv_iload_n hx hb dX8_gone_334 rfl (lv_at hl 4 rfl) ?_
    refine gb_if_ne (tgt := 473) hx hb dX8_gone_335 (by decide) hf (fun hf => ?_) (fun hf => ?_)
    · exact gr_vW X hP hS (Option.some.inj hf) dX8_gone_473
    · refine lv_lload hx hb dX8_gone_338 (lv_at hl 6 rfl) ?_
      refine lv_aload_n hx hb dX8_gone_340 rfl (lv_at hl 2 rfl) ?_
      refine rg_X8_29 X hP dX8_gone_341 ?_
      refine lv_iload hx hb dX8_gone_344 (lv_at hl 0 rfl) ?_
      refine ra_granted_ld X hP dX8_gone_346 hf (fun hf => ?_)
      refine lv_i2l hx hb dX8_gone_347 rfl ?_
      refine gb_lcmp_ne (tgt := 473) hx hb dX8_gone_348 dX8_gone_349 (by decide) hf (fun hf => ?_) (fun hf => ?_)
      · exact gr_vW X hP hS (Option.some.inj hf) dX8_gone_473
      · refine lv_aload_n hx hb dX8_gone_352 rfl (lv_at hl 2 rfl) ?_
        refine rg_X8_39 X hP dX8_gone_353 ?_
        refine lv_iload hx hb dX8_gone_356 (lv_at hl 0 rfl) ?_
        refine lv_iconst (v := 1) hx hb dX8_gone_358 (by decide) ?_
        refine ra_tellStreams_st X hP hS dX8_gone_359 hf (fun S8 H locs hP hS hf => ?_)
        refine lv_goto (tgt := 473) hx hb dX8_gone_360 (by decide) ?_
        exact gr_vW X hP hS (Option.some.inj hf) dX8_gone_473
  rw [if_neg h91_19] at hf
  by_cases h91_20 : (S.1 M_lineKind (Int32.toNatClampNeg x1)) = (20 : Int32)
  · rw [if_pos h91_20] at hf
    refine lv_tableIn (tgt := 363) hx hb dX8_gone_91 (by rw [h91_20]; decide) (by rw [h91_20]; decide) (by rw [h91_20]; rfl) (by decide) ?_
    refine lv_iload_n hx hb dX8_gone_363 rfl (lv_at hl 3 rfl) ?_
    refine gb_if_ne (tgt := 473) hx hb dX8_gone_364 (by decide) hf (fun hf => ?_) (fun hf => ?_)
    · exact gr_vW X hP hS (Option.some.inj hf) dX8_gone_473
    · refine lv_aload_n hx hb dX8_gone_367 rfl (lv_at hl 1 rfl) ?_
      refine rg_X8_42 X hP dX8_gone_368 ?_
      refine lv_iconst (v := 3) hx hb dX8_gone_371 (by decide) ?_
      refine lv_iload_n hx hb dX8_gone_372 rfl (lv_at hl 4 rfl) ?_
      refine lv_imul hx hb dX8_gone_373 ?_
      refine ra_toldBlocked_ld X hP dX8_gone_374 hf (fun hf => ?_)
      refine lv_lload hx hb dX8_gone_375 (lv_at hl 5 rfl) ?_
      refine gb_lcmp_ne (tgt := 473) hx hb dX8_gone_377 dX8_gone_378 (by decide) hf (fun hf => ?_) (fun hf => ?_)
      · exact gr_vW X hP hS (Option.some.inj hf) dX8_gone_473
      · refine lv_aload_n hx hb dX8_gone_381 rfl (lv_at hl 1 rfl) ?_
        refine rg_X8_42 X hP dX8_gone_382 ?_
        refine lv_iconst (v := 3) hx hb dX8_gone_385 (by decide) ?_
        refine lv_iload_n hx hb dX8_gone_386 rfl (lv_at hl 4 rfl) ?_
        refine lv_imul hx hb dX8_gone_387 ?_
        refine lv_ldc2 hx hb X.hown (X.hts _ q1063) dX8_gone_388 ?_
        refine ra_toldBlocked_st X hP hS dX8_gone_391 hf (fun S9 H locs hP hS hf => ?_)
        refine lv_goto (tgt := 473) hx hb dX8_gone_392 (by decide) ?_
        exact gr_vW X hP hS (Option.some.inj hf) dX8_gone_473
  rw [if_neg h91_20] at hf
  by_cases h91_21 : (S.1 M_lineKind (Int32.toNatClampNeg x1)) = (21 : Int32)
  · rw [if_pos h91_21] at hf
    refine lv_tableIn (tgt := 395) hx hb dX8_gone_91 (by rw [h91_21]; decide) (by rw [h91_21]; decide) (by rw [h91_21]; rfl) (by decide) ?_
    refine lv_iload_n hx hb dX8_gone_395 rfl (lv_at hl 3 rfl) ?_
    refine gb_if_ne (tgt := 473) hx hb dX8_gone_396 (by decide) hf (fun hf => ?_) (fun hf => ?_)
    · exact gr_vW X hP hS (Option.some.inj hf) dX8_gone_473
    · refine lv_aload_n hx hb dX8_gone_399 rfl (lv_at hl 1 rfl) ?_
      refine rg_X8_72 X hP dX8_gone_400 ?_
      refine lv_iload hx hb dX8_gone_403 (lv_at hl 0 rfl) ?_
      refine ra_toldLimit_ld X hP dX8_gone_405 hf (fun hf => ?_)
      refine lv_aload_n hx hb dX8_gone_406 rfl (lv_at hl 1 rfl) ?_
      refine rg_X8_151 X hP dX8_gone_407 ?_
      refine lv_iload_n hx hb dX8_gone_410 rfl (lv_at hl 2 rfl) ?_
      refine ra_lineB_ld X hP dX8_gone_411 hf (fun hf => ?_)
      refine gb_lcmp_ne (tgt := 473) hx hb dX8_gone_412 dX8_gone_413 (by decide) hf (fun hf => ?_) (fun hf => ?_)
      · exact gr_vW X hP hS (Option.some.inj hf) dX8_gone_473
      · refine lv_aload_n hx hb dX8_gone_416 rfl (lv_at hl 1 rfl) ?_
        refine rg_X8_72 X hP dX8_gone_417 ?_
        refine lv_iload hx hb dX8_gone_420 (lv_at hl 0 rfl) ?_
        refine lv_ldc2 hx hb X.hown (X.hts _ q1063) dX8_gone_422 ?_
        refine ra_toldLimit_st X hP hS dX8_gone_425 hf (fun S10 H locs hP hS hf => ?_)
        refine lv_goto (tgt := 473) hx hb dX8_gone_426 (by decide) ?_
        exact gr_vW X hP hS (Option.some.inj hf) dX8_gone_473
  rw [if_neg h91_21] at hf
  suffices hd91 : W p l e R s m args below meth c H locs 0 0 (MQ below (QvW D (shM dA) exM A ad res) args s 0 0 A) (F0 m 429 ls []) by
    by_cases z6 : (S.1 M_lineKind (Int32.toNatClampNeg x1)) = (6 : Int32)
    · exact lv_tableIn (tgt := 429) hx hb dX8_gone_91 (by rw [z6]; decide) (by rw [z6]; decide) (by rw [z6]; rfl) (by decide) hd91
    by_cases z7 : (S.1 M_lineKind (Int32.toNatClampNeg x1)) = (7 : Int32)
    · exact lv_tableIn (tgt := 429) hx hb dX8_gone_91 (by rw [z7]; decide) (by rw [z7]; decide) (by rw [z7]; rfl) (by decide) hd91
    by_cases z9 : (S.1 M_lineKind (Int32.toNatClampNeg x1)) = (9 : Int32)
    · exact lv_tableIn (tgt := 429) hx hb dX8_gone_91 (by rw [z9]; decide) (by rw [z9]; decide) (by rw [z9]; rfl) (by decide) hd91
    by_cases z10 : (S.1 M_lineKind (Int32.toNatClampNeg x1)) = (10 : Int32)
    · exact lv_tableIn (tgt := 429) hx hb dX8_gone_91 (by rw [z10]; decide) (by rw [z10]; decide) (by rw [z10]; rfl) (by decide) hd91
    by_cases z11 : (S.1 M_lineKind (Int32.toNatClampNeg x1)) = (11 : Int32)
    · exact lv_tableIn (tgt := 429) hx hb dX8_gone_91 (by rw [z11]; decide) (by rw [z11]; decide) (by rw [z11]; rfl) (by decide) hd91
    by_cases z12 : (S.1 M_lineKind (Int32.toNatClampNeg x1)) = (12 : Int32)
    · exact lv_tableIn (tgt := 429) hx hb dX8_gone_91 (by rw [z12]; decide) (by rw [z12]; decide) (by rw [z12]; rfl) (by decide) hd91
    by_cases z13 : (S.1 M_lineKind (Int32.toNatClampNeg x1)) = (13 : Int32)
    · exact lv_tableIn (tgt := 429) hx hb dX8_gone_91 (by rw [z13]; decide) (by rw [z13]; decide) (by rw [z13]; rfl) (by decide) hd91
    by_cases z14 : (S.1 M_lineKind (Int32.toNatClampNeg x1)) = (14 : Int32)
    · exact lv_tableIn (tgt := 429) hx hb dX8_gone_91 (by rw [z14]; decide) (by rw [z14]; decide) (by rw [z14]; rfl) (by decide) hd91
    by_cases z15 : (S.1 M_lineKind (Int32.toNatClampNeg x1)) = (15 : Int32)
    · exact lv_tableIn (tgt := 429) hx hb dX8_gone_91 (by rw [z15]; decide) (by rw [z15]; decide) (by rw [z15]; rfl) (by decide) hd91
    have n4 := lv_neT h91_4 (show (4 : Int32).toInt = 4 by decide)
    have n5 := lv_neT h91_5 (show (5 : Int32).toInt = 5 by decide)
    have n8 := lv_neT h91_8 (show (8 : Int32).toInt = 8 by decide)
    have n16 := lv_neT h91_16 (show (16 : Int32).toInt = 16 by decide)
    have n17 := lv_neT h91_17 (show (17 : Int32).toInt = 17 by decide)
    have n18 := lv_neT h91_18 (show (18 : Int32).toInt = 18 by decide)
    have n19 := lv_neT h91_19 (show (19 : Int32).toInt = 19 by decide)
    have n20 := lv_neT h91_20 (show (20 : Int32).toInt = 20 by decide)
    have n21 := lv_neT h91_21 (show (21 : Int32).toInt = 21 by decide)
    have n6 := lv_neT z6 (show (6 : Int32).toInt = 6 by decide)
    have n7 := lv_neT z7 (show (7 : Int32).toInt = 7 by decide)
    have n9 := lv_neT z9 (show (9 : Int32).toInt = 9 by decide)
    have n10 := lv_neT z10 (show (10 : Int32).toInt = 10 by decide)
    have n11 := lv_neT z11 (show (11 : Int32).toInt = 11 by decide)
    have n12 := lv_neT z12 (show (12 : Int32).toInt = 12 by decide)
    have n13 := lv_neT z13 (show (13 : Int32).toInt = 13 by decide)
    have n14 := lv_neT z14 (show (14 : Int32).toInt = 14 by decide)
    have n15 := lv_neT z15 (show (15 : Int32).toInt = 15 by decide)
    exact lv_tableOut (tgt := 429) hx hb dX8_gone_91 (by omega) (by decide) hd91
  refine lv_iconst (v := 3) hx hb dX8_gone_429 (by decide) ?_
  refine lv_iload_n hx hb dX8_gone_430 rfl (lv_at hl 4 rfl) ?_
  refine lv_imul hx hb dX8_gone_431 ?_
  refine lv_iconst (v := 1) hx hb dX8_gone_432 (by decide) ?_
  refine lv_iadd hx hb dX8_gone_433 ?_
  refine lv_aload_n hx hb dX8_gone_434 rfl (lv_at hl 1 rfl) ?_
  refine rg_X8_145 X hP dX8_gone_435 ?_
  refine lv_iload_n hx hb dX8_gone_438 rfl (lv_at hl 2 rfl) ?_
  refine ra_lineKind_ld X hP dX8_gone_439 hf (fun hf => ?_)
  refine lv_iadd hx hb dX8_gone_440 ?_
  refine lv_bipush (v := 22) hx hb dX8_gone_441 (by decide) ?_
  refine lv_isub hx hb dX8_gone_443 ?_
  refine lv_istore (lv' := [(8, .int ((((3 * x3) + 1) + (S.1 M_lineKind (Int32.toNatClampNeg x1))) - 22)), (6, .int v1), (0, .ref (ad M_o)), (1, .int x1), (2, .int x2), (3, .int x3), (4, .long x4)]) hx hb dX8_gone_444 hl (by decide) rfl (fun ls hl => ?_)
  refine lv_iload_n hx hb dX8_gone_446 rfl (lv_at hl 4 rfl) ?_
  refine gb_if_ne (tgt := 473) hx hb dX8_gone_447 (by decide) hf (fun hf => ?_) (fun hf => ?_)
  · exact gr_vW X hP hS (Option.some.inj hf) dX8_gone_473
  · refine lv_aload_n hx hb dX8_gone_450 rfl (lv_at hl 2 rfl) ?_
    refine rg_X8_42 X hP dX8_gone_451 ?_
    refine lv_iload hx hb dX8_gone_454 (lv_at hl 0 rfl) ?_
    refine ra_toldBlocked_ld X hP dX8_gone_456 hf (fun hf => ?_)
    refine lv_lload hx hb dX8_gone_457 (lv_at hl 6 rfl) ?_
    refine gb_lcmp_ne (tgt := 473) hx hb dX8_gone_459 dX8_gone_460 (by decide) hf (fun hf => ?_) (fun hf => ?_)
    · exact gr_vW X hP hS (Option.some.inj hf) dX8_gone_473
    · refine lv_aload_n hx hb dX8_gone_463 rfl (lv_at hl 2 rfl) ?_
      refine rg_X8_42 X hP dX8_gone_464 ?_
      refine lv_iload hx hb dX8_gone_467 (lv_at hl 0 rfl) ?_
      refine lv_ldc2 hx hb X.hown (X.hts _ q1063) dX8_gone_469 ?_
      refine ra_toldBlocked_st X hP hS dX8_gone_472 hf (fun S11 H locs hP hS hf => ?_)
      exact gr_vW X hP hS (Option.some.inj hf) dX8_gone_473
set_option maxHeartbeats 4000000 in
theorem w_X8_gone_33 {p : Program} {l : Launch} {e : Env} {R : Room} {s : State} {m : MethodId} {args : Array Value} {below : List Frame} {meth : Method} {c : Code} {D : va_G} {dA : Nat → ClassId} {A : Nat → Prop} {ad : L3 → Nat} (X : CX RX8 cX8_gone 9 none (KA D dA) p s m args meth c A) (hR : 7 ≤ R.frames ∧ 169 ≤ R.locals) {res : Mem} (S : Mem) (x1 : Int32) (x2 : Int32) (y0 : Int32) {H : Heap} {locs : List Loc} {ls : Array Slot} (hP : Wd D clA (shM dA) exM A ad S H) (hS : va_S A s.heap H locs) (hl : lv_has ls 9 [(0, .ref (ad M_o)), (1, .int x1), (2, .int x2)]) (hf : f_X8_gone_33 S x1 x2 y0 = some res) : W p l e R s m args below meth c H locs 0 0 (MQ below (QvW D (shM dA) exM A ad res) args s 0 0 A) (F0 m 33 ls [.int y0, .ref (ad M_o)]) := by
  have hx := X.hx
  have hb := X.hb
  unfold f_X8_gone_33 at hf
  refine lv_iconst (v := 2) hx hb dX8_gone_33 (by decide) ?_
  obtain ⟨S1, v2, hq, hf⟩ := gB2_some hf
  refine gc_i (gc_fixV (S := S) X (mt_X8_fails l D dA A ad S y0 (2 : Int32) hq) (lw_V q1262 q1264 qs35 q93 q1265) ⟨rfl, rfl⟩ hd_X8_fails ⟨Nat.le_trans (Nat.le_of_ble_eq_true rfl) hR.1, Nat.le_trans (Nat.le_of_ble_eq_true rfl) hR.2⟩ (wd_recv (r := M_o) (ci := 0) (q := (RX8, TX8, 61)) X.hK.1 hP ⟨rfl, rfl⟩ rfl rfl) hP hS ⟨Nat.zero_le _, Nat.zero_le _⟩ rfl hl.1 rfl (Nat.le_of_ble_eq_true rfl) dX8_gone_34) hS ?_
  rintro _ _ H locs ⟨⟩ hP hS
  refine gb_if_eq (tgt := 41) hx hb dX8_gone_37 (by decide) hf (fun hf => ?_) (fun hf => ?_)
  · refine lv_aload_n hx hb dX8_gone_41 rfl (lv_at hl 0 rfl) ?_
    refine rg_X8_163 X hP dX8_gone_42 ?_
    refine lv_iload_n hx hb dX8_gone_45 rfl (lv_at hl 1 rfl) ?_
    refine lv_iconst (v := 0) hx hb dX8_gone_46 (by decide) ?_
    refine ra_lineUsed_st X hP hS dX8_gone_47 hf (fun S3 H locs hP hS hf => ?_)
    refine lv_aload_n hx hb dX8_gone_48 rfl (lv_at hl 0 rfl) ?_
    refine rg_X8_142 X hP dX8_gone_49 ?_
    refine lv_iload_n hx hb dX8_gone_52 rfl (lv_at hl 1 rfl) ?_
    refine ra_lineSide_ld X hP dX8_gone_53 hf (fun hf => ?_)
    refine lv_istore_n (lv' := [(3, .int (S3.1 M_lineSide (Int32.toNatClampNeg x1))), (0, .ref (ad M_o)), (1, .int x1), (2, .int x2)]) hx hb dX8_gone_54 rfl hl (by decide) rfl (fun ls hl => ?_)
    refine lv_aload_n hx hb dX8_gone_55 rfl (lv_at hl 1 rfl) ?_
    refine rg_X8_148 X hP dX8_gone_56 ?_
    refine lv_iload_n hx hb dX8_gone_59 rfl (lv_at hl 2 rfl) ?_
    refine ra_lineA_ld X hP dX8_gone_60 hf (fun hf => ?_)
    refine lv_lstore (lv' := [(4, .long (S3.2 M_lineA (Int32.toNatClampNeg x1))), (3, .int (S3.1 M_lineSide (Int32.toNatClampNeg x1))), (0, .ref (ad M_o)), (1, .int x1), (2, .int x2)]) hx hb dX8_gone_61 hl (by decide) rfl (fun ls hl => ?_)
    refine lv_iload_n hx hb dX8_gone_63 rfl (lv_at hl 1 rfl) ?_
    refine lv_lload hx hb dX8_gone_64 (lv_at hl 0 rfl) ?_
    refine lv_ldc2 hx hb X.hown (X.hts _ q1418) dX8_gone_66 ?_
    refine gb_lcmp_ge (tgt := 79) hx hb dX8_gone_69 dX8_gone_70 (by decide) hf (fun hf => ?_) (fun hf => ?_)
    · refine lv_iconst (v := 0) hx hb dX8_gone_79 (by decide) ?_
      exact w_X8_gone_80 X hR S3 x1 x2 (S3.1 M_lineSide (Int32.toNatClampNeg x1)) (S3.2 M_lineA (Int32.toNatClampNeg x1)) 0 (S3.1 M_lineSide (Int32.toNatClampNeg x1)) hP hS (lv_sub hl [2, 3, 4, 1, 0] rfl) hf
    · refine lv_lload hx hb dX8_gone_73 (lv_at hl 0 rfl) ?_
      refine lv_l2i hx hb dX8_gone_75 rfl ?_
      refine lv_goto (tgt := 80) hx hb dX8_gone_76 (by decide) ?_
      exact w_X8_gone_80 X hR S3 x1 x2 (S3.1 M_lineSide (Int32.toNatClampNeg x1)) (S3.2 M_lineA (Int32.toNatClampNeg x1)) (Int64.toInt32 (S3.2 M_lineA (Int32.toNatClampNeg x1))) (S3.1 M_lineSide (Int32.toNatClampNeg x1)) hP hS (lv_sub hl [2, 3, 4, 1, 0] rfl) hf
  · exact gr_vW X hP hS (Option.some.inj hf) dX8_gone_40
set_option maxHeartbeats 4000000 in
theorem w_X8_gone_32 {p : Program} {l : Launch} {e : Env} {R : Room} {s : State} {m : MethodId} {args : Array Value} {below : List Frame} {meth : Method} {c : Code} {D : va_G} {dA : Nat → ClassId} {A : Nat → Prop} {ad : L3 → Nat} (X : CX RX8 cX8_gone 9 none (KA D dA) p s m args meth c A) (hR : 7 ≤ R.frames ∧ 169 ≤ R.locals) {res : Mem} (S : Mem) (x1 : Int32) (x2 : Int32) {H : Heap} {locs : List Loc} {ls : Array Slot} (hP : Wd D clA (shM dA) exM A ad S H) (hS : va_S A s.heap H locs) (hl : lv_has ls 9 [(0, .ref (ad M_o)), (1, .int x1), (2, .int x2)]) (hf : f_X8_gone_32 S x1 x2 = some res) : W p l e R s m args below meth c H locs 0 0 (MQ below (QvW D (shM dA) exM A ad res) args s 0 0 A) (F0 m 32 ls [.ref (ad M_o)]) := by
  have hx := X.hx
  have hb := X.hb
  unfold f_X8_gone_32 at hf
  refine lv_iconst (v := 0) hx hb dX8_gone_32 (by decide) ?_
  exact w_X8_gone_33 X hR S x1 x2 0 hP hS (lv_sub hl [0, 1, 2] rfl) hf
set_option maxHeartbeats 4000000 in
theorem w_X8_gone {p : Program} {l : Launch} {e : Env} {R : Room} {s : State} {m : MethodId} {args : Array Value} {below : List Frame} {meth : Method} {c : Code} {D : va_G} {dA : Nat → ClassId} {A : Nat → Prop} {ad : L3 → Nat} (X : CX RX8 cX8_gone 9 none (KA D dA) p s m args meth c A) (hR : 7 ≤ R.frames ∧ 169 ≤ R.locals) {res : Mem} (S : Mem) (x1 : Int32) (x2 : Int32) {H : Heap} {locs : List Loc} {ls : Array Slot} (hP : Wd D clA (shM dA) exM A ad S H) (hS : va_S A s.heap H locs) (hl : lv_has ls 9 [(0, .ref (ad M_o)), (1, .int x1), (2, .int x2)]) (hf : f_X8_gone S x1 x2 = some res) : W p l e R s m args below meth c H locs 0 0 (MQ below (QvW D (shM dA) exM A ad res) args s 0 0 A) (F0 m 0 ls []) := by
  have hx := X.hx
  have hb := X.hb
  unfold f_X8_gone at hf
  refine lv_aload_n hx hb dX8_gone_0 rfl (lv_at hl 0 rfl) ?_
  refine lv_aload_n hx hb dX8_gone_1 rfl (lv_at hl 0 rfl) ?_
  refine lv_iload_n hx hb dX8_gone_2 rfl (lv_at hl 1 rfl) ?_
  obtain ⟨v1, hq, hf⟩ := gB_some hf
  refine gc_i (gc_fixV (S := S) X (mt_X8_noPlace l D dA A ad S x1 hq) (lw_V q1520 q1522 qs80 q93 q1523) ⟨rfl, rfl⟩ hd_X8_noPlace ⟨Nat.le_trans (Nat.le_of_ble_eq_true rfl) hR.1, Nat.le_trans (Nat.le_of_ble_eq_true rfl) hR.2⟩ (wd_recv (r := M_o) (ci := 0) (q := (RX8, TX8, 61)) X.hK.1 hP ⟨rfl, rfl⟩ rfl rfl) hP hS ⟨Nat.zero_le _, Nat.zero_le _⟩ rfl hl.1 rfl (Nat.le_of_ble_eq_true rfl) dX8_gone_3) hS ?_
  rintro _ _ H locs ⟨rfl, rfl⟩ hP hS
  refine lv_iconst (v := 1) hx hb dX8_gone_6 (by decide) ?_
  obtain ⟨S2, v3, hq, hf⟩ := gB2_some hf
  refine gc_i (gc_fixV (S := S) X (mt_X8_fails l D dA A ad S v1 (1 : Int32) hq) (lw_V q1262 q1264 qs35 q93 q1265) ⟨rfl, rfl⟩ hd_X8_fails ⟨Nat.le_trans (Nat.le_of_ble_eq_true rfl) hR.1, Nat.le_trans (Nat.le_of_ble_eq_true rfl) hR.2⟩ (wd_recv (r := M_o) (ci := 0) (q := (RX8, TX8, 61)) X.hK.1 hP ⟨rfl, rfl⟩ rfl rfl) hP hS ⟨Nat.zero_le _, Nat.zero_le _⟩ rfl hl.1 rfl (Nat.le_of_ble_eq_true rfl) dX8_gone_7) hS ?_
  rintro _ _ H locs ⟨⟩ hP hS
  refine gb_if_ne (tgt := 40) hx hb dX8_gone_10 (by decide) hf (fun hf => ?_) (fun hf => ?_)
  · exact gr_vW X hP hS (Option.some.inj hf) dX8_gone_40
  · refine lv_aload_n hx hb dX8_gone_13 rfl (lv_at hl 0 rfl) ?_
    refine lv_iload_n hx hb dX8_gone_14 rfl (lv_at hl 2 rfl) ?_
    refine gb_if_eq (tgt := 32) hx hb dX8_gone_15 (by decide) hf (fun hf => ?_) (fun hf => ?_)
    · exact w_X8_gone_32 X hR S2 x1 x2 hP hS (lv_sub hl [0, 1, 2] rfl) hf
    · refine lv_aload_n hx hb dX8_gone_18 rfl (lv_at hl 0 rfl) ?_
      refine rg_X8_166 X hP dX8_gone_19 ?_
      refine lv_iload_n hx hb dX8_gone_22 rfl (lv_at hl 1 rfl) ?_
      refine ra_delivered_ld X hP dX8_gone_23 hf (fun hf => ?_)
      refine lv_iconst (v := 1) hx hb dX8_gone_24 (by decide) ?_
      refine gb_icmp_eq (tgt := 32) hx hb dX8_gone_25 (by decide) hf (fun hf => ?_) (fun hf => ?_)
      · exact w_X8_gone_32 X hR S2 x1 x2 hP hS (lv_sub hl [0, 1, 2] rfl) hf
      · refine lv_iconst (v := 1) hx hb dX8_gone_28 (by decide) ?_
        refine lv_goto (tgt := 33) hx hb dX8_gone_29 (by decide) ?_
        exact w_X8_gone_33 X hR S2 x1 x2 1 hP hS (lv_sub hl [0, 1, 2] rfl) hf
theorem hd_X8_gone : yX8_gone.cls = RX8 ∧ yX8_gone.cls ≠ "java/lang/invoke/MethodHandle" ∧ yX8_gone.cls ≠ "java/lang/invoke/VarHandle" ∧ (parseMethodDescriptor yX8_gone.desc).map (fun d => d.parameters.length) = some 2 := by decide +kernel
set_option maxHeartbeats 4000000 in
theorem mt_X8_gone (l : Launch) (D : va_G) (dA : Nat → ClassId) (A : Nat → Prop) (ad : L3 → Nat) (S : Mem) (x1 : Int32) (x2 : Int32) {res : Mem} (hq : f_X8_gone S x1 x2 = some res) : Met l yX8_gone (ws_ yX8_gone cX8_gone 9 none) ({ frames := 7, cells := 0, slots := 0, locals := 169 } : Room) (va_Pc [.ref (ad M_o), .int x1, .int x2] (PreW D dA (shM dA) exM A ad S)) (QvW D (shM dA) exM A ad res) 0 0 A :=
  gx_head (by decide) (Nat.le_of_ble_eq_true rfl) (fun p e s m below meth c ls X hP hl => w_X8_gone (l := l) X ⟨Nat.le_of_ble_eq_true rfl, Nat.le_of_ble_eq_true rfl⟩ S x1 x2 hP va_S.rf (lv_sub (l := [(0, .ref (ad M_o)), (1, .int x1), (2, .int x2)]) hl [0, 1, 2] rfl) hq)
set_option maxHeartbeats 4000000 in
theorem w_X8_line_24 {p : Program} {l : Launch} {e : Env} {R : Room} {s : State} {m : MethodId} {args : Array Value} {below : List Frame} {meth : Method} {c : Code} {D : va_G} {dA : Nat → ClassId} {A : Nat → Prop} {ad : L3 → Nat} (X : CX RX8 cX8_line 3 (some .long) (KA D dA) p s m args meth c A) (hR : 2 ≤ R.frames ∧ 42 ≤ R.locals) {res : Mem × Int64} (S : Mem) (x1 : Int32) (x2 : Int32) (y0 : Int32) {H : Heap} {locs : List Loc} {ls : Array Slot} (hP : Wd D clA (shM dA) exM A ad S H) (hS : va_S A s.heap H locs) (hl : lv_has ls 3 [(0, .ref (ad M_o)), (1, .int x1), (2, .int x2)]) (hf : f_X8_line_24 S x1 x2 y0 = some res) : W p l e R s m args below meth c H locs 0 0 (MQ below (QjW D (shM dA) exM A ad res) args s 0 0 A) (F0 m 24 ls [.int y0, .ref (ad M_o)]) := by
  have hx := X.hx
  have hb := X.hb
  unfold f_X8_line_24 at hf
  refine lv_iconst (v := 1) hx hb dX8_line_24 (by decide) ?_
  obtain ⟨S1, v2, hq, hf⟩ := gB2_some hf
  refine gc_i (gc_fixV (S := S) X (mt_X8_fails l D dA A ad S y0 (1 : Int32) hq) (lw_V q1262 q1264 qs35 q93 q1265) ⟨rfl, rfl⟩ hd_X8_fails ⟨Nat.le_trans (Nat.le_of_ble_eq_true rfl) hR.1, Nat.le_trans (Nat.le_of_ble_eq_true rfl) hR.2⟩ (wd_recv (r := M_o) (ci := 0) (q := (RX8, TX8, 61)) X.hK.1 hP ⟨rfl, rfl⟩ rfl rfl) hP hS ⟨Nat.zero_le _, Nat.zero_le _⟩ rfl hl.1 rfl (Nat.le_of_ble_eq_true rfl) dX8_line_25) hS ?_
  rintro _ _ H locs ⟨⟩ hP hS
  refine gb_if_eq (tgt := 33) hx hb dX8_line_28 (by decide) hf (fun hf => ?_) (fun hf => ?_)
  · refine lv_iload_n hx hb dX8_line_33 rfl (lv_at hl 2 rfl) ?_
    by_cases h34_0 : x2 = (0 : Int32)
    · rw [if_pos h34_0] at hf
      refine lv_tableIn (tgt := 72) hx hb dX8_line_34 (by rw [h34_0]; decide) (by rw [h34_0]; decide) (by rw [h34_0]; rfl) (by decide) ?_
      refine lv_aload_n hx hb dX8_line_72 rfl (lv_at hl 0 rfl) ?_
      refine rg_X8_142 X hP dX8_line_73 ?_
      refine lv_iload_n hx hb dX8_line_76 rfl (lv_at hl 1 rfl) ?_
      refine ra_lineSide_ld X hP dX8_line_77 hf (fun hf => ?_)
      refine lv_i2l hx hb dX8_line_78 rfl ?_
      exact gr_lW X hP hS (Option.some.inj hf) dX8_line_79
    rw [if_neg h34_0] at hf
    by_cases h34_1 : x2 = (1 : Int32)
    · rw [if_pos h34_1] at hf
      refine lv_tableIn (tgt := 80) hx hb dX8_line_34 (by rw [h34_1]; decide) (by rw [h34_1]; decide) (by rw [h34_1]; rfl) (by decide) ?_
      refine lv_aload_n hx hb dX8_line_80 rfl (lv_at hl 0 rfl) ?_
      refine rg_X8_145 X hP dX8_line_81 ?_
      refine lv_iload_n hx hb dX8_line_84 rfl (lv_at hl 1 rfl) ?_
      refine ra_lineKind_ld X hP dX8_line_85 hf (fun hf => ?_)
      refine lv_i2l hx hb dX8_line_86 rfl ?_
      exact gr_lW X hP hS (Option.some.inj hf) dX8_line_87
    rw [if_neg h34_1] at hf
    by_cases h34_2 : x2 = (2 : Int32)
    · rw [if_pos h34_2] at hf
      refine lv_tableIn (tgt := 88) hx hb dX8_line_34 (by rw [h34_2]; decide) (by rw [h34_2]; decide) (by rw [h34_2]; rfl) (by decide) ?_
      refine lv_aload_n hx hb dX8_line_88 rfl (lv_at hl 0 rfl) ?_
      refine rg_X8_148 X hP dX8_line_89 ?_
      refine lv_iload_n hx hb dX8_line_92 rfl (lv_at hl 1 rfl) ?_
      refine ra_lineA_ld X hP dX8_line_93 hf (fun hf => ?_)
      exact gr_lW X hP hS (Option.some.inj hf) dX8_line_94
    rw [if_neg h34_2] at hf
    by_cases h34_3 : x2 = (3 : Int32)
    · rw [if_pos h34_3] at hf
      refine lv_tableIn (tgt := 95) hx hb dX8_line_34 (by rw [h34_3]; decide) (by rw [h34_3]; decide) (by rw [h34_3]; rfl) (by decide) ?_
      refine lv_aload_n hx hb dX8_line_95 rfl (lv_at hl 0 rfl) ?_
      refine rg_X8_151 X hP dX8_line_96 ?_
      refine lv_iload_n hx hb dX8_line_99 rfl (lv_at hl 1 rfl) ?_
      refine ra_lineB_ld X hP dX8_line_100 hf (fun hf => ?_)
      exact gr_lW X hP hS (Option.some.inj hf) dX8_line_101
    rw [if_neg h34_3] at hf
    by_cases h34_4 : x2 = (4 : Int32)
    · rw [if_pos h34_4] at hf
      refine lv_tableIn (tgt := 102) hx hb dX8_line_34 (by rw [h34_4]; decide) (by rw [h34_4]; decide) (by rw [h34_4]; rfl) (by decide) ?_
      refine lv_aload_n hx hb dX8_line_102 rfl (lv_at hl 0 rfl) ?_
      refine rg_X8_154 X hP dX8_line_103 ?_
      refine lv_iload_n hx hb dX8_line_106 rfl (lv_at hl 1 rfl) ?_
      refine ra_lineC_ld X hP dX8_line_107 hf (fun hf => ?_)
      exact gr_lW X hP hS (Option.some.inj hf) dX8_line_108
    rw [if_neg h34_4] at hf
    by_cases h34_5 : x2 = (5 : Int32)
    · rw [if_pos h34_5] at hf
      refine lv_tableIn (tgt := 109) hx hb dX8_line_34 (by rw [h34_5]; decide) (by rw [h34_5]; decide) (by rw [h34_5]; rfl) (by decide) ?_
      refine lv_aload_n hx hb dX8_line_109 rfl (lv_at hl 0 rfl) ?_
      refine rg_X8_157 X hP dX8_line_110 ?_
      refine lv_iload_n hx hb dX8_line_113 rfl (lv_at hl 1 rfl) ?_
      refine ra_lineSize_ld X hP dX8_line_114 hf (fun hf => ?_)
      refine lv_i2l hx hb dX8_line_115 rfl ?_
      exact gr_lW X hP hS (Option.some.inj hf) dX8_line_116
    rw [if_neg h34_5] at hf
    suffices hd34 : W p l e R s m args below meth c H locs 0 0 (MQ below (QjW D (shM dA) exM A ad res) args s 0 0 A) (F0 m 117 ls []) by
      have n0 := lv_neT h34_0 (show (0 : Int32).toInt = 0 by decide)
      have n1 := lv_neT h34_1 (show (1 : Int32).toInt = 1 by decide)
      have n2 := lv_neT h34_2 (show (2 : Int32).toInt = 2 by decide)
      have n3 := lv_neT h34_3 (show (3 : Int32).toInt = 3 by decide)
      have n4 := lv_neT h34_4 (show (4 : Int32).toInt = 4 by decide)
      have n5 := lv_neT h34_5 (show (5 : Int32).toInt = 5 by decide)
      exact lv_tableOut (tgt := 117) hx hb dX8_line_34 (by omega) (by decide) hd34
    refine lv_aload_n hx hb dX8_line_117 rfl (lv_at hl 0 rfl) ?_
    refine rg_X8_160 X hP dX8_line_118 ?_
    refine lv_iload_n hx hb dX8_line_121 rfl (lv_at hl 1 rfl) ?_
    refine ra_lineBytes_ld X hP dX8_line_122 hf (fun hf => ?_)
    refine lv_i2l hx hb dX8_line_123 rfl ?_
    exact gr_lW X hP hS (Option.some.inj hf) dX8_line_124
  · refine lv_lconst (v := 0) hx hb dX8_line_31 (by decide) ?_
    exact gr_lW X hP hS (Option.some.inj hf) dX8_line_32
set_option maxHeartbeats 4000000 in
theorem w_X8_line_19 {p : Program} {l : Launch} {e : Env} {R : Room} {s : State} {m : MethodId} {args : Array Value} {below : List Frame} {meth : Method} {c : Code} {D : va_G} {dA : Nat → ClassId} {A : Nat → Prop} {ad : L3 → Nat} (X : CX RX8 cX8_line 3 (some .long) (KA D dA) p s m args meth c A) (hR : 2 ≤ R.frames ∧ 42 ≤ R.locals) {res : Mem × Int64} (S : Mem) (x1 : Int32) (x2 : Int32) {H : Heap} {locs : List Loc} {ls : Array Slot} (hP : Wd D clA (shM dA) exM A ad S H) (hS : va_S A s.heap H locs) (hl : lv_has ls 3 [(0, .ref (ad M_o)), (1, .int x1), (2, .int x2)]) (hf : f_X8_line_19 S x1 x2 = some res) : W p l e R s m args below meth c H locs 0 0 (MQ below (QjW D (shM dA) exM A ad res) args s 0 0 A) (F0 m 19 ls [.ref (ad M_o)]) := by
  have hx := X.hx
  have hb := X.hb
  unfold f_X8_line_19 at hf
  refine lv_iconst (v := 1) hx hb dX8_line_19 (by decide) ?_
  refine lv_goto (tgt := 24) hx hb dX8_line_20 (by decide) ?_
  exact w_X8_line_24 X hR S x1 x2 1 hP hS (lv_sub hl [0, 1, 2] rfl) hf
set_option maxHeartbeats 4000000 in
theorem w_X8_line {p : Program} {l : Launch} {e : Env} {R : Room} {s : State} {m : MethodId} {args : Array Value} {below : List Frame} {meth : Method} {c : Code} {D : va_G} {dA : Nat → ClassId} {A : Nat → Prop} {ad : L3 → Nat} (X : CX RX8 cX8_line 3 (some .long) (KA D dA) p s m args meth c A) (hR : 2 ≤ R.frames ∧ 42 ≤ R.locals) {res : Mem × Int64} (S : Mem) (x1 : Int32) (x2 : Int32) {H : Heap} {locs : List Loc} {ls : Array Slot} (hP : Wd D clA (shM dA) exM A ad S H) (hS : va_S A s.heap H locs) (hl : lv_has ls 3 [(0, .ref (ad M_o)), (1, .int x1), (2, .int x2)]) (hf : f_X8_line S x1 x2 = some res) : W p l e R s m args below meth c H locs 0 0 (MQ below (QjW D (shM dA) exM A ad res) args s 0 0 A) (F0 m 0 ls []) := by
  have hx := X.hx
  have hb := X.hb
  unfold f_X8_line at hf
  refine lv_aload_n hx hb dX8_line_0 rfl (lv_at hl 0 rfl) ?_
  refine lv_aload_n hx hb dX8_line_1 rfl (lv_at hl 0 rfl) ?_
  refine lv_iload_n hx hb dX8_line_2 rfl (lv_at hl 1 rfl) ?_
  obtain ⟨v1, hq, hf⟩ := gB_some hf
  refine gc_i (gc_fixV (S := S) X (mt_X8_noPlace l D dA A ad S x1 hq) (lw_V q1520 q1522 qs80 q93 q1523) ⟨rfl, rfl⟩ hd_X8_noPlace ⟨Nat.le_trans (Nat.le_of_ble_eq_true rfl) hR.1, Nat.le_trans (Nat.le_of_ble_eq_true rfl) hR.2⟩ (wd_recv (r := M_o) (ci := 0) (q := (RX8, TX8, 61)) X.hK.1 hP ⟨rfl, rfl⟩ rfl rfl) hP hS ⟨Nat.zero_le _, Nat.zero_le _⟩ rfl hl.1 rfl (Nat.le_of_ble_eq_true rfl) dX8_line_3) hS ?_
  rintro _ _ H locs ⟨rfl, rfl⟩ hP hS
  refine gb_if_ne (tgt := 19) hx hb dX8_line_6 (by decide) hf (fun hf => ?_) (fun hf => ?_)
  · exact w_X8_line_19 X hR S x1 x2 hP hS (lv_sub hl [0, 1, 2] rfl) hf
  · refine lv_iload_n hx hb dX8_line_9 rfl (lv_at hl 2 rfl) ?_
    refine gb_if_lt (tgt := 19) hx hb dX8_line_10 (by decide) hf (fun hf => ?_) (fun hf => ?_)
    · exact w_X8_line_19 X hR S x1 x2 hP hS (lv_sub hl [0, 1, 2] rfl) hf
    · refine lv_iload_n hx hb dX8_line_13 rfl (lv_at hl 2 rfl) ?_
      refine lv_bipush (v := 6) hx hb dX8_line_14 (by decide) ?_
      refine gb_icmp_le (tgt := 23) hx hb dX8_line_16 (by decide) hf (fun hf => ?_) (fun hf => ?_)
      · refine lv_iconst (v := 0) hx hb dX8_line_23 (by decide) ?_
        exact w_X8_line_24 X hR S x1 x2 0 hP hS (lv_sub hl [0, 1, 2] rfl) hf
      · exact w_X8_line_19 X hR S x1 x2 hP hS (lv_sub hl [0, 1, 2] rfl) hf
theorem hd_X8_line : yX8_line.cls = RX8 ∧ yX8_line.cls ≠ "java/lang/invoke/MethodHandle" ∧ yX8_line.cls ≠ "java/lang/invoke/VarHandle" ∧ (parseMethodDescriptor yX8_line.desc).map (fun d => d.parameters.length) = some 2 := by decide +kernel
set_option maxHeartbeats 4000000 in
theorem mt_X8_line (l : Launch) (D : va_G) (dA : Nat → ClassId) (A : Nat → Prop) (ad : L3 → Nat) (S : Mem) (x1 : Int32) (x2 : Int32) {res : Mem × Int64} (hq : f_X8_line S x1 x2 = some res) : Met l yX8_line (ws_ yX8_line cX8_line 3 (some .long)) ({ frames := 2, cells := 0, slots := 0, locals := 42 } : Room) (va_Pc [.ref (ad M_o), .int x1, .int x2] (PreW D dA (shM dA) exM A ad S)) (QjW D (shM dA) exM A ad res) 0 0 A :=
  gx_head (by decide) (Nat.le_of_ble_eq_true rfl) (fun p e s m below meth c ls X hP hl => w_X8_line (l := l) X ⟨Nat.le_of_ble_eq_true rfl, Nat.le_of_ble_eq_true rfl⟩ S x1 x2 hP va_S.rf (lv_sub (l := [(0, .ref (ad M_o)), (1, .int x1), (2, .int x2)]) hl [0, 1, 2] rfl) hq)
set_option maxHeartbeats 4000000 in
theorem w_X8_data_33 {p : Program} {l : Launch} {e : Env} {R : Room} {s : State} {m : MethodId} {args : Array Value} {below : List Frame} {meth : Method} {c : Code} {D : va_G} {dA : Nat → ClassId} {A : Nat → Prop} {ad : L3 → Nat} (X : CX RX8 cX8_data 3 (some .int) (KA D dA) p s m args meth c A) (hR : 2 ≤ R.frames ∧ 42 ≤ R.locals) {res : Mem × Int32} (S : Mem) (x1 : Int32) (x2 : Int32) (y0 : Int32) {H : Heap} {locs : List Loc} {ls : Array Slot} (hP : Wd D clA (shM dA) exM A ad S H) (hS : va_S A s.heap H locs) (hl : lv_has ls 3 [(0, .ref (ad M_o)), (1, .int x1), (2, .int x2)]) (hf : f_X8_data_33 S x1 x2 y0 = some res) : W p l e R s m args below meth c H locs 0 0 (MQ below (QiW D (shM dA) exM A ad res) args s 0 0 A) (F0 m 33 ls [.int y0, .ref (ad M_o)]) := by
  have hx := X.hx
  have hb := X.hb
  unfold f_X8_data_33 at hf
  refine lv_iconst (v := 1) hx hb dX8_data_33 (by decide) ?_
  obtain ⟨S1, v2, hq, hf⟩ := gB2_some hf
  refine gc_i (gc_fixV (S := S) X (mt_X8_fails l D dA A ad S y0 (1 : Int32) hq) (lw_V q1262 q1264 qs35 q93 q1265) ⟨rfl, rfl⟩ hd_X8_fails ⟨Nat.le_trans (Nat.le_of_ble_eq_true rfl) hR.1, Nat.le_trans (Nat.le_of_ble_eq_true rfl) hR.2⟩ (wd_recv (r := M_o) (ci := 0) (q := (RX8, TX8, 61)) X.hK.1 hP ⟨rfl, rfl⟩ rfl rfl) hP hS ⟨Nat.zero_le _, Nat.zero_le _⟩ rfl hl.1 rfl (Nat.le_of_ble_eq_true rfl) dX8_data_34) hS ?_
  rintro _ _ H locs ⟨⟩ hP hS
  refine gb_if_eq (tgt := 42) hx hb dX8_data_37 (by decide) hf (fun hf => ?_) (fun hf => ?_)
  · refine lv_aload_n hx hb dX8_data_42 rfl (lv_at hl 0 rfl) ?_
    refine rg_X8_170 X hP dX8_data_43 ?_
    refine lv_sipush (v := 1200) hx hb dX8_data_46 (by decide) ?_
    refine lv_iload_n hx hb dX8_data_49 rfl (lv_at hl 1 rfl) ?_
    refine lv_imul hx hb dX8_data_50 ?_
    refine lv_iload_n hx hb dX8_data_51 rfl (lv_at hl 2 rfl) ?_
    refine lv_iadd hx hb dX8_data_52 ?_
    refine ra_lineData_ld X hP dX8_data_53 hf (fun hf => ?_)
    refine lv_sipush (v := 255) hx hb dX8_data_54 (by decide) ?_
    refine lv_iand hx hb dX8_data_57 ?_
    exact gr_iW X hP hS (Option.some.inj hf) dX8_data_58
  · refine lv_iconst (v := 0) hx hb dX8_data_40 (by decide) ?_
    exact gr_iW X hP hS (Option.some.inj hf) dX8_data_41
set_option maxHeartbeats 4000000 in
theorem w_X8_data_28 {p : Program} {l : Launch} {e : Env} {R : Room} {s : State} {m : MethodId} {args : Array Value} {below : List Frame} {meth : Method} {c : Code} {D : va_G} {dA : Nat → ClassId} {A : Nat → Prop} {ad : L3 → Nat} (X : CX RX8 cX8_data 3 (some .int) (KA D dA) p s m args meth c A) (hR : 2 ≤ R.frames ∧ 42 ≤ R.locals) {res : Mem × Int32} (S : Mem) (x1 : Int32) (x2 : Int32) {H : Heap} {locs : List Loc} {ls : Array Slot} (hP : Wd D clA (shM dA) exM A ad S H) (hS : va_S A s.heap H locs) (hl : lv_has ls 3 [(0, .ref (ad M_o)), (1, .int x1), (2, .int x2)]) (hf : f_X8_data_28 S x1 x2 = some res) : W p l e R s m args below meth c H locs 0 0 (MQ below (QiW D (shM dA) exM A ad res) args s 0 0 A) (F0 m 28 ls [.ref (ad M_o)]) := by
  have hx := X.hx
  have hb := X.hb
  unfold f_X8_data_28 at hf
  refine lv_iconst (v := 1) hx hb dX8_data_28 (by decide) ?_
  refine lv_goto (tgt := 33) hx hb dX8_data_29 (by decide) ?_
  exact w_X8_data_33 X hR S x1 x2 1 hP hS (lv_sub hl [0, 1, 2] rfl) hf
set_option maxHeartbeats 4000000 in
theorem w_X8_data {p : Program} {l : Launch} {e : Env} {R : Room} {s : State} {m : MethodId} {args : Array Value} {below : List Frame} {meth : Method} {c : Code} {D : va_G} {dA : Nat → ClassId} {A : Nat → Prop} {ad : L3 → Nat} (X : CX RX8 cX8_data 3 (some .int) (KA D dA) p s m args meth c A) (hR : 2 ≤ R.frames ∧ 42 ≤ R.locals) {res : Mem × Int32} (S : Mem) (x1 : Int32) (x2 : Int32) {H : Heap} {locs : List Loc} {ls : Array Slot} (hP : Wd D clA (shM dA) exM A ad S H) (hS : va_S A s.heap H locs) (hl : lv_has ls 3 [(0, .ref (ad M_o)), (1, .int x1), (2, .int x2)]) (hf : f_X8_data S x1 x2 = some res) : W p l e R s m args below meth c H locs 0 0 (MQ below (QiW D (shM dA) exM A ad res) args s 0 0 A) (F0 m 0 ls []) := by
  have hx := X.hx
  have hb := X.hb
  unfold f_X8_data at hf
  refine lv_aload_n hx hb dX8_data_0 rfl (lv_at hl 0 rfl) ?_
  refine lv_aload_n hx hb dX8_data_1 rfl (lv_at hl 0 rfl) ?_
  refine lv_iload_n hx hb dX8_data_2 rfl (lv_at hl 1 rfl) ?_
  obtain ⟨v1, hq, hf⟩ := gB_some hf
  refine gc_i (gc_fixV (S := S) X (mt_X8_noPlace l D dA A ad S x1 hq) (lw_V q1520 q1522 qs80 q93 q1523) ⟨rfl, rfl⟩ hd_X8_noPlace ⟨Nat.le_trans (Nat.le_of_ble_eq_true rfl) hR.1, Nat.le_trans (Nat.le_of_ble_eq_true rfl) hR.2⟩ (wd_recv (r := M_o) (ci := 0) (q := (RX8, TX8, 61)) X.hK.1 hP ⟨rfl, rfl⟩ rfl rfl) hP hS ⟨Nat.zero_le _, Nat.zero_le _⟩ rfl hl.1 rfl (Nat.le_of_ble_eq_true rfl) dX8_data_3) hS ?_
  rintro _ _ H locs ⟨rfl, rfl⟩ hP hS
  refine lv_iconst (v := 1) hx hb dX8_data_6 (by decide) ?_
  obtain ⟨S2, v3, hq, hf⟩ := gB2_some hf
  refine gc_i (gc_fixV (S := S) X (mt_X8_fails l D dA A ad S v1 (1 : Int32) hq) (lw_V q1262 q1264 qs35 q93 q1265) ⟨rfl, rfl⟩ hd_X8_fails ⟨Nat.le_trans (Nat.le_of_ble_eq_true rfl) hR.1, Nat.le_trans (Nat.le_of_ble_eq_true rfl) hR.2⟩ (wd_recv (r := M_o) (ci := 0) (q := (RX8, TX8, 61)) X.hK.1 hP ⟨rfl, rfl⟩ rfl rfl) hP hS ⟨Nat.zero_le _, Nat.zero_le _⟩ rfl hl.1 rfl (Nat.le_of_ble_eq_true rfl) dX8_data_7) hS ?_
  rintro _ _ H locs ⟨⟩ hP hS
  refine gb_if_ne (tgt := 40) hx hb dX8_data_10 (by decide) hf (fun hf => ?_) (fun hf => ?_)
  · refine lv_iconst (v := 0) hx hb dX8_data_40 (by decide) ?_
    exact gr_iW X hP hS (Option.some.inj hf) dX8_data_41
  · refine lv_aload_n hx hb dX8_data_13 rfl (lv_at hl 0 rfl) ?_
    refine lv_iload_n hx hb dX8_data_14 rfl (lv_at hl 2 rfl) ?_
    refine gb_if_lt (tgt := 28) hx hb dX8_data_15 (by decide) hf (fun hf => ?_) (fun hf => ?_)
    · exact w_X8_data_28 X hR S2 x1 x2 hP hS (lv_sub hl [0, 1, 2] rfl) hf
    · refine lv_iload_n hx hb dX8_data_18 rfl (lv_at hl 2 rfl) ?_
      refine lv_aload_n hx hb dX8_data_19 rfl (lv_at hl 0 rfl) ?_
      refine rg_X8_157 X hP dX8_data_20 ?_
      refine lv_iload_n hx hb dX8_data_23 rfl (lv_at hl 1 rfl) ?_
      refine ra_lineSize_ld X hP dX8_data_24 hf (fun hf => ?_)
      refine gb_icmp_lt (tgt := 32) hx hb dX8_data_25 (by decide) hf (fun hf => ?_) (fun hf => ?_)
      · refine lv_iconst (v := 0) hx hb dX8_data_32 (by decide) ?_
        exact w_X8_data_33 X hR S2 x1 x2 0 hP hS (lv_sub hl [0, 1, 2] rfl) hf
      · exact w_X8_data_28 X hR S2 x1 x2 hP hS (lv_sub hl [0, 1, 2] rfl) hf
theorem hd_X8_data : yX8_data.cls = RX8 ∧ yX8_data.cls ≠ "java/lang/invoke/MethodHandle" ∧ yX8_data.cls ≠ "java/lang/invoke/VarHandle" ∧ (parseMethodDescriptor yX8_data.desc).map (fun d => d.parameters.length) = some 2 := by decide +kernel
set_option maxHeartbeats 4000000 in
theorem mt_X8_data (l : Launch) (D : va_G) (dA : Nat → ClassId) (A : Nat → Prop) (ad : L3 → Nat) (S : Mem) (x1 : Int32) (x2 : Int32) {res : Mem × Int32} (hq : f_X8_data S x1 x2 = some res) : Met l yX8_data (ws_ yX8_data cX8_data 3 (some .int)) ({ frames := 2, cells := 0, slots := 0, locals := 42 } : Room) (va_Pc [.ref (ad M_o), .int x1, .int x2] (PreW D dA (shM dA) exM A ad S)) (QiW D (shM dA) exM A ad res) 0 0 A :=
  gx_head (by decide) (Nat.le_of_ble_eq_true rfl) (fun p e s m below meth c ls X hP hl => w_X8_data (l := l) X ⟨Nat.le_of_ble_eq_true rfl, Nat.le_of_ble_eq_true rfl⟩ S x1 x2 hP va_S.rf (lv_sub (l := [(0, .ref (ad M_o)), (1, .int x1), (2, .int x2)]) hl [0, 1, 2] rfl) hq)
set_option maxHeartbeats 4000000 in
theorem w_X8_outs_32_b {p : Program} {l : Launch} {e : Env} {R : Room} {s : State} {m : MethodId} {args : Array Value} {below : List Frame} {meth : Method} {c : Code} {D : va_G} {dA : Nat → ClassId} {A : Nat → Prop} {ad : L3 → Nat} (X : CX RX8 cX8_outs 5 (some .long) (KA D dA) p s m args meth c A) (hR : 2 ≤ R.frames ∧ 42 ≤ R.locals) {res : Mem × Int64} (k32 : Mem → Int32 → Int64 → Int32 → Option (Mem × Int64)) (hk32 : ∀ (S : Mem) (x1 : Int32) (x2 : Int64) (x4 : Int32) (H : Heap) (locs : List Loc) (ls : Array Slot), Wd D clA (shM dA) exM A ad S H → va_S A s.heap H locs → lv_has ls 5 [(0, .ref (ad M_o)), (1, .int x1), (2, .long x2), (4, .int x4)] → k32 S x1 x2 x4 = some res → W p l e R s m args below meth c H locs 0 0 (MQ below (QjW D (shM dA) exM A ad res) args s 0 0 A) (F0 m 32 ls [])) (S : Mem) (x1 : Int32) (x2 : Int64) (x4 : Int32) {H : Heap} {locs : List Loc} {ls : Array Slot} (hP : Wd D clA (shM dA) exM A ad S H) (hS : va_S A s.heap H locs) (hl : lv_has ls 5 [(0, .ref (ad M_o)), (1, .int x1), (2, .long x2), (4, .int x4)]) (hf : f_X8_outs_32_b k32 S x1 x2 x4 = some res) : W p l e R s m args below meth c H locs 0 0 (MQ below (QjW D (shM dA) exM A ad res) args s 0 0 A) (F0 m 32 ls []) := by
  have hx := X.hx
  have hb := X.hb
  unfold f_X8_outs_32_b at hf
  refine lv_iload hx hb dX8_outs_32 (lv_at hl 3 rfl) ?_
  refine lv_bipush (v := 8) hx hb dX8_outs_34 (by decide) ?_
  refine gb_icmp_ge (tgt := 75) hx hb dX8_outs_36 (by decide) hf (fun hf => ?_) (fun hf => ?_)
  · refine lv_lload_n hx hb dX8_outs_75 rfl (lv_at hl 2 rfl) ?_
    exact gr_lW X hP hS (Option.some.inj hf) dX8_outs_76
  · refine lv_iload_n hx hb dX8_outs_39 rfl (lv_at hl 1 rfl) ?_
    refine lv_iload hx hb dX8_outs_40 (lv_at hl 3 rfl) ?_
    refine lv_iadd hx hb dX8_outs_42 ?_
    refine lv_aload_n hx hb dX8_outs_43 rfl (lv_at hl 0 rfl) ?_
    refine rg_X8_284 X hP dX8_outs_44 ?_
    refine gb_icmp_ge (tgt := 75) hx hb dX8_outs_47 (by decide) hf (fun hf => ?_) (fun hf => ?_)
    · refine lv_lload_n hx hb dX8_outs_75 rfl (lv_at hl 2 rfl) ?_
      exact gr_lW X hP hS (Option.some.inj hf) dX8_outs_76
    · refine lv_lload_n hx hb dX8_outs_50 rfl (lv_at hl 2 rfl) ?_
      refine lv_aload_n hx hb dX8_outs_51 rfl (lv_at hl 0 rfl) ?_
      refine rg_X8_13 X hP dX8_outs_52 ?_
      refine lv_iload_n hx hb dX8_outs_55 rfl (lv_at hl 1 rfl) ?_
      refine lv_iload hx hb dX8_outs_56 (lv_at hl 3 rfl) ?_
      refine lv_iadd hx hb dX8_outs_58 ?_
      refine ra_out_ld X hP dX8_outs_59 hf (fun hf => ?_)
      refine lv_i2l hx hb dX8_outs_60 rfl ?_
      refine lv_bipush (v := 8) hx hb dX8_outs_61 (by decide) ?_
      refine lv_iload hx hb dX8_outs_63 (lv_at hl 3 rfl) ?_
      refine lv_imul hx hb dX8_outs_65 ?_
      refine lv_lshl hx hb dX8_outs_66 rfl ?_
      refine lv_lor hx hb dX8_outs_67 ?_
      refine lv_lstore_n (lv' := [(2, .long (x2 ||| ((Int32.toInt64 (S.1 M_out (Int32.toNatClampNeg (x1 + x4)))) <<< (Int32.toInt64 (8 * x4) &&& 63)))), (0, .ref (ad M_o)), (1, .int x1), (4, .int x4)]) hx hb dX8_outs_68 rfl hl (by decide) rfl (fun ls hl => ?_)
      refine lv_iinc (v := (x4 + 1)) (lv' := [(4, .int (x4 + 1)), (2, .long (x2 ||| ((Int32.toInt64 (S.1 M_out (Int32.toNatClampNeg (x1 + x4)))) <<< (Int32.toInt64 (8 * x4) &&& 63)))), (0, .ref (ad M_o)), (1, .int x1)]) hx hb dX8_outs_69 hl (k := 3) rfl rfl (by decide) rfl (fun ls hl => ?_)
      refine lv_goto (tgt := 32) hx hb dX8_outs_72 (by decide) ?_
      exact hk32 S x1 (x2 ||| ((Int32.toInt64 (S.1 M_out (Int32.toNatClampNeg (x1 + x4)))) <<< (Int32.toInt64 (8 * x4) &&& 63))) (x4 + 1) _ _ _ hP hS (lv_sub hl [2, 3, 1, 0] rfl) hf
set_option maxHeartbeats 4000000 in
theorem w_X8_outs_32 {p : Program} {l : Launch} {e : Env} {R : Room} {s : State} {m : MethodId} {args : Array Value} {below : List Frame} {meth : Method} {c : Code} {D : va_G} {dA : Nat → ClassId} {A : Nat → Prop} {ad : L3 → Nat} (X : CX RX8 cX8_outs 5 (some .long) (KA D dA) p s m args meth c A) (hR : 2 ≤ R.frames ∧ 42 ≤ R.locals) {res : Mem × Int64} (n : Nat) : ∀ (S : Mem) (x1 : Int32) (x2 : Int64) (x4 : Int32) (H : Heap) (locs : List Loc) (ls : Array Slot), Wd D clA (shM dA) exM A ad S H → va_S A s.heap H locs → lv_has ls 5 [(0, .ref (ad M_o)), (1, .int x1), (2, .long x2), (4, .int x4)] → f_X8_outs_32 n S x1 x2 x4 = some res → W p l e R s m args below meth c H locs 0 0 (MQ below (QjW D (shM dA) exM A ad res) args s 0 0 A) (F0 m 32 ls []) := by
  induction n with
  | zero =>
    intro S x1 x2 x4 H locs ls hP hS hl hf
    exact absurd (show none = some res from hf) (fun h => by cases h)
  | succ n ih =>
    intro S x1 x2 x4 H locs ls hP hS hl hf
    exact w_X8_outs_32_b X hR (f_X8_outs_32 n) ih S x1 x2 x4 hP hS hl hf
set_option maxHeartbeats 4000000 in
theorem w_X8_outs_18 {p : Program} {l : Launch} {e : Env} {R : Room} {s : State} {m : MethodId} {args : Array Value} {below : List Frame} {meth : Method} {c : Code} {D : va_G} {dA : Nat → ClassId} {A : Nat → Prop} {ad : L3 → Nat} (X : CX RX8 cX8_outs 5 (some .long) (KA D dA) p s m args meth c A) (hR : 2 ≤ R.frames ∧ 42 ≤ R.locals) {res : Mem × Int64} (S : Mem) (x1 : Int32) (y0 : Int32) {H : Heap} {locs : List Loc} {ls : Array Slot} (hP : Wd D clA (shM dA) exM A ad S H) (hS : va_S A s.heap H locs) (hl : lv_has ls 5 [(0, .ref (ad M_o)), (1, .int x1)]) (hf : f_X8_outs_18 S x1 y0 = some res) : W p l e R s m args below meth c H locs 0 0 (MQ below (QjW D (shM dA) exM A ad res) args s 0 0 A) (F0 m 18 ls [.int y0, .ref (ad M_o)]) := by
  have hx := X.hx
  have hb := X.hb
  unfold f_X8_outs_18 at hf
  refine lv_iconst (v := 1) hx hb dX8_outs_18 (by decide) ?_
  obtain ⟨S1, v2, hq, hf⟩ := gB2_some hf
  refine gc_i (gc_fixV (S := S) X (mt_X8_fails l D dA A ad S y0 (1 : Int32) hq) (lw_V q1262 q1264 qs35 q93 q1265) ⟨rfl, rfl⟩ hd_X8_fails ⟨Nat.le_trans (Nat.le_of_ble_eq_true rfl) hR.1, Nat.le_trans (Nat.le_of_ble_eq_true rfl) hR.2⟩ (wd_recv (r := M_o) (ci := 0) (q := (RX8, TX8, 61)) X.hK.1 hP ⟨rfl, rfl⟩ rfl rfl) hP hS ⟨Nat.zero_le _, Nat.zero_le _⟩ rfl hl.1 rfl (Nat.le_of_ble_eq_true rfl) dX8_outs_19) hS ?_
  rintro _ _ H locs ⟨⟩ hP hS
  refine gb_if_eq (tgt := 27) hx hb dX8_outs_22 (by decide) hf (fun hf => ?_) (fun hf => ?_)
  · refine lv_lconst (v := 0) hx hb dX8_outs_27 (by decide) ?_
    refine lv_lstore_n (lv' := [(2, .long 0), (0, .ref (ad M_o)), (1, .int x1)]) hx hb dX8_outs_28 rfl hl (by decide) rfl (fun ls hl => ?_)
    refine lv_iconst (v := 0) hx hb dX8_outs_29 (by decide) ?_
    refine lv_istore (lv' := [(4, .int 0), (2, .long 0), (0, .ref (ad M_o)), (1, .int x1)]) hx hb dX8_outs_30 hl (by decide) rfl (fun ls hl => ?_)
    exact w_X8_outs_32 X hR FU S1 x1 0 0 _ _ _ hP hS (lv_sub hl [2, 3, 1, 0] rfl) hf
  · refine lv_lconst (v := 0) hx hb dX8_outs_25 (by decide) ?_
    exact gr_lW X hP hS (Option.some.inj hf) dX8_outs_26
set_option maxHeartbeats 4000000 in
theorem w_X8_outs_13 {p : Program} {l : Launch} {e : Env} {R : Room} {s : State} {m : MethodId} {args : Array Value} {below : List Frame} {meth : Method} {c : Code} {D : va_G} {dA : Nat → ClassId} {A : Nat → Prop} {ad : L3 → Nat} (X : CX RX8 cX8_outs 5 (some .long) (KA D dA) p s m args meth c A) (hR : 2 ≤ R.frames ∧ 42 ≤ R.locals) {res : Mem × Int64} (S : Mem) (x1 : Int32) {H : Heap} {locs : List Loc} {ls : Array Slot} (hP : Wd D clA (shM dA) exM A ad S H) (hS : va_S A s.heap H locs) (hl : lv_has ls 5 [(0, .ref (ad M_o)), (1, .int x1)]) (hf : f_X8_outs_13 S x1 = some res) : W p l e R s m args below meth c H locs 0 0 (MQ below (QjW D (shM dA) exM A ad res) args s 0 0 A) (F0 m 13 ls [.ref (ad M_o)]) := by
  have hx := X.hx
  have hb := X.hb
  unfold f_X8_outs_13 at hf
  refine lv_iconst (v := 1) hx hb dX8_outs_13 (by decide) ?_
  refine lv_goto (tgt := 18) hx hb dX8_outs_14 (by decide) ?_
  exact w_X8_outs_18 X hR S x1 1 hP hS (lv_sub hl [0, 1] rfl) hf
set_option maxHeartbeats 4000000 in
theorem w_X8_outs {p : Program} {l : Launch} {e : Env} {R : Room} {s : State} {m : MethodId} {args : Array Value} {below : List Frame} {meth : Method} {c : Code} {D : va_G} {dA : Nat → ClassId} {A : Nat → Prop} {ad : L3 → Nat} (X : CX RX8 cX8_outs 5 (some .long) (KA D dA) p s m args meth c A) (hR : 2 ≤ R.frames ∧ 42 ≤ R.locals) {res : Mem × Int64} (S : Mem) (x1 : Int32) {H : Heap} {locs : List Loc} {ls : Array Slot} (hP : Wd D clA (shM dA) exM A ad S H) (hS : va_S A s.heap H locs) (hl : lv_has ls 5 [(0, .ref (ad M_o)), (1, .int x1)]) (hf : f_X8_outs S x1 = some res) : W p l e R s m args below meth c H locs 0 0 (MQ below (QjW D (shM dA) exM A ad res) args s 0 0 A) (F0 m 0 ls []) := by
  have hx := X.hx
  have hb := X.hb
  unfold f_X8_outs at hf
  refine lv_aload_n hx hb dX8_outs_0 rfl (lv_at hl 0 rfl) ?_
  refine lv_iload_n hx hb dX8_outs_1 rfl (lv_at hl 1 rfl) ?_
  refine gb_if_lt (tgt := 13) hx hb dX8_outs_2 (by decide) hf (fun hf => ?_) (fun hf => ?_)
  · exact w_X8_outs_13 X hR S x1 hP hS (lv_sub hl [0, 1] rfl) hf
  · refine lv_iload_n hx hb dX8_outs_5 rfl (lv_at hl 1 rfl) ?_
    refine lv_aload_n hx hb dX8_outs_6 rfl (lv_at hl 0 rfl) ?_
    refine rg_X8_284 X hP dX8_outs_7 ?_
    refine gb_icmp_lt (tgt := 17) hx hb dX8_outs_10 (by decide) hf (fun hf => ?_) (fun hf => ?_)
    · refine lv_iconst (v := 0) hx hb dX8_outs_17 (by decide) ?_
      exact w_X8_outs_18 X hR S x1 0 hP hS (lv_sub hl [0, 1] rfl) hf
    · exact w_X8_outs_13 X hR S x1 hP hS (lv_sub hl [0, 1] rfl) hf
theorem hd_X8_outs : yX8_outs.cls = RX8 ∧ yX8_outs.cls ≠ "java/lang/invoke/MethodHandle" ∧ yX8_outs.cls ≠ "java/lang/invoke/VarHandle" ∧ (parseMethodDescriptor yX8_outs.desc).map (fun d => d.parameters.length) = some 1 := by decide +kernel
set_option maxHeartbeats 4000000 in
theorem mt_X8_outs (l : Launch) (D : va_G) (dA : Nat → ClassId) (A : Nat → Prop) (ad : L3 → Nat) (S : Mem) (x1 : Int32) {res : Mem × Int64} (hq : f_X8_outs S x1 = some res) : Met l yX8_outs (ws_ yX8_outs cX8_outs 5 (some .long)) ({ frames := 2, cells := 0, slots := 0, locals := 42 } : Room) (va_Pc [.ref (ad M_o), .int x1] (PreW D dA (shM dA) exM A ad S)) (QjW D (shM dA) exM A ad res) 0 0 A :=
  gx_head (by decide) (Nat.le_of_ble_eq_true rfl) (fun p e s m below meth c ls X hP hl => w_X8_outs (l := l) X ⟨Nat.le_of_ble_eq_true rfl, Nat.le_of_ble_eq_true rfl⟩ S x1 hP va_S.rf (lv_sub (l := [(0, .ref (ad M_o)), (1, .int x1)]) hl [0, 1] rfl) hq)
set_option maxHeartbeats 4000000 in
theorem w_X8_endOf {p : Program} {l : Launch} {e : Env} {R : Room} {s : State} {m : MethodId} {args : Array Value} {below : List Frame} {meth : Method} {c : Code} {D : va_G} {dA : Nat → ClassId} {A : Nat → Prop} {ad : L3 → Nat} (X : CX RX8 cX8_endOf 2 (some .int) (KA D dA) p s m args meth c A) (hR : 1 ≤ R.frames ∧ 20 ≤ R.locals) {res : Int32} (S : Mem) (x1 : Int32) {H : Heap} {locs : List Loc} {ls : Array Slot} (hP : Wd D clA (shM dA) exM A ad S H) (hS : va_S A s.heap H locs) (hl : lv_has ls 2 [(0, .ref (ad M_o)), (1, .int x1)]) (hf : f_X8_endOf S x1 = some res) : W p l e R s m args below meth c H locs 0 0 (MQ below (QiR D (shM dA) exM A ad S res) args s 0 0 A) (F0 m 0 ls []) := by
  have hx := X.hx
  have hb := X.hb
  unfold f_X8_endOf at hf
  refine lv_aload_n hx hb dX8_endOf_0 rfl (lv_at hl 0 rfl) ?_
  refine rg_X8_57 X hP dX8_endOf_1 ?_
  refine lv_iload_n hx hb dX8_endOf_4 rfl (lv_at hl 1 rfl) ?_
  refine ra_finished_ld X hP dX8_endOf_5 hf (fun hf => ?_)
  refine gb_if_ne (tgt := 13) hx hb dX8_endOf_6 (by decide) hf (fun hf => ?_) (fun hf => ?_)
  · refine lv_iconst (v := 1) hx hb dX8_endOf_13 (by decide) ?_
    refine lv_aload_n hx hb dX8_endOf_14 rfl (lv_at hl 0 rfl) ?_
    refine rg_X8_60 X hP dX8_endOf_15 ?_
    refine lv_iload_n hx hb dX8_endOf_18 rfl (lv_at hl 1 rfl) ?_
    refine ra_end_ld X hP dX8_endOf_19 hf (fun hf => ?_)
    refine lv_iadd hx hb dX8_endOf_20 ?_
    exact gr_iR X hP hS (Option.some.inj hf) dX8_endOf_21
  · refine lv_iconst (v := 0) hx hb dX8_endOf_9 (by decide) ?_
    refine lv_goto (tgt := 21) hx hb dX8_endOf_10 (by decide) ?_
    exact gr_iR X hP hS (Option.some.inj hf) dX8_endOf_21
theorem hd_X8_endOf : yX8_endOf.cls = RX8 ∧ yX8_endOf.cls ≠ "java/lang/invoke/MethodHandle" ∧ yX8_endOf.cls ≠ "java/lang/invoke/VarHandle" ∧ (parseMethodDescriptor yX8_endOf.desc).map (fun d => d.parameters.length) = some 1 := by decide +kernel
set_option maxHeartbeats 4000000 in
theorem mt_X8_endOf (l : Launch) (D : va_G) (dA : Nat → ClassId) (A : Nat → Prop) (ad : L3 → Nat) (S : Mem) (x1 : Int32) {res : Int32} (hq : f_X8_endOf S x1 = some res) : Met l yX8_endOf (ws_ yX8_endOf cX8_endOf 2 (some .int)) ({ frames := 1, cells := 0, slots := 0, locals := 20 } : Room) (va_Pc [.ref (ad M_o), .int x1] (PreW D dA (shM dA) exM A ad S)) (QiR D (shM dA) exM A ad S res) 0 0 A :=
  gx_head (by decide) (Nat.le_of_ble_eq_true rfl) (fun p e s m below meth c ls X hP hl => w_X8_endOf (l := l) X ⟨Nat.le_of_ble_eq_true rfl, Nat.le_of_ble_eq_true rfl⟩ S x1 hP va_S.rf (lv_sub (l := [(0, .ref (ad M_o)), (1, .int x1)]) hl [0, 1] rfl) hq)
set_option maxHeartbeats 4000000 in
theorem w_X8_sendingLook {p : Program} {l : Launch} {e : Env} {R : Room} {s : State} {m : MethodId} {args : Array Value} {below : List Frame} {meth : Method} {c : Code} {D : va_G} {dA : Nat → ClassId} {A : Nat → Prop} {ad : L3 → Nat} (X : CX RX8 cX8_sendingLook 5 (some .long) (KA D dA) p s m args meth c A) (hR : 4 ≤ R.frames ∧ 90 ≤ R.locals) {res : Int64} (S : Mem) (x1 : Int32) (x2 : Int32) (x3 : Int32) {H : Heap} {locs : List Loc} {ls : Array Slot} (hP : Wd D clA (shM dA) exM A ad S H) (hS : va_S A s.heap H locs) (hl : lv_has ls 5 [(0, .ref (ad M_o)), (1, .int x1), (2, .int x2), (3, .int x3)]) (hf : f_X8_sendingLook S x1 x2 x3 = some res) : W p l e R s m args below meth c H locs 0 0 (MQ below (QjR D (shM dA) exM A ad S res) args s 0 0 A) (F0 m 0 ls []) := by
  have hx := X.hx
  have hb := X.hb
  unfold f_X8_sendingLook at hf
  refine lv_iload_n hx hb dX8_sendingLook_0 rfl (lv_at hl 1 rfl) ?_
  refine lv_iload_n hx hb dX8_sendingLook_1 rfl (lv_at hl 2 rfl) ?_
  obtain ⟨v1, hq, hf⟩ := gS_eq hf
  refine gc_i (gc_fixS (S := S) X (mt_X8_at l D dA A ad S x1 x2 hq) (lw_S q1283 q1284 q93 q1285) ⟨rfl, rfl⟩ hd_X8_at.2 ⟨Nat.le_trans (Nat.le_of_ble_eq_true rfl) hR.1, Nat.le_trans (Nat.le_of_ble_eq_true rfl) hR.2⟩ hP hS ⟨Nat.zero_le _, Nat.zero_le _⟩ rfl hl.1 rfl (Nat.le_of_ble_eq_true rfl) dX8_sendingLook_2) hS ?_
  rintro _ _ H locs ⟨rfl, rfl⟩ hP hS
  refine lv_istore (lv' := [(4, .int v1), (0, .ref (ad M_o)), (1, .int x1), (2, .int x2), (3, .int x3)]) hx hb dX8_sendingLook_5 hl (by decide) rfl (fun ls hl => ?_)
  refine lv_iload_n hx hb dX8_sendingLook_7 rfl (lv_at hl 4 rfl) ?_
  by_cases h8_0 : x3 = (0 : Int32)
  · rw [if_pos h8_0] at hf
    refine lv_tableIn (tgt := 52) hx hb dX8_sendingLook_8 (by rw [h8_0]; decide) (by rw [h8_0]; decide) (by rw [h8_0]; rfl) (by decide) ?_
    refine lv_aload_n hx hb dX8_sendingLook_52 rfl (lv_at hl 1 rfl) ?_
    refine lv_iload_n hx hb dX8_sendingLook_53 rfl (lv_at hl 2 rfl) ?_
    refine lv_iload_n hx hb dX8_sendingLook_54 rfl (lv_at hl 3 rfl) ?_
    obtain ⟨v2, hq, hf⟩ := gB_some hf
    refine gc_i (gc_fixV (S := S) X (mt_X8_sending l D dA A ad S x1 x2 hq) (lw_V q1315 q1317 qs41 q93 q1318) ⟨rfl, rfl⟩ hd_X8_sending ⟨Nat.le_trans (Nat.le_of_ble_eq_true rfl) hR.1, Nat.le_trans (Nat.le_of_ble_eq_true rfl) hR.2⟩ (wd_recv (r := M_o) (ci := 0) (q := (RX8, TX8, 61)) X.hK.1 hP ⟨rfl, rfl⟩ rfl rfl) hP hS ⟨Nat.zero_le _, Nat.zero_le _⟩ rfl hl.1 rfl (Nat.le_of_ble_eq_true rfl) dX8_sendingLook_55) hS ?_
    rintro _ _ H locs ⟨rfl, rfl⟩ hP hS
    refine lv_i2l hx hb dX8_sendingLook_58 rfl ?_
    exact gr_lR X hP hS (Option.some.inj hf) dX8_sendingLook_59
  rw [if_neg h8_0] at hf
  by_cases h8_1 : x3 = (1 : Int32)
  · rw [if_pos h8_1] at hf
    refine lv_tableIn (tgt := 60) hx hb dX8_sendingLook_8 (by rw [h8_1]; decide) (by rw [h8_1]; decide) (by rw [h8_1]; rfl) (by decide) ?_
    refine lv_aload_n hx hb dX8_sendingLook_60 rfl (lv_at hl 1 rfl) ?_
    refine lv_iload_n hx hb dX8_sendingLook_61 rfl (lv_at hl 2 rfl) ?_
    refine lv_iload_n hx hb dX8_sendingLook_62 rfl (lv_at hl 3 rfl) ?_
    obtain ⟨v3, hq, hf⟩ := gB_some hf
    refine gc_i (gc_fixV (S := S) X (mt_X8_written l D dA A ad S x1 x2 hq) (lw_V q1323 q1325 qs43 q93 q1326) ⟨rfl, rfl⟩ hd_X8_written ⟨Nat.le_trans (Nat.le_of_ble_eq_true rfl) hR.1, Nat.le_trans (Nat.le_of_ble_eq_true rfl) hR.2⟩ (wd_recv (r := M_o) (ci := 0) (q := (RX8, TX8, 61)) X.hK.1 hP ⟨rfl, rfl⟩ rfl rfl) hP hS ⟨Nat.zero_le _, Nat.zero_le _⟩ rfl hl.1 rfl (Nat.le_of_ble_eq_true rfl) dX8_sendingLook_63) hS ?_
    rintro _ _ H locs ⟨rfl, rfl⟩ hP hS
    refine lv_i2l hx hb dX8_sendingLook_66 rfl ?_
    exact gr_lR X hP hS (Option.some.inj hf) dX8_sendingLook_67
  rw [if_neg h8_1] at hf
  by_cases h8_2 : x3 = (2 : Int32)
  · rw [if_pos h8_2] at hf
    refine lv_tableIn (tgt := 68) hx hb dX8_sendingLook_8 (by rw [h8_2]; decide) (by rw [h8_2]; decide) (by rw [h8_2]; rfl) (by decide) ?_
    refine lv_aload_n hx hb dX8_sendingLook_68 rfl (lv_at hl 1 rfl) ?_
    refine lv_iload_n hx hb dX8_sendingLook_69 rfl (lv_at hl 2 rfl) ?_
    refine lv_iload_n hx hb dX8_sendingLook_70 rfl (lv_at hl 3 rfl) ?_
    obtain ⟨v4, hq, hf⟩ := gB_some hf
    refine gc_i (gc_fixV (S := S) X (mt_X8_sent l D dA A ad S x1 x2 hq) (lw_V q1463 q1465 qs68 q93 q1466) ⟨rfl, rfl⟩ hd_X8_sent ⟨Nat.le_trans (Nat.le_of_ble_eq_true rfl) hR.1, Nat.le_trans (Nat.le_of_ble_eq_true rfl) hR.2⟩ (wd_recv (r := M_o) (ci := 0) (q := (RX8, TX8, 61)) X.hK.1 hP ⟨rfl, rfl⟩ rfl rfl) hP hS ⟨Nat.zero_le _, Nat.zero_le _⟩ rfl hl.1 rfl (Nat.le_of_ble_eq_true rfl) dX8_sendingLook_71) hS ?_
    rintro _ _ H locs ⟨rfl, rfl⟩ hP hS
    refine lv_i2l hx hb dX8_sendingLook_74 rfl ?_
    exact gr_lR X hP hS (Option.some.inj hf) dX8_sendingLook_75
  rw [if_neg h8_2] at hf
  by_cases h8_3 : x3 = (3 : Int32)
  · rw [if_pos h8_3] at hf
    refine lv_tableIn (tgt := 76) hx hb dX8_sendingLook_8 (by rw [h8_3]; decide) (by rw [h8_3]; decide) (by rw [h8_3]; rfl) (by decide) ?_
    refine lv_aload_n hx hb dX8_sendingLook_76 rfl (lv_at hl 1 rfl) ?_
    refine rg_X8_54 X hP dX8_sendingLook_77 ?_
    refine lv_iload hx hb dX8_sendingLook_80 (lv_at hl 0 rfl) ?_
    refine ra_limit_ld X hP dX8_sendingLook_82 hf (fun hf => ?_)
    exact gr_lR X hP hS (Option.some.inj hf) dX8_sendingLook_83
  rw [if_neg h8_3] at hf
  by_cases h8_4 : x3 = (4 : Int32)
  · rw [if_pos h8_4] at hf
    refine lv_tableIn (tgt := 84) hx hb dX8_sendingLook_8 (by rw [h8_4]; decide) (by rw [h8_4]; decide) (by rw [h8_4]; rfl) (by decide) ?_
    refine lv_aload_n hx hb dX8_sendingLook_84 rfl (lv_at hl 1 rfl) ?_
    refine rg_X8_63 X hP dX8_sendingLook_85 ?_
    refine lv_iload hx hb dX8_sendingLook_88 (lv_at hl 0 rfl) ?_
    refine ra_resets_ld X hP dX8_sendingLook_90 hf (fun hf => ?_)
    refine gb_if_le (tgt := 104) hx hb dX8_sendingLook_91 (by decide) hf (fun hf => ?_) (fun hf => ?_)
    · refine lv_lconst (v := 0) hx hb dX8_sendingLook_104 (by decide) ?_
      exact gr_lR X hP hS (Option.some.inj hf) dX8_sendingLook_105
    · refine lv_aload_n hx hb dX8_sendingLook_94 rfl (lv_at hl 1 rfl) ?_
      refine rg_X8_69 X hP dX8_sendingLook_95 ?_
      refine lv_iload hx hb dX8_sendingLook_98 (lv_at hl 0 rfl) ?_
      refine ra_code_ld X hP dX8_sendingLook_100 hf (fun hf => ?_)
      refine lv_goto (tgt := 105) hx hb dX8_sendingLook_101 (by decide) ?_
      exact gr_lR X hP hS (Option.some.inj hf) dX8_sendingLook_105
  rw [if_neg h8_4] at hf
  by_cases h8_5 : x3 = (5 : Int32)
  · rw [if_pos h8_5] at hf
    refine lv_tableIn (tgt := 106) hx hb dX8_sendingLook_8 (by rw [h8_5]; decide) (by rw [h8_5]; decide) (by rw [h8_5]; rfl) (by decide) ?_
    refine lv_aload_n hx hb dX8_sendingLook_106 rfl (lv_at hl 1 rfl) ?_
    refine lv_iload_n hx hb dX8_sendingLook_107 rfl (lv_at hl 2 rfl) ?_
    refine lv_iload_n hx hb dX8_sendingLook_108 rfl (lv_at hl 3 rfl) ?_
    refine lv_iconst (v := 2) hx hb dX8_sendingLook_109 (by decide) ?_
    obtain ⟨v5, hq, hf⟩ := gB_some hf
    refine gc_i (gc_fixV (S := S) X (mt_X8_count l D dA A ad S x1 x2 (2 : Int32) hq) (lw_V q1319 q1321 qs42 q93 q1322) ⟨rfl, rfl⟩ hd_X8_count ⟨Nat.le_trans (Nat.le_of_ble_eq_true rfl) hR.1, Nat.le_trans (Nat.le_of_ble_eq_true rfl) hR.2⟩ (wd_recv (r := M_o) (ci := 0) (q := (RX8, TX8, 61)) X.hK.1 hP ⟨rfl, rfl⟩ rfl rfl) hP hS ⟨Nat.zero_le _, Nat.zero_le _⟩ rfl hl.1 rfl (Nat.le_of_ble_eq_true rfl) dX8_sendingLook_110) hS ?_
    rintro _ _ H locs ⟨rfl, rfl⟩ hP hS
    refine lv_i2l hx hb dX8_sendingLook_113 rfl ?_
    exact gr_lR X hP hS (Option.some.inj hf) dX8_sendingLook_114
  rw [if_neg h8_5] at hf
  by_cases h8_6 : x3 = (6 : Int32)
  · rw [if_pos h8_6] at hf
    refine lv_tableIn (tgt := 115) hx hb dX8_sendingLook_8 (by rw [h8_6]; decide) (by rw [h8_6]; decide) (by rw [h8_6]; rfl) (by decide) ?_
    refine lv_aload_n hx hb dX8_sendingLook_115 rfl (lv_at hl 1 rfl) ?_
    refine lv_iload_n hx hb dX8_sendingLook_116 rfl (lv_at hl 2 rfl) ?_
    refine lv_iload_n hx hb dX8_sendingLook_117 rfl (lv_at hl 3 rfl) ?_
    refine lv_iconst (v := 3) hx hb dX8_sendingLook_118 (by decide) ?_
    obtain ⟨v6, hq, hf⟩ := gB_some hf
    refine gc_i (gc_fixV (S := S) X (mt_X8_count l D dA A ad S x1 x2 (3 : Int32) hq) (lw_V q1319 q1321 qs42 q93 q1322) ⟨rfl, rfl⟩ hd_X8_count ⟨Nat.le_trans (Nat.le_of_ble_eq_true rfl) hR.1, Nat.le_trans (Nat.le_of_ble_eq_true rfl) hR.2⟩ (wd_recv (r := M_o) (ci := 0) (q := (RX8, TX8, 61)) X.hK.1 hP ⟨rfl, rfl⟩ rfl rfl) hP hS ⟨Nat.zero_le _, Nat.zero_le _⟩ rfl hl.1 rfl (Nat.le_of_ble_eq_true rfl) dX8_sendingLook_119) hS ?_
    rintro _ _ H locs ⟨rfl, rfl⟩ hP hS
    refine lv_i2l hx hb dX8_sendingLook_122 rfl ?_
    exact gr_lR X hP hS (Option.some.inj hf) dX8_sendingLook_123
  rw [if_neg h8_6] at hf
  suffices hd8 : W p l e R s m args below meth c H locs 0 0 (MQ below (QjR D (shM dA) exM A ad S res) args s 0 0 A) (F0 m 124 ls []) by
    have n0 := lv_neT h8_0 (show (0 : Int32).toInt = 0 by decide)
    have n1 := lv_neT h8_1 (show (1 : Int32).toInt = 1 by decide)
    have n2 := lv_neT h8_2 (show (2 : Int32).toInt = 2 by decide)
    have n3 := lv_neT h8_3 (show (3 : Int32).toInt = 3 by decide)
    have n4 := lv_neT h8_4 (show (4 : Int32).toInt = 4 by decide)
    have n5 := lv_neT h8_5 (show (5 : Int32).toInt = 5 by decide)
    have n6 := lv_neT h8_6 (show (6 : Int32).toInt = 6 by decide)
    exact lv_tableOut (tgt := 124) hx hb dX8_sendingLook_8 (by omega) (by decide) hd8
  refine lv_aload_n hx hb dX8_sendingLook_124 rfl (lv_at hl 1 rfl) ?_
  refine lv_iload hx hb dX8_sendingLook_125 (lv_at hl 0 rfl) ?_
  obtain ⟨v7, hq, hf⟩ := gB_some hf
  refine gc_i (gc_fixV (S := S) X (mt_X8_endOf l D dA A ad S v1 hq) (lw_V q1552 q1554 qs83 q93 q1555) ⟨rfl, rfl⟩ hd_X8_endOf ⟨Nat.le_trans (Nat.le_of_ble_eq_true rfl) hR.1, Nat.le_trans (Nat.le_of_ble_eq_true rfl) hR.2⟩ (wd_recv (r := M_o) (ci := 0) (q := (RX8, TX8, 61)) X.hK.1 hP ⟨rfl, rfl⟩ rfl rfl) hP hS ⟨Nat.zero_le _, Nat.zero_le _⟩ rfl hl.1 rfl (Nat.le_of_ble_eq_true rfl) dX8_sendingLook_127) hS ?_
  rintro _ _ H locs ⟨rfl, rfl⟩ hP hS
  refine lv_i2l hx hb dX8_sendingLook_130 rfl ?_
  exact gr_lR X hP hS (Option.some.inj hf) dX8_sendingLook_131
theorem hd_X8_sendingLook : yX8_sendingLook.cls = RX8 ∧ yX8_sendingLook.cls ≠ "java/lang/invoke/MethodHandle" ∧ yX8_sendingLook.cls ≠ "java/lang/invoke/VarHandle" ∧ (parseMethodDescriptor yX8_sendingLook.desc).map (fun d => d.parameters.length) = some 3 := by decide +kernel
set_option maxHeartbeats 4000000 in
theorem mt_X8_sendingLook (l : Launch) (D : va_G) (dA : Nat → ClassId) (A : Nat → Prop) (ad : L3 → Nat) (S : Mem) (x1 : Int32) (x2 : Int32) (x3 : Int32) {res : Int64} (hq : f_X8_sendingLook S x1 x2 x3 = some res) : Met l yX8_sendingLook (ws_ yX8_sendingLook cX8_sendingLook 5 (some .long)) ({ frames := 4, cells := 0, slots := 0, locals := 90 } : Room) (va_Pc [.ref (ad M_o), .int x1, .int x2, .int x3] (PreW D dA (shM dA) exM A ad S)) (QjR D (shM dA) exM A ad S res) 0 0 A :=
  gx_head (by decide) (Nat.le_of_ble_eq_true rfl) (fun p e s m below meth c ls X hP hl => w_X8_sendingLook (l := l) X ⟨Nat.le_of_ble_eq_true rfl, Nat.le_of_ble_eq_true rfl⟩ S x1 x2 x3 hP va_S.rf (lv_sub (l := [(0, .ref (ad M_o)), (1, .int x1), (2, .int x2), (3, .int x3)]) hl [0, 1, 2, 3] rfl) hq)
set_option maxHeartbeats 4000000 in
theorem w_X8_receivingLook {p : Program} {l : Launch} {e : Env} {R : Room} {s : State} {m : MethodId} {args : Array Value} {below : List Frame} {meth : Method} {c : Code} {D : va_G} {dA : Nat → ClassId} {A : Nat → Prop} {ad : L3 → Nat} (X : CX RX8 cX8_receivingLook 5 (some .long) (KA D dA) p s m args meth c A) (hR : 5 ≤ R.frames ∧ 116 ≤ R.locals) {res : Int64} (S : Mem) (x1 : Int32) (x2 : Int32) (x3 : Int32) {H : Heap} {locs : List Loc} {ls : Array Slot} (hP : Wd D clA (shM dA) exM A ad S H) (hS : va_S A s.heap H locs) (hl : lv_has ls 5 [(0, .ref (ad M_o)), (1, .int x1), (2, .int x2), (3, .int x3)]) (hf : f_X8_receivingLook S x1 x2 x3 = some res) : W p l e R s m args below meth c H locs 0 0 (MQ below (QjR D (shM dA) exM A ad S res) args s 0 0 A) (F0 m 0 ls []) := by
  have hx := X.hx
  have hb := X.hb
  unfold f_X8_receivingLook at hf
  refine lv_iload_n hx hb dX8_receivingLook_0 rfl (lv_at hl 1 rfl) ?_
  refine lv_iload_n hx hb dX8_receivingLook_1 rfl (lv_at hl 2 rfl) ?_
  obtain ⟨v1, hq, hf⟩ := gS_eq hf
  refine gc_i (gc_fixS (S := S) X (mt_X8_at l D dA A ad S x1 x2 hq) (lw_S q1283 q1284 q93 q1285) ⟨rfl, rfl⟩ hd_X8_at.2 ⟨Nat.le_trans (Nat.le_of_ble_eq_true rfl) hR.1, Nat.le_trans (Nat.le_of_ble_eq_true rfl) hR.2⟩ hP hS ⟨Nat.zero_le _, Nat.zero_le _⟩ rfl hl.1 rfl (Nat.le_of_ble_eq_true rfl) dX8_receivingLook_2) hS ?_
  rintro _ _ H locs ⟨rfl, rfl⟩ hP hS
  refine lv_istore (lv' := [(4, .int v1), (0, .ref (ad M_o)), (1, .int x1), (2, .int x2), (3, .int x3)]) hx hb dX8_receivingLook_5 hl (by decide) rfl (fun ls hl => ?_)
  refine lv_iload_n hx hb dX8_receivingLook_7 rfl (lv_at hl 4 rfl) ?_
  by_cases h8_8 : x3 = (8 : Int32)
  · rw [if_pos h8_8] at hf
    refine lv_tableIn (tgt := 48) hx hb dX8_receivingLook_8 (by rw [h8_8]; decide) (by rw [h8_8]; decide) (by rw [h8_8]; rfl) (by decide) ?_
    refine lv_aload_n hx hb dX8_receivingLook_48 rfl (lv_at hl 1 rfl) ?_
    refine lv_iload_n hx hb dX8_receivingLook_49 rfl (lv_at hl 2 rfl) ?_
    refine lv_iload_n hx hb dX8_receivingLook_50 rfl (lv_at hl 3 rfl) ?_
    obtain ⟨v2, hq, hf⟩ := gB_some hf
    refine gc_i (gc_fixV (S := S) X (mt_X8_receiving l D dA A ad S x1 x2 hq) (lw_V q1355 q1357 qs47 q93 q1358) ⟨rfl, rfl⟩ hd_X8_receiving ⟨Nat.le_trans (Nat.le_of_ble_eq_true rfl) hR.1, Nat.le_trans (Nat.le_of_ble_eq_true rfl) hR.2⟩ (wd_recv (r := M_o) (ci := 0) (q := (RX8, TX8, 61)) X.hK.1 hP ⟨rfl, rfl⟩ rfl rfl) hP hS ⟨Nat.zero_le _, Nat.zero_le _⟩ rfl hl.1 rfl (Nat.le_of_ble_eq_true rfl) dX8_receivingLook_51) hS ?_
    rintro _ _ H locs ⟨rfl, rfl⟩ hP hS
    refine lv_i2l hx hb dX8_receivingLook_54 rfl ?_
    exact gr_lR X hP hS (Option.some.inj hf) dX8_receivingLook_55
  rw [if_neg h8_8] at hf
  by_cases h8_9 : x3 = (9 : Int32)
  · rw [if_pos h8_9] at hf
    refine lv_tableIn (tgt := 56) hx hb dX8_receivingLook_8 (by rw [h8_9]; decide) (by rw [h8_9]; decide) (by rw [h8_9]; rfl) (by decide) ?_
    refine lv_aload_n hx hb dX8_receivingLook_56 rfl (lv_at hl 1 rfl) ?_
    refine rg_X8_81 X hP dX8_receivingLook_57 ?_
    refine lv_iload hx hb dX8_receivingLook_60 (lv_at hl 0 rfl) ?_
    refine ra_read_ld X hP dX8_receivingLook_62 hf (fun hf => ?_)
    exact gr_lR X hP hS (Option.some.inj hf) dX8_receivingLook_63
  rw [if_neg h8_9] at hf
  by_cases h8_10 : x3 = (10 : Int32)
  · rw [if_pos h8_10] at hf
    refine lv_tableIn (tgt := 64) hx hb dX8_receivingLook_8 (by rw [h8_10]; decide) (by rw [h8_10]; decide) (by rw [h8_10]; rfl) (by decide) ?_
    refine lv_aload_n hx hb dX8_receivingLook_64 rfl (lv_at hl 1 rfl) ?_
    refine lv_iload_n hx hb dX8_receivingLook_65 rfl (lv_at hl 2 rfl) ?_
    refine lv_iload_n hx hb dX8_receivingLook_66 rfl (lv_at hl 3 rfl) ?_
    obtain ⟨v3, hq, hf⟩ := gB_some hf
    refine gc_l (gc_fixV (S := S) X (mt_X8_readyOf l D dA A ad S x1 x2 hq) (lw_V q1359 q1361 qs48 q93 q1362) ⟨rfl, rfl⟩ hd_X8_readyOf ⟨Nat.le_trans (Nat.le_of_ble_eq_true rfl) hR.1, Nat.le_trans (Nat.le_of_ble_eq_true rfl) hR.2⟩ (wd_recv (r := M_o) (ci := 0) (q := (RX8, TX8, 61)) X.hK.1 hP ⟨rfl, rfl⟩ rfl rfl) hP hS ⟨Nat.zero_le _, Nat.zero_le _⟩ rfl hl.1 rfl (Nat.le_of_ble_eq_true rfl) dX8_receivingLook_67) hS ?_
    rintro _ _ H locs ⟨rfl, rfl⟩ hP hS
    exact gr_lR X hP hS (Option.some.inj hf) dX8_receivingLook_70
  rw [if_neg h8_10] at hf
  by_cases h8_11 : x3 = (11 : Int32)
  · rw [if_pos h8_11] at hf
    refine lv_tableIn (tgt := 71) hx hb dX8_receivingLook_8 (by rw [h8_11]; decide) (by rw [h8_11]; decide) (by rw [h8_11]; rfl) (by decide) ?_
    refine lv_aload_n hx hb dX8_receivingLook_71 rfl (lv_at hl 1 rfl) ?_
    refine rg_X8_75 X hP dX8_receivingLook_72 ?_
    refine lv_iload hx hb dX8_receivingLook_75 (lv_at hl 0 rfl) ?_
    refine ra_highest_ld X hP dX8_receivingLook_77 hf (fun hf => ?_)
    exact gr_lR X hP hS (Option.some.inj hf) dX8_receivingLook_78
  rw [if_neg h8_11] at hf
  by_cases h8_12 : x3 = (12 : Int32)
  · rw [if_pos h8_12] at hf
    refine lv_tableIn (tgt := 79) hx hb dX8_receivingLook_8 (by rw [h8_12]; decide) (by rw [h8_12]; decide) (by rw [h8_12]; rfl) (by decide) ?_
    refine lv_aload_n hx hb dX8_receivingLook_79 rfl (lv_at hl 1 rfl) ?_
    refine rg_X8_78 X hP dX8_receivingLook_80 ?_
    refine lv_iload hx hb dX8_receivingLook_83 (lv_at hl 0 rfl) ?_
    refine ra_size_ld X hP dX8_receivingLook_85 hf (fun hf => ?_)
    exact gr_lR X hP hS (Option.some.inj hf) dX8_receivingLook_86
  rw [if_neg h8_12] at hf
  by_cases h8_13 : x3 = (13 : Int32)
  · rw [if_pos h8_13] at hf
    refine lv_tableIn (tgt := 87) hx hb dX8_receivingLook_8 (by rw [h8_13]; decide) (by rw [h8_13]; decide) (by rw [h8_13]; rfl) (by decide) ?_
    refine lv_aload_n hx hb dX8_receivingLook_87 rfl (lv_at hl 1 rfl) ?_
    refine rg_X8_90 X hP dX8_receivingLook_88 ?_
    refine lv_iload hx hb dX8_receivingLook_91 (lv_at hl 0 rfl) ?_
    refine ra_grant_ld X hP dX8_receivingLook_93 hf (fun hf => ?_)
    exact gr_lR X hP hS (Option.some.inj hf) dX8_receivingLook_94
  rw [if_neg h8_13] at hf
  suffices hd8 : W p l e R s m args below meth c H locs 0 0 (MQ below (QjR D (shM dA) exM A ad S res) args s 0 0 A) (F0 m 95 ls []) by
    have n8 := lv_neT h8_8 (show (8 : Int32).toInt = 8 by decide)
    have n9 := lv_neT h8_9 (show (9 : Int32).toInt = 9 by decide)
    have n10 := lv_neT h8_10 (show (10 : Int32).toInt = 10 by decide)
    have n11 := lv_neT h8_11 (show (11 : Int32).toInt = 11 by decide)
    have n12 := lv_neT h8_12 (show (12 : Int32).toInt = 12 by decide)
    have n13 := lv_neT h8_13 (show (13 : Int32).toInt = 13 by decide)
    exact lv_tableOut (tgt := 95) hx hb dX8_receivingLook_8 (by omega) (by decide) hd8
  refine lv_aload_n hx hb dX8_receivingLook_95 rfl (lv_at hl 1 rfl) ?_
  refine rg_X8_84 X hP dX8_receivingLook_96 ?_
  refine lv_iload hx hb dX8_receivingLook_99 (lv_at hl 0 rfl) ?_
  refine ra_wasReset_ld X hP dX8_receivingLook_101 hf (fun hf => ?_)
  refine gb_if_eq (tgt := 115) hx hb dX8_receivingLook_102 (by decide) hf (fun hf => ?_) (fun hf => ?_)
  · refine lv_lconst (v := 0) hx hb dX8_receivingLook_115 (by decide) ?_
    exact gr_lR X hP hS (Option.some.inj hf) dX8_receivingLook_116
  · refine lv_aload_n hx hb dX8_receivingLook_105 rfl (lv_at hl 1 rfl) ?_
    refine rg_X8_87 X hP dX8_receivingLook_106 ?_
    refine lv_iload hx hb dX8_receivingLook_109 (lv_at hl 0 rfl) ?_
    refine ra_theirCode_ld X hP dX8_receivingLook_111 hf (fun hf => ?_)
    refine lv_goto (tgt := 116) hx hb dX8_receivingLook_112 (by decide) ?_
    exact gr_lR X hP hS (Option.some.inj hf) dX8_receivingLook_116
theorem hd_X8_receivingLook : yX8_receivingLook.cls = RX8 ∧ yX8_receivingLook.cls ≠ "java/lang/invoke/MethodHandle" ∧ yX8_receivingLook.cls ≠ "java/lang/invoke/VarHandle" ∧ (parseMethodDescriptor yX8_receivingLook.desc).map (fun d => d.parameters.length) = some 3 := by decide +kernel
set_option maxHeartbeats 4000000 in
theorem mt_X8_receivingLook (l : Launch) (D : va_G) (dA : Nat → ClassId) (A : Nat → Prop) (ad : L3 → Nat) (S : Mem) (x1 : Int32) (x2 : Int32) (x3 : Int32) {res : Int64} (hq : f_X8_receivingLook S x1 x2 x3 = some res) : Met l yX8_receivingLook (ws_ yX8_receivingLook cX8_receivingLook 5 (some .long)) ({ frames := 5, cells := 0, slots := 0, locals := 116 } : Room) (va_Pc [.ref (ad M_o), .int x1, .int x2, .int x3] (PreW D dA (shM dA) exM A ad S)) (QjR D (shM dA) exM A ad S res) 0 0 A :=
  gx_head (by decide) (Nat.le_of_ble_eq_true rfl) (fun p e s m below meth c ls X hP hl => w_X8_receivingLook (l := l) X ⟨Nat.le_of_ble_eq_true rfl, Nat.le_of_ble_eq_true rfl⟩ S x1 x2 x3 hP va_S.rf (lv_sub (l := [(0, .ref (ad M_o)), (1, .int x1), (2, .int x2), (3, .int x3)]) hl [0, 1, 2, 3] rfl) hq)
set_option maxHeartbeats 4000000 in
theorem w_X8_stream_23 {p : Program} {l : Launch} {e : Env} {R : Room} {s : State} {m : MethodId} {args : Array Value} {below : List Frame} {meth : Method} {c : Code} {D : va_G} {dA : Nat → ClassId} {A : Nat → Prop} {ad : L3 → Nat} (X : CX RX8 cX8_stream 4 (some .long) (KA D dA) p s m args meth c A) (hR : 6 ≤ R.frames ∧ 140 ≤ R.locals) {res : Mem × Int64} (S : Mem) (x1 : Int32) (x2 : Int32) (x3 : Int32) (y0 : Int32) {H : Heap} {locs : List Loc} {ls : Array Slot} (hP : Wd D clA (shM dA) exM A ad S H) (hS : va_S A s.heap H locs) (hl : lv_has ls 4 [(0, .ref (ad M_o)), (1, .int x1), (2, .int x2), (3, .int x3)]) (hf : f_X8_stream_23 S x1 x2 x3 y0 = some res) : W p l e R s m args below meth c H locs 0 0 (MQ below (QjW D (shM dA) exM A ad res) args s 0 0 A) (F0 m 23 ls [.int y0, .ref (ad M_o)]) := by
  have hx := X.hx
  have hb := X.hb
  unfold f_X8_stream_23 at hf
  refine lv_iconst (v := 1) hx hb dX8_stream_23 (by decide) ?_
  obtain ⟨S1, v2, hq, hf⟩ := gB2_some hf
  refine gc_i (gc_fixV (S := S) X (mt_X8_fails l D dA A ad S y0 (1 : Int32) hq) (lw_V q1262 q1264 qs35 q93 q1265) ⟨rfl, rfl⟩ hd_X8_fails ⟨Nat.le_trans (Nat.le_of_ble_eq_true rfl) hR.1, Nat.le_trans (Nat.le_of_ble_eq_true rfl) hR.2⟩ (wd_recv (r := M_o) (ci := 0) (q := (RX8, TX8, 61)) X.hK.1 hP ⟨rfl, rfl⟩ rfl rfl) hP hS ⟨Nat.zero_le _, Nat.zero_le _⟩ rfl hl.1 rfl (Nat.le_of_ble_eq_true rfl) dX8_stream_24) hS ?_
  rintro _ _ H locs ⟨⟩ hP hS
  refine gb_if_eq (tgt := 32) hx hb dX8_stream_27 (by decide) hf (fun hf => ?_) (fun hf => ?_)
  · refine lv_iload_n hx hb dX8_stream_32 rfl (lv_at hl 3 rfl) ?_
    refine lv_bipush (v := 8) hx hb dX8_stream_33 (by decide) ?_
    refine gb_icmp_ge (tgt := 61) hx hb dX8_stream_35 (by decide) hf (fun hf => ?_) (fun hf => ?_)
    · refine lv_aload_n hx hb dX8_stream_61 rfl (lv_at hl 0 rfl) ?_
      refine lv_iload_n hx hb dX8_stream_62 rfl (lv_at hl 1 rfl) ?_
      refine lv_iload_n hx hb dX8_stream_63 rfl (lv_at hl 2 rfl) ?_
      obtain ⟨v3, hq, hf⟩ := gB_some hf
      refine gc_i (gc_fixV (S := S1) X (mt_X8_hasReceiving l D dA A ad S1 x1 x2 hq) (lw_V q1348 q1350 qs46 q93 q1351) ⟨rfl, rfl⟩ hd_X8_hasReceiving ⟨Nat.le_trans (Nat.le_of_ble_eq_true rfl) hR.1, Nat.le_trans (Nat.le_of_ble_eq_true rfl) hR.2⟩ (wd_recv (r := M_o) (ci := 0) (q := (RX8, TX8, 61)) X.hK.1 hP ⟨rfl, rfl⟩ rfl rfl) hP hS ⟨Nat.zero_le _, Nat.zero_le _⟩ rfl hl.1 rfl (Nat.le_of_ble_eq_true rfl) dX8_stream_64) hS ?_
      rintro _ _ H locs ⟨rfl, rfl⟩ hP hS
      refine gb_if_eq (tgt := 80) hx hb dX8_stream_67 (by decide) hf (fun hf => ?_) (fun hf => ?_)
      · refine lv_ldc2 hx hb X.hown (X.hts _ q1063) dX8_stream_80 ?_
        exact gr_lW X hP hS (Option.some.inj hf) dX8_stream_83
      · refine lv_aload_n hx hb dX8_stream_70 rfl (lv_at hl 0 rfl) ?_
        refine lv_iload_n hx hb dX8_stream_71 rfl (lv_at hl 1 rfl) ?_
        refine lv_iload_n hx hb dX8_stream_72 rfl (lv_at hl 2 rfl) ?_
        refine lv_iload_n hx hb dX8_stream_73 rfl (lv_at hl 3 rfl) ?_
        obtain ⟨v4, hq, hf⟩ := gB_some hf
        refine gc_l (gc_fixV (S := S1) X (mt_X8_receivingLook l D dA A ad S1 x1 x2 x3 hq) (lw_V q1556 q1558 qs84 q93 q1559) ⟨rfl, rfl⟩ hd_X8_receivingLook ⟨Nat.le_trans (Nat.le_of_ble_eq_true rfl) hR.1, Nat.le_trans (Nat.le_of_ble_eq_true rfl) hR.2⟩ (wd_recv (r := M_o) (ci := 0) (q := (RX8, TX8, 61)) X.hK.1 hP ⟨rfl, rfl⟩ rfl rfl) hP hS ⟨Nat.zero_le _, Nat.zero_le _⟩ rfl hl.1 rfl (Nat.le_of_ble_eq_true rfl) dX8_stream_74) hS ?_
        rintro _ _ H locs ⟨rfl, rfl⟩ hP hS
        refine lv_goto (tgt := 83) hx hb dX8_stream_77 (by decide) ?_
        exact gr_lW X hP hS (Option.some.inj hf) dX8_stream_83
    · refine lv_aload_n hx hb dX8_stream_38 rfl (lv_at hl 0 rfl) ?_
      refine lv_iload_n hx hb dX8_stream_39 rfl (lv_at hl 1 rfl) ?_
      refine lv_iload_n hx hb dX8_stream_40 rfl (lv_at hl 2 rfl) ?_
      obtain ⟨v5, hq, hf⟩ := gB_some hf
      refine gc_i (gc_fixV (S := S1) X (mt_X8_hasSending l D dA A ad S1 x1 x2 hq) (lw_V q1304 q1306 qs39 q93 q1307) ⟨rfl, rfl⟩ hd_X8_hasSending ⟨Nat.le_trans (Nat.le_of_ble_eq_true rfl) hR.1, Nat.le_trans (Nat.le_of_ble_eq_true rfl) hR.2⟩ (wd_recv (r := M_o) (ci := 0) (q := (RX8, TX8, 61)) X.hK.1 hP ⟨rfl, rfl⟩ rfl rfl) hP hS ⟨Nat.zero_le _, Nat.zero_le _⟩ rfl hl.1 rfl (Nat.le_of_ble_eq_true rfl) dX8_stream_41) hS ?_
      rintro _ _ H locs ⟨rfl, rfl⟩ hP hS
      refine gb_if_eq (tgt := 57) hx hb dX8_stream_44 (by decide) hf (fun hf => ?_) (fun hf => ?_)
      · refine lv_ldc2 hx hb X.hown (X.hts _ q1063) dX8_stream_57 ?_
        exact gr_lW X hP hS (Option.some.inj hf) dX8_stream_60
      · refine lv_aload_n hx hb dX8_stream_47 rfl (lv_at hl 0 rfl) ?_
        refine lv_iload_n hx hb dX8_stream_48 rfl (lv_at hl 1 rfl) ?_
        refine lv_iload_n hx hb dX8_stream_49 rfl (lv_at hl 2 rfl) ?_
        refine lv_iload_n hx hb dX8_stream_50 rfl (lv_at hl 3 rfl) ?_
        obtain ⟨v6, hq, hf⟩ := gB_some hf
        refine gc_l (gc_fixV (S := S1) X (mt_X8_sendingLook l D dA A ad S1 x1 x2 x3 hq) (lw_V q1548 q1550 qs82 q93 q1551) ⟨rfl, rfl⟩ hd_X8_sendingLook ⟨Nat.le_trans (Nat.le_of_ble_eq_true rfl) hR.1, Nat.le_trans (Nat.le_of_ble_eq_true rfl) hR.2⟩ (wd_recv (r := M_o) (ci := 0) (q := (RX8, TX8, 61)) X.hK.1 hP ⟨rfl, rfl⟩ rfl rfl) hP hS ⟨Nat.zero_le _, Nat.zero_le _⟩ rfl hl.1 rfl (Nat.le_of_ble_eq_true rfl) dX8_stream_51) hS ?_
        rintro _ _ H locs ⟨rfl, rfl⟩ hP hS
        refine lv_goto (tgt := 60) hx hb dX8_stream_54 (by decide) ?_
        exact gr_lW X hP hS (Option.some.inj hf) dX8_stream_60
  · refine lv_lconst (v := 0) hx hb dX8_stream_30 (by decide) ?_
    exact gr_lW X hP hS (Option.some.inj hf) dX8_stream_31
set_option maxHeartbeats 4000000 in
theorem w_X8_stream_18 {p : Program} {l : Launch} {e : Env} {R : Room} {s : State} {m : MethodId} {args : Array Value} {below : List Frame} {meth : Method} {c : Code} {D : va_G} {dA : Nat → ClassId} {A : Nat → Prop} {ad : L3 → Nat} (X : CX RX8 cX8_stream 4 (some .long) (KA D dA) p s m args meth c A) (hR : 6 ≤ R.frames ∧ 140 ≤ R.locals) {res : Mem × Int64} (S : Mem) (x1 : Int32) (x2 : Int32) (x3 : Int32) {H : Heap} {locs : List Loc} {ls : Array Slot} (hP : Wd D clA (shM dA) exM A ad S H) (hS : va_S A s.heap H locs) (hl : lv_has ls 4 [(0, .ref (ad M_o)), (1, .int x1), (2, .int x2), (3, .int x3)]) (hf : f_X8_stream_18 S x1 x2 x3 = some res) : W p l e R s m args below meth c H locs 0 0 (MQ below (QjW D (shM dA) exM A ad res) args s 0 0 A) (F0 m 18 ls [.ref (ad M_o)]) := by
  have hx := X.hx
  have hb := X.hb
  unfold f_X8_stream_18 at hf
  refine lv_iconst (v := 1) hx hb dX8_stream_18 (by decide) ?_
  refine lv_goto (tgt := 23) hx hb dX8_stream_19 (by decide) ?_
  exact w_X8_stream_23 X hR S x1 x2 x3 1 hP hS (lv_sub hl [0, 1, 2, 3] rfl) hf
set_option maxHeartbeats 4000000 in
theorem w_X8_stream {p : Program} {l : Launch} {e : Env} {R : Room} {s : State} {m : MethodId} {args : Array Value} {below : List Frame} {meth : Method} {c : Code} {D : va_G} {dA : Nat → ClassId} {A : Nat → Prop} {ad : L3 → Nat} (X : CX RX8 cX8_stream 4 (some .long) (KA D dA) p s m args meth c A) (hR : 6 ≤ R.frames ∧ 140 ≤ R.locals) {res : Mem × Int64} (S : Mem) (x1 : Int32) (x2 : Int32) (x3 : Int32) {H : Heap} {locs : List Loc} {ls : Array Slot} (hP : Wd D clA (shM dA) exM A ad S H) (hS : va_S A s.heap H locs) (hl : lv_has ls 4 [(0, .ref (ad M_o)), (1, .int x1), (2, .int x2), (3, .int x3)]) (hf : f_X8_stream S x1 x2 x3 = some res) : W p l e R s m args below meth c H locs 0 0 (MQ below (QjW D (shM dA) exM A ad res) args s 0 0 A) (F0 m 0 ls []) := by
  have hx := X.hx
  have hb := X.hb
  unfold f_X8_stream at hf
  refine lv_aload_n hx hb dX8_stream_0 rfl (lv_at hl 0 rfl) ?_
  refine lv_iload_n hx hb dX8_stream_1 rfl (lv_at hl 1 rfl) ?_
  obtain ⟨v1, hq, hf⟩ := gS_eq hf
  refine gc_i (gc_fixS (S := S) X (mt_X8_noSide l D dA A ad S x1 hq) (lw_S q1258 q1259 q93 q1260) ⟨rfl, rfl⟩ hd_X8_noSide.2 ⟨Nat.le_trans (Nat.le_of_ble_eq_true rfl) hR.1, Nat.le_trans (Nat.le_of_ble_eq_true rfl) hR.2⟩ hP hS ⟨Nat.zero_le _, Nat.zero_le _⟩ rfl hl.1 rfl (Nat.le_of_ble_eq_true rfl) dX8_stream_2) hS ?_
  rintro _ _ H locs ⟨rfl, rfl⟩ hP hS
  refine gb_if_ne (tgt := 18) hx hb dX8_stream_5 (by decide) hf (fun hf => ?_) (fun hf => ?_)
  · exact w_X8_stream_18 X hR S x1 x2 x3 hP hS (lv_sub hl [0, 1, 2, 3] rfl) hf
  · refine lv_iload_n hx hb dX8_stream_8 rfl (lv_at hl 3 rfl) ?_
    refine gb_if_lt (tgt := 18) hx hb dX8_stream_9 (by decide) hf (fun hf => ?_) (fun hf => ?_)
    · exact w_X8_stream_18 X hR S x1 x2 x3 hP hS (lv_sub hl [0, 1, 2, 3] rfl) hf
    · refine lv_iload_n hx hb dX8_stream_12 rfl (lv_at hl 3 rfl) ?_
      refine lv_bipush (v := 14) hx hb dX8_stream_13 (by decide) ?_
      refine gb_icmp_le (tgt := 22) hx hb dX8_stream_15 (by decide) hf (fun hf => ?_) (fun hf => ?_)
      · refine lv_iconst (v := 0) hx hb dX8_stream_22 (by decide) ?_
        exact w_X8_stream_23 X hR S x1 x2 x3 0 hP hS (lv_sub hl [0, 1, 2, 3] rfl) hf
      · exact w_X8_stream_18 X hR S x1 x2 x3 hP hS (lv_sub hl [0, 1, 2, 3] rfl) hf
theorem hd_X8_stream : yX8_stream.cls = RX8 ∧ yX8_stream.cls ≠ "java/lang/invoke/MethodHandle" ∧ yX8_stream.cls ≠ "java/lang/invoke/VarHandle" ∧ (parseMethodDescriptor yX8_stream.desc).map (fun d => d.parameters.length) = some 3 := by decide +kernel
set_option maxHeartbeats 4000000 in
theorem mt_X8_stream (l : Launch) (D : va_G) (dA : Nat → ClassId) (A : Nat → Prop) (ad : L3 → Nat) (S : Mem) (x1 : Int32) (x2 : Int32) (x3 : Int32) {res : Mem × Int64} (hq : f_X8_stream S x1 x2 x3 = some res) : Met l yX8_stream (ws_ yX8_stream cX8_stream 4 (some .long)) ({ frames := 6, cells := 0, slots := 0, locals := 140 } : Room) (va_Pc [.ref (ad M_o), .int x1, .int x2, .int x3] (PreW D dA (shM dA) exM A ad S)) (QjW D (shM dA) exM A ad res) 0 0 A :=
  gx_head (by decide) (Nat.le_of_ble_eq_true rfl) (fun p e s m below meth c ls X hP hl => w_X8_stream (l := l) X ⟨Nat.le_of_ble_eq_true rfl, Nat.le_of_ble_eq_true rfl⟩ S x1 x2 x3 hP va_S.rf (lv_sub (l := [(0, .ref (ad M_o)), (1, .int x1), (2, .int x2), (3, .int x3)]) hl [0, 1, 2, 3] rfl) hq)
set_option maxHeartbeats 4000000 in
theorem w_X8_side_23 {p : Program} {l : Launch} {e : Env} {R : Room} {s : State} {m : MethodId} {args : Array Value} {below : List Frame} {meth : Method} {c : Code} {D : va_G} {dA : Nat → ClassId} {A : Nat → Prop} {ad : L3 → Nat} (X : CX RX8 cX8_side 3 (some .long) (KA D dA) p s m args meth c A) (hR : 3 ≤ R.frames ∧ 65 ≤ R.locals) {res : Mem × Int64} (S : Mem) (x1 : Int32) (x2 : Int32) (y0 : Int32) {H : Heap} {locs : List Loc} {ls : Array Slot} (hP : Wd D clA (shM dA) exM A ad S H) (hS : va_S A s.heap H locs) (hl : lv_has ls 3 [(0, .ref (ad M_o)), (1, .int x1), (2, .int x2)]) (hf : f_X8_side_23 S x1 x2 y0 = some res) : W p l e R s m args below meth c H locs 0 0 (MQ below (QjW D (shM dA) exM A ad res) args s 0 0 A) (F0 m 23 ls [.int y0, .ref (ad M_o)]) := by
  have hx := X.hx
  have hb := X.hb
  unfold f_X8_side_23 at hf
  refine lv_iconst (v := 1) hx hb dX8_side_23 (by decide) ?_
  obtain ⟨S1, v2, hq, hf⟩ := gB2_some hf
  refine gc_i (gc_fixV (S := S) X (mt_X8_fails l D dA A ad S y0 (1 : Int32) hq) (lw_V q1262 q1264 qs35 q93 q1265) ⟨rfl, rfl⟩ hd_X8_fails ⟨Nat.le_trans (Nat.le_of_ble_eq_true rfl) hR.1, Nat.le_trans (Nat.le_of_ble_eq_true rfl) hR.2⟩ (wd_recv (r := M_o) (ci := 0) (q := (RX8, TX8, 61)) X.hK.1 hP ⟨rfl, rfl⟩ rfl rfl) hP hS ⟨Nat.zero_le _, Nat.zero_le _⟩ rfl hl.1 rfl (Nat.le_of_ble_eq_true rfl) dX8_side_24) hS ?_
  rintro _ _ H locs ⟨⟩ hP hS
  refine gb_if_eq (tgt := 32) hx hb dX8_side_27 (by decide) hf (fun hf => ?_) (fun hf => ?_)
  · refine lv_iload_n hx hb dX8_side_32 rfl (lv_at hl 2 rfl) ?_
    by_cases h33_0 : x2 = (0 : Int32)
    · rw [if_pos h33_0] at hf
      refine lv_tableIn (tgt := 100) hx hb dX8_side_33 (by rw [h33_0]; decide) (by rw [h33_0]; decide) (by rw [h33_0]; rfl) (by decide) ?_
      refine lv_aload_n hx hb dX8_side_100 rfl (lv_at hl 0 rfl) ?_
      refine lv_iload_n hx hb dX8_side_101 rfl (lv_at hl 1 rfl) ?_
      obtain ⟨v3, hq, hf⟩ := gB_some hf
      refine gc_i (gc_fixV (S := S1) X (mt_X8_allSent l D dA A ad S1 x1 hq) (lw_V q1492 q1494 qs74 q93 q1495) ⟨rfl, rfl⟩ hd_X8_allSent ⟨Nat.le_trans (Nat.le_of_ble_eq_true rfl) hR.1, Nat.le_trans (Nat.le_of_ble_eq_true rfl) hR.2⟩ (wd_recv (r := M_o) (ci := 0) (q := (RX8, TX8, 61)) X.hK.1 hP ⟨rfl, rfl⟩ rfl rfl) hP hS ⟨Nat.zero_le _, Nat.zero_le _⟩ rfl hl.1 rfl (Nat.le_of_ble_eq_true rfl) dX8_side_102) hS ?_
      rintro _ _ H locs ⟨rfl, rfl⟩ hP hS
      refine lv_i2l hx hb dX8_side_105 rfl ?_
      exact gr_lW X hP hS (Option.some.inj hf) dX8_side_106
    rw [if_neg h33_0] at hf
    by_cases h33_1 : x2 = (1 : Int32)
    · rw [if_pos h33_1] at hf
      refine lv_tableIn (tgt := 107) hx hb dX8_side_33 (by rw [h33_1]; decide) (by rw [h33_1]; decide) (by rw [h33_1]; rfl) (by decide) ?_
      refine lv_aload_n hx hb dX8_side_107 rfl (lv_at hl 0 rfl) ?_
      refine rg_X8_19 X hP dX8_side_108 ?_
      refine lv_iconst (v := 3) hx hb dX8_side_111 (by decide) ?_
      refine lv_iload_n hx hb dX8_side_112 rfl (lv_at hl 1 rfl) ?_
      refine lv_imul hx hb dX8_side_113 ?_
      refine ra_limits_ld X hP dX8_side_114 hf (fun hf => ?_)
      exact gr_lW X hP hS (Option.some.inj hf) dX8_side_115
    rw [if_neg h33_1] at hf
    by_cases h33_2 : x2 = (2 : Int32)
    · rw [if_pos h33_2] at hf
      refine lv_tableIn (tgt := 116) hx hb dX8_side_33 (by rw [h33_2]; decide) (by rw [h33_2]; decide) (by rw [h33_2]; rfl) (by decide) ?_
      refine lv_aload_n hx hb dX8_side_116 rfl (lv_at hl 0 rfl) ?_
      refine lv_iload_n hx hb dX8_side_117 rfl (lv_at hl 1 rfl) ?_
      obtain ⟨v4, hq, hf⟩ := gB_some hf
      refine gc_l (gc_fixV (S := S1) X (mt_X8_received l D dA A ad S1 x1 hq) (lw_V q1424 q1426 qs60 q93 q1427) ⟨rfl, rfl⟩ hd_X8_received ⟨Nat.le_trans (Nat.le_of_ble_eq_true rfl) hR.1, Nat.le_trans (Nat.le_of_ble_eq_true rfl) hR.2⟩ (wd_recv (r := M_o) (ci := 0) (q := (RX8, TX8, 61)) X.hK.1 hP ⟨rfl, rfl⟩ rfl rfl) hP hS ⟨Nat.zero_le _, Nat.zero_le _⟩ rfl hl.1 rfl (Nat.le_of_ble_eq_true rfl) dX8_side_118) hS ?_
      rintro _ _ H locs ⟨rfl, rfl⟩ hP hS
      exact gr_lW X hP hS (Option.some.inj hf) dX8_side_121
    rw [if_neg h33_2] at hf
    by_cases h33_3 : x2 = (3 : Int32)
    · rw [if_pos h33_3] at hf
      refine lv_tableIn (tgt := 122) hx hb dX8_side_33 (by rw [h33_3]; decide) (by rw [h33_3]; decide) (by rw [h33_3]; rfl) (by decide) ?_
      refine lv_aload_n hx hb dX8_side_122 rfl (lv_at hl 0 rfl) ?_
      refine lv_iload_n hx hb dX8_side_123 rfl (lv_at hl 1 rfl) ?_
      obtain ⟨v5, hq, hf⟩ := gB_some hf
      refine gc_l (gc_fixV (S := S1) X (mt_X8_consumed l D dA A ad S1 x1 hq) (lw_V q1384 q1386 qs53 q93 q1387) ⟨rfl, rfl⟩ hd_X8_consumed ⟨Nat.le_trans (Nat.le_of_ble_eq_true rfl) hR.1, Nat.le_trans (Nat.le_of_ble_eq_true rfl) hR.2⟩ (wd_recv (r := M_o) (ci := 0) (q := (RX8, TX8, 61)) X.hK.1 hP ⟨rfl, rfl⟩ rfl rfl) hP hS ⟨Nat.zero_le _, Nat.zero_le _⟩ rfl hl.1 rfl (Nat.le_of_ble_eq_true rfl) dX8_side_124) hS ?_
      rintro _ _ H locs ⟨rfl, rfl⟩ hP hS
      exact gr_lW X hP hS (Option.some.inj hf) dX8_side_127
    rw [if_neg h33_3] at hf
    by_cases h33_4 : x2 = (4 : Int32)
    · rw [if_pos h33_4] at hf
      refine lv_tableIn (tgt := 128) hx hb dX8_side_33 (by rw [h33_4]; decide) (by rw [h33_4]; decide) (by rw [h33_4]; rfl) (by decide) ?_
      refine lv_aload_n hx hb dX8_side_128 rfl (lv_at hl 0 rfl) ?_
      refine rg_X8_32 X hP dX8_side_129 ?_
      refine lv_iload_n hx hb dX8_side_132 rfl (lv_at hl 1 rfl) ?_
      refine ra_dataGrant_ld X hP dX8_side_133 hf (fun hf => ?_)
      exact gr_lW X hP hS (Option.some.inj hf) dX8_side_134
    rw [if_neg h33_4] at hf
    by_cases h33_5 : x2 = (5 : Int32)
    · rw [if_pos h33_5] at hf
      refine lv_tableIn (tgt := 135) hx hb dX8_side_33 (by rw [h33_5]; decide) (by rw [h33_5]; decide) (by rw [h33_5]; rfl) (by decide) ?_
      refine lv_aload_n hx hb dX8_side_135 rfl (lv_at hl 0 rfl) ?_
      refine rg_X8_23 X hP dX8_side_136 ?_
      refine lv_iconst (v := 2) hx hb dX8_side_139 (by decide) ?_
      refine lv_iload_n hx hb dX8_side_140 rfl (lv_at hl 1 rfl) ?_
      refine lv_imul hx hb dX8_side_141 ?_
      refine lv_iload_n hx hb dX8_side_142 rfl (lv_at hl 2 rfl) ?_
      refine lv_iadd hx hb dX8_side_143 ?_
      refine lv_iconst (v := 5) hx hb dX8_side_144 (by decide) ?_
      refine lv_isub hx hb dX8_side_145 ?_
      refine ra_opened_ld X hP dX8_side_146 hf (fun hf => ?_)
      refine lv_i2l hx hb dX8_side_147 rfl ?_
      exact gr_lW X hP hS (Option.some.inj hf) dX8_side_148
    rw [if_neg h33_5] at hf
    by_cases h33_6 : x2 = (6 : Int32)
    · rw [if_pos h33_6] at hf
      refine lv_tableIn (tgt := 135) hx hb dX8_side_33 (by rw [h33_6]; decide) (by rw [h33_6]; decide) (by rw [h33_6]; rfl) (by decide) ?_
      refine lv_aload_n hx hb dX8_side_135 rfl (lv_at hl 0 rfl) ?_
      refine rg_X8_23 X hP dX8_side_136 ?_
      refine lv_iconst (v := 2) hx hb dX8_side_139 (by decide) ?_
      refine lv_iload_n hx hb dX8_side_140 rfl (lv_at hl 1 rfl) ?_
      refine lv_imul hx hb dX8_side_141 ?_
      refine lv_iload_n hx hb dX8_side_142 rfl (lv_at hl 2 rfl) ?_
      refine lv_iadd hx hb dX8_side_143 ?_
      refine lv_iconst (v := 5) hx hb dX8_side_144 (by decide) ?_
      refine lv_isub hx hb dX8_side_145 ?_
      refine ra_opened_ld X hP dX8_side_146 hf (fun hf => ?_)
      refine lv_i2l hx hb dX8_side_147 rfl ?_
      exact gr_lW X hP hS (Option.some.inj hf) dX8_side_148
    rw [if_neg h33_6] at hf
    by_cases h33_7 : x2 = (7 : Int32)
    · rw [if_pos h33_7] at hf
      refine lv_tableIn (tgt := 149) hx hb dX8_side_33 (by rw [h33_7]; decide) (by rw [h33_7]; decide) (by rw [h33_7]; rfl) (by decide) ?_
      refine lv_aload_n hx hb dX8_side_149 rfl (lv_at hl 0 rfl) ?_
      refine rg_X8_19 X hP dX8_side_150 ?_
      refine lv_iconst (v := 3) hx hb dX8_side_153 (by decide) ?_
      refine lv_iload_n hx hb dX8_side_154 rfl (lv_at hl 1 rfl) ?_
      refine lv_imul hx hb dX8_side_155 ?_
      refine lv_iload_n hx hb dX8_side_156 rfl (lv_at hl 2 rfl) ?_
      refine lv_iadd hx hb dX8_side_157 ?_
      refine lv_bipush (v := 6) hx hb dX8_side_158 (by decide) ?_
      refine lv_isub hx hb dX8_side_160 ?_
      refine ra_limits_ld X hP dX8_side_161 hf (fun hf => ?_)
      exact gr_lW X hP hS (Option.some.inj hf) dX8_side_162
    rw [if_neg h33_7] at hf
    by_cases h33_8 : x2 = (8 : Int32)
    · rw [if_pos h33_8] at hf
      refine lv_tableIn (tgt := 149) hx hb dX8_side_33 (by rw [h33_8]; decide) (by rw [h33_8]; decide) (by rw [h33_8]; rfl) (by decide) ?_
      refine lv_aload_n hx hb dX8_side_149 rfl (lv_at hl 0 rfl) ?_
      refine rg_X8_19 X hP dX8_side_150 ?_
      refine lv_iconst (v := 3) hx hb dX8_side_153 (by decide) ?_
      refine lv_iload_n hx hb dX8_side_154 rfl (lv_at hl 1 rfl) ?_
      refine lv_imul hx hb dX8_side_155 ?_
      refine lv_iload_n hx hb dX8_side_156 rfl (lv_at hl 2 rfl) ?_
      refine lv_iadd hx hb dX8_side_157 ?_
      refine lv_bipush (v := 6) hx hb dX8_side_158 (by decide) ?_
      refine lv_isub hx hb dX8_side_160 ?_
      refine ra_limits_ld X hP dX8_side_161 hf (fun hf => ?_)
      exact gr_lW X hP hS (Option.some.inj hf) dX8_side_162
    rw [if_neg h33_8] at hf
    by_cases h33_9 : x2 = (9 : Int32)
    · rw [if_pos h33_9] at hf
      refine lv_tableIn (tgt := 163) hx hb dX8_side_33 (by rw [h33_9]; decide) (by rw [h33_9]; decide) (by rw [h33_9]; rfl) (by decide) ?_
      refine lv_aload_n hx hb dX8_side_163 rfl (lv_at hl 0 rfl) ?_
      refine rg_X8_26 X hP dX8_side_164 ?_
      refine lv_iconst (v := 2) hx hb dX8_side_167 (by decide) ?_
      refine lv_iload_n hx hb dX8_side_168 rfl (lv_at hl 1 rfl) ?_
      refine lv_imul hx hb dX8_side_169 ?_
      refine lv_iload_n hx hb dX8_side_170 rfl (lv_at hl 2 rfl) ?_
      refine lv_iadd hx hb dX8_side_171 ?_
      refine lv_bipush (v := 9) hx hb dX8_side_172 (by decide) ?_
      refine lv_isub hx hb dX8_side_174 ?_
      refine ra_theirs_ld X hP dX8_side_175 hf (fun hf => ?_)
      refine lv_i2l hx hb dX8_side_176 rfl ?_
      exact gr_lW X hP hS (Option.some.inj hf) dX8_side_177
    rw [if_neg h33_9] at hf
    by_cases h33_10 : x2 = (10 : Int32)
    · rw [if_pos h33_10] at hf
      refine lv_tableIn (tgt := 163) hx hb dX8_side_33 (by rw [h33_10]; decide) (by rw [h33_10]; decide) (by rw [h33_10]; rfl) (by decide) ?_
      refine lv_aload_n hx hb dX8_side_163 rfl (lv_at hl 0 rfl) ?_
      refine rg_X8_26 X hP dX8_side_164 ?_
      refine lv_iconst (v := 2) hx hb dX8_side_167 (by decide) ?_
      refine lv_iload_n hx hb dX8_side_168 rfl (lv_at hl 1 rfl) ?_
      refine lv_imul hx hb dX8_side_169 ?_
      refine lv_iload_n hx hb dX8_side_170 rfl (lv_at hl 2 rfl) ?_
      refine lv_iadd hx hb dX8_side_171 ?_
      refine lv_bipush (v := 9) hx hb dX8_side_172 (by decide) ?_
      refine lv_isub hx hb dX8_side_174 ?_
      refine ra_theirs_ld X hP dX8_side_175 hf (fun hf => ?_)
      refine lv_i2l hx hb dX8_side_176 rfl ?_
      exact gr_lW X hP hS (Option.some.inj hf) dX8_side_177
    rw [if_neg h33_10] at hf
    by_cases h33_11 : x2 = (11 : Int32)
    · rw [if_pos h33_11] at hf
      refine lv_tableIn (tgt := 178) hx hb dX8_side_33 (by rw [h33_11]; decide) (by rw [h33_11]; decide) (by rw [h33_11]; rfl) (by decide) ?_
      refine lv_aload_n hx hb dX8_side_178 rfl (lv_at hl 0 rfl) ?_
      refine rg_X8_29 X hP dX8_side_179 ?_
      refine lv_iconst (v := 2) hx hb dX8_side_182 (by decide) ?_
      refine lv_iload_n hx hb dX8_side_183 rfl (lv_at hl 1 rfl) ?_
      refine lv_imul hx hb dX8_side_184 ?_
      refine lv_iload_n hx hb dX8_side_185 rfl (lv_at hl 2 rfl) ?_
      refine lv_iadd hx hb dX8_side_186 ?_
      refine lv_bipush (v := 11) hx hb dX8_side_187 (by decide) ?_
      refine lv_isub hx hb dX8_side_189 ?_
      refine ra_granted_ld X hP dX8_side_190 hf (fun hf => ?_)
      refine lv_i2l hx hb dX8_side_191 rfl ?_
      exact gr_lW X hP hS (Option.some.inj hf) dX8_side_192
    rw [if_neg h33_11] at hf
    by_cases h33_12 : x2 = (12 : Int32)
    · rw [if_pos h33_12] at hf
      refine lv_tableIn (tgt := 178) hx hb dX8_side_33 (by rw [h33_12]; decide) (by rw [h33_12]; decide) (by rw [h33_12]; rfl) (by decide) ?_
      refine lv_aload_n hx hb dX8_side_178 rfl (lv_at hl 0 rfl) ?_
      refine rg_X8_29 X hP dX8_side_179 ?_
      refine lv_iconst (v := 2) hx hb dX8_side_182 (by decide) ?_
      refine lv_iload_n hx hb dX8_side_183 rfl (lv_at hl 1 rfl) ?_
      refine lv_imul hx hb dX8_side_184 ?_
      refine lv_iload_n hx hb dX8_side_185 rfl (lv_at hl 2 rfl) ?_
      refine lv_iadd hx hb dX8_side_186 ?_
      refine lv_bipush (v := 11) hx hb dX8_side_187 (by decide) ?_
      refine lv_isub hx hb dX8_side_189 ?_
      refine ra_granted_ld X hP dX8_side_190 hf (fun hf => ?_)
      refine lv_i2l hx hb dX8_side_191 rfl ?_
      exact gr_lW X hP hS (Option.some.inj hf) dX8_side_192
    rw [if_neg h33_12] at hf
    suffices hd33 : W p l e R s m args below meth c H locs 0 0 (MQ below (QjW D (shM dA) exM A ad res) args s 0 0 A) (F0 m 193 ls []) by
      have n0 := lv_neT h33_0 (show (0 : Int32).toInt = 0 by decide)
      have n1 := lv_neT h33_1 (show (1 : Int32).toInt = 1 by decide)
      have n2 := lv_neT h33_2 (show (2 : Int32).toInt = 2 by decide)
      have n3 := lv_neT h33_3 (show (3 : Int32).toInt = 3 by decide)
      have n4 := lv_neT h33_4 (show (4 : Int32).toInt = 4 by decide)
      have n5 := lv_neT h33_5 (show (5 : Int32).toInt = 5 by decide)
      have n6 := lv_neT h33_6 (show (6 : Int32).toInt = 6 by decide)
      have n7 := lv_neT h33_7 (show (7 : Int32).toInt = 7 by decide)
      have n8 := lv_neT h33_8 (show (8 : Int32).toInt = 8 by decide)
      have n9 := lv_neT h33_9 (show (9 : Int32).toInt = 9 by decide)
      have n10 := lv_neT h33_10 (show (10 : Int32).toInt = 10 by decide)
      have n11 := lv_neT h33_11 (show (11 : Int32).toInt = 11 by decide)
      have n12 := lv_neT h33_12 (show (12 : Int32).toInt = 12 by decide)
      exact lv_tableOut (tgt := 193) hx hb dX8_side_33 (by omega) (by decide) hd33
    refine lv_aload_n hx hb dX8_side_193 rfl (lv_at hl 0 rfl) ?_
    refine rg_X8_108 X hP dX8_side_194 ?_
    refine lv_iload_n hx hb dX8_side_197 rfl (lv_at hl 1 rfl) ?_
    refine ra_total_ld X hP dX8_side_198 hf (fun hf => ?_)
    refine lv_i2l hx hb dX8_side_199 rfl ?_
    exact gr_lW X hP hS (Option.some.inj hf) dX8_side_200
  · refine lv_lconst (v := 0) hx hb dX8_side_30 (by decide) ?_
    exact gr_lW X hP hS (Option.some.inj hf) dX8_side_31
set_option maxHeartbeats 4000000 in
theorem w_X8_side_18 {p : Program} {l : Launch} {e : Env} {R : Room} {s : State} {m : MethodId} {args : Array Value} {below : List Frame} {meth : Method} {c : Code} {D : va_G} {dA : Nat → ClassId} {A : Nat → Prop} {ad : L3 → Nat} (X : CX RX8 cX8_side 3 (some .long) (KA D dA) p s m args meth c A) (hR : 3 ≤ R.frames ∧ 65 ≤ R.locals) {res : Mem × Int64} (S : Mem) (x1 : Int32) (x2 : Int32) {H : Heap} {locs : List Loc} {ls : Array Slot} (hP : Wd D clA (shM dA) exM A ad S H) (hS : va_S A s.heap H locs) (hl : lv_has ls 3 [(0, .ref (ad M_o)), (1, .int x1), (2, .int x2)]) (hf : f_X8_side_18 S x1 x2 = some res) : W p l e R s m args below meth c H locs 0 0 (MQ below (QjW D (shM dA) exM A ad res) args s 0 0 A) (F0 m 18 ls [.ref (ad M_o)]) := by
  have hx := X.hx
  have hb := X.hb
  unfold f_X8_side_18 at hf
  refine lv_iconst (v := 1) hx hb dX8_side_18 (by decide) ?_
  refine lv_goto (tgt := 23) hx hb dX8_side_19 (by decide) ?_
  exact w_X8_side_23 X hR S x1 x2 1 hP hS (lv_sub hl [0, 1, 2] rfl) hf
set_option maxHeartbeats 4000000 in
theorem w_X8_side {p : Program} {l : Launch} {e : Env} {R : Room} {s : State} {m : MethodId} {args : Array Value} {below : List Frame} {meth : Method} {c : Code} {D : va_G} {dA : Nat → ClassId} {A : Nat → Prop} {ad : L3 → Nat} (X : CX RX8 cX8_side 3 (some .long) (KA D dA) p s m args meth c A) (hR : 3 ≤ R.frames ∧ 65 ≤ R.locals) {res : Mem × Int64} (S : Mem) (x1 : Int32) (x2 : Int32) {H : Heap} {locs : List Loc} {ls : Array Slot} (hP : Wd D clA (shM dA) exM A ad S H) (hS : va_S A s.heap H locs) (hl : lv_has ls 3 [(0, .ref (ad M_o)), (1, .int x1), (2, .int x2)]) (hf : f_X8_side S x1 x2 = some res) : W p l e R s m args below meth c H locs 0 0 (MQ below (QjW D (shM dA) exM A ad res) args s 0 0 A) (F0 m 0 ls []) := by
  have hx := X.hx
  have hb := X.hb
  unfold f_X8_side at hf
  refine lv_aload_n hx hb dX8_side_0 rfl (lv_at hl 0 rfl) ?_
  refine lv_iload_n hx hb dX8_side_1 rfl (lv_at hl 1 rfl) ?_
  obtain ⟨v1, hq, hf⟩ := gS_eq hf
  refine gc_i (gc_fixS (S := S) X (mt_X8_noSide l D dA A ad S x1 hq) (lw_S q1258 q1259 q93 q1260) ⟨rfl, rfl⟩ hd_X8_noSide.2 ⟨Nat.le_trans (Nat.le_of_ble_eq_true rfl) hR.1, Nat.le_trans (Nat.le_of_ble_eq_true rfl) hR.2⟩ hP hS ⟨Nat.zero_le _, Nat.zero_le _⟩ rfl hl.1 rfl (Nat.le_of_ble_eq_true rfl) dX8_side_2) hS ?_
  rintro _ _ H locs ⟨rfl, rfl⟩ hP hS
  refine gb_if_ne (tgt := 18) hx hb dX8_side_5 (by decide) hf (fun hf => ?_) (fun hf => ?_)
  · exact w_X8_side_18 X hR S x1 x2 hP hS (lv_sub hl [0, 1, 2] rfl) hf
  · refine lv_iload_n hx hb dX8_side_8 rfl (lv_at hl 2 rfl) ?_
    refine gb_if_lt (tgt := 18) hx hb dX8_side_9 (by decide) hf (fun hf => ?_) (fun hf => ?_)
    · exact w_X8_side_18 X hR S x1 x2 hP hS (lv_sub hl [0, 1, 2] rfl) hf
    · refine lv_iload_n hx hb dX8_side_12 rfl (lv_at hl 2 rfl) ?_
      refine lv_bipush (v := 13) hx hb dX8_side_13 (by decide) ?_
      refine gb_icmp_le (tgt := 22) hx hb dX8_side_15 (by decide) hf (fun hf => ?_) (fun hf => ?_)
      · refine lv_iconst (v := 0) hx hb dX8_side_22 (by decide) ?_
        exact w_X8_side_23 X hR S x1 x2 0 hP hS (lv_sub hl [0, 1, 2] rfl) hf
      · exact w_X8_side_18 X hR S x1 x2 hP hS (lv_sub hl [0, 1, 2] rfl) hf
theorem hd_X8_side : yX8_side.cls = RX8 ∧ yX8_side.cls ≠ "java/lang/invoke/MethodHandle" ∧ yX8_side.cls ≠ "java/lang/invoke/VarHandle" ∧ (parseMethodDescriptor yX8_side.desc).map (fun d => d.parameters.length) = some 2 := by decide +kernel
set_option maxHeartbeats 4000000 in
theorem mt_X8_side (l : Launch) (D : va_G) (dA : Nat → ClassId) (A : Nat → Prop) (ad : L3 → Nat) (S : Mem) (x1 : Int32) (x2 : Int32) {res : Mem × Int64} (hq : f_X8_side S x1 x2 = some res) : Met l yX8_side (ws_ yX8_side cX8_side 3 (some .long)) ({ frames := 3, cells := 0, slots := 0, locals := 65 } : Room) (va_Pc [.ref (ad M_o), .int x1, .int x2] (PreW D dA (shM dA) exM A ad S)) (QjW D (shM dA) exM A ad res) 0 0 A :=
  gx_head (by decide) (Nat.le_of_ble_eq_true rfl) (fun p e s m below meth c ls X hP hl => w_X8_side (l := l) X ⟨Nat.le_of_ble_eq_true rfl, Nat.le_of_ble_eq_true rfl⟩ S x1 x2 hP va_S.rf (lv_sub (l := [(0, .ref (ad M_o)), (1, .int x1), (2, .int x2)]) hl [0, 1, 2] rfl) hq)
