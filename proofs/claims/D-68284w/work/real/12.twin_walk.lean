set_option maxRecDepth 100000
set_option maxHeartbeats 4000000 in
theorem w_X8_stop_27 {p : Program} {l : Launch} {e : Env} {R : Room} {s : State} {m : MethodId} {args : Array Value} {below : List Frame} {meth : Method} {c : Code} {D : va_G} {dA : Nat → ClassId} {A : Nat → Prop} {ad : L3 → Nat} (X : CX RX8 cX8_stop 5 (some .boolean) (KA D dA) p s m args meth c A) (hR : 5 ≤ R.frames ∧ 116 ≤ R.locals) {res : Mem × Int32} (S : Mem) (x1 : Int32) (x2 : Int32) (x3 : Int64) (y0 : Int32) {H : Heap} {locs : List Loc} {ls : Array Slot} (hP : Wd D clA (shM dA) exM A ad S H) (hS : va_S A s.heap H locs) (hl : lv_has ls 5 [(0, .ref (ad M_o)), (1, .int x1), (2, .int x2), (3, .long x3)]) (hf : f_X8_stop_27 S x1 x2 x3 y0 = some res) : W p l e R s m args below meth c H locs 0 0 (MQ below (QiW D (shM dA) exM A ad res) args s 0 0 A) (F0 m 27 ls [.int y0, .ref (ad M_o)]) := by
  have hx := X.hx
  have hb := X.hb
  unfold f_X8_stop_27 at hf
  refine lv_iconst (v := 1) hx hb dX8_stop_27 (by decide) ?_
  obtain ⟨S1, v2, hq, hf⟩ := gB2_some hf
  refine gc_i (gc_fixV (S := S) X (mt_X8_fails l D dA A ad S y0 (1 : Int32) hq) (lw_V q1262 q1264 qs35 q93 q1265) ⟨rfl, rfl⟩ hd_X8_fails ⟨Nat.le_trans (Nat.le_of_ble_eq_true rfl) hR.1, Nat.le_trans (Nat.le_of_ble_eq_true rfl) hR.2⟩ (wd_recv (r := M_o) (ci := 0) (q := (RX8, TX8, 61)) X.hK.1 hP ⟨rfl, rfl⟩ rfl rfl) hP hS ⟨Nat.zero_le _, Nat.zero_le _⟩ rfl hl.1 rfl (Nat.le_of_ble_eq_true rfl) dX8_stop_28) hS ?_
  rintro _ _ H locs ⟨⟩ hP hS
  refine gb_if_ne (tgt := 66) hx hb dX8_stop_31 (by decide) hf (fun hf => ?_) (fun hf => ?_)
  · refine lv_iconst (v := 0) hx hb dX8_stop_66 (by decide) ?_
    exact gr_zW X hP hS (Option.some.inj hf) (by decide) dX8_stop_67
  · refine lv_aload_n hx hb dX8_stop_34 rfl (lv_at hl 0 rfl) ?_
    refine lv_iload_n hx hb dX8_stop_35 rfl (lv_at hl 1 rfl) ?_
    refine lv_iload_n hx hb dX8_stop_36 rfl (lv_at hl 2 rfl) ?_
    obtain ⟨v3, hq, hf⟩ := gB_some hf
    refine gc_i (gc_fixV (S := S1) X (mt_X8_hasReceiving l D dA A ad S1 x1 x2 hq) (lw_V q1348 q1350 qs46 q93 q1351) ⟨rfl, rfl⟩ hd_X8_hasReceiving ⟨Nat.le_trans (Nat.le_of_ble_eq_true rfl) hR.1, Nat.le_trans (Nat.le_of_ble_eq_true rfl) hR.2⟩ (wd_recv (r := M_o) (ci := 0) (q := (RX8, TX8, 61)) X.hK.1 hP ⟨rfl, rfl⟩ rfl rfl) hP hS ⟨Nat.zero_le _, Nat.zero_le _⟩ rfl hl.1 rfl (Nat.le_of_ble_eq_true rfl) dX8_stop_37) hS ?_
    rintro _ _ H locs ⟨rfl, rfl⟩ hP hS
    refine gb_if_eq (tgt := 66) hx hb dX8_stop_40 (by decide) hf (fun hf => ?_) (fun hf => ?_)
    · refine lv_iconst (v := 0) hx hb dX8_stop_66 (by decide) ?_
      exact gr_zW X hP hS (Option.some.inj hf) (by decide) dX8_stop_67
    · refine lv_aload_n hx hb dX8_stop_43 rfl (lv_at hl 0 rfl) ?_
      refine lv_iload_n hx hb dX8_stop_44 rfl (lv_at hl 1 rfl) ?_
      refine lv_iload_n hx hb dX8_stop_45 rfl (lv_at hl 2 rfl) ?_
      obtain ⟨v4, hq, hf⟩ := gB_some hf
      refine gc_i (gc_fixV (S := S1) X (mt_X8_receiving l D dA A ad S1 x1 x2 hq) (lw_V q1355 q1357 qs47 q93 q1358) ⟨rfl, rfl⟩ hd_X8_receiving ⟨Nat.le_trans (Nat.le_of_ble_eq_true rfl) hR.1, Nat.le_trans (Nat.le_of_ble_eq_true rfl) hR.2⟩ (wd_recv (r := M_o) (ci := 0) (q := (RX8, TX8, 61)) X.hK.1 hP ⟨rfl, rfl⟩ rfl rfl) hP hS ⟨Nat.zero_le _, Nat.zero_le _⟩ rfl hl.1 rfl (Nat.le_of_ble_eq_true rfl) dX8_stop_46) hS ?_
      rintro _ _ H locs ⟨rfl, rfl⟩ hP hS
      refine lv_iconst (v := 1) hx hb dX8_stop_49 (by decide) ?_
      refine gb_icmp_gt (tgt := 66) hx hb dX8_stop_50 (by decide) hf (fun hf => ?_) (fun hf => ?_)
      · refine lv_iconst (v := 0) hx hb dX8_stop_66 (by decide) ?_
        exact gr_zW X hP hS (Option.some.inj hf) (by decide) dX8_stop_67
      · refine lv_aload_n hx hb dX8_stop_53 rfl (lv_at hl 0 rfl) ?_
        refine rg_X8_96 X hP dX8_stop_54 ?_
        refine lv_iload_n hx hb dX8_stop_57 rfl (lv_at hl 1 rfl) ?_
        refine lv_iload_n hx hb dX8_stop_58 rfl (lv_at hl 2 rfl) ?_
        obtain ⟨v5, hq, hf⟩ := gS_eq hf
        refine gc_i (gc_fixS (S := S1) X (mt_X8_at l D dA A ad S1 x1 x2 hq) (lw_S q1283 q1284 q93 q1285) ⟨rfl, rfl⟩ hd_X8_at.2 ⟨Nat.le_trans (Nat.le_of_ble_eq_true rfl) hR.1, Nat.le_trans (Nat.le_of_ble_eq_true rfl) hR.2⟩ hP hS ⟨Nat.zero_le _, Nat.zero_le _⟩ rfl hl.1 rfl (Nat.le_of_ble_eq_true rfl) dX8_stop_59) hS ?_
        rintro _ _ H locs ⟨rfl, rfl⟩ hP hS
        refine ra_stopped_ld X hP dX8_stop_62 hf (fun hf => ?_)
        refine gb_if_eq (tgt := 68) hx hb dX8_stop_63 (by decide) hf (fun hf => ?_) (fun hf => ?_)
        · refine lv_aload_n hx hb dX8_stop_68 rfl (lv_at hl 0 rfl) ?_
          refine rg_X8_96 X hP dX8_stop_69 ?_
          refine lv_iload_n hx hb dX8_stop_72 rfl (lv_at hl 1 rfl) ?_
          refine lv_iload_n hx hb dX8_stop_73 rfl (lv_at hl 2 rfl) ?_
          obtain ⟨v6, hq, hf⟩ := gS_eq hf
          refine gc_i (gc_fixS (S := S1) X (mt_X8_at l D dA A ad S1 x1 x2 hq) (lw_S q1283 q1284 q93 q1285) ⟨rfl, rfl⟩ hd_X8_at.2 ⟨Nat.le_trans (Nat.le_of_ble_eq_true rfl) hR.1, Nat.le_trans (Nat.le_of_ble_eq_true rfl) hR.2⟩ hP hS ⟨Nat.zero_le _, Nat.zero_le _⟩ rfl hl.1 rfl (Nat.le_of_ble_eq_true rfl) dX8_stop_74) hS ?_
          rintro _ _ H locs ⟨rfl, rfl⟩ hP hS
          refine lv_iconst (v := 1) hx hb dX8_stop_77 (by decide) ?_
          refine ra_stopped_st X hP hS dX8_stop_78 hf (fun S7 H locs hP hS hf => ?_)
          refine lv_aload_n hx hb dX8_stop_79 rfl (lv_at hl 0 rfl) ?_
          refine rg_X8_99 X hP dX8_stop_80 ?_
          refine lv_iload_n hx hb dX8_stop_83 rfl (lv_at hl 1 rfl) ?_
          refine lv_iload_n hx hb dX8_stop_84 rfl (lv_at hl 2 rfl) ?_
          obtain ⟨v8, hq, hf⟩ := gS_eq hf
          refine gc_i (gc_fixS (S := S7) X (mt_X8_at l D dA A ad S7 x1 x2 hq) (lw_S q1283 q1284 q93 q1285) ⟨rfl, rfl⟩ hd_X8_at.2 ⟨Nat.le_trans (Nat.le_of_ble_eq_true rfl) hR.1, Nat.le_trans (Nat.le_of_ble_eq_true rfl) hR.2⟩ hP hS ⟨Nat.zero_le _, Nat.zero_le _⟩ rfl hl.1 rfl (Nat.le_of_ble_eq_true rfl) dX8_stop_85) hS ?_
          rintro _ _ H locs ⟨rfl, rfl⟩ hP hS
          refine lv_iconst (v := 1) hx hb dX8_stop_88 (by decide) ?_
          refine ra_tellStop_st X hP hS dX8_stop_89 hf (fun S9 H locs hP hS hf => ?_)
          refine lv_aload_n hx hb dX8_stop_90 rfl (lv_at hl 0 rfl) ?_
          refine rg_X8_102 X hP dX8_stop_91 ?_
          refine lv_iload_n hx hb dX8_stop_94 rfl (lv_at hl 1 rfl) ?_
          refine lv_iload_n hx hb dX8_stop_95 rfl (lv_at hl 2 rfl) ?_
          obtain ⟨v10, hq, hf⟩ := gS_eq hf
          refine gc_i (gc_fixS (S := S9) X (mt_X8_at l D dA A ad S9 x1 x2 hq) (lw_S q1283 q1284 q93 q1285) ⟨rfl, rfl⟩ hd_X8_at.2 ⟨Nat.le_trans (Nat.le_of_ble_eq_true rfl) hR.1, Nat.le_trans (Nat.le_of_ble_eq_true rfl) hR.2⟩ hP hS ⟨Nat.zero_le _, Nat.zero_le _⟩ rfl hl.1 rfl (Nat.le_of_ble_eq_true rfl) dX8_stop_96) hS ?_
          rintro _ _ H locs ⟨rfl, rfl⟩ hP hS
          refine lv_lload_n hx hb dX8_stop_99 rfl (lv_at hl 3 rfl) ?_
          refine ra_stopCode_st X hP hS dX8_stop_100 hf (fun S11 H locs hP hS hf => ?_)
          refine lv_iconst (v := 1) hx hb dX8_stop_101 (by decide) ?_
          exact gr_zW X hP hS (Option.some.inj hf) (by decide) dX8_stop_102
        · refine lv_iconst (v := 0) hx hb dX8_stop_66 (by decide) ?_
          exact gr_zW X hP hS (Option.some.inj hf) (by decide) dX8_stop_67
set_option maxHeartbeats 4000000 in
theorem w_X8_stop_22 {p : Program} {l : Launch} {e : Env} {R : Room} {s : State} {m : MethodId} {args : Array Value} {below : List Frame} {meth : Method} {c : Code} {D : va_G} {dA : Nat → ClassId} {A : Nat → Prop} {ad : L3 → Nat} (X : CX RX8 cX8_stop 5 (some .boolean) (KA D dA) p s m args meth c A) (hR : 5 ≤ R.frames ∧ 116 ≤ R.locals) {res : Mem × Int32} (S : Mem) (x1 : Int32) (x2 : Int32) (x3 : Int64) {H : Heap} {locs : List Loc} {ls : Array Slot} (hP : Wd D clA (shM dA) exM A ad S H) (hS : va_S A s.heap H locs) (hl : lv_has ls 5 [(0, .ref (ad M_o)), (1, .int x1), (2, .int x2), (3, .long x3)]) (hf : f_X8_stop_22 S x1 x2 x3 = some res) : W p l e R s m args below meth c H locs 0 0 (MQ below (QiW D (shM dA) exM A ad res) args s 0 0 A) (F0 m 22 ls [.ref (ad M_o)]) := by
  have hx := X.hx
  have hb := X.hb
  unfold f_X8_stop_22 at hf
  refine lv_iconst (v := 1) hx hb dX8_stop_22 (by decide) ?_
  refine lv_goto (tgt := 27) hx hb dX8_stop_23 (by decide) ?_
  exact w_X8_stop_27 X hR S x1 x2 x3 1 hP hS (lv_sub hl [0, 1, 2, 3] rfl) hf
set_option maxHeartbeats 4000000 in
theorem w_X8_stop {p : Program} {l : Launch} {e : Env} {R : Room} {s : State} {m : MethodId} {args : Array Value} {below : List Frame} {meth : Method} {c : Code} {D : va_G} {dA : Nat → ClassId} {A : Nat → Prop} {ad : L3 → Nat} (X : CX RX8 cX8_stop 5 (some .boolean) (KA D dA) p s m args meth c A) (hR : 5 ≤ R.frames ∧ 116 ≤ R.locals) {res : Mem × Int32} (S : Mem) (x1 : Int32) (x2 : Int32) (x3 : Int64) {H : Heap} {locs : List Loc} {ls : Array Slot} (hP : Wd D clA (shM dA) exM A ad S H) (hS : va_S A s.heap H locs) (hl : lv_has ls 5 [(0, .ref (ad M_o)), (1, .int x1), (2, .int x2), (3, .long x3)]) (hf : f_X8_stop S x1 x2 x3 = some res) : W p l e R s m args below meth c H locs 0 0 (MQ below (QiW D (shM dA) exM A ad res) args s 0 0 A) (F0 m 0 ls []) := by
  have hx := X.hx
  have hb := X.hb
  unfold f_X8_stop at hf
  refine lv_aload_n hx hb dX8_stop_0 rfl (lv_at hl 0 rfl) ?_
  refine lv_iload_n hx hb dX8_stop_1 rfl (lv_at hl 1 rfl) ?_
  obtain ⟨v1, hq, hf⟩ := gS_eq hf
  refine gc_i (gc_fixS (S := S) X (mt_X8_noSide l D dA A ad S x1 hq) (lw_S q1258 q1259 q93 q1260) ⟨rfl, rfl⟩ hd_X8_noSide.2 ⟨Nat.le_trans (Nat.le_of_ble_eq_true rfl) hR.1, Nat.le_trans (Nat.le_of_ble_eq_true rfl) hR.2⟩ hP hS ⟨Nat.zero_le _, Nat.zero_le _⟩ rfl hl.1 rfl (Nat.le_of_ble_eq_true rfl) dX8_stop_2) hS ?_
  rintro _ _ H locs ⟨rfl, rfl⟩ hP hS
  refine gb_if_ne (tgt := 22) hx hb dX8_stop_5 (by decide) hf (fun hf => ?_) (fun hf => ?_)
  · exact w_X8_stop_22 X hR S x1 x2 x3 hP hS (lv_sub hl [0, 1, 2, 3] rfl) hf
  · refine lv_lload_n hx hb dX8_stop_8 rfl (lv_at hl 3 rfl) ?_
    refine lv_lconst (v := 0) hx hb dX8_stop_9 (by decide) ?_
    refine gb_lcmp_lt (tgt := 22) hx hb dX8_stop_10 dX8_stop_11 (by decide) hf (fun hf => ?_) (fun hf => ?_)
    · exact w_X8_stop_22 X hR S x1 x2 x3 hP hS (lv_sub hl [0, 1, 2, 3] rfl) hf
    · refine lv_lload_n hx hb dX8_stop_14 rfl (lv_at hl 3 rfl) ?_
      refine lv_ldc2 hx hb X.hown (X.hts _ q1335) dX8_stop_15 ?_
      refine gb_lcmp_le (tgt := 26) hx hb dX8_stop_18 dX8_stop_19 (by decide) hf (fun hf => ?_) (fun hf => ?_)
      · refine lv_iconst (v := 0) hx hb dX8_stop_26 (by decide) ?_
        exact w_X8_stop_27 X hR S x1 x2 x3 0 hP hS (lv_sub hl [0, 1, 2, 3] rfl) hf
      · exact w_X8_stop_22 X hR S x1 x2 x3 hP hS (lv_sub hl [0, 1, 2, 3] rfl) hf
theorem hd_X8_stop : yX8_stop.cls = RX8 ∧ yX8_stop.cls ≠ "java/lang/invoke/MethodHandle" ∧ yX8_stop.cls ≠ "java/lang/invoke/VarHandle" ∧ (parseMethodDescriptor yX8_stop.desc).map (fun d => d.parameters.length) = some 3 := by decide +kernel
set_option maxHeartbeats 4000000 in
theorem mt_X8_stop (l : Launch) (D : va_G) (dA : Nat → ClassId) (A : Nat → Prop) (ad : L3 → Nat) (S : Mem) (x1 : Int32) (x2 : Int32) (x3 : Int64) {res : Mem × Int32} (hq : f_X8_stop S x1 x2 x3 = some res) : Met l yX8_stop (ws_ yX8_stop cX8_stop 5 (some .boolean)) ({ frames := 5, cells := 0, slots := 0, locals := 116 } : Room) (va_Pc [.ref (ad M_o), .int x1, .int x2, .long x3] (PreW D dA (shM dA) exM A ad S)) (QiW D (shM dA) exM A ad res) 0 0 A :=
  gx_head (by decide) (Nat.le_of_ble_eq_true rfl) (fun p e s m below meth c ls X hP hl => w_X8_stop (l := l) X ⟨Nat.le_of_ble_eq_true rfl, Nat.le_of_ble_eq_true rfl⟩ S x1 x2 x3 hP va_S.rf (lv_sub (l := [(0, .ref (ad M_o)), (1, .int x1), (2, .int x2), (3, .long x3)]) hl [0, 1, 2, 3] rfl) hq)
set_option maxHeartbeats 4000000 in
theorem w_X8_byteAt {p : Program} {l : Launch} {e : Env} {R : Room} {s : State} {m : MethodId} {args : Array Value} {below : List Frame} {meth : Method} {c : Code} {D : va_G} {dA : Nat → ClassId} {A : Nat → Prop} {ad : L3 → Nat} (X : CX RX8 cX8_byteAt 5 (some .byte) (KA D dA) p s m args meth c A) (hR : 2 ≤ R.frames ∧ 44 ≤ R.locals) {res : Int32} (S : Mem) (x1 : Int32) (x2 : Int32) (x3 : Int64) {H : Heap} {locs : List Loc} {ls : Array Slot} (hP : Wd D clA (shM dA) exM A ad S H) (hS : va_S A s.heap H locs) (hl : lv_has ls 5 [(0, .ref (ad M_o)), (1, .int x1), (2, .int x2), (3, .long x3)]) (hf : f_X8_byteAt S x1 x2 x3 = some res) : W p l e R s m args below meth c H locs 0 0 (MQ below (QiR D (shM dA) exM A ad S res) args s 0 0 A) (F0 m 0 ls []) := by
  have hx := X.hx
  have hb := X.hb
  unfold f_X8_byteAt at hf
  refine lv_aload_n hx hb dX8_byteAt_0 rfl (lv_at hl 0 rfl) ?_
  refine rg_X8_133 X hP dX8_byteAt_1 ?_
  refine lv_bipush (v := 64) hx hb dX8_byteAt_4 (by decide) ?_
  refine lv_aload_n hx hb dX8_byteAt_6 rfl (lv_at hl 0 rfl) ?_
  refine lv_iload_n hx hb dX8_byteAt_7 rfl (lv_at hl 1 rfl) ?_
  refine lv_iload_n hx hb dX8_byteAt_8 rfl (lv_at hl 2 rfl) ?_
  refine lv_lload_n hx hb dX8_byteAt_9 rfl (lv_at hl 3 rfl) ?_
  refine lv_ldc2 hx hb X.hown (X.hts _ q1367) dX8_byteAt_10 ?_
  refine lv_ldiv hx hb dX8_byteAt_13 (by decide) ?_
  refine lv_l2i hx hb dX8_byteAt_14 rfl ?_
  obtain ⟨v1, hq, hf⟩ := gB_some hf
  refine gc_i (gc_fixV (S := S) X (mt_X8_pieceAt l D dA A ad S x1 x2 (Int64.toInt32 (x3 / 64)) hq) (lw_V q1368 q1370 qs50 q93 q1371) ⟨rfl, rfl⟩ hd_X8_pieceAt ⟨Nat.le_trans (Nat.le_of_ble_eq_true rfl) hR.1, Nat.le_trans (Nat.le_of_ble_eq_true rfl) hR.2⟩ (wd_recv (r := M_o) (ci := 0) (q := (RX8, TX8, 61)) X.hK.1 hP ⟨rfl, rfl⟩ rfl rfl) hP hS ⟨Nat.zero_le _, Nat.zero_le _⟩ rfl hl.1 rfl (Nat.le_of_ble_eq_true rfl) dX8_byteAt_15) hS ?_
  rintro _ _ H locs ⟨rfl, rfl⟩ hP hS
  refine lv_imul hx hb dX8_byteAt_18 ?_
  refine lv_lload_n hx hb dX8_byteAt_19 rfl (lv_at hl 3 rfl) ?_
  refine lv_ldc2 hx hb X.hown (X.hts _ q1367) dX8_byteAt_20 ?_
  refine lv_lrem hx hb dX8_byteAt_23 (by decide) ?_
  refine lv_l2i hx hb dX8_byteAt_24 rfl ?_
  refine lv_iadd hx hb dX8_byteAt_25 ?_
  refine ra_came_ld X hP dX8_byteAt_26 hf (fun hf => ?_)
  obtain ⟨hn, hf⟩ := gN_some hf
  exact gr_bR X hP hS (Option.some.inj hf) hn dX8_byteAt_27
theorem hd_X8_byteAt : yX8_byteAt.cls = RX8 ∧ yX8_byteAt.cls ≠ "java/lang/invoke/MethodHandle" ∧ yX8_byteAt.cls ≠ "java/lang/invoke/VarHandle" ∧ (parseMethodDescriptor yX8_byteAt.desc).map (fun d => d.parameters.length) = some 3 := by decide +kernel
set_option maxHeartbeats 4000000 in
theorem mt_X8_byteAt (l : Launch) (D : va_G) (dA : Nat → ClassId) (A : Nat → Prop) (ad : L3 → Nat) (S : Mem) (x1 : Int32) (x2 : Int32) (x3 : Int64) {res : Int32} (hq : f_X8_byteAt S x1 x2 x3 = some res) : Met l yX8_byteAt (ws_ yX8_byteAt cX8_byteAt 5 (some .byte)) ({ frames := 2, cells := 0, slots := 0, locals := 44 } : Room) (va_Pc [.ref (ad M_o), .int x1, .int x2, .long x3] (PreW D dA (shM dA) exM A ad S)) (QiR D (shM dA) exM A ad S res) 0 0 A :=
  gx_head (by decide) (Nat.le_of_ble_eq_true rfl) (fun p e s m below meth c ls X hP hl => w_X8_byteAt (l := l) X ⟨Nat.le_of_ble_eq_true rfl, Nat.le_of_ble_eq_true rfl⟩ S x1 x2 x3 hP va_S.rf (lv_sub (l := [(0, .ref (ad M_o)), (1, .int x1), (2, .int x2), (3, .long x3)]) hl [0, 1, 2, 3] rfl) hq)
set_option maxHeartbeats 4000000 in
theorem w_X8_consumed_53 {p : Program} {l : Launch} {e : Env} {R : Room} {s : State} {m : MethodId} {args : Array Value} {below : List Frame} {meth : Method} {c : Code} {D : va_G} {dA : Nat → ClassId} {A : Nat → Prop} {ad : L3 → Nat} (X : CX RX8 cX8_consumed 5 (some .long) (KA D dA) p s m args meth c A) (hR : 2 ≤ R.frames ∧ 41 ≤ R.locals) {res : Int64} (S : Mem) (k5 : Int32 → Int64 → Int32 → Option (Int64)) (hk5 : ∀ (x1 : Int32) (x2 : Int64) (x4 : Int32) (H : Heap) (locs : List Loc) (ls : Array Slot), Wd D clA (shM dA) exM A ad S H → va_S A s.heap H locs → lv_has ls 5 [(0, .ref (ad M_o)), (1, .int x1), (2, .long x2), (4, .int x4)] → k5 x1 x2 x4 = some res → W p l e R s m args below meth c H locs 0 0 (MQ below (QjR D (shM dA) exM A ad S res) args s 0 0 A) (F0 m 5 ls [])) (x1 : Int32) (x4 : Int32) (y0 : Int64) (y1 : Int64) {H : Heap} {locs : List Loc} {ls : Array Slot} (hP : Wd D clA (shM dA) exM A ad S H) (hS : va_S A s.heap H locs) (hl : lv_has ls 5 [(0, .ref (ad M_o)), (1, .int x1), (4, .int x4)]) (hf : f_X8_consumed_53 S k5 x1 x4 y0 y1 = some res) : W p l e R s m args below meth c H locs 0 0 (MQ below (QjR D (shM dA) exM A ad S res) args s 0 0 A) (F0 m 53 ls [.long y0, .long y1]) := by
  have hx := X.hx
  have hb := X.hb
  unfold f_X8_consumed_53 at hf
  refine lv_ladd hx hb dX8_consumed_53 ?_
  refine lv_lstore_n (lv' := [(2, .long (y1 + y0)), (0, .ref (ad M_o)), (1, .int x1), (4, .int x4)]) hx hb dX8_consumed_54 rfl hl (by decide) rfl (fun ls hl => ?_)
  refine lv_iinc (v := (x4 + 1)) (lv' := [(4, .int (x4 + 1)), (2, .long (y1 + y0)), (0, .ref (ad M_o)), (1, .int x1)]) hx hb dX8_consumed_55 hl (k := 3) rfl rfl (by decide) rfl (fun ls hl => ?_)
  refine lv_goto (tgt := 5) hx hb dX8_consumed_58 (by decide) ?_
  exact hk5 x1 (y1 + y0) (x4 + 1) _ _ _ hP hS (lv_sub hl [2, 3, 1, 0] rfl) hf
set_option maxHeartbeats 4000000 in
theorem w_X8_consumed_5_b {p : Program} {l : Launch} {e : Env} {R : Room} {s : State} {m : MethodId} {args : Array Value} {below : List Frame} {meth : Method} {c : Code} {D : va_G} {dA : Nat → ClassId} {A : Nat → Prop} {ad : L3 → Nat} (X : CX RX8 cX8_consumed 5 (some .long) (KA D dA) p s m args meth c A) (hR : 2 ≤ R.frames ∧ 41 ≤ R.locals) {res : Int64} (S : Mem) (k5 : Int32 → Int64 → Int32 → Option (Int64)) (hk5 : ∀ (x1 : Int32) (x2 : Int64) (x4 : Int32) (H : Heap) (locs : List Loc) (ls : Array Slot), Wd D clA (shM dA) exM A ad S H → va_S A s.heap H locs → lv_has ls 5 [(0, .ref (ad M_o)), (1, .int x1), (2, .long x2), (4, .int x4)] → k5 x1 x2 x4 = some res → W p l e R s m args below meth c H locs 0 0 (MQ below (QjR D (shM dA) exM A ad S res) args s 0 0 A) (F0 m 5 ls [])) (x1 : Int32) (x2 : Int64) (x4 : Int32) {H : Heap} {locs : List Loc} {ls : Array Slot} (hP : Wd D clA (shM dA) exM A ad S H) (hS : va_S A s.heap H locs) (hl : lv_has ls 5 [(0, .ref (ad M_o)), (1, .int x1), (2, .long x2), (4, .int x4)]) (hf : f_X8_consumed_5_b S k5 x1 x2 x4 = some res) : W p l e R s m args below meth c H locs 0 0 (MQ below (QjR D (shM dA) exM A ad S res) args s 0 0 A) (F0 m 5 ls []) := by
  have hx := X.hx
  have hb := X.hb
  unfold f_X8_consumed_5_b at hf
  refine lv_iload hx hb dX8_consumed_5 (lv_at hl 3 rfl) ?_
  refine lv_sipush (v := 256) hx hb dX8_consumed_7 (by decide) ?_
  refine gb_icmp_ge (tgt := 61) hx hb dX8_consumed_10 (by decide) hf (fun hf => ?_) (fun hf => ?_)
  · refine lv_lload_n hx hb dX8_consumed_61 rfl (lv_at hl 2 rfl) ?_
    exact gr_lR X hP hS (Option.some.inj hf) dX8_consumed_62
  · refine lv_lload_n hx hb dX8_consumed_13 rfl (lv_at hl 2 rfl) ?_
    refine lv_aload_n hx hb dX8_consumed_14 rfl (lv_at hl 0 rfl) ?_
    refine rg_X8_84 X hP dX8_consumed_15 ?_
    refine lv_iload_n hx hb dX8_consumed_18 rfl (lv_at hl 1 rfl) ?_
    refine lv_iload hx hb dX8_consumed_19 (lv_at hl 3 rfl) ?_
    obtain ⟨v1, hq, hf⟩ := gS_eq hf
    refine gc_i (gc_fixS (S := S) X (mt_X8_at l D dA A ad S x1 x4 hq) (lw_S q1283 q1284 q93 q1285) ⟨rfl, rfl⟩ hd_X8_at.2 ⟨Nat.le_trans (Nat.le_of_ble_eq_true rfl) hR.1, Nat.le_trans (Nat.le_of_ble_eq_true rfl) hR.2⟩ hP hS ⟨Nat.zero_le _, Nat.zero_le _⟩ rfl hl.1 rfl (Nat.le_of_ble_eq_true rfl) dX8_consumed_21) hS ?_
    rintro _ _ H locs ⟨rfl, rfl⟩ hP hS
    refine ra_wasReset_ld X hP dX8_consumed_24 hf (fun hf => ?_)
    refine gb_if_eq (tgt := 42) hx hb dX8_consumed_25 (by decide) hf (fun hf => ?_) (fun hf => ?_)
    · refine lv_aload_n hx hb dX8_consumed_42 rfl (lv_at hl 0 rfl) ?_
      refine rg_X8_81 X hP dX8_consumed_43 ?_
      refine lv_iload_n hx hb dX8_consumed_46 rfl (lv_at hl 1 rfl) ?_
      refine lv_iload hx hb dX8_consumed_47 (lv_at hl 3 rfl) ?_
      obtain ⟨v2, hq, hf⟩ := gS_eq hf
      refine gc_i (gc_fixS (S := S) X (mt_X8_at l D dA A ad S x1 x4 hq) (lw_S q1283 q1284 q93 q1285) ⟨rfl, rfl⟩ hd_X8_at.2 ⟨Nat.le_trans (Nat.le_of_ble_eq_true rfl) hR.1, Nat.le_trans (Nat.le_of_ble_eq_true rfl) hR.2⟩ hP hS ⟨Nat.zero_le _, Nat.zero_le _⟩ rfl hl.1 rfl (Nat.le_of_ble_eq_true rfl) dX8_consumed_49) hS ?_
      rintro _ _ H locs ⟨rfl, rfl⟩ hP hS
      refine ra_read_ld X hP dX8_consumed_52 hf (fun hf => ?_)
      exact w_X8_consumed_53 X hR S k5 hk5 x1 x4 (S.2 M_read (Int32.toNatClampNeg v2)) x2 hP hS (lv_sub hl [0, 1, 3] rfl) hf
    · refine lv_aload_n hx hb dX8_consumed_28 rfl (lv_at hl 0 rfl) ?_
      refine rg_X8_78 X hP dX8_consumed_29 ?_
      refine lv_iload_n hx hb dX8_consumed_32 rfl (lv_at hl 1 rfl) ?_
      refine lv_iload hx hb dX8_consumed_33 (lv_at hl 3 rfl) ?_
      obtain ⟨v3, hq, hf⟩ := gS_eq hf
      refine gc_i (gc_fixS (S := S) X (mt_X8_at l D dA A ad S x1 x4 hq) (lw_S q1283 q1284 q93 q1285) ⟨rfl, rfl⟩ hd_X8_at.2 ⟨Nat.le_trans (Nat.le_of_ble_eq_true rfl) hR.1, Nat.le_trans (Nat.le_of_ble_eq_true rfl) hR.2⟩ hP hS ⟨Nat.zero_le _, Nat.zero_le _⟩ rfl hl.1 rfl (Nat.le_of_ble_eq_true rfl) dX8_consumed_35) hS ?_
      rintro _ _ H locs ⟨rfl, rfl⟩ hP hS
      refine ra_size_ld X hP dX8_consumed_38 hf (fun hf => ?_)
      refine lv_goto (tgt := 53) hx hb dX8_consumed_39 (by decide) ?_
      exact w_X8_consumed_53 X hR S k5 hk5 x1 x4 (S.2 M_size (Int32.toNatClampNeg v3)) x2 hP hS (lv_sub hl [0, 1, 3] rfl) hf
set_option maxHeartbeats 4000000 in
theorem w_X8_consumed_5 {p : Program} {l : Launch} {e : Env} {R : Room} {s : State} {m : MethodId} {args : Array Value} {below : List Frame} {meth : Method} {c : Code} {D : va_G} {dA : Nat → ClassId} {A : Nat → Prop} {ad : L3 → Nat} (X : CX RX8 cX8_consumed 5 (some .long) (KA D dA) p s m args meth c A) (hR : 2 ≤ R.frames ∧ 41 ≤ R.locals) {res : Int64} (S : Mem) (n : Nat) : ∀ (x1 : Int32) (x2 : Int64) (x4 : Int32) (H : Heap) (locs : List Loc) (ls : Array Slot), Wd D clA (shM dA) exM A ad S H → va_S A s.heap H locs → lv_has ls 5 [(0, .ref (ad M_o)), (1, .int x1), (2, .long x2), (4, .int x4)] → f_X8_consumed_5 S n x1 x2 x4 = some res → W p l e R s m args below meth c H locs 0 0 (MQ below (QjR D (shM dA) exM A ad S res) args s 0 0 A) (F0 m 5 ls []) := by
  induction n with
  | zero =>
    intro x1 x2 x4 H locs ls hP hS hl hf
    exact absurd (show none = some res from hf) (fun h => by cases h)
  | succ n ih =>
    intro x1 x2 x4 H locs ls hP hS hl hf
    exact w_X8_consumed_5_b X hR S (f_X8_consumed_5 S n) ih x1 x2 x4 hP hS hl hf
set_option maxHeartbeats 4000000 in
theorem w_X8_consumed {p : Program} {l : Launch} {e : Env} {R : Room} {s : State} {m : MethodId} {args : Array Value} {below : List Frame} {meth : Method} {c : Code} {D : va_G} {dA : Nat → ClassId} {A : Nat → Prop} {ad : L3 → Nat} (X : CX RX8 cX8_consumed 5 (some .long) (KA D dA) p s m args meth c A) (hR : 2 ≤ R.frames ∧ 41 ≤ R.locals) {res : Int64} (S : Mem) (x1 : Int32) {H : Heap} {locs : List Loc} {ls : Array Slot} (hP : Wd D clA (shM dA) exM A ad S H) (hS : va_S A s.heap H locs) (hl : lv_has ls 5 [(0, .ref (ad M_o)), (1, .int x1)]) (hf : f_X8_consumed S x1 = some res) : W p l e R s m args below meth c H locs 0 0 (MQ below (QjR D (shM dA) exM A ad S res) args s 0 0 A) (F0 m 0 ls []) := by
  have hx := X.hx
  have hb := X.hb
  unfold f_X8_consumed at hf
  refine lv_lconst (v := 0) hx hb dX8_consumed_0 (by decide) ?_
  refine lv_lstore_n (lv' := [(2, .long 0), (0, .ref (ad M_o)), (1, .int x1)]) hx hb dX8_consumed_1 rfl hl (by decide) rfl (fun ls hl => ?_)
  refine lv_iconst (v := 0) hx hb dX8_consumed_2 (by decide) ?_
  refine lv_istore (lv' := [(4, .int 0), (2, .long 0), (0, .ref (ad M_o)), (1, .int x1)]) hx hb dX8_consumed_3 hl (by decide) rfl (fun ls hl => ?_)
  exact w_X8_consumed_5 X hR S FU x1 0 0 _ _ _ hP hS (lv_sub hl [2, 3, 1, 0] rfl) hf
theorem hd_X8_consumed : yX8_consumed.cls = RX8 ∧ yX8_consumed.cls ≠ "java/lang/invoke/MethodHandle" ∧ yX8_consumed.cls ≠ "java/lang/invoke/VarHandle" ∧ (parseMethodDescriptor yX8_consumed.desc).map (fun d => d.parameters.length) = some 1 := by decide +kernel
set_option maxHeartbeats 4000000 in
theorem mt_X8_consumed (l : Launch) (D : va_G) (dA : Nat → ClassId) (A : Nat → Prop) (ad : L3 → Nat) (S : Mem) (x1 : Int32) {res : Int64} (hq : f_X8_consumed S x1 = some res) : Met l yX8_consumed (ws_ yX8_consumed cX8_consumed 5 (some .long)) ({ frames := 2, cells := 0, slots := 0, locals := 41 } : Room) (va_Pc [.ref (ad M_o), .int x1] (PreW D dA (shM dA) exM A ad S)) (QjR D (shM dA) exM A ad S res) 0 0 A :=
  gx_head (by decide) (Nat.le_of_ble_eq_true rfl) (fun p e s m below meth c ls X hP hl => w_X8_consumed (l := l) X ⟨Nat.le_of_ble_eq_true rfl, Nat.le_of_ble_eq_true rfl⟩ S x1 hP va_S.rf (lv_sub (l := [(0, .ref (ad M_o)), (1, .int x1)]) hl [0, 1] rfl) hq)
set_option maxHeartbeats 4000000 in
theorem w_X8_grows {p : Program} {l : Launch} {e : Env} {R : Room} {s : State} {m : MethodId} {args : Array Value} {below : List Frame} {meth : Method} {c : Code} {D : va_G} {dA : Nat → ClassId} {A : Nat → Prop} {ad : L3 → Nat} (X : CX RX8 cX8_grows 6 (some .boolean) (KA D dA) p s m args meth c A) (hR : 1 ≤ R.frames ∧ 20 ≤ R.locals) {res : Int32} (S : Mem) (x0 : Int64) (x2 : Int64) (x4 : Int64) {H : Heap} {locs : List Loc} {ls : Array Slot} (hP : Wd D clA (shM dA) exM A ad S H) (hS : va_S A s.heap H locs) (hl : lv_has ls 6 [(0, .long x0), (2, .long x2), (4, .long x4)]) (hf : f_X8_grows x0 x2 x4 = res) : W p l e R s m args below meth c H locs 0 0 (MQ below (QiR D (shM dA) exM A ad S res) args s 0 0 A) (F0 m 0 ls []) := by
  have hx := X.hx
  have hb := X.hb
  unfold f_X8_grows at hf
  refine lv_ldc2 hx hb X.hown (X.hts _ q1391) dX8_grows_0 ?_
  refine lv_lload_n hx hb dX8_grows_3 rfl (lv_at hl 0 rfl) ?_
  refine lv_lload_n hx hb dX8_grows_4 rfl (lv_at hl 1 rfl) ?_
  refine lv_lsub hx hb dX8_grows_5 ?_
  refine lv_lmul hx hb dX8_grows_6 ?_
  refine lv_lload hx hb dX8_grows_7 (lv_at hl 2 rfl) ?_
  refine gb_lcmp_lt (tgt := 23) hx hb dX8_grows_9 dX8_grows_10 (by decide) hf (fun hf => ?_) (fun hf => ?_)
  · refine lv_iconst (v := 0) hx hb dX8_grows_23 (by decide) ?_
    exact gr_zR X hP hS hf (by decide) dX8_grows_24
  · refine lv_lload_n hx hb dX8_grows_13 rfl (lv_at hl 0 rfl) ?_
    refine lv_lload_n hx hb dX8_grows_14 rfl (lv_at hl 1 rfl) ?_
    refine gb_lcmp_le (tgt := 23) hx hb dX8_grows_15 dX8_grows_16 (by decide) hf (fun hf => ?_) (fun hf => ?_)
    · refine lv_iconst (v := 0) hx hb dX8_grows_23 (by decide) ?_
      exact gr_zR X hP hS hf (by decide) dX8_grows_24
    · refine lv_iconst (v := 1) hx hb dX8_grows_19 (by decide) ?_
      refine lv_goto (tgt := 24) hx hb dX8_grows_20 (by decide) ?_
      exact gr_zR X hP hS hf (by decide) dX8_grows_24
theorem hd_X8_grows : yX8_grows.cls = RX8 ∧ yX8_grows.cls ≠ "java/lang/invoke/MethodHandle" ∧ yX8_grows.cls ≠ "java/lang/invoke/VarHandle" ∧ (parseMethodDescriptor yX8_grows.desc).map (fun d => d.parameters.length) = some 3 := by decide +kernel
set_option maxHeartbeats 4000000 in
theorem mt_X8_grows (l : Launch) (D : va_G) (dA : Nat → ClassId) (A : Nat → Prop) (ad : L3 → Nat) (S : Mem) (x0 : Int64) (x2 : Int64) (x4 : Int64) {res : Int32} (hq : f_X8_grows x0 x2 x4 = res) : Met l yX8_grows (ws_ yX8_grows cX8_grows 6 (some .boolean)) ({ frames := 1, cells := 0, slots := 0, locals := 20 } : Room) (va_Pc [.long x0, .long x2, .long x4] (PreW D dA (shM dA) exM A ad S)) (QiR D (shM dA) exM A ad S res) 0 0 A :=
  gx_head (by decide) (Nat.le_of_ble_eq_true rfl) (fun p e s m below meth c ls X hP hl => w_X8_grows (l := l) X ⟨Nat.le_of_ble_eq_true rfl, Nat.le_of_ble_eq_true rfl⟩ S x0 x2 x4 hP va_S.rf (lv_sub (l := [(0, .long x0), (2, .long x2), (4, .long x4)]) hl [0, 1, 2] rfl) hq)
set_option maxHeartbeats 4000000 in
theorem w_X8_growData_55 {p : Program} {l : Launch} {e : Env} {R : Room} {s : State} {m : MethodId} {args : Array Value} {below : List Frame} {meth : Method} {c : Code} {D : va_G} {dA : Nat → ClassId} {A : Nat → Prop} {ad : L3 → Nat} (X : CX RX8 cX8_growData 8 none (KA D dA) p s m args meth c A) (hR : 3 ≤ R.frames ∧ 65 ≤ R.locals) {res : Mem} (S : Mem) (x1 : Int32) (y0 : Int64) {H : Heap} {locs : List Loc} {ls : Array Slot} (hP : Wd D clA (shM dA) exM A ad S H) (hS : va_S A s.heap H locs) (hl : lv_has ls 8 [(0, .ref (ad M_o)), (1, .int x1)]) (hf : f_X8_growData_55 S x1 y0 = some res) : W p l e R s m args below meth c H locs 0 0 (MQ below (QvW D (shM dA) exM A ad res) args s 0 0 A) (F0 m 55 ls [.long y0]) := by
  have hx := X.hx
  have hb := X.hb
  unfold f_X8_growData_55 at hf
  refine lv_lstore (lv' := [(6, .long y0), (0, .ref (ad M_o)), (1, .int x1)]) hx hb dX8_growData_55 hl (by decide) rfl (fun ls hl => ?_)
  refine lv_lload hx hb dX8_growData_57 (lv_at hl 0 rfl) ?_
  refine lv_aload_n hx hb dX8_growData_59 rfl (lv_at hl 1 rfl) ?_
  refine rg_X8_32 X hP dX8_growData_60 ?_
  refine lv_iload_n hx hb dX8_growData_63 rfl (lv_at hl 2 rfl) ?_
  refine ra_dataGrant_ld X hP dX8_growData_64 hf (fun hf => ?_)
  refine gb_lcmp_gt (tgt := 70) hx hb dX8_growData_65 dX8_growData_66 (by decide) hf (fun hf => ?_) (fun hf => ?_)
  · refine lv_aload_n hx hb dX8_growData_70 rfl (lv_at hl 1 rfl) ?_
    refine rg_X8_32 X hP dX8_growData_71 ?_
    refine lv_iload_n hx hb dX8_growData_74 rfl (lv_at hl 2 rfl) ?_
    refine lv_lload hx hb dX8_growData_75 (lv_at hl 0 rfl) ?_
    refine ra_dataGrant_st X hP hS dX8_growData_77 hf (fun S1 H locs hP hS hf => ?_)
    refine lv_aload_n hx hb dX8_growData_78 rfl (lv_at hl 1 rfl) ?_
    refine rg_X8_35 X hP dX8_growData_79 ?_
    refine lv_iload_n hx hb dX8_growData_82 rfl (lv_at hl 2 rfl) ?_
    refine lv_iconst (v := 1) hx hb dX8_growData_83 (by decide) ?_
    refine ra_tellData_st X hP hS dX8_growData_84 hf (fun S2 H locs hP hS hf => ?_)
    exact gr_vW X hP hS (Option.some.inj hf) dX8_growData_85
  · exact gr_vW X hP hS (Option.some.inj hf) dX8_growData_69
set_option maxHeartbeats 4000000 in
theorem w_X8_growData {p : Program} {l : Launch} {e : Env} {R : Room} {s : State} {m : MethodId} {args : Array Value} {below : List Frame} {meth : Method} {c : Code} {D : va_G} {dA : Nat → ClassId} {A : Nat → Prop} {ad : L3 → Nat} (X : CX RX8 cX8_growData 8 none (KA D dA) p s m args meth c A) (hR : 3 ≤ R.frames ∧ 65 ≤ R.locals) {res : Mem} (S : Mem) (x1 : Int32) {H : Heap} {locs : List Loc} {ls : Array Slot} (hP : Wd D clA (shM dA) exM A ad S H) (hS : va_S A s.heap H locs) (hl : lv_has ls 8 [(0, .ref (ad M_o)), (1, .int x1)]) (hf : f_X8_growData S x1 = some res) : W p l e R s m args below meth c H locs 0 0 (MQ below (QvW D (shM dA) exM A ad res) args s 0 0 A) (F0 m 0 ls []) := by
  have hx := X.hx
  have hb := X.hb
  unfold f_X8_growData at hf
  refine lv_aload_n hx hb dX8_growData_0 rfl (lv_at hl 0 rfl) ?_
  refine rg_X8_16 X hP dX8_growData_1 ?_
  refine lv_bipush (v := 16) hx hb dX8_growData_4 (by decide) ?_
  refine lv_iload_n hx hb dX8_growData_6 rfl (lv_at hl 1 rfl) ?_
  refine lv_imul hx hb dX8_growData_7 ?_
  refine lv_iconst (v := 4) hx hb dX8_growData_8 (by decide) ?_
  refine lv_iadd hx hb dX8_growData_9 ?_
  refine ra_grants_ld X hP dX8_growData_10 hf (fun hf => ?_)
  refine lv_i2l hx hb dX8_growData_11 rfl ?_
  refine lv_lstore_n (lv' := [(2, .long (Int32.toInt64 (S.1 M_grants (Int32.toNatClampNeg ((16 * x1) + 4))))), (0, .ref (ad M_o)), (1, .int x1)]) hx hb dX8_growData_12 rfl hl (by decide) rfl (fun ls hl => ?_)
  refine lv_aload_n hx hb dX8_growData_13 rfl (lv_at hl 1 rfl) ?_
  refine lv_iload_n hx hb dX8_growData_14 rfl (lv_at hl 2 rfl) ?_
  obtain ⟨v1, hq, hf⟩ := gB_some hf
  refine gc_l (gc_fixV (S := S) X (mt_X8_consumed l D dA A ad S x1 hq) (lw_V q1384 q1386 qs53 q93 q1387) ⟨rfl, rfl⟩ hd_X8_consumed ⟨Nat.le_trans (Nat.le_of_ble_eq_true rfl) hR.1, Nat.le_trans (Nat.le_of_ble_eq_true rfl) hR.2⟩ (wd_recv (r := M_o) (ci := 0) (q := (RX8, TX8, 61)) X.hK.1 hP ⟨rfl, rfl⟩ rfl rfl) hP hS ⟨Nat.zero_le _, Nat.zero_le _⟩ rfl hl.1 rfl (Nat.le_of_ble_eq_true rfl) dX8_growData_15) hS ?_
  rintro _ _ H locs ⟨rfl, rfl⟩ hP hS
  refine lv_lload_n hx hb dX8_growData_18 rfl (lv_at hl 0 rfl) ?_
  refine lv_ladd hx hb dX8_growData_19 ?_
  refine lv_lstore (lv' := [(4, .long (v1 + (Int32.toInt64 (S.1 M_grants (Int32.toNatClampNeg ((16 * x1) + 4)))))), (2, .long (Int32.toInt64 (S.1 M_grants (Int32.toNatClampNeg ((16 * x1) + 4))))), (0, .ref (ad M_o)), (1, .int x1)]) hx hb dX8_growData_20 hl (by decide) rfl (fun ls hl => ?_)
  refine lv_lload hx hb dX8_growData_22 (lv_at hl 0 rfl) ?_
  refine lv_aload_n hx hb dX8_growData_24 rfl (lv_at hl 2 rfl) ?_
  refine rg_X8_32 X hP dX8_growData_25 ?_
  refine lv_iload_n hx hb dX8_growData_28 rfl (lv_at hl 3 rfl) ?_
  refine ra_dataGrant_ld X hP dX8_growData_29 hf (fun hf => ?_)
  refine lv_lload_n hx hb dX8_growData_30 rfl (lv_at hl 1 rfl) ?_
  obtain ⟨v2, hq, hf⟩ := gS_eq hf
  refine gc_i (gc_fixS (S := S) X (mt_X8_grows l D dA A ad S (v1 + (Int32.toInt64 (S.1 M_grants (Int32.toNatClampNeg ((16 * x1) + 4))))) (S.2 M_dataGrant (Int32.toNatClampNeg x1)) (Int32.toInt64 (S.1 M_grants (Int32.toNatClampNeg ((16 * x1) + 4)))) hq) (lw_S q1388 q1389 q93 q1390) ⟨rfl, rfl⟩ hd_X8_grows.2 ⟨Nat.le_trans (Nat.le_of_ble_eq_true rfl) hR.1, Nat.le_trans (Nat.le_of_ble_eq_true rfl) hR.2⟩ hP hS ⟨Nat.zero_le _, Nat.zero_le _⟩ rfl hl.1 rfl (Nat.le_of_ble_eq_true rfl) dX8_growData_31) hS ?_
  rintro _ _ H locs ⟨rfl, rfl⟩ hP hS
  refine gb_if_ne (tgt := 38) hx hb dX8_growData_34 (by decide) hf (fun hf => ?_) (fun hf => ?_)
  · refine lv_lload hx hb dX8_growData_38 (lv_at hl 0 rfl) ?_
    refine lv_ldc2 hx hb X.hown (X.hts _ q1392) dX8_growData_40 ?_
    refine gb_lcmp_ge (tgt := 52) hx hb dX8_growData_43 dX8_growData_44 (by decide) hf (fun hf => ?_) (fun hf => ?_)
    · refine lv_ldc2 hx hb X.hown (X.hts _ q1392) dX8_growData_52 ?_
      exact w_X8_growData_55 X hR S x1 65536 hP hS (lv_sub hl [2, 3] rfl) hf
    · refine lv_lload hx hb dX8_growData_47 (lv_at hl 0 rfl) ?_
      refine lv_goto (tgt := 55) hx hb dX8_growData_49 (by decide) ?_
      exact w_X8_growData_55 X hR S x1 (v1 + (Int32.toInt64 (S.1 M_grants (Int32.toNatClampNeg ((16 * x1) + 4))))) hP hS (lv_sub hl [2, 3] rfl) hf
  · exact gr_vW X hP hS (Option.some.inj hf) dX8_growData_37
theorem hd_X8_growData : yX8_growData.cls = RX8 ∧ yX8_growData.cls ≠ "java/lang/invoke/MethodHandle" ∧ yX8_growData.cls ≠ "java/lang/invoke/VarHandle" ∧ (parseMethodDescriptor yX8_growData.desc).map (fun d => d.parameters.length) = some 1 := by decide +kernel
set_option maxHeartbeats 4000000 in
theorem mt_X8_growData (l : Launch) (D : va_G) (dA : Nat → ClassId) (A : Nat → Prop) (ad : L3 → Nat) (S : Mem) (x1 : Int32) {res : Mem} (hq : f_X8_growData S x1 = some res) : Met l yX8_growData (ws_ yX8_growData cX8_growData 8 none) ({ frames := 3, cells := 0, slots := 0, locals := 65 } : Room) (va_Pc [.ref (ad M_o), .int x1] (PreW D dA (shM dA) exM A ad S)) (QvW D (shM dA) exM A ad res) 0 0 A :=
  gx_head (by decide) (Nat.le_of_ble_eq_true rfl) (fun p e s m below meth c ls X hP hl => w_X8_growData (l := l) X ⟨Nat.le_of_ble_eq_true rfl, Nat.le_of_ble_eq_true rfl⟩ S x1 hP va_S.rf (lv_sub (l := [(0, .ref (ad M_o)), (1, .int x1)]) hl [0, 1] rfl) hq)
set_option maxHeartbeats 4000000 in
theorem w_X8_growStream_60 {p : Program} {l : Launch} {e : Env} {R : Room} {s : State} {m : MethodId} {args : Array Value} {below : List Frame} {meth : Method} {c : Code} {D : va_G} {dA : Nat → ClassId} {A : Nat → Prop} {ad : L3 → Nat} (X : CX RX8 cX8_growStream 10 none (KA D dA) p s m args meth c A) (hR : 3 ≤ R.frames ∧ 64 ≤ R.locals) {res : Mem} (S : Mem) (x3 : Int32) (y0 : Int64) {H : Heap} {locs : List Loc} {ls : Array Slot} (hP : Wd D clA (shM dA) exM A ad S H) (hS : va_S A s.heap H locs) (hl : lv_has ls 10 [(0, .ref (ad M_o)), (3, .int x3)]) (hf : f_X8_growStream_60 S x3 y0 = some res) : W p l e R s m args below meth c H locs 0 0 (MQ below (QvW D (shM dA) exM A ad res) args s 0 0 A) (F0 m 60 ls [.long y0]) := by
  have hx := X.hx
  have hb := X.hb
  unfold f_X8_growStream_60 at hf
  refine lv_lstore (lv' := [(8, .long y0), (0, .ref (ad M_o)), (3, .int x3)]) hx hb dX8_growStream_60 hl (by decide) rfl (fun ls hl => ?_)
  refine lv_lload hx hb dX8_growStream_62 (lv_at hl 0 rfl) ?_
  refine lv_aload_n hx hb dX8_growStream_64 rfl (lv_at hl 1 rfl) ?_
  refine rg_X8_90 X hP dX8_growStream_65 ?_
  refine lv_iload_n hx hb dX8_growStream_68 rfl (lv_at hl 2 rfl) ?_
  refine ra_grant_ld X hP dX8_growStream_69 hf (fun hf => ?_)
  refine gb_lcmp_gt (tgt := 75) hx hb dX8_growStream_70 dX8_growStream_71 (by decide) hf (fun hf => ?_) (fun hf => ?_)
  · refine lv_aload_n hx hb dX8_growStream_75 rfl (lv_at hl 1 rfl) ?_
    refine rg_X8_90 X hP dX8_growStream_76 ?_
    refine lv_iload_n hx hb dX8_growStream_79 rfl (lv_at hl 2 rfl) ?_
    refine lv_lload hx hb dX8_growStream_80 (lv_at hl 0 rfl) ?_
    refine ra_grant_st X hP hS dX8_growStream_82 hf (fun S1 H locs hP hS hf => ?_)
    refine lv_aload_n hx hb dX8_growStream_83 rfl (lv_at hl 1 rfl) ?_
    refine rg_X8_93 X hP dX8_growStream_84 ?_
    refine lv_iload_n hx hb dX8_growStream_87 rfl (lv_at hl 2 rfl) ?_
    refine lv_iconst (v := 1) hx hb dX8_growStream_88 (by decide) ?_
    refine ra_tellGrant_st X hP hS dX8_growStream_89 hf (fun S2 H locs hP hS hf => ?_)
    exact gr_vW X hP hS (Option.some.inj hf) dX8_growStream_90
  · exact gr_vW X hP hS (Option.some.inj hf) dX8_growStream_74
set_option maxHeartbeats 4000000 in
theorem w_X8_growStream {p : Program} {l : Launch} {e : Env} {R : Room} {s : State} {m : MethodId} {args : Array Value} {below : List Frame} {meth : Method} {c : Code} {D : va_G} {dA : Nat → ClassId} {A : Nat → Prop} {ad : L3 → Nat} (X : CX RX8 cX8_growStream 10 none (KA D dA) p s m args meth c A) (hR : 3 ≤ R.frames ∧ 64 ≤ R.locals) {res : Mem} (S : Mem) (x1 : Int32) (x2 : Int32) {H : Heap} {locs : List Loc} {ls : Array Slot} (hP : Wd D clA (shM dA) exM A ad S H) (hS : va_S A s.heap H locs) (hl : lv_has ls 10 [(0, .ref (ad M_o)), (1, .int x1), (2, .int x2)]) (hf : f_X8_growStream S x1 x2 = some res) : W p l e R s m args below meth c H locs 0 0 (MQ below (QvW D (shM dA) exM A ad res) args s 0 0 A) (F0 m 0 ls []) := by
  have hx := X.hx
  have hb := X.hb
  unfold f_X8_growStream at hf
  refine lv_iload_n hx hb dX8_growStream_0 rfl (lv_at hl 1 rfl) ?_
  refine lv_iload_n hx hb dX8_growStream_1 rfl (lv_at hl 2 rfl) ?_
  obtain ⟨v1, hq, hf⟩ := gS_eq hf
  refine gc_i (gc_fixS (S := S) X (mt_X8_at l D dA A ad S x1 x2 hq) (lw_S q1283 q1284 q93 q1285) ⟨rfl, rfl⟩ hd_X8_at.2 ⟨Nat.le_trans (Nat.le_of_ble_eq_true rfl) hR.1, Nat.le_trans (Nat.le_of_ble_eq_true rfl) hR.2⟩ hP hS ⟨Nat.zero_le _, Nat.zero_le _⟩ rfl hl.1 rfl (Nat.le_of_ble_eq_true rfl) dX8_growStream_2) hS ?_
  rintro _ _ H locs ⟨rfl, rfl⟩ hP hS
  refine lv_istore_n (lv' := [(3, .int v1), (0, .ref (ad M_o)), (1, .int x1), (2, .int x2)]) hx hb dX8_growStream_5 rfl hl (by decide) rfl (fun ls hl => ?_)
  refine lv_aload_n hx hb dX8_growStream_6 rfl (lv_at hl 1 rfl) ?_
  refine lv_iload_n hx hb dX8_growStream_7 rfl (lv_at hl 2 rfl) ?_
  refine lv_iload_n hx hb dX8_growStream_8 rfl (lv_at hl 3 rfl) ?_
  obtain ⟨v2, hq, hf⟩ := gB_some hf
  refine gc_i (gc_fixV (S := S) X (mt_X8_grantOf l D dA A ad S x1 x2 hq) (lw_V q1286 q1288 qs37 q93 q1289) ⟨rfl, rfl⟩ hd_X8_grantOf ⟨Nat.le_trans (Nat.le_of_ble_eq_true rfl) hR.1, Nat.le_trans (Nat.le_of_ble_eq_true rfl) hR.2⟩ (wd_recv (r := M_o) (ci := 0) (q := (RX8, TX8, 61)) X.hK.1 hP ⟨rfl, rfl⟩ rfl rfl) hP hS ⟨Nat.zero_le _, Nat.zero_le _⟩ rfl hl.1 rfl (Nat.le_of_ble_eq_true rfl) dX8_growStream_9) hS ?_
  rintro _ _ H locs ⟨rfl, rfl⟩ hP hS
  refine lv_i2l hx hb dX8_growStream_12 rfl ?_
  refine lv_lstore (lv' := [(4, .long (Int32.toInt64 v2)), (3, .int v1), (0, .ref (ad M_o)), (1, .int x1), (2, .int x2)]) hx hb dX8_growStream_13 hl (by decide) rfl (fun ls hl => ?_)
  refine lv_aload_n hx hb dX8_growStream_15 rfl (lv_at hl 2 rfl) ?_
  refine rg_X8_81 X hP dX8_growStream_16 ?_
  refine lv_iload_n hx hb dX8_growStream_19 rfl (lv_at hl 1 rfl) ?_
  refine ra_read_ld X hP dX8_growStream_20 hf (fun hf => ?_)
  refine lv_lload hx hb dX8_growStream_21 (lv_at hl 0 rfl) ?_
  refine lv_ladd hx hb dX8_growStream_23 ?_
  refine lv_lstore (lv' := [(6, .long ((S.2 M_read (Int32.toNatClampNeg v1)) + (Int32.toInt64 v2))), (4, .long (Int32.toInt64 v2)), (3, .int v1), (0, .ref (ad M_o)), (1, .int x1), (2, .int x2)]) hx hb dX8_growStream_24 hl (by decide) rfl (fun ls hl => ?_)
  refine lv_lload hx hb dX8_growStream_26 (lv_at hl 0 rfl) ?_
  refine lv_aload_n hx hb dX8_growStream_28 rfl (lv_at hl 3 rfl) ?_
  refine rg_X8_90 X hP dX8_growStream_29 ?_
  refine lv_iload_n hx hb dX8_growStream_32 rfl (lv_at hl 2 rfl) ?_
  refine ra_grant_ld X hP dX8_growStream_33 hf (fun hf => ?_)
  refine lv_lload hx hb dX8_growStream_34 (lv_at hl 1 rfl) ?_
  obtain ⟨v3, hq, hf⟩ := gS_eq hf
  refine gc_i (gc_fixS (S := S) X (mt_X8_grows l D dA A ad S ((S.2 M_read (Int32.toNatClampNeg v1)) + (Int32.toInt64 v2)) (S.2 M_grant (Int32.toNatClampNeg v1)) (Int32.toInt64 v2) hq) (lw_S q1388 q1389 q93 q1390) ⟨rfl, rfl⟩ hd_X8_grows.2 ⟨Nat.le_trans (Nat.le_of_ble_eq_true rfl) hR.1, Nat.le_trans (Nat.le_of_ble_eq_true rfl) hR.2⟩ hP hS ⟨Nat.zero_le _, Nat.zero_le _⟩ rfl hl.1 rfl (Nat.le_of_ble_eq_true rfl) dX8_growStream_36) hS ?_
  rintro _ _ H locs ⟨rfl, rfl⟩ hP hS
  refine gb_if_ne (tgt := 43) hx hb dX8_growStream_39 (by decide) hf (fun hf => ?_) (fun hf => ?_)
  · refine lv_lload hx hb dX8_growStream_43 (lv_at hl 0 rfl) ?_
    refine lv_ldc2 hx hb X.hown (X.hts _ q1392) dX8_growStream_45 ?_
    refine gb_lcmp_ge (tgt := 57) hx hb dX8_growStream_48 dX8_growStream_49 (by decide) hf (fun hf => ?_) (fun hf => ?_)
    · refine lv_ldc2 hx hb X.hown (X.hts _ q1392) dX8_growStream_57 ?_
      exact w_X8_growStream_60 X hR S v1 65536 hP hS (lv_sub hl [3, 2] rfl) hf
    · refine lv_lload hx hb dX8_growStream_52 (lv_at hl 0 rfl) ?_
      refine lv_goto (tgt := 60) hx hb dX8_growStream_54 (by decide) ?_
      exact w_X8_growStream_60 X hR S v1 ((S.2 M_read (Int32.toNatClampNeg v1)) + (Int32.toInt64 v2)) hP hS (lv_sub hl [3, 2] rfl) hf
  · exact gr_vW X hP hS (Option.some.inj hf) dX8_growStream_42
theorem hd_X8_growStream : yX8_growStream.cls = RX8 ∧ yX8_growStream.cls ≠ "java/lang/invoke/MethodHandle" ∧ yX8_growStream.cls ≠ "java/lang/invoke/VarHandle" ∧ (parseMethodDescriptor yX8_growStream.desc).map (fun d => d.parameters.length) = some 2 := by decide +kernel
set_option maxHeartbeats 4000000 in
theorem mt_X8_growStream (l : Launch) (D : va_G) (dA : Nat → ClassId) (A : Nat → Prop) (ad : L3 → Nat) (S : Mem) (x1 : Int32) (x2 : Int32) {res : Mem} (hq : f_X8_growStream S x1 x2 = some res) : Met l yX8_growStream (ws_ yX8_growStream cX8_growStream 10 none) ({ frames := 3, cells := 0, slots := 0, locals := 64 } : Room) (va_Pc [.ref (ad M_o), .int x1, .int x2] (PreW D dA (shM dA) exM A ad S)) (QvW D (shM dA) exM A ad res) 0 0 A :=
  gx_head (by decide) (Nat.le_of_ble_eq_true rfl) (fun p e s m below meth c ls X hP hl => w_X8_growStream (l := l) X ⟨Nat.le_of_ble_eq_true rfl, Nat.le_of_ble_eq_true rfl⟩ S x1 x2 hP va_S.rf (lv_sub (l := [(0, .ref (ad M_o)), (1, .int x1), (2, .int x2)]) hl [0, 1, 2] rfl) hq)
set_option maxHeartbeats 4000000 in
theorem w_X8_looksOver_94 {p : Program} {l : Launch} {e : Env} {R : Room} {s : State} {m : MethodId} {args : Array Value} {below : List Frame} {meth : Method} {c : Code} {D : va_G} {dA : Nat → ClassId} {A : Nat → Prop} {ad : L3 → Nat} (X : CX RX8 cX8_looksOver 7 none (KA D dA) p s m args meth c A) (hR : 5 ≤ R.frames ∧ 116 ≤ R.locals) {res : Mem} (S : Mem) (x1 : Int32) (x2 : Int32) (x3 : Int32) (x4 : Int32) (y0 : Int32) {H : Heap} {locs : List Loc} {ls : Array Slot} (hP : Wd D clA (shM dA) exM A ad S H) (hS : va_S A s.heap H locs) (hl : lv_has ls 7 [(0, .ref (ad M_o)), (1, .int x1), (2, .int x2), (3, .int x3), (4, .int x4)]) (hf : f_X8_looksOver_94 S x1 x2 x3 x4 y0 = some res) : W p l e R s m args below meth c H locs 0 0 (MQ below (QvW D (shM dA) exM A ad res) args s 0 0 A) (F0 m 94 ls [.int y0]) := by
  have hx := X.hx
  have hb := X.hb
  unfold f_X8_looksOver_94 at hf
  refine lv_istore (lv' := [(5, .int y0), (0, .ref (ad M_o)), (1, .int x1), (2, .int x2), (3, .int x3), (4, .int x4)]) hx hb dX8_looksOver_94 hl (by decide) rfl (fun ls hl => ?_)
  refine lv_iload hx hb dX8_looksOver_96 (lv_at hl 5 rfl) ?_
  refine gb_if_eq (tgt := 106) hx hb dX8_looksOver_98 (by decide) hf (fun hf => ?_) (fun hf => ?_)
  · exact gr_vW X hP hS (Option.some.inj hf) dX8_looksOver_106
  · refine lv_iload hx hb dX8_looksOver_101 (lv_at hl 0 rfl) ?_
    refine gb_if_ne (tgt := 107) hx hb dX8_looksOver_103 (by decide) hf (fun hf => ?_) (fun hf => ?_)
    · refine lv_aload_n hx hb dX8_looksOver_107 rfl (lv_at hl 1 rfl) ?_
      refine rg_X8_105 X hP dX8_looksOver_108 ?_
      refine lv_iload_n hx hb dX8_looksOver_111 rfl (lv_at hl 4 rfl) ?_
      refine lv_iconst (v := 1) hx hb dX8_looksOver_112 (by decide) ?_
      refine ra_over_st X hP hS dX8_looksOver_113 hf (fun S1 H locs hP hS hf => ?_)
      refine lv_iconst (v := 2) hx hb dX8_looksOver_114 (by decide) ?_
      refine lv_iload_n hx hb dX8_looksOver_115 rfl (lv_at hl 2 rfl) ?_
      refine lv_imul hx hb dX8_looksOver_116 ?_
      refine lv_iload_n hx hb dX8_looksOver_117 rfl (lv_at hl 3 rfl) ?_
      refine lv_i2l hx hb dX8_looksOver_118 rfl ?_
      obtain ⟨v2, hq, hf⟩ := gS_eq hf
      refine gc_i (gc_fixS (S := S1) X (mt_X8_wayOf l D dA A ad S1 (Int32.toInt64 x2) hq) (lw_S q1290 q1291 q93 q1292) ⟨rfl, rfl⟩ hd_X8_wayOf.2 ⟨Nat.le_trans (Nat.le_of_ble_eq_true rfl) hR.1, Nat.le_trans (Nat.le_of_ble_eq_true rfl) hR.2⟩ hP hS ⟨Nat.zero_le _, Nat.zero_le _⟩ rfl hl.1 rfl (Nat.le_of_ble_eq_true rfl) dX8_looksOver_119) hS ?_
      rintro _ _ H locs ⟨rfl, rfl⟩ hP hS
      refine lv_iadd hx hb dX8_looksOver_122 ?_
      refine lv_istore (lv' := [(6, .int ((2 * x1) + v2)), (5, .int y0), (0, .ref (ad M_o)), (1, .int x1), (2, .int x2), (3, .int x3), (4, .int x4)]) hx hb dX8_looksOver_123 hl (by decide) rfl (fun ls hl => ?_)
      refine lv_aload_n hx hb dX8_looksOver_125 rfl (lv_at hl 2 rfl) ?_
      refine rg_X8_29 X hP dX8_looksOver_126 ?_
      refine lv_iload hx hb dX8_looksOver_129 (lv_at hl 0 rfl) ?_
      refine ra_granted_ld X hP dX8_looksOver_131 hf (fun hf => ?_)
      refine lv_bipush (v := 64) hx hb dX8_looksOver_132 (by decide) ?_
      refine gb_icmp_ne (tgt := 138) hx hb dX8_looksOver_134 (by decide) hf (fun hf => ?_) (fun hf => ?_)
      · refine lv_aload_n hx hb dX8_looksOver_138 rfl (lv_at hl 2 rfl) ?_
        refine rg_X8_29 X hP dX8_looksOver_139 ?_
        refine lv_iload hx hb dX8_looksOver_142 (lv_at hl 0 rfl) ?_
        refine lv_dup2_11 hx hb dX8_looksOver_144 rfl rfl ?_
        refine ra_granted_ld X hP dX8_looksOver_145 hf (fun hf => ?_)
        refine lv_iconst (v := 1) hx hb dX8_looksOver_146 (by decide) ?_
        refine lv_iadd hx hb dX8_looksOver_147 ?_
        refine ra_granted_st X hP hS dX8_looksOver_148 hf (fun S3 H locs hP hS hf => ?_)
        refine lv_aload_n hx hb dX8_looksOver_149 rfl (lv_at hl 2 rfl) ?_
        refine rg_X8_39 X hP dX8_looksOver_150 ?_
        refine lv_iload hx hb dX8_looksOver_153 (lv_at hl 0 rfl) ?_
        refine lv_iconst (v := 1) hx hb dX8_looksOver_155 (by decide) ?_
        refine ra_tellStreams_st X hP hS dX8_looksOver_156 hf (fun S4 H locs hP hS hf => ?_)
        exact gr_vW X hP hS (Option.some.inj hf) dX8_looksOver_157
      · exact gr_vW X hP hS (Option.some.inj hf) dX8_looksOver_137
    · exact gr_vW X hP hS (Option.some.inj hf) dX8_looksOver_106
set_option maxHeartbeats 4000000 in
theorem w_X8_looksOver_89 {p : Program} {l : Launch} {e : Env} {R : Room} {s : State} {m : MethodId} {args : Array Value} {below : List Frame} {meth : Method} {c : Code} {D : va_G} {dA : Nat → ClassId} {A : Nat → Prop} {ad : L3 → Nat} (X : CX RX8 cX8_looksOver 7 none (KA D dA) p s m args meth c A) (hR : 5 ≤ R.frames ∧ 116 ≤ R.locals) {res : Mem} (S : Mem) (x1 : Int32) (x2 : Int32) (x3 : Int32) (x4 : Int32) {H : Heap} {locs : List Loc} {ls : Array Slot} (hP : Wd D clA (shM dA) exM A ad S H) (hS : va_S A s.heap H locs) (hl : lv_has ls 7 [(0, .ref (ad M_o)), (1, .int x1), (2, .int x2), (3, .int x3), (4, .int x4)]) (hf : f_X8_looksOver_89 S x1 x2 x3 x4 = some res) : W p l e R s m args below meth c H locs 0 0 (MQ below (QvW D (shM dA) exM A ad res) args s 0 0 A) (F0 m 89 ls []) := by
  have hx := X.hx
  have hb := X.hb
  unfold f_X8_looksOver_89 at hf
  refine lv_iconst (v := 1) hx hb dX8_looksOver_89 (by decide) ?_
  refine lv_goto (tgt := 94) hx hb dX8_looksOver_90 (by decide) ?_
  exact w_X8_looksOver_94 X hR S x1 x2 x3 x4 1 hP hS (lv_sub hl [0, 1, 2, 3, 4] rfl) hf
set_option maxHeartbeats 4000000 in
theorem w_X8_looksOver_58 {p : Program} {l : Launch} {e : Env} {R : Room} {s : State} {m : MethodId} {args : Array Value} {below : List Frame} {meth : Method} {c : Code} {D : va_G} {dA : Nat → ClassId} {A : Nat → Prop} {ad : L3 → Nat} (X : CX RX8 cX8_looksOver 7 none (KA D dA) p s m args meth c A) (hR : 5 ≤ R.frames ∧ 116 ≤ R.locals) {res : Mem} (S : Mem) (x1 : Int32) (x2 : Int32) (x3 : Int32) (y0 : Int32) {H : Heap} {locs : List Loc} {ls : Array Slot} (hP : Wd D clA (shM dA) exM A ad S H) (hS : va_S A s.heap H locs) (hl : lv_has ls 7 [(0, .ref (ad M_o)), (1, .int x1), (2, .int x2), (3, .int x3)]) (hf : f_X8_looksOver_58 S x1 x2 x3 y0 = some res) : W p l e R s m args below meth c H locs 0 0 (MQ below (QvW D (shM dA) exM A ad res) args s 0 0 A) (F0 m 58 ls [.int y0]) := by
  have hx := X.hx
  have hb := X.hb
  unfold f_X8_looksOver_58 at hf
  refine lv_istore (lv' := [(4, .int y0), (0, .ref (ad M_o)), (1, .int x1), (2, .int x2), (3, .int x3)]) hx hb dX8_looksOver_58 hl (by decide) rfl (fun ls hl => ?_)
  refine lv_iload_n hx hb dX8_looksOver_60 rfl (lv_at hl 2 rfl) ?_
  refine lv_iload_n hx hb dX8_looksOver_61 rfl (lv_at hl 3 rfl) ?_
  refine lv_i2l hx hb dX8_looksOver_62 rfl ?_
  obtain ⟨v1, hq, hf⟩ := gS_eq hf
  refine gc_i (gc_fixS (S := S) X (mt_X8_sends l D dA A ad S x1 (Int32.toInt64 x2) hq) (lw_S q1312 q1313 q93 q1314) ⟨rfl, rfl⟩ hd_X8_sends.2 ⟨Nat.le_trans (Nat.le_of_ble_eq_true rfl) hR.1, Nat.le_trans (Nat.le_of_ble_eq_true rfl) hR.2⟩ hP hS ⟨Nat.zero_le _, Nat.zero_le _⟩ rfl hl.1 rfl (Nat.le_of_ble_eq_true rfl) dX8_looksOver_63) hS ?_
  rintro _ _ H locs ⟨rfl, rfl⟩ hP hS
  refine gb_if_eq (tgt := 89) hx hb dX8_looksOver_66 (by decide) hf (fun hf => ?_) (fun hf => ?_)
  · exact w_X8_looksOver_89 X hR S x1 x2 x3 y0 hP hS (lv_sub hl [1, 2, 3, 4, 0] rfl) hf
  · refine lv_aload_n hx hb dX8_looksOver_69 rfl (lv_at hl 1 rfl) ?_
    refine lv_iload_n hx hb dX8_looksOver_70 rfl (lv_at hl 2 rfl) ?_
    refine lv_iload_n hx hb dX8_looksOver_71 rfl (lv_at hl 3 rfl) ?_
    obtain ⟨v2, hq, hf⟩ := gB_some hf
    refine gc_i (gc_fixV (S := S) X (mt_X8_sending l D dA A ad S x1 x2 hq) (lw_V q1315 q1317 qs41 q93 q1318) ⟨rfl, rfl⟩ hd_X8_sending ⟨Nat.le_trans (Nat.le_of_ble_eq_true rfl) hR.1, Nat.le_trans (Nat.le_of_ble_eq_true rfl) hR.2⟩ (wd_recv (r := M_o) (ci := 0) (q := (RX8, TX8, 61)) X.hK.1 hP ⟨rfl, rfl⟩ rfl rfl) hP hS ⟨Nat.zero_le _, Nat.zero_le _⟩ rfl hl.1 rfl (Nat.le_of_ble_eq_true rfl) dX8_looksOver_72) hS ?_
    rintro _ _ H locs ⟨rfl, rfl⟩ hP hS
    refine lv_iconst (v := 2) hx hb dX8_looksOver_75 (by decide) ?_
    refine gb_icmp_eq (tgt := 89) hx hb dX8_looksOver_76 (by decide) hf (fun hf => ?_) (fun hf => ?_)
    · exact w_X8_looksOver_89 X hR S x1 x2 x3 y0 hP hS (lv_sub hl [1, 2, 3, 4, 0] rfl) hf
    · refine lv_aload_n hx hb dX8_looksOver_79 rfl (lv_at hl 1 rfl) ?_
      refine lv_iload_n hx hb dX8_looksOver_80 rfl (lv_at hl 2 rfl) ?_
      refine lv_iload_n hx hb dX8_looksOver_81 rfl (lv_at hl 3 rfl) ?_
      obtain ⟨v3, hq, hf⟩ := gB_some hf
      refine gc_i (gc_fixV (S := S) X (mt_X8_sending l D dA A ad S x1 x2 hq) (lw_V q1315 q1317 qs41 q93 q1318) ⟨rfl, rfl⟩ hd_X8_sending ⟨Nat.le_trans (Nat.le_of_ble_eq_true rfl) hR.1, Nat.le_trans (Nat.le_of_ble_eq_true rfl) hR.2⟩ (wd_recv (r := M_o) (ci := 0) (q := (RX8, TX8, 61)) X.hK.1 hP ⟨rfl, rfl⟩ rfl rfl) hP hS ⟨Nat.zero_le _, Nat.zero_le _⟩ rfl hl.1 rfl (Nat.le_of_ble_eq_true rfl) dX8_looksOver_82) hS ?_
      rintro _ _ H locs ⟨rfl, rfl⟩ hP hS
      refine lv_iconst (v := 4) hx hb dX8_looksOver_85 (by decide) ?_
      refine gb_icmp_ne (tgt := 93) hx hb dX8_looksOver_86 (by decide) hf (fun hf => ?_) (fun hf => ?_)
      · refine lv_iconst (v := 0) hx hb dX8_looksOver_93 (by decide) ?_
        exact w_X8_looksOver_94 X hR S x1 x2 x3 y0 0 hP hS (lv_sub hl [1, 2, 3, 4, 0] rfl) hf
      · exact w_X8_looksOver_89 X hR S x1 x2 x3 y0 hP hS (lv_sub hl [1, 2, 3, 4, 0] rfl) hf
set_option maxHeartbeats 4000000 in
theorem w_X8_looksOver_53 {p : Program} {l : Launch} {e : Env} {R : Room} {s : State} {m : MethodId} {args : Array Value} {below : List Frame} {meth : Method} {c : Code} {D : va_G} {dA : Nat → ClassId} {A : Nat → Prop} {ad : L3 → Nat} (X : CX RX8 cX8_looksOver 7 none (KA D dA) p s m args meth c A) (hR : 5 ≤ R.frames ∧ 116 ≤ R.locals) {res : Mem} (S : Mem) (x1 : Int32) (x2 : Int32) (x3 : Int32) {H : Heap} {locs : List Loc} {ls : Array Slot} (hP : Wd D clA (shM dA) exM A ad S H) (hS : va_S A s.heap H locs) (hl : lv_has ls 7 [(0, .ref (ad M_o)), (1, .int x1), (2, .int x2), (3, .int x3)]) (hf : f_X8_looksOver_53 S x1 x2 x3 = some res) : W p l e R s m args below meth c H locs 0 0 (MQ below (QvW D (shM dA) exM A ad res) args s 0 0 A) (F0 m 53 ls []) := by
  have hx := X.hx
  have hb := X.hb
  unfold f_X8_looksOver_53 at hf
  refine lv_iconst (v := 1) hx hb dX8_looksOver_53 (by decide) ?_
  refine lv_goto (tgt := 58) hx hb dX8_looksOver_54 (by decide) ?_
  exact w_X8_looksOver_58 X hR S x1 x2 x3 1 hP hS (lv_sub hl [0, 1, 2, 3] rfl) hf
set_option maxHeartbeats 4000000 in
theorem w_X8_looksOver {p : Program} {l : Launch} {e : Env} {R : Room} {s : State} {m : MethodId} {args : Array Value} {below : List Frame} {meth : Method} {c : Code} {D : va_G} {dA : Nat → ClassId} {A : Nat → Prop} {ad : L3 → Nat} (X : CX RX8 cX8_looksOver 7 none (KA D dA) p s m args meth c A) (hR : 5 ≤ R.frames ∧ 116 ≤ R.locals) {res : Mem} (S : Mem) (x1 : Int32) (x2 : Int32) {H : Heap} {locs : List Loc} {ls : Array Slot} (hP : Wd D clA (shM dA) exM A ad S H) (hS : va_S A s.heap H locs) (hl : lv_has ls 7 [(0, .ref (ad M_o)), (1, .int x1), (2, .int x2)]) (hf : f_X8_looksOver S x1 x2 = some res) : W p l e R s m args below meth c H locs 0 0 (MQ below (QvW D (shM dA) exM A ad res) args s 0 0 A) (F0 m 0 ls []) := by
  have hx := X.hx
  have hb := X.hb
  unfold f_X8_looksOver at hf
  refine lv_iload_n hx hb dX8_looksOver_0 rfl (lv_at hl 1 rfl) ?_
  refine lv_iload_n hx hb dX8_looksOver_1 rfl (lv_at hl 2 rfl) ?_
  obtain ⟨v1, hq, hf⟩ := gS_eq hf
  refine gc_i (gc_fixS (S := S) X (mt_X8_at l D dA A ad S x1 x2 hq) (lw_S q1283 q1284 q93 q1285) ⟨rfl, rfl⟩ hd_X8_at.2 ⟨Nat.le_trans (Nat.le_of_ble_eq_true rfl) hR.1, Nat.le_trans (Nat.le_of_ble_eq_true rfl) hR.2⟩ hP hS ⟨Nat.zero_le _, Nat.zero_le _⟩ rfl hl.1 rfl (Nat.le_of_ble_eq_true rfl) dX8_looksOver_2) hS ?_
  rintro _ _ H locs ⟨rfl, rfl⟩ hP hS
  refine lv_istore_n (lv' := [(3, .int v1), (0, .ref (ad M_o)), (1, .int x1), (2, .int x2)]) hx hb dX8_looksOver_5 rfl hl (by decide) rfl (fun ls hl => ?_)
  refine lv_iload_n hx hb dX8_looksOver_6 rfl (lv_at hl 2 rfl) ?_
  refine lv_iload_n hx hb dX8_looksOver_7 rfl (lv_at hl 3 rfl) ?_
  refine lv_i2l hx hb dX8_looksOver_8 rfl ?_
  obtain ⟨v2, hq, hf⟩ := gS_eq hf
  refine gc_i (gc_fixS (S := S) X (mt_X8_opens l D dA A ad S x1 (Int32.toInt64 x2) hq) (lw_S q1293 q1294 q93 q1295) ⟨rfl, rfl⟩ hd_X8_opens.2 ⟨Nat.le_trans (Nat.le_of_ble_eq_true rfl) hR.1, Nat.le_trans (Nat.le_of_ble_eq_true rfl) hR.2⟩ hP hS ⟨Nat.zero_le _, Nat.zero_le _⟩ rfl hl.1 rfl (Nat.le_of_ble_eq_true rfl) dX8_looksOver_9) hS ?_
  rintro _ _ H locs ⟨rfl, rfl⟩ hP hS
  refine gb_if_ne (tgt := 33) hx hb dX8_looksOver_12 (by decide) hf (fun hf => ?_) (fun hf => ?_)
  · exact gr_vW X hP hS (Option.some.inj hf) dX8_looksOver_33
  · refine lv_aload_n hx hb dX8_looksOver_15 rfl (lv_at hl 1 rfl) ?_
    refine rg_X8_105 X hP dX8_looksOver_16 ?_
    refine lv_iload_n hx hb dX8_looksOver_19 rfl (lv_at hl 0 rfl) ?_
    refine ra_over_ld X hP dX8_looksOver_20 hf (fun hf => ?_)
    refine gb_if_ne (tgt := 33) hx hb dX8_looksOver_21 (by decide) hf (fun hf => ?_) (fun hf => ?_)
    · exact gr_vW X hP hS (Option.some.inj hf) dX8_looksOver_33
    · refine lv_aload_n hx hb dX8_looksOver_24 rfl (lv_at hl 1 rfl) ?_
      refine rg_X8_51 X hP dX8_looksOver_25 ?_
      refine lv_iload_n hx hb dX8_looksOver_28 rfl (lv_at hl 0 rfl) ?_
      refine ra_there_ld X hP dX8_looksOver_29 hf (fun hf => ?_)
      refine gb_if_ne (tgt := 34) hx hb dX8_looksOver_30 (by decide) hf (fun hf => ?_) (fun hf => ?_)
      · refine lv_iload_n hx hb dX8_looksOver_34 rfl (lv_at hl 2 rfl) ?_
        refine lv_iload_n hx hb dX8_looksOver_35 rfl (lv_at hl 3 rfl) ?_
        refine lv_i2l hx hb dX8_looksOver_36 rfl ?_
        obtain ⟨v3, hq, hf⟩ := gS_eq hf
        refine gc_i (gc_fixS (S := S) X (mt_X8_receives l D dA A ad S x1 (Int32.toInt64 x2) hq) (lw_S q1352 q1353 q93 q1354) ⟨rfl, rfl⟩ hd_X8_receives.2 ⟨Nat.le_trans (Nat.le_of_ble_eq_true rfl) hR.1, Nat.le_trans (Nat.le_of_ble_eq_true rfl) hR.2⟩ hP hS ⟨Nat.zero_le _, Nat.zero_le _⟩ rfl hl.1 rfl (Nat.le_of_ble_eq_true rfl) dX8_looksOver_37) hS ?_
        rintro _ _ H locs ⟨rfl, rfl⟩ hP hS
        refine gb_if_eq (tgt := 53) hx hb dX8_looksOver_40 (by decide) hf (fun hf => ?_) (fun hf => ?_)
        · exact w_X8_looksOver_53 X hR S x1 x2 v1 hP hS (lv_sub hl [1, 2, 3, 0] rfl) hf
        · refine lv_aload_n hx hb dX8_looksOver_43 rfl (lv_at hl 1 rfl) ?_
          refine lv_iload_n hx hb dX8_looksOver_44 rfl (lv_at hl 2 rfl) ?_
          refine lv_iload_n hx hb dX8_looksOver_45 rfl (lv_at hl 3 rfl) ?_
          obtain ⟨v4, hq, hf⟩ := gB_some hf
          refine gc_i (gc_fixV (S := S) X (mt_X8_receiving l D dA A ad S x1 x2 hq) (lw_V q1355 q1357 qs47 q93 q1358) ⟨rfl, rfl⟩ hd_X8_receiving ⟨Nat.le_trans (Nat.le_of_ble_eq_true rfl) hR.1, Nat.le_trans (Nat.le_of_ble_eq_true rfl) hR.2⟩ (wd_recv (r := M_o) (ci := 0) (q := (RX8, TX8, 61)) X.hK.1 hP ⟨rfl, rfl⟩ rfl rfl) hP hS ⟨Nat.zero_le _, Nat.zero_le _⟩ rfl hl.1 rfl (Nat.le_of_ble_eq_true rfl) dX8_looksOver_46) hS ?_
          rintro _ _ H locs ⟨rfl, rfl⟩ hP hS
          refine lv_iconst (v := 2) hx hb dX8_looksOver_49 (by decide) ?_
          refine gb_icmp_le (tgt := 57) hx hb dX8_looksOver_50 (by decide) hf (fun hf => ?_) (fun hf => ?_)
          · refine lv_iconst (v := 0) hx hb dX8_looksOver_57 (by decide) ?_
            exact w_X8_looksOver_58 X hR S x1 x2 v1 0 hP hS (lv_sub hl [1, 2, 3, 0] rfl) hf
          · exact w_X8_looksOver_53 X hR S x1 x2 v1 hP hS (lv_sub hl [1, 2, 3, 0] rfl) hf
      · exact gr_vW X hP hS (Option.some.inj hf) dX8_looksOver_33
theorem hd_X8_looksOver : yX8_looksOver.cls = RX8 ∧ yX8_looksOver.cls ≠ "java/lang/invoke/MethodHandle" ∧ yX8_looksOver.cls ≠ "java/lang/invoke/VarHandle" ∧ (parseMethodDescriptor yX8_looksOver.desc).map (fun d => d.parameters.length) = some 2 := by decide +kernel
set_option maxHeartbeats 4000000 in
theorem mt_X8_looksOver (l : Launch) (D : va_G) (dA : Nat → ClassId) (A : Nat → Prop) (ad : L3 → Nat) (S : Mem) (x1 : Int32) (x2 : Int32) {res : Mem} (hq : f_X8_looksOver S x1 x2 = some res) : Met l yX8_looksOver (ws_ yX8_looksOver cX8_looksOver 7 none) ({ frames := 5, cells := 0, slots := 0, locals := 116 } : Room) (va_Pc [.ref (ad M_o), .int x1, .int x2] (PreW D dA (shM dA) exM A ad S)) (QvW D (shM dA) exM A ad res) 0 0 A :=
  gx_head (by decide) (Nat.le_of_ble_eq_true rfl) (fun p e s m below meth c ls X hP hl => w_X8_looksOver (l := l) X ⟨Nat.le_of_ble_eq_true rfl, Nat.le_of_ble_eq_true rfl⟩ S x1 x2 hP va_S.rf (lv_sub (l := [(0, .ref (ad M_o)), (1, .int x1), (2, .int x2)]) hl [0, 1, 2] rfl) hq)
set_option maxHeartbeats 4000000 in
theorem w_X8_read_175 {p : Program} {l : Launch} {e : Env} {R : Room} {s : State} {m : MethodId} {args : Array Value} {below : List Frame} {meth : Method} {c : Code} {D : va_G} {dA : Nat → ClassId} {A : Nat → Prop} {ad : L3 → Nat} (X : CX RX8 cX8_read 7 (some .int) (KA D dA) p s m args meth c A) (hR : 6 ≤ R.frames ∧ 142 ≤ R.locals) {res : Mem × Int32} (S : Mem) (x1 : Int32) (x2 : Int32) {H : Heap} {locs : List Loc} {ls : Array Slot} (hP : Wd D clA (shM dA) exM A ad S H) (hS : va_S A s.heap H locs) (hl : lv_has ls 7 [(0, .ref (ad M_o)), (1, .int x1), (2, .int x2)]) (hf : f_X8_read_175 S x1 x2 = some res) : W p l e R s m args below meth c H locs 0 0 (MQ below (QiW D (shM dA) exM A ad res) args s 0 0 A) (F0 m 175 ls []) := by
  have hx := X.hx
  have hb := X.hb
  unfold f_X8_read_175 at hf
  refine lv_aload_n hx hb dX8_read_175 rfl (lv_at hl 0 rfl) ?_
  refine lv_iload_n hx hb dX8_read_176 rfl (lv_at hl 1 rfl) ?_
  refine lv_iload_n hx hb dX8_read_177 rfl (lv_at hl 2 rfl) ?_
  obtain ⟨S1, hq, hf⟩ := gB_some hf
  refine gc_v (gc_fixV (S := S) X (mt_X8_looksOver l D dA A ad S x1 x2 hq) (lw_V q1397 q1399 qs55 q93 q1400) ⟨rfl, rfl⟩ hd_X8_looksOver ⟨Nat.le_trans (Nat.le_of_ble_eq_true rfl) hR.1, Nat.le_trans (Nat.le_of_ble_eq_true rfl) hR.2⟩ (wd_recv (r := M_o) (ci := 0) (q := (RX8, TX8, 61)) X.hK.1 hP ⟨rfl, rfl⟩ rfl rfl) hP hS ⟨Nat.zero_le _, Nat.zero_le _⟩ rfl hl.1 rfl (Nat.le_of_ble_eq_true rfl) dX8_read_178) hS ?_
  rintro _ H locs rfl hP hS
  refine lv_aload_n hx hb dX8_read_181 rfl (lv_at hl 0 rfl) ?_
  refine rg_X8_284 X hP dX8_read_182 ?_
  exact gr_iW X hP hS (Option.some.inj hf) dX8_read_185
set_option maxHeartbeats 4000000 in
theorem w_X8_read_148 {p : Program} {l : Launch} {e : Env} {R : Room} {s : State} {m : MethodId} {args : Array Value} {below : List Frame} {meth : Method} {c : Code} {D : va_G} {dA : Nat → ClassId} {A : Nat → Prop} {ad : L3 → Nat} (X : CX RX8 cX8_read 7 (some .int) (KA D dA) p s m args meth c A) (hR : 6 ≤ R.frames ∧ 142 ≤ R.locals) {res : Mem × Int32} (S : Mem) (x1 : Int32) (x2 : Int32) {H : Heap} {locs : List Loc} {ls : Array Slot} (hP : Wd D clA (shM dA) exM A ad S H) (hS : va_S A s.heap H locs) (hl : lv_has ls 7 [(0, .ref (ad M_o)), (1, .int x1), (2, .int x2)]) (hf : f_X8_read_148 S x1 x2 = some res) : W p l e R s m args below meth c H locs 0 0 (MQ below (QiW D (shM dA) exM A ad res) args s 0 0 A) (F0 m 148 ls []) := by
  have hx := X.hx
  have hb := X.hb
  unfold f_X8_read_148 at hf
  refine lv_aload_n hx hb dX8_read_148 rfl (lv_at hl 0 rfl) ?_
  refine rg_X8_284 X hP dX8_read_149 ?_
  refine gb_if_le (tgt := 175) hx hb dX8_read_152 (by decide) hf (fun hf => ?_) (fun hf => ?_)
  · exact w_X8_read_175 X hR S x1 x2 hP hS (lv_sub hl [0, 1, 2] rfl) hf
  · refine lv_aload_n hx hb dX8_read_155 rfl (lv_at hl 0 rfl) ?_
    refine lv_iload_n hx hb dX8_read_156 rfl (lv_at hl 1 rfl) ?_
    obtain ⟨S1, hq, hf⟩ := gB_some hf
    refine gc_v (gc_fixV (S := S) X (mt_X8_growData l D dA A ad S x1 hq) (lw_V q1380 q1382 qs52 q93 q1383) ⟨rfl, rfl⟩ hd_X8_growData ⟨Nat.le_trans (Nat.le_of_ble_eq_true rfl) hR.1, Nat.le_trans (Nat.le_of_ble_eq_true rfl) hR.2⟩ (wd_recv (r := M_o) (ci := 0) (q := (RX8, TX8, 61)) X.hK.1 hP ⟨rfl, rfl⟩ rfl rfl) hP hS ⟨Nat.zero_le _, Nat.zero_le _⟩ rfl hl.1 rfl (Nat.le_of_ble_eq_true rfl) dX8_read_157) hS ?_
    rintro _ H locs rfl hP hS
    refine lv_aload_n hx hb dX8_read_160 rfl (lv_at hl 0 rfl) ?_
    refine lv_iload_n hx hb dX8_read_161 rfl (lv_at hl 1 rfl) ?_
    refine lv_iload_n hx hb dX8_read_162 rfl (lv_at hl 2 rfl) ?_
    obtain ⟨v2, hq, hf⟩ := gB_some hf
    refine gc_i (gc_fixV (S := S1) X (mt_X8_receiving l D dA A ad S1 x1 x2 hq) (lw_V q1355 q1357 qs47 q93 q1358) ⟨rfl, rfl⟩ hd_X8_receiving ⟨Nat.le_trans (Nat.le_of_ble_eq_true rfl) hR.1, Nat.le_trans (Nat.le_of_ble_eq_true rfl) hR.2⟩ (wd_recv (r := M_o) (ci := 0) (q := (RX8, TX8, 61)) X.hK.1 hP ⟨rfl, rfl⟩ rfl rfl) hP hS ⟨Nat.zero_le _, Nat.zero_le _⟩ rfl hl.1 rfl (Nat.le_of_ble_eq_true rfl) dX8_read_163) hS ?_
    rintro _ _ H locs ⟨rfl, rfl⟩ hP hS
    refine gb_if_ne (tgt := 175) hx hb dX8_read_166 (by decide) hf (fun hf => ?_) (fun hf => ?_)
    · exact w_X8_read_175 X hR S1 x1 x2 hP hS (lv_sub hl [0, 1, 2] rfl) hf
    · refine lv_aload_n hx hb dX8_read_169 rfl (lv_at hl 0 rfl) ?_
      refine lv_iload_n hx hb dX8_read_170 rfl (lv_at hl 1 rfl) ?_
      refine lv_iload_n hx hb dX8_read_171 rfl (lv_at hl 2 rfl) ?_
      obtain ⟨S3, hq, hf⟩ := gB_some hf
      refine gc_v (gc_fixV (S := S1) X (mt_X8_growStream l D dA A ad S1 x1 x2 hq) (lw_V q1393 q1395 qs54 q93 q1396) ⟨rfl, rfl⟩ hd_X8_growStream ⟨Nat.le_trans (Nat.le_of_ble_eq_true rfl) hR.1, Nat.le_trans (Nat.le_of_ble_eq_true rfl) hR.2⟩ (wd_recv (r := M_o) (ci := 0) (q := (RX8, TX8, 61)) X.hK.1 hP ⟨rfl, rfl⟩ rfl rfl) hP hS ⟨Nat.zero_le _, Nat.zero_le _⟩ rfl hl.1 rfl (Nat.le_of_ble_eq_true rfl) dX8_read_172) hS ?_
      rintro _ H locs rfl hP hS
      exact w_X8_read_175 X hR S3 x1 x2 hP hS (lv_sub hl [0, 1, 2] rfl) hf
set_option maxHeartbeats 4000000 in
theorem w_X8_read_77_b {p : Program} {l : Launch} {e : Env} {R : Room} {s : State} {m : MethodId} {args : Array Value} {below : List Frame} {meth : Method} {c : Code} {D : va_G} {dA : Nat → ClassId} {A : Nat → Prop} {ad : L3 → Nat} (X : CX RX8 cX8_read 7 (some .int) (KA D dA) p s m args meth c A) (hR : 6 ≤ R.frames ∧ 142 ≤ R.locals) {res : Mem × Int32} (k77 : Mem → Int32 → Int32 → Int32 → Int32 → Int64 → Option (Mem × Int32)) (hk77 : ∀ (S : Mem) (x1 : Int32) (x2 : Int32) (x3 : Int32) (x4 : Int32) (x5 : Int64) (H : Heap) (locs : List Loc) (ls : Array Slot), Wd D clA (shM dA) exM A ad S H → va_S A s.heap H locs → lv_has ls 7 [(0, .ref (ad M_o)), (1, .int x1), (2, .int x2), (3, .int x3), (4, .int x4), (5, .long x5)] → k77 S x1 x2 x3 x4 x5 = some res → W p l e R s m args below meth c H locs 0 0 (MQ below (QiW D (shM dA) exM A ad res) args s 0 0 A) (F0 m 77 ls [])) (S : Mem) (x1 : Int32) (x2 : Int32) (x3 : Int32) (x4 : Int32) (x5 : Int64) {H : Heap} {locs : List Loc} {ls : Array Slot} (hP : Wd D clA (shM dA) exM A ad S H) (hS : va_S A s.heap H locs) (hl : lv_has ls 7 [(0, .ref (ad M_o)), (1, .int x1), (2, .int x2), (3, .int x3), (4, .int x4), (5, .long x5)]) (hf : f_X8_read_77_b k77 S x1 x2 x3 x4 x5 = some res) : W p l e R s m args below meth c H locs 0 0 (MQ below (QiW D (shM dA) exM A ad res) args s 0 0 A) (F0 m 77 ls []) := by
  have hx := X.hx
  have hb := X.hb
  unfold f_X8_read_77_b at hf
  refine lv_aload_n hx hb dX8_read_77 rfl (lv_at hl 0 rfl) ?_
  refine rg_X8_284 X hP dX8_read_78 ?_
  refine lv_iload_n hx hb dX8_read_81 rfl (lv_at hl 3 rfl) ?_
  refine gb_icmp_ge (tgt := 148) hx hb dX8_read_82 (by decide) hf (fun hf => ?_) (fun hf => ?_)
  · exact w_X8_read_148 X hR S x1 x2 hP hS (lv_sub hl [0, 1, 2] rfl) hf
  · refine lv_aload_n hx hb dX8_read_85 rfl (lv_at hl 0 rfl) ?_
    refine rg_X8_81 X hP dX8_read_86 ?_
    refine lv_iload hx hb dX8_read_89 (lv_at hl 4 rfl) ?_
    refine ra_read_ld X hP dX8_read_91 hf (fun hf => ?_)
    refine lv_lload hx hb dX8_read_92 (lv_at hl 5 rfl) ?_
    refine gb_lcmp_ge (tgt := 148) hx hb dX8_read_94 dX8_read_95 (by decide) hf (fun hf => ?_) (fun hf => ?_)
    · exact w_X8_read_148 X hR S x1 x2 hP hS (lv_sub hl [0, 1, 2] rfl) hf
    · refine lv_aload_n hx hb dX8_read_98 rfl (lv_at hl 0 rfl) ?_
      refine rg_X8_13 X hP dX8_read_99 ?_
      refine lv_aload_n hx hb dX8_read_102 rfl (lv_at hl 0 rfl) ?_
      refine rg_X8_284 X hP dX8_read_103 ?_
      refine lv_aload_n hx hb dX8_read_106 rfl (lv_at hl 0 rfl) ?_
      refine lv_iload_n hx hb dX8_read_107 rfl (lv_at hl 1 rfl) ?_
      refine lv_iload_n hx hb dX8_read_108 rfl (lv_at hl 2 rfl) ?_
      refine lv_aload_n hx hb dX8_read_109 rfl (lv_at hl 0 rfl) ?_
      refine rg_X8_81 X hP dX8_read_110 ?_
      refine lv_iload hx hb dX8_read_113 (lv_at hl 4 rfl) ?_
      refine ra_read_ld X hP dX8_read_115 hf (fun hf => ?_)
      obtain ⟨v1, hq, hf⟩ := gB_some hf
      refine gc_i (gc_fixV (S := S) X (mt_X8_byteAt l D dA A ad S x1 x2 (S.2 M_read (Int32.toNatClampNeg x4)) hq) (lw_V q1376 q1378 qs51 q93 q1379) ⟨rfl, rfl⟩ hd_X8_byteAt ⟨Nat.le_trans (Nat.le_of_ble_eq_true rfl) hR.1, Nat.le_trans (Nat.le_of_ble_eq_true rfl) hR.2⟩ (wd_recv (r := M_o) (ci := 0) (q := (RX8, TX8, 61)) X.hK.1 hP ⟨rfl, rfl⟩ rfl rfl) hP hS ⟨Nat.zero_le _, Nat.zero_le _⟩ rfl hl.1 rfl (Nat.le_of_ble_eq_true rfl) dX8_read_116) hS ?_
      rintro _ _ H locs ⟨rfl, rfl⟩ hP hS
      refine lv_sipush (v := 255) hx hb dX8_read_119 (by decide) ?_
      refine lv_iand hx hb dX8_read_122 ?_
      refine ra_out_st X hP hS dX8_read_123 hf (fun S2 H locs hP hS hf => ?_)
      refine lv_aload_n hx hb dX8_read_124 rfl (lv_at hl 0 rfl) ?_
      refine lv_dup hx hb dX8_read_125 rfl ?_
      refine rg_X8_284 X hP dX8_read_126 ?_
      refine lv_iconst (v := 1) hx hb dX8_read_129 (by decide) ?_
      refine lv_iadd hx hb dX8_read_130 ?_
      refine rp_X8_284 X hP hS dX8_read_131 hf (fun S3 H locs hP hS hf => ?_)
      refine lv_aload_n hx hb dX8_read_134 rfl (lv_at hl 0 rfl) ?_
      refine rg_X8_81 X hP dX8_read_135 ?_
      refine lv_iload hx hb dX8_read_138 (lv_at hl 4 rfl) ?_
      refine lv_dup2_11 hx hb dX8_read_140 rfl rfl ?_
      refine ra_read_ld X hP dX8_read_141 hf (fun hf => ?_)
      refine lv_lconst (v := 1) hx hb dX8_read_142 (by decide) ?_
      refine lv_ladd hx hb dX8_read_143 ?_
      refine ra_read_st X hP hS dX8_read_144 hf (fun S4 H locs hP hS hf => ?_)
      refine lv_goto (tgt := 77) hx hb dX8_read_145 (by decide) ?_
      exact hk77 S4 x1 x2 x3 x4 x5 _ _ _ hP hS (lv_sub hl [0, 1, 2, 3, 4, 5] rfl) hf
set_option maxHeartbeats 4000000 in
theorem w_X8_read_77 {p : Program} {l : Launch} {e : Env} {R : Room} {s : State} {m : MethodId} {args : Array Value} {below : List Frame} {meth : Method} {c : Code} {D : va_G} {dA : Nat → ClassId} {A : Nat → Prop} {ad : L3 → Nat} (X : CX RX8 cX8_read 7 (some .int) (KA D dA) p s m args meth c A) (hR : 6 ≤ R.frames ∧ 142 ≤ R.locals) {res : Mem × Int32} (n : Nat) : ∀ (S : Mem) (x1 : Int32) (x2 : Int32) (x3 : Int32) (x4 : Int32) (x5 : Int64) (H : Heap) (locs : List Loc) (ls : Array Slot), Wd D clA (shM dA) exM A ad S H → va_S A s.heap H locs → lv_has ls 7 [(0, .ref (ad M_o)), (1, .int x1), (2, .int x2), (3, .int x3), (4, .int x4), (5, .long x5)] → f_X8_read_77 n S x1 x2 x3 x4 x5 = some res → W p l e R s m args below meth c H locs 0 0 (MQ below (QiW D (shM dA) exM A ad res) args s 0 0 A) (F0 m 77 ls []) := by
  induction n with
  | zero =>
    intro S x1 x2 x3 x4 x5 H locs ls hP hS hl hf
    exact absurd (show none = some res from hf) (fun h => by cases h)
  | succ n ih =>
    intro S x1 x2 x3 x4 x5 H locs ls hP hS hl hf
    exact w_X8_read_77_b X hR (f_X8_read_77 n) ih S x1 x2 x3 x4 x5 hP hS hl hf
set_option maxHeartbeats 4000000 in
theorem w_X8_read_24 {p : Program} {l : Launch} {e : Env} {R : Room} {s : State} {m : MethodId} {args : Array Value} {below : List Frame} {meth : Method} {c : Code} {D : va_G} {dA : Nat → ClassId} {A : Nat → Prop} {ad : L3 → Nat} (X : CX RX8 cX8_read 7 (some .int) (KA D dA) p s m args meth c A) (hR : 6 ≤ R.frames ∧ 142 ≤ R.locals) {res : Mem × Int32} (S : Mem) (x1 : Int32) (x2 : Int32) (x3 : Int32) (y0 : Int32) {H : Heap} {locs : List Loc} {ls : Array Slot} (hP : Wd D clA (shM dA) exM A ad S H) (hS : va_S A s.heap H locs) (hl : lv_has ls 7 [(0, .ref (ad M_o)), (1, .int x1), (2, .int x2), (3, .int x3)]) (hf : f_X8_read_24 S x1 x2 x3 y0 = some res) : W p l e R s m args below meth c H locs 0 0 (MQ below (QiW D (shM dA) exM A ad res) args s 0 0 A) (F0 m 24 ls [.int y0, .ref (ad M_o)]) := by
  have hx := X.hx
  have hb := X.hb
  unfold f_X8_read_24 at hf
  refine lv_iconst (v := 1) hx hb dX8_read_24 (by decide) ?_
  obtain ⟨S1, v2, hq, hf⟩ := gB2_some hf
  refine gc_i (gc_fixV (S := S) X (mt_X8_fails l D dA A ad S y0 (1 : Int32) hq) (lw_V q1262 q1264 qs35 q93 q1265) ⟨rfl, rfl⟩ hd_X8_fails ⟨Nat.le_trans (Nat.le_of_ble_eq_true rfl) hR.1, Nat.le_trans (Nat.le_of_ble_eq_true rfl) hR.2⟩ (wd_recv (r := M_o) (ci := 0) (q := (RX8, TX8, 61)) X.hK.1 hP ⟨rfl, rfl⟩ rfl rfl) hP hS ⟨Nat.zero_le _, Nat.zero_le _⟩ rfl hl.1 rfl (Nat.le_of_ble_eq_true rfl) dX8_read_25) hS ?_
  rintro _ _ H locs ⟨⟩ hP hS
  refine gb_if_eq (tgt := 33) hx hb dX8_read_28 (by decide) hf (fun hf => ?_) (fun hf => ?_)
  · refine lv_aload_n hx hb dX8_read_33 rfl (lv_at hl 0 rfl) ?_
    refine lv_iconst (v := 0) hx hb dX8_read_34 (by decide) ?_
    refine rp_X8_284 X hP hS dX8_read_35 hf (fun S3 H locs hP hS hf => ?_)
    refine lv_aload_n hx hb dX8_read_38 rfl (lv_at hl 0 rfl) ?_
    refine lv_iload_n hx hb dX8_read_39 rfl (lv_at hl 1 rfl) ?_
    refine lv_iload_n hx hb dX8_read_40 rfl (lv_at hl 2 rfl) ?_
    obtain ⟨v4, hq, hf⟩ := gB_some hf
    refine gc_i (gc_fixV (S := S3) X (mt_X8_hasReceiving l D dA A ad S3 x1 x2 hq) (lw_V q1348 q1350 qs46 q93 q1351) ⟨rfl, rfl⟩ hd_X8_hasReceiving ⟨Nat.le_trans (Nat.le_of_ble_eq_true rfl) hR.1, Nat.le_trans (Nat.le_of_ble_eq_true rfl) hR.2⟩ (wd_recv (r := M_o) (ci := 0) (q := (RX8, TX8, 61)) X.hK.1 hP ⟨rfl, rfl⟩ rfl rfl) hP hS ⟨Nat.zero_le _, Nat.zero_le _⟩ rfl hl.1 rfl (Nat.le_of_ble_eq_true rfl) dX8_read_41) hS ?_
    rintro _ _ H locs ⟨rfl, rfl⟩ hP hS
    refine gb_if_ne (tgt := 49) hx hb dX8_read_44 (by decide) hf (fun hf => ?_) (fun hf => ?_)
    · refine lv_iload_n hx hb dX8_read_49 rfl (lv_at hl 1 rfl) ?_
      refine lv_iload_n hx hb dX8_read_50 rfl (lv_at hl 2 rfl) ?_
      obtain ⟨v5, hq, hf⟩ := gS_eq hf
      refine gc_i (gc_fixS (S := S3) X (mt_X8_at l D dA A ad S3 x1 x2 hq) (lw_S q1283 q1284 q93 q1285) ⟨rfl, rfl⟩ hd_X8_at.2 ⟨Nat.le_trans (Nat.le_of_ble_eq_true rfl) hR.1, Nat.le_trans (Nat.le_of_ble_eq_true rfl) hR.2⟩ hP hS ⟨Nat.zero_le _, Nat.zero_le _⟩ rfl hl.1 rfl (Nat.le_of_ble_eq_true rfl) dX8_read_51) hS ?_
      rintro _ _ H locs ⟨rfl, rfl⟩ hP hS
      refine lv_istore (lv' := [(4, .int v5), (0, .ref (ad M_o)), (1, .int x1), (2, .int x2), (3, .int x3)]) hx hb dX8_read_54 hl (by decide) rfl (fun ls hl => ?_)
      refine lv_aload_n hx hb dX8_read_56 rfl (lv_at hl 1 rfl) ?_
      refine rg_X8_84 X hP dX8_read_57 ?_
      refine lv_iload hx hb dX8_read_60 (lv_at hl 0 rfl) ?_
      refine ra_wasReset_ld X hP dX8_read_62 hf (fun hf => ?_)
      refine gb_if_eq (tgt := 69) hx hb dX8_read_63 (by decide) hf (fun hf => ?_) (fun hf => ?_)
      · refine lv_aload_n hx hb dX8_read_69 rfl (lv_at hl 1 rfl) ?_
        refine lv_iload_n hx hb dX8_read_70 rfl (lv_at hl 2 rfl) ?_
        refine lv_iload_n hx hb dX8_read_71 rfl (lv_at hl 3 rfl) ?_
        obtain ⟨v6, hq, hf⟩ := gB_some hf
        refine gc_l (gc_fixV (S := S3) X (mt_X8_readyOf l D dA A ad S3 x1 x2 hq) (lw_V q1359 q1361 qs48 q93 q1362) ⟨rfl, rfl⟩ hd_X8_readyOf ⟨Nat.le_trans (Nat.le_of_ble_eq_true rfl) hR.1, Nat.le_trans (Nat.le_of_ble_eq_true rfl) hR.2⟩ (wd_recv (r := M_o) (ci := 0) (q := (RX8, TX8, 61)) X.hK.1 hP ⟨rfl, rfl⟩ rfl rfl) hP hS ⟨Nat.zero_le _, Nat.zero_le _⟩ rfl hl.1 rfl (Nat.le_of_ble_eq_true rfl) dX8_read_72) hS ?_
        rintro _ _ H locs ⟨rfl, rfl⟩ hP hS
        refine lv_lstore (lv' := [(5, .long v6), (4, .int v5), (0, .ref (ad M_o)), (1, .int x1), (2, .int x2), (3, .int x3)]) hx hb dX8_read_75 hl (by decide) rfl (fun ls hl => ?_)
        exact w_X8_read_77 X hR FU S3 x1 x2 x3 v5 v6 _ _ _ hP hS (lv_sub hl [2, 3, 4, 5, 1, 0] rfl) hf
      · refine lv_bipush (v := (-2)) hx hb dX8_read_66 (by decide) ?_
        exact gr_iW X hP hS (Option.some.inj hf) dX8_read_68
    · refine lv_iconst (v := (-1)) hx hb dX8_read_47 (by decide) ?_
      exact gr_iW X hP hS (Option.some.inj hf) dX8_read_48
  · refine lv_iconst (v := 0) hx hb dX8_read_31 (by decide) ?_
    exact gr_iW X hP hS (Option.some.inj hf) dX8_read_32
set_option maxHeartbeats 4000000 in
theorem w_X8_read_19 {p : Program} {l : Launch} {e : Env} {R : Room} {s : State} {m : MethodId} {args : Array Value} {below : List Frame} {meth : Method} {c : Code} {D : va_G} {dA : Nat → ClassId} {A : Nat → Prop} {ad : L3 → Nat} (X : CX RX8 cX8_read 7 (some .int) (KA D dA) p s m args meth c A) (hR : 6 ≤ R.frames ∧ 142 ≤ R.locals) {res : Mem × Int32} (S : Mem) (x1 : Int32) (x2 : Int32) (x3 : Int32) {H : Heap} {locs : List Loc} {ls : Array Slot} (hP : Wd D clA (shM dA) exM A ad S H) (hS : va_S A s.heap H locs) (hl : lv_has ls 7 [(0, .ref (ad M_o)), (1, .int x1), (2, .int x2), (3, .int x3)]) (hf : f_X8_read_19 S x1 x2 x3 = some res) : W p l e R s m args below meth c H locs 0 0 (MQ below (QiW D (shM dA) exM A ad res) args s 0 0 A) (F0 m 19 ls [.ref (ad M_o)]) := by
  have hx := X.hx
  have hb := X.hb
  unfold f_X8_read_19 at hf
  refine lv_iconst (v := 1) hx hb dX8_read_19 (by decide) ?_
  refine lv_goto (tgt := 24) hx hb dX8_read_20 (by decide) ?_
  exact w_X8_read_24 X hR S x1 x2 x3 1 hP hS (lv_sub hl [0, 1, 2, 3] rfl) hf
set_option maxHeartbeats 4000000 in
theorem w_X8_read {p : Program} {l : Launch} {e : Env} {R : Room} {s : State} {m : MethodId} {args : Array Value} {below : List Frame} {meth : Method} {c : Code} {D : va_G} {dA : Nat → ClassId} {A : Nat → Prop} {ad : L3 → Nat} (X : CX RX8 cX8_read 7 (some .int) (KA D dA) p s m args meth c A) (hR : 6 ≤ R.frames ∧ 142 ≤ R.locals) {res : Mem × Int32} (S : Mem) (x1 : Int32) (x2 : Int32) (x3 : Int32) {H : Heap} {locs : List Loc} {ls : Array Slot} (hP : Wd D clA (shM dA) exM A ad S H) (hS : va_S A s.heap H locs) (hl : lv_has ls 7 [(0, .ref (ad M_o)), (1, .int x1), (2, .int x2), (3, .int x3)]) (hf : f_X8_read S x1 x2 x3 = some res) : W p l e R s m args below meth c H locs 0 0 (MQ below (QiW D (shM dA) exM A ad res) args s 0 0 A) (F0 m 0 ls []) := by
  have hx := X.hx
  have hb := X.hb
  unfold f_X8_read at hf
  refine lv_aload_n hx hb dX8_read_0 rfl (lv_at hl 0 rfl) ?_
  refine lv_iload_n hx hb dX8_read_1 rfl (lv_at hl 1 rfl) ?_
  obtain ⟨v1, hq, hf⟩ := gS_eq hf
  refine gc_i (gc_fixS (S := S) X (mt_X8_noSide l D dA A ad S x1 hq) (lw_S q1258 q1259 q93 q1260) ⟨rfl, rfl⟩ hd_X8_noSide.2 ⟨Nat.le_trans (Nat.le_of_ble_eq_true rfl) hR.1, Nat.le_trans (Nat.le_of_ble_eq_true rfl) hR.2⟩ hP hS ⟨Nat.zero_le _, Nat.zero_le _⟩ rfl hl.1 rfl (Nat.le_of_ble_eq_true rfl) dX8_read_2) hS ?_
  rintro _ _ H locs ⟨rfl, rfl⟩ hP hS
  refine gb_if_ne (tgt := 19) hx hb dX8_read_5 (by decide) hf (fun hf => ?_) (fun hf => ?_)
  · exact w_X8_read_19 X hR S x1 x2 x3 hP hS (lv_sub hl [0, 1, 2, 3] rfl) hf
  · refine lv_iload_n hx hb dX8_read_8 rfl (lv_at hl 3 rfl) ?_
    refine gb_if_lt (tgt := 19) hx hb dX8_read_9 (by decide) hf (fun hf => ?_) (fun hf => ?_)
    · exact w_X8_read_19 X hR S x1 x2 x3 hP hS (lv_sub hl [0, 1, 2, 3] rfl) hf
    · refine lv_iload_n hx hb dX8_read_12 rfl (lv_at hl 3 rfl) ?_
      refine lv_sipush (v := 2048) hx hb dX8_read_13 (by decide) ?_
      refine gb_icmp_le (tgt := 23) hx hb dX8_read_16 (by decide) hf (fun hf => ?_) (fun hf => ?_)
      · refine lv_iconst (v := 0) hx hb dX8_read_23 (by decide) ?_
        exact w_X8_read_24 X hR S x1 x2 x3 0 hP hS (lv_sub hl [0, 1, 2, 3] rfl) hf
      · exact w_X8_read_19 X hR S x1 x2 x3 hP hS (lv_sub hl [0, 1, 2, 3] rfl) hf
theorem hd_X8_read : yX8_read.cls = RX8 ∧ yX8_read.cls ≠ "java/lang/invoke/MethodHandle" ∧ yX8_read.cls ≠ "java/lang/invoke/VarHandle" ∧ (parseMethodDescriptor yX8_read.desc).map (fun d => d.parameters.length) = some 3 := by decide +kernel
set_option maxHeartbeats 4000000 in
theorem mt_X8_read (l : Launch) (D : va_G) (dA : Nat → ClassId) (A : Nat → Prop) (ad : L3 → Nat) (S : Mem) (x1 : Int32) (x2 : Int32) (x3 : Int32) {res : Mem × Int32} (hq : f_X8_read S x1 x2 x3 = some res) : Met l yX8_read (ws_ yX8_read cX8_read 7 (some .int)) ({ frames := 6, cells := 0, slots := 0, locals := 142 } : Room) (va_Pc [.ref (ad M_o), .int x1, .int x2, .int x3] (PreW D dA (shM dA) exM A ad S)) (QiW D (shM dA) exM A ad res) 0 0 A :=
  gx_head (by decide) (Nat.le_of_ble_eq_true rfl) (fun p e s m below meth c ls X hP hl => w_X8_read (l := l) X ⟨Nat.le_of_ble_eq_true rfl, Nat.le_of_ble_eq_true rfl⟩ S x1 x2 x3 hP va_S.rf (lv_sub (l := [(0, .ref (ad M_o)), (1, .int x1), (2, .int x2), (3, .int x3)]) hl [0, 1, 2, 3] rfl) hq)
set_option maxHeartbeats 4000000 in
theorem w_X8_meant_58 {p : Program} {l : Launch} {e : Env} {R : Room} {s : State} {m : MethodId} {args : Array Value} {below : List Frame} {meth : Method} {c : Code} {D : va_G} {dA : Nat → ClassId} {A : Nat → Prop} {ad : L3 → Nat} (X : CX RX8 cX8_meant 5 (some .int) (KA D dA) p s m args meth c A) (hR : 3 ≤ R.frames ∧ 64 ≤ R.locals) {res : Int32} (S : Mem) (x1 : Int32) (x2 : Int64) {H : Heap} {locs : List Loc} {ls : Array Slot} (hP : Wd D clA (shM dA) exM A ad S H) (hS : va_S A s.heap H locs) (hl : lv_has ls 5 [(0, .ref (ad M_o)), (1, .int x1), (2, .long x2)]) (hf : f_X8_meant_58 S x1 x2 = some res) : W p l e R s m args below meth c H locs 0 0 (MQ below (QiR D (shM dA) exM A ad S res) args s 0 0 A) (F0 m 58 ls []) := by
  have hx := X.hx
  have hb := X.hb
  unfold f_X8_meant_58 at hf
  refine lv_iload_n hx hb dX8_meant_58 rfl (lv_at hl 1 rfl) ?_
  refine lv_lload_n hx hb dX8_meant_59 rfl (lv_at hl 2 rfl) ?_
  obtain ⟨v1, hq, hf⟩ := gS_eq hf
  refine gc_i (gc_fixS (S := S) X (mt_X8_opens l D dA A ad S x1 x2 hq) (lw_S q1293 q1294 q93 q1295) ⟨rfl, rfl⟩ hd_X8_opens.2 ⟨Nat.le_trans (Nat.le_of_ble_eq_true rfl) hR.1, Nat.le_trans (Nat.le_of_ble_eq_true rfl) hR.2⟩ hP hS ⟨Nat.zero_le _, Nat.zero_le _⟩ rfl hl.1 rfl (Nat.le_of_ble_eq_true rfl) dX8_meant_60) hS ?_
  rintro _ _ H locs ⟨rfl, rfl⟩ hP hS
  refine gb_if_ne (tgt := 93) hx hb dX8_meant_63 (by decide) hf (fun hf => ?_) (fun hf => ?_)
  · refine lv_iconst (v := 0) hx hb dX8_meant_93 (by decide) ?_
    exact gr_iR X hP hS (Option.some.inj hf) dX8_meant_94
  · refine lv_lload_n hx hb dX8_meant_66 rfl (lv_at hl 2 rfl) ?_
    refine lv_ldc2 hx hb X.hown (X.hts _ q1419) dX8_meant_67 ?_
    refine lv_ldiv hx hb dX8_meant_70 (by decide) ?_
    refine lv_aload_n hx hb dX8_meant_71 rfl (lv_at hl 0 rfl) ?_
    refine rg_X8_29 X hP dX8_meant_72 ?_
    refine lv_iconst (v := 2) hx hb dX8_meant_75 (by decide) ?_
    refine lv_iload_n hx hb dX8_meant_76 rfl (lv_at hl 1 rfl) ?_
    refine lv_imul hx hb dX8_meant_77 ?_
    refine lv_lload_n hx hb dX8_meant_78 rfl (lv_at hl 2 rfl) ?_
    obtain ⟨v2, hq, hf⟩ := gS_eq hf
    refine gc_i (gc_fixS (S := S) X (mt_X8_wayOf l D dA A ad S x2 hq) (lw_S q1290 q1291 q93 q1292) ⟨rfl, rfl⟩ hd_X8_wayOf.2 ⟨Nat.le_trans (Nat.le_of_ble_eq_true rfl) hR.1, Nat.le_trans (Nat.le_of_ble_eq_true rfl) hR.2⟩ hP hS ⟨Nat.zero_le _, Nat.zero_le _⟩ rfl hl.1 rfl (Nat.le_of_ble_eq_true rfl) dX8_meant_79) hS ?_
    rintro _ _ H locs ⟨rfl, rfl⟩ hP hS
    refine lv_iadd hx hb dX8_meant_82 ?_
    refine ra_granted_ld X hP dX8_meant_83 hf (fun hf => ?_)
    refine lv_i2l hx hb dX8_meant_84 rfl ?_
    refine gb_lcmp_lt (tgt := 93) hx hb dX8_meant_85 dX8_meant_86 (by decide) hf (fun hf => ?_) (fun hf => ?_)
    · refine lv_iconst (v := 0) hx hb dX8_meant_93 (by decide) ?_
      exact gr_iR X hP hS (Option.some.inj hf) dX8_meant_94
    · refine lv_iconst (v := 4) hx hb dX8_meant_89 (by decide) ?_
      refine lv_goto (tgt := 94) hx hb dX8_meant_90 (by decide) ?_
      exact gr_iR X hP hS (Option.some.inj hf) dX8_meant_94
set_option maxHeartbeats 4000000 in
theorem w_X8_meant_32 {p : Program} {l : Launch} {e : Env} {R : Room} {s : State} {m : MethodId} {args : Array Value} {below : List Frame} {meth : Method} {c : Code} {D : va_G} {dA : Nat → ClassId} {A : Nat → Prop} {ad : L3 → Nat} (X : CX RX8 cX8_meant 5 (some .int) (KA D dA) p s m args meth c A) (hR : 3 ≤ R.frames ∧ 64 ≤ R.locals) {res : Int32} (S : Mem) (x1 : Int32) (x2 : Int64) (x4 : Int32) {H : Heap} {locs : List Loc} {ls : Array Slot} (hP : Wd D clA (shM dA) exM A ad S H) (hS : va_S A s.heap H locs) (hl : lv_has ls 5 [(0, .ref (ad M_o)), (1, .int x1), (2, .long x2), (4, .int x4)]) (hf : f_X8_meant_32 S x1 x2 x4 = some res) : W p l e R s m args below meth c H locs 0 0 (MQ below (QiR D (shM dA) exM A ad S res) args s 0 0 A) (F0 m 32 ls []) := by
  have hx := X.hx
  have hb := X.hb
  unfold f_X8_meant_32 at hf
  refine lv_iload hx hb dX8_meant_32 (lv_at hl 3 rfl) ?_
  refine gb_if_eq (tgt := 48) hx hb dX8_meant_34 (by decide) hf (fun hf => ?_) (fun hf => ?_)
  · refine lv_iload_n hx hb dX8_meant_48 rfl (lv_at hl 1 rfl) ?_
    refine lv_lload_n hx hb dX8_meant_49 rfl (lv_at hl 2 rfl) ?_
    obtain ⟨v1, hq, hf⟩ := gS_eq hf
    refine gc_i (gc_fixS (S := S) X (mt_X8_receives l D dA A ad S x1 x2 hq) (lw_S q1352 q1353 q93 q1354) ⟨rfl, rfl⟩ hd_X8_receives.2 ⟨Nat.le_trans (Nat.le_of_ble_eq_true rfl) hR.1, Nat.le_trans (Nat.le_of_ble_eq_true rfl) hR.2⟩ hP hS ⟨Nat.zero_le _, Nat.zero_le _⟩ rfl hl.1 rfl (Nat.le_of_ble_eq_true rfl) dX8_meant_50) hS ?_
    rintro _ _ H locs ⟨rfl, rfl⟩ hP hS
    refine gb_if_ne (tgt := 58) hx hb dX8_meant_53 (by decide) hf (fun hf => ?_) (fun hf => ?_)
    · exact w_X8_meant_58 X hR S x1 x2 hP hS (lv_sub hl [0, 1, 2] rfl) hf
    · refine lv_iconst (v := 5) hx hb dX8_meant_56 (by decide) ?_
      exact gr_iR X hP hS (Option.some.inj hf) dX8_meant_57
  · refine lv_iload_n hx hb dX8_meant_37 rfl (lv_at hl 1 rfl) ?_
    refine lv_lload_n hx hb dX8_meant_38 rfl (lv_at hl 2 rfl) ?_
    obtain ⟨v2, hq, hf⟩ := gS_eq hf
    refine gc_i (gc_fixS (S := S) X (mt_X8_sends l D dA A ad S x1 x2 hq) (lw_S q1312 q1313 q93 q1314) ⟨rfl, rfl⟩ hd_X8_sends.2 ⟨Nat.le_trans (Nat.le_of_ble_eq_true rfl) hR.1, Nat.le_trans (Nat.le_of_ble_eq_true rfl) hR.2⟩ hP hS ⟨Nat.zero_le _, Nat.zero_le _⟩ rfl hl.1 rfl (Nat.le_of_ble_eq_true rfl) dX8_meant_39) hS ?_
    rintro _ _ H locs ⟨rfl, rfl⟩ hP hS
    refine gb_if_ne (tgt := 58) hx hb dX8_meant_42 (by decide) hf (fun hf => ?_) (fun hf => ?_)
    · exact w_X8_meant_58 X hR S x1 x2 hP hS (lv_sub hl [0, 1, 2] rfl) hf
    · refine lv_goto (tgt := 56) hx hb dX8_meant_45 (by decide) ?_
      refine lv_iconst (v := 5) hx hb dX8_meant_56 (by decide) ?_
      exact gr_iR X hP hS (Option.some.inj hf) dX8_meant_57
set_option maxHeartbeats 4000000 in
theorem w_X8_meant {p : Program} {l : Launch} {e : Env} {R : Room} {s : State} {m : MethodId} {args : Array Value} {below : List Frame} {meth : Method} {c : Code} {D : va_G} {dA : Nat → ClassId} {A : Nat → Prop} {ad : L3 → Nat} (X : CX RX8 cX8_meant 5 (some .int) (KA D dA) p s m args meth c A) (hR : 3 ≤ R.frames ∧ 64 ≤ R.locals) {res : Int32} (S : Mem) (x1 : Int32) (x2 : Int64) (x4 : Int32) {H : Heap} {locs : List Loc} {ls : Array Slot} (hP : Wd D clA (shM dA) exM A ad S H) (hS : va_S A s.heap H locs) (hl : lv_has ls 5 [(0, .ref (ad M_o)), (1, .int x1), (2, .long x2), (4, .int x4)]) (hf : f_X8_meant S x1 x2 x4 = some res) : W p l e R s m args below meth c H locs 0 0 (MQ below (QiR D (shM dA) exM A ad S res) args s 0 0 A) (F0 m 0 ls []) := by
  have hx := X.hx
  have hb := X.hb
  unfold f_X8_meant at hf
  refine lv_iload_n hx hb dX8_meant_0 rfl (lv_at hl 1 rfl) ?_
  refine lv_lload_n hx hb dX8_meant_1 rfl (lv_at hl 2 rfl) ?_
  obtain ⟨v1, hq, hf⟩ := gS_eq hf
  refine gc_i (gc_fixS (S := S) X (mt_X8_opens l D dA A ad S x1 x2 hq) (lw_S q1293 q1294 q93 q1295) ⟨rfl, rfl⟩ hd_X8_opens.2 ⟨Nat.le_trans (Nat.le_of_ble_eq_true rfl) hR.1, Nat.le_trans (Nat.le_of_ble_eq_true rfl) hR.2⟩ hP hS ⟨Nat.zero_le _, Nat.zero_le _⟩ rfl hl.1 rfl (Nat.le_of_ble_eq_true rfl) dX8_meant_2) hS ?_
  rintro _ _ H locs ⟨rfl, rfl⟩ hP hS
  refine gb_if_eq (tgt := 32) hx hb dX8_meant_5 (by decide) hf (fun hf => ?_) (fun hf => ?_)
  · exact w_X8_meant_32 X hR S x1 x2 x4 hP hS (lv_sub hl [0, 1, 2, 3] rfl) hf
  · refine lv_lload_n hx hb dX8_meant_8 rfl (lv_at hl 2 rfl) ?_
    refine lv_ldc2 hx hb X.hown (X.hts _ q1418) dX8_meant_9 ?_
    refine gb_lcmp_ge (tgt := 30) hx hb dX8_meant_12 dX8_meant_13 (by decide) hf (fun hf => ?_) (fun hf => ?_)
    · refine lv_iconst (v := 5) hx hb dX8_meant_30 (by decide) ?_
      exact gr_iR X hP hS (Option.some.inj hf) dX8_meant_31
    · refine lv_aload_n hx hb dX8_meant_16 rfl (lv_at hl 0 rfl) ?_
      refine rg_X8_51 X hP dX8_meant_17 ?_
      refine lv_iload_n hx hb dX8_meant_20 rfl (lv_at hl 1 rfl) ?_
      refine lv_lload_n hx hb dX8_meant_21 rfl (lv_at hl 2 rfl) ?_
      refine lv_l2i hx hb dX8_meant_22 rfl ?_
      obtain ⟨v2, hq, hf⟩ := gS_eq hf
      refine gc_i (gc_fixS (S := S) X (mt_X8_at l D dA A ad S x1 (Int64.toInt32 x2) hq) (lw_S q1283 q1284 q93 q1285) ⟨rfl, rfl⟩ hd_X8_at.2 ⟨Nat.le_trans (Nat.le_of_ble_eq_true rfl) hR.1, Nat.le_trans (Nat.le_of_ble_eq_true rfl) hR.2⟩ hP hS ⟨Nat.zero_le _, Nat.zero_le _⟩ rfl hl.1 rfl (Nat.le_of_ble_eq_true rfl) dX8_meant_23) hS ?_
      rintro _ _ H locs ⟨rfl, rfl⟩ hP hS
      refine ra_there_ld X hP dX8_meant_26 hf (fun hf => ?_)
      refine gb_if_ne (tgt := 32) hx hb dX8_meant_27 (by decide) hf (fun hf => ?_) (fun hf => ?_)
      · exact w_X8_meant_32 X hR S x1 x2 x4 hP hS (lv_sub hl [0, 1, 2, 3] rfl) hf
      · refine lv_iconst (v := 5) hx hb dX8_meant_30 (by decide) ?_
        exact gr_iR X hP hS (Option.some.inj hf) dX8_meant_31
theorem hd_X8_meant : yX8_meant.cls = RX8 ∧ yX8_meant.cls ≠ "java/lang/invoke/MethodHandle" ∧ yX8_meant.cls ≠ "java/lang/invoke/VarHandle" ∧ (parseMethodDescriptor yX8_meant.desc).map (fun d => d.parameters.length) = some 3 := by decide +kernel
set_option maxHeartbeats 4000000 in
theorem mt_X8_meant (l : Launch) (D : va_G) (dA : Nat → ClassId) (A : Nat → Prop) (ad : L3 → Nat) (S : Mem) (x1 : Int32) (x2 : Int64) (x4 : Int32) {res : Int32} (hq : f_X8_meant S x1 x2 x4 = some res) : Met l yX8_meant (ws_ yX8_meant cX8_meant 5 (some .int)) ({ frames := 3, cells := 0, slots := 0, locals := 64 } : Room) (va_Pc [.ref (ad M_o), .int x1, .long x2, .int x4] (PreW D dA (shM dA) exM A ad S)) (QiR D (shM dA) exM A ad S res) 0 0 A :=
  gx_head (by decide) (Nat.le_of_ble_eq_true rfl) (fun p e s m below meth c ls X hP hl => w_X8_meant (l := l) X ⟨Nat.le_of_ble_eq_true rfl, Nat.le_of_ble_eq_true rfl⟩ S x1 x2 x4 hP va_S.rf (lv_sub (l := [(0, .ref (ad M_o)), (1, .int x1), (2, .long x2), (4, .int x4)]) hl [0, 1, 2, 3] rfl) hq)
set_option maxHeartbeats 4000000 in
theorem w_X8_received_5_b {p : Program} {l : Launch} {e : Env} {R : Room} {s : State} {m : MethodId} {args : Array Value} {below : List Frame} {meth : Method} {c : Code} {D : va_G} {dA : Nat → ClassId} {A : Nat → Prop} {ad : L3 → Nat} (X : CX RX8 cX8_received 5 (some .long) (KA D dA) p s m args meth c A) (hR : 2 ≤ R.frames ∧ 41 ≤ R.locals) {res : Int64} (S : Mem) (k5 : Int32 → Int64 → Int32 → Option (Int64)) (hk5 : ∀ (x1 : Int32) (x2 : Int64) (x4 : Int32) (H : Heap) (locs : List Loc) (ls : Array Slot), Wd D clA (shM dA) exM A ad S H → va_S A s.heap H locs → lv_has ls 5 [(0, .ref (ad M_o)), (1, .int x1), (2, .long x2), (4, .int x4)] → k5 x1 x2 x4 = some res → W p l e R s m args below meth c H locs 0 0 (MQ below (QjR D (shM dA) exM A ad S res) args s 0 0 A) (F0 m 5 ls [])) (x1 : Int32) (x2 : Int64) (x4 : Int32) {H : Heap} {locs : List Loc} {ls : Array Slot} (hP : Wd D clA (shM dA) exM A ad S H) (hS : va_S A s.heap H locs) (hl : lv_has ls 5 [(0, .ref (ad M_o)), (1, .int x1), (2, .long x2), (4, .int x4)]) (hf : f_X8_received_5_b S k5 x1 x2 x4 = some res) : W p l e R s m args below meth c H locs 0 0 (MQ below (QjR D (shM dA) exM A ad S res) args s 0 0 A) (F0 m 5 ls []) := by
  have hx := X.hx
  have hb := X.hb
  unfold f_X8_received_5_b at hf
  refine lv_iload hx hb dX8_received_5 (lv_at hl 3 rfl) ?_
  refine lv_sipush (v := 256) hx hb dX8_received_7 (by decide) ?_
  refine gb_icmp_ge (tgt := 33) hx hb dX8_received_10 (by decide) hf (fun hf => ?_) (fun hf => ?_)
  · refine lv_lload_n hx hb dX8_received_33 rfl (lv_at hl 2 rfl) ?_
    exact gr_lR X hP hS (Option.some.inj hf) dX8_received_34
  · refine lv_lload_n hx hb dX8_received_13 rfl (lv_at hl 2 rfl) ?_
    refine lv_aload_n hx hb dX8_received_14 rfl (lv_at hl 0 rfl) ?_
    refine rg_X8_75 X hP dX8_received_15 ?_
    refine lv_iload_n hx hb dX8_received_18 rfl (lv_at hl 1 rfl) ?_
    refine lv_iload hx hb dX8_received_19 (lv_at hl 3 rfl) ?_
    obtain ⟨v1, hq, hf⟩ := gS_eq hf
    refine gc_i (gc_fixS (S := S) X (mt_X8_at l D dA A ad S x1 x4 hq) (lw_S q1283 q1284 q93 q1285) ⟨rfl, rfl⟩ hd_X8_at.2 ⟨Nat.le_trans (Nat.le_of_ble_eq_true rfl) hR.1, Nat.le_trans (Nat.le_of_ble_eq_true rfl) hR.2⟩ hP hS ⟨Nat.zero_le _, Nat.zero_le _⟩ rfl hl.1 rfl (Nat.le_of_ble_eq_true rfl) dX8_received_21) hS ?_
    rintro _ _ H locs ⟨rfl, rfl⟩ hP hS
    refine ra_highest_ld X hP dX8_received_24 hf (fun hf => ?_)
    refine lv_ladd hx hb dX8_received_25 ?_
    refine lv_lstore_n (lv' := [(2, .long (x2 + (S.2 M_highest (Int32.toNatClampNeg v1)))), (0, .ref (ad M_o)), (1, .int x1), (4, .int x4)]) hx hb dX8_received_26 rfl hl (by decide) rfl (fun ls hl => ?_)
    refine lv_iinc (v := (x4 + 1)) (lv' := [(4, .int (x4 + 1)), (2, .long (x2 + (S.2 M_highest (Int32.toNatClampNeg v1)))), (0, .ref (ad M_o)), (1, .int x1)]) hx hb dX8_received_27 hl (k := 3) rfl rfl (by decide) rfl (fun ls hl => ?_)
    refine lv_goto (tgt := 5) hx hb dX8_received_30 (by decide) ?_
    exact hk5 x1 (x2 + (S.2 M_highest (Int32.toNatClampNeg v1))) (x4 + 1) _ _ _ hP hS (lv_sub hl [2, 3, 1, 0] rfl) hf
set_option maxHeartbeats 4000000 in
theorem w_X8_received_5 {p : Program} {l : Launch} {e : Env} {R : Room} {s : State} {m : MethodId} {args : Array Value} {below : List Frame} {meth : Method} {c : Code} {D : va_G} {dA : Nat → ClassId} {A : Nat → Prop} {ad : L3 → Nat} (X : CX RX8 cX8_received 5 (some .long) (KA D dA) p s m args meth c A) (hR : 2 ≤ R.frames ∧ 41 ≤ R.locals) {res : Int64} (S : Mem) (n : Nat) : ∀ (x1 : Int32) (x2 : Int64) (x4 : Int32) (H : Heap) (locs : List Loc) (ls : Array Slot), Wd D clA (shM dA) exM A ad S H → va_S A s.heap H locs → lv_has ls 5 [(0, .ref (ad M_o)), (1, .int x1), (2, .long x2), (4, .int x4)] → f_X8_received_5 S n x1 x2 x4 = some res → W p l e R s m args below meth c H locs 0 0 (MQ below (QjR D (shM dA) exM A ad S res) args s 0 0 A) (F0 m 5 ls []) := by
  induction n with
  | zero =>
    intro x1 x2 x4 H locs ls hP hS hl hf
    exact absurd (show none = some res from hf) (fun h => by cases h)
  | succ n ih =>
    intro x1 x2 x4 H locs ls hP hS hl hf
    exact w_X8_received_5_b X hR S (f_X8_received_5 S n) ih x1 x2 x4 hP hS hl hf
set_option maxHeartbeats 4000000 in
theorem w_X8_received {p : Program} {l : Launch} {e : Env} {R : Room} {s : State} {m : MethodId} {args : Array Value} {below : List Frame} {meth : Method} {c : Code} {D : va_G} {dA : Nat → ClassId} {A : Nat → Prop} {ad : L3 → Nat} (X : CX RX8 cX8_received 5 (some .long) (KA D dA) p s m args meth c A) (hR : 2 ≤ R.frames ∧ 41 ≤ R.locals) {res : Int64} (S : Mem) (x1 : Int32) {H : Heap} {locs : List Loc} {ls : Array Slot} (hP : Wd D clA (shM dA) exM A ad S H) (hS : va_S A s.heap H locs) (hl : lv_has ls 5 [(0, .ref (ad M_o)), (1, .int x1)]) (hf : f_X8_received S x1 = some res) : W p l e R s m args below meth c H locs 0 0 (MQ below (QjR D (shM dA) exM A ad S res) args s 0 0 A) (F0 m 0 ls []) := by
  have hx := X.hx
  have hb := X.hb
  unfold f_X8_received at hf
  refine lv_lconst (v := 0) hx hb dX8_received_0 (by decide) ?_
  refine lv_lstore_n (lv' := [(2, .long 0), (0, .ref (ad M_o)), (1, .int x1)]) hx hb dX8_received_1 rfl hl (by decide) rfl (fun ls hl => ?_)
  refine lv_iconst (v := 0) hx hb dX8_received_2 (by decide) ?_
  refine lv_istore (lv' := [(4, .int 0), (2, .long 0), (0, .ref (ad M_o)), (1, .int x1)]) hx hb dX8_received_3 hl (by decide) rfl (fun ls hl => ?_)
  exact w_X8_received_5 X hR S FU x1 0 0 _ _ _ hP hS (lv_sub hl [2, 3, 1, 0] rfl) hf
theorem hd_X8_received : yX8_received.cls = RX8 ∧ yX8_received.cls ≠ "java/lang/invoke/MethodHandle" ∧ yX8_received.cls ≠ "java/lang/invoke/VarHandle" ∧ (parseMethodDescriptor yX8_received.desc).map (fun d => d.parameters.length) = some 1 := by decide +kernel
set_option maxHeartbeats 4000000 in
theorem mt_X8_received (l : Launch) (D : va_G) (dA : Nat → ClassId) (A : Nat → Prop) (ad : L3 → Nat) (S : Mem) (x1 : Int32) {res : Int64} (hq : f_X8_received S x1 = some res) : Met l yX8_received (ws_ yX8_received cX8_received 5 (some .long)) ({ frames := 2, cells := 0, slots := 0, locals := 41 } : Room) (va_Pc [.ref (ad M_o), .int x1] (PreW D dA (shM dA) exM A ad S)) (QjR D (shM dA) exM A ad S res) 0 0 A :=
  gx_head (by decide) (Nat.le_of_ble_eq_true rfl) (fun p e s m below meth c ls X hP hl => w_X8_received (l := l) X ⟨Nat.le_of_ble_eq_true rfl, Nat.le_of_ble_eq_true rfl⟩ S x1 hP va_S.rf (lv_sub (l := [(0, .ref (ad M_o)), (1, .int x1)]) hl [0, 1] rfl) hq)
set_option maxHeartbeats 4000000 in
theorem w_X8_reaches_152 {p : Program} {l : Launch} {e : Env} {R : Room} {s : State} {m : MethodId} {args : Array Value} {below : List Frame} {meth : Method} {c : Code} {D : va_G} {dA : Nat → ClassId} {A : Nat → Prop} {ad : L3 → Nat} (X : CX RX8 cX8_reaches 11 (some .int) (KA D dA) p s m args meth c A) (hR : 3 ≤ R.frames ∧ 65 ≤ R.locals) {res : Int32} (S : Mem) {H : Heap} {locs : List Loc} {ls : Array Slot} (hP : Wd D clA (shM dA) exM A ad S H) (hS : va_S A s.heap H locs) (hl : lv_has ls 11 []) (hf : f_X8_reaches_152 S = some res) : W p l e R s m args below meth c H locs 0 0 (MQ below (QiR D (shM dA) exM A ad S res) args s 0 0 A) (F0 m 152 ls []) := by
  have hx := X.hx
  have hb := X.hb
  unfold f_X8_reaches_152 at hf
  refine lv_iconst (v := 3) hx hb dX8_reaches_152 (by decide) ?_
  refine lv_goto (tgt := 157) hx hb dX8_reaches_153 (by decide) ?_
  exact gr_iR X hP hS (Option.some.inj hf) dX8_reaches_157
set_option maxHeartbeats 4000000 in
theorem w_X8_reaches_125 {p : Program} {l : Launch} {e : Env} {R : Room} {s : State} {m : MethodId} {args : Array Value} {below : List Frame} {meth : Method} {c : Code} {D : va_G} {dA : Nat → ClassId} {A : Nat → Prop} {ad : L3 → Nat} (X : CX RX8 cX8_reaches 11 (some .int) (KA D dA) p s m args meth c A) (hR : 3 ≤ R.frames ∧ 65 ≤ R.locals) {res : Int32} (S : Mem) (x1 : Int32) (x3 : Int64) (x7 : Int64) (y0 : Int64) {H : Heap} {locs : List Loc} {ls : Array Slot} (hP : Wd D clA (shM dA) exM A ad S H) (hS : va_S A s.heap H locs) (hl : lv_has ls 11 [(0, .ref (ad M_o)), (1, .int x1), (3, .long x3), (7, .long x7)]) (hf : f_X8_reaches_125 S x1 x3 x7 y0 = some res) : W p l e R s m args below meth c H locs 0 0 (MQ below (QiR D (shM dA) exM A ad S res) args s 0 0 A) (F0 m 125 ls [.long y0]) := by
  have hx := X.hx
  have hb := X.hb
  unfold f_X8_reaches_125 at hf
  refine lv_lstore (lv' := [(9, .long y0), (0, .ref (ad M_o)), (1, .int x1), (3, .long x3), (7, .long x7)]) hx hb dX8_reaches_125 hl (by decide) rfl (fun ls hl => ?_)
  refine lv_lload_n hx hb dX8_reaches_127 rfl (lv_at hl 3 rfl) ?_
  refine lv_lload hx hb dX8_reaches_128 (lv_at hl 4 rfl) ?_
  refine gb_lcmp_gt (tgt := 152) hx hb dX8_reaches_130 dX8_reaches_131 (by decide) hf (fun hf => ?_) (fun hf => ?_)
  · exact w_X8_reaches_152 X hR S hP hS (lv_sub hl [] rfl) hf
  · refine lv_aload_n hx hb dX8_reaches_134 rfl (lv_at hl 1 rfl) ?_
    refine lv_iload_n hx hb dX8_reaches_135 rfl (lv_at hl 2 rfl) ?_
    obtain ⟨v1, hq, hf⟩ := gB_some hf
    refine gc_l (gc_fixV (S := S) X (mt_X8_received l D dA A ad S x1 hq) (lw_V q1424 q1426 qs60 q93 q1427) ⟨rfl, rfl⟩ hd_X8_received ⟨Nat.le_trans (Nat.le_of_ble_eq_true rfl) hR.1, Nat.le_trans (Nat.le_of_ble_eq_true rfl) hR.2⟩ (wd_recv (r := M_o) (ci := 0) (q := (RX8, TX8, 61)) X.hK.1 hP ⟨rfl, rfl⟩ rfl rfl) hP hS ⟨Nat.zero_le _, Nat.zero_le _⟩ rfl hl.1 rfl (Nat.le_of_ble_eq_true rfl) dX8_reaches_136) hS ?_
    rintro _ _ H locs ⟨rfl, rfl⟩ hP hS
    refine lv_lload hx hb dX8_reaches_139 (lv_at hl 0 rfl) ?_
    refine lv_ladd hx hb dX8_reaches_141 ?_
    refine lv_aload_n hx hb dX8_reaches_142 rfl (lv_at hl 1 rfl) ?_
    refine rg_X8_32 X hP dX8_reaches_143 ?_
    refine lv_iload_n hx hb dX8_reaches_146 rfl (lv_at hl 2 rfl) ?_
    refine ra_dataGrant_ld X hP dX8_reaches_147 hf (fun hf => ?_)
    refine gb_lcmp_le (tgt := 156) hx hb dX8_reaches_148 dX8_reaches_149 (by decide) hf (fun hf => ?_) (fun hf => ?_)
    · refine lv_iconst (v := 0) hx hb dX8_reaches_156 (by decide) ?_
      exact gr_iR X hP hS (Option.some.inj hf) dX8_reaches_157
    · exact w_X8_reaches_152 X hR S hP hS (lv_sub hl [] rfl) hf
set_option maxHeartbeats 4000000 in
theorem w_X8_reaches_98 {p : Program} {l : Launch} {e : Env} {R : Room} {s : State} {m : MethodId} {args : Array Value} {below : List Frame} {meth : Method} {c : Code} {D : va_G} {dA : Nat → ClassId} {A : Nat → Prop} {ad : L3 → Nat} (X : CX RX8 cX8_reaches 11 (some .int) (KA D dA) p s m args meth c A) (hR : 3 ≤ R.frames ∧ 65 ≤ R.locals) {res : Int32} (S : Mem) (x1 : Int32) (x3 : Int64) (x6 : Int32) (y0 : Int64) {H : Heap} {locs : List Loc} {ls : Array Slot} (hP : Wd D clA (shM dA) exM A ad S H) (hS : va_S A s.heap H locs) (hl : lv_has ls 11 [(0, .ref (ad M_o)), (1, .int x1), (3, .long x3), (6, .int x6)]) (hf : f_X8_reaches_98 S x1 x3 x6 y0 = some res) : W p l e R s m args below meth c H locs 0 0 (MQ below (QiR D (shM dA) exM A ad S res) args s 0 0 A) (F0 m 98 ls [.long y0]) := by
  have hx := X.hx
  have hb := X.hb
  unfold f_X8_reaches_98 at hf
  refine lv_lstore (lv' := [(7, .long y0), (0, .ref (ad M_o)), (1, .int x1), (3, .long x3), (6, .int x6)]) hx hb dX8_reaches_98 hl (by decide) rfl (fun ls hl => ?_)
  refine lv_lload_n hx hb dX8_reaches_100 rfl (lv_at hl 3 rfl) ?_
  refine lv_aload_n hx hb dX8_reaches_101 rfl (lv_at hl 1 rfl) ?_
  refine rg_X8_75 X hP dX8_reaches_102 ?_
  refine lv_iload hx hb dX8_reaches_105 (lv_at hl 4 rfl) ?_
  refine ra_highest_ld X hP dX8_reaches_107 hf (fun hf => ?_)
  refine gb_lcmp_le (tgt := 124) hx hb dX8_reaches_108 dX8_reaches_109 (by decide) hf (fun hf => ?_) (fun hf => ?_)
  · refine lv_lconst (v := 0) hx hb dX8_reaches_124 (by decide) ?_
    exact w_X8_reaches_125 X hR S x1 x3 y0 0 hP hS (lv_sub hl [1, 2, 3, 0] rfl) hf
  · refine lv_lload_n hx hb dX8_reaches_112 rfl (lv_at hl 3 rfl) ?_
    refine lv_aload_n hx hb dX8_reaches_113 rfl (lv_at hl 1 rfl) ?_
    refine rg_X8_75 X hP dX8_reaches_114 ?_
    refine lv_iload hx hb dX8_reaches_117 (lv_at hl 4 rfl) ?_
    refine ra_highest_ld X hP dX8_reaches_119 hf (fun hf => ?_)
    refine lv_lsub hx hb dX8_reaches_120 ?_
    refine lv_goto (tgt := 125) hx hb dX8_reaches_121 (by decide) ?_
    exact w_X8_reaches_125 X hR S x1 x3 y0 (x3 - (S.2 M_highest (Int32.toNatClampNeg x6))) hP hS (lv_sub hl [1, 2, 3, 0] rfl) hf
set_option maxHeartbeats 4000000 in
theorem w_X8_reaches_71 {p : Program} {l : Launch} {e : Env} {R : Room} {s : State} {m : MethodId} {args : Array Value} {below : List Frame} {meth : Method} {c : Code} {D : va_G} {dA : Nat → ClassId} {A : Nat → Prop} {ad : L3 → Nat} (X : CX RX8 cX8_reaches 11 (some .int) (KA D dA) p s m args meth c A) (hR : 3 ≤ R.frames ∧ 65 ≤ R.locals) {res : Int32} (S : Mem) (x1 : Int32) (x2 : Int32) (x3 : Int64) (x6 : Int32) {H : Heap} {locs : List Loc} {ls : Array Slot} (hP : Wd D clA (shM dA) exM A ad S H) (hS : va_S A s.heap H locs) (hl : lv_has ls 11 [(0, .ref (ad M_o)), (1, .int x1), (2, .int x2), (3, .long x3), (6, .int x6)]) (hf : f_X8_reaches_71 S x1 x2 x3 x6 = some res) : W p l e R s m args below meth c H locs 0 0 (MQ below (QiR D (shM dA) exM A ad S res) args s 0 0 A) (F0 m 71 ls []) := by
  have hx := X.hx
  have hb := X.hb
  unfold f_X8_reaches_71 at hf
  refine lv_aload_n hx hb dX8_reaches_71 rfl (lv_at hl 0 rfl) ?_
  refine rg_X8_51 X hP dX8_reaches_72 ?_
  refine lv_iload hx hb dX8_reaches_75 (lv_at hl 4 rfl) ?_
  refine ra_there_ld X hP dX8_reaches_77 hf (fun hf => ?_)
  refine gb_if_eq (tgt := 91) hx hb dX8_reaches_78 (by decide) hf (fun hf => ?_) (fun hf => ?_)
  · refine lv_aload_n hx hb dX8_reaches_91 rfl (lv_at hl 0 rfl) ?_
    refine lv_iload_n hx hb dX8_reaches_92 rfl (lv_at hl 1 rfl) ?_
    refine lv_iload_n hx hb dX8_reaches_93 rfl (lv_at hl 2 rfl) ?_
    obtain ⟨v1, hq, hf⟩ := gB_some hf
    refine gc_i (gc_fixV (S := S) X (mt_X8_grantOf l D dA A ad S x1 x2 hq) (lw_V q1286 q1288 qs37 q93 q1289) ⟨rfl, rfl⟩ hd_X8_grantOf ⟨Nat.le_trans (Nat.le_of_ble_eq_true rfl) hR.1, Nat.le_trans (Nat.le_of_ble_eq_true rfl) hR.2⟩ (wd_recv (r := M_o) (ci := 0) (q := (RX8, TX8, 61)) X.hK.1 hP ⟨rfl, rfl⟩ rfl rfl) hP hS ⟨Nat.zero_le _, Nat.zero_le _⟩ rfl hl.1 rfl (Nat.le_of_ble_eq_true rfl) dX8_reaches_94) hS ?_
    rintro _ _ H locs ⟨rfl, rfl⟩ hP hS
    refine lv_i2l hx hb dX8_reaches_97 rfl ?_
    exact w_X8_reaches_98 X hR S x1 x3 x6 (Int32.toInt64 v1) hP hS (lv_sub hl [0, 1, 3, 4] rfl) hf
  · refine lv_aload_n hx hb dX8_reaches_81 rfl (lv_at hl 0 rfl) ?_
    refine rg_X8_90 X hP dX8_reaches_82 ?_
    refine lv_iload hx hb dX8_reaches_85 (lv_at hl 4 rfl) ?_
    refine ra_grant_ld X hP dX8_reaches_87 hf (fun hf => ?_)
    refine lv_goto (tgt := 98) hx hb dX8_reaches_88 (by decide) ?_
    exact w_X8_reaches_98 X hR S x1 x3 x6 (S.2 M_grant (Int32.toNatClampNeg x6)) hP hS (lv_sub hl [0, 1, 3, 4] rfl) hf
set_option maxHeartbeats 4000000 in
theorem w_X8_reaches_51 {p : Program} {l : Launch} {e : Env} {R : Room} {s : State} {m : MethodId} {args : Array Value} {below : List Frame} {meth : Method} {c : Code} {D : va_G} {dA : Nat → ClassId} {A : Nat → Prop} {ad : L3 → Nat} (X : CX RX8 cX8_reaches 11 (some .int) (KA D dA) p s m args meth c A) (hR : 3 ≤ R.frames ∧ 65 ≤ R.locals) {res : Int32} (S : Mem) (x1 : Int32) (x2 : Int32) (x3 : Int64) (x5 : Int32) (x6 : Int32) {H : Heap} {locs : List Loc} {ls : Array Slot} (hP : Wd D clA (shM dA) exM A ad S H) (hS : va_S A s.heap H locs) (hl : lv_has ls 11 [(0, .ref (ad M_o)), (1, .int x1), (2, .int x2), (3, .long x3), (5, .int x5), (6, .int x6)]) (hf : f_X8_reaches_51 S x1 x2 x3 x5 x6 = some res) : W p l e R s m args below meth c H locs 0 0 (MQ below (QiR D (shM dA) exM A ad S res) args s 0 0 A) (F0 m 51 ls []) := by
  have hx := X.hx
  have hb := X.hb
  unfold f_X8_reaches_51 at hf
  refine lv_iload hx hb dX8_reaches_51 (lv_at hl 4 rfl) ?_
  refine gb_if_eq (tgt := 71) hx hb dX8_reaches_53 (by decide) hf (fun hf => ?_) (fun hf => ?_)
  · exact w_X8_reaches_71 X hR S x1 x2 x3 x6 hP hS (lv_sub hl [0, 1, 2, 3, 5] rfl) hf
  · refine lv_lload_n hx hb dX8_reaches_56 rfl (lv_at hl 3 rfl) ?_
    refine lv_aload_n hx hb dX8_reaches_57 rfl (lv_at hl 0 rfl) ?_
    refine rg_X8_75 X hP dX8_reaches_58 ?_
    refine lv_iload hx hb dX8_reaches_61 (lv_at hl 5 rfl) ?_
    refine ra_highest_ld X hP dX8_reaches_63 hf (fun hf => ?_)
    refine gb_lcmp_ge (tgt := 71) hx hb dX8_reaches_64 dX8_reaches_65 (by decide) hf (fun hf => ?_) (fun hf => ?_)
    · exact w_X8_reaches_71 X hR S x1 x2 x3 x6 hP hS (lv_sub hl [0, 1, 2, 3, 5] rfl) hf
    · refine lv_bipush (v := 6) hx hb dX8_reaches_68 (by decide) ?_
      exact gr_iR X hP hS (Option.some.inj hf) dX8_reaches_70
set_option maxHeartbeats 4000000 in
theorem w_X8_reaches {p : Program} {l : Launch} {e : Env} {R : Room} {s : State} {m : MethodId} {args : Array Value} {below : List Frame} {meth : Method} {c : Code} {D : va_G} {dA : Nat → ClassId} {A : Nat → Prop} {ad : L3 → Nat} (X : CX RX8 cX8_reaches 11 (some .int) (KA D dA) p s m args meth c A) (hR : 3 ≤ R.frames ∧ 65 ≤ R.locals) {res : Int32} (S : Mem) (x1 : Int32) (x2 : Int32) (x3 : Int64) (x5 : Int32) {H : Heap} {locs : List Loc} {ls : Array Slot} (hP : Wd D clA (shM dA) exM A ad S H) (hS : va_S A s.heap H locs) (hl : lv_has ls 11 [(0, .ref (ad M_o)), (1, .int x1), (2, .int x2), (3, .long x3), (5, .int x5)]) (hf : f_X8_reaches S x1 x2 x3 x5 = some res) : W p l e R s m args below meth c H locs 0 0 (MQ below (QiR D (shM dA) exM A ad S res) args s 0 0 A) (F0 m 0 ls []) := by
  have hx := X.hx
  have hb := X.hb
  unfold f_X8_reaches at hf
  refine lv_iload_n hx hb dX8_reaches_0 rfl (lv_at hl 1 rfl) ?_
  refine lv_iload_n hx hb dX8_reaches_1 rfl (lv_at hl 2 rfl) ?_
  obtain ⟨v1, hq, hf⟩ := gS_eq hf
  refine gc_i (gc_fixS (S := S) X (mt_X8_at l D dA A ad S x1 x2 hq) (lw_S q1283 q1284 q93 q1285) ⟨rfl, rfl⟩ hd_X8_at.2 ⟨Nat.le_trans (Nat.le_of_ble_eq_true rfl) hR.1, Nat.le_trans (Nat.le_of_ble_eq_true rfl) hR.2⟩ hP hS ⟨Nat.zero_le _, Nat.zero_le _⟩ rfl hl.1 rfl (Nat.le_of_ble_eq_true rfl) dX8_reaches_2) hS ?_
  rintro _ _ H locs ⟨rfl, rfl⟩ hP hS
  refine lv_istore (lv' := [(6, .int v1), (0, .ref (ad M_o)), (1, .int x1), (2, .int x2), (3, .long x3), (5, .int x5)]) hx hb dX8_reaches_5 hl (by decide) rfl (fun ls hl => ?_)
  refine lv_aload_n hx hb dX8_reaches_7 rfl (lv_at hl 1 rfl) ?_
  refine rg_X8_78 X hP dX8_reaches_8 ?_
  refine lv_iload hx hb dX8_reaches_11 (lv_at hl 0 rfl) ?_
  refine ra_size_ld X hP dX8_reaches_13 hf (fun hf => ?_)
  refine lv_lconst (v := 0) hx hb dX8_reaches_14 (by decide) ?_
  refine gb_lcmp_lt (tgt := 51) hx hb dX8_reaches_15 dX8_reaches_16 (by decide) hf (fun hf => ?_) (fun hf => ?_)
  · exact w_X8_reaches_51 X hR S x1 x2 x3 x5 v1 hP hS (lv_sub hl [1, 2, 3, 4, 5, 0] rfl) hf
  · refine lv_lload_n hx hb dX8_reaches_19 rfl (lv_at hl 4 rfl) ?_
    refine lv_aload_n hx hb dX8_reaches_20 rfl (lv_at hl 1 rfl) ?_
    refine rg_X8_78 X hP dX8_reaches_21 ?_
    refine lv_iload hx hb dX8_reaches_24 (lv_at hl 0 rfl) ?_
    refine ra_size_ld X hP dX8_reaches_26 hf (fun hf => ?_)
    refine gb_lcmp_gt (tgt := 48) hx hb dX8_reaches_27 dX8_reaches_28 (by decide) hf (fun hf => ?_) (fun hf => ?_)
    · refine lv_bipush (v := 6) hx hb dX8_reaches_48 (by decide) ?_
      exact gr_iR X hP hS (Option.some.inj hf) dX8_reaches_50
    · refine lv_iload hx hb dX8_reaches_31 (lv_at hl 5 rfl) ?_
      refine gb_if_eq (tgt := 51) hx hb dX8_reaches_33 (by decide) hf (fun hf => ?_) (fun hf => ?_)
      · exact w_X8_reaches_51 X hR S x1 x2 x3 x5 v1 hP hS (lv_sub hl [1, 2, 3, 4, 5, 0] rfl) hf
      · refine lv_lload_n hx hb dX8_reaches_36 rfl (lv_at hl 4 rfl) ?_
        refine lv_aload_n hx hb dX8_reaches_37 rfl (lv_at hl 1 rfl) ?_
        refine rg_X8_78 X hP dX8_reaches_38 ?_
        refine lv_iload hx hb dX8_reaches_41 (lv_at hl 0 rfl) ?_
        refine ra_size_ld X hP dX8_reaches_43 hf (fun hf => ?_)
        refine gb_lcmp_eq (tgt := 51) hx hb dX8_reaches_44 dX8_reaches_45 (by decide) hf (fun hf => ?_) (fun hf => ?_)
        · exact w_X8_reaches_51 X hR S x1 x2 x3 x5 v1 hP hS (lv_sub hl [1, 2, 3, 4, 5, 0] rfl) hf
        · refine lv_bipush (v := 6) hx hb dX8_reaches_48 (by decide) ?_
          exact gr_iR X hP hS (Option.some.inj hf) dX8_reaches_50
theorem hd_X8_reaches : yX8_reaches.cls = RX8 ∧ yX8_reaches.cls ≠ "java/lang/invoke/MethodHandle" ∧ yX8_reaches.cls ≠ "java/lang/invoke/VarHandle" ∧ (parseMethodDescriptor yX8_reaches.desc).map (fun d => d.parameters.length) = some 4 := by decide +kernel
set_option maxHeartbeats 4000000 in
theorem mt_X8_reaches (l : Launch) (D : va_G) (dA : Nat → ClassId) (A : Nat → Prop) (ad : L3 → Nat) (S : Mem) (x1 : Int32) (x2 : Int32) (x3 : Int64) (x5 : Int32) {res : Int32} (hq : f_X8_reaches S x1 x2 x3 x5 = some res) : Met l yX8_reaches (ws_ yX8_reaches cX8_reaches 11 (some .int)) ({ frames := 3, cells := 0, slots := 0, locals := 65 } : Room) (va_Pc [.ref (ad M_o), .int x1, .int x2, .long x3, .int x5] (PreW D dA (shM dA) exM A ad S)) (QiR D (shM dA) exM A ad S res) 0 0 A :=
  gx_head (by decide) (Nat.le_of_ble_eq_true rfl) (fun p e s m below meth c ls X hP hl => w_X8_reaches (l := l) X ⟨Nat.le_of_ble_eq_true rfl, Nat.le_of_ble_eq_true rfl⟩ S x1 x2 x3 x5 hP va_S.rf (lv_sub (l := [(0, .ref (ad M_o)), (1, .int x1), (2, .int x2), (3, .long x3), (5, .int x5)]) hl [0, 1, 2, 3, 4] rfl) hq)
set_option maxHeartbeats 4000000 in
theorem w_X8_comesThere_20_b {p : Program} {l : Launch} {e : Env} {R : Room} {s : State} {m : MethodId} {args : Array Value} {below : List Frame} {meth : Method} {c : Code} {D : va_G} {dA : Nat → ClassId} {A : Nat → Prop} {ad : L3 → Nat} (X : CX RX8 cX8_comesThere 4 none (KA D dA) p s m args meth c A) (hR : 5 ≤ R.frames ∧ 109 ≤ R.locals) {res : Mem} (k20 : Mem → Int32 → Int32 → Int32 → Option (Mem)) (hk20 : ∀ (S : Mem) (x1 : Int32) (x2 : Int32) (x3 : Int32) (H : Heap) (locs : List Loc) (ls : Array Slot), Wd D clA (shM dA) exM A ad S H → va_S A s.heap H locs → lv_has ls 4 [(0, .ref (ad M_o)), (1, .int x1), (2, .int x2), (3, .int x3)] → k20 S x1 x2 x3 = some res → W p l e R s m args below meth c H locs 0 0 (MQ below (QvW D (shM dA) exM A ad res) args s 0 0 A) (F0 m 20 ls [])) (S : Mem) (x1 : Int32) (x2 : Int32) (x3 : Int32) {H : Heap} {locs : List Loc} {ls : Array Slot} (hP : Wd D clA (shM dA) exM A ad S H) (hS : va_S A s.heap H locs) (hl : lv_has ls 4 [(0, .ref (ad M_o)), (1, .int x1), (2, .int x2), (3, .int x3)]) (hf : f_X8_comesThere_20_b k20 S x1 x2 x3 = some res) : W p l e R s m args below meth c H locs 0 0 (MQ below (QvW D (shM dA) exM A ad res) args s 0 0 A) (F0 m 20 ls []) := by
  have hx := X.hx
  have hb := X.hb
  unfold f_X8_comesThere_20_b at hf
  refine lv_aload_n hx hb dX8_comesThere_20 rfl (lv_at hl 0 rfl) ?_
  refine rg_X8_26 X hP dX8_comesThere_21 ?_
  refine lv_iload_n hx hb dX8_comesThere_24 rfl (lv_at hl 3 rfl) ?_
  refine ra_theirs_ld X hP dX8_comesThere_25 hf (fun hf => ?_)
  refine lv_iload_n hx hb dX8_comesThere_26 rfl (lv_at hl 2 rfl) ?_
  refine lv_iconst (v := 4) hx hb dX8_comesThere_27 (by decide) ?_
  refine lv_idiv hx hb dX8_comesThere_28 (by decide) ?_
  refine gb_icmp_gt (tgt := 62) hx hb dX8_comesThere_29 (by decide) hf (fun hf => ?_) (fun hf => ?_)
  · exact gr_vW X hP hS (Option.some.inj hf) dX8_comesThere_62
  · refine lv_aload_n hx hb dX8_comesThere_32 rfl (lv_at hl 0 rfl) ?_
    refine lv_iload_n hx hb dX8_comesThere_33 rfl (lv_at hl 1 rfl) ?_
    refine lv_iconst (v := 4) hx hb dX8_comesThere_34 (by decide) ?_
    refine lv_aload_n hx hb dX8_comesThere_35 rfl (lv_at hl 0 rfl) ?_
    refine rg_X8_26 X hP dX8_comesThere_36 ?_
    refine lv_iload_n hx hb dX8_comesThere_39 rfl (lv_at hl 3 rfl) ?_
    refine ra_theirs_ld X hP dX8_comesThere_40 hf (fun hf => ?_)
    refine lv_imul hx hb dX8_comesThere_41 ?_
    refine lv_iload_n hx hb dX8_comesThere_42 rfl (lv_at hl 2 rfl) ?_
    refine lv_iconst (v := 4) hx hb dX8_comesThere_43 (by decide) ?_
    refine lv_irem hx hb dX8_comesThere_44 (by decide) ?_
    refine lv_iadd hx hb dX8_comesThere_45 ?_
    obtain ⟨S1, hq, hf⟩ := gB_some hf
    refine gc_v (gc_fixV (S := S) X (mt_X8_begin l D dA A ad S x1 ((4 * (S.1 M_theirs (Int32.toNatClampNeg x3))) + (x2 - x2 / 4 * 4)) hq) (lw_V q1279 q1281 qs36 q93 q1282) ⟨rfl, rfl⟩ hd_X8_begin ⟨Nat.le_trans (Nat.le_of_ble_eq_true rfl) hR.1, Nat.le_trans (Nat.le_of_ble_eq_true rfl) hR.2⟩ (wd_recv (r := M_o) (ci := 0) (q := (RX8, TX8, 61)) X.hK.1 hP ⟨rfl, rfl⟩ rfl rfl) hP hS ⟨Nat.zero_le _, Nat.zero_le _⟩ rfl hl.1 rfl (Nat.le_of_ble_eq_true rfl) dX8_comesThere_46) hS ?_
    rintro _ H locs rfl hP hS
    refine lv_aload_n hx hb dX8_comesThere_49 rfl (lv_at hl 0 rfl) ?_
    refine rg_X8_26 X hP dX8_comesThere_50 ?_
    refine lv_iload_n hx hb dX8_comesThere_53 rfl (lv_at hl 3 rfl) ?_
    refine lv_dup2_11 hx hb dX8_comesThere_54 rfl rfl ?_
    refine ra_theirs_ld X hP dX8_comesThere_55 hf (fun hf => ?_)
    refine lv_iconst (v := 1) hx hb dX8_comesThere_56 (by decide) ?_
    refine lv_iadd hx hb dX8_comesThere_57 ?_
    refine ra_theirs_st X hP hS dX8_comesThere_58 hf (fun S2 H locs hP hS hf => ?_)
    refine lv_goto (tgt := 20) hx hb dX8_comesThere_59 (by decide) ?_
    exact hk20 S2 x1 x2 x3 _ _ _ hP hS (lv_sub hl [0, 1, 2, 3] rfl) hf
set_option maxHeartbeats 4000000 in
theorem w_X8_comesThere_20 {p : Program} {l : Launch} {e : Env} {R : Room} {s : State} {m : MethodId} {args : Array Value} {below : List Frame} {meth : Method} {c : Code} {D : va_G} {dA : Nat → ClassId} {A : Nat → Prop} {ad : L3 → Nat} (X : CX RX8 cX8_comesThere 4 none (KA D dA) p s m args meth c A) (hR : 5 ≤ R.frames ∧ 109 ≤ R.locals) {res : Mem} (n : Nat) : ∀ (S : Mem) (x1 : Int32) (x2 : Int32) (x3 : Int32) (H : Heap) (locs : List Loc) (ls : Array Slot), Wd D clA (shM dA) exM A ad S H → va_S A s.heap H locs → lv_has ls 4 [(0, .ref (ad M_o)), (1, .int x1), (2, .int x2), (3, .int x3)] → f_X8_comesThere_20 n S x1 x2 x3 = some res → W p l e R s m args below meth c H locs 0 0 (MQ below (QvW D (shM dA) exM A ad res) args s 0 0 A) (F0 m 20 ls []) := by
  induction n with
  | zero =>
    intro S x1 x2 x3 H locs ls hP hS hl hf
    exact absurd (show none = some res from hf) (fun h => by cases h)
  | succ n ih =>
    intro S x1 x2 x3 H locs ls hP hS hl hf
    exact w_X8_comesThere_20_b X hR (f_X8_comesThere_20 n) ih S x1 x2 x3 hP hS hl hf
set_option maxHeartbeats 4000000 in
theorem w_X8_comesThere {p : Program} {l : Launch} {e : Env} {R : Room} {s : State} {m : MethodId} {args : Array Value} {below : List Frame} {meth : Method} {c : Code} {D : va_G} {dA : Nat → ClassId} {A : Nat → Prop} {ad : L3 → Nat} (X : CX RX8 cX8_comesThere 4 none (KA D dA) p s m args meth c A) (hR : 5 ≤ R.frames ∧ 109 ≤ R.locals) {res : Mem} (S : Mem) (x1 : Int32) (x2 : Int32) {H : Heap} {locs : List Loc} {ls : Array Slot} (hP : Wd D clA (shM dA) exM A ad S H) (hS : va_S A s.heap H locs) (hl : lv_has ls 4 [(0, .ref (ad M_o)), (1, .int x1), (2, .int x2)]) (hf : f_X8_comesThere S x1 x2 = some res) : W p l e R s m args below meth c H locs 0 0 (MQ below (QvW D (shM dA) exM A ad res) args s 0 0 A) (F0 m 0 ls []) := by
  have hx := X.hx
  have hb := X.hb
  unfold f_X8_comesThere at hf
  refine lv_iconst (v := 2) hx hb dX8_comesThere_0 (by decide) ?_
  refine lv_iload_n hx hb dX8_comesThere_1 rfl (lv_at hl 1 rfl) ?_
  refine lv_imul hx hb dX8_comesThere_2 ?_
  refine lv_iload_n hx hb dX8_comesThere_3 rfl (lv_at hl 2 rfl) ?_
  refine lv_i2l hx hb dX8_comesThere_4 rfl ?_
  obtain ⟨v1, hq, hf⟩ := gS_eq hf
  refine gc_i (gc_fixS (S := S) X (mt_X8_wayOf l D dA A ad S (Int32.toInt64 x2) hq) (lw_S q1290 q1291 q93 q1292) ⟨rfl, rfl⟩ hd_X8_wayOf.2 ⟨Nat.le_trans (Nat.le_of_ble_eq_true rfl) hR.1, Nat.le_trans (Nat.le_of_ble_eq_true rfl) hR.2⟩ hP hS ⟨Nat.zero_le _, Nat.zero_le _⟩ rfl hl.1 rfl (Nat.le_of_ble_eq_true rfl) dX8_comesThere_5) hS ?_
  rintro _ _ H locs ⟨rfl, rfl⟩ hP hS
  refine lv_iadd hx hb dX8_comesThere_8 ?_
  refine lv_istore_n (lv' := [(3, .int ((2 * x1) + v1)), (0, .ref (ad M_o)), (1, .int x1), (2, .int x2)]) hx hb dX8_comesThere_9 rfl hl (by decide) rfl (fun ls hl => ?_)
  refine lv_iload_n hx hb dX8_comesThere_10 rfl (lv_at hl 2 rfl) ?_
  refine lv_iload_n hx hb dX8_comesThere_11 rfl (lv_at hl 3 rfl) ?_
  refine lv_i2l hx hb dX8_comesThere_12 rfl ?_
  obtain ⟨v2, hq, hf⟩ := gS_eq hf
  refine gc_i (gc_fixS (S := S) X (mt_X8_opens l D dA A ad S x1 (Int32.toInt64 x2) hq) (lw_S q1293 q1294 q93 q1295) ⟨rfl, rfl⟩ hd_X8_opens.2 ⟨Nat.le_trans (Nat.le_of_ble_eq_true rfl) hR.1, Nat.le_trans (Nat.le_of_ble_eq_true rfl) hR.2⟩ hP hS ⟨Nat.zero_le _, Nat.zero_le _⟩ rfl hl.1 rfl (Nat.le_of_ble_eq_true rfl) dX8_comesThere_13) hS ?_
  rintro _ _ H locs ⟨rfl, rfl⟩ hP hS
  refine gb_if_eq (tgt := 20) hx hb dX8_comesThere_16 (by decide) hf (fun hf => ?_) (fun hf => ?_)
  · exact w_X8_comesThere_20 X hR FU S x1 x2 ((2 * x1) + v1) _ _ _ hP hS (lv_sub hl [1, 2, 3, 0] rfl) hf
  · exact gr_vW X hP hS (Option.some.inj hf) dX8_comesThere_19
theorem hd_X8_comesThere : yX8_comesThere.cls = RX8 ∧ yX8_comesThere.cls ≠ "java/lang/invoke/MethodHandle" ∧ yX8_comesThere.cls ≠ "java/lang/invoke/VarHandle" ∧ (parseMethodDescriptor yX8_comesThere.desc).map (fun d => d.parameters.length) = some 2 := by decide +kernel
set_option maxHeartbeats 4000000 in
theorem mt_X8_comesThere (l : Launch) (D : va_G) (dA : Nat → ClassId) (A : Nat → Prop) (ad : L3 → Nat) (S : Mem) (x1 : Int32) (x2 : Int32) {res : Mem} (hq : f_X8_comesThere S x1 x2 = some res) : Met l yX8_comesThere (ws_ yX8_comesThere cX8_comesThere 4 none) ({ frames := 5, cells := 0, slots := 0, locals := 109 } : Room) (va_Pc [.ref (ad M_o), .int x1, .int x2] (PreW D dA (shM dA) exM A ad S)) (QvW D (shM dA) exM A ad res) 0 0 A :=
  gx_head (by decide) (Nat.le_of_ble_eq_true rfl) (fun p e s m below meth c ls X hP hl => w_X8_comesThere (l := l) X ⟨Nat.le_of_ble_eq_true rfl, Nat.le_of_ble_eq_true rfl⟩ S x1 x2 hP va_S.rf (lv_sub (l := [(0, .ref (ad M_o)), (1, .int x1), (2, .int x2)]) hl [0, 1, 2] rfl) hq)
set_option maxHeartbeats 4000000 in
theorem w_X8_comes_64 {p : Program} {l : Launch} {e : Env} {R : Room} {s : State} {m : MethodId} {args : Array Value} {below : List Frame} {meth : Method} {c : Code} {D : va_G} {dA : Nat → ClassId} {A : Nat → Prop} {ad : L3 → Nat} (X : CX RX8 cX8_comes 9 none (KA D dA) p s m args meth c A) (hR : 2 ≤ R.frames ∧ 44 ≤ R.locals) {res : Mem} (S : Mem) (x3 : Int64) (x5 : Int32) (x7 : Int32) {H : Heap} {locs : List Loc} {ls : Array Slot} (hP : Wd D clA (shM dA) exM A ad S H) (hS : va_S A s.heap H locs) (hl : lv_has ls 9 [(0, .ref (ad M_o)), (3, .long x3), (5, .int x5), (7, .int x7)]) (hf : f_X8_comes_64 S x3 x5 x7 = some res) : W p l e R s m args below meth c H locs 0 0 (MQ below (QvW D (shM dA) exM A ad res) args s 0 0 A) (F0 m 64 ls []) := by
  have hx := X.hx
  have hb := X.hb
  unfold f_X8_comes_64 at hf
  refine lv_bipush (v := 64) hx hb dX8_comes_64 (by decide) ?_
  refine lv_iload hx hb dX8_comes_66 (lv_at hl 3 rfl) ?_
  refine lv_imul hx hb dX8_comes_68 ?_
  refine lv_lload_n hx hb dX8_comes_69 rfl (lv_at hl 1 rfl) ?_
  refine lv_ldc2 hx hb X.hown (X.hts _ q1367) dX8_comes_70 ?_
  refine lv_lrem hx hb dX8_comes_73 (by decide) ?_
  refine lv_l2i hx hb dX8_comes_74 rfl ?_
  refine lv_iadd hx hb dX8_comes_75 ?_
  refine lv_istore (lv' := [(8, .int ((64 * x7) + (Int64.toInt32 (x3 - x3 / 64 * 64)))), (0, .ref (ad M_o)), (3, .long x3), (5, .int x5), (7, .int x7)]) hx hb dX8_comes_76 hl (by decide) rfl (fun ls hl => ?_)
  refine lv_aload_n hx hb dX8_comes_78 rfl (lv_at hl 1 rfl) ?_
  refine rg_X8_136 X hP dX8_comes_79 ?_
  refine lv_iload hx hb dX8_comes_82 (lv_at hl 0 rfl) ?_
  refine ra_has_ld X hP dX8_comes_84 hf (fun hf => ?_)
  refine gb_if_eq (tgt := 89) hx hb dX8_comes_85 (by decide) hf (fun hf => ?_) (fun hf => ?_)
  · refine lv_aload_n hx hb dX8_comes_89 rfl (lv_at hl 1 rfl) ?_
    refine rg_X8_136 X hP dX8_comes_90 ?_
    refine lv_iload hx hb dX8_comes_93 (lv_at hl 0 rfl) ?_
    refine lv_iconst (v := 1) hx hb dX8_comes_95 (by decide) ?_
    refine ra_has_st X hP hS dX8_comes_96 hf (fun S1 H locs hP hS hf => ?_)
    refine lv_aload_n hx hb dX8_comes_97 rfl (lv_at hl 1 rfl) ?_
    refine rg_X8_133 X hP dX8_comes_98 ?_
    refine lv_iload hx hb dX8_comes_101 (lv_at hl 0 rfl) ?_
    refine lv_iload hx hb dX8_comes_103 (lv_at hl 3 rfl) ?_
    refine ra_came_st X hP hS dX8_comes_105 hf (fun S2 H locs hP hS hf => ?_)
    exact gr_vW X hP hS (Option.some.inj hf) dX8_comes_106
  · exact gr_vW X hP hS (Option.some.inj hf) dX8_comes_88
set_option maxHeartbeats 4000000 in
theorem w_X8_comes {p : Program} {l : Launch} {e : Env} {R : Room} {s : State} {m : MethodId} {args : Array Value} {below : List Frame} {meth : Method} {c : Code} {D : va_G} {dA : Nat → ClassId} {A : Nat → Prop} {ad : L3 → Nat} (X : CX RX8 cX8_comes 9 none (KA D dA) p s m args meth c A) (hR : 2 ≤ R.frames ∧ 44 ≤ R.locals) {res : Mem} (S : Mem) (x1 : Int32) (x2 : Int32) (x3 : Int64) (x5 : Int32) {H : Heap} {locs : List Loc} {ls : Array Slot} (hP : Wd D clA (shM dA) exM A ad S H) (hS : va_S A s.heap H locs) (hl : lv_has ls 9 [(0, .ref (ad M_o)), (1, .int x1), (2, .int x2), (3, .long x3), (5, .int x5)]) (hf : f_X8_comes S x1 x2 x3 x5 = some res) : W p l e R s m args below meth c H locs 0 0 (MQ below (QvW D (shM dA) exM A ad res) args s 0 0 A) (F0 m 0 ls []) := by
  have hx := X.hx
  have hb := X.hb
  unfold f_X8_comes at hf
  refine lv_lload_n hx hb dX8_comes_0 rfl (lv_at hl 3 rfl) ?_
  refine lv_ldc2 hx hb X.hown (X.hts _ q1367) dX8_comes_1 ?_
  refine lv_ldiv hx hb dX8_comes_4 (by decide) ?_
  refine lv_l2i hx hb dX8_comes_5 rfl ?_
  refine lv_istore (lv' := [(6, .int (Int64.toInt32 (x3 / 64))), (0, .ref (ad M_o)), (1, .int x1), (2, .int x2), (3, .long x3), (5, .int x5)]) hx hb dX8_comes_6 hl (by decide) rfl (fun ls hl => ?_)
  refine lv_aload_n hx hb dX8_comes_8 rfl (lv_at hl 1 rfl) ?_
  refine lv_iload_n hx hb dX8_comes_9 rfl (lv_at hl 2 rfl) ?_
  refine lv_iload_n hx hb dX8_comes_10 rfl (lv_at hl 3 rfl) ?_
  refine lv_iload hx hb dX8_comes_11 (lv_at hl 0 rfl) ?_
  obtain ⟨v1, hq, hf⟩ := gB_some hf
  refine gc_i (gc_fixV (S := S) X (mt_X8_pieceAt l D dA A ad S x1 x2 (Int64.toInt32 (x3 / 64)) hq) (lw_V q1368 q1370 qs50 q93 q1371) ⟨rfl, rfl⟩ hd_X8_pieceAt ⟨Nat.le_trans (Nat.le_of_ble_eq_true rfl) hR.1, Nat.le_trans (Nat.le_of_ble_eq_true rfl) hR.2⟩ (wd_recv (r := M_o) (ci := 0) (q := (RX8, TX8, 61)) X.hK.1 hP ⟨rfl, rfl⟩ rfl rfl) hP hS ⟨Nat.zero_le _, Nat.zero_le _⟩ rfl hl.1 rfl (Nat.le_of_ble_eq_true rfl) dX8_comes_13) hS ?_
  rintro _ _ H locs ⟨rfl, rfl⟩ hP hS
  refine lv_istore (lv' := [(7, .int v1), (6, .int (Int64.toInt32 (x3 / 64))), (0, .ref (ad M_o)), (1, .int x1), (2, .int x2), (3, .long x3), (5, .int x5)]) hx hb dX8_comes_16 hl (by decide) rfl (fun ls hl => ?_)
  refine lv_iload hx hb dX8_comes_18 (lv_at hl 0 rfl) ?_
  refine gb_if_ge (tgt := 64) hx hb dX8_comes_20 (by decide) hf (fun hf => ?_) (fun hf => ?_)
  · exact w_X8_comes_64 X hR S x3 x5 v1 hP hS (lv_sub hl [2, 5, 6, 0] rfl) hf
  · refine lv_sipush (v := 1408) hx hb dX8_comes_23 (by decide) ?_
    refine lv_iload_n hx hb dX8_comes_26 rfl (lv_at hl 3 rfl) ?_
    refine lv_imul hx hb dX8_comes_27 ?_
    refine lv_aload_n hx hb dX8_comes_28 rfl (lv_at hl 2 rfl) ?_
    refine rg_X8_123 X hP dX8_comes_29 ?_
    refine lv_iload_n hx hb dX8_comes_32 rfl (lv_at hl 3 rfl) ?_
    refine ra_pieces_ld X hP dX8_comes_33 hf (fun hf => ?_)
    refine lv_iadd hx hb dX8_comes_34 ?_
    refine lv_istore (lv' := [(7, .int ((1408 * x1) + (S.1 M_pieces (Int32.toNatClampNeg x1)))), (6, .int (Int64.toInt32 (x3 / 64))), (0, .ref (ad M_o)), (1, .int x1), (2, .int x2), (3, .long x3), (5, .int x5)]) hx hb dX8_comes_35 hl (by decide) rfl (fun ls hl => ?_)
    refine lv_aload_n hx hb dX8_comes_37 rfl (lv_at hl 2 rfl) ?_
    refine rg_X8_123 X hP dX8_comes_38 ?_
    refine lv_iload_n hx hb dX8_comes_41 rfl (lv_at hl 3 rfl) ?_
    refine lv_dup2_11 hx hb dX8_comes_42 rfl rfl ?_
    refine ra_pieces_ld X hP dX8_comes_43 hf (fun hf => ?_)
    refine lv_iconst (v := 1) hx hb dX8_comes_44 (by decide) ?_
    refine lv_iadd hx hb dX8_comes_45 ?_
    refine ra_pieces_st X hP hS dX8_comes_46 hf (fun S2 H locs hP hS hf => ?_)
    refine lv_aload_n hx hb dX8_comes_47 rfl (lv_at hl 2 rfl) ?_
    refine rg_X8_126 X hP dX8_comes_48 ?_
    refine lv_iload hx hb dX8_comes_51 (lv_at hl 0 rfl) ?_
    refine lv_iload_n hx hb dX8_comes_53 rfl (lv_at hl 4 rfl) ?_
    refine ra_pieceOf_st X hP hS dX8_comes_54 hf (fun S3 H locs hP hS hf => ?_)
    refine lv_aload_n hx hb dX8_comes_55 rfl (lv_at hl 2 rfl) ?_
    refine rg_X8_129 X hP dX8_comes_56 ?_
    refine lv_iload hx hb dX8_comes_59 (lv_at hl 0 rfl) ?_
    refine lv_iload hx hb dX8_comes_61 (lv_at hl 1 rfl) ?_
    refine ra_pieceNumber_st X hP hS dX8_comes_63 hf (fun S4 H locs hP hS hf => ?_)
    exact w_X8_comes_64 X hR S4 x3 x5 ((1408 * x1) + (S.1 M_pieces (Int32.toNatClampNeg x1))) hP hS (lv_sub hl [2, 5, 6, 0] rfl) hf
theorem hd_X8_comes : yX8_comes.cls = RX8 ∧ yX8_comes.cls ≠ "java/lang/invoke/MethodHandle" ∧ yX8_comes.cls ≠ "java/lang/invoke/VarHandle" ∧ (parseMethodDescriptor yX8_comes.desc).map (fun d => d.parameters.length) = some 4 := by decide +kernel
set_option maxHeartbeats 4000000 in
theorem mt_X8_comes (l : Launch) (D : va_G) (dA : Nat → ClassId) (A : Nat → Prop) (ad : L3 → Nat) (S : Mem) (x1 : Int32) (x2 : Int32) (x3 : Int64) (x5 : Int32) {res : Mem} (hq : f_X8_comes S x1 x2 x3 x5 = some res) : Met l yX8_comes (ws_ yX8_comes cX8_comes 9 none) ({ frames := 2, cells := 0, slots := 0, locals := 44 } : Room) (va_Pc [.ref (ad M_o), .int x1, .int x2, .long x3, .int x5] (PreW D dA (shM dA) exM A ad S)) (QvW D (shM dA) exM A ad res) 0 0 A :=
  gx_head (by decide) (Nat.le_of_ble_eq_true rfl) (fun p e s m below meth c ls X hP hl => w_X8_comes (l := l) X ⟨Nat.le_of_ble_eq_true rfl, Nat.le_of_ble_eq_true rfl⟩ S x1 x2 x3 x5 hP va_S.rf (lv_sub (l := [(0, .ref (ad M_o)), (1, .int x1), (2, .int x2), (3, .long x3), (5, .int x5)]) hl [0, 1, 2, 3, 4] rfl) hq)
set_option maxHeartbeats 4000000 in
theorem w_X8_takeStream_170 {p : Program} {l : Launch} {e : Env} {R : Room} {s : State} {m : MethodId} {args : Array Value} {below : List Frame} {meth : Method} {c : Code} {D : va_G} {dA : Nat → ClassId} {A : Nat → Prop} {ad : L3 → Nat} (X : CX RX8 cX8_takeStream 9 (some .int) (KA D dA) p s m args meth c A) (hR : 6 ≤ R.frames ∧ 142 ≤ R.locals) {res : Mem × Int32} (S : Mem) (x1 : Int32) (x3 : Int32) {H : Heap} {locs : List Loc} {ls : Array Slot} (hP : Wd D clA (shM dA) exM A ad S H) (hS : va_S A s.heap H locs) (hl : lv_has ls 9 [(0, .ref (ad M_o)), (1, .int x1), (3, .int x3)]) (hf : f_X8_takeStream_170 S x1 x3 = some res) : W p l e R s m args below meth c H locs 0 0 (MQ below (QiW D (shM dA) exM A ad res) args s 0 0 A) (F0 m 170 ls []) := by
  have hx := X.hx
  have hb := X.hb
  unfold f_X8_takeStream_170 at hf
  refine lv_aload_n hx hb dX8_takeStream_170 rfl (lv_at hl 0 rfl) ?_
  refine lv_iload_n hx hb dX8_takeStream_171 rfl (lv_at hl 1 rfl) ?_
  refine lv_iload_n hx hb dX8_takeStream_172 rfl (lv_at hl 2 rfl) ?_
  obtain ⟨S1, hq, hf⟩ := gB_some hf
  refine gc_v (gc_fixV (S := S) X (mt_X8_looksOver l D dA A ad S x1 x3 hq) (lw_V q1397 q1399 qs55 q93 q1400) ⟨rfl, rfl⟩ hd_X8_looksOver ⟨Nat.le_trans (Nat.le_of_ble_eq_true rfl) hR.1, Nat.le_trans (Nat.le_of_ble_eq_true rfl) hR.2⟩ (wd_recv (r := M_o) (ci := 0) (q := (RX8, TX8, 61)) X.hK.1 hP ⟨rfl, rfl⟩ rfl rfl) hP hS ⟨Nat.zero_le _, Nat.zero_le _⟩ rfl hl.1 rfl (Nat.le_of_ble_eq_true rfl) dX8_takeStream_173) hS ?_
  rintro _ H locs rfl hP hS
  refine lv_iconst (v := 0) hx hb dX8_takeStream_176 (by decide) ?_
  exact gr_iW X hP hS (Option.some.inj hf) dX8_takeStream_177
set_option maxHeartbeats 4000000 in
theorem w_X8_takeStream_128_b {p : Program} {l : Launch} {e : Env} {R : Room} {s : State} {m : MethodId} {args : Array Value} {below : List Frame} {meth : Method} {c : Code} {D : va_G} {dA : Nat → ClassId} {A : Nat → Prop} {ad : L3 → Nat} (X : CX RX8 cX8_takeStream 9 (some .int) (KA D dA) p s m args meth c A) (hR : 6 ≤ R.frames ∧ 142 ≤ R.locals) {res : Mem × Int32} (k128 : Mem → Int32 → Int32 → Int32 → Int32 → Option (Mem × Int32)) (hk128 : ∀ (S : Mem) (x1 : Int32) (x3 : Int32) (x7 : Int32) (x8 : Int32) (H : Heap) (locs : List Loc) (ls : Array Slot), Wd D clA (shM dA) exM A ad S H → va_S A s.heap H locs → lv_has ls 9 [(0, .ref (ad M_o)), (1, .int x1), (3, .int x3), (7, .int x7), (8, .int x8)] → k128 S x1 x3 x7 x8 = some res → W p l e R s m args below meth c H locs 0 0 (MQ below (QiW D (shM dA) exM A ad res) args s 0 0 A) (F0 m 128 ls [])) (S : Mem) (x1 : Int32) (x3 : Int32) (x7 : Int32) (x8 : Int32) {H : Heap} {locs : List Loc} {ls : Array Slot} (hP : Wd D clA (shM dA) exM A ad S H) (hS : va_S A s.heap H locs) (hl : lv_has ls 9 [(0, .ref (ad M_o)), (1, .int x1), (3, .int x3), (7, .int x7), (8, .int x8)]) (hf : f_X8_takeStream_128_b k128 S x1 x3 x7 x8 = some res) : W p l e R s m args below meth c H locs 0 0 (MQ below (QiW D (shM dA) exM A ad res) args s 0 0 A) (F0 m 128 ls []) := by
  have hx := X.hx
  have hb := X.hb
  unfold f_X8_takeStream_128_b at hf
  refine lv_iload hx hb dX8_takeStream_128 (lv_at hl 4 rfl) ?_
  refine lv_aload_n hx hb dX8_takeStream_130 rfl (lv_at hl 0 rfl) ?_
  refine rg_X8_319 X hP dX8_takeStream_131 ?_
  refine gb_icmp_ge (tgt := 170) hx hb dX8_takeStream_134 (by decide) hf (fun hf => ?_) (fun hf => ?_)
  · exact w_X8_takeStream_170 X hR S x1 x3 hP hS (lv_sub hl [0, 1, 2] rfl) hf
  · refine lv_iload hx hb dX8_takeStream_137 (lv_at hl 3 rfl) ?_
    refine lv_iconst (v := 2) hx hb dX8_takeStream_139 (by decide) ?_
    refine gb_icmp_ge (tgt := 170) hx hb dX8_takeStream_140 (by decide) hf (fun hf => ?_) (fun hf => ?_)
    · exact w_X8_takeStream_170 X hR S x1 x3 hP hS (lv_sub hl [0, 1, 2] rfl) hf
    · refine lv_aload_n hx hb dX8_takeStream_143 rfl (lv_at hl 0 rfl) ?_
      refine lv_iload_n hx hb dX8_takeStream_144 rfl (lv_at hl 1 rfl) ?_
      refine lv_iload_n hx hb dX8_takeStream_145 rfl (lv_at hl 2 rfl) ?_
      refine lv_aload_n hx hb dX8_takeStream_146 rfl (lv_at hl 0 rfl) ?_
      refine rg_X8_316 X hP dX8_takeStream_147 ?_
      refine lv_iload hx hb dX8_takeStream_150 (lv_at hl 4 rfl) ?_
      refine lv_i2l hx hb dX8_takeStream_152 rfl ?_
      refine lv_ladd hx hb dX8_takeStream_153 ?_
      refine lv_aload_n hx hb dX8_takeStream_154 rfl (lv_at hl 0 rfl) ?_
      refine rg_X8_139 X hP dX8_takeStream_155 ?_
      refine lv_iload hx hb dX8_takeStream_158 (lv_at hl 4 rfl) ?_
      refine ra_fData_ld X hP dX8_takeStream_160 hf (fun hf => ?_)
      obtain ⟨S1, hq, hf⟩ := gB_some hf
      refine gc_v (gc_fixV (S := S) X (mt_X8_comes l D dA A ad S x1 x3 ((S.2 M_o 47) + (Int32.toInt64 x8)) (S.1 M_fData (Int32.toNatClampNeg x8)) hq) (lw_V q1432 q1434 qs62 q93 q1435) ⟨rfl, rfl⟩ hd_X8_comes ⟨Nat.le_trans (Nat.le_of_ble_eq_true rfl) hR.1, Nat.le_trans (Nat.le_of_ble_eq_true rfl) hR.2⟩ (wd_recv (r := M_o) (ci := 0) (q := (RX8, TX8, 61)) X.hK.1 hP ⟨rfl, rfl⟩ rfl rfl) hP hS ⟨Nat.zero_le _, Nat.zero_le _⟩ rfl hl.1 rfl (Nat.le_of_ble_eq_true rfl) dX8_takeStream_161) hS ?_
      rintro _ H locs rfl hP hS
      refine lv_iinc (v := (x8 + 1)) (lv' := [(8, .int (x8 + 1)), (0, .ref (ad M_o)), (1, .int x1), (3, .int x3), (7, .int x7)]) hx hb dX8_takeStream_164 hl (k := 4) rfl rfl (by decide) rfl (fun ls hl => ?_)
      refine lv_goto (tgt := 128) hx hb dX8_takeStream_167 (by decide) ?_
      exact hk128 S1 x1 x3 x7 (x8 + 1) _ _ _ hP hS (lv_sub hl [1, 2, 3, 4, 0] rfl) hf
set_option maxHeartbeats 4000000 in
theorem w_X8_takeStream_128 {p : Program} {l : Launch} {e : Env} {R : Room} {s : State} {m : MethodId} {args : Array Value} {below : List Frame} {meth : Method} {c : Code} {D : va_G} {dA : Nat → ClassId} {A : Nat → Prop} {ad : L3 → Nat} (X : CX RX8 cX8_takeStream 9 (some .int) (KA D dA) p s m args meth c A) (hR : 6 ≤ R.frames ∧ 142 ≤ R.locals) {res : Mem × Int32} (n : Nat) : ∀ (S : Mem) (x1 : Int32) (x3 : Int32) (x7 : Int32) (x8 : Int32) (H : Heap) (locs : List Loc) (ls : Array Slot), Wd D clA (shM dA) exM A ad S H → va_S A s.heap H locs → lv_has ls 9 [(0, .ref (ad M_o)), (1, .int x1), (3, .int x3), (7, .int x7), (8, .int x8)] → f_X8_takeStream_128 n S x1 x3 x7 x8 = some res → W p l e R s m args below meth c H locs 0 0 (MQ below (QiW D (shM dA) exM A ad res) args s 0 0 A) (F0 m 128 ls []) := by
  induction n with
  | zero =>
    intro S x1 x3 x7 x8 H locs ls hP hS hl hf
    exact absurd (show none = some res from hf) (fun h => by cases h)
  | succ n ih =>
    intro S x1 x3 x7 x8 H locs ls hP hS hl hf
    exact w_X8_takeStream_128_b X hR (f_X8_takeStream_128 n) ih S x1 x3 x7 x8 hP hS hl hf
set_option maxHeartbeats 4000000 in
theorem w_X8_takeStream_125 {p : Program} {l : Launch} {e : Env} {R : Room} {s : State} {m : MethodId} {args : Array Value} {below : List Frame} {meth : Method} {c : Code} {D : va_G} {dA : Nat → ClassId} {A : Nat → Prop} {ad : L3 → Nat} (X : CX RX8 cX8_takeStream 9 (some .int) (KA D dA) p s m args meth c A) (hR : 6 ≤ R.frames ∧ 142 ≤ R.locals) {res : Mem × Int32} (S : Mem) (x1 : Int32) (x3 : Int32) (x7 : Int32) {H : Heap} {locs : List Loc} {ls : Array Slot} (hP : Wd D clA (shM dA) exM A ad S H) (hS : va_S A s.heap H locs) (hl : lv_has ls 9 [(0, .ref (ad M_o)), (1, .int x1), (3, .int x3), (7, .int x7)]) (hf : f_X8_takeStream_125 S x1 x3 x7 = some res) : W p l e R s m args below meth c H locs 0 0 (MQ below (QiW D (shM dA) exM A ad res) args s 0 0 A) (F0 m 125 ls []) := by
  have hx := X.hx
  have hb := X.hb
  unfold f_X8_takeStream_125 at hf
  refine lv_iconst (v := 0) hx hb dX8_takeStream_125 (by decide) ?_
  refine lv_istore (lv' := [(8, .int 0), (0, .ref (ad M_o)), (1, .int x1), (3, .int x3), (7, .int x7)]) hx hb dX8_takeStream_126 hl (by decide) rfl (fun ls hl => ?_)
  exact w_X8_takeStream_128 X hR FU S x1 x3 x7 0 _ _ _ hP hS (lv_sub hl [1, 2, 3, 4, 0] rfl) hf
set_option maxHeartbeats 4000000 in
theorem w_X8_takeStream_107 {p : Program} {l : Launch} {e : Env} {R : Room} {s : State} {m : MethodId} {args : Array Value} {below : List Frame} {meth : Method} {c : Code} {D : va_G} {dA : Nat → ClassId} {A : Nat → Prop} {ad : L3 → Nat} (X : CX RX8 cX8_takeStream 9 (some .int) (KA D dA) p s m args meth c A) (hR : 6 ≤ R.frames ∧ 142 ≤ R.locals) {res : Mem × Int32} (S : Mem) (x1 : Int32) (x3 : Int32) (x4 : Int32) (x5 : Int64) (x7 : Int32) {H : Heap} {locs : List Loc} {ls : Array Slot} (hP : Wd D clA (shM dA) exM A ad S H) (hS : va_S A s.heap H locs) (hl : lv_has ls 9 [(0, .ref (ad M_o)), (1, .int x1), (3, .int x3), (4, .int x4), (5, .long x5), (7, .int x7)]) (hf : f_X8_takeStream_107 S x1 x3 x4 x5 x7 = some res) : W p l e R s m args below meth c H locs 0 0 (MQ below (QiW D (shM dA) exM A ad res) args s 0 0 A) (F0 m 107 ls []) := by
  have hx := X.hx
  have hb := X.hb
  unfold f_X8_takeStream_107 at hf
  refine lv_aload_n hx hb dX8_takeStream_107 rfl (lv_at hl 0 rfl) ?_
  refine rg_X8_322 X hP dX8_takeStream_108 ?_
  refine lv_lconst (v := 1) hx hb dX8_takeStream_111 (by decide) ?_
  refine gb_lcmp_ne (tgt := 125) hx hb dX8_takeStream_112 dX8_takeStream_113 (by decide) hf (fun hf => ?_) (fun hf => ?_)
  · exact w_X8_takeStream_125 X hR S x1 x3 x7 hP hS (lv_sub hl [0, 1, 2, 5] rfl) hf
  · refine lv_aload_n hx hb dX8_takeStream_116 rfl (lv_at hl 0 rfl) ?_
    refine rg_X8_78 X hP dX8_takeStream_117 ?_
    refine lv_iload hx hb dX8_takeStream_120 (lv_at hl 3 rfl) ?_
    refine lv_lload hx hb dX8_takeStream_122 (lv_at hl 4 rfl) ?_
    refine ra_size_st X hP hS dX8_takeStream_124 hf (fun S1 H locs hP hS hf => ?_)
    exact w_X8_takeStream_125 X hR S1 x1 x3 x7 hP hS (lv_sub hl [0, 1, 2, 5] rfl) hf
set_option maxHeartbeats 4000000 in
theorem w_X8_takeStream_61 {p : Program} {l : Launch} {e : Env} {R : Room} {s : State} {m : MethodId} {args : Array Value} {below : List Frame} {meth : Method} {c : Code} {D : va_G} {dA : Nat → ClassId} {A : Nat → Prop} {ad : L3 → Nat} (X : CX RX8 cX8_takeStream 9 (some .int) (KA D dA) p s m args meth c A) (hR : 6 ≤ R.frames ∧ 142 ≤ R.locals) {res : Mem × Int32} (S : Mem) (x1 : Int32) (x3 : Int32) (x4 : Int32) (x5 : Int64) (y0 : Int32) (y1 : Int64) (y2 : Int32) (y3 : Int32) {H : Heap} {locs : List Loc} {ls : Array Slot} (hP : Wd D clA (shM dA) exM A ad S H) (hS : va_S A s.heap H locs) (hl : lv_has ls 9 [(0, .ref (ad M_o)), (1, .int x1), (3, .int x3), (4, .int x4), (5, .long x5)]) (hf : f_X8_takeStream_61 S x1 x3 x4 x5 y0 y1 y2 y3 = some res) : W p l e R s m args below meth c H locs 0 0 (MQ below (QiW D (shM dA) exM A ad res) args s 0 0 A) (F0 m 61 ls [.int y0, .long y1, .int y2, .int y3, .ref (ad M_o)]) := by
  have hx := X.hx
  have hb := X.hb
  unfold f_X8_takeStream_61 at hf
  obtain ⟨v1, hq, hf⟩ := gB_some hf
  refine gc_i (gc_fixV (S := S) X (mt_X8_reaches l D dA A ad S y3 y2 y1 y0 hq) (lw_V q1420 q1422 qs59 q93 q1423) ⟨rfl, rfl⟩ hd_X8_reaches ⟨Nat.le_trans (Nat.le_of_ble_eq_true rfl) hR.1, Nat.le_trans (Nat.le_of_ble_eq_true rfl) hR.2⟩ (wd_recv (r := M_o) (ci := 0) (q := (RX8, TX8, 61)) X.hK.1 hP ⟨rfl, rfl⟩ rfl rfl) hP hS ⟨Nat.zero_le _, Nat.zero_le _⟩ rfl hl.1 rfl (Nat.le_of_ble_eq_true rfl) dX8_takeStream_61) hS ?_
  rintro _ _ H locs ⟨rfl, rfl⟩ hP hS
  refine lv_istore_n (lv' := [(2, .int v1), (0, .ref (ad M_o)), (1, .int x1), (3, .int x3), (4, .int x4), (5, .long x5)]) hx hb dX8_takeStream_64 rfl hl (by decide) rfl (fun ls hl => ?_)
  refine lv_iload_n hx hb dX8_takeStream_65 rfl (lv_at hl 0 rfl) ?_
  refine gb_if_le (tgt := 71) hx hb dX8_takeStream_66 (by decide) hf (fun hf => ?_) (fun hf => ?_)
  · refine lv_aload_n hx hb dX8_takeStream_71 rfl (lv_at hl 1 rfl) ?_
    refine lv_iload_n hx hb dX8_takeStream_72 rfl (lv_at hl 2 rfl) ?_
    refine lv_iload_n hx hb dX8_takeStream_73 rfl (lv_at hl 3 rfl) ?_
    obtain ⟨S2, hq, hf⟩ := gB_some hf
    refine gc_v (gc_fixV (S := S) X (mt_X8_comesThere l D dA A ad S x1 x3 hq) (lw_V q1428 q1430 qs61 q93 q1431) ⟨rfl, rfl⟩ hd_X8_comesThere ⟨Nat.le_trans (Nat.le_of_ble_eq_true rfl) hR.1, Nat.le_trans (Nat.le_of_ble_eq_true rfl) hR.2⟩ (wd_recv (r := M_o) (ci := 0) (q := (RX8, TX8, 61)) X.hK.1 hP ⟨rfl, rfl⟩ rfl rfl) hP hS ⟨Nat.zero_le _, Nat.zero_le _⟩ rfl hl.1 rfl (Nat.le_of_ble_eq_true rfl) dX8_takeStream_74) hS ?_
    rintro _ H locs rfl hP hS
    refine lv_aload_n hx hb dX8_takeStream_77 rfl (lv_at hl 1 rfl) ?_
    refine lv_iload_n hx hb dX8_takeStream_78 rfl (lv_at hl 2 rfl) ?_
    refine lv_iload_n hx hb dX8_takeStream_79 rfl (lv_at hl 3 rfl) ?_
    obtain ⟨v3, hq, hf⟩ := gB_some hf
    refine gc_i (gc_fixV (S := S2) X (mt_X8_receiving l D dA A ad S2 x1 x3 hq) (lw_V q1355 q1357 qs47 q93 q1358) ⟨rfl, rfl⟩ hd_X8_receiving ⟨Nat.le_trans (Nat.le_of_ble_eq_true rfl) hR.1, Nat.le_trans (Nat.le_of_ble_eq_true rfl) hR.2⟩ (wd_recv (r := M_o) (ci := 0) (q := (RX8, TX8, 61)) X.hK.1 hP ⟨rfl, rfl⟩ rfl rfl) hP hS ⟨Nat.zero_le _, Nat.zero_le _⟩ rfl hl.1 rfl (Nat.le_of_ble_eq_true rfl) dX8_takeStream_80) hS ?_
    rintro _ _ H locs ⟨rfl, rfl⟩ hP hS
    refine lv_istore (lv' := [(7, .int v3), (2, .int v1), (0, .ref (ad M_o)), (1, .int x1), (3, .int x3), (4, .int x4), (5, .long x5)]) hx hb dX8_takeStream_83 hl (by decide) rfl (fun ls hl => ?_)
    refine lv_lload hx hb dX8_takeStream_85 (lv_at hl 6 rfl) ?_
    refine lv_aload_n hx hb dX8_takeStream_87 rfl (lv_at hl 2 rfl) ?_
    refine rg_X8_75 X hP dX8_takeStream_88 ?_
    refine lv_iload hx hb dX8_takeStream_91 (lv_at hl 5 rfl) ?_
    refine ra_highest_ld X hP dX8_takeStream_93 hf (fun hf => ?_)
    refine gb_lcmp_le (tgt := 107) hx hb dX8_takeStream_94 dX8_takeStream_95 (by decide) hf (fun hf => ?_) (fun hf => ?_)
    · exact w_X8_takeStream_107 X hR S2 x1 x3 x4 x5 v3 hP hS (lv_sub hl [2, 3, 4, 5, 6, 0] rfl) hf
    · refine lv_aload_n hx hb dX8_takeStream_98 rfl (lv_at hl 2 rfl) ?_
      refine rg_X8_75 X hP dX8_takeStream_99 ?_
      refine lv_iload hx hb dX8_takeStream_102 (lv_at hl 5 rfl) ?_
      refine lv_lload hx hb dX8_takeStream_104 (lv_at hl 6 rfl) ?_
      refine ra_highest_st X hP hS dX8_takeStream_106 hf (fun S4 H locs hP hS hf => ?_)
      exact w_X8_takeStream_107 X hR S4 x1 x3 x4 x5 v3 hP hS (lv_sub hl [2, 3, 4, 5, 6, 0] rfl) hf
  · refine lv_iload_n hx hb dX8_takeStream_69 rfl (lv_at hl 0 rfl) ?_
    exact gr_iW X hP hS (Option.some.inj hf) dX8_takeStream_70
set_option maxHeartbeats 4000000 in
theorem w_X8_takeStream {p : Program} {l : Launch} {e : Env} {R : Room} {s : State} {m : MethodId} {args : Array Value} {below : List Frame} {meth : Method} {c : Code} {D : va_G} {dA : Nat → ClassId} {A : Nat → Prop} {ad : L3 → Nat} (X : CX RX8 cX8_takeStream 9 (some .int) (KA D dA) p s m args meth c A) (hR : 6 ≤ R.frames ∧ 142 ≤ R.locals) {res : Mem × Int32} (S : Mem) (x1 : Int32) {H : Heap} {locs : List Loc} {ls : Array Slot} (hP : Wd D clA (shM dA) exM A ad S H) (hS : va_S A s.heap H locs) (hl : lv_has ls 9 [(0, .ref (ad M_o)), (1, .int x1)]) (hf : f_X8_takeStream S x1 = some res) : W p l e R s m args below meth c H locs 0 0 (MQ below (QiW D (shM dA) exM A ad res) args s 0 0 A) (F0 m 0 ls []) := by
  have hx := X.hx
  have hb := X.hb
  unfold f_X8_takeStream at hf
  refine lv_aload_n hx hb dX8_takeStream_0 rfl (lv_at hl 0 rfl) ?_
  refine lv_iload_n hx hb dX8_takeStream_1 rfl (lv_at hl 1 rfl) ?_
  refine lv_aload_n hx hb dX8_takeStream_2 rfl (lv_at hl 0 rfl) ?_
  refine rg_X8_308 X hP dX8_takeStream_3 ?_
  refine lv_iconst (v := 0) hx hb dX8_takeStream_6 (by decide) ?_
  obtain ⟨v1, hq, hf⟩ := gB_some hf
  refine gc_i (gc_fixV (S := S) X (mt_X8_meant l D dA A ad S x1 (S.2 M_o 46) (0 : Int32) hq) (lw_V q1414 q1416 qs58 q93 q1417) ⟨rfl, rfl⟩ hd_X8_meant ⟨Nat.le_trans (Nat.le_of_ble_eq_true rfl) hR.1, Nat.le_trans (Nat.le_of_ble_eq_true rfl) hR.2⟩ (wd_recv (r := M_o) (ci := 0) (q := (RX8, TX8, 61)) X.hK.1 hP ⟨rfl, rfl⟩ rfl rfl) hP hS ⟨Nat.zero_le _, Nat.zero_le _⟩ rfl hl.1 rfl (Nat.le_of_ble_eq_true rfl) dX8_takeStream_7) hS ?_
  rintro _ _ H locs ⟨rfl, rfl⟩ hP hS
  refine lv_istore_n (lv' := [(2, .int v1), (0, .ref (ad M_o)), (1, .int x1)]) hx hb dX8_takeStream_10 rfl hl (by decide) rfl (fun ls hl => ?_)
  refine lv_iload_n hx hb dX8_takeStream_11 rfl (lv_at hl 0 rfl) ?_
  refine gb_if_le (tgt := 17) hx hb dX8_takeStream_12 (by decide) hf (fun hf => ?_) (fun hf => ?_)
  · refine lv_aload_n hx hb dX8_takeStream_17 rfl (lv_at hl 1 rfl) ?_
    refine rg_X8_308 X hP dX8_takeStream_18 ?_
    refine lv_l2i hx hb dX8_takeStream_21 rfl ?_
    refine lv_istore_n (lv' := [(3, .int (Int64.toInt32 (S.2 M_o 46))), (2, .int v1), (0, .ref (ad M_o)), (1, .int x1)]) hx hb dX8_takeStream_22 rfl hl (by decide) rfl (fun ls hl => ?_)
    refine lv_iload_n hx hb dX8_takeStream_23 rfl (lv_at hl 3 rfl) ?_
    refine lv_iload_n hx hb dX8_takeStream_24 rfl (lv_at hl 0 rfl) ?_
    obtain ⟨v2, hq, hf⟩ := gS_eq hf
    refine gc_i (gc_fixS (S := S) X (mt_X8_at l D dA A ad S x1 (Int64.toInt32 (S.2 M_o 46)) hq) (lw_S q1283 q1284 q93 q1285) ⟨rfl, rfl⟩ hd_X8_at.2 ⟨Nat.le_trans (Nat.le_of_ble_eq_true rfl) hR.1, Nat.le_trans (Nat.le_of_ble_eq_true rfl) hR.2⟩ hP hS ⟨Nat.zero_le _, Nat.zero_le _⟩ rfl hl.1 rfl (Nat.le_of_ble_eq_true rfl) dX8_takeStream_25) hS ?_
    rintro _ _ H locs ⟨rfl, rfl⟩ hP hS
    refine lv_istore (lv' := [(4, .int v2), (3, .int (Int64.toInt32 (S.2 M_o 46))), (2, .int v1), (0, .ref (ad M_o)), (1, .int x1)]) hx hb dX8_takeStream_28 hl (by decide) rfl (fun ls hl => ?_)
    refine lv_aload_n hx hb dX8_takeStream_30 rfl (lv_at hl 3 rfl) ?_
    refine rg_X8_316 X hP dX8_takeStream_31 ?_
    refine lv_aload_n hx hb dX8_takeStream_34 rfl (lv_at hl 3 rfl) ?_
    refine rg_X8_319 X hP dX8_takeStream_35 ?_
    refine lv_i2l hx hb dX8_takeStream_38 rfl ?_
    refine lv_ladd hx hb dX8_takeStream_39 ?_
    refine lv_lstore (lv' := [(5, .long ((S.2 M_o 47) + (Int32.toInt64 (S.1 M_o 49)))), (4, .int v2), (3, .int (Int64.toInt32 (S.2 M_o 46))), (2, .int v1), (0, .ref (ad M_o)), (1, .int x1)]) hx hb dX8_takeStream_40 hl (by decide) rfl (fun ls hl => ?_)
    refine lv_aload_n hx hb dX8_takeStream_42 rfl (lv_at hl 4 rfl) ?_
    refine lv_iload_n hx hb dX8_takeStream_43 rfl (lv_at hl 5 rfl) ?_
    refine lv_iload_n hx hb dX8_takeStream_44 rfl (lv_at hl 2 rfl) ?_
    refine lv_lload hx hb dX8_takeStream_45 (lv_at hl 0 rfl) ?_
    refine lv_aload_n hx hb dX8_takeStream_47 rfl (lv_at hl 4 rfl) ?_
    refine rg_X8_322 X hP dX8_takeStream_48 ?_
    refine lv_lconst (v := 1) hx hb dX8_takeStream_51 (by decide) ?_
    refine gb_lcmp_ne (tgt := 60) hx hb dX8_takeStream_52 dX8_takeStream_53 (by decide) hf (fun hf => ?_) (fun hf => ?_)
    · refine lv_iconst (v := 0) hx hb dX8_takeStream_60 (by decide) ?_
      exact w_X8_takeStream_61 X hR S x1 (Int64.toInt32 (S.2 M_o 46)) v2 ((S.2 M_o 47) + (Int32.toInt64 (S.1 M_o 49))) 0 ((S.2 M_o 47) + (Int32.toInt64 (S.1 M_o 49))) (Int64.toInt32 (S.2 M_o 46)) x1 hP hS (lv_sub hl [4, 5, 2, 1, 0] rfl) hf
    · refine lv_iconst (v := 1) hx hb dX8_takeStream_56 (by decide) ?_
      refine lv_goto (tgt := 61) hx hb dX8_takeStream_57 (by decide) ?_
      exact w_X8_takeStream_61 X hR S x1 (Int64.toInt32 (S.2 M_o 46)) v2 ((S.2 M_o 47) + (Int32.toInt64 (S.1 M_o 49))) 1 ((S.2 M_o 47) + (Int32.toInt64 (S.1 M_o 49))) (Int64.toInt32 (S.2 M_o 46)) x1 hP hS (lv_sub hl [4, 5, 2, 1, 0] rfl) hf
  · refine lv_iload_n hx hb dX8_takeStream_15 rfl (lv_at hl 0 rfl) ?_
    exact gr_iW X hP hS (Option.some.inj hf) dX8_takeStream_16
theorem hd_X8_takeStream : yX8_takeStream.cls = RX8 ∧ yX8_takeStream.cls ≠ "java/lang/invoke/MethodHandle" ∧ yX8_takeStream.cls ≠ "java/lang/invoke/VarHandle" ∧ (parseMethodDescriptor yX8_takeStream.desc).map (fun d => d.parameters.length) = some 1 := by decide +kernel
set_option maxHeartbeats 4000000 in
theorem mt_X8_takeStream (l : Launch) (D : va_G) (dA : Nat → ClassId) (A : Nat → Prop) (ad : L3 → Nat) (S : Mem) (x1 : Int32) {res : Mem × Int32} (hq : f_X8_takeStream S x1 = some res) : Met l yX8_takeStream (ws_ yX8_takeStream cX8_takeStream 9 (some .int)) ({ frames := 6, cells := 0, slots := 0, locals := 142 } : Room) (va_Pc [.ref (ad M_o), .int x1] (PreW D dA (shM dA) exM A ad S)) (QiW D (shM dA) exM A ad res) 0 0 A :=
  gx_head (by decide) (Nat.le_of_ble_eq_true rfl) (fun p e s m below meth c ls X hP hl => w_X8_takeStream (l := l) X ⟨Nat.le_of_ble_eq_true rfl, Nat.le_of_ble_eq_true rfl⟩ S x1 hP va_S.rf (lv_sub (l := [(0, .ref (ad M_o)), (1, .int x1)]) hl [0, 1] rfl) hq)
set_option maxHeartbeats 4000000 in
theorem w_X8_takeReset {p : Program} {l : Launch} {e : Env} {R : Room} {s : State} {m : MethodId} {args : Array Value} {below : List Frame} {meth : Method} {c : Code} {D : va_G} {dA : Nat → ClassId} {A : Nat → Prop} {ad : L3 → Nat} (X : CX RX8 cX8_takeReset 6 (some .int) (KA D dA) p s m args meth c A) (hR : 6 ≤ R.frames ∧ 142 ≤ R.locals) {res : Mem × Int32} (S : Mem) (x1 : Int32) {H : Heap} {locs : List Loc} {ls : Array Slot} (hP : Wd D clA (shM dA) exM A ad S H) (hS : va_S A s.heap H locs) (hl : lv_has ls 6 [(0, .ref (ad M_o)), (1, .int x1)]) (hf : f_X8_takeReset S x1 = some res) : W p l e R s m args below meth c H locs 0 0 (MQ below (QiW D (shM dA) exM A ad res) args s 0 0 A) (F0 m 0 ls []) := by
  have hx := X.hx
  have hb := X.hb
  unfold f_X8_takeReset at hf
  refine lv_aload_n hx hb dX8_takeReset_0 rfl (lv_at hl 0 rfl) ?_
  refine lv_iload_n hx hb dX8_takeReset_1 rfl (lv_at hl 1 rfl) ?_
  refine lv_aload_n hx hb dX8_takeReset_2 rfl (lv_at hl 0 rfl) ?_
  refine rg_X8_308 X hP dX8_takeReset_3 ?_
  refine lv_iconst (v := 0) hx hb dX8_takeReset_6 (by decide) ?_
  obtain ⟨v1, hq, hf⟩ := gB_some hf
  refine gc_i (gc_fixV (S := S) X (mt_X8_meant l D dA A ad S x1 (S.2 M_o 46) (0 : Int32) hq) (lw_V q1414 q1416 qs58 q93 q1417) ⟨rfl, rfl⟩ hd_X8_meant ⟨Nat.le_trans (Nat.le_of_ble_eq_true rfl) hR.1, Nat.le_trans (Nat.le_of_ble_eq_true rfl) hR.2⟩ (wd_recv (r := M_o) (ci := 0) (q := (RX8, TX8, 61)) X.hK.1 hP ⟨rfl, rfl⟩ rfl rfl) hP hS ⟨Nat.zero_le _, Nat.zero_le _⟩ rfl hl.1 rfl (Nat.le_of_ble_eq_true rfl) dX8_takeReset_7) hS ?_
  rintro _ _ H locs ⟨rfl, rfl⟩ hP hS
  refine lv_istore_n (lv' := [(2, .int v1), (0, .ref (ad M_o)), (1, .int x1)]) hx hb dX8_takeReset_10 rfl hl (by decide) rfl (fun ls hl => ?_)
  refine lv_iload_n hx hb dX8_takeReset_11 rfl (lv_at hl 0 rfl) ?_
  refine gb_if_le (tgt := 17) hx hb dX8_takeReset_12 (by decide) hf (fun hf => ?_) (fun hf => ?_)
  · refine lv_aload_n hx hb dX8_takeReset_17 rfl (lv_at hl 1 rfl) ?_
    refine rg_X8_308 X hP dX8_takeReset_18 ?_
    refine lv_l2i hx hb dX8_takeReset_21 rfl ?_
    refine lv_istore_n (lv' := [(3, .int (Int64.toInt32 (S.2 M_o 46))), (2, .int v1), (0, .ref (ad M_o)), (1, .int x1)]) hx hb dX8_takeReset_22 rfl hl (by decide) rfl (fun ls hl => ?_)
    refine lv_iload_n hx hb dX8_takeReset_23 rfl (lv_at hl 3 rfl) ?_
    refine lv_iload_n hx hb dX8_takeReset_24 rfl (lv_at hl 0 rfl) ?_
    obtain ⟨v2, hq, hf⟩ := gS_eq hf
    refine gc_i (gc_fixS (S := S) X (mt_X8_at l D dA A ad S x1 (Int64.toInt32 (S.2 M_o 46)) hq) (lw_S q1283 q1284 q93 q1285) ⟨rfl, rfl⟩ hd_X8_at.2 ⟨Nat.le_trans (Nat.le_of_ble_eq_true rfl) hR.1, Nat.le_trans (Nat.le_of_ble_eq_true rfl) hR.2⟩ hP hS ⟨Nat.zero_le _, Nat.zero_le _⟩ rfl hl.1 rfl (Nat.le_of_ble_eq_true rfl) dX8_takeReset_25) hS ?_
    rintro _ _ H locs ⟨rfl, rfl⟩ hP hS
    refine lv_istore (lv' := [(4, .int v2), (3, .int (Int64.toInt32 (S.2 M_o 46))), (2, .int v1), (0, .ref (ad M_o)), (1, .int x1)]) hx hb dX8_takeReset_28 hl (by decide) rfl (fun ls hl => ?_)
    refine lv_aload_n hx hb dX8_takeReset_30 rfl (lv_at hl 3 rfl) ?_
    refine lv_iload_n hx hb dX8_takeReset_31 rfl (lv_at hl 4 rfl) ?_
    refine lv_iload_n hx hb dX8_takeReset_32 rfl (lv_at hl 1 rfl) ?_
    refine lv_aload_n hx hb dX8_takeReset_33 rfl (lv_at hl 3 rfl) ?_
    refine rg_X8_322 X hP dX8_takeReset_34 ?_
    refine lv_iconst (v := 1) hx hb dX8_takeReset_37 (by decide) ?_
    obtain ⟨v3, hq, hf⟩ := gB_some hf
    refine gc_i (gc_fixV (S := S) X (mt_X8_reaches l D dA A ad S x1 (Int64.toInt32 (S.2 M_o 46)) (S.2 M_o 48) (1 : Int32) hq) (lw_V q1420 q1422 qs59 q93 q1423) ⟨rfl, rfl⟩ hd_X8_reaches ⟨Nat.le_trans (Nat.le_of_ble_eq_true rfl) hR.1, Nat.le_trans (Nat.le_of_ble_eq_true rfl) hR.2⟩ (wd_recv (r := M_o) (ci := 0) (q := (RX8, TX8, 61)) X.hK.1 hP ⟨rfl, rfl⟩ rfl rfl) hP hS ⟨Nat.zero_le _, Nat.zero_le _⟩ rfl hl.1 rfl (Nat.le_of_ble_eq_true rfl) dX8_takeReset_38) hS ?_
    rintro _ _ H locs ⟨rfl, rfl⟩ hP hS
    refine lv_istore_n (lv' := [(2, .int v3), (4, .int v2), (3, .int (Int64.toInt32 (S.2 M_o 46))), (0, .ref (ad M_o)), (1, .int x1)]) hx hb dX8_takeReset_41 rfl hl (by decide) rfl (fun ls hl => ?_)
    refine lv_iload_n hx hb dX8_takeReset_42 rfl (lv_at hl 0 rfl) ?_
    refine gb_if_le (tgt := 48) hx hb dX8_takeReset_43 (by decide) hf (fun hf => ?_) (fun hf => ?_)
    · refine lv_aload_n hx hb dX8_takeReset_48 rfl (lv_at hl 3 rfl) ?_
      refine lv_iload_n hx hb dX8_takeReset_49 rfl (lv_at hl 4 rfl) ?_
      refine lv_iload_n hx hb dX8_takeReset_50 rfl (lv_at hl 2 rfl) ?_
      obtain ⟨S4, hq, hf⟩ := gB_some hf
      refine gc_v (gc_fixV (S := S) X (mt_X8_comesThere l D dA A ad S x1 (Int64.toInt32 (S.2 M_o 46)) hq) (lw_V q1428 q1430 qs61 q93 q1431) ⟨rfl, rfl⟩ hd_X8_comesThere ⟨Nat.le_trans (Nat.le_of_ble_eq_true rfl) hR.1, Nat.le_trans (Nat.le_of_ble_eq_true rfl) hR.2⟩ (wd_recv (r := M_o) (ci := 0) (q := (RX8, TX8, 61)) X.hK.1 hP ⟨rfl, rfl⟩ rfl rfl) hP hS ⟨Nat.zero_le _, Nat.zero_le _⟩ rfl hl.1 rfl (Nat.le_of_ble_eq_true rfl) dX8_takeReset_51) hS ?_
      rintro _ H locs rfl hP hS
      refine lv_aload_n hx hb dX8_takeReset_54 rfl (lv_at hl 3 rfl) ?_
      refine lv_iload_n hx hb dX8_takeReset_55 rfl (lv_at hl 4 rfl) ?_
      refine lv_iload_n hx hb dX8_takeReset_56 rfl (lv_at hl 2 rfl) ?_
      obtain ⟨v5, hq, hf⟩ := gB_some hf
      refine gc_i (gc_fixV (S := S4) X (mt_X8_receiving l D dA A ad S4 x1 (Int64.toInt32 (S.2 M_o 46)) hq) (lw_V q1355 q1357 qs47 q93 q1358) ⟨rfl, rfl⟩ hd_X8_receiving ⟨Nat.le_trans (Nat.le_of_ble_eq_true rfl) hR.1, Nat.le_trans (Nat.le_of_ble_eq_true rfl) hR.2⟩ (wd_recv (r := M_o) (ci := 0) (q := (RX8, TX8, 61)) X.hK.1 hP ⟨rfl, rfl⟩ rfl rfl) hP hS ⟨Nat.zero_le _, Nat.zero_le _⟩ rfl hl.1 rfl (Nat.le_of_ble_eq_true rfl) dX8_takeReset_57) hS ?_
      rintro _ _ H locs ⟨rfl, rfl⟩ hP hS
      refine lv_istore (lv' := [(5, .int v5), (2, .int v3), (4, .int v2), (3, .int (Int64.toInt32 (S.2 M_o 46))), (0, .ref (ad M_o)), (1, .int x1)]) hx hb dX8_takeReset_60 hl (by decide) rfl (fun ls hl => ?_)
      refine lv_aload_n hx hb dX8_takeReset_62 rfl (lv_at hl 4 rfl) ?_
      refine rg_X8_75 X hP dX8_takeReset_63 ?_
      refine lv_iload hx hb dX8_takeReset_66 (lv_at hl 2 rfl) ?_
      refine lv_aload_n hx hb dX8_takeReset_68 rfl (lv_at hl 4 rfl) ?_
      refine rg_X8_322 X hP dX8_takeReset_69 ?_
      refine ra_highest_st X hP hS dX8_takeReset_72 hf (fun S6 H locs hP hS hf => ?_)
      refine lv_aload_n hx hb dX8_takeReset_73 rfl (lv_at hl 4 rfl) ?_
      refine rg_X8_78 X hP dX8_takeReset_74 ?_
      refine lv_iload hx hb dX8_takeReset_77 (lv_at hl 2 rfl) ?_
      refine lv_aload_n hx hb dX8_takeReset_79 rfl (lv_at hl 4 rfl) ?_
      refine rg_X8_322 X hP dX8_takeReset_80 ?_
      refine ra_size_st X hP hS dX8_takeReset_83 hf (fun S7 H locs hP hS hf => ?_)
      refine lv_iload hx hb dX8_takeReset_84 (lv_at hl 0 rfl) ?_
      refine lv_iconst (v := 1) hx hb dX8_takeReset_86 (by decide) ?_
      refine gb_icmp_le (tgt := 92) hx hb dX8_takeReset_87 (by decide) hf (fun hf => ?_) (fun hf => ?_)
      · refine lv_aload_n hx hb dX8_takeReset_92 rfl (lv_at hl 4 rfl) ?_
        refine rg_X8_84 X hP dX8_takeReset_93 ?_
        refine lv_iload hx hb dX8_takeReset_96 (lv_at hl 2 rfl) ?_
        refine lv_iconst (v := 1) hx hb dX8_takeReset_98 (by decide) ?_
        refine ra_wasReset_st X hP hS dX8_takeReset_99 hf (fun S8 H locs hP hS hf => ?_)
        refine lv_aload_n hx hb dX8_takeReset_100 rfl (lv_at hl 4 rfl) ?_
        refine rg_X8_87 X hP dX8_takeReset_101 ?_
        refine lv_iload hx hb dX8_takeReset_104 (lv_at hl 2 rfl) ?_
        refine lv_aload_n hx hb dX8_takeReset_106 rfl (lv_at hl 4 rfl) ?_
        refine rg_X8_316 X hP dX8_takeReset_107 ?_
        refine ra_theirCode_st X hP hS dX8_takeReset_110 hf (fun S9 H locs hP hS hf => ?_)
        refine lv_aload_n hx hb dX8_takeReset_111 rfl (lv_at hl 4 rfl) ?_
        refine lv_iload_n hx hb dX8_takeReset_112 rfl (lv_at hl 5 rfl) ?_
        obtain ⟨S10, hq, hf⟩ := gB_some hf
        refine gc_v (gc_fixV (S := S9) X (mt_X8_growData l D dA A ad S9 x1 hq) (lw_V q1380 q1382 qs52 q93 q1383) ⟨rfl, rfl⟩ hd_X8_growData ⟨Nat.le_trans (Nat.le_of_ble_eq_true rfl) hR.1, Nat.le_trans (Nat.le_of_ble_eq_true rfl) hR.2⟩ (wd_recv (r := M_o) (ci := 0) (q := (RX8, TX8, 61)) X.hK.1 hP ⟨rfl, rfl⟩ rfl rfl) hP hS ⟨Nat.zero_le _, Nat.zero_le _⟩ rfl hl.1 rfl (Nat.le_of_ble_eq_true rfl) dX8_takeReset_113) hS ?_
        rintro _ H locs rfl hP hS
        refine lv_aload_n hx hb dX8_takeReset_116 rfl (lv_at hl 4 rfl) ?_
        refine lv_iload_n hx hb dX8_takeReset_117 rfl (lv_at hl 5 rfl) ?_
        refine lv_iload_n hx hb dX8_takeReset_118 rfl (lv_at hl 3 rfl) ?_
        obtain ⟨S11, hq, hf⟩ := gB_some hf
        refine gc_v (gc_fixV (S := S10) X (mt_X8_looksOver l D dA A ad S10 x1 (Int64.toInt32 (S.2 M_o 46)) hq) (lw_V q1397 q1399 qs55 q93 q1400) ⟨rfl, rfl⟩ hd_X8_looksOver ⟨Nat.le_trans (Nat.le_of_ble_eq_true rfl) hR.1, Nat.le_trans (Nat.le_of_ble_eq_true rfl) hR.2⟩ (wd_recv (r := M_o) (ci := 0) (q := (RX8, TX8, 61)) X.hK.1 hP ⟨rfl, rfl⟩ rfl rfl) hP hS ⟨Nat.zero_le _, Nat.zero_le _⟩ rfl hl.1 rfl (Nat.le_of_ble_eq_true rfl) dX8_takeReset_119) hS ?_
        rintro _ H locs rfl hP hS
        refine lv_iconst (v := 0) hx hb dX8_takeReset_122 (by decide) ?_
        exact gr_iW X hP hS (Option.some.inj hf) dX8_takeReset_123
      · refine lv_iconst (v := 0) hx hb dX8_takeReset_90 (by decide) ?_
        exact gr_iW X hP hS (Option.some.inj hf) dX8_takeReset_91
    · refine lv_iload_n hx hb dX8_takeReset_46 rfl (lv_at hl 0 rfl) ?_
      exact gr_iW X hP hS (Option.some.inj hf) dX8_takeReset_47
  · refine lv_iload_n hx hb dX8_takeReset_15 rfl (lv_at hl 0 rfl) ?_
    exact gr_iW X hP hS (Option.some.inj hf) dX8_takeReset_16
theorem hd_X8_takeReset : yX8_takeReset.cls = RX8 ∧ yX8_takeReset.cls ≠ "java/lang/invoke/MethodHandle" ∧ yX8_takeReset.cls ≠ "java/lang/invoke/VarHandle" ∧ (parseMethodDescriptor yX8_takeReset.desc).map (fun d => d.parameters.length) = some 1 := by decide +kernel
set_option maxHeartbeats 4000000 in
theorem mt_X8_takeReset (l : Launch) (D : va_G) (dA : Nat → ClassId) (A : Nat → Prop) (ad : L3 → Nat) (S : Mem) (x1 : Int32) {res : Mem × Int32} (hq : f_X8_takeReset S x1 = some res) : Met l yX8_takeReset (ws_ yX8_takeReset cX8_takeReset 6 (some .int)) ({ frames := 6, cells := 0, slots := 0, locals := 142 } : Room) (va_Pc [.ref (ad M_o), .int x1] (PreW D dA (shM dA) exM A ad S)) (QiW D (shM dA) exM A ad res) 0 0 A :=
  gx_head (by decide) (Nat.le_of_ble_eq_true rfl) (fun p e s m below meth c ls X hP hl => w_X8_takeReset (l := l) X ⟨Nat.le_of_ble_eq_true rfl, Nat.le_of_ble_eq_true rfl⟩ S x1 hP va_S.rf (lv_sub (l := [(0, .ref (ad M_o)), (1, .int x1)]) hl [0, 1] rfl) hq)
