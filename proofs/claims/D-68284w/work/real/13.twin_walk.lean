set_option maxRecDepth 100000
set_option maxHeartbeats 4000000 in
theorem w_X8_greater {p : Program} {l : Launch} {e : Env} {R : Room} {s : State} {m : MethodId} {args : Array Value} {below : List Frame} {meth : Method} {c : Code} {D : va_G} {dA : Nat → ClassId} {A : Nat → Prop} {ad : L3 → Nat} (X : CX RX8 cX8_greater 4 (some .long) (KA D dA) p s m args meth c A) (hR : 1 ≤ R.frames ∧ 20 ≤ R.locals) {res : Int64} (S : Mem) (x0 : Int64) (x2 : Int64) {H : Heap} {locs : List Loc} {ls : Array Slot} (hP : Wd D clA (shM dA) exM A ad S H) (hS : va_S A s.heap H locs) (hl : lv_has ls 4 [(0, .long x0), (2, .long x2)]) (hf : f_X8_greater x0 x2 = res) : W p l e R s m args below meth c H locs 0 0 (MQ below (QjR D (shM dA) exM A ad S res) args s 0 0 A) (F0 m 0 ls []) := by
  have hx := X.hx
  have hb := X.hb
  unfold f_X8_greater at hf
  refine lv_lload_n hx hb dX8_greater_0 rfl (lv_at hl 0 rfl) ?_
  refine lv_lload_n hx hb dX8_greater_1 rfl (lv_at hl 1 rfl) ?_
  refine gb_lcmp_le (tgt := 10) hx hb dX8_greater_2 dX8_greater_3 (by decide) hf (fun hf => ?_) (fun hf => ?_)
  · refine lv_lload_n hx hb dX8_greater_10 rfl (lv_at hl 1 rfl) ?_
    exact gr_lR X hP hS hf dX8_greater_11
  · refine lv_lload_n hx hb dX8_greater_6 rfl (lv_at hl 0 rfl) ?_
    refine lv_goto (tgt := 11) hx hb dX8_greater_7 (by decide) ?_
    exact gr_lR X hP hS hf dX8_greater_11
theorem hd_X8_greater : yX8_greater.cls = RX8 ∧ yX8_greater.cls ≠ "java/lang/invoke/MethodHandle" ∧ yX8_greater.cls ≠ "java/lang/invoke/VarHandle" ∧ (parseMethodDescriptor yX8_greater.desc).map (fun d => d.parameters.length) = some 2 := by decide +kernel
set_option maxHeartbeats 4000000 in
theorem mt_X8_greater (l : Launch) (D : va_G) (dA : Nat → ClassId) (A : Nat → Prop) (ad : L3 → Nat) (S : Mem) (x0 : Int64) (x2 : Int64) {res : Int64} (hq : f_X8_greater x0 x2 = res) : Met l yX8_greater (ws_ yX8_greater cX8_greater 4 (some .long)) ({ frames := 1, cells := 0, slots := 0, locals := 20 } : Room) (va_Pc [.long x0, .long x2] (PreW D dA (shM dA) exM A ad S)) (QjR D (shM dA) exM A ad S res) 0 0 A :=
  gx_head (by decide) (Nat.le_of_ble_eq_true rfl) (fun p e s m below meth c ls X hP hl => w_X8_greater (l := l) X ⟨Nat.le_of_ble_eq_true rfl, Nat.le_of_ble_eq_true rfl⟩ S x0 x2 hP va_S.rf (lv_sub (l := [(0, .long x0), (2, .long x2)]) hl [0, 1] rfl) hq)
set_option maxHeartbeats 4000000 in
theorem w_X8_takeOther_70 {p : Program} {l : Launch} {e : Env} {R : Room} {s : State} {m : MethodId} {args : Array Value} {below : List Frame} {meth : Method} {c : Code} {D : va_G} {dA : Nat → ClassId} {A : Nat → Prop} {ad : L3 → Nat} (X : CX RX8 cX8_takeOther 4 (some .int) (KA D dA) p s m args meth c A) (hR : 6 ≤ R.frames ∧ 132 ≤ R.locals) {res : Mem × Int32} (S : Mem) (x1 : Int32) (x3 : Int32) {H : Heap} {locs : List Loc} {ls : Array Slot} (hP : Wd D clA (shM dA) exM A ad S H) (hS : va_S A s.heap H locs) (hl : lv_has ls 4 [(0, .ref (ad M_o)), (1, .int x1), (3, .int x3)]) (hf : f_X8_takeOther_70 S x1 x3 = some res) : W p l e R s m args below meth c H locs 0 0 (MQ below (QiW D (shM dA) exM A ad res) args s 0 0 A) (F0 m 70 ls []) := by
  have hx := X.hx
  have hb := X.hb
  unfold f_X8_takeOther_70 at hf
  refine lv_aload_n hx hb dX8_takeOther_70 rfl (lv_at hl 0 rfl) ?_
  refine rg_X8_336 X hP dX8_takeOther_71 ?_
  refine lv_bipush (v := 17) hx hb dX8_takeOther_74 (by decide) ?_
  refine gb_icmp_ne (tgt := 106) hx hb dX8_takeOther_76 (by decide) hf (fun hf => ?_) (fun hf => ?_)
  · refine lv_iconst (v := 0) hx hb dX8_takeOther_106 (by decide) ?_
    exact gr_iW X hP hS (Option.some.inj hf) dX8_takeOther_107
  · refine lv_aload_n hx hb dX8_takeOther_79 rfl (lv_at hl 0 rfl) ?_
    refine rg_X8_54 X hP dX8_takeOther_80 ?_
    refine lv_iload_n hx hb dX8_takeOther_83 rfl (lv_at hl 1 rfl) ?_
    refine lv_iload_n hx hb dX8_takeOther_84 rfl (lv_at hl 2 rfl) ?_
    obtain ⟨v1, hq, hf⟩ := gS_eq hf
    refine gc_i (gc_fixS (S := S) X (mt_X8_at l D dA A ad S x1 x3 hq) (lw_S q1283 q1284 q93 q1285) ⟨rfl, rfl⟩ hd_X8_at.2 ⟨Nat.le_trans (Nat.le_of_ble_eq_true rfl) hR.1, Nat.le_trans (Nat.le_of_ble_eq_true rfl) hR.2⟩ hP hS ⟨Nat.zero_le _, Nat.zero_le _⟩ rfl hl.1 rfl (Nat.le_of_ble_eq_true rfl) dX8_takeOther_85) hS ?_
    rintro _ _ H locs ⟨rfl, rfl⟩ hP hS
    refine lv_aload_n hx hb dX8_takeOther_88 rfl (lv_at hl 0 rfl) ?_
    refine rg_X8_54 X hP dX8_takeOther_89 ?_
    refine lv_iload_n hx hb dX8_takeOther_92 rfl (lv_at hl 1 rfl) ?_
    refine lv_iload_n hx hb dX8_takeOther_93 rfl (lv_at hl 2 rfl) ?_
    obtain ⟨v2, hq, hf⟩ := gS_eq hf
    refine gc_i (gc_fixS (S := S) X (mt_X8_at l D dA A ad S x1 x3 hq) (lw_S q1283 q1284 q93 q1285) ⟨rfl, rfl⟩ hd_X8_at.2 ⟨Nat.le_trans (Nat.le_of_ble_eq_true rfl) hR.1, Nat.le_trans (Nat.le_of_ble_eq_true rfl) hR.2⟩ hP hS ⟨Nat.zero_le _, Nat.zero_le _⟩ rfl hl.1 rfl (Nat.le_of_ble_eq_true rfl) dX8_takeOther_94) hS ?_
    rintro _ _ H locs ⟨rfl, rfl⟩ hP hS
    refine ra_limit_ld X hP dX8_takeOther_97 hf (fun hf => ?_)
    refine lv_aload_n hx hb dX8_takeOther_98 rfl (lv_at hl 0 rfl) ?_
    refine rg_X8_316 X hP dX8_takeOther_99 ?_
    obtain ⟨v3, hq, hf⟩ := gS_eq hf
    refine gc_l (gc_fixS (S := S) X (mt_X8_greater l D dA A ad S (S.2 M_limit (Int32.toNatClampNeg v2)) (S.2 M_o 47) hq) (lw_S q1444 q1445 q93 q1446) ⟨rfl, rfl⟩ hd_X8_greater.2 ⟨Nat.le_trans (Nat.le_of_ble_eq_true rfl) hR.1, Nat.le_trans (Nat.le_of_ble_eq_true rfl) hR.2⟩ hP hS ⟨Nat.zero_le _, Nat.zero_le _⟩ rfl hl.1 rfl (Nat.le_of_ble_eq_true rfl) dX8_takeOther_102) hS ?_
    rintro _ _ H locs ⟨rfl, rfl⟩ hP hS
    refine ra_limit_st X hP hS dX8_takeOther_105 hf (fun S4 H locs hP hS hf => ?_)
    refine lv_iconst (v := 0) hx hb dX8_takeOther_106 (by decide) ?_
    exact gr_iW X hP hS (Option.some.inj hf) dX8_takeOther_107
set_option maxHeartbeats 4000000 in
theorem w_X8_takeOther_20 {p : Program} {l : Launch} {e : Env} {R : Room} {s : State} {m : MethodId} {args : Array Value} {below : List Frame} {meth : Method} {c : Code} {D : va_G} {dA : Nat → ClassId} {A : Nat → Prop} {ad : L3 → Nat} (X : CX RX8 cX8_takeOther 4 (some .int) (KA D dA) p s m args meth c A) (hR : 6 ≤ R.frames ∧ 132 ≤ R.locals) {res : Mem × Int32} (S : Mem) (x1 : Int32) (y0 : Int32) (y1 : Int64) (y2 : Int32) {H : Heap} {locs : List Loc} {ls : Array Slot} (hP : Wd D clA (shM dA) exM A ad S H) (hS : va_S A s.heap H locs) (hl : lv_has ls 4 [(0, .ref (ad M_o)), (1, .int x1)]) (hf : f_X8_takeOther_20 S x1 y0 y1 y2 = some res) : W p l e R s m args below meth c H locs 0 0 (MQ below (QiW D (shM dA) exM A ad res) args s 0 0 A) (F0 m 20 ls [.int y0, .long y1, .int y2, .ref (ad M_o)]) := by
  have hx := X.hx
  have hb := X.hb
  unfold f_X8_takeOther_20 at hf
  obtain ⟨v1, hq, hf⟩ := gB_some hf
  refine gc_i (gc_fixV (S := S) X (mt_X8_meant l D dA A ad S y2 y1 y0 hq) (lw_V q1414 q1416 qs58 q93 q1417) ⟨rfl, rfl⟩ hd_X8_meant ⟨Nat.le_trans (Nat.le_of_ble_eq_true rfl) hR.1, Nat.le_trans (Nat.le_of_ble_eq_true rfl) hR.2⟩ (wd_recv (r := M_o) (ci := 0) (q := (RX8, TX8, 61)) X.hK.1 hP ⟨rfl, rfl⟩ rfl rfl) hP hS ⟨Nat.zero_le _, Nat.zero_le _⟩ rfl hl.1 rfl (Nat.le_of_ble_eq_true rfl) dX8_takeOther_20) hS ?_
  rintro _ _ H locs ⟨rfl, rfl⟩ hP hS
  refine lv_istore_n (lv' := [(2, .int v1), (0, .ref (ad M_o)), (1, .int x1)]) hx hb dX8_takeOther_23 rfl hl (by decide) rfl (fun ls hl => ?_)
  refine lv_iload_n hx hb dX8_takeOther_24 rfl (lv_at hl 0 rfl) ?_
  refine gb_if_le (tgt := 30) hx hb dX8_takeOther_25 (by decide) hf (fun hf => ?_) (fun hf => ?_)
  · refine lv_aload_n hx hb dX8_takeOther_30 rfl (lv_at hl 1 rfl) ?_
    refine rg_X8_308 X hP dX8_takeOther_31 ?_
    refine lv_l2i hx hb dX8_takeOther_34 rfl ?_
    refine lv_istore_n (lv' := [(3, .int (Int64.toInt32 (S.2 M_o 46))), (2, .int v1), (0, .ref (ad M_o)), (1, .int x1)]) hx hb dX8_takeOther_35 rfl hl (by decide) rfl (fun ls hl => ?_)
    refine lv_aload_n hx hb dX8_takeOther_36 rfl (lv_at hl 2 rfl) ?_
    refine lv_iload_n hx hb dX8_takeOther_37 rfl (lv_at hl 3 rfl) ?_
    refine lv_iload_n hx hb dX8_takeOther_38 rfl (lv_at hl 0 rfl) ?_
    obtain ⟨S2, hq, hf⟩ := gB_some hf
    refine gc_v (gc_fixV (S := S) X (mt_X8_comesThere l D dA A ad S x1 (Int64.toInt32 (S.2 M_o 46)) hq) (lw_V q1428 q1430 qs61 q93 q1431) ⟨rfl, rfl⟩ hd_X8_comesThere ⟨Nat.le_trans (Nat.le_of_ble_eq_true rfl) hR.1, Nat.le_trans (Nat.le_of_ble_eq_true rfl) hR.2⟩ (wd_recv (r := M_o) (ci := 0) (q := (RX8, TX8, 61)) X.hK.1 hP ⟨rfl, rfl⟩ rfl rfl) hP hS ⟨Nat.zero_le _, Nat.zero_le _⟩ rfl hl.1 rfl (Nat.le_of_ble_eq_true rfl) dX8_takeOther_39) hS ?_
    rintro _ H locs rfl hP hS
    refine lv_aload_n hx hb dX8_takeOther_42 rfl (lv_at hl 2 rfl) ?_
    refine rg_X8_336 X hP dX8_takeOther_43 ?_
    refine lv_iconst (v := 5) hx hb dX8_takeOther_46 (by decide) ?_
    refine gb_icmp_ne (tgt := 70) hx hb dX8_takeOther_47 (by decide) hf (fun hf => ?_) (fun hf => ?_)
    · exact w_X8_takeOther_70 X hR S2 x1 (Int64.toInt32 (S.2 M_o 46)) hP hS (lv_sub hl [2, 3, 0] rfl) hf
    · refine lv_aload_n hx hb dX8_takeOther_50 rfl (lv_at hl 2 rfl) ?_
      refine lv_iload_n hx hb dX8_takeOther_51 rfl (lv_at hl 3 rfl) ?_
      refine lv_iload_n hx hb dX8_takeOther_52 rfl (lv_at hl 0 rfl) ?_
      obtain ⟨v3, hq, hf⟩ := gB_some hf
      refine gc_i (gc_fixV (S := S2) X (mt_X8_sending l D dA A ad S2 x1 (Int64.toInt32 (S.2 M_o 46)) hq) (lw_V q1315 q1317 qs41 q93 q1318) ⟨rfl, rfl⟩ hd_X8_sending ⟨Nat.le_trans (Nat.le_of_ble_eq_true rfl) hR.1, Nat.le_trans (Nat.le_of_ble_eq_true rfl) hR.2⟩ (wd_recv (r := M_o) (ci := 0) (q := (RX8, TX8, 61)) X.hK.1 hP ⟨rfl, rfl⟩ rfl rfl) hP hS ⟨Nat.zero_le _, Nat.zero_le _⟩ rfl hl.1 rfl (Nat.le_of_ble_eq_true rfl) dX8_takeOther_53) hS ?_
      rintro _ _ H locs ⟨rfl, rfl⟩ hP hS
      refine lv_iconst (v := 2) hx hb dX8_takeOther_56 (by decide) ?_
      refine gb_icmp_ge (tgt := 70) hx hb dX8_takeOther_57 (by decide) hf (fun hf => ?_) (fun hf => ?_)
      · exact w_X8_takeOther_70 X hR S2 x1 (Int64.toInt32 (S.2 M_o 46)) hP hS (lv_sub hl [2, 3, 0] rfl) hf
      · refine lv_aload_n hx hb dX8_takeOther_60 rfl (lv_at hl 2 rfl) ?_
        refine lv_iload_n hx hb dX8_takeOther_61 rfl (lv_at hl 3 rfl) ?_
        refine lv_iload_n hx hb dX8_takeOther_62 rfl (lv_at hl 0 rfl) ?_
        refine lv_aload_n hx hb dX8_takeOther_63 rfl (lv_at hl 2 rfl) ?_
        refine rg_X8_316 X hP dX8_takeOther_64 ?_
        obtain ⟨S4, hq, hf⟩ := gB_some hf
        refine gc_v (gc_fixV (S := S2) X (mt_X8_doReset l D dA A ad S2 x1 (Int64.toInt32 (S.2 M_o 46)) (S2.2 M_o 47) hq) (lw_V q1340 q1342 qs45 q93 q1343) ⟨rfl, rfl⟩ hd_X8_doReset ⟨Nat.le_trans (Nat.le_of_ble_eq_true rfl) hR.1, Nat.le_trans (Nat.le_of_ble_eq_true rfl) hR.2⟩ (wd_recv (r := M_o) (ci := 0) (q := (RX8, TX8, 61)) X.hK.1 hP ⟨rfl, rfl⟩ rfl rfl) hP hS ⟨Nat.zero_le _, Nat.zero_le _⟩ rfl hl.1 rfl (Nat.le_of_ble_eq_true rfl) dX8_takeOther_67) hS ?_
        rintro _ H locs rfl hP hS
        exact w_X8_takeOther_70 X hR S4 x1 (Int64.toInt32 (S.2 M_o 46)) hP hS (lv_sub hl [2, 3, 0] rfl) hf
  · refine lv_iload_n hx hb dX8_takeOther_28 rfl (lv_at hl 0 rfl) ?_
    exact gr_iW X hP hS (Option.some.inj hf) dX8_takeOther_29
set_option maxHeartbeats 4000000 in
theorem w_X8_takeOther {p : Program} {l : Launch} {e : Env} {R : Room} {s : State} {m : MethodId} {args : Array Value} {below : List Frame} {meth : Method} {c : Code} {D : va_G} {dA : Nat → ClassId} {A : Nat → Prop} {ad : L3 → Nat} (X : CX RX8 cX8_takeOther 4 (some .int) (KA D dA) p s m args meth c A) (hR : 6 ≤ R.frames ∧ 132 ≤ R.locals) {res : Mem × Int32} (S : Mem) (x1 : Int32) {H : Heap} {locs : List Loc} {ls : Array Slot} (hP : Wd D clA (shM dA) exM A ad S H) (hS : va_S A s.heap H locs) (hl : lv_has ls 4 [(0, .ref (ad M_o)), (1, .int x1)]) (hf : f_X8_takeOther S x1 = some res) : W p l e R s m args below meth c H locs 0 0 (MQ below (QiW D (shM dA) exM A ad res) args s 0 0 A) (F0 m 0 ls []) := by
  have hx := X.hx
  have hb := X.hb
  unfold f_X8_takeOther at hf
  refine lv_aload_n hx hb dX8_takeOther_0 rfl (lv_at hl 0 rfl) ?_
  refine lv_iload_n hx hb dX8_takeOther_1 rfl (lv_at hl 1 rfl) ?_
  refine lv_aload_n hx hb dX8_takeOther_2 rfl (lv_at hl 0 rfl) ?_
  refine rg_X8_308 X hP dX8_takeOther_3 ?_
  refine lv_aload_n hx hb dX8_takeOther_6 rfl (lv_at hl 0 rfl) ?_
  refine rg_X8_336 X hP dX8_takeOther_7 ?_
  refine lv_bipush (v := 21) hx hb dX8_takeOther_10 (by decide) ?_
  refine gb_icmp_eq (tgt := 19) hx hb dX8_takeOther_12 (by decide) hf (fun hf => ?_) (fun hf => ?_)
  · refine lv_iconst (v := 0) hx hb dX8_takeOther_19 (by decide) ?_
    exact w_X8_takeOther_20 X hR S x1 0 (S.2 M_o 46) x1 hP hS (lv_sub hl [0, 1] rfl) hf
  · refine lv_iconst (v := 1) hx hb dX8_takeOther_15 (by decide) ?_
    refine lv_goto (tgt := 20) hx hb dX8_takeOther_16 (by decide) ?_
    exact w_X8_takeOther_20 X hR S x1 1 (S.2 M_o 46) x1 hP hS (lv_sub hl [0, 1] rfl) hf
theorem hd_X8_takeOther : yX8_takeOther.cls = RX8 ∧ yX8_takeOther.cls ≠ "java/lang/invoke/MethodHandle" ∧ yX8_takeOther.cls ≠ "java/lang/invoke/VarHandle" ∧ (parseMethodDescriptor yX8_takeOther.desc).map (fun d => d.parameters.length) = some 1 := by decide +kernel
set_option maxHeartbeats 4000000 in
theorem mt_X8_takeOther (l : Launch) (D : va_G) (dA : Nat → ClassId) (A : Nat → Prop) (ad : L3 → Nat) (S : Mem) (x1 : Int32) {res : Mem × Int32} (hq : f_X8_takeOther S x1 = some res) : Met l yX8_takeOther (ws_ yX8_takeOther cX8_takeOther 4 (some .int)) ({ frames := 6, cells := 0, slots := 0, locals := 132 } : Room) (va_Pc [.ref (ad M_o), .int x1] (PreW D dA (shM dA) exM A ad S)) (QiW D (shM dA) exM A ad res) 0 0 A :=
  gx_head (by decide) (Nat.le_of_ble_eq_true rfl) (fun p e s m below meth c ls X hP hl => w_X8_takeOther (l := l) X ⟨Nat.le_of_ble_eq_true rfl, Nat.le_of_ble_eq_true rfl⟩ S x1 hP va_S.rf (lv_sub (l := [(0, .ref (ad M_o)), (1, .int x1)]) hl [0, 1] rfl) hq)
set_option maxHeartbeats 4000000 in
theorem w_X8_takes_55 {p : Program} {l : Launch} {e : Env} {R : Room} {s : State} {m : MethodId} {args : Array Value} {below : List Frame} {meth : Method} {c : Code} {D : va_G} {dA : Nat → ClassId} {A : Nat → Prop} {ad : L3 → Nat} (X : CX RX8 cX8_takes 3 (some .int) (KA D dA) p s m args meth c A) (hR : 7 ≤ R.frames ∧ 170 ≤ R.locals) {res : Mem × Int32} (S : Mem) (x1 : Int32) {H : Heap} {locs : List Loc} {ls : Array Slot} (hP : Wd D clA (shM dA) exM A ad S H) (hS : va_S A s.heap H locs) (hl : lv_has ls 3 [(0, .ref (ad M_o)), (1, .int x1)]) (hf : f_X8_takes_55 S x1 = some res) : W p l e R s m args below meth c H locs 0 0 (MQ below (QiW D (shM dA) exM A ad res) args s 0 0 A) (F0 m 55 ls []) := by
  have hx := X.hx
  have hb := X.hb
  unfold f_X8_takes_55 at hf
  refine lv_aload_n hx hb dX8_takes_55 rfl (lv_at hl 0 rfl) ?_
  refine lv_iload_n hx hb dX8_takes_56 rfl (lv_at hl 1 rfl) ?_
  obtain ⟨S1, v2, hq, hf⟩ := gB2_some hf
  refine gc_i (gc_fixV (S := S) X (mt_X8_takeOther l D dA A ad S x1 hq) (lw_V q1440 q1442 qs64 q93 q1443) ⟨rfl, rfl⟩ hd_X8_takeOther ⟨Nat.le_trans (Nat.le_of_ble_eq_true rfl) hR.1, Nat.le_trans (Nat.le_of_ble_eq_true rfl) hR.2⟩ (wd_recv (r := M_o) (ci := 0) (q := (RX8, TX8, 61)) X.hK.1 hP ⟨rfl, rfl⟩ rfl rfl) hP hS ⟨Nat.zero_le _, Nat.zero_le _⟩ rfl hl.1 rfl (Nat.le_of_ble_eq_true rfl) dX8_takes_57) hS ?_
  rintro _ _ H locs ⟨⟩ hP hS
  exact gr_iW X hP hS (Option.some.inj hf) dX8_takes_60
set_option maxHeartbeats 4000000 in
theorem w_X8_takes_155 {p : Program} {l : Launch} {e : Env} {R : Room} {s : State} {m : MethodId} {args : Array Value} {below : List Frame} {meth : Method} {c : Code} {D : va_G} {dA : Nat → ClassId} {A : Nat → Prop} {ad : L3 → Nat} (X : CX RX8 cX8_takes 3 (some .int) (KA D dA) p s m args meth c A) (hR : 7 ≤ R.frames ∧ 170 ≤ R.locals) {res : Mem × Int32} (S : Mem) (y0 : Int64) (y1 : Int64) (y2 : Int32) {H : Heap} {locs : List Loc} {ls : Array Slot} (hP : Wd D clA (shM dA) exM A ad S H) (hS : va_S A s.heap H locs) (hl : lv_has ls 3 []) (hf : f_X8_takes_155 S y0 y1 y2 = some res) : W p l e R s m args below meth c H locs 0 0 (MQ below (QiW D (shM dA) exM A ad res) args s 0 0 A) (F0 m 155 ls [.long y0, .long y1, .int y2, .ref (ad M_limits)]) := by
  have hx := X.hx
  have hb := X.hb
  unfold f_X8_takes_155 at hf
  obtain ⟨v1, hq, hf⟩ := gS_eq hf
  refine gc_l (gc_fixS (S := S) X (mt_X8_greater l D dA A ad S y1 y0 hq) (lw_S q1444 q1445 q93 q1446) ⟨rfl, rfl⟩ hd_X8_greater.2 ⟨Nat.le_trans (Nat.le_of_ble_eq_true rfl) hR.1, Nat.le_trans (Nat.le_of_ble_eq_true rfl) hR.2⟩ hP hS ⟨Nat.zero_le _, Nat.zero_le _⟩ rfl hl.1 rfl (Nat.le_of_ble_eq_true rfl) dX8_takes_155) hS ?_
  rintro _ _ H locs ⟨rfl, rfl⟩ hP hS
  refine ra_limits_st X hP hS dX8_takes_158 hf (fun S2 H locs hP hS hf => ?_)
  refine lv_iconst (v := 0) hx hb dX8_takes_159 (by decide) ?_
  exact gr_iW X hP hS (Option.some.inj hf) dX8_takes_160
set_option maxHeartbeats 4000000 in
theorem w_X8_takes_111 {p : Program} {l : Launch} {e : Env} {R : Room} {s : State} {m : MethodId} {args : Array Value} {below : List Frame} {meth : Method} {c : Code} {D : va_G} {dA : Nat → ClassId} {A : Nat → Prop} {ad : L3 → Nat} (X : CX RX8 cX8_takes 3 (some .int) (KA D dA) p s m args meth c A) (hR : 7 ≤ R.frames ∧ 170 ≤ R.locals) {res : Mem × Int32} (S : Mem) (x1 : Int32) {H : Heap} {locs : List Loc} {ls : Array Slot} (hP : Wd D clA (shM dA) exM A ad S H) (hS : va_S A s.heap H locs) (hl : lv_has ls 3 [(0, .ref (ad M_o)), (1, .int x1)]) (hf : f_X8_takes_111 S x1 = some res) : W p l e R s m args below meth c H locs 0 0 (MQ below (QiW D (shM dA) exM A ad res) args s 0 0 A) (F0 m 111 ls []) := by
  have hx := X.hx
  have hb := X.hb
  unfold f_X8_takes_111 at hf
  refine lv_iconst (v := 3) hx hb dX8_takes_111 (by decide) ?_
  refine lv_iload_n hx hb dX8_takes_112 rfl (lv_at hl 1 rfl) ?_
  refine lv_imul hx hb dX8_takes_113 ?_
  refine lv_aload_n hx hb dX8_takes_114 rfl (lv_at hl 0 rfl) ?_
  refine rg_X8_336 X hP dX8_takes_115 ?_
  refine lv_iadd hx hb dX8_takes_118 ?_
  refine lv_bipush (v := 17) hx hb dX8_takes_119 (by decide) ?_
  refine lv_isub hx hb dX8_takes_121 ?_
  refine lv_istore_n (lv' := [(2, .int (((3 * x1) + (S.1 M_o 45)) - 17)), (0, .ref (ad M_o)), (1, .int x1)]) hx hb dX8_takes_122 rfl hl (by decide) rfl (fun ls hl => ?_)
  refine lv_aload_n hx hb dX8_takes_123 rfl (lv_at hl 1 rfl) ?_
  refine rg_X8_19 X hP dX8_takes_124 ?_
  refine lv_iload_n hx hb dX8_takes_127 rfl (lv_at hl 0 rfl) ?_
  refine lv_aload_n hx hb dX8_takes_128 rfl (lv_at hl 1 rfl) ?_
  refine rg_X8_19 X hP dX8_takes_129 ?_
  refine lv_iload_n hx hb dX8_takes_132 rfl (lv_at hl 0 rfl) ?_
  refine ra_limits_ld X hP dX8_takes_133 hf (fun hf => ?_)
  refine lv_aload_n hx hb dX8_takes_134 rfl (lv_at hl 1 rfl) ?_
  refine rg_X8_308 X hP dX8_takes_135 ?_
  refine lv_ldc2 hx hb X.hown (X.hts _ q1367) dX8_takes_138 ?_
  refine gb_lcmp_ge (tgt := 152) hx hb dX8_takes_141 dX8_takes_142 (by decide) hf (fun hf => ?_) (fun hf => ?_)
  · refine lv_ldc2 hx hb X.hown (X.hts _ q1367) dX8_takes_152 ?_
    exact w_X8_takes_155 X hR S 64 (S.2 M_limits (Int32.toNatClampNeg (((3 * x1) + (S.1 M_o 45)) - 17))) (((3 * x1) + (S.1 M_o 45)) - 17) hP hS (lv_sub hl [] rfl) hf
  · refine lv_aload_n hx hb dX8_takes_145 rfl (lv_at hl 1 rfl) ?_
    refine rg_X8_308 X hP dX8_takes_146 ?_
    refine lv_goto (tgt := 155) hx hb dX8_takes_149 (by decide) ?_
    exact w_X8_takes_155 X hR S (S.2 M_o 46) (S.2 M_limits (Int32.toNatClampNeg (((3 * x1) + (S.1 M_o 45)) - 17))) (((3 * x1) + (S.1 M_o 45)) - 17) hP hS (lv_sub hl [] rfl) hf
set_option maxHeartbeats 4000000 in
theorem w_X8_takes_93 {p : Program} {l : Launch} {e : Env} {R : Room} {s : State} {m : MethodId} {args : Array Value} {below : List Frame} {meth : Method} {c : Code} {D : va_G} {dA : Nat → ClassId} {A : Nat → Prop} {ad : L3 → Nat} (X : CX RX8 cX8_takes 3 (some .int) (KA D dA) p s m args meth c A) (hR : 7 ≤ R.frames ∧ 170 ≤ R.locals) {res : Mem × Int32} (S : Mem) (x1 : Int32) {H : Heap} {locs : List Loc} {ls : Array Slot} (hP : Wd D clA (shM dA) exM A ad S H) (hS : va_S A s.heap H locs) (hl : lv_has ls 3 [(0, .ref (ad M_o)), (1, .int x1)]) (hf : f_X8_takes_93 S x1 = some res) : W p l e R s m args below meth c H locs 0 0 (MQ below (QiW D (shM dA) exM A ad res) args s 0 0 A) (F0 m 93 ls []) := by
  have hx := X.hx
  have hb := X.hb
  unfold f_X8_takes_93 at hf
  refine lv_aload_n hx hb dX8_takes_93 rfl (lv_at hl 0 rfl) ?_
  refine rg_X8_336 X hP dX8_takes_94 ?_
  refine lv_bipush (v := 18) hx hb dX8_takes_97 (by decide) ?_
  refine gb_icmp_eq (tgt := 111) hx hb dX8_takes_99 (by decide) hf (fun hf => ?_) (fun hf => ?_)
  · exact w_X8_takes_111 X hR S x1 hP hS (lv_sub hl [0, 1] rfl) hf
  · refine lv_aload_n hx hb dX8_takes_102 rfl (lv_at hl 0 rfl) ?_
    refine rg_X8_336 X hP dX8_takes_103 ?_
    refine lv_bipush (v := 19) hx hb dX8_takes_106 (by decide) ?_
    refine gb_icmp_ne (tgt := 159) hx hb dX8_takes_108 (by decide) hf (fun hf => ?_) (fun hf => ?_)
    · refine lv_iconst (v := 0) hx hb dX8_takes_159 (by decide) ?_
      exact gr_iW X hP hS (Option.some.inj hf) dX8_takes_160
    · exact w_X8_takes_111 X hR S x1 hP hS (lv_sub hl [0, 1] rfl) hf
set_option maxHeartbeats 4000000 in
theorem w_X8_takes {p : Program} {l : Launch} {e : Env} {R : Room} {s : State} {m : MethodId} {args : Array Value} {below : List Frame} {meth : Method} {c : Code} {D : va_G} {dA : Nat → ClassId} {A : Nat → Prop} {ad : L3 → Nat} (X : CX RX8 cX8_takes 3 (some .int) (KA D dA) p s m args meth c A) (hR : 7 ≤ R.frames ∧ 170 ≤ R.locals) {res : Mem × Int32} (S : Mem) (x1 : Int32) {H : Heap} {locs : List Loc} {ls : Array Slot} (hP : Wd D clA (shM dA) exM A ad S H) (hS : va_S A s.heap H locs) (hl : lv_has ls 3 [(0, .ref (ad M_o)), (1, .int x1)]) (hf : f_X8_takes S x1 = some res) : W p l e R s m args below meth c H locs 0 0 (MQ below (QiW D (shM dA) exM A ad res) args s 0 0 A) (F0 m 0 ls []) := by
  have hx := X.hx
  have hb := X.hb
  unfold f_X8_takes at hf
  refine lv_aload_n hx hb dX8_takes_0 rfl (lv_at hl 0 rfl) ?_
  refine rg_X8_336 X hP dX8_takes_1 ?_
  refine lv_bipush (v := 8) hx hb dX8_takes_4 (by decide) ?_
  refine gb_icmp_ne (tgt := 15) hx hb dX8_takes_6 (by decide) hf (fun hf => ?_) (fun hf => ?_)
  · refine lv_aload_n hx hb dX8_takes_15 rfl (lv_at hl 0 rfl) ?_
    refine rg_X8_336 X hP dX8_takes_16 ?_
    refine lv_iconst (v := 4) hx hb dX8_takes_19 (by decide) ?_
    refine gb_icmp_ne (tgt := 29) hx hb dX8_takes_20 (by decide) hf (fun hf => ?_) (fun hf => ?_)
    · refine lv_aload_n hx hb dX8_takes_29 rfl (lv_at hl 0 rfl) ?_
      refine rg_X8_336 X hP dX8_takes_30 ?_
      refine lv_iconst (v := 5) hx hb dX8_takes_33 (by decide) ?_
      refine gb_icmp_eq (tgt := 55) hx hb dX8_takes_34 (by decide) hf (fun hf => ?_) (fun hf => ?_)
      · exact w_X8_takes_55 X hR S x1 hP hS (lv_sub hl [0, 1] rfl) hf
      · refine lv_aload_n hx hb dX8_takes_37 rfl (lv_at hl 0 rfl) ?_
        refine rg_X8_336 X hP dX8_takes_38 ?_
        refine lv_bipush (v := 17) hx hb dX8_takes_41 (by decide) ?_
        refine gb_icmp_eq (tgt := 55) hx hb dX8_takes_43 (by decide) hf (fun hf => ?_) (fun hf => ?_)
        · exact w_X8_takes_55 X hR S x1 hP hS (lv_sub hl [0, 1] rfl) hf
        · refine lv_aload_n hx hb dX8_takes_46 rfl (lv_at hl 0 rfl) ?_
          refine rg_X8_336 X hP dX8_takes_47 ?_
          refine lv_bipush (v := 21) hx hb dX8_takes_50 (by decide) ?_
          refine gb_icmp_ne (tgt := 61) hx hb dX8_takes_52 (by decide) hf (fun hf => ?_) (fun hf => ?_)
          · refine lv_aload_n hx hb dX8_takes_61 rfl (lv_at hl 0 rfl) ?_
            refine rg_X8_336 X hP dX8_takes_62 ?_
            refine lv_bipush (v := 16) hx hb dX8_takes_65 (by decide) ?_
            refine gb_icmp_ne (tgt := 93) hx hb dX8_takes_67 (by decide) hf (fun hf => ?_) (fun hf => ?_)
            · exact w_X8_takes_93 X hR S x1 hP hS (lv_sub hl [0, 1] rfl) hf
            · refine lv_aload_n hx hb dX8_takes_70 rfl (lv_at hl 0 rfl) ?_
              refine rg_X8_19 X hP dX8_takes_71 ?_
              refine lv_iconst (v := 3) hx hb dX8_takes_74 (by decide) ?_
              refine lv_iload_n hx hb dX8_takes_75 rfl (lv_at hl 1 rfl) ?_
              refine lv_imul hx hb dX8_takes_76 ?_
              refine lv_aload_n hx hb dX8_takes_77 rfl (lv_at hl 0 rfl) ?_
              refine rg_X8_19 X hP dX8_takes_78 ?_
              refine lv_iconst (v := 3) hx hb dX8_takes_81 (by decide) ?_
              refine lv_iload_n hx hb dX8_takes_82 rfl (lv_at hl 1 rfl) ?_
              refine lv_imul hx hb dX8_takes_83 ?_
              refine ra_limits_ld X hP dX8_takes_84 hf (fun hf => ?_)
              refine lv_aload_n hx hb dX8_takes_85 rfl (lv_at hl 0 rfl) ?_
              refine rg_X8_308 X hP dX8_takes_86 ?_
              obtain ⟨v1, hq, hf⟩ := gS_eq hf
              refine gc_l (gc_fixS (S := S) X (mt_X8_greater l D dA A ad S (S.2 M_limits (Int32.toNatClampNeg (3 * x1))) (S.2 M_o 46) hq) (lw_S q1444 q1445 q93 q1446) ⟨rfl, rfl⟩ hd_X8_greater.2 ⟨Nat.le_trans (Nat.le_of_ble_eq_true rfl) hR.1, Nat.le_trans (Nat.le_of_ble_eq_true rfl) hR.2⟩ hP hS ⟨Nat.zero_le _, Nat.zero_le _⟩ rfl hl.1 rfl (Nat.le_of_ble_eq_true rfl) dX8_takes_89) hS ?_
              rintro _ _ H locs ⟨rfl, rfl⟩ hP hS
              refine ra_limits_st X hP hS dX8_takes_92 hf (fun S2 H locs hP hS hf => ?_)
              exact w_X8_takes_93 X hR S2 x1 hP hS (lv_sub hl [0, 1] rfl) hf
          · exact w_X8_takes_55 X hR S x1 hP hS (lv_sub hl [0, 1] rfl) hf
    · refine lv_aload_n hx hb dX8_takes_23 rfl (lv_at hl 0 rfl) ?_
      refine lv_iload_n hx hb dX8_takes_24 rfl (lv_at hl 1 rfl) ?_
      obtain ⟨S3, v4, hq, hf⟩ := gB2_some hf
      refine gc_i (gc_fixV (S := S) X (mt_X8_takeReset l D dA A ad S x1 hq) (lw_V q1436 q1438 qs63 q93 q1439) ⟨rfl, rfl⟩ hd_X8_takeReset ⟨Nat.le_trans (Nat.le_of_ble_eq_true rfl) hR.1, Nat.le_trans (Nat.le_of_ble_eq_true rfl) hR.2⟩ (wd_recv (r := M_o) (ci := 0) (q := (RX8, TX8, 61)) X.hK.1 hP ⟨rfl, rfl⟩ rfl rfl) hP hS ⟨Nat.zero_le _, Nat.zero_le _⟩ rfl hl.1 rfl (Nat.le_of_ble_eq_true rfl) dX8_takes_25) hS ?_
      rintro _ _ H locs ⟨⟩ hP hS
      exact gr_iW X hP hS (Option.some.inj hf) dX8_takes_28
  · refine lv_aload_n hx hb dX8_takes_9 rfl (lv_at hl 0 rfl) ?_
    refine lv_iload_n hx hb dX8_takes_10 rfl (lv_at hl 1 rfl) ?_
    obtain ⟨S5, v6, hq, hf⟩ := gB2_some hf
    refine gc_i (gc_fixV (S := S) X (mt_X8_takeStream l D dA A ad S x1 hq) (lw_V q1410 q1412 qs57 q93 q1413) ⟨rfl, rfl⟩ hd_X8_takeStream ⟨Nat.le_trans (Nat.le_of_ble_eq_true rfl) hR.1, Nat.le_trans (Nat.le_of_ble_eq_true rfl) hR.2⟩ (wd_recv (r := M_o) (ci := 0) (q := (RX8, TX8, 61)) X.hK.1 hP ⟨rfl, rfl⟩ rfl rfl) hP hS ⟨Nat.zero_le _, Nat.zero_le _⟩ rfl hl.1 rfl (Nat.le_of_ble_eq_true rfl) dX8_takes_11) hS ?_
    rintro _ _ H locs ⟨⟩ hP hS
    exact gr_iW X hP hS (Option.some.inj hf) dX8_takes_14
theorem hd_X8_takes : yX8_takes.cls = RX8 ∧ yX8_takes.cls ≠ "java/lang/invoke/MethodHandle" ∧ yX8_takes.cls ≠ "java/lang/invoke/VarHandle" ∧ (parseMethodDescriptor yX8_takes.desc).map (fun d => d.parameters.length) = some 1 := by decide +kernel
set_option maxHeartbeats 4000000 in
theorem mt_X8_takes (l : Launch) (D : va_G) (dA : Nat → ClassId) (A : Nat → Prop) (ad : L3 → Nat) (S : Mem) (x1 : Int32) {res : Mem × Int32} (hq : f_X8_takes S x1 = some res) : Met l yX8_takes (ws_ yX8_takes cX8_takes 3 (some .int)) ({ frames := 7, cells := 0, slots := 0, locals := 170 } : Room) (va_Pc [.ref (ad M_o), .int x1] (PreW D dA (shM dA) exM A ad S)) (QiW D (shM dA) exM A ad res) 0 0 A :=
  gx_head (by decide) (Nat.le_of_ble_eq_true rfl) (fun p e s m below meth c ls X hP hl => w_X8_takes (l := l) X ⟨Nat.le_of_ble_eq_true rfl, Nat.le_of_ble_eq_true rfl⟩ S x1 hP va_S.rf (lv_sub (l := [(0, .ref (ad M_o)), (1, .int x1)]) hl [0, 1] rfl) hq)
set_option maxHeartbeats 4000000 in
theorem w_X8_take_195_b {p : Program} {l : Launch} {e : Env} {R : Room} {s : State} {m : MethodId} {args : Array Value} {below : List Frame} {meth : Method} {c : Code} {D : va_G} {dA : Nat → ClassId} {A : Nat → Prop} {ad : L3 → Nat} (X : CX RX8 cX8_take 12 (some .int) (KA D dA) p s m args meth c A) (hR : 8 ≤ R.frames ∧ 192 ≤ R.locals) {res : Mem × Int32} (k195 : Mem → Int32 → Int32 → Option (Mem × Int32)) (hk195 : ∀ (S : Mem) (x1 : Int32) (x11 : Int32) (H : Heap) (locs : List Loc) (ls : Array Slot), Wd D clA (shM dA) exM A ad S H → va_S A s.heap H locs → lv_has ls 12 [(0, .ref (ad M_o)), (1, .int x1), (11, .int x11)] → k195 S x1 x11 = some res → W p l e R s m args below meth c H locs 0 0 (MQ below (QiW D (shM dA) exM A ad res) args s 0 0 A) (F0 m 195 ls [])) (S : Mem) (x1 : Int32) (x11 : Int32) {H : Heap} {locs : List Loc} {ls : Array Slot} (hP : Wd D clA (shM dA) exM A ad S H) (hS : va_S A s.heap H locs) (hl : lv_has ls 12 [(0, .ref (ad M_o)), (1, .int x1), (11, .int x11)]) (hf : f_X8_take_195_b k195 S x1 x11 = some res) : W p l e R s m args below meth c H locs 0 0 (MQ below (QiW D (shM dA) exM A ad res) args s 0 0 A) (F0 m 195 ls []) := by
  have hx := X.hx
  have hb := X.hb
  unfold f_X8_take_195_b at hf
  refine lv_iload hx hb dX8_take_195 (lv_at hl 2 rfl) ?_
  refine lv_aload_n hx hb dX8_take_197 rfl (lv_at hl 0 rfl) ?_
  refine rg_X8_263 X hP dX8_take_198 ?_
  refine gb_icmp_ge (tgt := 225) hx hb dX8_take_201 (by decide) hf (fun hf => ?_) (fun hf => ?_)
  · refine lv_aload_n hx hb dX8_take_225 rfl (lv_at hl 0 rfl) ?_
    refine lv_iconst (v := 0) hx hb dX8_take_226 (by decide) ?_
    refine rp_X8_263 X hP hS dX8_take_227 hf (fun S1 H locs hP hS hf => ?_)
    refine lv_aload_n hx hb dX8_take_230 rfl (lv_at hl 0 rfl) ?_
    refine lv_iload_n hx hb dX8_take_231 rfl (lv_at hl 1 rfl) ?_
    obtain ⟨S2, v3, hq, hf⟩ := gB2_some hf
    refine gc_i (gc_fixV (S := S1) X (mt_X8_takes l D dA A ad S1 x1 hq) (lw_V q1406 q1408 qs56 q93 q1409) ⟨rfl, rfl⟩ hd_X8_takes ⟨Nat.le_trans (Nat.le_of_ble_eq_true rfl) hR.1, Nat.le_trans (Nat.le_of_ble_eq_true rfl) hR.2⟩ (wd_recv (r := M_o) (ci := 0) (q := (RX8, TX8, 61)) X.hK.1 hP ⟨rfl, rfl⟩ rfl rfl) hP hS ⟨Nat.zero_le _, Nat.zero_le _⟩ rfl hl.1 rfl (Nat.le_of_ble_eq_true rfl) dX8_take_232) hS ?_
    rintro _ _ H locs ⟨⟩ hP hS
    exact gr_iW X hP hS (Option.some.inj hf) dX8_take_235
  · refine lv_aload_n hx hb dX8_take_204 rfl (lv_at hl 0 rfl) ?_
    refine rg_X8_139 X hP dX8_take_205 ?_
    refine lv_iload hx hb dX8_take_208 (lv_at hl 2 rfl) ?_
    refine lv_aload_n hx hb dX8_take_210 rfl (lv_at hl 0 rfl) ?_
    refine rg_X8_7 X hP dX8_take_211 ?_
    refine lv_iload hx hb dX8_take_214 (lv_at hl 2 rfl) ?_
    refine ra_tape_ld X hP dX8_take_216 hf (fun hf => ?_)
    refine lv_i2b hx hb dX8_take_217 rfl ?_
    refine ra_fData_st X hP hS dX8_take_218 hf (fun S4 H locs hP hS hf => ?_)
    refine lv_iinc (v := (x11 + 1)) (lv' := [(11, .int (x11 + 1)), (0, .ref (ad M_o)), (1, .int x1)]) hx hb dX8_take_219 hl (k := 2) rfl rfl (by decide) rfl (fun ls hl => ?_)
    refine lv_goto (tgt := 195) hx hb dX8_take_222 (by decide) ?_
    exact hk195 S4 x1 (x11 + 1) _ _ _ hP hS (lv_sub hl [1, 2, 0] rfl) hf
set_option maxHeartbeats 4000000 in
theorem w_X8_take_195 {p : Program} {l : Launch} {e : Env} {R : Room} {s : State} {m : MethodId} {args : Array Value} {below : List Frame} {meth : Method} {c : Code} {D : va_G} {dA : Nat → ClassId} {A : Nat → Prop} {ad : L3 → Nat} (X : CX RX8 cX8_take 12 (some .int) (KA D dA) p s m args meth c A) (hR : 8 ≤ R.frames ∧ 192 ≤ R.locals) {res : Mem × Int32} (n : Nat) : ∀ (S : Mem) (x1 : Int32) (x11 : Int32) (H : Heap) (locs : List Loc) (ls : Array Slot), Wd D clA (shM dA) exM A ad S H → va_S A s.heap H locs → lv_has ls 12 [(0, .ref (ad M_o)), (1, .int x1), (11, .int x11)] → f_X8_take_195 n S x1 x11 = some res → W p l e R s m args below meth c H locs 0 0 (MQ below (QiW D (shM dA) exM A ad res) args s 0 0 A) (F0 m 195 ls []) := by
  induction n with
  | zero =>
    intro S x1 x11 H locs ls hP hS hl hf
    exact absurd (show none = some res from hf) (fun h => by cases h)
  | succ n ih =>
    intro S x1 x11 H locs ls hP hS hl hf
    exact w_X8_take_195_b X hR (f_X8_take_195 n) ih S x1 x11 hP hS hl hf
set_option maxHeartbeats 4000000 in
theorem w_X8_take_153 {p : Program} {l : Launch} {e : Env} {R : Room} {s : State} {m : MethodId} {args : Array Value} {below : List Frame} {meth : Method} {c : Code} {D : va_G} {dA : Nat → ClassId} {A : Nat → Prop} {ad : L3 → Nat} (X : CX RX8 cX8_take 12 (some .int) (KA D dA) p s m args meth c A) (hR : 8 ≤ R.frames ∧ 192 ≤ R.locals) {res : Mem × Int32} (S : Mem) (x1 : Int32) (x2 : Int32) (x3 : Int64) (x5 : Int64) (x7 : Int64) (y0 : Int32) {H : Heap} {locs : List Loc} {ls : Array Slot} (hP : Wd D clA (shM dA) exM A ad S H) (hS : va_S A s.heap H locs) (hl : lv_has ls 12 [(0, .ref (ad M_o)), (1, .int x1), (2, .int x2), (3, .long x3), (5, .long x5), (7, .long x7)]) (hf : f_X8_take_153 S x1 x2 x3 x5 x7 y0 = some res) : W p l e R s m args below meth c H locs 0 0 (MQ below (QiW D (shM dA) exM A ad res) args s 0 0 A) (F0 m 153 ls [.int y0, .ref (ad M_o)]) := by
  have hx := X.hx
  have hb := X.hb
  unfold f_X8_take_153 at hf
  refine lv_iconst (v := 2) hx hb dX8_take_153 (by decide) ?_
  obtain ⟨S1, v2, hq, hf⟩ := gB2_some hf
  refine gc_i (gc_fixV (S := S) X (mt_X8_fails l D dA A ad S y0 (2 : Int32) hq) (lw_V q1262 q1264 qs35 q93 q1265) ⟨rfl, rfl⟩ hd_X8_fails ⟨Nat.le_trans (Nat.le_of_ble_eq_true rfl) hR.1, Nat.le_trans (Nat.le_of_ble_eq_true rfl) hR.2⟩ (wd_recv (r := M_o) (ci := 0) (q := (RX8, TX8, 61)) X.hK.1 hP ⟨rfl, rfl⟩ rfl rfl) hP hS ⟨Nat.zero_le _, Nat.zero_le _⟩ rfl hl.1 rfl (Nat.le_of_ble_eq_true rfl) dX8_take_154) hS ?_
  rintro _ _ H locs ⟨⟩ hP hS
  refine gb_if_eq (tgt := 162) hx hb dX8_take_157 (by decide) hf (fun hf => ?_) (fun hf => ?_)
  · refine lv_aload_n hx hb dX8_take_162 rfl (lv_at hl 0 rfl) ?_
    refine lv_iload_n hx hb dX8_take_163 rfl (lv_at hl 2 rfl) ?_
    refine rp_X8_336 X hP hS dX8_take_164 hf (fun S3 H locs hP hS hf => ?_)
    refine lv_aload_n hx hb dX8_take_167 rfl (lv_at hl 0 rfl) ?_
    refine lv_lload_n hx hb dX8_take_168 rfl (lv_at hl 3 rfl) ?_
    refine rp_X8_308 X hP hS dX8_take_169 hf (fun S4 H locs hP hS hf => ?_)
    refine lv_aload_n hx hb dX8_take_172 rfl (lv_at hl 0 rfl) ?_
    refine lv_lload hx hb dX8_take_173 (lv_at hl 4 rfl) ?_
    refine rp_X8_316 X hP hS dX8_take_175 hf (fun S5 H locs hP hS hf => ?_)
    refine lv_aload_n hx hb dX8_take_178 rfl (lv_at hl 0 rfl) ?_
    refine lv_lload hx hb dX8_take_179 (lv_at hl 5 rfl) ?_
    refine rp_X8_322 X hP hS dX8_take_181 hf (fun S6 H locs hP hS hf => ?_)
    refine lv_aload_n hx hb dX8_take_184 rfl (lv_at hl 0 rfl) ?_
    refine lv_aload_n hx hb dX8_take_185 rfl (lv_at hl 0 rfl) ?_
    refine rg_X8_263 X hP dX8_take_186 ?_
    refine rp_X8_319 X hP hS dX8_take_189 hf (fun S7 H locs hP hS hf => ?_)
    refine lv_iconst (v := 0) hx hb dX8_take_192 (by decide) ?_
    refine lv_istore (lv' := [(11, .int 0), (0, .ref (ad M_o)), (1, .int x1), (2, .int x2), (3, .long x3), (5, .long x5), (7, .long x7)]) hx hb dX8_take_193 hl (by decide) rfl (fun ls hl => ?_)
    exact w_X8_take_195 X hR FU S7 x1 0 _ _ _ hP hS (lv_sub hl [1, 2, 0] rfl) hf
  · refine lv_iconst (v := 0) hx hb dX8_take_160 (by decide) ?_
    exact gr_iW X hP hS (Option.some.inj hf) dX8_take_161
set_option maxHeartbeats 4000000 in
theorem w_X8_take_133 {p : Program} {l : Launch} {e : Env} {R : Room} {s : State} {m : MethodId} {args : Array Value} {below : List Frame} {meth : Method} {c : Code} {D : va_G} {dA : Nat → ClassId} {A : Nat → Prop} {ad : L3 → Nat} (X : CX RX8 cX8_take 12 (some .int) (KA D dA) p s m args meth c A) (hR : 8 ≤ R.frames ∧ 192 ≤ R.locals) {res : Mem × Int32} (S : Mem) (x1 : Int32) (x2 : Int32) (x3 : Int64) (x5 : Int64) (x7 : Int64) (y0 : Int32) {H : Heap} {locs : List Loc} {ls : Array Slot} (hP : Wd D clA (shM dA) exM A ad S H) (hS : va_S A s.heap H locs) (hl : lv_has ls 12 [(0, .ref (ad M_o)), (1, .int x1), (2, .int x2), (3, .long x3), (5, .long x5), (7, .long x7)]) (hf : f_X8_take_133 S x1 x2 x3 x5 x7 y0 = some res) : W p l e R s m args below meth c H locs 0 0 (MQ below (QiW D (shM dA) exM A ad res) args s 0 0 A) (F0 m 133 ls [.int y0, .ref (ad M_o)]) := by
  have hx := X.hx
  have hb := X.hb
  unfold f_X8_take_133 at hf
  refine lv_iconst (v := 1) hx hb dX8_take_133 (by decide) ?_
  obtain ⟨S1, v2, hq, hf⟩ := gB2_some hf
  refine gc_i (gc_fixV (S := S) X (mt_X8_fails l D dA A ad S y0 (1 : Int32) hq) (lw_V q1262 q1264 qs35 q93 q1265) ⟨rfl, rfl⟩ hd_X8_fails ⟨Nat.le_trans (Nat.le_of_ble_eq_true rfl) hR.1, Nat.le_trans (Nat.le_of_ble_eq_true rfl) hR.2⟩ (wd_recv (r := M_o) (ci := 0) (q := (RX8, TX8, 61)) X.hK.1 hP ⟨rfl, rfl⟩ rfl rfl) hP hS ⟨Nat.zero_le _, Nat.zero_le _⟩ rfl hl.1 rfl (Nat.le_of_ble_eq_true rfl) dX8_take_134) hS ?_
  rintro _ _ H locs ⟨⟩ hP hS
  refine gb_if_ne (tgt := 160) hx hb dX8_take_137 (by decide) hf (fun hf => ?_) (fun hf => ?_)
  · refine lv_iconst (v := 0) hx hb dX8_take_160 (by decide) ?_
    exact gr_iW X hP hS (Option.some.inj hf) dX8_take_161
  · refine lv_aload_n hx hb dX8_take_140 rfl (lv_at hl 0 rfl) ?_
    refine lv_aload_n hx hb dX8_take_141 rfl (lv_at hl 0 rfl) ?_
    refine rg_X8_244 X hP dX8_take_142 ?_
    refine gb_if_ne (tgt := 152) hx hb dX8_take_145 (by decide) hf (fun hf => ?_) (fun hf => ?_)
    · refine lv_iconst (v := 0) hx hb dX8_take_152 (by decide) ?_
      exact w_X8_take_153 X hR S1 x1 x2 x3 x5 x7 0 hP hS (lv_sub hl [0, 1, 2, 3, 4, 5] rfl) hf
    · refine lv_iconst (v := 1) hx hb dX8_take_148 (by decide) ?_
      refine lv_goto (tgt := 153) hx hb dX8_take_149 (by decide) ?_
      exact w_X8_take_153 X hR S1 x1 x2 x3 x5 x7 1 hP hS (lv_sub hl [0, 1, 2, 3, 4, 5] rfl) hf
set_option maxHeartbeats 4000000 in
theorem w_X8_take_128 {p : Program} {l : Launch} {e : Env} {R : Room} {s : State} {m : MethodId} {args : Array Value} {below : List Frame} {meth : Method} {c : Code} {D : va_G} {dA : Nat → ClassId} {A : Nat → Prop} {ad : L3 → Nat} (X : CX RX8 cX8_take 12 (some .int) (KA D dA) p s m args meth c A) (hR : 8 ≤ R.frames ∧ 192 ≤ R.locals) {res : Mem × Int32} (S : Mem) (x1 : Int32) (x2 : Int32) (x3 : Int64) (x5 : Int64) (x7 : Int64) {H : Heap} {locs : List Loc} {ls : Array Slot} (hP : Wd D clA (shM dA) exM A ad S H) (hS : va_S A s.heap H locs) (hl : lv_has ls 12 [(0, .ref (ad M_o)), (1, .int x1), (2, .int x2), (3, .long x3), (5, .long x5), (7, .long x7)]) (hf : f_X8_take_128 S x1 x2 x3 x5 x7 = some res) : W p l e R s m args below meth c H locs 0 0 (MQ below (QiW D (shM dA) exM A ad res) args s 0 0 A) (F0 m 128 ls [.ref (ad M_o)]) := by
  have hx := X.hx
  have hb := X.hb
  unfold f_X8_take_128 at hf
  refine lv_iconst (v := 1) hx hb dX8_take_128 (by decide) ?_
  refine lv_goto (tgt := 133) hx hb dX8_take_129 (by decide) ?_
  exact w_X8_take_133 X hR S x1 x2 x3 x5 x7 1 hP hS (lv_sub hl [0, 1, 2, 3, 4, 5] rfl) hf
set_option maxHeartbeats 4000000 in
theorem w_X8_take_108 {p : Program} {l : Launch} {e : Env} {R : Room} {s : State} {m : MethodId} {args : Array Value} {below : List Frame} {meth : Method} {c : Code} {D : va_G} {dA : Nat → ClassId} {A : Nat → Prop} {ad : L3 → Nat} (X : CX RX8 cX8_take 12 (some .int) (KA D dA) p s m args meth c A) (hR : 8 ≤ R.frames ∧ 192 ≤ R.locals) {res : Mem × Int32} (S : Mem) (x1 : Int32) (x2 : Int32) (x3 : Int64) (x5 : Int64) (x7 : Int64) (x9 : Int32) (y0 : Int32) {H : Heap} {locs : List Loc} {ls : Array Slot} (hP : Wd D clA (shM dA) exM A ad S H) (hS : va_S A s.heap H locs) (hl : lv_has ls 12 [(0, .ref (ad M_o)), (1, .int x1), (2, .int x2), (3, .long x3), (5, .long x5), (7, .long x7), (9, .int x9)]) (hf : f_X8_take_108 S x1 x2 x3 x5 x7 x9 y0 = some res) : W p l e R s m args below meth c H locs 0 0 (MQ below (QiW D (shM dA) exM A ad res) args s 0 0 A) (F0 m 108 ls [.int y0]) := by
  have hx := X.hx
  have hb := X.hb
  unfold f_X8_take_108 at hf
  refine lv_istore (lv' := [(10, .int y0), (0, .ref (ad M_o)), (1, .int x1), (2, .int x2), (3, .long x3), (5, .long x5), (7, .long x7), (9, .int x9)]) hx hb dX8_take_108 hl (by decide) rfl (fun ls hl => ?_)
  refine lv_aload_n hx hb dX8_take_110 rfl (lv_at hl 1 rfl) ?_
  refine lv_iload_n hx hb dX8_take_111 rfl (lv_at hl 2 rfl) ?_
  obtain ⟨v1, hq, hf⟩ := gS_eq hf
  refine gc_i (gc_fixS (S := S) X (mt_X8_noSide l D dA A ad S x1 hq) (lw_S q1258 q1259 q93 q1260) ⟨rfl, rfl⟩ hd_X8_noSide.2 ⟨Nat.le_trans (Nat.le_of_ble_eq_true rfl) hR.1, Nat.le_trans (Nat.le_of_ble_eq_true rfl) hR.2⟩ hP hS ⟨Nat.zero_le _, Nat.zero_le _⟩ rfl hl.1 rfl (Nat.le_of_ble_eq_true rfl) dX8_take_112) hS ?_
  rintro _ _ H locs ⟨rfl, rfl⟩ hP hS
  refine gb_if_ne (tgt := 128) hx hb dX8_take_115 (by decide) hf (fun hf => ?_) (fun hf => ?_)
  · exact w_X8_take_128 X hR S x1 x2 x3 x5 x7 hP hS (lv_sub hl [1, 2, 3, 4, 5, 6] rfl) hf
  · refine lv_iload hx hb dX8_take_118 (lv_at hl 7 rfl) ?_
    refine gb_if_eq (tgt := 128) hx hb dX8_take_120 (by decide) hf (fun hf => ?_) (fun hf => ?_)
    · exact w_X8_take_128 X hR S x1 x2 x3 x5 x7 hP hS (lv_sub hl [1, 2, 3, 4, 5, 6] rfl) hf
    · refine lv_iload hx hb dX8_take_123 (lv_at hl 0 rfl) ?_
      refine gb_if_ne (tgt := 132) hx hb dX8_take_125 (by decide) hf (fun hf => ?_) (fun hf => ?_)
      · refine lv_iconst (v := 0) hx hb dX8_take_132 (by decide) ?_
        exact w_X8_take_133 X hR S x1 x2 x3 x5 x7 0 hP hS (lv_sub hl [1, 2, 3, 4, 5, 6] rfl) hf
      · exact w_X8_take_128 X hR S x1 x2 x3 x5 x7 hP hS (lv_sub hl [1, 2, 3, 4, 5, 6] rfl) hf
set_option maxHeartbeats 4000000 in
theorem w_X8_take_107 {p : Program} {l : Launch} {e : Env} {R : Room} {s : State} {m : MethodId} {args : Array Value} {below : List Frame} {meth : Method} {c : Code} {D : va_G} {dA : Nat → ClassId} {A : Nat → Prop} {ad : L3 → Nat} (X : CX RX8 cX8_take 12 (some .int) (KA D dA) p s m args meth c A) (hR : 8 ≤ R.frames ∧ 192 ≤ R.locals) {res : Mem × Int32} (S : Mem) (x1 : Int32) (x2 : Int32) (x3 : Int64) (x5 : Int64) (x7 : Int64) (x9 : Int32) {H : Heap} {locs : List Loc} {ls : Array Slot} (hP : Wd D clA (shM dA) exM A ad S H) (hS : va_S A s.heap H locs) (hl : lv_has ls 12 [(0, .ref (ad M_o)), (1, .int x1), (2, .int x2), (3, .long x3), (5, .long x5), (7, .long x7), (9, .int x9)]) (hf : f_X8_take_107 S x1 x2 x3 x5 x7 x9 = some res) : W p l e R s m args below meth c H locs 0 0 (MQ below (QiW D (shM dA) exM A ad res) args s 0 0 A) (F0 m 107 ls []) := by
  have hx := X.hx
  have hb := X.hb
  unfold f_X8_take_107 at hf
  refine lv_iconst (v := 0) hx hb dX8_take_107 (by decide) ?_
  exact w_X8_take_108 X hR S x1 x2 x3 x5 x7 x9 0 hP hS (lv_sub hl [0, 1, 2, 3, 4, 5, 6] rfl) hf
set_option maxHeartbeats 4000000 in
theorem w_X8_take_99 {p : Program} {l : Launch} {e : Env} {R : Room} {s : State} {m : MethodId} {args : Array Value} {below : List Frame} {meth : Method} {c : Code} {D : va_G} {dA : Nat → ClassId} {A : Nat → Prop} {ad : L3 → Nat} (X : CX RX8 cX8_take 12 (some .int) (KA D dA) p s m args meth c A) (hR : 8 ≤ R.frames ∧ 192 ≤ R.locals) {res : Mem × Int32} (S : Mem) (x1 : Int32) (x2 : Int32) (x3 : Int64) (x5 : Int64) (x7 : Int64) (x9 : Int32) (y0 : Int64) (y1 : Int64) {H : Heap} {locs : List Loc} {ls : Array Slot} (hP : Wd D clA (shM dA) exM A ad S H) (hS : va_S A s.heap H locs) (hl : lv_has ls 12 [(0, .ref (ad M_o)), (1, .int x1), (2, .int x2), (3, .long x3), (5, .long x5), (7, .long x7), (9, .int x9)]) (hf : f_X8_take_99 S x1 x2 x3 x5 x7 x9 y0 y1 = some res) : W p l e R s m args below meth c H locs 0 0 (MQ below (QiW D (shM dA) exM A ad res) args s 0 0 A) (F0 m 99 ls [.long y0, .long y1]) := by
  have hx := X.hx
  have hb := X.hb
  unfold f_X8_take_99 at hf
  refine gb_lcmp_gt (tgt := 107) hx hb dX8_take_99 dX8_take_100 (by decide) hf (fun hf => ?_) (fun hf => ?_)
  · exact w_X8_take_107 X hR S x1 x2 x3 x5 x7 x9 hP hS (lv_sub hl [0, 1, 2, 3, 4, 5, 6] rfl) hf
  · refine lv_iconst (v := 1) hx hb dX8_take_103 (by decide) ?_
    refine lv_goto (tgt := 108) hx hb dX8_take_104 (by decide) ?_
    exact w_X8_take_108 X hR S x1 x2 x3 x5 x7 x9 1 hP hS (lv_sub hl [0, 1, 2, 3, 4, 5, 6] rfl) hf
set_option maxHeartbeats 4000000 in
theorem w_X8_take_73 {p : Program} {l : Launch} {e : Env} {R : Room} {s : State} {m : MethodId} {args : Array Value} {below : List Frame} {meth : Method} {c : Code} {D : va_G} {dA : Nat → ClassId} {A : Nat → Prop} {ad : L3 → Nat} (X : CX RX8 cX8_take 12 (some .int) (KA D dA) p s m args meth c A) (hR : 8 ≤ R.frames ∧ 192 ≤ R.locals) {res : Mem × Int32} (S : Mem) (x1 : Int32) (x2 : Int32) (x3 : Int64) (x5 : Int64) (x7 : Int64) (x9 : Int32) (y0 : Int64) (y1 : Int64) {H : Heap} {locs : List Loc} {ls : Array Slot} (hP : Wd D clA (shM dA) exM A ad S H) (hS : va_S A s.heap H locs) (hl : lv_has ls 12 [(0, .ref (ad M_o)), (1, .int x1), (2, .int x2), (3, .long x3), (5, .long x5), (7, .long x7), (9, .int x9)]) (hf : f_X8_take_73 S x1 x2 x3 x5 x7 x9 y0 y1 = some res) : W p l e R s m args below meth c H locs 0 0 (MQ below (QiW D (shM dA) exM A ad res) args s 0 0 A) (F0 m 73 ls [.long y0, .long y1]) := by
  have hx := X.hx
  have hb := X.hb
  unfold f_X8_take_73 at hf
  refine gb_lcmp_gt (tgt := 107) hx hb dX8_take_73 dX8_take_74 (by decide) hf (fun hf => ?_) (fun hf => ?_)
  · exact w_X8_take_107 X hR S x1 x2 x3 x5 x7 x9 hP hS (lv_sub hl [0, 1, 2, 3, 4, 5, 6] rfl) hf
  · refine lv_lload hx hb dX8_take_77 (lv_at hl 5 rfl) ?_
    refine lv_lconst (v := 0) hx hb dX8_take_79 (by decide) ?_
    refine gb_lcmp_lt (tgt := 107) hx hb dX8_take_80 dX8_take_81 (by decide) hf (fun hf => ?_) (fun hf => ?_)
    · exact w_X8_take_107 X hR S x1 x2 x3 x5 x7 x9 hP hS (lv_sub hl [0, 1, 2, 3, 4, 5, 6] rfl) hf
    · refine lv_lload hx hb dX8_take_84 (lv_at hl 5 rfl) ?_
      refine lv_iload_n hx hb dX8_take_86 rfl (lv_at hl 2 rfl) ?_
      refine lv_bipush (v := 8) hx hb dX8_take_87 (by decide) ?_
      refine gb_icmp_ne (tgt := 96) hx hb dX8_take_89 (by decide) hf (fun hf => ?_) (fun hf => ?_)
      · refine lv_ldc2 hx hb X.hown (X.hts _ q1335) dX8_take_96 ?_
        exact w_X8_take_99 X hR S x1 x2 x3 x5 x7 x9 4611686018427387903 x7 hP hS (lv_sub hl [0, 1, 2, 3, 4, 5, 6] rfl) hf
      · refine lv_lconst (v := 1) hx hb dX8_take_92 (by decide) ?_
        refine lv_goto (tgt := 99) hx hb dX8_take_93 (by decide) ?_
        exact w_X8_take_99 X hR S x1 x2 x3 x5 x7 x9 1 x7 hP hS (lv_sub hl [0, 1, 2, 3, 4, 5, 6] rfl) hf
set_option maxHeartbeats 4000000 in
theorem w_X8_take_33 {p : Program} {l : Launch} {e : Env} {R : Room} {s : State} {m : MethodId} {args : Array Value} {below : List Frame} {meth : Method} {c : Code} {D : va_G} {dA : Nat → ClassId} {A : Nat → Prop} {ad : L3 → Nat} (X : CX RX8 cX8_take 12 (some .int) (KA D dA) p s m args meth c A) (hR : 8 ≤ R.frames ∧ 192 ≤ R.locals) {res : Mem × Int32} (S : Mem) (x1 : Int32) (x2 : Int32) (x3 : Int64) (x5 : Int64) (x7 : Int64) (y0 : Int32) {H : Heap} {locs : List Loc} {ls : Array Slot} (hP : Wd D clA (shM dA) exM A ad S H) (hS : va_S A s.heap H locs) (hl : lv_has ls 12 [(0, .ref (ad M_o)), (1, .int x1), (2, .int x2), (3, .long x3), (5, .long x5), (7, .long x7)]) (hf : f_X8_take_33 S x1 x2 x3 x5 x7 y0 = some res) : W p l e R s m args below meth c H locs 0 0 (MQ below (QiW D (shM dA) exM A ad res) args s 0 0 A) (F0 m 33 ls [.int y0]) := by
  have hx := X.hx
  have hb := X.hb
  unfold f_X8_take_33 at hf
  refine lv_istore (lv' := [(9, .int y0), (0, .ref (ad M_o)), (1, .int x1), (2, .int x2), (3, .long x3), (5, .long x5), (7, .long x7)]) hx hb dX8_take_33 hl (by decide) rfl (fun ls hl => ?_)
  refine lv_lload_n hx hb dX8_take_35 rfl (lv_at hl 4 rfl) ?_
  refine lv_lconst (v := 0) hx hb dX8_take_36 (by decide) ?_
  refine gb_lcmp_lt (tgt := 107) hx hb dX8_take_37 dX8_take_38 (by decide) hf (fun hf => ?_) (fun hf => ?_)
  · exact w_X8_take_107 X hR S x1 x2 x3 x5 x7 y0 hP hS (lv_sub hl [1, 2, 3, 4, 5, 6, 0] rfl) hf
  · refine lv_lload_n hx hb dX8_take_41 rfl (lv_at hl 4 rfl) ?_
    refine lv_ldc2 hx hb X.hown (X.hts _ q1335) dX8_take_42 ?_
    refine gb_lcmp_gt (tgt := 107) hx hb dX8_take_45 dX8_take_46 (by decide) hf (fun hf => ?_) (fun hf => ?_)
    · exact w_X8_take_107 X hR S x1 x2 x3 x5 x7 y0 hP hS (lv_sub hl [1, 2, 3, 4, 5, 6, 0] rfl) hf
    · refine lv_lload hx hb dX8_take_49 (lv_at hl 5 rfl) ?_
      refine lv_lconst (v := 0) hx hb dX8_take_51 (by decide) ?_
      refine gb_lcmp_lt (tgt := 107) hx hb dX8_take_52 dX8_take_53 (by decide) hf (fun hf => ?_) (fun hf => ?_)
      · exact w_X8_take_107 X hR S x1 x2 x3 x5 x7 y0 hP hS (lv_sub hl [1, 2, 3, 4, 5, 6, 0] rfl) hf
      · refine lv_lload hx hb dX8_take_56 (lv_at hl 5 rfl) ?_
        refine lv_iload_n hx hb dX8_take_58 rfl (lv_at hl 3 rfl) ?_
        refine lv_bipush (v := 8) hx hb dX8_take_59 (by decide) ?_
        refine gb_icmp_ne (tgt := 70) hx hb dX8_take_61 (by decide) hf (fun hf => ?_) (fun hf => ?_)
        · refine lv_ldc2 hx hb X.hown (X.hts _ q1335) dX8_take_70 ?_
          exact w_X8_take_73 X hR S x1 x2 x3 x5 x7 y0 4611686018427387903 x5 hP hS (lv_sub hl [1, 2, 3, 4, 5, 6, 0] rfl) hf
        · refine lv_ldc2 hx hb X.hown (X.hts _ q1405) dX8_take_64 ?_
          refine lv_goto (tgt := 73) hx hb dX8_take_67 (by decide) ?_
          exact w_X8_take_73 X hR S x1 x2 x3 x5 x7 y0 4611686018427380000 x5 hP hS (lv_sub hl [1, 2, 3, 4, 5, 6, 0] rfl) hf
set_option maxHeartbeats 4000000 in
theorem w_X8_take_28 {p : Program} {l : Launch} {e : Env} {R : Room} {s : State} {m : MethodId} {args : Array Value} {below : List Frame} {meth : Method} {c : Code} {D : va_G} {dA : Nat → ClassId} {A : Nat → Prop} {ad : L3 → Nat} (X : CX RX8 cX8_take 12 (some .int) (KA D dA) p s m args meth c A) (hR : 8 ≤ R.frames ∧ 192 ≤ R.locals) {res : Mem × Int32} (S : Mem) (x1 : Int32) (x2 : Int32) (x3 : Int64) (x5 : Int64) (x7 : Int64) {H : Heap} {locs : List Loc} {ls : Array Slot} (hP : Wd D clA (shM dA) exM A ad S H) (hS : va_S A s.heap H locs) (hl : lv_has ls 12 [(0, .ref (ad M_o)), (1, .int x1), (2, .int x2), (3, .long x3), (5, .long x5), (7, .long x7)]) (hf : f_X8_take_28 S x1 x2 x3 x5 x7 = some res) : W p l e R s m args below meth c H locs 0 0 (MQ below (QiW D (shM dA) exM A ad res) args s 0 0 A) (F0 m 28 ls []) := by
  have hx := X.hx
  have hb := X.hb
  unfold f_X8_take_28 at hf
  refine lv_iconst (v := 1) hx hb dX8_take_28 (by decide) ?_
  refine lv_goto (tgt := 33) hx hb dX8_take_29 (by decide) ?_
  exact w_X8_take_33 X hR S x1 x2 x3 x5 x7 1 hP hS (lv_sub hl [0, 1, 2, 3, 4, 5] rfl) hf
set_option maxHeartbeats 4000000 in
theorem w_X8_take_32 {p : Program} {l : Launch} {e : Env} {R : Room} {s : State} {m : MethodId} {args : Array Value} {below : List Frame} {meth : Method} {c : Code} {D : va_G} {dA : Nat → ClassId} {A : Nat → Prop} {ad : L3 → Nat} (X : CX RX8 cX8_take 12 (some .int) (KA D dA) p s m args meth c A) (hR : 8 ≤ R.frames ∧ 192 ≤ R.locals) {res : Mem × Int32} (S : Mem) (x1 : Int32) (x2 : Int32) (x3 : Int64) (x5 : Int64) (x7 : Int64) {H : Heap} {locs : List Loc} {ls : Array Slot} (hP : Wd D clA (shM dA) exM A ad S H) (hS : va_S A s.heap H locs) (hl : lv_has ls 12 [(0, .ref (ad M_o)), (1, .int x1), (2, .int x2), (3, .long x3), (5, .long x5), (7, .long x7)]) (hf : f_X8_take_32 S x1 x2 x3 x5 x7 = some res) : W p l e R s m args below meth c H locs 0 0 (MQ below (QiW D (shM dA) exM A ad res) args s 0 0 A) (F0 m 32 ls []) := by
  have hx := X.hx
  have hb := X.hb
  unfold f_X8_take_32 at hf
  refine lv_iconst (v := 0) hx hb dX8_take_32 (by decide) ?_
  exact w_X8_take_33 X hR S x1 x2 x3 x5 x7 0 hP hS (lv_sub hl [0, 1, 2, 3, 4, 5] rfl) hf
set_option maxHeartbeats 4000000 in
theorem w_X8_take {p : Program} {l : Launch} {e : Env} {R : Room} {s : State} {m : MethodId} {args : Array Value} {below : List Frame} {meth : Method} {c : Code} {D : va_G} {dA : Nat → ClassId} {A : Nat → Prop} {ad : L3 → Nat} (X : CX RX8 cX8_take 12 (some .int) (KA D dA) p s m args meth c A) (hR : 8 ≤ R.frames ∧ 192 ≤ R.locals) {res : Mem × Int32} (S : Mem) (x1 : Int32) (x2 : Int32) (x3 : Int64) (x5 : Int64) (x7 : Int64) {H : Heap} {locs : List Loc} {ls : Array Slot} (hP : Wd D clA (shM dA) exM A ad S H) (hS : va_S A s.heap H locs) (hl : lv_has ls 12 [(0, .ref (ad M_o)), (1, .int x1), (2, .int x2), (3, .long x3), (5, .long x5), (7, .long x7)]) (hf : f_X8_take S x1 x2 x3 x5 x7 = some res) : W p l e R s m args below meth c H locs 0 0 (MQ below (QiW D (shM dA) exM A ad res) args s 0 0 A) (F0 m 0 ls []) := by
  have hx := X.hx
  have hb := X.hb
  unfold f_X8_take at hf
  refine lv_iload_n hx hb dX8_take_0 rfl (lv_at hl 2 rfl) ?_
  refine lv_iconst (v := 4) hx hb dX8_take_1 (by decide) ?_
  refine gb_icmp_eq (tgt := 28) hx hb dX8_take_2 (by decide) hf (fun hf => ?_) (fun hf => ?_)
  · exact w_X8_take_28 X hR S x1 x2 x3 x5 x7 hP hS (lv_sub hl [0, 1, 2, 3, 4, 5] rfl) hf
  · refine lv_iload_n hx hb dX8_take_5 rfl (lv_at hl 2 rfl) ?_
    refine lv_iconst (v := 5) hx hb dX8_take_6 (by decide) ?_
    refine gb_icmp_eq (tgt := 28) hx hb dX8_take_7 (by decide) hf (fun hf => ?_) (fun hf => ?_)
    · exact w_X8_take_28 X hR S x1 x2 x3 x5 x7 hP hS (lv_sub hl [0, 1, 2, 3, 4, 5] rfl) hf
    · refine lv_iload_n hx hb dX8_take_10 rfl (lv_at hl 2 rfl) ?_
      refine lv_bipush (v := 8) hx hb dX8_take_11 (by decide) ?_
      refine gb_icmp_eq (tgt := 28) hx hb dX8_take_13 (by decide) hf (fun hf => ?_) (fun hf => ?_)
      · exact w_X8_take_28 X hR S x1 x2 x3 x5 x7 hP hS (lv_sub hl [0, 1, 2, 3, 4, 5] rfl) hf
      · refine lv_iload_n hx hb dX8_take_16 rfl (lv_at hl 2 rfl) ?_
        refine lv_bipush (v := 16) hx hb dX8_take_17 (by decide) ?_
        refine gb_icmp_lt (tgt := 32) hx hb dX8_take_19 (by decide) hf (fun hf => ?_) (fun hf => ?_)
        · exact w_X8_take_32 X hR S x1 x2 x3 x5 x7 hP hS (lv_sub hl [0, 1, 2, 3, 4, 5] rfl) hf
        · refine lv_iload_n hx hb dX8_take_22 rfl (lv_at hl 2 rfl) ?_
          refine lv_bipush (v := 23) hx hb dX8_take_23 (by decide) ?_
          refine gb_icmp_gt (tgt := 32) hx hb dX8_take_25 (by decide) hf (fun hf => ?_) (fun hf => ?_)
          · exact w_X8_take_32 X hR S x1 x2 x3 x5 x7 hP hS (lv_sub hl [0, 1, 2, 3, 4, 5] rfl) hf
          · exact w_X8_take_28 X hR S x1 x2 x3 x5 x7 hP hS (lv_sub hl [0, 1, 2, 3, 4, 5] rfl) hf
theorem hd_X8_take : yX8_take.cls = RX8 ∧ yX8_take.cls ≠ "java/lang/invoke/MethodHandle" ∧ yX8_take.cls ≠ "java/lang/invoke/VarHandle" ∧ (parseMethodDescriptor yX8_take.desc).map (fun d => d.parameters.length) = some 5 := by decide +kernel
set_option maxHeartbeats 4000000 in
theorem mt_X8_take (l : Launch) (D : va_G) (dA : Nat → ClassId) (A : Nat → Prop) (ad : L3 → Nat) (S : Mem) (x1 : Int32) (x2 : Int32) (x3 : Int64) (x5 : Int64) (x7 : Int64) {res : Mem × Int32} (hq : f_X8_take S x1 x2 x3 x5 x7 = some res) : Met l yX8_take (ws_ yX8_take cX8_take 12 (some .int)) ({ frames := 8, cells := 0, slots := 0, locals := 192 } : Room) (va_Pc [.ref (ad M_o), .int x1, .int x2, .long x3, .long x5, .long x7] (PreW D dA (shM dA) exM A ad S)) (QiW D (shM dA) exM A ad res) 0 0 A :=
  gx_head (by decide) (Nat.le_of_ble_eq_true rfl) (fun p e s m below meth c ls X hP hl => w_X8_take (l := l) X ⟨Nat.le_of_ble_eq_true rfl, Nat.le_of_ble_eq_true rfl⟩ S x1 x2 x3 x5 x7 hP va_S.rf (lv_sub (l := [(0, .ref (ad M_o)), (1, .int x1), (2, .int x2), (3, .long x3), (5, .long x5), (7, .long x7)]) hl [0, 1, 2, 3, 4, 5] rfl) hq)
set_option maxHeartbeats 4000000 in
theorem w_X8_freePlace_2_b {p : Program} {l : Launch} {e : Env} {R : Room} {s : State} {m : MethodId} {args : Array Value} {below : List Frame} {meth : Method} {c : Code} {D : va_G} {dA : Nat → ClassId} {A : Nat → Prop} {ad : L3 → Nat} (X : CX RX8 cX8_freePlace 2 (some .int) (KA D dA) p s m args meth c A) (hR : 1 ≤ R.frames ∧ 20 ≤ R.locals) {res : Int32} (S : Mem) (k2 : Int32 → Option (Int32)) (hk2 : ∀ (x1 : Int32) (H : Heap) (locs : List Loc) (ls : Array Slot), Wd D clA (shM dA) exM A ad S H → va_S A s.heap H locs → lv_has ls 2 [(0, .ref (ad M_o)), (1, .int x1)] → k2 x1 = some res → W p l e R s m args below meth c H locs 0 0 (MQ below (QiR D (shM dA) exM A ad S res) args s 0 0 A) (F0 m 2 ls [])) (x1 : Int32) {H : Heap} {locs : List Loc} {ls : Array Slot} (hP : Wd D clA (shM dA) exM A ad S H) (hS : va_S A s.heap H locs) (hl : lv_has ls 2 [(0, .ref (ad M_o)), (1, .int x1)]) (hf : f_X8_freePlace_2_b S k2 x1 = some res) : W p l e R s m args below meth c H locs 0 0 (MQ below (QiR D (shM dA) exM A ad S res) args s 0 0 A) (F0 m 2 ls []) := by
  have hx := X.hx
  have hb := X.hb
  unfold f_X8_freePlace_2_b at hf
  refine lv_iload_n hx hb dX8_freePlace_2 rfl (lv_at hl 1 rfl) ?_
  refine lv_bipush (v := 64) hx hb dX8_freePlace_3 (by decide) ?_
  refine gb_icmp_ge (tgt := 25) hx hb dX8_freePlace_5 (by decide) hf (fun hf => ?_) (fun hf => ?_)
  · refine lv_iconst (v := (-1)) hx hb dX8_freePlace_25 (by decide) ?_
    exact gr_iR X hP hS (Option.some.inj hf) dX8_freePlace_26
  · refine lv_aload_n hx hb dX8_freePlace_8 rfl (lv_at hl 0 rfl) ?_
    refine rg_X8_163 X hP dX8_freePlace_9 ?_
    refine lv_iload_n hx hb dX8_freePlace_12 rfl (lv_at hl 1 rfl) ?_
    refine ra_lineUsed_ld X hP dX8_freePlace_13 hf (fun hf => ?_)
    refine gb_if_ne (tgt := 19) hx hb dX8_freePlace_14 (by decide) hf (fun hf => ?_) (fun hf => ?_)
    · refine lv_iinc (v := (x1 + 1)) (lv' := [(1, .int (x1 + 1)), (0, .ref (ad M_o))]) hx hb dX8_freePlace_19 hl (k := 1) rfl rfl (by decide) rfl (fun ls hl => ?_)
      refine lv_goto (tgt := 2) hx hb dX8_freePlace_22 (by decide) ?_
      exact hk2 (x1 + 1) _ _ _ hP hS (lv_sub hl [1, 0] rfl) hf
    · refine lv_iload_n hx hb dX8_freePlace_17 rfl (lv_at hl 1 rfl) ?_
      exact gr_iR X hP hS (Option.some.inj hf) dX8_freePlace_18
set_option maxHeartbeats 4000000 in
theorem w_X8_freePlace_2 {p : Program} {l : Launch} {e : Env} {R : Room} {s : State} {m : MethodId} {args : Array Value} {below : List Frame} {meth : Method} {c : Code} {D : va_G} {dA : Nat → ClassId} {A : Nat → Prop} {ad : L3 → Nat} (X : CX RX8 cX8_freePlace 2 (some .int) (KA D dA) p s m args meth c A) (hR : 1 ≤ R.frames ∧ 20 ≤ R.locals) {res : Int32} (S : Mem) (n : Nat) : ∀ (x1 : Int32) (H : Heap) (locs : List Loc) (ls : Array Slot), Wd D clA (shM dA) exM A ad S H → va_S A s.heap H locs → lv_has ls 2 [(0, .ref (ad M_o)), (1, .int x1)] → f_X8_freePlace_2 S n x1 = some res → W p l e R s m args below meth c H locs 0 0 (MQ below (QiR D (shM dA) exM A ad S res) args s 0 0 A) (F0 m 2 ls []) := by
  induction n with
  | zero =>
    intro x1 H locs ls hP hS hl hf
    exact absurd (show none = some res from hf) (fun h => by cases h)
  | succ n ih =>
    intro x1 H locs ls hP hS hl hf
    exact w_X8_freePlace_2_b X hR S (f_X8_freePlace_2 S n) ih x1 hP hS hl hf
set_option maxHeartbeats 4000000 in
theorem w_X8_freePlace {p : Program} {l : Launch} {e : Env} {R : Room} {s : State} {m : MethodId} {args : Array Value} {below : List Frame} {meth : Method} {c : Code} {D : va_G} {dA : Nat → ClassId} {A : Nat → Prop} {ad : L3 → Nat} (X : CX RX8 cX8_freePlace 2 (some .int) (KA D dA) p s m args meth c A) (hR : 1 ≤ R.frames ∧ 20 ≤ R.locals) {res : Int32} (S : Mem) {H : Heap} {locs : List Loc} {ls : Array Slot} (hP : Wd D clA (shM dA) exM A ad S H) (hS : va_S A s.heap H locs) (hl : lv_has ls 2 [(0, .ref (ad M_o))]) (hf : f_X8_freePlace S = some res) : W p l e R s m args below meth c H locs 0 0 (MQ below (QiR D (shM dA) exM A ad S res) args s 0 0 A) (F0 m 0 ls []) := by
  have hx := X.hx
  have hb := X.hb
  unfold f_X8_freePlace at hf
  refine lv_iconst (v := 0) hx hb dX8_freePlace_0 (by decide) ?_
  refine lv_istore_n (lv' := [(1, .int 0), (0, .ref (ad M_o))]) hx hb dX8_freePlace_1 rfl hl (by decide) rfl (fun ls hl => ?_)
  exact w_X8_freePlace_2 X hR S FU 0 _ _ _ hP hS (lv_sub hl [1, 0] rfl) hf
theorem hd_X8_freePlace : yX8_freePlace.cls = RX8 ∧ yX8_freePlace.cls ≠ "java/lang/invoke/MethodHandle" ∧ yX8_freePlace.cls ≠ "java/lang/invoke/VarHandle" ∧ (parseMethodDescriptor yX8_freePlace.desc).map (fun d => d.parameters.length) = some 0 := by decide +kernel
set_option maxHeartbeats 4000000 in
theorem mt_X8_freePlace (l : Launch) (D : va_G) (dA : Nat → ClassId) (A : Nat → Prop) (ad : L3 → Nat) (S : Mem) {res : Int32} (hq : f_X8_freePlace S = some res) : Met l yX8_freePlace (ws_ yX8_freePlace cX8_freePlace 2 (some .int)) ({ frames := 1, cells := 0, slots := 0, locals := 20 } : Room) (va_Pc [.ref (ad M_o)] (PreW D dA (shM dA) exM A ad S)) (QiR D (shM dA) exM A ad S res) 0 0 A :=
  gx_head (by decide) (Nat.le_of_ble_eq_true rfl) (fun p e s m below meth c ls X hP hl => w_X8_freePlace (l := l) X ⟨Nat.le_of_ble_eq_true rfl, Nat.le_of_ble_eq_true rfl⟩ S hP va_S.rf (lv_sub (l := [(0, .ref (ad M_o))]) hl [0] rfl) hq)
set_option maxHeartbeats 4000000 in
theorem w_X8_sent {p : Program} {l : Launch} {e : Env} {R : Room} {s : State} {m : MethodId} {args : Array Value} {below : List Frame} {meth : Method} {c : Code} {D : va_G} {dA : Nat → ClassId} {A : Nat → Prop} {ad : L3 → Nat} (X : CX RX8 cX8_sent 3 (some .int) (KA D dA) p s m args meth c A) (hR : 2 ≤ R.frames ∧ 45 ≤ R.locals) {res : Int32} (S : Mem) (x1 : Int32) (x2 : Int32) {H : Heap} {locs : List Loc} {ls : Array Slot} (hP : Wd D clA (shM dA) exM A ad S H) (hS : va_S A s.heap H locs) (hl : lv_has ls 3 [(0, .ref (ad M_o)), (1, .int x1), (2, .int x2)]) (hf : f_X8_sent S x1 x2 = some res) : W p l e R s m args below meth c H locs 0 0 (MQ below (QiR D (shM dA) exM A ad S res) args s 0 0 A) (F0 m 0 ls []) := by
  have hx := X.hx
  have hb := X.hb
  unfold f_X8_sent at hf
  refine lv_aload_n hx hb dX8_sent_0 rfl (lv_at hl 0 rfl) ?_
  refine lv_iload_n hx hb dX8_sent_1 rfl (lv_at hl 1 rfl) ?_
  refine lv_iload_n hx hb dX8_sent_2 rfl (lv_at hl 2 rfl) ?_
  refine lv_bipush (v := (-2)) hx hb dX8_sent_3 (by decide) ?_
  obtain ⟨v1, hq, hf⟩ := gB_some hf
  refine gc_i (gc_fixV (S := S) X (mt_X8_count l D dA A ad S x1 x2 ((-2) : Int32) hq) (lw_V q1319 q1321 qs42 q93 q1322) ⟨rfl, rfl⟩ hd_X8_count ⟨Nat.le_trans (Nat.le_of_ble_eq_true rfl) hR.1, Nat.le_trans (Nat.le_of_ble_eq_true rfl) hR.2⟩ (wd_recv (r := M_o) (ci := 0) (q := (RX8, TX8, 61)) X.hK.1 hP ⟨rfl, rfl⟩ rfl rfl) hP hS ⟨Nat.zero_le _, Nat.zero_le _⟩ rfl hl.1 rfl (Nat.le_of_ble_eq_true rfl) dX8_sent_5) hS ?_
  rintro _ _ H locs ⟨rfl, rfl⟩ hP hS
  exact gr_iR X hP hS (Option.some.inj hf) dX8_sent_8
theorem hd_X8_sent : yX8_sent.cls = RX8 ∧ yX8_sent.cls ≠ "java/lang/invoke/MethodHandle" ∧ yX8_sent.cls ≠ "java/lang/invoke/VarHandle" ∧ (parseMethodDescriptor yX8_sent.desc).map (fun d => d.parameters.length) = some 2 := by decide +kernel
set_option maxHeartbeats 4000000 in
theorem mt_X8_sent (l : Launch) (D : va_G) (dA : Nat → ClassId) (A : Nat → Prop) (ad : L3 → Nat) (S : Mem) (x1 : Int32) (x2 : Int32) {res : Int32} (hq : f_X8_sent S x1 x2 = some res) : Met l yX8_sent (ws_ yX8_sent cX8_sent 3 (some .int)) ({ frames := 2, cells := 0, slots := 0, locals := 45 } : Room) (va_Pc [.ref (ad M_o), .int x1, .int x2] (PreW D dA (shM dA) exM A ad S)) (QiR D (shM dA) exM A ad S res) 0 0 A :=
  gx_head (by decide) (Nat.le_of_ble_eq_true rfl) (fun p e s m below meth c ls X hP hl => w_X8_sent (l := l) X ⟨Nat.le_of_ble_eq_true rfl, Nat.le_of_ble_eq_true rfl⟩ S x1 x2 hP va_S.rf (lv_sub (l := [(0, .ref (ad M_o)), (1, .int x1), (2, .int x2)]) hl [0, 1, 2] rfl) hq)
set_option maxHeartbeats 4000000 in
theorem w_X8_sizeOf {p : Program} {l : Launch} {e : Env} {R : Room} {s : State} {m : MethodId} {args : Array Value} {below : List Frame} {meth : Method} {c : Code} {D : va_G} {dA : Nat → ClassId} {A : Nat → Prop} {ad : L3 → Nat} (X : CX RX8 cX8_sizeOf 2 (some .int) (KA D dA) p s m args meth c A) (hR : 1 ≤ R.frames ∧ 20 ≤ R.locals) {res : Int32} (S : Mem) (x0 : Int64) {H : Heap} {locs : List Loc} {ls : Array Slot} (hP : Wd D clA (shM dA) exM A ad S H) (hS : va_S A s.heap H locs) (hl : lv_has ls 2 [(0, .long x0)]) (hf : f_X8_sizeOf x0 = res) : W p l e R s m args below meth c H locs 0 0 (MQ below (QiR D (shM dA) exM A ad S res) args s 0 0 A) (F0 m 0 ls []) := by
  have hx := X.hx
  have hb := X.hb
  unfold f_X8_sizeOf at hf
  refine lv_lload_n hx hb dX8_sizeOf_0 rfl (lv_at hl 0 rfl) ?_
  refine lv_ldc2 hx hb X.hown (X.hts _ q1367) dX8_sizeOf_1 ?_
  refine gb_lcmp_ge (tgt := 12) hx hb dX8_sizeOf_4 dX8_sizeOf_5 (by decide) hf (fun hf => ?_) (fun hf => ?_)
  · refine lv_lload_n hx hb dX8_sizeOf_12 rfl (lv_at hl 0 rfl) ?_
    refine lv_ldc2 hx hb X.hown (X.hts _ q1478) dX8_sizeOf_13 ?_
    refine gb_lcmp_ge (tgt := 24) hx hb dX8_sizeOf_16 dX8_sizeOf_17 (by decide) hf (fun hf => ?_) (fun hf => ?_)
    · refine lv_lload_n hx hb dX8_sizeOf_24 rfl (lv_at hl 0 rfl) ?_
      refine lv_ldc2 hx hb X.hown (X.hts _ q1479) dX8_sizeOf_25 ?_
      refine gb_lcmp_ge (tgt := 36) hx hb dX8_sizeOf_28 dX8_sizeOf_29 (by decide) hf (fun hf => ?_) (fun hf => ?_)
      · refine lv_bipush (v := 8) hx hb dX8_sizeOf_36 (by decide) ?_
        exact gr_iR X hP hS hf dX8_sizeOf_38
      · refine lv_iconst (v := 4) hx hb dX8_sizeOf_32 (by decide) ?_
        refine lv_goto (tgt := 38) hx hb dX8_sizeOf_33 (by decide) ?_
        exact gr_iR X hP hS hf dX8_sizeOf_38
    · refine lv_iconst (v := 2) hx hb dX8_sizeOf_20 (by decide) ?_
      refine lv_goto (tgt := 38) hx hb dX8_sizeOf_21 (by decide) ?_
      exact gr_iR X hP hS hf dX8_sizeOf_38
  · refine lv_iconst (v := 1) hx hb dX8_sizeOf_8 (by decide) ?_
    refine lv_goto (tgt := 38) hx hb dX8_sizeOf_9 (by decide) ?_
    exact gr_iR X hP hS hf dX8_sizeOf_38
theorem hd_X8_sizeOf : yX8_sizeOf.cls = RX8 ∧ yX8_sizeOf.cls ≠ "java/lang/invoke/MethodHandle" ∧ yX8_sizeOf.cls ≠ "java/lang/invoke/VarHandle" ∧ (parseMethodDescriptor yX8_sizeOf.desc).map (fun d => d.parameters.length) = some 1 := by decide +kernel
set_option maxHeartbeats 4000000 in
theorem mt_X8_sizeOf (l : Launch) (D : va_G) (dA : Nat → ClassId) (A : Nat → Prop) (ad : L3 → Nat) (S : Mem) (x0 : Int64) {res : Int32} (hq : f_X8_sizeOf x0 = res) : Met l yX8_sizeOf (ws_ yX8_sizeOf cX8_sizeOf 2 (some .int)) ({ frames := 1, cells := 0, slots := 0, locals := 20 } : Room) (va_Pc [.long x0] (PreW D dA (shM dA) exM A ad S)) (QiR D (shM dA) exM A ad S res) 0 0 A :=
  gx_head (by decide) (Nat.le_of_ble_eq_true rfl) (fun p e s m below meth c ls X hP hl => w_X8_sizeOf (l := l) X ⟨Nat.le_of_ble_eq_true rfl, Nat.le_of_ble_eq_true rfl⟩ S x0 hP va_S.rf (lv_sub (l := [(0, .long x0)]) hl [0] rfl) hq)
set_option maxHeartbeats 4000000 in
theorem w_X8_bytes_38 {p : Program} {l : Launch} {e : Env} {R : Room} {s : State} {m : MethodId} {args : Array Value} {below : List Frame} {meth : Method} {c : Code} {D : va_G} {dA : Nat → ClassId} {A : Nat → Prop} {ad : L3 → Nat} (X : CX RX8 cX8_bytes 2 (some .int) (KA D dA) p s m args meth c A) (hR : 2 ≤ R.frames ∧ 41 ≤ R.locals) {res : Int32} (S : Mem) (y0 : Int32) (y1 : Int32) {H : Heap} {locs : List Loc} {ls : Array Slot} (hP : Wd D clA (shM dA) exM A ad S H) (hS : va_S A s.heap H locs) (hl : lv_has ls 2 [(0, .ref (ad M_o))]) (hf : f_X8_bytes_38 S y0 y1 = res) : W p l e R s m args below meth c H locs 0 0 (MQ below (QiR D (shM dA) exM A ad S res) args s 0 0 A) (F0 m 38 ls [.int y0, .int y1]) := by
  have hx := X.hx
  have hb := X.hb
  unfold f_X8_bytes_38 at hf
  refine lv_iadd hx hb dX8_bytes_38 ?_
  refine lv_aload_n hx hb dX8_bytes_39 rfl (lv_at hl 0 rfl) ?_
  refine rg_X8_319 X hP dX8_bytes_40 ?_
  refine lv_i2l hx hb dX8_bytes_43 rfl ?_
  obtain ⟨v1, hq, hf⟩ := gS_eq hf
  refine gc_i (gc_fixS (S := S) X (mt_X8_sizeOf l D dA A ad S (Int32.toInt64 (S.1 M_o 49)) hq) (lw_S q1475 q1476 q93 q1477) ⟨rfl, rfl⟩ hd_X8_sizeOf.2 ⟨Nat.le_trans (Nat.le_of_ble_eq_true rfl) hR.1, Nat.le_trans (Nat.le_of_ble_eq_true rfl) hR.2⟩ hP hS ⟨Nat.zero_le _, Nat.zero_le _⟩ rfl hl.1 rfl (Nat.le_of_ble_eq_true rfl) dX8_bytes_44) hS ?_
  rintro _ _ H locs ⟨rfl, rfl⟩ hP hS
  refine lv_iadd hx hb dX8_bytes_47 ?_
  refine lv_aload_n hx hb dX8_bytes_48 rfl (lv_at hl 0 rfl) ?_
  refine rg_X8_319 X hP dX8_bytes_49 ?_
  refine lv_iadd hx hb dX8_bytes_52 ?_
  exact gr_iR X hP hS hf dX8_bytes_53
set_option maxHeartbeats 4000000 in
theorem w_X8_bytes_108 {p : Program} {l : Launch} {e : Env} {R : Room} {s : State} {m : MethodId} {args : Array Value} {below : List Frame} {meth : Method} {c : Code} {D : va_G} {dA : Nat → ClassId} {A : Nat → Prop} {ad : L3 → Nat} (X : CX RX8 cX8_bytes 2 (some .int) (KA D dA) p s m args meth c A) (hR : 2 ≤ R.frames ∧ 41 ≤ R.locals) {res : Int32} (S : Mem) (x1 : Int32) {H : Heap} {locs : List Loc} {ls : Array Slot} (hP : Wd D clA (shM dA) exM A ad S H) (hS : va_S A s.heap H locs) (hl : lv_has ls 2 [(0, .ref (ad M_o)), (1, .int x1)]) (hf : f_X8_bytes_108 S x1 = res) : W p l e R s m args below meth c H locs 0 0 (MQ below (QiR D (shM dA) exM A ad S res) args s 0 0 A) (F0 m 108 ls []) := by
  have hx := X.hx
  have hb := X.hb
  unfold f_X8_bytes_108 at hf
  refine lv_aload_n hx hb dX8_bytes_108 rfl (lv_at hl 0 rfl) ?_
  refine rg_X8_336 X hP dX8_bytes_109 ?_
  refine lv_iconst (v := 4) hx hb dX8_bytes_112 (by decide) ?_
  refine gb_icmp_ne (tgt := 128) hx hb dX8_bytes_113 (by decide) hf (fun hf => ?_) (fun hf => ?_)
  · refine lv_iload_n hx hb dX8_bytes_128 rfl (lv_at hl 1 rfl) ?_
    exact gr_iR X hP hS hf dX8_bytes_129
  · refine lv_iload_n hx hb dX8_bytes_116 rfl (lv_at hl 1 rfl) ?_
    refine lv_aload_n hx hb dX8_bytes_117 rfl (lv_at hl 0 rfl) ?_
    refine rg_X8_322 X hP dX8_bytes_118 ?_
    obtain ⟨v1, hq, hf⟩ := gS_eq hf
    refine gc_i (gc_fixS (S := S) X (mt_X8_sizeOf l D dA A ad S (S.2 M_o 48) hq) (lw_S q1475 q1476 q93 q1477) ⟨rfl, rfl⟩ hd_X8_sizeOf.2 ⟨Nat.le_trans (Nat.le_of_ble_eq_true rfl) hR.1, Nat.le_trans (Nat.le_of_ble_eq_true rfl) hR.2⟩ hP hS ⟨Nat.zero_le _, Nat.zero_le _⟩ rfl hl.1 rfl (Nat.le_of_ble_eq_true rfl) dX8_bytes_121) hS ?_
    rintro _ _ H locs ⟨rfl, rfl⟩ hP hS
    refine lv_iadd hx hb dX8_bytes_124 ?_
    refine lv_goto (tgt := 129) hx hb dX8_bytes_125 (by decide) ?_
    exact gr_iR X hP hS hf dX8_bytes_129
set_option maxHeartbeats 4000000 in
theorem w_X8_bytes_98 {p : Program} {l : Launch} {e : Env} {R : Room} {s : State} {m : MethodId} {args : Array Value} {below : List Frame} {meth : Method} {c : Code} {D : va_G} {dA : Nat → ClassId} {A : Nat → Prop} {ad : L3 → Nat} (X : CX RX8 cX8_bytes 2 (some .int) (KA D dA) p s m args meth c A) (hR : 2 ≤ R.frames ∧ 41 ≤ R.locals) {res : Int32} (S : Mem) (x1 : Int32) {H : Heap} {locs : List Loc} {ls : Array Slot} (hP : Wd D clA (shM dA) exM A ad S H) (hS : va_S A s.heap H locs) (hl : lv_has ls 2 [(0, .ref (ad M_o)), (1, .int x1)]) (hf : f_X8_bytes_98 S x1 = res) : W p l e R s m args below meth c H locs 0 0 (MQ below (QiR D (shM dA) exM A ad S res) args s 0 0 A) (F0 m 98 ls []) := by
  have hx := X.hx
  have hb := X.hb
  unfold f_X8_bytes_98 at hf
  refine lv_iload_n hx hb dX8_bytes_98 rfl (lv_at hl 1 rfl) ?_
  refine lv_aload_n hx hb dX8_bytes_99 rfl (lv_at hl 0 rfl) ?_
  refine rg_X8_316 X hP dX8_bytes_100 ?_
  obtain ⟨v1, hq, hf⟩ := gS_eq hf
  refine gc_i (gc_fixS (S := S) X (mt_X8_sizeOf l D dA A ad S (S.2 M_o 47) hq) (lw_S q1475 q1476 q93 q1477) ⟨rfl, rfl⟩ hd_X8_sizeOf.2 ⟨Nat.le_trans (Nat.le_of_ble_eq_true rfl) hR.1, Nat.le_trans (Nat.le_of_ble_eq_true rfl) hR.2⟩ hP hS ⟨Nat.zero_le _, Nat.zero_le _⟩ rfl hl.1 rfl (Nat.le_of_ble_eq_true rfl) dX8_bytes_103) hS ?_
  rintro _ _ H locs ⟨rfl, rfl⟩ hP hS
  refine lv_iadd hx hb dX8_bytes_106 ?_
  refine lv_istore_n (lv' := [(1, .int (x1 + v1)), (0, .ref (ad M_o))]) hx hb dX8_bytes_107 rfl hl (by decide) rfl (fun ls hl => ?_)
  exact w_X8_bytes_108 X hR S (x1 + v1) hP hS (lv_sub hl [1, 0] rfl) hf
set_option maxHeartbeats 4000000 in
theorem w_X8_bytes {p : Program} {l : Launch} {e : Env} {R : Room} {s : State} {m : MethodId} {args : Array Value} {below : List Frame} {meth : Method} {c : Code} {D : va_G} {dA : Nat → ClassId} {A : Nat → Prop} {ad : L3 → Nat} (X : CX RX8 cX8_bytes 2 (some .int) (KA D dA) p s m args meth c A) (hR : 2 ≤ R.frames ∧ 41 ≤ R.locals) {res : Int32} (S : Mem) {H : Heap} {locs : List Loc} {ls : Array Slot} (hP : Wd D clA (shM dA) exM A ad S H) (hS : va_S A s.heap H locs) (hl : lv_has ls 2 [(0, .ref (ad M_o))]) (hf : f_X8_bytes S = res) : W p l e R s m args below meth c H locs 0 0 (MQ below (QiR D (shM dA) exM A ad S res) args s 0 0 A) (F0 m 0 ls []) := by
  have hx := X.hx
  have hb := X.hb
  unfold f_X8_bytes at hf
  refine lv_aload_n hx hb dX8_bytes_0 rfl (lv_at hl 0 rfl) ?_
  refine rg_X8_336 X hP dX8_bytes_1 ?_
  refine lv_bipush (v := 8) hx hb dX8_bytes_4 (by decide) ?_
  refine gb_icmp_ne (tgt := 54) hx hb dX8_bytes_6 (by decide) hf (fun hf => ?_) (fun hf => ?_)
  · refine lv_iconst (v := 1) hx hb dX8_bytes_54 (by decide) ?_
    refine lv_aload_n hx hb dX8_bytes_55 rfl (lv_at hl 0 rfl) ?_
    refine rg_X8_308 X hP dX8_bytes_56 ?_
    obtain ⟨v1, hq, hf⟩ := gS_eq hf
    refine gc_i (gc_fixS (S := S) X (mt_X8_sizeOf l D dA A ad S (S.2 M_o 46) hq) (lw_S q1475 q1476 q93 q1477) ⟨rfl, rfl⟩ hd_X8_sizeOf.2 ⟨Nat.le_trans (Nat.le_of_ble_eq_true rfl) hR.1, Nat.le_trans (Nat.le_of_ble_eq_true rfl) hR.2⟩ hP hS ⟨Nat.zero_le _, Nat.zero_le _⟩ rfl hl.1 rfl (Nat.le_of_ble_eq_true rfl) dX8_bytes_59) hS ?_
    rintro _ _ H locs ⟨rfl, rfl⟩ hP hS
    refine lv_iadd hx hb dX8_bytes_62 ?_
    refine lv_istore_n (lv' := [(1, .int (1 + v1)), (0, .ref (ad M_o))]) hx hb dX8_bytes_63 rfl hl (by decide) rfl (fun ls hl => ?_)
    refine lv_aload_n hx hb dX8_bytes_64 rfl (lv_at hl 1 rfl) ?_
    refine rg_X8_336 X hP dX8_bytes_65 ?_
    refine lv_iconst (v := 4) hx hb dX8_bytes_68 (by decide) ?_
    refine gb_icmp_eq (tgt := 98) hx hb dX8_bytes_69 (by decide) hf (fun hf => ?_) (fun hf => ?_)
    · exact w_X8_bytes_98 X hR S (1 + v1) hP hS (lv_sub hl [1, 0] rfl) hf
    · refine lv_aload_n hx hb dX8_bytes_72 rfl (lv_at hl 1 rfl) ?_
      refine rg_X8_336 X hP dX8_bytes_73 ?_
      refine lv_iconst (v := 5) hx hb dX8_bytes_76 (by decide) ?_
      refine gb_icmp_eq (tgt := 98) hx hb dX8_bytes_77 (by decide) hf (fun hf => ?_) (fun hf => ?_)
      · exact w_X8_bytes_98 X hR S (1 + v1) hP hS (lv_sub hl [1, 0] rfl) hf
      · refine lv_aload_n hx hb dX8_bytes_80 rfl (lv_at hl 1 rfl) ?_
        refine rg_X8_336 X hP dX8_bytes_81 ?_
        refine lv_bipush (v := 17) hx hb dX8_bytes_84 (by decide) ?_
        refine gb_icmp_eq (tgt := 98) hx hb dX8_bytes_86 (by decide) hf (fun hf => ?_) (fun hf => ?_)
        · exact w_X8_bytes_98 X hR S (1 + v1) hP hS (lv_sub hl [1, 0] rfl) hf
        · refine lv_aload_n hx hb dX8_bytes_89 rfl (lv_at hl 1 rfl) ?_
          refine rg_X8_336 X hP dX8_bytes_90 ?_
          refine lv_bipush (v := 21) hx hb dX8_bytes_93 (by decide) ?_
          refine gb_icmp_ne (tgt := 108) hx hb dX8_bytes_95 (by decide) hf (fun hf => ?_) (fun hf => ?_)
          · exact w_X8_bytes_108 X hR S (1 + v1) hP hS (lv_sub hl [1, 0] rfl) hf
          · exact w_X8_bytes_98 X hR S (1 + v1) hP hS (lv_sub hl [1, 0] rfl) hf
  · refine lv_iconst (v := 1) hx hb dX8_bytes_9 (by decide) ?_
    refine lv_aload_n hx hb dX8_bytes_10 rfl (lv_at hl 0 rfl) ?_
    refine rg_X8_308 X hP dX8_bytes_11 ?_
    obtain ⟨v2, hq, hf⟩ := gS_eq hf
    refine gc_i (gc_fixS (S := S) X (mt_X8_sizeOf l D dA A ad S (S.2 M_o 46) hq) (lw_S q1475 q1476 q93 q1477) ⟨rfl, rfl⟩ hd_X8_sizeOf.2 ⟨Nat.le_trans (Nat.le_of_ble_eq_true rfl) hR.1, Nat.le_trans (Nat.le_of_ble_eq_true rfl) hR.2⟩ hP hS ⟨Nat.zero_le _, Nat.zero_le _⟩ rfl hl.1 rfl (Nat.le_of_ble_eq_true rfl) dX8_bytes_14) hS ?_
    rintro _ _ H locs ⟨rfl, rfl⟩ hP hS
    refine lv_iadd hx hb dX8_bytes_17 ?_
    refine lv_aload_n hx hb dX8_bytes_18 rfl (lv_at hl 0 rfl) ?_
    refine rg_X8_316 X hP dX8_bytes_19 ?_
    refine lv_lconst (v := 0) hx hb dX8_bytes_22 (by decide) ?_
    refine gb_lcmp_le (tgt := 37) hx hb dX8_bytes_23 dX8_bytes_24 (by decide) hf (fun hf => ?_) (fun hf => ?_)
    · refine lv_iconst (v := 0) hx hb dX8_bytes_37 (by decide) ?_
      exact w_X8_bytes_38 X hR S 0 (1 + v2) hP hS (lv_sub hl [0] rfl) hf
    · refine lv_aload_n hx hb dX8_bytes_27 rfl (lv_at hl 0 rfl) ?_
      refine rg_X8_316 X hP dX8_bytes_28 ?_
      obtain ⟨v3, hq, hf⟩ := gS_eq hf
      refine gc_i (gc_fixS (S := S) X (mt_X8_sizeOf l D dA A ad S (S.2 M_o 47) hq) (lw_S q1475 q1476 q93 q1477) ⟨rfl, rfl⟩ hd_X8_sizeOf.2 ⟨Nat.le_trans (Nat.le_of_ble_eq_true rfl) hR.1, Nat.le_trans (Nat.le_of_ble_eq_true rfl) hR.2⟩ hP hS ⟨Nat.zero_le _, Nat.zero_le _⟩ rfl hl.1 rfl (Nat.le_of_ble_eq_true rfl) dX8_bytes_31) hS ?_
      rintro _ _ H locs ⟨rfl, rfl⟩ hP hS
      refine lv_goto (tgt := 38) hx hb dX8_bytes_34 (by decide) ?_
      exact w_X8_bytes_38 X hR S v3 (1 + v2) hP hS (lv_sub hl [0] rfl) hf
theorem hd_X8_bytes : yX8_bytes.cls = RX8 ∧ yX8_bytes.cls ≠ "java/lang/invoke/MethodHandle" ∧ yX8_bytes.cls ≠ "java/lang/invoke/VarHandle" ∧ (parseMethodDescriptor yX8_bytes.desc).map (fun d => d.parameters.length) = some 0 := by decide +kernel
set_option maxHeartbeats 4000000 in
theorem mt_X8_bytes (l : Launch) (D : va_G) (dA : Nat → ClassId) (A : Nat → Prop) (ad : L3 → Nat) (S : Mem) {res : Int32} (hq : f_X8_bytes S = res) : Met l yX8_bytes (ws_ yX8_bytes cX8_bytes 2 (some .int)) ({ frames := 2, cells := 0, slots := 0, locals := 41 } : Room) (va_Pc [.ref (ad M_o)] (PreW D dA (shM dA) exM A ad S)) (QiR D (shM dA) exM A ad S res) 0 0 A :=
  gx_head (by decide) (Nat.le_of_ble_eq_true rfl) (fun p e s m below meth c ls X hP hl => w_X8_bytes (l := l) X ⟨Nat.le_of_ble_eq_true rfl, Nat.le_of_ble_eq_true rfl⟩ S hP va_S.rf (lv_sub (l := [(0, .ref (ad M_o))]) hl [0] rfl) hq)
set_option maxHeartbeats 4000000 in
theorem w_X8_lays {p : Program} {l : Launch} {e : Env} {R : Room} {s : State} {m : MethodId} {args : Array Value} {below : List Frame} {meth : Method} {c : Code} {D : va_G} {dA : Nat → ClassId} {A : Nat → Prop} {ad : L3 → Nat} (X : CX RX8 cX8_lays 9 (some .boolean) (KA D dA) p s m args meth c A) (hR : 3 ≤ R.frames ∧ 62 ≤ R.locals) {res : Mem × Int32} (S : Mem) (x1 : Int32) (x2 : Int64) (x4 : Int64) (x6 : Int64) (x8 : Int32) {H : Heap} {locs : List Loc} {ls : Array Slot} (hP : Wd D clA (shM dA) exM A ad S H) (hS : va_S A s.heap H locs) (hl : lv_has ls 9 [(0, .ref (ad M_o)), (1, .int x1), (2, .long x2), (4, .long x4), (6, .long x6), (8, .int x8)]) (hf : f_X8_lays S x1 x2 x4 x6 x8 = res) : W p l e R s m args below meth c H locs 0 0 (MQ below (QiW D (shM dA) exM A ad res) args s 0 0 A) (F0 m 0 ls []) := by
  have hx := X.hx
  have hb := X.hb
  unfold f_X8_lays at hf
  refine lv_aload_n hx hb dX8_lays_0 rfl (lv_at hl 0 rfl) ?_
  refine lv_iload_n hx hb dX8_lays_1 rfl (lv_at hl 1 rfl) ?_
  refine rp_X8_336 X hP hS dX8_lays_2 hf (fun S1 H locs hP hS hf => ?_)
  refine lv_aload_n hx hb dX8_lays_5 rfl (lv_at hl 0 rfl) ?_
  refine lv_lload_n hx hb dX8_lays_6 rfl (lv_at hl 2 rfl) ?_
  refine rp_X8_308 X hP hS dX8_lays_7 hf (fun S2 H locs hP hS hf => ?_)
  refine lv_aload_n hx hb dX8_lays_10 rfl (lv_at hl 0 rfl) ?_
  refine lv_lload hx hb dX8_lays_11 (lv_at hl 3 rfl) ?_
  refine rp_X8_316 X hP hS dX8_lays_13 hf (fun S3 H locs hP hS hf => ?_)
  refine lv_aload_n hx hb dX8_lays_16 rfl (lv_at hl 0 rfl) ?_
  refine lv_lload hx hb dX8_lays_17 (lv_at hl 4 rfl) ?_
  refine rp_X8_322 X hP hS dX8_lays_19 hf (fun S4 H locs hP hS hf => ?_)
  refine lv_aload_n hx hb dX8_lays_22 rfl (lv_at hl 0 rfl) ?_
  refine lv_iconst (v := 0) hx hb dX8_lays_23 (by decide) ?_
  refine rp_X8_319 X hP hS dX8_lays_24 hf (fun S5 H locs hP hS hf => ?_)
  refine lv_aload_n hx hb dX8_lays_27 rfl (lv_at hl 0 rfl) ?_
  obtain ⟨v6, hq, hf⟩ := gS_eq hf
  refine gc_i (gc_fixV (S := S5) X (mt_X8_bytes l D dA A ad S5 hq) (lw_V q1471 q1473 qs70 q93 q1474) ⟨rfl, rfl⟩ hd_X8_bytes ⟨Nat.le_trans (Nat.le_of_ble_eq_true rfl) hR.1, Nat.le_trans (Nat.le_of_ble_eq_true rfl) hR.2⟩ (wd_recv (r := M_o) (ci := 0) (q := (RX8, TX8, 61)) X.hK.1 hP ⟨rfl, rfl⟩ rfl rfl) hP hS ⟨Nat.zero_le _, Nat.zero_le _⟩ rfl hl.1 rfl (Nat.le_of_ble_eq_true rfl) dX8_lays_28) hS ?_
  rintro _ _ H locs ⟨rfl, rfl⟩ hP hS
  refine lv_iload hx hb dX8_lays_31 (lv_at hl 5 rfl) ?_
  refine gb_icmp_gt (tgt := 40) hx hb dX8_lays_33 (by decide) hf (fun hf => ?_) (fun hf => ?_)
  · refine lv_iconst (v := 0) hx hb dX8_lays_40 (by decide) ?_
    exact gr_zW X hP hS hf (by decide) dX8_lays_41
  · refine lv_iconst (v := 1) hx hb dX8_lays_36 (by decide) ?_
    refine lv_goto (tgt := 41) hx hb dX8_lays_37 (by decide) ?_
    exact gr_zW X hP hS hf (by decide) dX8_lays_41
theorem hd_X8_lays : yX8_lays.cls = RX8 ∧ yX8_lays.cls ≠ "java/lang/invoke/MethodHandle" ∧ yX8_lays.cls ≠ "java/lang/invoke/VarHandle" ∧ (parseMethodDescriptor yX8_lays.desc).map (fun d => d.parameters.length) = some 5 := by decide +kernel
set_option maxHeartbeats 4000000 in
theorem mt_X8_lays (l : Launch) (D : va_G) (dA : Nat → ClassId) (A : Nat → Prop) (ad : L3 → Nat) (S : Mem) (x1 : Int32) (x2 : Int64) (x4 : Int64) (x6 : Int64) (x8 : Int32) {res : Mem × Int32} (hq : f_X8_lays S x1 x2 x4 x6 x8 = res) : Met l yX8_lays (ws_ yX8_lays cX8_lays 9 (some .boolean)) ({ frames := 3, cells := 0, slots := 0, locals := 62 } : Room) (va_Pc [.ref (ad M_o), .int x1, .long x2, .long x4, .long x6, .int x8] (PreW D dA (shM dA) exM A ad S)) (QiW D (shM dA) exM A ad res) 0 0 A :=
  gx_head (by decide) (Nat.le_of_ble_eq_true rfl) (fun p e s m below meth c ls X hP hl => w_X8_lays (l := l) X ⟨Nat.le_of_ble_eq_true rfl, Nat.le_of_ble_eq_true rfl⟩ S x1 x2 x4 x6 x8 hP va_S.rf (lv_sub (l := [(0, .ref (ad M_o)), (1, .int x1), (2, .long x2), (4, .long x4), (6, .long x6), (8, .int x8)]) hl [0, 1, 2, 3, 4, 5] rfl) hq)
set_option maxHeartbeats 4000000 in
theorem w_X8_fillsResets_72 {p : Program} {l : Launch} {e : Env} {R : Room} {s : State} {m : MethodId} {args : Array Value} {below : List Frame} {meth : Method} {c : Code} {D : va_G} {dA : Nat → ClassId} {A : Nat → Prop} {ad : L3 → Nat} (X : CX RX8 cX8_fillsResets 5 (some .boolean) (KA D dA) p s m args meth c A) (hR : 5 ≤ R.frames ∧ 116 ≤ R.locals) {res : Mem × Int32} (k2 : Mem → Int32 → Int32 → Int32 → Option (Mem × Int32)) (hk2 : ∀ (S : Mem) (x1 : Int32) (x2 : Int32) (x3 : Int32) (H : Heap) (locs : List Loc) (ls : Array Slot), Wd D clA (shM dA) exM A ad S H → va_S A s.heap H locs → lv_has ls 5 [(0, .ref (ad M_o)), (1, .int x1), (2, .int x2), (3, .int x3)] → k2 S x1 x2 x3 = some res → W p l e R s m args below meth c H locs 0 0 (MQ below (QiW D (shM dA) exM A ad res) args s 0 0 A) (F0 m 2 ls [])) (S : Mem) (x1 : Int32) (x2 : Int32) (x3 : Int32) {H : Heap} {locs : List Loc} {ls : Array Slot} (hP : Wd D clA (shM dA) exM A ad S H) (hS : va_S A s.heap H locs) (hl : lv_has ls 5 [(0, .ref (ad M_o)), (1, .int x1), (2, .int x2), (3, .int x3)]) (hf : f_X8_fillsResets_72 k2 S x1 x2 x3 = some res) : W p l e R s m args below meth c H locs 0 0 (MQ below (QiW D (shM dA) exM A ad res) args s 0 0 A) (F0 m 72 ls []) := by
  have hx := X.hx
  have hb := X.hb
  unfold f_X8_fillsResets_72 at hf
  refine lv_iinc (v := (x3 + 1)) (lv' := [(3, .int (x3 + 1)), (0, .ref (ad M_o)), (1, .int x1), (2, .int x2)]) hx hb dX8_fillsResets_72 hl (k := 3) rfl rfl (by decide) rfl (fun ls hl => ?_)
  refine lv_goto (tgt := 2) hx hb dX8_fillsResets_75 (by decide) ?_
  exact hk2 S x1 x2 (x3 + 1) _ _ _ hP hS (lv_sub hl [1, 2, 3, 0] rfl) hf
set_option maxHeartbeats 4000000 in
theorem w_X8_fillsResets_143 {p : Program} {l : Launch} {e : Env} {R : Room} {s : State} {m : MethodId} {args : Array Value} {below : List Frame} {meth : Method} {c : Code} {D : va_G} {dA : Nat → ClassId} {A : Nat → Prop} {ad : L3 → Nat} (X : CX RX8 cX8_fillsResets 5 (some .boolean) (KA D dA) p s m args meth c A) (hR : 5 ≤ R.frames ∧ 116 ≤ R.locals) {res : Mem × Int32} (k80 : Mem → Int32 → Int32 → Int32 → Option (Mem × Int32)) (hk80 : ∀ (S : Mem) (x1 : Int32) (x2 : Int32) (x3 : Int32) (H : Heap) (locs : List Loc) (ls : Array Slot), Wd D clA (shM dA) exM A ad S H → va_S A s.heap H locs → lv_has ls 5 [(0, .ref (ad M_o)), (1, .int x1), (2, .int x2), (3, .int x3)] → k80 S x1 x2 x3 = some res → W p l e R s m args below meth c H locs 0 0 (MQ below (QiW D (shM dA) exM A ad res) args s 0 0 A) (F0 m 80 ls [])) (S : Mem) (x1 : Int32) (x2 : Int32) (x3 : Int32) {H : Heap} {locs : List Loc} {ls : Array Slot} (hP : Wd D clA (shM dA) exM A ad S H) (hS : va_S A s.heap H locs) (hl : lv_has ls 5 [(0, .ref (ad M_o)), (1, .int x1), (2, .int x2), (3, .int x3)]) (hf : f_X8_fillsResets_143 k80 S x1 x2 x3 = some res) : W p l e R s m args below meth c H locs 0 0 (MQ below (QiW D (shM dA) exM A ad res) args s 0 0 A) (F0 m 143 ls []) := by
  have hx := X.hx
  have hb := X.hb
  unfold f_X8_fillsResets_143 at hf
  refine lv_iinc (v := (x3 + 1)) (lv' := [(3, .int (x3 + 1)), (0, .ref (ad M_o)), (1, .int x1), (2, .int x2)]) hx hb dX8_fillsResets_143 hl (k := 3) rfl rfl (by decide) rfl (fun ls hl => ?_)
  refine lv_goto (tgt := 80) hx hb dX8_fillsResets_146 (by decide) ?_
  exact hk80 S x1 x2 (x3 + 1) _ _ _ hP hS (lv_sub hl [1, 2, 3, 0] rfl) hf
set_option maxHeartbeats 4000000 in
theorem w_X8_fillsResets_80_b {p : Program} {l : Launch} {e : Env} {R : Room} {s : State} {m : MethodId} {args : Array Value} {below : List Frame} {meth : Method} {c : Code} {D : va_G} {dA : Nat → ClassId} {A : Nat → Prop} {ad : L3 → Nat} (X : CX RX8 cX8_fillsResets 5 (some .boolean) (KA D dA) p s m args meth c A) (hR : 5 ≤ R.frames ∧ 116 ≤ R.locals) {res : Mem × Int32} (k80 : Mem → Int32 → Int32 → Int32 → Option (Mem × Int32)) (hk80 : ∀ (S : Mem) (x1 : Int32) (x2 : Int32) (x3 : Int32) (H : Heap) (locs : List Loc) (ls : Array Slot), Wd D clA (shM dA) exM A ad S H → va_S A s.heap H locs → lv_has ls 5 [(0, .ref (ad M_o)), (1, .int x1), (2, .int x2), (3, .int x3)] → k80 S x1 x2 x3 = some res → W p l e R s m args below meth c H locs 0 0 (MQ below (QiW D (shM dA) exM A ad res) args s 0 0 A) (F0 m 80 ls [])) (S : Mem) (x1 : Int32) (x2 : Int32) (x3 : Int32) {H : Heap} {locs : List Loc} {ls : Array Slot} (hP : Wd D clA (shM dA) exM A ad S H) (hS : va_S A s.heap H locs) (hl : lv_has ls 5 [(0, .ref (ad M_o)), (1, .int x1), (2, .int x2), (3, .int x3)]) (hf : f_X8_fillsResets_80_b k80 S x1 x2 x3 = some res) : W p l e R s m args below meth c H locs 0 0 (MQ below (QiW D (shM dA) exM A ad res) args s 0 0 A) (F0 m 80 ls []) := by
  have hx := X.hx
  have hb := X.hb
  unfold f_X8_fillsResets_80_b at hf
  refine lv_iload_n hx hb dX8_fillsResets_80 rfl (lv_at hl 3 rfl) ?_
  refine lv_sipush (v := 256) hx hb dX8_fillsResets_81 (by decide) ?_
  refine gb_icmp_ge (tgt := 149) hx hb dX8_fillsResets_84 (by decide) hf (fun hf => ?_) (fun hf => ?_)
  · refine lv_iconst (v := 0) hx hb dX8_fillsResets_149 (by decide) ?_
    exact gr_zW X hP hS (Option.some.inj hf) (by decide) dX8_fillsResets_150
  · refine lv_iload_n hx hb dX8_fillsResets_87 rfl (lv_at hl 1 rfl) ?_
    refine lv_iload_n hx hb dX8_fillsResets_88 rfl (lv_at hl 3 rfl) ?_
    obtain ⟨v1, hq, hf⟩ := gS_eq hf
    refine gc_i (gc_fixS (S := S) X (mt_X8_at l D dA A ad S x1 x3 hq) (lw_S q1283 q1284 q93 q1285) ⟨rfl, rfl⟩ hd_X8_at.2 ⟨Nat.le_trans (Nat.le_of_ble_eq_true rfl) hR.1, Nat.le_trans (Nat.le_of_ble_eq_true rfl) hR.2⟩ hP hS ⟨Nat.zero_le _, Nat.zero_le _⟩ rfl hl.1 rfl (Nat.le_of_ble_eq_true rfl) dX8_fillsResets_89) hS ?_
    rintro _ _ H locs ⟨rfl, rfl⟩ hP hS
    refine lv_istore (lv' := [(4, .int v1), (0, .ref (ad M_o)), (1, .int x1), (2, .int x2), (3, .int x3)]) hx hb dX8_fillsResets_92 hl (by decide) rfl (fun ls hl => ?_)
    refine lv_aload_n hx hb dX8_fillsResets_94 rfl (lv_at hl 1 rfl) ?_
    refine rg_X8_99 X hP dX8_fillsResets_95 ?_
    refine lv_iload hx hb dX8_fillsResets_98 (lv_at hl 0 rfl) ?_
    refine ra_tellStop_ld X hP dX8_fillsResets_100 hf (fun hf => ?_)
    refine gb_if_eq (tgt := 143) hx hb dX8_fillsResets_101 (by decide) hf (fun hf => ?_) (fun hf => ?_)
    · exact w_X8_fillsResets_143 X hR k80 hk80 S x1 x2 x3 hP hS (lv_sub hl [1, 2, 3, 4] rfl) hf
    · refine lv_aload_n hx hb dX8_fillsResets_104 rfl (lv_at hl 1 rfl) ?_
      refine lv_iload_n hx hb dX8_fillsResets_105 rfl (lv_at hl 2 rfl) ?_
      refine lv_iload_n hx hb dX8_fillsResets_106 rfl (lv_at hl 4 rfl) ?_
      obtain ⟨v2, hq, hf⟩ := gB_some hf
      refine gc_i (gc_fixV (S := S) X (mt_X8_receiving l D dA A ad S x1 x3 hq) (lw_V q1355 q1357 qs47 q93 q1358) ⟨rfl, rfl⟩ hd_X8_receiving ⟨Nat.le_trans (Nat.le_of_ble_eq_true rfl) hR.1, Nat.le_trans (Nat.le_of_ble_eq_true rfl) hR.2⟩ (wd_recv (r := M_o) (ci := 0) (q := (RX8, TX8, 61)) X.hK.1 hP ⟨rfl, rfl⟩ rfl rfl) hP hS ⟨Nat.zero_le _, Nat.zero_le _⟩ rfl hl.1 rfl (Nat.le_of_ble_eq_true rfl) dX8_fillsResets_107) hS ?_
      rintro _ _ H locs ⟨rfl, rfl⟩ hP hS
      refine lv_iconst (v := 2) hx hb dX8_fillsResets_110 (by decide) ?_
      refine gb_icmp_ge (tgt := 143) hx hb dX8_fillsResets_111 (by decide) hf (fun hf => ?_) (fun hf => ?_)
      · exact w_X8_fillsResets_143 X hR k80 hk80 S x1 x2 x3 hP hS (lv_sub hl [1, 2, 3, 4] rfl) hf
      · refine lv_aload_n hx hb dX8_fillsResets_114 rfl (lv_at hl 1 rfl) ?_
        refine lv_iconst (v := 5) hx hb dX8_fillsResets_115 (by decide) ?_
        refine lv_iload_n hx hb dX8_fillsResets_116 rfl (lv_at hl 4 rfl) ?_
        refine lv_i2l hx hb dX8_fillsResets_117 rfl ?_
        refine lv_aload_n hx hb dX8_fillsResets_118 rfl (lv_at hl 1 rfl) ?_
        refine rg_X8_102 X hP dX8_fillsResets_119 ?_
        refine lv_iload hx hb dX8_fillsResets_122 (lv_at hl 0 rfl) ?_
        refine ra_stopCode_ld X hP dX8_fillsResets_124 hf (fun hf => ?_)
        refine lv_lconst (v := 0) hx hb dX8_fillsResets_125 (by decide) ?_
        refine lv_iload_n hx hb dX8_fillsResets_126 rfl (lv_at hl 3 rfl) ?_
        obtain ⟨S3, v4, hq, hf⟩ := gS2_eq hf
        refine gc_i (gc_fixV (S := S) X (mt_X8_lays l D dA A ad S (5 : Int32) (Int32.toInt64 x3) (S.2 M_stopCode (Int32.toNatClampNeg v1)) (0 : Int64) x2 hq) (lw_V q1467 q1469 qs69 q93 q1470) ⟨rfl, rfl⟩ hd_X8_lays ⟨Nat.le_trans (Nat.le_of_ble_eq_true rfl) hR.1, Nat.le_trans (Nat.le_of_ble_eq_true rfl) hR.2⟩ (wd_recv (r := M_o) (ci := 0) (q := (RX8, TX8, 61)) X.hK.1 hP ⟨rfl, rfl⟩ rfl rfl) hP hS ⟨Nat.zero_le _, Nat.zero_le _⟩ rfl hl.1 rfl (Nat.le_of_ble_eq_true rfl) dX8_fillsResets_127) hS ?_
        rintro _ _ H locs ⟨⟩ hP hS
        refine gb_if_eq (tgt := 143) hx hb dX8_fillsResets_130 (by decide) hf (fun hf => ?_) (fun hf => ?_)
        · exact w_X8_fillsResets_143 X hR k80 hk80 S3 x1 x2 x3 hP hS (lv_sub hl [1, 2, 3, 4] rfl) hf
        · refine lv_aload_n hx hb dX8_fillsResets_133 rfl (lv_at hl 1 rfl) ?_
          refine rg_X8_99 X hP dX8_fillsResets_134 ?_
          refine lv_iload hx hb dX8_fillsResets_137 (lv_at hl 0 rfl) ?_
          refine lv_iconst (v := 0) hx hb dX8_fillsResets_139 (by decide) ?_
          refine ra_tellStop_st X hP hS dX8_fillsResets_140 hf (fun S5 H locs hP hS hf => ?_)
          refine lv_iconst (v := 1) hx hb dX8_fillsResets_141 (by decide) ?_
          exact gr_zW X hP hS (Option.some.inj hf) (by decide) dX8_fillsResets_142
set_option maxHeartbeats 4000000 in
theorem w_X8_fillsResets_80 {p : Program} {l : Launch} {e : Env} {R : Room} {s : State} {m : MethodId} {args : Array Value} {below : List Frame} {meth : Method} {c : Code} {D : va_G} {dA : Nat → ClassId} {A : Nat → Prop} {ad : L3 → Nat} (X : CX RX8 cX8_fillsResets 5 (some .boolean) (KA D dA) p s m args meth c A) (hR : 5 ≤ R.frames ∧ 116 ≤ R.locals) {res : Mem × Int32} (n : Nat) : ∀ (S : Mem) (x1 : Int32) (x2 : Int32) (x3 : Int32) (H : Heap) (locs : List Loc) (ls : Array Slot), Wd D clA (shM dA) exM A ad S H → va_S A s.heap H locs → lv_has ls 5 [(0, .ref (ad M_o)), (1, .int x1), (2, .int x2), (3, .int x3)] → f_X8_fillsResets_80 n S x1 x2 x3 = some res → W p l e R s m args below meth c H locs 0 0 (MQ below (QiW D (shM dA) exM A ad res) args s 0 0 A) (F0 m 80 ls []) := by
  induction n with
  | zero =>
    intro S x1 x2 x3 H locs ls hP hS hl hf
    exact absurd (show none = some res from hf) (fun h => by cases h)
  | succ n ih =>
    intro S x1 x2 x3 H locs ls hP hS hl hf
    exact w_X8_fillsResets_80_b X hR (f_X8_fillsResets_80 n) ih S x1 x2 x3 hP hS hl hf
set_option maxHeartbeats 4000000 in
theorem w_X8_fillsResets_2_b {p : Program} {l : Launch} {e : Env} {R : Room} {s : State} {m : MethodId} {args : Array Value} {below : List Frame} {meth : Method} {c : Code} {D : va_G} {dA : Nat → ClassId} {A : Nat → Prop} {ad : L3 → Nat} (X : CX RX8 cX8_fillsResets 5 (some .boolean) (KA D dA) p s m args meth c A) (hR : 5 ≤ R.frames ∧ 116 ≤ R.locals) {res : Mem × Int32} (k2 : Mem → Int32 → Int32 → Int32 → Option (Mem × Int32)) (hk2 : ∀ (S : Mem) (x1 : Int32) (x2 : Int32) (x3 : Int32) (H : Heap) (locs : List Loc) (ls : Array Slot), Wd D clA (shM dA) exM A ad S H → va_S A s.heap H locs → lv_has ls 5 [(0, .ref (ad M_o)), (1, .int x1), (2, .int x2), (3, .int x3)] → k2 S x1 x2 x3 = some res → W p l e R s m args below meth c H locs 0 0 (MQ below (QiW D (shM dA) exM A ad res) args s 0 0 A) (F0 m 2 ls [])) (S : Mem) (x1 : Int32) (x2 : Int32) (x3 : Int32) {H : Heap} {locs : List Loc} {ls : Array Slot} (hP : Wd D clA (shM dA) exM A ad S H) (hS : va_S A s.heap H locs) (hl : lv_has ls 5 [(0, .ref (ad M_o)), (1, .int x1), (2, .int x2), (3, .int x3)]) (hf : f_X8_fillsResets_2_b k2 S x1 x2 x3 = some res) : W p l e R s m args below meth c H locs 0 0 (MQ below (QiW D (shM dA) exM A ad res) args s 0 0 A) (F0 m 2 ls []) := by
  have hx := X.hx
  have hb := X.hb
  unfold f_X8_fillsResets_2_b at hf
  refine lv_iload_n hx hb dX8_fillsResets_2 rfl (lv_at hl 3 rfl) ?_
  refine lv_sipush (v := 256) hx hb dX8_fillsResets_3 (by decide) ?_
  refine gb_icmp_ge (tgt := 78) hx hb dX8_fillsResets_6 (by decide) hf (fun hf => ?_) (fun hf => ?_)
  · refine lv_iconst (v := 0) hx hb dX8_fillsResets_78 (by decide) ?_
    refine lv_istore_n (lv' := [(3, .int 0), (0, .ref (ad M_o)), (1, .int x1), (2, .int x2)]) hx hb dX8_fillsResets_79 rfl hl (by decide) rfl (fun ls hl => ?_)
    exact w_X8_fillsResets_80 X hR FU S x1 x2 0 _ _ _ hP hS (lv_sub hl [1, 2, 3, 0] rfl) hf
  · refine lv_iload_n hx hb dX8_fillsResets_9 rfl (lv_at hl 1 rfl) ?_
    refine lv_iload_n hx hb dX8_fillsResets_10 rfl (lv_at hl 3 rfl) ?_
    obtain ⟨v1, hq, hf⟩ := gS_eq hf
    refine gc_i (gc_fixS (S := S) X (mt_X8_at l D dA A ad S x1 x3 hq) (lw_S q1283 q1284 q93 q1285) ⟨rfl, rfl⟩ hd_X8_at.2 ⟨Nat.le_trans (Nat.le_of_ble_eq_true rfl) hR.1, Nat.le_trans (Nat.le_of_ble_eq_true rfl) hR.2⟩ hP hS ⟨Nat.zero_le _, Nat.zero_le _⟩ rfl hl.1 rfl (Nat.le_of_ble_eq_true rfl) dX8_fillsResets_11) hS ?_
    rintro _ _ H locs ⟨rfl, rfl⟩ hP hS
    refine lv_istore (lv' := [(4, .int v1), (0, .ref (ad M_o)), (1, .int x1), (2, .int x2), (3, .int x3)]) hx hb dX8_fillsResets_14 hl (by decide) rfl (fun ls hl => ?_)
    refine lv_aload_n hx hb dX8_fillsResets_16 rfl (lv_at hl 1 rfl) ?_
    refine rg_X8_66 X hP dX8_fillsResets_17 ?_
    refine lv_iload hx hb dX8_fillsResets_20 (lv_at hl 0 rfl) ?_
    refine ra_tellReset_ld X hP dX8_fillsResets_22 hf (fun hf => ?_)
    refine gb_if_eq (tgt := 72) hx hb dX8_fillsResets_23 (by decide) hf (fun hf => ?_) (fun hf => ?_)
    · exact w_X8_fillsResets_72 X hR k2 hk2 S x1 x2 x3 hP hS (lv_sub hl [1, 2, 3, 4] rfl) hf
    · refine lv_aload_n hx hb dX8_fillsResets_26 rfl (lv_at hl 1 rfl) ?_
      refine rg_X8_63 X hP dX8_fillsResets_27 ?_
      refine lv_iload hx hb dX8_fillsResets_30 (lv_at hl 0 rfl) ?_
      refine ra_resets_ld X hP dX8_fillsResets_32 hf (fun hf => ?_)
      refine lv_iconst (v := 1) hx hb dX8_fillsResets_33 (by decide) ?_
      refine gb_icmp_ne (tgt := 72) hx hb dX8_fillsResets_34 (by decide) hf (fun hf => ?_) (fun hf => ?_)
      · exact w_X8_fillsResets_72 X hR k2 hk2 S x1 x2 x3 hP hS (lv_sub hl [1, 2, 3, 4] rfl) hf
      · refine lv_aload_n hx hb dX8_fillsResets_37 rfl (lv_at hl 1 rfl) ?_
        refine lv_iconst (v := 4) hx hb dX8_fillsResets_38 (by decide) ?_
        refine lv_iload_n hx hb dX8_fillsResets_39 rfl (lv_at hl 4 rfl) ?_
        refine lv_i2l hx hb dX8_fillsResets_40 rfl ?_
        refine lv_aload_n hx hb dX8_fillsResets_41 rfl (lv_at hl 1 rfl) ?_
        refine rg_X8_69 X hP dX8_fillsResets_42 ?_
        refine lv_iload hx hb dX8_fillsResets_45 (lv_at hl 0 rfl) ?_
        refine ra_code_ld X hP dX8_fillsResets_47 hf (fun hf => ?_)
        refine lv_aload_n hx hb dX8_fillsResets_48 rfl (lv_at hl 1 rfl) ?_
        refine lv_iload_n hx hb dX8_fillsResets_49 rfl (lv_at hl 2 rfl) ?_
        refine lv_iload_n hx hb dX8_fillsResets_50 rfl (lv_at hl 4 rfl) ?_
        obtain ⟨v2, hq, hf⟩ := gB_some hf
        refine gc_i (gc_fixV (S := S) X (mt_X8_sent l D dA A ad S x1 x3 hq) (lw_V q1463 q1465 qs68 q93 q1466) ⟨rfl, rfl⟩ hd_X8_sent ⟨Nat.le_trans (Nat.le_of_ble_eq_true rfl) hR.1, Nat.le_trans (Nat.le_of_ble_eq_true rfl) hR.2⟩ (wd_recv (r := M_o) (ci := 0) (q := (RX8, TX8, 61)) X.hK.1 hP ⟨rfl, rfl⟩ rfl rfl) hP hS ⟨Nat.zero_le _, Nat.zero_le _⟩ rfl hl.1 rfl (Nat.le_of_ble_eq_true rfl) dX8_fillsResets_51) hS ?_
        rintro _ _ H locs ⟨rfl, rfl⟩ hP hS
        refine lv_i2l hx hb dX8_fillsResets_54 rfl ?_
        refine lv_iload_n hx hb dX8_fillsResets_55 rfl (lv_at hl 3 rfl) ?_
        obtain ⟨S3, v4, hq, hf⟩ := gS2_eq hf
        refine gc_i (gc_fixV (S := S) X (mt_X8_lays l D dA A ad S (4 : Int32) (Int32.toInt64 x3) (S.2 M_code (Int32.toNatClampNeg v1)) (Int32.toInt64 v2) x2 hq) (lw_V q1467 q1469 qs69 q93 q1470) ⟨rfl, rfl⟩ hd_X8_lays ⟨Nat.le_trans (Nat.le_of_ble_eq_true rfl) hR.1, Nat.le_trans (Nat.le_of_ble_eq_true rfl) hR.2⟩ (wd_recv (r := M_o) (ci := 0) (q := (RX8, TX8, 61)) X.hK.1 hP ⟨rfl, rfl⟩ rfl rfl) hP hS ⟨Nat.zero_le _, Nat.zero_le _⟩ rfl hl.1 rfl (Nat.le_of_ble_eq_true rfl) dX8_fillsResets_56) hS ?_
        rintro _ _ H locs ⟨⟩ hP hS
        refine gb_if_eq (tgt := 72) hx hb dX8_fillsResets_59 (by decide) hf (fun hf => ?_) (fun hf => ?_)
        · exact w_X8_fillsResets_72 X hR k2 hk2 S3 x1 x2 x3 hP hS (lv_sub hl [1, 2, 3, 4] rfl) hf
        · refine lv_aload_n hx hb dX8_fillsResets_62 rfl (lv_at hl 1 rfl) ?_
          refine rg_X8_66 X hP dX8_fillsResets_63 ?_
          refine lv_iload hx hb dX8_fillsResets_66 (lv_at hl 0 rfl) ?_
          refine lv_iconst (v := 0) hx hb dX8_fillsResets_68 (by decide) ?_
          refine ra_tellReset_st X hP hS dX8_fillsResets_69 hf (fun S5 H locs hP hS hf => ?_)
          refine lv_iconst (v := 1) hx hb dX8_fillsResets_70 (by decide) ?_
          exact gr_zW X hP hS (Option.some.inj hf) (by decide) dX8_fillsResets_71
set_option maxHeartbeats 4000000 in
theorem w_X8_fillsResets_2 {p : Program} {l : Launch} {e : Env} {R : Room} {s : State} {m : MethodId} {args : Array Value} {below : List Frame} {meth : Method} {c : Code} {D : va_G} {dA : Nat → ClassId} {A : Nat → Prop} {ad : L3 → Nat} (X : CX RX8 cX8_fillsResets 5 (some .boolean) (KA D dA) p s m args meth c A) (hR : 5 ≤ R.frames ∧ 116 ≤ R.locals) {res : Mem × Int32} (n : Nat) : ∀ (S : Mem) (x1 : Int32) (x2 : Int32) (x3 : Int32) (H : Heap) (locs : List Loc) (ls : Array Slot), Wd D clA (shM dA) exM A ad S H → va_S A s.heap H locs → lv_has ls 5 [(0, .ref (ad M_o)), (1, .int x1), (2, .int x2), (3, .int x3)] → f_X8_fillsResets_2 n S x1 x2 x3 = some res → W p l e R s m args below meth c H locs 0 0 (MQ below (QiW D (shM dA) exM A ad res) args s 0 0 A) (F0 m 2 ls []) := by
  induction n with
  | zero =>
    intro S x1 x2 x3 H locs ls hP hS hl hf
    exact absurd (show none = some res from hf) (fun h => by cases h)
  | succ n ih =>
    intro S x1 x2 x3 H locs ls hP hS hl hf
    exact w_X8_fillsResets_2_b X hR (f_X8_fillsResets_2 n) ih S x1 x2 x3 hP hS hl hf
set_option maxHeartbeats 4000000 in
theorem w_X8_fillsResets {p : Program} {l : Launch} {e : Env} {R : Room} {s : State} {m : MethodId} {args : Array Value} {below : List Frame} {meth : Method} {c : Code} {D : va_G} {dA : Nat → ClassId} {A : Nat → Prop} {ad : L3 → Nat} (X : CX RX8 cX8_fillsResets 5 (some .boolean) (KA D dA) p s m args meth c A) (hR : 5 ≤ R.frames ∧ 116 ≤ R.locals) {res : Mem × Int32} (S : Mem) (x1 : Int32) (x2 : Int32) {H : Heap} {locs : List Loc} {ls : Array Slot} (hP : Wd D clA (shM dA) exM A ad S H) (hS : va_S A s.heap H locs) (hl : lv_has ls 5 [(0, .ref (ad M_o)), (1, .int x1), (2, .int x2)]) (hf : f_X8_fillsResets S x1 x2 = some res) : W p l e R s m args below meth c H locs 0 0 (MQ below (QiW D (shM dA) exM A ad res) args s 0 0 A) (F0 m 0 ls []) := by
  have hx := X.hx
  have hb := X.hb
  unfold f_X8_fillsResets at hf
  refine lv_iconst (v := 0) hx hb dX8_fillsResets_0 (by decide) ?_
  refine lv_istore_n (lv' := [(3, .int 0), (0, .ref (ad M_o)), (1, .int x1), (2, .int x2)]) hx hb dX8_fillsResets_1 rfl hl (by decide) rfl (fun ls hl => ?_)
  exact w_X8_fillsResets_2 X hR FU S x1 x2 0 _ _ _ hP hS (lv_sub hl [1, 2, 3, 0] rfl) hf
theorem hd_X8_fillsResets : yX8_fillsResets.cls = RX8 ∧ yX8_fillsResets.cls ≠ "java/lang/invoke/MethodHandle" ∧ yX8_fillsResets.cls ≠ "java/lang/invoke/VarHandle" ∧ (parseMethodDescriptor yX8_fillsResets.desc).map (fun d => d.parameters.length) = some 2 := by decide +kernel
set_option maxHeartbeats 4000000 in
theorem mt_X8_fillsResets (l : Launch) (D : va_G) (dA : Nat → ClassId) (A : Nat → Prop) (ad : L3 → Nat) (S : Mem) (x1 : Int32) (x2 : Int32) {res : Mem × Int32} (hq : f_X8_fillsResets S x1 x2 = some res) : Met l yX8_fillsResets (ws_ yX8_fillsResets cX8_fillsResets 5 (some .boolean)) ({ frames := 5, cells := 0, slots := 0, locals := 116 } : Room) (va_Pc [.ref (ad M_o), .int x1, .int x2] (PreW D dA (shM dA) exM A ad S)) (QiW D (shM dA) exM A ad res) 0 0 A :=
  gx_head (by decide) (Nat.le_of_ble_eq_true rfl) (fun p e s m below meth c ls X hP hl => w_X8_fillsResets (l := l) X ⟨Nat.le_of_ble_eq_true rfl, Nat.le_of_ble_eq_true rfl⟩ S x1 x2 hP va_S.rf (lv_sub (l := [(0, .ref (ad M_o)), (1, .int x1), (2, .int x2)]) hl [0, 1, 2] rfl) hq)
set_option maxHeartbeats 4000000 in
theorem w_X8_fillsGrants_101 {p : Program} {l : Launch} {e : Env} {R : Room} {s : State} {m : MethodId} {args : Array Value} {below : List Frame} {meth : Method} {c : Code} {D : va_G} {dA : Nat → ClassId} {A : Nat → Prop} {ad : L3 → Nat} (X : CX RX8 cX8_fillsGrants 5 (some .boolean) (KA D dA) p s m args meth c A) (hR : 5 ≤ R.frames ∧ 116 ≤ R.locals) {res : Mem × Int32} (k38 : Mem → Int32 → Int32 → Int32 → Option (Mem × Int32)) (hk38 : ∀ (S : Mem) (x1 : Int32) (x2 : Int32) (x3 : Int32) (H : Heap) (locs : List Loc) (ls : Array Slot), Wd D clA (shM dA) exM A ad S H → va_S A s.heap H locs → lv_has ls 5 [(0, .ref (ad M_o)), (1, .int x1), (2, .int x2), (3, .int x3)] → k38 S x1 x2 x3 = some res → W p l e R s m args below meth c H locs 0 0 (MQ below (QiW D (shM dA) exM A ad res) args s 0 0 A) (F0 m 38 ls [])) (S : Mem) (x1 : Int32) (x2 : Int32) (x3 : Int32) {H : Heap} {locs : List Loc} {ls : Array Slot} (hP : Wd D clA (shM dA) exM A ad S H) (hS : va_S A s.heap H locs) (hl : lv_has ls 5 [(0, .ref (ad M_o)), (1, .int x1), (2, .int x2), (3, .int x3)]) (hf : f_X8_fillsGrants_101 k38 S x1 x2 x3 = some res) : W p l e R s m args below meth c H locs 0 0 (MQ below (QiW D (shM dA) exM A ad res) args s 0 0 A) (F0 m 101 ls []) := by
  have hx := X.hx
  have hb := X.hb
  unfold f_X8_fillsGrants_101 at hf
  refine lv_iinc (v := (x3 + 1)) (lv' := [(3, .int (x3 + 1)), (0, .ref (ad M_o)), (1, .int x1), (2, .int x2)]) hx hb dX8_fillsGrants_101 hl (k := 3) rfl rfl (by decide) rfl (fun ls hl => ?_)
  refine lv_goto (tgt := 38) hx hb dX8_fillsGrants_104 (by decide) ?_
  exact hk38 S x1 x2 (x3 + 1) _ _ _ hP hS (lv_sub hl [1, 2, 3, 0] rfl) hf
set_option maxHeartbeats 4000000 in
theorem w_X8_fillsGrants_165 {p : Program} {l : Launch} {e : Env} {R : Room} {s : State} {m : MethodId} {args : Array Value} {below : List Frame} {meth : Method} {c : Code} {D : va_G} {dA : Nat → ClassId} {A : Nat → Prop} {ad : L3 → Nat} (X : CX RX8 cX8_fillsGrants 5 (some .boolean) (KA D dA) p s m args meth c A) (hR : 5 ≤ R.frames ∧ 116 ≤ R.locals) {res : Mem × Int32} (k109 : Mem → Int32 → Int32 → Int32 → Option (Mem × Int32)) (hk109 : ∀ (S : Mem) (x1 : Int32) (x2 : Int32) (x3 : Int32) (H : Heap) (locs : List Loc) (ls : Array Slot), Wd D clA (shM dA) exM A ad S H → va_S A s.heap H locs → lv_has ls 5 [(0, .ref (ad M_o)), (1, .int x1), (2, .int x2), (3, .int x3)] → k109 S x1 x2 x3 = some res → W p l e R s m args below meth c H locs 0 0 (MQ below (QiW D (shM dA) exM A ad res) args s 0 0 A) (F0 m 109 ls [])) (S : Mem) (x1 : Int32) (x2 : Int32) (x3 : Int32) {H : Heap} {locs : List Loc} {ls : Array Slot} (hP : Wd D clA (shM dA) exM A ad S H) (hS : va_S A s.heap H locs) (hl : lv_has ls 5 [(0, .ref (ad M_o)), (1, .int x1), (2, .int x2), (3, .int x3)]) (hf : f_X8_fillsGrants_165 k109 S x1 x2 x3 = some res) : W p l e R s m args below meth c H locs 0 0 (MQ below (QiW D (shM dA) exM A ad res) args s 0 0 A) (F0 m 165 ls []) := by
  have hx := X.hx
  have hb := X.hb
  unfold f_X8_fillsGrants_165 at hf
  refine lv_iinc (v := (x3 + 1)) (lv' := [(3, .int (x3 + 1)), (0, .ref (ad M_o)), (1, .int x1), (2, .int x2)]) hx hb dX8_fillsGrants_165 hl (k := 3) rfl rfl (by decide) rfl (fun ls hl => ?_)
  refine lv_goto (tgt := 109) hx hb dX8_fillsGrants_168 (by decide) ?_
  exact hk109 S x1 x2 (x3 + 1) _ _ _ hP hS (lv_sub hl [1, 2, 3, 0] rfl) hf
set_option maxHeartbeats 4000000 in
theorem w_X8_fillsGrants_109_b {p : Program} {l : Launch} {e : Env} {R : Room} {s : State} {m : MethodId} {args : Array Value} {below : List Frame} {meth : Method} {c : Code} {D : va_G} {dA : Nat → ClassId} {A : Nat → Prop} {ad : L3 → Nat} (X : CX RX8 cX8_fillsGrants 5 (some .boolean) (KA D dA) p s m args meth c A) (hR : 5 ≤ R.frames ∧ 116 ≤ R.locals) {res : Mem × Int32} (k109 : Mem → Int32 → Int32 → Int32 → Option (Mem × Int32)) (hk109 : ∀ (S : Mem) (x1 : Int32) (x2 : Int32) (x3 : Int32) (H : Heap) (locs : List Loc) (ls : Array Slot), Wd D clA (shM dA) exM A ad S H → va_S A s.heap H locs → lv_has ls 5 [(0, .ref (ad M_o)), (1, .int x1), (2, .int x2), (3, .int x3)] → k109 S x1 x2 x3 = some res → W p l e R s m args below meth c H locs 0 0 (MQ below (QiW D (shM dA) exM A ad res) args s 0 0 A) (F0 m 109 ls [])) (S : Mem) (x1 : Int32) (x2 : Int32) (x3 : Int32) {H : Heap} {locs : List Loc} {ls : Array Slot} (hP : Wd D clA (shM dA) exM A ad S H) (hS : va_S A s.heap H locs) (hl : lv_has ls 5 [(0, .ref (ad M_o)), (1, .int x1), (2, .int x2), (3, .int x3)]) (hf : f_X8_fillsGrants_109_b k109 S x1 x2 x3 = some res) : W p l e R s m args below meth c H locs 0 0 (MQ below (QiW D (shM dA) exM A ad res) args s 0 0 A) (F0 m 109 ls []) := by
  have hx := X.hx
  have hb := X.hb
  unfold f_X8_fillsGrants_109_b at hf
  refine lv_iload_n hx hb dX8_fillsGrants_109 rfl (lv_at hl 3 rfl) ?_
  refine lv_iconst (v := 2) hx hb dX8_fillsGrants_110 (by decide) ?_
  refine gb_icmp_ge (tgt := 171) hx hb dX8_fillsGrants_111 (by decide) hf (fun hf => ?_) (fun hf => ?_)
  · refine lv_iconst (v := 0) hx hb dX8_fillsGrants_171 (by decide) ?_
    exact gr_zW X hP hS (Option.some.inj hf) (by decide) dX8_fillsGrants_172
  · refine lv_aload_n hx hb dX8_fillsGrants_114 rfl (lv_at hl 0 rfl) ?_
    refine rg_X8_39 X hP dX8_fillsGrants_115 ?_
    refine lv_iconst (v := 2) hx hb dX8_fillsGrants_118 (by decide) ?_
    refine lv_iload_n hx hb dX8_fillsGrants_119 rfl (lv_at hl 1 rfl) ?_
    refine lv_imul hx hb dX8_fillsGrants_120 ?_
    refine lv_iload_n hx hb dX8_fillsGrants_121 rfl (lv_at hl 3 rfl) ?_
    refine lv_iadd hx hb dX8_fillsGrants_122 ?_
    refine ra_tellStreams_ld X hP dX8_fillsGrants_123 hf (fun hf => ?_)
    refine gb_if_eq (tgt := 165) hx hb dX8_fillsGrants_124 (by decide) hf (fun hf => ?_) (fun hf => ?_)
    · exact w_X8_fillsGrants_165 X hR k109 hk109 S x1 x2 x3 hP hS (lv_sub hl [0, 1, 2, 3] rfl) hf
    · refine lv_aload_n hx hb dX8_fillsGrants_127 rfl (lv_at hl 0 rfl) ?_
      refine lv_bipush (v := 18) hx hb dX8_fillsGrants_128 (by decide) ?_
      refine lv_iload_n hx hb dX8_fillsGrants_130 rfl (lv_at hl 3 rfl) ?_
      refine lv_iadd hx hb dX8_fillsGrants_131 ?_
      refine lv_aload_n hx hb dX8_fillsGrants_132 rfl (lv_at hl 0 rfl) ?_
      refine rg_X8_29 X hP dX8_fillsGrants_133 ?_
      refine lv_iconst (v := 2) hx hb dX8_fillsGrants_136 (by decide) ?_
      refine lv_iload_n hx hb dX8_fillsGrants_137 rfl (lv_at hl 1 rfl) ?_
      refine lv_imul hx hb dX8_fillsGrants_138 ?_
      refine lv_iload_n hx hb dX8_fillsGrants_139 rfl (lv_at hl 3 rfl) ?_
      refine lv_iadd hx hb dX8_fillsGrants_140 ?_
      refine ra_granted_ld X hP dX8_fillsGrants_141 hf (fun hf => ?_)
      refine lv_i2l hx hb dX8_fillsGrants_142 rfl ?_
      refine lv_lconst (v := 0) hx hb dX8_fillsGrants_143 (by decide) ?_
      refine lv_lconst (v := 0) hx hb dX8_fillsGrants_144 (by decide) ?_
      refine lv_iload_n hx hb dX8_fillsGrants_145 rfl (lv_at hl 2 rfl) ?_
      obtain ⟨S1, v2, hq, hf⟩ := gS2_eq hf
      refine gc_i (gc_fixV (S := S) X (mt_X8_lays l D dA A ad S (18 + x3) (Int32.toInt64 (S.1 M_granted (Int32.toNatClampNeg ((2 * x1) + x3)))) (0 : Int64) (0 : Int64) x2 hq) (lw_V q1467 q1469 qs69 q93 q1470) ⟨rfl, rfl⟩ hd_X8_lays ⟨Nat.le_trans (Nat.le_of_ble_eq_true rfl) hR.1, Nat.le_trans (Nat.le_of_ble_eq_true rfl) hR.2⟩ (wd_recv (r := M_o) (ci := 0) (q := (RX8, TX8, 61)) X.hK.1 hP ⟨rfl, rfl⟩ rfl rfl) hP hS ⟨Nat.zero_le _, Nat.zero_le _⟩ rfl hl.1 rfl (Nat.le_of_ble_eq_true rfl) dX8_fillsGrants_146) hS ?_
      rintro _ _ H locs ⟨⟩ hP hS
      refine gb_if_eq (tgt := 165) hx hb dX8_fillsGrants_149 (by decide) hf (fun hf => ?_) (fun hf => ?_)
      · exact w_X8_fillsGrants_165 X hR k109 hk109 S1 x1 x2 x3 hP hS (lv_sub hl [0, 1, 2, 3] rfl) hf
      · refine lv_aload_n hx hb dX8_fillsGrants_152 rfl (lv_at hl 0 rfl) ?_
        refine rg_X8_39 X hP dX8_fillsGrants_153 ?_
        refine lv_iconst (v := 2) hx hb dX8_fillsGrants_156 (by decide) ?_
        refine lv_iload_n hx hb dX8_fillsGrants_157 rfl (lv_at hl 1 rfl) ?_
        refine lv_imul hx hb dX8_fillsGrants_158 ?_
        refine lv_iload_n hx hb dX8_fillsGrants_159 rfl (lv_at hl 3 rfl) ?_
        refine lv_iadd hx hb dX8_fillsGrants_160 ?_
        refine lv_iconst (v := 0) hx hb dX8_fillsGrants_161 (by decide) ?_
        refine ra_tellStreams_st X hP hS dX8_fillsGrants_162 hf (fun S3 H locs hP hS hf => ?_)
        refine lv_iconst (v := 1) hx hb dX8_fillsGrants_163 (by decide) ?_
        exact gr_zW X hP hS (Option.some.inj hf) (by decide) dX8_fillsGrants_164
set_option maxHeartbeats 4000000 in
theorem w_X8_fillsGrants_109 {p : Program} {l : Launch} {e : Env} {R : Room} {s : State} {m : MethodId} {args : Array Value} {below : List Frame} {meth : Method} {c : Code} {D : va_G} {dA : Nat → ClassId} {A : Nat → Prop} {ad : L3 → Nat} (X : CX RX8 cX8_fillsGrants 5 (some .boolean) (KA D dA) p s m args meth c A) (hR : 5 ≤ R.frames ∧ 116 ≤ R.locals) {res : Mem × Int32} (n : Nat) : ∀ (S : Mem) (x1 : Int32) (x2 : Int32) (x3 : Int32) (H : Heap) (locs : List Loc) (ls : Array Slot), Wd D clA (shM dA) exM A ad S H → va_S A s.heap H locs → lv_has ls 5 [(0, .ref (ad M_o)), (1, .int x1), (2, .int x2), (3, .int x3)] → f_X8_fillsGrants_109 n S x1 x2 x3 = some res → W p l e R s m args below meth c H locs 0 0 (MQ below (QiW D (shM dA) exM A ad res) args s 0 0 A) (F0 m 109 ls []) := by
  induction n with
  | zero =>
    intro S x1 x2 x3 H locs ls hP hS hl hf
    exact absurd (show none = some res from hf) (fun h => by cases h)
  | succ n ih =>
    intro S x1 x2 x3 H locs ls hP hS hl hf
    exact w_X8_fillsGrants_109_b X hR (f_X8_fillsGrants_109 n) ih S x1 x2 x3 hP hS hl hf
set_option maxHeartbeats 4000000 in
theorem w_X8_fillsGrants_38_b {p : Program} {l : Launch} {e : Env} {R : Room} {s : State} {m : MethodId} {args : Array Value} {below : List Frame} {meth : Method} {c : Code} {D : va_G} {dA : Nat → ClassId} {A : Nat → Prop} {ad : L3 → Nat} (X : CX RX8 cX8_fillsGrants 5 (some .boolean) (KA D dA) p s m args meth c A) (hR : 5 ≤ R.frames ∧ 116 ≤ R.locals) {res : Mem × Int32} (k38 : Mem → Int32 → Int32 → Int32 → Option (Mem × Int32)) (hk38 : ∀ (S : Mem) (x1 : Int32) (x2 : Int32) (x3 : Int32) (H : Heap) (locs : List Loc) (ls : Array Slot), Wd D clA (shM dA) exM A ad S H → va_S A s.heap H locs → lv_has ls 5 [(0, .ref (ad M_o)), (1, .int x1), (2, .int x2), (3, .int x3)] → k38 S x1 x2 x3 = some res → W p l e R s m args below meth c H locs 0 0 (MQ below (QiW D (shM dA) exM A ad res) args s 0 0 A) (F0 m 38 ls [])) (S : Mem) (x1 : Int32) (x2 : Int32) (x3 : Int32) {H : Heap} {locs : List Loc} {ls : Array Slot} (hP : Wd D clA (shM dA) exM A ad S H) (hS : va_S A s.heap H locs) (hl : lv_has ls 5 [(0, .ref (ad M_o)), (1, .int x1), (2, .int x2), (3, .int x3)]) (hf : f_X8_fillsGrants_38_b k38 S x1 x2 x3 = some res) : W p l e R s m args below meth c H locs 0 0 (MQ below (QiW D (shM dA) exM A ad res) args s 0 0 A) (F0 m 38 ls []) := by
  have hx := X.hx
  have hb := X.hb
  unfold f_X8_fillsGrants_38_b at hf
  refine lv_iload_n hx hb dX8_fillsGrants_38 rfl (lv_at hl 3 rfl) ?_
  refine lv_sipush (v := 256) hx hb dX8_fillsGrants_39 (by decide) ?_
  refine gb_icmp_ge (tgt := 107) hx hb dX8_fillsGrants_42 (by decide) hf (fun hf => ?_) (fun hf => ?_)
  · refine lv_iconst (v := 0) hx hb dX8_fillsGrants_107 (by decide) ?_
    refine lv_istore_n (lv' := [(3, .int 0), (0, .ref (ad M_o)), (1, .int x1), (2, .int x2)]) hx hb dX8_fillsGrants_108 rfl hl (by decide) rfl (fun ls hl => ?_)
    exact w_X8_fillsGrants_109 X hR FU S x1 x2 0 _ _ _ hP hS (lv_sub hl [1, 2, 3, 0] rfl) hf
  · refine lv_iload_n hx hb dX8_fillsGrants_45 rfl (lv_at hl 1 rfl) ?_
    refine lv_iload_n hx hb dX8_fillsGrants_46 rfl (lv_at hl 3 rfl) ?_
    obtain ⟨v1, hq, hf⟩ := gS_eq hf
    refine gc_i (gc_fixS (S := S) X (mt_X8_at l D dA A ad S x1 x3 hq) (lw_S q1283 q1284 q93 q1285) ⟨rfl, rfl⟩ hd_X8_at.2 ⟨Nat.le_trans (Nat.le_of_ble_eq_true rfl) hR.1, Nat.le_trans (Nat.le_of_ble_eq_true rfl) hR.2⟩ hP hS ⟨Nat.zero_le _, Nat.zero_le _⟩ rfl hl.1 rfl (Nat.le_of_ble_eq_true rfl) dX8_fillsGrants_47) hS ?_
    rintro _ _ H locs ⟨rfl, rfl⟩ hP hS
    refine lv_istore (lv' := [(4, .int v1), (0, .ref (ad M_o)), (1, .int x1), (2, .int x2), (3, .int x3)]) hx hb dX8_fillsGrants_50 hl (by decide) rfl (fun ls hl => ?_)
    refine lv_aload_n hx hb dX8_fillsGrants_52 rfl (lv_at hl 1 rfl) ?_
    refine rg_X8_93 X hP dX8_fillsGrants_53 ?_
    refine lv_iload hx hb dX8_fillsGrants_56 (lv_at hl 0 rfl) ?_
    refine ra_tellGrant_ld X hP dX8_fillsGrants_58 hf (fun hf => ?_)
    refine gb_if_eq (tgt := 101) hx hb dX8_fillsGrants_59 (by decide) hf (fun hf => ?_) (fun hf => ?_)
    · exact w_X8_fillsGrants_101 X hR k38 hk38 S x1 x2 x3 hP hS (lv_sub hl [1, 2, 3, 4] rfl) hf
    · refine lv_aload_n hx hb dX8_fillsGrants_62 rfl (lv_at hl 1 rfl) ?_
      refine lv_iload_n hx hb dX8_fillsGrants_63 rfl (lv_at hl 2 rfl) ?_
      refine lv_iload_n hx hb dX8_fillsGrants_64 rfl (lv_at hl 4 rfl) ?_
      obtain ⟨v2, hq, hf⟩ := gB_some hf
      refine gc_i (gc_fixV (S := S) X (mt_X8_receiving l D dA A ad S x1 x3 hq) (lw_V q1355 q1357 qs47 q93 q1358) ⟨rfl, rfl⟩ hd_X8_receiving ⟨Nat.le_trans (Nat.le_of_ble_eq_true rfl) hR.1, Nat.le_trans (Nat.le_of_ble_eq_true rfl) hR.2⟩ (wd_recv (r := M_o) (ci := 0) (q := (RX8, TX8, 61)) X.hK.1 hP ⟨rfl, rfl⟩ rfl rfl) hP hS ⟨Nat.zero_le _, Nat.zero_le _⟩ rfl hl.1 rfl (Nat.le_of_ble_eq_true rfl) dX8_fillsGrants_65) hS ?_
      rintro _ _ H locs ⟨rfl, rfl⟩ hP hS
      refine gb_if_ne (tgt := 101) hx hb dX8_fillsGrants_68 (by decide) hf (fun hf => ?_) (fun hf => ?_)
      · exact w_X8_fillsGrants_101 X hR k38 hk38 S x1 x2 x3 hP hS (lv_sub hl [1, 2, 3, 4] rfl) hf
      · refine lv_aload_n hx hb dX8_fillsGrants_71 rfl (lv_at hl 1 rfl) ?_
        refine lv_bipush (v := 17) hx hb dX8_fillsGrants_72 (by decide) ?_
        refine lv_iload_n hx hb dX8_fillsGrants_74 rfl (lv_at hl 4 rfl) ?_
        refine lv_i2l hx hb dX8_fillsGrants_75 rfl ?_
        refine lv_aload_n hx hb dX8_fillsGrants_76 rfl (lv_at hl 1 rfl) ?_
        refine rg_X8_90 X hP dX8_fillsGrants_77 ?_
        refine lv_iload hx hb dX8_fillsGrants_80 (lv_at hl 0 rfl) ?_
        refine ra_grant_ld X hP dX8_fillsGrants_82 hf (fun hf => ?_)
        refine lv_lconst (v := 0) hx hb dX8_fillsGrants_83 (by decide) ?_
        refine lv_iload_n hx hb dX8_fillsGrants_84 rfl (lv_at hl 3 rfl) ?_
        obtain ⟨S3, v4, hq, hf⟩ := gS2_eq hf
        refine gc_i (gc_fixV (S := S) X (mt_X8_lays l D dA A ad S (17 : Int32) (Int32.toInt64 x3) (S.2 M_grant (Int32.toNatClampNeg v1)) (0 : Int64) x2 hq) (lw_V q1467 q1469 qs69 q93 q1470) ⟨rfl, rfl⟩ hd_X8_lays ⟨Nat.le_trans (Nat.le_of_ble_eq_true rfl) hR.1, Nat.le_trans (Nat.le_of_ble_eq_true rfl) hR.2⟩ (wd_recv (r := M_o) (ci := 0) (q := (RX8, TX8, 61)) X.hK.1 hP ⟨rfl, rfl⟩ rfl rfl) hP hS ⟨Nat.zero_le _, Nat.zero_le _⟩ rfl hl.1 rfl (Nat.le_of_ble_eq_true rfl) dX8_fillsGrants_85) hS ?_
        rintro _ _ H locs ⟨⟩ hP hS
        refine gb_if_eq (tgt := 101) hx hb dX8_fillsGrants_88 (by decide) hf (fun hf => ?_) (fun hf => ?_)
        · exact w_X8_fillsGrants_101 X hR k38 hk38 S3 x1 x2 x3 hP hS (lv_sub hl [1, 2, 3, 4] rfl) hf
        · refine lv_aload_n hx hb dX8_fillsGrants_91 rfl (lv_at hl 1 rfl) ?_
          refine rg_X8_93 X hP dX8_fillsGrants_92 ?_
          refine lv_iload hx hb dX8_fillsGrants_95 (lv_at hl 0 rfl) ?_
          refine lv_iconst (v := 0) hx hb dX8_fillsGrants_97 (by decide) ?_
          refine ra_tellGrant_st X hP hS dX8_fillsGrants_98 hf (fun S5 H locs hP hS hf => ?_)
          refine lv_iconst (v := 1) hx hb dX8_fillsGrants_99 (by decide) ?_
          exact gr_zW X hP hS (Option.some.inj hf) (by decide) dX8_fillsGrants_100
set_option maxHeartbeats 4000000 in
theorem w_X8_fillsGrants_38 {p : Program} {l : Launch} {e : Env} {R : Room} {s : State} {m : MethodId} {args : Array Value} {below : List Frame} {meth : Method} {c : Code} {D : va_G} {dA : Nat → ClassId} {A : Nat → Prop} {ad : L3 → Nat} (X : CX RX8 cX8_fillsGrants 5 (some .boolean) (KA D dA) p s m args meth c A) (hR : 5 ≤ R.frames ∧ 116 ≤ R.locals) {res : Mem × Int32} (n : Nat) : ∀ (S : Mem) (x1 : Int32) (x2 : Int32) (x3 : Int32) (H : Heap) (locs : List Loc) (ls : Array Slot), Wd D clA (shM dA) exM A ad S H → va_S A s.heap H locs → lv_has ls 5 [(0, .ref (ad M_o)), (1, .int x1), (2, .int x2), (3, .int x3)] → f_X8_fillsGrants_38 n S x1 x2 x3 = some res → W p l e R s m args below meth c H locs 0 0 (MQ below (QiW D (shM dA) exM A ad res) args s 0 0 A) (F0 m 38 ls []) := by
  induction n with
  | zero =>
    intro S x1 x2 x3 H locs ls hP hS hl hf
    exact absurd (show none = some res from hf) (fun h => by cases h)
  | succ n ih =>
    intro S x1 x2 x3 H locs ls hP hS hl hf
    exact w_X8_fillsGrants_38_b X hR (f_X8_fillsGrants_38 n) ih S x1 x2 x3 hP hS hl hf
set_option maxHeartbeats 4000000 in
theorem w_X8_fillsGrants_36 {p : Program} {l : Launch} {e : Env} {R : Room} {s : State} {m : MethodId} {args : Array Value} {below : List Frame} {meth : Method} {c : Code} {D : va_G} {dA : Nat → ClassId} {A : Nat → Prop} {ad : L3 → Nat} (X : CX RX8 cX8_fillsGrants 5 (some .boolean) (KA D dA) p s m args meth c A) (hR : 5 ≤ R.frames ∧ 116 ≤ R.locals) {res : Mem × Int32} (S : Mem) (x1 : Int32) (x2 : Int32) {H : Heap} {locs : List Loc} {ls : Array Slot} (hP : Wd D clA (shM dA) exM A ad S H) (hS : va_S A s.heap H locs) (hl : lv_has ls 5 [(0, .ref (ad M_o)), (1, .int x1), (2, .int x2)]) (hf : f_X8_fillsGrants_36 S x1 x2 = some res) : W p l e R s m args below meth c H locs 0 0 (MQ below (QiW D (shM dA) exM A ad res) args s 0 0 A) (F0 m 36 ls []) := by
  have hx := X.hx
  have hb := X.hb
  unfold f_X8_fillsGrants_36 at hf
  refine lv_iconst (v := 0) hx hb dX8_fillsGrants_36 (by decide) ?_
  refine lv_istore_n (lv' := [(3, .int 0), (0, .ref (ad M_o)), (1, .int x1), (2, .int x2)]) hx hb dX8_fillsGrants_37 rfl hl (by decide) rfl (fun ls hl => ?_)
  exact w_X8_fillsGrants_38 X hR FU S x1 x2 0 _ _ _ hP hS (lv_sub hl [1, 2, 3, 0] rfl) hf
set_option maxHeartbeats 4000000 in
theorem w_X8_fillsGrants {p : Program} {l : Launch} {e : Env} {R : Room} {s : State} {m : MethodId} {args : Array Value} {below : List Frame} {meth : Method} {c : Code} {D : va_G} {dA : Nat → ClassId} {A : Nat → Prop} {ad : L3 → Nat} (X : CX RX8 cX8_fillsGrants 5 (some .boolean) (KA D dA) p s m args meth c A) (hR : 5 ≤ R.frames ∧ 116 ≤ R.locals) {res : Mem × Int32} (S : Mem) (x1 : Int32) (x2 : Int32) {H : Heap} {locs : List Loc} {ls : Array Slot} (hP : Wd D clA (shM dA) exM A ad S H) (hS : va_S A s.heap H locs) (hl : lv_has ls 5 [(0, .ref (ad M_o)), (1, .int x1), (2, .int x2)]) (hf : f_X8_fillsGrants S x1 x2 = some res) : W p l e R s m args below meth c H locs 0 0 (MQ below (QiW D (shM dA) exM A ad res) args s 0 0 A) (F0 m 0 ls []) := by
  have hx := X.hx
  have hb := X.hb
  unfold f_X8_fillsGrants at hf
  refine lv_aload_n hx hb dX8_fillsGrants_0 rfl (lv_at hl 0 rfl) ?_
  refine rg_X8_35 X hP dX8_fillsGrants_1 ?_
  refine lv_iload_n hx hb dX8_fillsGrants_4 rfl (lv_at hl 1 rfl) ?_
  refine ra_tellData_ld X hP dX8_fillsGrants_5 hf (fun hf => ?_)
  refine gb_if_eq (tgt := 36) hx hb dX8_fillsGrants_6 (by decide) hf (fun hf => ?_) (fun hf => ?_)
  · exact w_X8_fillsGrants_36 X hR S x1 x2 hP hS (lv_sub hl [0, 1, 2] rfl) hf
  · refine lv_aload_n hx hb dX8_fillsGrants_9 rfl (lv_at hl 0 rfl) ?_
    refine lv_bipush (v := 16) hx hb dX8_fillsGrants_10 (by decide) ?_
    refine lv_aload_n hx hb dX8_fillsGrants_12 rfl (lv_at hl 0 rfl) ?_
    refine rg_X8_32 X hP dX8_fillsGrants_13 ?_
    refine lv_iload_n hx hb dX8_fillsGrants_16 rfl (lv_at hl 1 rfl) ?_
    refine ra_dataGrant_ld X hP dX8_fillsGrants_17 hf (fun hf => ?_)
    refine lv_lconst (v := 0) hx hb dX8_fillsGrants_18 (by decide) ?_
    refine lv_lconst (v := 0) hx hb dX8_fillsGrants_19 (by decide) ?_
    refine lv_iload_n hx hb dX8_fillsGrants_20 rfl (lv_at hl 2 rfl) ?_
    obtain ⟨S1, v2, hq, hf⟩ := gS2_eq hf
    refine gc_i (gc_fixV (S := S) X (mt_X8_lays l D dA A ad S (16 : Int32) (S.2 M_dataGrant (Int32.toNatClampNeg x1)) (0 : Int64) (0 : Int64) x2 hq) (lw_V q1467 q1469 qs69 q93 q1470) ⟨rfl, rfl⟩ hd_X8_lays ⟨Nat.le_trans (Nat.le_of_ble_eq_true rfl) hR.1, Nat.le_trans (Nat.le_of_ble_eq_true rfl) hR.2⟩ (wd_recv (r := M_o) (ci := 0) (q := (RX8, TX8, 61)) X.hK.1 hP ⟨rfl, rfl⟩ rfl rfl) hP hS ⟨Nat.zero_le _, Nat.zero_le _⟩ rfl hl.1 rfl (Nat.le_of_ble_eq_true rfl) dX8_fillsGrants_21) hS ?_
    rintro _ _ H locs ⟨⟩ hP hS
    refine gb_if_eq (tgt := 36) hx hb dX8_fillsGrants_24 (by decide) hf (fun hf => ?_) (fun hf => ?_)
    · exact w_X8_fillsGrants_36 X hR S1 x1 x2 hP hS (lv_sub hl [0, 1, 2] rfl) hf
    · refine lv_aload_n hx hb dX8_fillsGrants_27 rfl (lv_at hl 0 rfl) ?_
      refine rg_X8_35 X hP dX8_fillsGrants_28 ?_
      refine lv_iload_n hx hb dX8_fillsGrants_31 rfl (lv_at hl 1 rfl) ?_
      refine lv_iconst (v := 0) hx hb dX8_fillsGrants_32 (by decide) ?_
      refine ra_tellData_st X hP hS dX8_fillsGrants_33 hf (fun S3 H locs hP hS hf => ?_)
      refine lv_iconst (v := 1) hx hb dX8_fillsGrants_34 (by decide) ?_
      exact gr_zW X hP hS (Option.some.inj hf) (by decide) dX8_fillsGrants_35
theorem hd_X8_fillsGrants : yX8_fillsGrants.cls = RX8 ∧ yX8_fillsGrants.cls ≠ "java/lang/invoke/MethodHandle" ∧ yX8_fillsGrants.cls ≠ "java/lang/invoke/VarHandle" ∧ (parseMethodDescriptor yX8_fillsGrants.desc).map (fun d => d.parameters.length) = some 2 := by decide +kernel
set_option maxHeartbeats 4000000 in
theorem mt_X8_fillsGrants (l : Launch) (D : va_G) (dA : Nat → ClassId) (A : Nat → Prop) (ad : L3 → Nat) (S : Mem) (x1 : Int32) (x2 : Int32) {res : Mem × Int32} (hq : f_X8_fillsGrants S x1 x2 = some res) : Met l yX8_fillsGrants (ws_ yX8_fillsGrants cX8_fillsGrants 5 (some .boolean)) ({ frames := 5, cells := 0, slots := 0, locals := 116 } : Room) (va_Pc [.ref (ad M_o), .int x1, .int x2] (PreW D dA (shM dA) exM A ad S)) (QiW D (shM dA) exM A ad res) 0 0 A :=
  gx_head (by decide) (Nat.le_of_ble_eq_true rfl) (fun p e s m below meth c ls X hP hl => w_X8_fillsGrants (l := l) X ⟨Nat.le_of_ble_eq_true rfl, Nat.le_of_ble_eq_true rfl⟩ S x1 x2 hP va_S.rf (lv_sub (l := [(0, .ref (ad M_o)), (1, .int x1), (2, .int x2)]) hl [0, 1, 2] rfl) hq)
set_option maxHeartbeats 4000000 in
theorem w_X8_waits {p : Program} {l : Launch} {e : Env} {R : Room} {s : State} {m : MethodId} {args : Array Value} {below : List Frame} {meth : Method} {c : Code} {D : va_G} {dA : Nat → ClassId} {A : Nat → Prop} {ad : L3 → Nat} (X : CX RX8 cX8_waits 3 (some .boolean) (KA D dA) p s m args meth c A) (hR : 5 ≤ R.frames ∧ 112 ≤ R.locals) {res : Int32} (S : Mem) (x1 : Int32) (x2 : Int32) {H : Heap} {locs : List Loc} {ls : Array Slot} (hP : Wd D clA (shM dA) exM A ad S H) (hS : va_S A s.heap H locs) (hl : lv_has ls 3 [(0, .ref (ad M_o)), (1, .int x1), (2, .int x2)]) (hf : f_X8_waits S x1 x2 = some res) : W p l e R s m args below meth c H locs 0 0 (MQ below (QiR D (shM dA) exM A ad S res) args s 0 0 A) (F0 m 0 ls []) := by
  have hx := X.hx
  have hb := X.hb
  unfold f_X8_waits at hf
  refine lv_aload_n hx hb dX8_waits_0 rfl (lv_at hl 0 rfl) ?_
  refine lv_iload_n hx hb dX8_waits_1 rfl (lv_at hl 1 rfl) ?_
  refine lv_iload_n hx hb dX8_waits_2 rfl (lv_at hl 2 rfl) ?_
  obtain ⟨v1, hq, hf⟩ := gB_some hf
  refine gc_i (gc_fixV (S := S) X (mt_X8_isOpenSending l D dA A ad S x1 x2 hq) (lw_V q1336 q1338 qs44 q93 q1339) ⟨rfl, rfl⟩ hd_X8_isOpenSending ⟨Nat.le_trans (Nat.le_of_ble_eq_true rfl) hR.1, Nat.le_trans (Nat.le_of_ble_eq_true rfl) hR.2⟩ (wd_recv (r := M_o) (ci := 0) (q := (RX8, TX8, 61)) X.hK.1 hP ⟨rfl, rfl⟩ rfl rfl) hP hS ⟨Nat.zero_le _, Nat.zero_le _⟩ rfl hl.1 rfl (Nat.le_of_ble_eq_true rfl) dX8_waits_3) hS ?_
  rintro _ _ H locs ⟨rfl, rfl⟩ hP hS
  refine gb_if_eq (tgt := 28) hx hb dX8_waits_6 (by decide) hf (fun hf => ?_) (fun hf => ?_)
  · refine lv_iconst (v := 0) hx hb dX8_waits_28 (by decide) ?_
    exact gr_zR X hP hS (Option.some.inj hf) (by decide) dX8_waits_29
  · refine lv_aload_n hx hb dX8_waits_9 rfl (lv_at hl 0 rfl) ?_
    refine lv_iload_n hx hb dX8_waits_10 rfl (lv_at hl 1 rfl) ?_
    refine lv_iload_n hx hb dX8_waits_11 rfl (lv_at hl 2 rfl) ?_
    obtain ⟨v2, hq, hf⟩ := gB_some hf
    refine gc_i (gc_fixV (S := S) X (mt_X8_sent l D dA A ad S x1 x2 hq) (lw_V q1463 q1465 qs68 q93 q1466) ⟨rfl, rfl⟩ hd_X8_sent ⟨Nat.le_trans (Nat.le_of_ble_eq_true rfl) hR.1, Nat.le_trans (Nat.le_of_ble_eq_true rfl) hR.2⟩ (wd_recv (r := M_o) (ci := 0) (q := (RX8, TX8, 61)) X.hK.1 hP ⟨rfl, rfl⟩ rfl rfl) hP hS ⟨Nat.zero_le _, Nat.zero_le _⟩ rfl hl.1 rfl (Nat.le_of_ble_eq_true rfl) dX8_waits_12) hS ?_
    rintro _ _ H locs ⟨rfl, rfl⟩ hP hS
    refine lv_aload_n hx hb dX8_waits_15 rfl (lv_at hl 0 rfl) ?_
    refine lv_iload_n hx hb dX8_waits_16 rfl (lv_at hl 1 rfl) ?_
    refine lv_iload_n hx hb dX8_waits_17 rfl (lv_at hl 2 rfl) ?_
    obtain ⟨v3, hq, hf⟩ := gB_some hf
    refine gc_i (gc_fixV (S := S) X (mt_X8_written l D dA A ad S x1 x2 hq) (lw_V q1323 q1325 qs43 q93 q1326) ⟨rfl, rfl⟩ hd_X8_written ⟨Nat.le_trans (Nat.le_of_ble_eq_true rfl) hR.1, Nat.le_trans (Nat.le_of_ble_eq_true rfl) hR.2⟩ (wd_recv (r := M_o) (ci := 0) (q := (RX8, TX8, 61)) X.hK.1 hP ⟨rfl, rfl⟩ rfl rfl) hP hS ⟨Nat.zero_le _, Nat.zero_le _⟩ rfl hl.1 rfl (Nat.le_of_ble_eq_true rfl) dX8_waits_18) hS ?_
    rintro _ _ H locs ⟨rfl, rfl⟩ hP hS
    refine gb_icmp_ge (tgt := 28) hx hb dX8_waits_21 (by decide) hf (fun hf => ?_) (fun hf => ?_)
    · refine lv_iconst (v := 0) hx hb dX8_waits_28 (by decide) ?_
      exact gr_zR X hP hS (Option.some.inj hf) (by decide) dX8_waits_29
    · refine lv_iconst (v := 1) hx hb dX8_waits_24 (by decide) ?_
      refine lv_goto (tgt := 29) hx hb dX8_waits_25 (by decide) ?_
      exact gr_zR X hP hS (Option.some.inj hf) (by decide) dX8_waits_29
theorem hd_X8_waits : yX8_waits.cls = RX8 ∧ yX8_waits.cls ≠ "java/lang/invoke/MethodHandle" ∧ yX8_waits.cls ≠ "java/lang/invoke/VarHandle" ∧ (parseMethodDescriptor yX8_waits.desc).map (fun d => d.parameters.length) = some 2 := by decide +kernel
set_option maxHeartbeats 4000000 in
theorem mt_X8_waits (l : Launch) (D : va_G) (dA : Nat → ClassId) (A : Nat → Prop) (ad : L3 → Nat) (S : Mem) (x1 : Int32) (x2 : Int32) {res : Int32} (hq : f_X8_waits S x1 x2 = some res) : Met l yX8_waits (ws_ yX8_waits cX8_waits 3 (some .boolean)) ({ frames := 5, cells := 0, slots := 0, locals := 112 } : Room) (va_Pc [.ref (ad M_o), .int x1, .int x2] (PreW D dA (shM dA) exM A ad S)) (QiR D (shM dA) exM A ad S res) 0 0 A :=
  gx_head (by decide) (Nat.le_of_ble_eq_true rfl) (fun p e s m below meth c ls X hP hl => w_X8_waits (l := l) X ⟨Nat.le_of_ble_eq_true rfl, Nat.le_of_ble_eq_true rfl⟩ S x1 x2 hP va_S.rf (lv_sub (l := [(0, .ref (ad M_o)), (1, .int x1), (2, .int x2)]) hl [0, 1, 2] rfl) hq)
set_option maxHeartbeats 4000000 in
theorem w_X8_allSent_37 {p : Program} {l : Launch} {e : Env} {R : Room} {s : State} {m : MethodId} {args : Array Value} {below : List Frame} {meth : Method} {c : Code} {D : va_G} {dA : Nat → ClassId} {A : Nat → Prop} {ad : L3 → Nat} (X : CX RX8 cX8_allSent 4 (some .int) (KA D dA) p s m args meth c A) (hR : 1 ≤ R.frames ∧ 20 ≤ R.locals) {res : Int32} (S : Mem) (k7 : Int32 → Int32 → Int32 → Option (Int32)) (hk7 : ∀ (x1 : Int32) (x2 : Int32) (x3 : Int32) (H : Heap) (locs : List Loc) (ls : Array Slot), Wd D clA (shM dA) exM A ad S H → va_S A s.heap H locs → lv_has ls 4 [(0, .ref (ad M_o)), (1, .int x1), (2, .int x2), (3, .int x3)] → k7 x1 x2 x3 = some res → W p l e R s m args below meth c H locs 0 0 (MQ below (QiR D (shM dA) exM A ad S res) args s 0 0 A) (F0 m 7 ls [])) (x1 : Int32) (x3 : Int32) (y0 : Int32) (y1 : Int32) {H : Heap} {locs : List Loc} {ls : Array Slot} (hP : Wd D clA (shM dA) exM A ad S H) (hS : va_S A s.heap H locs) (hl : lv_has ls 4 [(0, .ref (ad M_o)), (1, .int x1), (3, .int x3)]) (hf : f_X8_allSent_37 S k7 x1 x3 y0 y1 = some res) : W p l e R s m args below meth c H locs 0 0 (MQ below (QiR D (shM dA) exM A ad S res) args s 0 0 A) (F0 m 37 ls [.int y0, .int y1]) := by
  have hx := X.hx
  have hb := X.hb
  unfold f_X8_allSent_37 at hf
  refine lv_iadd hx hb dX8_allSent_37 ?_
  refine lv_istore_n (lv' := [(2, .int (y1 + y0)), (0, .ref (ad M_o)), (1, .int x1), (3, .int x3)]) hx hb dX8_allSent_38 rfl hl (by decide) rfl (fun ls hl => ?_)
  refine lv_iinc (v := (x3 + 1)) (lv' := [(3, .int (x3 + 1)), (2, .int (y1 + y0)), (0, .ref (ad M_o)), (1, .int x1)]) hx hb dX8_allSent_39 hl (k := 3) rfl rfl (by decide) rfl (fun ls hl => ?_)
  refine lv_goto (tgt := 7) hx hb dX8_allSent_42 (by decide) ?_
  exact hk7 x1 (y1 + y0) (x3 + 1) _ _ _ hP hS (lv_sub hl [2, 3, 1, 0] rfl) hf
set_option maxHeartbeats 4000000 in
theorem w_X8_allSent_7_b {p : Program} {l : Launch} {e : Env} {R : Room} {s : State} {m : MethodId} {args : Array Value} {below : List Frame} {meth : Method} {c : Code} {D : va_G} {dA : Nat → ClassId} {A : Nat → Prop} {ad : L3 → Nat} (X : CX RX8 cX8_allSent 4 (some .int) (KA D dA) p s m args meth c A) (hR : 1 ≤ R.frames ∧ 20 ≤ R.locals) {res : Int32} (S : Mem) (k7 : Int32 → Int32 → Int32 → Option (Int32)) (hk7 : ∀ (x1 : Int32) (x2 : Int32) (x3 : Int32) (H : Heap) (locs : List Loc) (ls : Array Slot), Wd D clA (shM dA) exM A ad S H → va_S A s.heap H locs → lv_has ls 4 [(0, .ref (ad M_o)), (1, .int x1), (2, .int x2), (3, .int x3)] → k7 x1 x2 x3 = some res → W p l e R s m args below meth c H locs 0 0 (MQ below (QiR D (shM dA) exM A ad S res) args s 0 0 A) (F0 m 7 ls [])) (x1 : Int32) (x2 : Int32) (x3 : Int32) {H : Heap} {locs : List Loc} {ls : Array Slot} (hP : Wd D clA (shM dA) exM A ad S H) (hS : va_S A s.heap H locs) (hl : lv_has ls 4 [(0, .ref (ad M_o)), (1, .int x1), (2, .int x2), (3, .int x3)]) (hf : f_X8_allSent_7_b S k7 x1 x2 x3 = some res) : W p l e R s m args below meth c H locs 0 0 (MQ below (QiR D (shM dA) exM A ad S res) args s 0 0 A) (F0 m 7 ls []) := by
  have hx := X.hx
  have hb := X.hb
  unfold f_X8_allSent_7_b at hf
  refine lv_iload_n hx hb dX8_allSent_7 rfl (lv_at hl 3 rfl) ?_
  refine lv_ldc hx hb X.hown (X.hts _ q1261) dX8_allSent_8 ?_
  refine lv_iload_n hx hb dX8_allSent_10 rfl (lv_at hl 1 rfl) ?_
  refine lv_imul hx hb dX8_allSent_11 ?_
  refine lv_aload_n hx hb dX8_allSent_12 rfl (lv_at hl 0 rfl) ?_
  refine rg_X8_108 X hP dX8_allSent_13 ?_
  refine lv_iload_n hx hb dX8_allSent_16 rfl (lv_at hl 1 rfl) ?_
  refine ra_total_ld X hP dX8_allSent_17 hf (fun hf => ?_)
  refine lv_iadd hx hb dX8_allSent_18 ?_
  refine gb_icmp_ge (tgt := 45) hx hb dX8_allSent_19 (by decide) hf (fun hf => ?_) (fun hf => ?_)
  · refine lv_iload_n hx hb dX8_allSent_45 rfl (lv_at hl 2 rfl) ?_
    exact gr_iR X hP hS (Option.some.inj hf) dX8_allSent_46
  · refine lv_iload_n hx hb dX8_allSent_22 rfl (lv_at hl 2 rfl) ?_
    refine lv_aload_n hx hb dX8_allSent_23 rfl (lv_at hl 0 rfl) ?_
    refine rg_X8_120 X hP dX8_allSent_24 ?_
    refine lv_iload_n hx hb dX8_allSent_27 rfl (lv_at hl 3 rfl) ?_
    refine ra_mark_ld X hP dX8_allSent_28 hf (fun hf => ?_)
    refine gb_if_eq (tgt := 36) hx hb dX8_allSent_29 (by decide) hf (fun hf => ?_) (fun hf => ?_)
    · refine lv_iconst (v := 0) hx hb dX8_allSent_36 (by decide) ?_
      exact w_X8_allSent_37 X hR S k7 hk7 x1 x3 0 x2 hP hS (lv_sub hl [0, 1, 3] rfl) hf
    · refine lv_iconst (v := 1) hx hb dX8_allSent_32 (by decide) ?_
      refine lv_goto (tgt := 37) hx hb dX8_allSent_33 (by decide) ?_
      exact w_X8_allSent_37 X hR S k7 hk7 x1 x3 1 x2 hP hS (lv_sub hl [0, 1, 3] rfl) hf
set_option maxHeartbeats 4000000 in
theorem w_X8_allSent_7 {p : Program} {l : Launch} {e : Env} {R : Room} {s : State} {m : MethodId} {args : Array Value} {below : List Frame} {meth : Method} {c : Code} {D : va_G} {dA : Nat → ClassId} {A : Nat → Prop} {ad : L3 → Nat} (X : CX RX8 cX8_allSent 4 (some .int) (KA D dA) p s m args meth c A) (hR : 1 ≤ R.frames ∧ 20 ≤ R.locals) {res : Int32} (S : Mem) (n : Nat) : ∀ (x1 : Int32) (x2 : Int32) (x3 : Int32) (H : Heap) (locs : List Loc) (ls : Array Slot), Wd D clA (shM dA) exM A ad S H → va_S A s.heap H locs → lv_has ls 4 [(0, .ref (ad M_o)), (1, .int x1), (2, .int x2), (3, .int x3)] → f_X8_allSent_7 S n x1 x2 x3 = some res → W p l e R s m args below meth c H locs 0 0 (MQ below (QiR D (shM dA) exM A ad S res) args s 0 0 A) (F0 m 7 ls []) := by
  induction n with
  | zero =>
    intro x1 x2 x3 H locs ls hP hS hl hf
    exact absurd (show none = some res from hf) (fun h => by cases h)
  | succ n ih =>
    intro x1 x2 x3 H locs ls hP hS hl hf
    exact w_X8_allSent_7_b X hR S (f_X8_allSent_7 S n) ih x1 x2 x3 hP hS hl hf
set_option maxHeartbeats 4000000 in
theorem w_X8_allSent {p : Program} {l : Launch} {e : Env} {R : Room} {s : State} {m : MethodId} {args : Array Value} {below : List Frame} {meth : Method} {c : Code} {D : va_G} {dA : Nat → ClassId} {A : Nat → Prop} {ad : L3 → Nat} (X : CX RX8 cX8_allSent 4 (some .int) (KA D dA) p s m args meth c A) (hR : 1 ≤ R.frames ∧ 20 ≤ R.locals) {res : Int32} (S : Mem) (x1 : Int32) {H : Heap} {locs : List Loc} {ls : Array Slot} (hP : Wd D clA (shM dA) exM A ad S H) (hS : va_S A s.heap H locs) (hl : lv_has ls 4 [(0, .ref (ad M_o)), (1, .int x1)]) (hf : f_X8_allSent S x1 = some res) : W p l e R s m args below meth c H locs 0 0 (MQ below (QiR D (shM dA) exM A ad S res) args s 0 0 A) (F0 m 0 ls []) := by
  have hx := X.hx
  have hb := X.hb
  unfold f_X8_allSent at hf
  refine lv_iconst (v := 0) hx hb dX8_allSent_0 (by decide) ?_
  refine lv_istore_n (lv' := [(2, .int 0), (0, .ref (ad M_o)), (1, .int x1)]) hx hb dX8_allSent_1 rfl hl (by decide) rfl (fun ls hl => ?_)
  refine lv_ldc hx hb X.hown (X.hts _ q1261) dX8_allSent_2 ?_
  refine lv_iload_n hx hb dX8_allSent_4 rfl (lv_at hl 2 rfl) ?_
  refine lv_imul hx hb dX8_allSent_5 ?_
  refine lv_istore_n (lv' := [(3, .int (65536 * x1)), (2, .int 0), (0, .ref (ad M_o)), (1, .int x1)]) hx hb dX8_allSent_6 rfl hl (by decide) rfl (fun ls hl => ?_)
  exact w_X8_allSent_7 X hR S FU x1 0 (65536 * x1) _ _ _ hP hS (lv_sub hl [2, 3, 1, 0] rfl) hf
theorem hd_X8_allSent : yX8_allSent.cls = RX8 ∧ yX8_allSent.cls ≠ "java/lang/invoke/MethodHandle" ∧ yX8_allSent.cls ≠ "java/lang/invoke/VarHandle" ∧ (parseMethodDescriptor yX8_allSent.desc).map (fun d => d.parameters.length) = some 1 := by decide +kernel
set_option maxHeartbeats 4000000 in
theorem mt_X8_allSent (l : Launch) (D : va_G) (dA : Nat → ClassId) (A : Nat → Prop) (ad : L3 → Nat) (S : Mem) (x1 : Int32) {res : Int32} (hq : f_X8_allSent S x1 = some res) : Met l yX8_allSent (ws_ yX8_allSent cX8_allSent 4 (some .int)) ({ frames := 1, cells := 0, slots := 0, locals := 20 } : Room) (va_Pc [.ref (ad M_o), .int x1] (PreW D dA (shM dA) exM A ad S)) (QiR D (shM dA) exM A ad S res) 0 0 A :=
  gx_head (by decide) (Nat.le_of_ble_eq_true rfl) (fun p e s m below meth c ls X hP hl => w_X8_allSent (l := l) X ⟨Nat.le_of_ble_eq_true rfl, Nat.le_of_ble_eq_true rfl⟩ S x1 hP va_S.rf (lv_sub (l := [(0, .ref (ad M_o)), (1, .int x1)]) hl [0, 1] rfl) hq)
set_option maxHeartbeats 4000000 in
theorem w_X8_fillsBlocked_214 {p : Program} {l : Launch} {e : Env} {R : Room} {s : State} {m : MethodId} {args : Array Value} {below : List Frame} {meth : Method} {c : Code} {D : va_G} {dA : Nat → ClassId} {A : Nat → Prop} {ad : L3 → Nat} (X : CX RX8 cX8_fillsBlocked 6 (some .boolean) (KA D dA) p s m args meth c A) (hR : 6 ≤ R.frames ∧ 134 ≤ R.locals) {res : Mem × Int32} (k114 : Mem → Int32 → Int32 → Int32 → Option (Mem × Int32)) (hk114 : ∀ (S : Mem) (x1 : Int32) (x2 : Int32) (x4 : Int32) (H : Heap) (locs : List Loc) (ls : Array Slot), Wd D clA (shM dA) exM A ad S H → va_S A s.heap H locs → lv_has ls 6 [(0, .ref (ad M_o)), (1, .int x1), (2, .int x2), (4, .int x4)] → k114 S x1 x2 x4 = some res → W p l e R s m args below meth c H locs 0 0 (MQ below (QiW D (shM dA) exM A ad res) args s 0 0 A) (F0 m 114 ls [])) (S : Mem) (x1 : Int32) (x2 : Int32) (x4 : Int32) {H : Heap} {locs : List Loc} {ls : Array Slot} (hP : Wd D clA (shM dA) exM A ad S H) (hS : va_S A s.heap H locs) (hl : lv_has ls 6 [(0, .ref (ad M_o)), (1, .int x1), (2, .int x2), (4, .int x4)]) (hf : f_X8_fillsBlocked_214 k114 S x1 x2 x4 = some res) : W p l e R s m args below meth c H locs 0 0 (MQ below (QiW D (shM dA) exM A ad res) args s 0 0 A) (F0 m 214 ls []) := by
  have hx := X.hx
  have hb := X.hb
  unfold f_X8_fillsBlocked_214 at hf
  refine lv_iinc (v := (x4 + 1)) (lv' := [(4, .int (x4 + 1)), (0, .ref (ad M_o)), (1, .int x1), (2, .int x2)]) hx hb dX8_fillsBlocked_214 hl (k := 3) rfl rfl (by decide) rfl (fun ls hl => ?_)
  refine lv_goto (tgt := 114) hx hb dX8_fillsBlocked_217 (by decide) ?_
  exact hk114 S x1 x2 (x4 + 1) _ _ _ hP hS (lv_sub hl [1, 2, 3, 0] rfl) hf
set_option maxHeartbeats 4000000 in
theorem w_X8_fillsBlocked_332 {p : Program} {l : Launch} {e : Env} {R : Room} {s : State} {m : MethodId} {args : Array Value} {below : List Frame} {meth : Method} {c : Code} {D : va_G} {dA : Nat → ClassId} {A : Nat → Prop} {ad : L3 → Nat} (X : CX RX8 cX8_fillsBlocked 6 (some .boolean) (KA D dA) p s m args meth c A) (hR : 6 ≤ R.frames ∧ 134 ≤ R.locals) {res : Mem × Int32} (k223 : Mem → Int32 → Int32 → Int32 → Option (Mem × Int32)) (hk223 : ∀ (S : Mem) (x1 : Int32) (x2 : Int32) (x4 : Int32) (H : Heap) (locs : List Loc) (ls : Array Slot), Wd D clA (shM dA) exM A ad S H → va_S A s.heap H locs → lv_has ls 6 [(0, .ref (ad M_o)), (1, .int x1), (2, .int x2), (4, .int x4)] → k223 S x1 x2 x4 = some res → W p l e R s m args below meth c H locs 0 0 (MQ below (QiW D (shM dA) exM A ad res) args s 0 0 A) (F0 m 223 ls [])) (S : Mem) (x1 : Int32) (x2 : Int32) (x4 : Int32) {H : Heap} {locs : List Loc} {ls : Array Slot} (hP : Wd D clA (shM dA) exM A ad S H) (hS : va_S A s.heap H locs) (hl : lv_has ls 6 [(0, .ref (ad M_o)), (1, .int x1), (2, .int x2), (4, .int x4)]) (hf : f_X8_fillsBlocked_332 k223 S x1 x2 x4 = some res) : W p l e R s m args below meth c H locs 0 0 (MQ below (QiW D (shM dA) exM A ad res) args s 0 0 A) (F0 m 332 ls []) := by
  have hx := X.hx
  have hb := X.hb
  unfold f_X8_fillsBlocked_332 at hf
  refine lv_iinc (v := (x4 + 1)) (lv' := [(4, .int (x4 + 1)), (0, .ref (ad M_o)), (1, .int x1), (2, .int x2)]) hx hb dX8_fillsBlocked_332 hl (k := 3) rfl rfl (by decide) rfl (fun ls hl => ?_)
  refine lv_goto (tgt := 223) hx hb dX8_fillsBlocked_335 (by decide) ?_
  exact hk223 S x1 x2 (x4 + 1) _ _ _ hP hS (lv_sub hl [1, 2, 3, 0] rfl) hf
set_option maxHeartbeats 4000000 in
theorem w_X8_fillsBlocked_223_b {p : Program} {l : Launch} {e : Env} {R : Room} {s : State} {m : MethodId} {args : Array Value} {below : List Frame} {meth : Method} {c : Code} {D : va_G} {dA : Nat → ClassId} {A : Nat → Prop} {ad : L3 → Nat} (X : CX RX8 cX8_fillsBlocked 6 (some .boolean) (KA D dA) p s m args meth c A) (hR : 6 ≤ R.frames ∧ 134 ≤ R.locals) {res : Mem × Int32} (k223 : Mem → Int32 → Int32 → Int32 → Option (Mem × Int32)) (hk223 : ∀ (S : Mem) (x1 : Int32) (x2 : Int32) (x4 : Int32) (H : Heap) (locs : List Loc) (ls : Array Slot), Wd D clA (shM dA) exM A ad S H → va_S A s.heap H locs → lv_has ls 6 [(0, .ref (ad M_o)), (1, .int x1), (2, .int x2), (4, .int x4)] → k223 S x1 x2 x4 = some res → W p l e R s m args below meth c H locs 0 0 (MQ below (QiW D (shM dA) exM A ad res) args s 0 0 A) (F0 m 223 ls [])) (S : Mem) (x1 : Int32) (x2 : Int32) (x4 : Int32) {H : Heap} {locs : List Loc} {ls : Array Slot} (hP : Wd D clA (shM dA) exM A ad S H) (hS : va_S A s.heap H locs) (hl : lv_has ls 6 [(0, .ref (ad M_o)), (1, .int x1), (2, .int x2), (4, .int x4)]) (hf : f_X8_fillsBlocked_223_b k223 S x1 x2 x4 = some res) : W p l e R s m args below meth c H locs 0 0 (MQ below (QiW D (shM dA) exM A ad res) args s 0 0 A) (F0 m 223 ls []) := by
  have hx := X.hx
  have hb := X.hb
  unfold f_X8_fillsBlocked_223_b at hf
  refine lv_iload hx hb dX8_fillsBlocked_223 (lv_at hl 3 rfl) ?_
  refine lv_iconst (v := 2) hx hb dX8_fillsBlocked_225 (by decide) ?_
  refine gb_icmp_ge (tgt := 338) hx hb dX8_fillsBlocked_226 (by decide) hf (fun hf => ?_) (fun hf => ?_)
  · refine lv_iconst (v := 0) hx hb dX8_fillsBlocked_338 (by decide) ?_
    exact gr_zW X hP hS (Option.some.inj hf) (by decide) dX8_fillsBlocked_339
  · refine lv_iconst (v := 3) hx hb dX8_fillsBlocked_229 (by decide) ?_
    refine lv_iload_n hx hb dX8_fillsBlocked_230 rfl (lv_at hl 1 rfl) ?_
    refine lv_imul hx hb dX8_fillsBlocked_231 ?_
    refine lv_iconst (v := 1) hx hb dX8_fillsBlocked_232 (by decide) ?_
    refine lv_iadd hx hb dX8_fillsBlocked_233 ?_
    refine lv_iload hx hb dX8_fillsBlocked_234 (lv_at hl 3 rfl) ?_
    refine lv_iadd hx hb dX8_fillsBlocked_236 ?_
    refine lv_istore (lv' := [(5, .int (((3 * x1) + 1) + x4)), (0, .ref (ad M_o)), (1, .int x1), (2, .int x2), (4, .int x4)]) hx hb dX8_fillsBlocked_237 hl (by decide) rfl (fun ls hl => ?_)
    refine lv_aload_n hx hb dX8_fillsBlocked_239 rfl (lv_at hl 1 rfl) ?_
    refine rg_X8_45 X hP dX8_fillsBlocked_240 ?_
    refine lv_iconst (v := 2) hx hb dX8_fillsBlocked_243 (by decide) ?_
    refine lv_iload_n hx hb dX8_fillsBlocked_244 rfl (lv_at hl 2 rfl) ?_
    refine lv_imul hx hb dX8_fillsBlocked_245 ?_
    refine lv_iload hx hb dX8_fillsBlocked_246 (lv_at hl 4 rfl) ?_
    refine lv_iadd hx hb dX8_fillsBlocked_248 ?_
    refine ra_refused_ld X hP dX8_fillsBlocked_249 hf (fun hf => ?_)
    refine gb_if_eq (tgt := 332) hx hb dX8_fillsBlocked_250 (by decide) hf (fun hf => ?_) (fun hf => ?_)
    · exact w_X8_fillsBlocked_332 X hR k223 hk223 S x1 x2 x4 hP hS (lv_sub hl [1, 2, 3, 4] rfl) hf
    · refine lv_aload_n hx hb dX8_fillsBlocked_253 rfl (lv_at hl 1 rfl) ?_
      refine rg_X8_23 X hP dX8_fillsBlocked_254 ?_
      refine lv_iconst (v := 2) hx hb dX8_fillsBlocked_257 (by decide) ?_
      refine lv_iload_n hx hb dX8_fillsBlocked_258 rfl (lv_at hl 2 rfl) ?_
      refine lv_imul hx hb dX8_fillsBlocked_259 ?_
      refine lv_iload hx hb dX8_fillsBlocked_260 (lv_at hl 4 rfl) ?_
      refine lv_iadd hx hb dX8_fillsBlocked_262 ?_
      refine ra_opened_ld X hP dX8_fillsBlocked_263 hf (fun hf => ?_)
      refine lv_i2l hx hb dX8_fillsBlocked_264 rfl ?_
      refine lv_aload_n hx hb dX8_fillsBlocked_265 rfl (lv_at hl 1 rfl) ?_
      refine rg_X8_19 X hP dX8_fillsBlocked_266 ?_
      refine lv_iload hx hb dX8_fillsBlocked_269 (lv_at hl 0 rfl) ?_
      refine ra_limits_ld X hP dX8_fillsBlocked_271 hf (fun hf => ?_)
      refine gb_lcmp_lt (tgt := 332) hx hb dX8_fillsBlocked_272 dX8_fillsBlocked_273 (by decide) hf (fun hf => ?_) (fun hf => ?_)
      · exact w_X8_fillsBlocked_332 X hR k223 hk223 S x1 x2 x4 hP hS (lv_sub hl [1, 2, 3, 4] rfl) hf
      · refine lv_aload_n hx hb dX8_fillsBlocked_276 rfl (lv_at hl 1 rfl) ?_
        refine rg_X8_42 X hP dX8_fillsBlocked_277 ?_
        refine lv_iload hx hb dX8_fillsBlocked_280 (lv_at hl 0 rfl) ?_
        refine ra_toldBlocked_ld X hP dX8_fillsBlocked_282 hf (fun hf => ?_)
        refine lv_aload_n hx hb dX8_fillsBlocked_283 rfl (lv_at hl 1 rfl) ?_
        refine rg_X8_19 X hP dX8_fillsBlocked_284 ?_
        refine lv_iload hx hb dX8_fillsBlocked_287 (lv_at hl 0 rfl) ?_
        refine ra_limits_ld X hP dX8_fillsBlocked_289 hf (fun hf => ?_)
        refine gb_lcmp_eq (tgt := 332) hx hb dX8_fillsBlocked_290 dX8_fillsBlocked_291 (by decide) hf (fun hf => ?_) (fun hf => ?_)
        · exact w_X8_fillsBlocked_332 X hR k223 hk223 S x1 x2 x4 hP hS (lv_sub hl [1, 2, 3, 4] rfl) hf
        · refine lv_aload_n hx hb dX8_fillsBlocked_294 rfl (lv_at hl 1 rfl) ?_
          refine lv_bipush (v := 22) hx hb dX8_fillsBlocked_295 (by decide) ?_
          refine lv_iload hx hb dX8_fillsBlocked_297 (lv_at hl 4 rfl) ?_
          refine lv_iadd hx hb dX8_fillsBlocked_299 ?_
          refine lv_aload_n hx hb dX8_fillsBlocked_300 rfl (lv_at hl 1 rfl) ?_
          refine rg_X8_19 X hP dX8_fillsBlocked_301 ?_
          refine lv_iload hx hb dX8_fillsBlocked_304 (lv_at hl 0 rfl) ?_
          refine ra_limits_ld X hP dX8_fillsBlocked_306 hf (fun hf => ?_)
          refine lv_lconst (v := 0) hx hb dX8_fillsBlocked_307 (by decide) ?_
          refine lv_lconst (v := 0) hx hb dX8_fillsBlocked_308 (by decide) ?_
          refine lv_iload_n hx hb dX8_fillsBlocked_309 rfl (lv_at hl 3 rfl) ?_
          obtain ⟨S1, v2, hq, hf⟩ := gS2_eq hf
          refine gc_i (gc_fixV (S := S) X (mt_X8_lays l D dA A ad S (22 + x4) (S.2 M_limits (Int32.toNatClampNeg (((3 * x1) + 1) + x4))) (0 : Int64) (0 : Int64) x2 hq) (lw_V q1467 q1469 qs69 q93 q1470) ⟨rfl, rfl⟩ hd_X8_lays ⟨Nat.le_trans (Nat.le_of_ble_eq_true rfl) hR.1, Nat.le_trans (Nat.le_of_ble_eq_true rfl) hR.2⟩ (wd_recv (r := M_o) (ci := 0) (q := (RX8, TX8, 61)) X.hK.1 hP ⟨rfl, rfl⟩ rfl rfl) hP hS ⟨Nat.zero_le _, Nat.zero_le _⟩ rfl hl.1 rfl (Nat.le_of_ble_eq_true rfl) dX8_fillsBlocked_310) hS ?_
          rintro _ _ H locs ⟨⟩ hP hS
          refine gb_if_eq (tgt := 332) hx hb dX8_fillsBlocked_313 (by decide) hf (fun hf => ?_) (fun hf => ?_)
          · exact w_X8_fillsBlocked_332 X hR k223 hk223 S1 x1 x2 x4 hP hS (lv_sub hl [1, 2, 3, 4] rfl) hf
          · refine lv_aload_n hx hb dX8_fillsBlocked_316 rfl (lv_at hl 1 rfl) ?_
            refine rg_X8_42 X hP dX8_fillsBlocked_317 ?_
            refine lv_iload hx hb dX8_fillsBlocked_320 (lv_at hl 0 rfl) ?_
            refine lv_aload_n hx hb dX8_fillsBlocked_322 rfl (lv_at hl 1 rfl) ?_
            refine rg_X8_19 X hP dX8_fillsBlocked_323 ?_
            refine lv_iload hx hb dX8_fillsBlocked_326 (lv_at hl 0 rfl) ?_
            refine ra_limits_ld X hP dX8_fillsBlocked_328 hf (fun hf => ?_)
            refine ra_toldBlocked_st X hP hS dX8_fillsBlocked_329 hf (fun S3 H locs hP hS hf => ?_)
            refine lv_iconst (v := 1) hx hb dX8_fillsBlocked_330 (by decide) ?_
            exact gr_zW X hP hS (Option.some.inj hf) (by decide) dX8_fillsBlocked_331
set_option maxHeartbeats 4000000 in
theorem w_X8_fillsBlocked_223 {p : Program} {l : Launch} {e : Env} {R : Room} {s : State} {m : MethodId} {args : Array Value} {below : List Frame} {meth : Method} {c : Code} {D : va_G} {dA : Nat → ClassId} {A : Nat → Prop} {ad : L3 → Nat} (X : CX RX8 cX8_fillsBlocked 6 (some .boolean) (KA D dA) p s m args meth c A) (hR : 6 ≤ R.frames ∧ 134 ≤ R.locals) {res : Mem × Int32} (n : Nat) : ∀ (S : Mem) (x1 : Int32) (x2 : Int32) (x4 : Int32) (H : Heap) (locs : List Loc) (ls : Array Slot), Wd D clA (shM dA) exM A ad S H → va_S A s.heap H locs → lv_has ls 6 [(0, .ref (ad M_o)), (1, .int x1), (2, .int x2), (4, .int x4)] → f_X8_fillsBlocked_223 n S x1 x2 x4 = some res → W p l e R s m args below meth c H locs 0 0 (MQ below (QiW D (shM dA) exM A ad res) args s 0 0 A) (F0 m 223 ls []) := by
  induction n with
  | zero =>
    intro S x1 x2 x4 H locs ls hP hS hl hf
    exact absurd (show none = some res from hf) (fun h => by cases h)
  | succ n ih =>
    intro S x1 x2 x4 H locs ls hP hS hl hf
    exact w_X8_fillsBlocked_223_b X hR (f_X8_fillsBlocked_223 n) ih S x1 x2 x4 hP hS hl hf
set_option maxHeartbeats 4000000 in
theorem w_X8_fillsBlocked_114_b {p : Program} {l : Launch} {e : Env} {R : Room} {s : State} {m : MethodId} {args : Array Value} {below : List Frame} {meth : Method} {c : Code} {D : va_G} {dA : Nat → ClassId} {A : Nat → Prop} {ad : L3 → Nat} (X : CX RX8 cX8_fillsBlocked 6 (some .boolean) (KA D dA) p s m args meth c A) (hR : 6 ≤ R.frames ∧ 134 ≤ R.locals) {res : Mem × Int32} (k114 : Mem → Int32 → Int32 → Int32 → Option (Mem × Int32)) (hk114 : ∀ (S : Mem) (x1 : Int32) (x2 : Int32) (x4 : Int32) (H : Heap) (locs : List Loc) (ls : Array Slot), Wd D clA (shM dA) exM A ad S H → va_S A s.heap H locs → lv_has ls 6 [(0, .ref (ad M_o)), (1, .int x1), (2, .int x2), (4, .int x4)] → k114 S x1 x2 x4 = some res → W p l e R s m args below meth c H locs 0 0 (MQ below (QiW D (shM dA) exM A ad res) args s 0 0 A) (F0 m 114 ls [])) (S : Mem) (x1 : Int32) (x2 : Int32) (x4 : Int32) {H : Heap} {locs : List Loc} {ls : Array Slot} (hP : Wd D clA (shM dA) exM A ad S H) (hS : va_S A s.heap H locs) (hl : lv_has ls 6 [(0, .ref (ad M_o)), (1, .int x1), (2, .int x2), (4, .int x4)]) (hf : f_X8_fillsBlocked_114_b k114 S x1 x2 x4 = some res) : W p l e R s m args below meth c H locs 0 0 (MQ below (QiW D (shM dA) exM A ad res) args s 0 0 A) (F0 m 114 ls []) := by
  have hx := X.hx
  have hb := X.hb
  unfold f_X8_fillsBlocked_114_b at hf
  refine lv_iload hx hb dX8_fillsBlocked_114 (lv_at hl 3 rfl) ?_
  refine lv_sipush (v := 256) hx hb dX8_fillsBlocked_116 (by decide) ?_
  refine gb_icmp_ge (tgt := 220) hx hb dX8_fillsBlocked_119 (by decide) hf (fun hf => ?_) (fun hf => ?_)
  · refine lv_iconst (v := 0) hx hb dX8_fillsBlocked_220 (by decide) ?_
    refine lv_istore (lv' := [(4, .int 0), (0, .ref (ad M_o)), (1, .int x1), (2, .int x2)]) hx hb dX8_fillsBlocked_221 hl (by decide) rfl (fun ls hl => ?_)
    exact w_X8_fillsBlocked_223 X hR FU S x1 x2 0 _ _ _ hP hS (lv_sub hl [1, 2, 3, 0] rfl) hf
  · refine lv_iload_n hx hb dX8_fillsBlocked_122 rfl (lv_at hl 1 rfl) ?_
    refine lv_iload hx hb dX8_fillsBlocked_123 (lv_at hl 3 rfl) ?_
    obtain ⟨v1, hq, hf⟩ := gS_eq hf
    refine gc_i (gc_fixS (S := S) X (mt_X8_at l D dA A ad S x1 x4 hq) (lw_S q1283 q1284 q93 q1285) ⟨rfl, rfl⟩ hd_X8_at.2 ⟨Nat.le_trans (Nat.le_of_ble_eq_true rfl) hR.1, Nat.le_trans (Nat.le_of_ble_eq_true rfl) hR.2⟩ hP hS ⟨Nat.zero_le _, Nat.zero_le _⟩ rfl hl.1 rfl (Nat.le_of_ble_eq_true rfl) dX8_fillsBlocked_125) hS ?_
    rintro _ _ H locs ⟨rfl, rfl⟩ hP hS
    refine lv_istore (lv' := [(5, .int v1), (0, .ref (ad M_o)), (1, .int x1), (2, .int x2), (4, .int x4)]) hx hb dX8_fillsBlocked_128 hl (by decide) rfl (fun ls hl => ?_)
    refine lv_aload_n hx hb dX8_fillsBlocked_130 rfl (lv_at hl 1 rfl) ?_
    refine lv_iload_n hx hb dX8_fillsBlocked_131 rfl (lv_at hl 2 rfl) ?_
    refine lv_iload hx hb dX8_fillsBlocked_132 (lv_at hl 4 rfl) ?_
    obtain ⟨v2, hq, hf⟩ := gB_some hf
    refine gc_i (gc_fixV (S := S) X (mt_X8_waits l D dA A ad S x1 x4 hq) (lw_V q1488 q1490 qs73 q93 q1491) ⟨rfl, rfl⟩ hd_X8_waits ⟨Nat.le_trans (Nat.le_of_ble_eq_true rfl) hR.1, Nat.le_trans (Nat.le_of_ble_eq_true rfl) hR.2⟩ (wd_recv (r := M_o) (ci := 0) (q := (RX8, TX8, 61)) X.hK.1 hP ⟨rfl, rfl⟩ rfl rfl) hP hS ⟨Nat.zero_le _, Nat.zero_le _⟩ rfl hl.1 rfl (Nat.le_of_ble_eq_true rfl) dX8_fillsBlocked_134) hS ?_
    rintro _ _ H locs ⟨rfl, rfl⟩ hP hS
    refine gb_if_eq (tgt := 214) hx hb dX8_fillsBlocked_137 (by decide) hf (fun hf => ?_) (fun hf => ?_)
    · exact w_X8_fillsBlocked_214 X hR k114 hk114 S x1 x2 x4 hP hS (lv_sub hl [1, 2, 3, 4] rfl) hf
    · refine lv_aload_n hx hb dX8_fillsBlocked_140 rfl (lv_at hl 1 rfl) ?_
      refine lv_iload_n hx hb dX8_fillsBlocked_141 rfl (lv_at hl 2 rfl) ?_
      refine lv_iload hx hb dX8_fillsBlocked_142 (lv_at hl 4 rfl) ?_
      obtain ⟨v3, hq, hf⟩ := gB_some hf
      refine gc_i (gc_fixV (S := S) X (mt_X8_sent l D dA A ad S x1 x4 hq) (lw_V q1463 q1465 qs68 q93 q1466) ⟨rfl, rfl⟩ hd_X8_sent ⟨Nat.le_trans (Nat.le_of_ble_eq_true rfl) hR.1, Nat.le_trans (Nat.le_of_ble_eq_true rfl) hR.2⟩ (wd_recv (r := M_o) (ci := 0) (q := (RX8, TX8, 61)) X.hK.1 hP ⟨rfl, rfl⟩ rfl rfl) hP hS ⟨Nat.zero_le _, Nat.zero_le _⟩ rfl hl.1 rfl (Nat.le_of_ble_eq_true rfl) dX8_fillsBlocked_144) hS ?_
      rintro _ _ H locs ⟨rfl, rfl⟩ hP hS
      refine lv_i2l hx hb dX8_fillsBlocked_147 rfl ?_
      refine lv_aload_n hx hb dX8_fillsBlocked_148 rfl (lv_at hl 1 rfl) ?_
      refine rg_X8_54 X hP dX8_fillsBlocked_149 ?_
      refine lv_iload hx hb dX8_fillsBlocked_152 (lv_at hl 0 rfl) ?_
      refine ra_limit_ld X hP dX8_fillsBlocked_154 hf (fun hf => ?_)
      refine gb_lcmp_ne (tgt := 214) hx hb dX8_fillsBlocked_155 dX8_fillsBlocked_156 (by decide) hf (fun hf => ?_) (fun hf => ?_)
      · exact w_X8_fillsBlocked_214 X hR k114 hk114 S x1 x2 x4 hP hS (lv_sub hl [1, 2, 3, 4] rfl) hf
      · refine lv_aload_n hx hb dX8_fillsBlocked_159 rfl (lv_at hl 1 rfl) ?_
        refine rg_X8_72 X hP dX8_fillsBlocked_160 ?_
        refine lv_iload hx hb dX8_fillsBlocked_163 (lv_at hl 0 rfl) ?_
        refine ra_toldLimit_ld X hP dX8_fillsBlocked_165 hf (fun hf => ?_)
        refine lv_aload_n hx hb dX8_fillsBlocked_166 rfl (lv_at hl 1 rfl) ?_
        refine rg_X8_54 X hP dX8_fillsBlocked_167 ?_
        refine lv_iload hx hb dX8_fillsBlocked_170 (lv_at hl 0 rfl) ?_
        refine ra_limit_ld X hP dX8_fillsBlocked_172 hf (fun hf => ?_)
        refine gb_lcmp_eq (tgt := 214) hx hb dX8_fillsBlocked_173 dX8_fillsBlocked_174 (by decide) hf (fun hf => ?_) (fun hf => ?_)
        · exact w_X8_fillsBlocked_214 X hR k114 hk114 S x1 x2 x4 hP hS (lv_sub hl [1, 2, 3, 4] rfl) hf
        · refine lv_aload_n hx hb dX8_fillsBlocked_177 rfl (lv_at hl 1 rfl) ?_
          refine lv_bipush (v := 21) hx hb dX8_fillsBlocked_178 (by decide) ?_
          refine lv_iload hx hb dX8_fillsBlocked_180 (lv_at hl 4 rfl) ?_
          refine lv_i2l hx hb dX8_fillsBlocked_182 rfl ?_
          refine lv_aload_n hx hb dX8_fillsBlocked_183 rfl (lv_at hl 1 rfl) ?_
          refine rg_X8_54 X hP dX8_fillsBlocked_184 ?_
          refine lv_iload hx hb dX8_fillsBlocked_187 (lv_at hl 0 rfl) ?_
          refine ra_limit_ld X hP dX8_fillsBlocked_189 hf (fun hf => ?_)
          refine lv_lconst (v := 0) hx hb dX8_fillsBlocked_190 (by decide) ?_
          refine lv_iload_n hx hb dX8_fillsBlocked_191 rfl (lv_at hl 3 rfl) ?_
          obtain ⟨S4, v5, hq, hf⟩ := gS2_eq hf
          refine gc_i (gc_fixV (S := S) X (mt_X8_lays l D dA A ad S (21 : Int32) (Int32.toInt64 x4) (S.2 M_limit (Int32.toNatClampNeg v1)) (0 : Int64) x2 hq) (lw_V q1467 q1469 qs69 q93 q1470) ⟨rfl, rfl⟩ hd_X8_lays ⟨Nat.le_trans (Nat.le_of_ble_eq_true rfl) hR.1, Nat.le_trans (Nat.le_of_ble_eq_true rfl) hR.2⟩ (wd_recv (r := M_o) (ci := 0) (q := (RX8, TX8, 61)) X.hK.1 hP ⟨rfl, rfl⟩ rfl rfl) hP hS ⟨Nat.zero_le _, Nat.zero_le _⟩ rfl hl.1 rfl (Nat.le_of_ble_eq_true rfl) dX8_fillsBlocked_192) hS ?_
          rintro _ _ H locs ⟨⟩ hP hS
          refine gb_if_eq (tgt := 214) hx hb dX8_fillsBlocked_195 (by decide) hf (fun hf => ?_) (fun hf => ?_)
          · exact w_X8_fillsBlocked_214 X hR k114 hk114 S4 x1 x2 x4 hP hS (lv_sub hl [1, 2, 3, 4] rfl) hf
          · refine lv_aload_n hx hb dX8_fillsBlocked_198 rfl (lv_at hl 1 rfl) ?_
            refine rg_X8_72 X hP dX8_fillsBlocked_199 ?_
            refine lv_iload hx hb dX8_fillsBlocked_202 (lv_at hl 0 rfl) ?_
            refine lv_aload_n hx hb dX8_fillsBlocked_204 rfl (lv_at hl 1 rfl) ?_
            refine rg_X8_54 X hP dX8_fillsBlocked_205 ?_
            refine lv_iload hx hb dX8_fillsBlocked_208 (lv_at hl 0 rfl) ?_
            refine ra_limit_ld X hP dX8_fillsBlocked_210 hf (fun hf => ?_)
            refine ra_toldLimit_st X hP hS dX8_fillsBlocked_211 hf (fun S6 H locs hP hS hf => ?_)
            refine lv_iconst (v := 1) hx hb dX8_fillsBlocked_212 (by decide) ?_
            exact gr_zW X hP hS (Option.some.inj hf) (by decide) dX8_fillsBlocked_213
set_option maxHeartbeats 4000000 in
theorem w_X8_fillsBlocked_114 {p : Program} {l : Launch} {e : Env} {R : Room} {s : State} {m : MethodId} {args : Array Value} {below : List Frame} {meth : Method} {c : Code} {D : va_G} {dA : Nat → ClassId} {A : Nat → Prop} {ad : L3 → Nat} (X : CX RX8 cX8_fillsBlocked 6 (some .boolean) (KA D dA) p s m args meth c A) (hR : 6 ≤ R.frames ∧ 134 ≤ R.locals) {res : Mem × Int32} (n : Nat) : ∀ (S : Mem) (x1 : Int32) (x2 : Int32) (x4 : Int32) (H : Heap) (locs : List Loc) (ls : Array Slot), Wd D clA (shM dA) exM A ad S H → va_S A s.heap H locs → lv_has ls 6 [(0, .ref (ad M_o)), (1, .int x1), (2, .int x2), (4, .int x4)] → f_X8_fillsBlocked_114 n S x1 x2 x4 = some res → W p l e R s m args below meth c H locs 0 0 (MQ below (QiW D (shM dA) exM A ad res) args s 0 0 A) (F0 m 114 ls []) := by
  induction n with
  | zero =>
    intro S x1 x2 x4 H locs ls hP hS hl hf
    exact absurd (show none = some res from hf) (fun h => by cases h)
  | succ n ih =>
    intro S x1 x2 x4 H locs ls hP hS hl hf
    exact w_X8_fillsBlocked_114_b X hR (f_X8_fillsBlocked_114 n) ih S x1 x2 x4 hP hS hl hf
set_option maxHeartbeats 4000000 in
theorem w_X8_fillsBlocked_111 {p : Program} {l : Launch} {e : Env} {R : Room} {s : State} {m : MethodId} {args : Array Value} {below : List Frame} {meth : Method} {c : Code} {D : va_G} {dA : Nat → ClassId} {A : Nat → Prop} {ad : L3 → Nat} (X : CX RX8 cX8_fillsBlocked 6 (some .boolean) (KA D dA) p s m args meth c A) (hR : 6 ≤ R.frames ∧ 134 ≤ R.locals) {res : Mem × Int32} (S : Mem) (x1 : Int32) (x2 : Int32) {H : Heap} {locs : List Loc} {ls : Array Slot} (hP : Wd D clA (shM dA) exM A ad S H) (hS : va_S A s.heap H locs) (hl : lv_has ls 6 [(0, .ref (ad M_o)), (1, .int x1), (2, .int x2)]) (hf : f_X8_fillsBlocked_111 S x1 x2 = some res) : W p l e R s m args below meth c H locs 0 0 (MQ below (QiW D (shM dA) exM A ad res) args s 0 0 A) (F0 m 111 ls []) := by
  have hx := X.hx
  have hb := X.hb
  unfold f_X8_fillsBlocked_111 at hf
  refine lv_iconst (v := 0) hx hb dX8_fillsBlocked_111 (by decide) ?_
  refine lv_istore (lv' := [(4, .int 0), (0, .ref (ad M_o)), (1, .int x1), (2, .int x2)]) hx hb dX8_fillsBlocked_112 hl (by decide) rfl (fun ls hl => ?_)
  exact w_X8_fillsBlocked_114 X hR FU S x1 x2 0 _ _ _ hP hS (lv_sub hl [1, 2, 3, 0] rfl) hf
set_option maxHeartbeats 4000000 in
theorem w_X8_fillsBlocked_31 {p : Program} {l : Launch} {e : Env} {R : Room} {s : State} {m : MethodId} {args : Array Value} {below : List Frame} {meth : Method} {c : Code} {D : va_G} {dA : Nat → ClassId} {A : Nat → Prop} {ad : L3 → Nat} (X : CX RX8 cX8_fillsBlocked 6 (some .boolean) (KA D dA) p s m args meth c A) (hR : 6 ≤ R.frames ∧ 134 ≤ R.locals) {res : Mem × Int32} (S : Mem) (x1 : Int32) (x2 : Int32) (x3 : Int32) {H : Heap} {locs : List Loc} {ls : Array Slot} (hP : Wd D clA (shM dA) exM A ad S H) (hS : va_S A s.heap H locs) (hl : lv_has ls 6 [(0, .ref (ad M_o)), (1, .int x1), (2, .int x2), (3, .int x3)]) (hf : f_X8_fillsBlocked_31 S x1 x2 x3 = some res) : W p l e R s m args below meth c H locs 0 0 (MQ below (QiW D (shM dA) exM A ad res) args s 0 0 A) (F0 m 31 ls []) := by
  have hx := X.hx
  have hb := X.hb
  unfold f_X8_fillsBlocked_31 at hf
  refine lv_iload_n hx hb dX8_fillsBlocked_31 rfl (lv_at hl 3 rfl) ?_
  refine gb_if_eq (tgt := 111) hx hb dX8_fillsBlocked_32 (by decide) hf (fun hf => ?_) (fun hf => ?_)
  · exact w_X8_fillsBlocked_111 X hR S x1 x2 hP hS (lv_sub hl [0, 1, 2] rfl) hf
  · refine lv_aload_n hx hb dX8_fillsBlocked_35 rfl (lv_at hl 0 rfl) ?_
    refine lv_iload_n hx hb dX8_fillsBlocked_36 rfl (lv_at hl 1 rfl) ?_
    obtain ⟨v1, hq, hf⟩ := gB_some hf
    refine gc_i (gc_fixV (S := S) X (mt_X8_allSent l D dA A ad S x1 hq) (lw_V q1492 q1494 qs74 q93 q1495) ⟨rfl, rfl⟩ hd_X8_allSent ⟨Nat.le_trans (Nat.le_of_ble_eq_true rfl) hR.1, Nat.le_trans (Nat.le_of_ble_eq_true rfl) hR.2⟩ (wd_recv (r := M_o) (ci := 0) (q := (RX8, TX8, 61)) X.hK.1 hP ⟨rfl, rfl⟩ rfl rfl) hP hS ⟨Nat.zero_le _, Nat.zero_le _⟩ rfl hl.1 rfl (Nat.le_of_ble_eq_true rfl) dX8_fillsBlocked_37) hS ?_
    rintro _ _ H locs ⟨rfl, rfl⟩ hP hS
    refine lv_i2l hx hb dX8_fillsBlocked_40 rfl ?_
    refine lv_aload_n hx hb dX8_fillsBlocked_41 rfl (lv_at hl 0 rfl) ?_
    refine rg_X8_19 X hP dX8_fillsBlocked_42 ?_
    refine lv_iconst (v := 3) hx hb dX8_fillsBlocked_45 (by decide) ?_
    refine lv_iload_n hx hb dX8_fillsBlocked_46 rfl (lv_at hl 1 rfl) ?_
    refine lv_imul hx hb dX8_fillsBlocked_47 ?_
    refine ra_limits_ld X hP dX8_fillsBlocked_48 hf (fun hf => ?_)
    refine gb_lcmp_ne (tgt := 111) hx hb dX8_fillsBlocked_49 dX8_fillsBlocked_50 (by decide) hf (fun hf => ?_) (fun hf => ?_)
    · exact w_X8_fillsBlocked_111 X hR S x1 x2 hP hS (lv_sub hl [0, 1, 2] rfl) hf
    · refine lv_aload_n hx hb dX8_fillsBlocked_53 rfl (lv_at hl 0 rfl) ?_
      refine rg_X8_42 X hP dX8_fillsBlocked_54 ?_
      refine lv_iconst (v := 3) hx hb dX8_fillsBlocked_57 (by decide) ?_
      refine lv_iload_n hx hb dX8_fillsBlocked_58 rfl (lv_at hl 1 rfl) ?_
      refine lv_imul hx hb dX8_fillsBlocked_59 ?_
      refine ra_toldBlocked_ld X hP dX8_fillsBlocked_60 hf (fun hf => ?_)
      refine lv_aload_n hx hb dX8_fillsBlocked_61 rfl (lv_at hl 0 rfl) ?_
      refine rg_X8_19 X hP dX8_fillsBlocked_62 ?_
      refine lv_iconst (v := 3) hx hb dX8_fillsBlocked_65 (by decide) ?_
      refine lv_iload_n hx hb dX8_fillsBlocked_66 rfl (lv_at hl 1 rfl) ?_
      refine lv_imul hx hb dX8_fillsBlocked_67 ?_
      refine ra_limits_ld X hP dX8_fillsBlocked_68 hf (fun hf => ?_)
      refine gb_lcmp_eq (tgt := 111) hx hb dX8_fillsBlocked_69 dX8_fillsBlocked_70 (by decide) hf (fun hf => ?_) (fun hf => ?_)
      · exact w_X8_fillsBlocked_111 X hR S x1 x2 hP hS (lv_sub hl [0, 1, 2] rfl) hf
      · refine lv_aload_n hx hb dX8_fillsBlocked_73 rfl (lv_at hl 0 rfl) ?_
        refine lv_bipush (v := 20) hx hb dX8_fillsBlocked_74 (by decide) ?_
        refine lv_aload_n hx hb dX8_fillsBlocked_76 rfl (lv_at hl 0 rfl) ?_
        refine rg_X8_19 X hP dX8_fillsBlocked_77 ?_
        refine lv_iconst (v := 3) hx hb dX8_fillsBlocked_80 (by decide) ?_
        refine lv_iload_n hx hb dX8_fillsBlocked_81 rfl (lv_at hl 1 rfl) ?_
        refine lv_imul hx hb dX8_fillsBlocked_82 ?_
        refine ra_limits_ld X hP dX8_fillsBlocked_83 hf (fun hf => ?_)
        refine lv_lconst (v := 0) hx hb dX8_fillsBlocked_84 (by decide) ?_
        refine lv_lconst (v := 0) hx hb dX8_fillsBlocked_85 (by decide) ?_
        refine lv_iload_n hx hb dX8_fillsBlocked_86 rfl (lv_at hl 2 rfl) ?_
        obtain ⟨S2, v3, hq, hf⟩ := gS2_eq hf
        refine gc_i (gc_fixV (S := S) X (mt_X8_lays l D dA A ad S (20 : Int32) (S.2 M_limits (Int32.toNatClampNeg (3 * x1))) (0 : Int64) (0 : Int64) x2 hq) (lw_V q1467 q1469 qs69 q93 q1470) ⟨rfl, rfl⟩ hd_X8_lays ⟨Nat.le_trans (Nat.le_of_ble_eq_true rfl) hR.1, Nat.le_trans (Nat.le_of_ble_eq_true rfl) hR.2⟩ (wd_recv (r := M_o) (ci := 0) (q := (RX8, TX8, 61)) X.hK.1 hP ⟨rfl, rfl⟩ rfl rfl) hP hS ⟨Nat.zero_le _, Nat.zero_le _⟩ rfl hl.1 rfl (Nat.le_of_ble_eq_true rfl) dX8_fillsBlocked_87) hS ?_
        rintro _ _ H locs ⟨⟩ hP hS
        refine gb_if_eq (tgt := 111) hx hb dX8_fillsBlocked_90 (by decide) hf (fun hf => ?_) (fun hf => ?_)
        · exact w_X8_fillsBlocked_111 X hR S2 x1 x2 hP hS (lv_sub hl [0, 1, 2] rfl) hf
        · refine lv_aload_n hx hb dX8_fillsBlocked_93 rfl (lv_at hl 0 rfl) ?_
          refine rg_X8_42 X hP dX8_fillsBlocked_94 ?_
          refine lv_iconst (v := 3) hx hb dX8_fillsBlocked_97 (by decide) ?_
          refine lv_iload_n hx hb dX8_fillsBlocked_98 rfl (lv_at hl 1 rfl) ?_
          refine lv_imul hx hb dX8_fillsBlocked_99 ?_
          refine lv_aload_n hx hb dX8_fillsBlocked_100 rfl (lv_at hl 0 rfl) ?_
          refine rg_X8_19 X hP dX8_fillsBlocked_101 ?_
          refine lv_iconst (v := 3) hx hb dX8_fillsBlocked_104 (by decide) ?_
          refine lv_iload_n hx hb dX8_fillsBlocked_105 rfl (lv_at hl 1 rfl) ?_
          refine lv_imul hx hb dX8_fillsBlocked_106 ?_
          refine ra_limits_ld X hP dX8_fillsBlocked_107 hf (fun hf => ?_)
          refine ra_toldBlocked_st X hP hS dX8_fillsBlocked_108 hf (fun S4 H locs hP hS hf => ?_)
          refine lv_iconst (v := 1) hx hb dX8_fillsBlocked_109 (by decide) ?_
          exact gr_zW X hP hS (Option.some.inj hf) (by decide) dX8_fillsBlocked_110
set_option maxHeartbeats 4000000 in
theorem w_X8_fillsBlocked_5_b {p : Program} {l : Launch} {e : Env} {R : Room} {s : State} {m : MethodId} {args : Array Value} {below : List Frame} {meth : Method} {c : Code} {D : va_G} {dA : Nat → ClassId} {A : Nat → Prop} {ad : L3 → Nat} (X : CX RX8 cX8_fillsBlocked 6 (some .boolean) (KA D dA) p s m args meth c A) (hR : 6 ≤ R.frames ∧ 134 ≤ R.locals) {res : Mem × Int32} (k5 : Mem → Int32 → Int32 → Int32 → Int32 → Option (Mem × Int32)) (hk5 : ∀ (S : Mem) (x1 : Int32) (x2 : Int32) (x3 : Int32) (x4 : Int32) (H : Heap) (locs : List Loc) (ls : Array Slot), Wd D clA (shM dA) exM A ad S H → va_S A s.heap H locs → lv_has ls 6 [(0, .ref (ad M_o)), (1, .int x1), (2, .int x2), (3, .int x3), (4, .int x4)] → k5 S x1 x2 x3 x4 = some res → W p l e R s m args below meth c H locs 0 0 (MQ below (QiW D (shM dA) exM A ad res) args s 0 0 A) (F0 m 5 ls [])) (S : Mem) (x1 : Int32) (x2 : Int32) (x3 : Int32) (x4 : Int32) {H : Heap} {locs : List Loc} {ls : Array Slot} (hP : Wd D clA (shM dA) exM A ad S H) (hS : va_S A s.heap H locs) (hl : lv_has ls 6 [(0, .ref (ad M_o)), (1, .int x1), (2, .int x2), (3, .int x3), (4, .int x4)]) (hf : f_X8_fillsBlocked_5_b k5 S x1 x2 x3 x4 = some res) : W p l e R s m args below meth c H locs 0 0 (MQ below (QiW D (shM dA) exM A ad res) args s 0 0 A) (F0 m 5 ls []) := by
  have hx := X.hx
  have hb := X.hb
  unfold f_X8_fillsBlocked_5_b at hf
  refine lv_iload hx hb dX8_fillsBlocked_5 (lv_at hl 4 rfl) ?_
  refine lv_sipush (v := 256) hx hb dX8_fillsBlocked_7 (by decide) ?_
  refine gb_icmp_ge (tgt := 31) hx hb dX8_fillsBlocked_10 (by decide) hf (fun hf => ?_) (fun hf => ?_)
  · exact w_X8_fillsBlocked_31 X hR S x1 x2 x3 hP hS (lv_sub hl [0, 1, 2, 3] rfl) hf
  · refine lv_iload_n hx hb dX8_fillsBlocked_13 rfl (lv_at hl 3 rfl) ?_
    refine gb_if_ne (tgt := 31) hx hb dX8_fillsBlocked_14 (by decide) hf (fun hf => ?_) (fun hf => ?_)
    · exact w_X8_fillsBlocked_31 X hR S x1 x2 x3 hP hS (lv_sub hl [0, 1, 2, 3] rfl) hf
    · refine lv_aload_n hx hb dX8_fillsBlocked_17 rfl (lv_at hl 0 rfl) ?_
      refine lv_iload_n hx hb dX8_fillsBlocked_18 rfl (lv_at hl 1 rfl) ?_
      refine lv_iload hx hb dX8_fillsBlocked_19 (lv_at hl 4 rfl) ?_
      obtain ⟨v1, hq, hf⟩ := gB_some hf
      refine gc_i (gc_fixV (S := S) X (mt_X8_waits l D dA A ad S x1 x4 hq) (lw_V q1488 q1490 qs73 q93 q1491) ⟨rfl, rfl⟩ hd_X8_waits ⟨Nat.le_trans (Nat.le_of_ble_eq_true rfl) hR.1, Nat.le_trans (Nat.le_of_ble_eq_true rfl) hR.2⟩ (wd_recv (r := M_o) (ci := 0) (q := (RX8, TX8, 61)) X.hK.1 hP ⟨rfl, rfl⟩ rfl rfl) hP hS ⟨Nat.zero_le _, Nat.zero_le _⟩ rfl hl.1 rfl (Nat.le_of_ble_eq_true rfl) dX8_fillsBlocked_21) hS ?_
      rintro _ _ H locs ⟨rfl, rfl⟩ hP hS
      refine lv_istore_n (lv' := [(3, .int v1), (0, .ref (ad M_o)), (1, .int x1), (2, .int x2), (4, .int x4)]) hx hb dX8_fillsBlocked_24 rfl hl (by decide) rfl (fun ls hl => ?_)
      refine lv_iinc (v := (x4 + 1)) (lv' := [(4, .int (x4 + 1)), (3, .int v1), (0, .ref (ad M_o)), (1, .int x1), (2, .int x2)]) hx hb dX8_fillsBlocked_25 hl (k := 4) rfl rfl (by decide) rfl (fun ls hl => ?_)
      refine lv_goto (tgt := 5) hx hb dX8_fillsBlocked_28 (by decide) ?_
      exact hk5 S x1 x2 v1 (x4 + 1) _ _ _ hP hS (lv_sub hl [2, 3, 4, 1, 0] rfl) hf
set_option maxHeartbeats 4000000 in
theorem w_X8_fillsBlocked_5 {p : Program} {l : Launch} {e : Env} {R : Room} {s : State} {m : MethodId} {args : Array Value} {below : List Frame} {meth : Method} {c : Code} {D : va_G} {dA : Nat → ClassId} {A : Nat → Prop} {ad : L3 → Nat} (X : CX RX8 cX8_fillsBlocked 6 (some .boolean) (KA D dA) p s m args meth c A) (hR : 6 ≤ R.frames ∧ 134 ≤ R.locals) {res : Mem × Int32} (n : Nat) : ∀ (S : Mem) (x1 : Int32) (x2 : Int32) (x3 : Int32) (x4 : Int32) (H : Heap) (locs : List Loc) (ls : Array Slot), Wd D clA (shM dA) exM A ad S H → va_S A s.heap H locs → lv_has ls 6 [(0, .ref (ad M_o)), (1, .int x1), (2, .int x2), (3, .int x3), (4, .int x4)] → f_X8_fillsBlocked_5 n S x1 x2 x3 x4 = some res → W p l e R s m args below meth c H locs 0 0 (MQ below (QiW D (shM dA) exM A ad res) args s 0 0 A) (F0 m 5 ls []) := by
  induction n with
  | zero =>
    intro S x1 x2 x3 x4 H locs ls hP hS hl hf
    exact absurd (show none = some res from hf) (fun h => by cases h)
  | succ n ih =>
    intro S x1 x2 x3 x4 H locs ls hP hS hl hf
    exact w_X8_fillsBlocked_5_b X hR (f_X8_fillsBlocked_5 n) ih S x1 x2 x3 x4 hP hS hl hf
set_option maxHeartbeats 4000000 in
theorem w_X8_fillsBlocked {p : Program} {l : Launch} {e : Env} {R : Room} {s : State} {m : MethodId} {args : Array Value} {below : List Frame} {meth : Method} {c : Code} {D : va_G} {dA : Nat → ClassId} {A : Nat → Prop} {ad : L3 → Nat} (X : CX RX8 cX8_fillsBlocked 6 (some .boolean) (KA D dA) p s m args meth c A) (hR : 6 ≤ R.frames ∧ 134 ≤ R.locals) {res : Mem × Int32} (S : Mem) (x1 : Int32) (x2 : Int32) {H : Heap} {locs : List Loc} {ls : Array Slot} (hP : Wd D clA (shM dA) exM A ad S H) (hS : va_S A s.heap H locs) (hl : lv_has ls 6 [(0, .ref (ad M_o)), (1, .int x1), (2, .int x2)]) (hf : f_X8_fillsBlocked S x1 x2 = some res) : W p l e R s m args below meth c H locs 0 0 (MQ below (QiW D (shM dA) exM A ad res) args s 0 0 A) (F0 m 0 ls []) := by
  have hx := X.hx
  have hb := X.hb
  unfold f_X8_fillsBlocked at hf
  refine lv_iconst (v := 0) hx hb dX8_fillsBlocked_0 (by decide) ?_
  refine lv_istore_n (lv' := [(3, .int 0), (0, .ref (ad M_o)), (1, .int x1), (2, .int x2)]) hx hb dX8_fillsBlocked_1 rfl hl (by decide) rfl (fun ls hl => ?_)
  refine lv_iconst (v := 0) hx hb dX8_fillsBlocked_2 (by decide) ?_
  refine lv_istore (lv' := [(4, .int 0), (3, .int 0), (0, .ref (ad M_o)), (1, .int x1), (2, .int x2)]) hx hb dX8_fillsBlocked_3 hl (by decide) rfl (fun ls hl => ?_)
  exact w_X8_fillsBlocked_5 X hR FU S x1 x2 0 0 _ _ _ hP hS (lv_sub hl [2, 3, 4, 1, 0] rfl) hf
theorem hd_X8_fillsBlocked : yX8_fillsBlocked.cls = RX8 ∧ yX8_fillsBlocked.cls ≠ "java/lang/invoke/MethodHandle" ∧ yX8_fillsBlocked.cls ≠ "java/lang/invoke/VarHandle" ∧ (parseMethodDescriptor yX8_fillsBlocked.desc).map (fun d => d.parameters.length) = some 2 := by decide +kernel
set_option maxHeartbeats 4000000 in
theorem mt_X8_fillsBlocked (l : Launch) (D : va_G) (dA : Nat → ClassId) (A : Nat → Prop) (ad : L3 → Nat) (S : Mem) (x1 : Int32) (x2 : Int32) {res : Mem × Int32} (hq : f_X8_fillsBlocked S x1 x2 = some res) : Met l yX8_fillsBlocked (ws_ yX8_fillsBlocked cX8_fillsBlocked 6 (some .boolean)) ({ frames := 6, cells := 0, slots := 0, locals := 134 } : Room) (va_Pc [.ref (ad M_o), .int x1, .int x2] (PreW D dA (shM dA) exM A ad S)) (QiW D (shM dA) exM A ad res) 0 0 A :=
  gx_head (by decide) (Nat.le_of_ble_eq_true rfl) (fun p e s m below meth c ls X hP hl => w_X8_fillsBlocked (l := l) X ⟨Nat.le_of_ble_eq_true rfl, Nat.le_of_ble_eq_true rfl⟩ S x1 x2 hP va_S.rf (lv_sub (l := [(0, .ref (ad M_o)), (1, .int x1), (2, .int x2)]) hl [0, 1, 2] rfl) hq)
