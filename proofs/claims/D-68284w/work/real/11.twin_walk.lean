set_option maxRecDepth 100000
set_option maxHeartbeats 4000000 in
theorem w_X8_thrown {p : Program} {l : Launch} {e : Env} {R : Room} {s : State} {m : MethodId} {args : Array Value} {below : List Frame} {meth : Method} {c : Code} {D : va_G} {dA : Nat → ClassId} {A : Nat → Prop} {ad : L3 → Nat} (X : CX RX8 cX8_thrown 1 (some .int) (KA D dA) p s m args meth c A) (hR : 1 ≤ R.frames ∧ 20 ≤ R.locals) {res : Int32} (S : Mem) {H : Heap} {locs : List Loc} {ls : Array Slot} (hP : Wd D clA (shM dA) exM A ad S H) (hS : va_S A s.heap H locs) (hl : lv_has ls 1 [(0, .ref (ad M_o))]) (hf : f_X8_thrown S = res) : W p l e R s m args below meth c H locs 0 0 (MQ below (QiR D (shM dA) exM A ad S res) args s 0 0 A) (F0 m 0 ls []) := by
  have hx := X.hx
  have hb := X.hb
  unfold f_X8_thrown at hf
  refine lv_aload_n hx hb dX8_thrown_0 rfl (lv_at hl 0 rfl) ?_
  refine rg_X8_177 X hP dX8_thrown_1 ?_
  exact gr_iR X hP hS hf dX8_thrown_4
theorem hd_X8_thrown : yX8_thrown.cls = RX8 ∧ yX8_thrown.cls ≠ "java/lang/invoke/MethodHandle" ∧ yX8_thrown.cls ≠ "java/lang/invoke/VarHandle" ∧ (parseMethodDescriptor yX8_thrown.desc).map (fun d => d.parameters.length) = some 0 := by decide +kernel
set_option maxHeartbeats 4000000 in
theorem mt_X8_thrown (l : Launch) (D : va_G) (dA : Nat → ClassId) (A : Nat → Prop) (ad : L3 → Nat) (S : Mem) {res : Int32} (hq : f_X8_thrown S = res) : Met l yX8_thrown (ws_ yX8_thrown cX8_thrown 1 (some .int)) ({ frames := 1, cells := 0, slots := 0, locals := 20 } : Room) (va_Pc [.ref (ad M_o)] (PreW D dA (shM dA) exM A ad S)) (QiR D (shM dA) exM A ad S res) 0 0 A :=
  gx_head (by decide) (Nat.le_of_ble_eq_true rfl) (fun p e s m below meth c ls X hP hl => w_X8_thrown (l := l) X ⟨Nat.le_of_ble_eq_true rfl, Nat.le_of_ble_eq_true rfl⟩ S hP va_S.rf (lv_sub (l := [(0, .ref (ad M_o))]) hl [0] rfl) hq)
set_option maxHeartbeats 4000000 in
theorem w_X8_noSide_9 {p : Program} {l : Launch} {e : Env} {R : Room} {s : State} {m : MethodId} {args : Array Value} {below : List Frame} {meth : Method} {c : Code} {D : va_G} {dA : Nat → ClassId} {A : Nat → Prop} {ad : L3 → Nat} (X : CX RX8 cX8_noSide 1 (some .boolean) (KA D dA) p s m args meth c A) (hR : 1 ≤ R.frames ∧ 20 ≤ R.locals) {res : Int32} (S : Mem) {H : Heap} {locs : List Loc} {ls : Array Slot} (hP : Wd D clA (shM dA) exM A ad S H) (hS : va_S A s.heap H locs) (hl : lv_has ls 1 []) (hf : f_X8_noSide_9 = res) : W p l e R s m args below meth c H locs 0 0 (MQ below (QiR D (shM dA) exM A ad S res) args s 0 0 A) (F0 m 9 ls []) := by
  have hx := X.hx
  have hb := X.hb
  unfold f_X8_noSide_9 at hf
  refine lv_iconst (v := 1) hx hb dX8_noSide_9 (by decide) ?_
  refine lv_goto (tgt := 14) hx hb dX8_noSide_10 (by decide) ?_
  exact gr_zR X hP hS hf (by decide) dX8_noSide_14
set_option maxHeartbeats 4000000 in
theorem w_X8_noSide {p : Program} {l : Launch} {e : Env} {R : Room} {s : State} {m : MethodId} {args : Array Value} {below : List Frame} {meth : Method} {c : Code} {D : va_G} {dA : Nat → ClassId} {A : Nat → Prop} {ad : L3 → Nat} (X : CX RX8 cX8_noSide 1 (some .boolean) (KA D dA) p s m args meth c A) (hR : 1 ≤ R.frames ∧ 20 ≤ R.locals) {res : Int32} (S : Mem) (x0 : Int32) {H : Heap} {locs : List Loc} {ls : Array Slot} (hP : Wd D clA (shM dA) exM A ad S H) (hS : va_S A s.heap H locs) (hl : lv_has ls 1 [(0, .int x0)]) (hf : f_X8_noSide x0 = res) : W p l e R s m args below meth c H locs 0 0 (MQ below (QiR D (shM dA) exM A ad S res) args s 0 0 A) (F0 m 0 ls []) := by
  have hx := X.hx
  have hb := X.hb
  unfold f_X8_noSide at hf
  refine lv_iload_n hx hb dX8_noSide_0 rfl (lv_at hl 0 rfl) ?_
  refine gb_if_lt (tgt := 9) hx hb dX8_noSide_1 (by decide) hf (fun hf => ?_) (fun hf => ?_)
  · exact w_X8_noSide_9 X hR S hP hS (lv_sub hl [] rfl) hf
  · refine lv_iload_n hx hb dX8_noSide_4 rfl (lv_at hl 0 rfl) ?_
    refine lv_iconst (v := 1) hx hb dX8_noSide_5 (by decide) ?_
    refine gb_icmp_le (tgt := 13) hx hb dX8_noSide_6 (by decide) hf (fun hf => ?_) (fun hf => ?_)
    · refine lv_iconst (v := 0) hx hb dX8_noSide_13 (by decide) ?_
      exact gr_zR X hP hS hf (by decide) dX8_noSide_14
    · exact w_X8_noSide_9 X hR S hP hS (lv_sub hl [] rfl) hf
theorem hd_X8_noSide : yX8_noSide.cls = RX8 ∧ yX8_noSide.cls ≠ "java/lang/invoke/MethodHandle" ∧ yX8_noSide.cls ≠ "java/lang/invoke/VarHandle" ∧ (parseMethodDescriptor yX8_noSide.desc).map (fun d => d.parameters.length) = some 1 := by decide +kernel
set_option maxHeartbeats 4000000 in
theorem mt_X8_noSide (l : Launch) (D : va_G) (dA : Nat → ClassId) (A : Nat → Prop) (ad : L3 → Nat) (S : Mem) (x0 : Int32) {res : Int32} (hq : f_X8_noSide x0 = res) : Met l yX8_noSide (ws_ yX8_noSide cX8_noSide 1 (some .boolean)) ({ frames := 1, cells := 0, slots := 0, locals := 20 } : Room) (va_Pc [.int x0] (PreW D dA (shM dA) exM A ad S)) (QiR D (shM dA) exM A ad S res) 0 0 A :=
  gx_head (by decide) (Nat.le_of_ble_eq_true rfl) (fun p e s m below meth c ls X hP hl => w_X8_noSide (l := l) X ⟨Nat.le_of_ble_eq_true rfl, Nat.le_of_ble_eq_true rfl⟩ S x0 hP va_S.rf (lv_sub (l := [(0, .int x0)]) hl [0] rfl) hq)
set_option maxHeartbeats 4000000 in
theorem w_X8_fails_10 {p : Program} {l : Launch} {e : Env} {R : Room} {s : State} {m : MethodId} {args : Array Value} {below : List Frame} {meth : Method} {c : Code} {D : va_G} {dA : Nat → ClassId} {A : Nat → Prop} {ad : L3 → Nat} (X : CX RX8 cX8_fails 3 (some .boolean) (KA D dA) p s m args meth c A) (hR : 1 ≤ R.frames ∧ 20 ≤ R.locals) {res : Mem × Int32} (S : Mem) (x1 : Int32) (y0 : Int32) {H : Heap} {locs : List Loc} {ls : Array Slot} (hP : Wd D clA (shM dA) exM A ad S H) (hS : va_S A s.heap H locs) (hl : lv_has ls 3 [(1, .int x1)]) (hf : f_X8_fails_10 S x1 y0 = some res) : W p l e R s m args below meth c H locs 0 0 (MQ below (QiW D (shM dA) exM A ad res) args s 0 0 A) (F0 m 10 ls [.int y0, .ref (ad M_o)]) := by
  have hx := X.hx
  have hb := X.hb
  unfold f_X8_fails_10 at hf
  refine rp_X8_177 X hP hS dX8_fails_10 hf (fun S1 H locs hP hS hf => ?_)
  refine lv_iload_n hx hb dX8_fails_13 rfl (lv_at hl 0 rfl) ?_
  obtain ⟨hn, hf⟩ := gN_some hf
  exact gr_zW X hP hS (Option.some.inj hf) hn dX8_fails_14
set_option maxHeartbeats 4000000 in
theorem w_X8_fails {p : Program} {l : Launch} {e : Env} {R : Room} {s : State} {m : MethodId} {args : Array Value} {below : List Frame} {meth : Method} {c : Code} {D : va_G} {dA : Nat → ClassId} {A : Nat → Prop} {ad : L3 → Nat} (X : CX RX8 cX8_fails 3 (some .boolean) (KA D dA) p s m args meth c A) (hR : 1 ≤ R.frames ∧ 20 ≤ R.locals) {res : Mem × Int32} (S : Mem) (x1 : Int32) (x2 : Int32) {H : Heap} {locs : List Loc} {ls : Array Slot} (hP : Wd D clA (shM dA) exM A ad S H) (hS : va_S A s.heap H locs) (hl : lv_has ls 3 [(0, .ref (ad M_o)), (1, .int x1), (2, .int x2)]) (hf : f_X8_fails S x1 x2 = some res) : W p l e R s m args below meth c H locs 0 0 (MQ below (QiW D (shM dA) exM A ad res) args s 0 0 A) (F0 m 0 ls []) := by
  have hx := X.hx
  have hb := X.hb
  unfold f_X8_fails at hf
  refine lv_aload_n hx hb dX8_fails_0 rfl (lv_at hl 0 rfl) ?_
  refine lv_iload_n hx hb dX8_fails_1 rfl (lv_at hl 1 rfl) ?_
  refine gb_if_eq (tgt := 9) hx hb dX8_fails_2 (by decide) hf (fun hf => ?_) (fun hf => ?_)
  · refine lv_iconst (v := 0) hx hb dX8_fails_9 (by decide) ?_
    exact w_X8_fails_10 X hR S x1 0 hP hS (lv_sub hl [1] rfl) hf
  · refine lv_iload_n hx hb dX8_fails_5 rfl (lv_at hl 2 rfl) ?_
    refine lv_goto (tgt := 10) hx hb dX8_fails_6 (by decide) ?_
    exact w_X8_fails_10 X hR S x1 x2 hP hS (lv_sub hl [1] rfl) hf
theorem hd_X8_fails : yX8_fails.cls = RX8 ∧ yX8_fails.cls ≠ "java/lang/invoke/MethodHandle" ∧ yX8_fails.cls ≠ "java/lang/invoke/VarHandle" ∧ (parseMethodDescriptor yX8_fails.desc).map (fun d => d.parameters.length) = some 2 := by decide +kernel
set_option maxHeartbeats 4000000 in
theorem mt_X8_fails (l : Launch) (D : va_G) (dA : Nat → ClassId) (A : Nat → Prop) (ad : L3 → Nat) (S : Mem) (x1 : Int32) (x2 : Int32) {res : Mem × Int32} (hq : f_X8_fails S x1 x2 = some res) : Met l yX8_fails (ws_ yX8_fails cX8_fails 3 (some .boolean)) ({ frames := 1, cells := 0, slots := 0, locals := 20 } : Room) (va_Pc [.ref (ad M_o), .int x1, .int x2] (PreW D dA (shM dA) exM A ad S)) (QiW D (shM dA) exM A ad res) 0 0 A :=
  gx_head (by decide) (Nat.le_of_ble_eq_true rfl) (fun p e s m below meth c ls X hP hl => w_X8_fails (l := l) X ⟨Nat.le_of_ble_eq_true rfl, Nat.le_of_ble_eq_true rfl⟩ S x1 x2 hP va_S.rf (lv_sub (l := [(0, .ref (ad M_o)), (1, .int x1), (2, .int x2)]) hl [0, 1, 2] rfl) hq)
set_option maxHeartbeats 4000000 in
theorem w_X8_grant_90 {p : Program} {l : Launch} {e : Env} {R : Room} {s : State} {m : MethodId} {args : Array Value} {below : List Frame} {meth : Method} {c : Code} {D : va_G} {dA : Nat → ClassId} {A : Nat → Prop} {ad : L3 → Nat} (X : CX RX8 cX8_grant 4 none (KA D dA) p s m args meth c A) (hR : 2 ≤ R.frames ∧ 42 ≤ R.locals) {res : Mem} (S : Mem) (x1 : Int32) (x2 : Int32) (x3 : Int32) {H : Heap} {locs : List Loc} {ls : Array Slot} (hP : Wd D clA (shM dA) exM A ad S H) (hS : va_S A s.heap H locs) (hl : lv_has ls 4 [(0, .ref (ad M_o)), (1, .int x1), (2, .int x2), (3, .int x3)]) (hf : f_X8_grant_90 S x1 x2 x3 = some res) : W p l e R s m args below meth c H locs 0 0 (MQ below (QvW D (shM dA) exM A ad res) args s 0 0 A) (F0 m 90 ls []) := by
  have hx := X.hx
  have hb := X.hb
  unfold f_X8_grant_90 at hf
  refine lv_iload_n hx hb dX8_grant_90 rfl (lv_at hl 2 rfl) ?_
  refine lv_bipush (v := 7) hx hb dX8_grant_91 (by decide) ?_
  refine gb_icmp_le (tgt := 110) hx hb dX8_grant_93 (by decide) hf (fun hf => ?_) (fun hf => ?_)
  · exact gr_vW X hP hS (Option.some.inj hf) dX8_grant_110
  · refine lv_aload_n hx hb dX8_grant_96 rfl (lv_at hl 0 rfl) ?_
    refine rg_X8_29 X hP dX8_grant_97 ?_
    refine lv_iconst (v := 2) hx hb dX8_grant_100 (by decide) ?_
    refine lv_iload_n hx hb dX8_grant_101 rfl (lv_at hl 1 rfl) ?_
    refine lv_imul hx hb dX8_grant_102 ?_
    refine lv_iload_n hx hb dX8_grant_103 rfl (lv_at hl 2 rfl) ?_
    refine lv_iadd hx hb dX8_grant_104 ?_
    refine lv_bipush (v := 8) hx hb dX8_grant_105 (by decide) ?_
    refine lv_isub hx hb dX8_grant_107 ?_
    refine lv_iload_n hx hb dX8_grant_108 rfl (lv_at hl 3 rfl) ?_
    refine ra_granted_st X hP hS dX8_grant_109 hf (fun S1 H locs hP hS hf => ?_)
    exact gr_vW X hP hS (Option.some.inj hf) dX8_grant_110
set_option maxHeartbeats 4000000 in
theorem w_X8_grant_45 {p : Program} {l : Launch} {e : Env} {R : Room} {s : State} {m : MethodId} {args : Array Value} {below : List Frame} {meth : Method} {c : Code} {D : va_G} {dA : Nat → ClassId} {A : Nat → Prop} {ad : L3 → Nat} (X : CX RX8 cX8_grant 4 none (KA D dA) p s m args meth c A) (hR : 2 ≤ R.frames ∧ 42 ≤ R.locals) {res : Mem} (S : Mem) (x1 : Int32) (x2 : Int32) (x3 : Int32) (y0 : Int32) {H : Heap} {locs : List Loc} {ls : Array Slot} (hP : Wd D clA (shM dA) exM A ad S H) (hS : va_S A s.heap H locs) (hl : lv_has ls 4 [(0, .ref (ad M_o)), (1, .int x1), (2, .int x2), (3, .int x3)]) (hf : f_X8_grant_45 S x1 x2 x3 y0 = some res) : W p l e R s m args below meth c H locs 0 0 (MQ below (QvW D (shM dA) exM A ad res) args s 0 0 A) (F0 m 45 ls [.int y0, .ref (ad M_o)]) := by
  have hx := X.hx
  have hb := X.hb
  unfold f_X8_grant_45 at hf
  refine lv_iconst (v := 1) hx hb dX8_grant_45 (by decide) ?_
  obtain ⟨S1, v2, hq, hf⟩ := gB2_some hf
  refine gc_i (gc_fixV (S := S) X (mt_X8_fails l D dA A ad S y0 (1 : Int32) hq) (lw_V q1262 q1264 qs35 q93 q1265) ⟨rfl, rfl⟩ hd_X8_fails ⟨Nat.le_trans (Nat.le_of_ble_eq_true rfl) hR.1, Nat.le_trans (Nat.le_of_ble_eq_true rfl) hR.2⟩ (wd_recv (r := M_o) (ci := 0) (q := (RX8, TX8, 61)) X.hK.1 hP ⟨rfl, rfl⟩ rfl rfl) hP hS ⟨Nat.zero_le _, Nat.zero_le _⟩ rfl hl.1 rfl (Nat.le_of_ble_eq_true rfl) dX8_grant_46) hS ?_
  rintro _ _ H locs ⟨⟩ hP hS
  refine gb_if_ne (tgt := 64) hx hb dX8_grant_49 (by decide) hf (fun hf => ?_) (fun hf => ?_)
  · exact gr_vW X hP hS (Option.some.inj hf) dX8_grant_64
  · refine lv_aload_n hx hb dX8_grant_52 rfl (lv_at hl 0 rfl) ?_
    refine lv_aload_n hx hb dX8_grant_53 rfl (lv_at hl 0 rfl) ?_
    refine rg_X8_244 X hP dX8_grant_54 ?_
    refine lv_iconst (v := 2) hx hb dX8_grant_57 (by decide) ?_
    obtain ⟨S3, v4, hq, hf⟩ := gB2_some hf
    refine gc_i (gc_fixV (S := S1) X (mt_X8_fails l D dA A ad S1 (S1.1 M_o 1) (2 : Int32) hq) (lw_V q1262 q1264 qs35 q93 q1265) ⟨rfl, rfl⟩ hd_X8_fails ⟨Nat.le_trans (Nat.le_of_ble_eq_true rfl) hR.1, Nat.le_trans (Nat.le_of_ble_eq_true rfl) hR.2⟩ (wd_recv (r := M_o) (ci := 0) (q := (RX8, TX8, 61)) X.hK.1 hP ⟨rfl, rfl⟩ rfl rfl) hP hS ⟨Nat.zero_le _, Nat.zero_le _⟩ rfl hl.1 rfl (Nat.le_of_ble_eq_true rfl) dX8_grant_58) hS ?_
    rintro _ _ H locs ⟨⟩ hP hS
    refine gb_if_eq (tgt := 65) hx hb dX8_grant_61 (by decide) hf (fun hf => ?_) (fun hf => ?_)
    · refine lv_aload_n hx hb dX8_grant_65 rfl (lv_at hl 0 rfl) ?_
      refine rg_X8_16 X hP dX8_grant_66 ?_
      refine lv_bipush (v := 16) hx hb dX8_grant_69 (by decide) ?_
      refine lv_iload_n hx hb dX8_grant_71 rfl (lv_at hl 1 rfl) ?_
      refine lv_imul hx hb dX8_grant_72 ?_
      refine lv_iload_n hx hb dX8_grant_73 rfl (lv_at hl 2 rfl) ?_
      refine lv_iadd hx hb dX8_grant_74 ?_
      refine lv_iload_n hx hb dX8_grant_75 rfl (lv_at hl 3 rfl) ?_
      refine ra_grants_st X hP hS dX8_grant_76 hf (fun S5 H locs hP hS hf => ?_)
      refine lv_iload_n hx hb dX8_grant_77 rfl (lv_at hl 2 rfl) ?_
      refine lv_iconst (v := 4) hx hb dX8_grant_78 (by decide) ?_
      refine gb_icmp_ne (tgt := 90) hx hb dX8_grant_79 (by decide) hf (fun hf => ?_) (fun hf => ?_)
      · exact w_X8_grant_90 X hR S5 x1 x2 x3 hP hS (lv_sub hl [0, 1, 2, 3] rfl) hf
      · refine lv_aload_n hx hb dX8_grant_82 rfl (lv_at hl 0 rfl) ?_
        refine rg_X8_32 X hP dX8_grant_83 ?_
        refine lv_iload_n hx hb dX8_grant_86 rfl (lv_at hl 1 rfl) ?_
        refine lv_iload_n hx hb dX8_grant_87 rfl (lv_at hl 3 rfl) ?_
        refine lv_i2l hx hb dX8_grant_88 rfl ?_
        refine ra_dataGrant_st X hP hS dX8_grant_89 hf (fun S6 H locs hP hS hf => ?_)
        exact w_X8_grant_90 X hR S6 x1 x2 x3 hP hS (lv_sub hl [0, 1, 2, 3] rfl) hf
    · exact gr_vW X hP hS (Option.some.inj hf) dX8_grant_64
set_option maxHeartbeats 4000000 in
theorem w_X8_grant_40 {p : Program} {l : Launch} {e : Env} {R : Room} {s : State} {m : MethodId} {args : Array Value} {below : List Frame} {meth : Method} {c : Code} {D : va_G} {dA : Nat → ClassId} {A : Nat → Prop} {ad : L3 → Nat} (X : CX RX8 cX8_grant 4 none (KA D dA) p s m args meth c A) (hR : 2 ≤ R.frames ∧ 42 ≤ R.locals) {res : Mem} (S : Mem) (x1 : Int32) (x2 : Int32) (x3 : Int32) {H : Heap} {locs : List Loc} {ls : Array Slot} (hP : Wd D clA (shM dA) exM A ad S H) (hS : va_S A s.heap H locs) (hl : lv_has ls 4 [(0, .ref (ad M_o)), (1, .int x1), (2, .int x2), (3, .int x3)]) (hf : f_X8_grant_40 S x1 x2 x3 = some res) : W p l e R s m args below meth c H locs 0 0 (MQ below (QvW D (shM dA) exM A ad res) args s 0 0 A) (F0 m 40 ls [.ref (ad M_o)]) := by
  have hx := X.hx
  have hb := X.hb
  unfold f_X8_grant_40 at hf
  refine lv_iconst (v := 1) hx hb dX8_grant_40 (by decide) ?_
  refine lv_goto (tgt := 45) hx hb dX8_grant_41 (by decide) ?_
  exact w_X8_grant_45 X hR S x1 x2 x3 1 hP hS (lv_sub hl [0, 1, 2, 3] rfl) hf
set_option maxHeartbeats 4000000 in
theorem w_X8_grant_37 {p : Program} {l : Launch} {e : Env} {R : Room} {s : State} {m : MethodId} {args : Array Value} {below : List Frame} {meth : Method} {c : Code} {D : va_G} {dA : Nat → ClassId} {A : Nat → Prop} {ad : L3 → Nat} (X : CX RX8 cX8_grant 4 none (KA D dA) p s m args meth c A) (hR : 2 ≤ R.frames ∧ 42 ≤ R.locals) {res : Mem} (S : Mem) (x1 : Int32) (x2 : Int32) (x3 : Int32) (y0 : Int32) (y1 : Int32) {H : Heap} {locs : List Loc} {ls : Array Slot} (hP : Wd D clA (shM dA) exM A ad S H) (hS : va_S A s.heap H locs) (hl : lv_has ls 4 [(0, .ref (ad M_o)), (1, .int x1), (2, .int x2), (3, .int x3)]) (hf : f_X8_grant_37 S x1 x2 x3 y0 y1 = some res) : W p l e R s m args below meth c H locs 0 0 (MQ below (QvW D (shM dA) exM A ad res) args s 0 0 A) (F0 m 37 ls [.int y0, .int y1, .ref (ad M_o)]) := by
  have hx := X.hx
  have hb := X.hb
  unfold f_X8_grant_37 at hf
  refine gb_icmp_le (tgt := 44) hx hb dX8_grant_37 (by decide) hf (fun hf => ?_) (fun hf => ?_)
  · refine lv_iconst (v := 0) hx hb dX8_grant_44 (by decide) ?_
    exact w_X8_grant_45 X hR S x1 x2 x3 0 hP hS (lv_sub hl [0, 1, 2, 3] rfl) hf
  · exact w_X8_grant_40 X hR S x1 x2 x3 hP hS (lv_sub hl [0, 1, 2, 3] rfl) hf
set_option maxHeartbeats 4000000 in
theorem w_X8_grant {p : Program} {l : Launch} {e : Env} {R : Room} {s : State} {m : MethodId} {args : Array Value} {below : List Frame} {meth : Method} {c : Code} {D : va_G} {dA : Nat → ClassId} {A : Nat → Prop} {ad : L3 → Nat} (X : CX RX8 cX8_grant 4 none (KA D dA) p s m args meth c A) (hR : 2 ≤ R.frames ∧ 42 ≤ R.locals) {res : Mem} (S : Mem) (x1 : Int32) (x2 : Int32) (x3 : Int32) {H : Heap} {locs : List Loc} {ls : Array Slot} (hP : Wd D clA (shM dA) exM A ad S H) (hS : va_S A s.heap H locs) (hl : lv_has ls 4 [(0, .ref (ad M_o)), (1, .int x1), (2, .int x2), (3, .int x3)]) (hf : f_X8_grant S x1 x2 x3 = some res) : W p l e R s m args below meth c H locs 0 0 (MQ below (QvW D (shM dA) exM A ad res) args s 0 0 A) (F0 m 0 ls []) := by
  have hx := X.hx
  have hb := X.hb
  unfold f_X8_grant at hf
  refine lv_aload_n hx hb dX8_grant_0 rfl (lv_at hl 0 rfl) ?_
  refine lv_iload_n hx hb dX8_grant_1 rfl (lv_at hl 1 rfl) ?_
  obtain ⟨v1, hq, hf⟩ := gS_eq hf
  refine gc_i (gc_fixS (S := S) X (mt_X8_noSide l D dA A ad S x1 hq) (lw_S q1258 q1259 q93 q1260) ⟨rfl, rfl⟩ hd_X8_noSide.2 ⟨Nat.le_trans (Nat.le_of_ble_eq_true rfl) hR.1, Nat.le_trans (Nat.le_of_ble_eq_true rfl) hR.2⟩ hP hS ⟨Nat.zero_le _, Nat.zero_le _⟩ rfl hl.1 rfl (Nat.le_of_ble_eq_true rfl) dX8_grant_2) hS ?_
  rintro _ _ H locs ⟨rfl, rfl⟩ hP hS
  refine gb_if_ne (tgt := 40) hx hb dX8_grant_5 (by decide) hf (fun hf => ?_) (fun hf => ?_)
  · exact w_X8_grant_40 X hR S x1 x2 x3 hP hS (lv_sub hl [0, 1, 2, 3] rfl) hf
  · refine lv_iload_n hx hb dX8_grant_8 rfl (lv_at hl 2 rfl) ?_
    refine lv_iconst (v := 4) hx hb dX8_grant_9 (by decide) ?_
    refine gb_icmp_lt (tgt := 40) hx hb dX8_grant_10 (by decide) hf (fun hf => ?_) (fun hf => ?_)
    · exact w_X8_grant_40 X hR S x1 x2 x3 hP hS (lv_sub hl [0, 1, 2, 3] rfl) hf
    · refine lv_iload_n hx hb dX8_grant_13 rfl (lv_at hl 2 rfl) ?_
      refine lv_bipush (v := 9) hx hb dX8_grant_14 (by decide) ?_
      refine gb_icmp_gt (tgt := 40) hx hb dX8_grant_16 (by decide) hf (fun hf => ?_) (fun hf => ?_)
      · exact w_X8_grant_40 X hR S x1 x2 x3 hP hS (lv_sub hl [0, 1, 2, 3] rfl) hf
      · refine lv_iload_n hx hb dX8_grant_19 rfl (lv_at hl 3 rfl) ?_
        refine gb_if_lt (tgt := 40) hx hb dX8_grant_20 (by decide) hf (fun hf => ?_) (fun hf => ?_)
        · exact w_X8_grant_40 X hR S x1 x2 x3 hP hS (lv_sub hl [0, 1, 2, 3] rfl) hf
        · refine lv_iload_n hx hb dX8_grant_23 rfl (lv_at hl 3 rfl) ?_
          refine lv_iload_n hx hb dX8_grant_24 rfl (lv_at hl 2 rfl) ?_
          refine lv_bipush (v := 7) hx hb dX8_grant_25 (by decide) ?_
          refine gb_icmp_le (tgt := 35) hx hb dX8_grant_27 (by decide) hf (fun hf => ?_) (fun hf => ?_)
          · refine lv_ldc hx hb X.hown (X.hts _ q1261) dX8_grant_35 ?_
            exact w_X8_grant_37 X hR S x1 x2 x3 65536 x3 hP hS (lv_sub hl [0, 1, 2, 3] rfl) hf
          · refine lv_bipush (v := 64) hx hb dX8_grant_30 (by decide) ?_
            refine lv_goto (tgt := 37) hx hb dX8_grant_32 (by decide) ?_
            exact w_X8_grant_37 X hR S x1 x2 x3 64 x3 hP hS (lv_sub hl [0, 1, 2, 3] rfl) hf
theorem hd_X8_grant : yX8_grant.cls = RX8 ∧ yX8_grant.cls ≠ "java/lang/invoke/MethodHandle" ∧ yX8_grant.cls ≠ "java/lang/invoke/VarHandle" ∧ (parseMethodDescriptor yX8_grant.desc).map (fun d => d.parameters.length) = some 3 := by decide +kernel
set_option maxHeartbeats 4000000 in
theorem mt_X8_grant (l : Launch) (D : va_G) (dA : Nat → ClassId) (A : Nat → Prop) (ad : L3 → Nat) (S : Mem) (x1 : Int32) (x2 : Int32) (x3 : Int32) {res : Mem} (hq : f_X8_grant S x1 x2 x3 = some res) : Met l yX8_grant (ws_ yX8_grant cX8_grant 4 none) ({ frames := 2, cells := 0, slots := 0, locals := 42 } : Room) (va_Pc [.ref (ad M_o), .int x1, .int x2, .int x3] (PreW D dA (shM dA) exM A ad S)) (QvW D (shM dA) exM A ad res) 0 0 A :=
  gx_head (by decide) (Nat.le_of_ble_eq_true rfl) (fun p e s m below meth c ls X hP hl => w_X8_grant (l := l) X ⟨Nat.le_of_ble_eq_true rfl, Nat.le_of_ble_eq_true rfl⟩ S x1 x2 x3 hP va_S.rf (lv_sub (l := [(0, .ref (ad M_o)), (1, .int x1), (2, .int x2), (3, .int x3)]) hl [0, 1, 2, 3] rfl) hq)
set_option maxHeartbeats 4000000 in
theorem w_X8_join_49_b {p : Program} {l : Launch} {e : Env} {R : Room} {s : State} {m : MethodId} {args : Array Value} {below : List Frame} {meth : Method} {c : Code} {D : va_G} {dA : Nat → ClassId} {A : Nat → Prop} {ad : L3 → Nat} (X : CX RX8 cX8_join 3 none (KA D dA) p s m args meth c A) (hR : 2 ≤ R.frames ∧ 42 ≤ R.locals) {res : Mem} (k20 : Mem → Int32 → Option (Mem)) (hk20 : ∀ (S : Mem) (x1 : Int32) (H : Heap) (locs : List Loc) (ls : Array Slot), Wd D clA (shM dA) exM A ad S H → va_S A s.heap H locs → lv_has ls 3 [(0, .ref (ad M_o)), (1, .int x1)] → k20 S x1 = some res → W p l e R s m args below meth c H locs 0 0 (MQ below (QvW D (shM dA) exM A ad res) args s 0 0 A) (F0 m 20 ls [])) (k49 : Mem → Int32 → Int32 → Option (Mem)) (hk49 : ∀ (S : Mem) (x1 : Int32) (x2 : Int32) (H : Heap) (locs : List Loc) (ls : Array Slot), Wd D clA (shM dA) exM A ad S H → va_S A s.heap H locs → lv_has ls 3 [(0, .ref (ad M_o)), (1, .int x1), (2, .int x2)] → k49 S x1 x2 = some res → W p l e R s m args below meth c H locs 0 0 (MQ below (QvW D (shM dA) exM A ad res) args s 0 0 A) (F0 m 49 ls [])) (S : Mem) (x1 : Int32) (x2 : Int32) {H : Heap} {locs : List Loc} {ls : Array Slot} (hP : Wd D clA (shM dA) exM A ad S H) (hS : va_S A s.heap H locs) (hl : lv_has ls 3 [(0, .ref (ad M_o)), (1, .int x1), (2, .int x2)]) (hf : f_X8_join_49_b k20 k49 S x1 x2 = some res) : W p l e R s m args below meth c H locs 0 0 (MQ below (QvW D (shM dA) exM A ad res) args s 0 0 A) (F0 m 49 ls []) := by
  have hx := X.hx
  have hb := X.hb
  unfold f_X8_join_49_b at hf
  refine lv_iload_n hx hb dX8_join_49 rfl (lv_at hl 2 rfl) ?_
  refine lv_iconst (v := 2) hx hb dX8_join_50 (by decide) ?_
  refine gb_icmp_ge (tgt := 89) hx hb dX8_join_51 (by decide) hf (fun hf => ?_) (fun hf => ?_)
  · refine lv_iinc (v := (x1 + 1)) (lv' := [(1, .int (x1 + 1)), (0, .ref (ad M_o)), (2, .int x2)]) hx hb dX8_join_89 hl (k := 1) rfl rfl (by decide) rfl (fun ls hl => ?_)
    refine lv_goto (tgt := 20) hx hb dX8_join_92 (by decide) ?_
    exact hk20 S (x1 + 1) _ _ _ hP hS (lv_sub hl [1, 0] rfl) hf
  · refine lv_aload_n hx hb dX8_join_54 rfl (lv_at hl 0 rfl) ?_
    refine rg_X8_19 X hP dX8_join_55 ?_
    refine lv_iconst (v := 3) hx hb dX8_join_58 (by decide) ?_
    refine lv_iload_n hx hb dX8_join_59 rfl (lv_at hl 1 rfl) ?_
    refine lv_imul hx hb dX8_join_60 ?_
    refine lv_iconst (v := 1) hx hb dX8_join_61 (by decide) ?_
    refine lv_iadd hx hb dX8_join_62 ?_
    refine lv_iload_n hx hb dX8_join_63 rfl (lv_at hl 2 rfl) ?_
    refine lv_iadd hx hb dX8_join_64 ?_
    refine lv_aload_n hx hb dX8_join_65 rfl (lv_at hl 0 rfl) ?_
    refine rg_X8_16 X hP dX8_join_66 ?_
    refine lv_bipush (v := 16) hx hb dX8_join_69 (by decide) ?_
    refine lv_iconst (v := 1) hx hb dX8_join_71 (by decide) ?_
    refine lv_iload_n hx hb dX8_join_72 rfl (lv_at hl 1 rfl) ?_
    refine lv_isub hx hb dX8_join_73 ?_
    refine lv_imul hx hb dX8_join_74 ?_
    refine lv_bipush (v := 8) hx hb dX8_join_75 (by decide) ?_
    refine lv_iadd hx hb dX8_join_77 ?_
    refine lv_iload_n hx hb dX8_join_78 rfl (lv_at hl 2 rfl) ?_
    refine lv_iadd hx hb dX8_join_79 ?_
    refine ra_grants_ld X hP dX8_join_80 hf (fun hf => ?_)
    refine lv_i2l hx hb dX8_join_81 rfl ?_
    refine ra_limits_st X hP hS dX8_join_82 hf (fun S1 H locs hP hS hf => ?_)
    refine lv_iinc (v := (x2 + 1)) (lv' := [(2, .int (x2 + 1)), (0, .ref (ad M_o)), (1, .int x1)]) hx hb dX8_join_83 hl (k := 2) rfl rfl (by decide) rfl (fun ls hl => ?_)
    refine lv_goto (tgt := 49) hx hb dX8_join_86 (by decide) ?_
    exact hk49 S1 x1 (x2 + 1) _ _ _ hP hS (lv_sub hl [1, 2, 0] rfl) hf
set_option maxHeartbeats 4000000 in
theorem w_X8_join_49 {p : Program} {l : Launch} {e : Env} {R : Room} {s : State} {m : MethodId} {args : Array Value} {below : List Frame} {meth : Method} {c : Code} {D : va_G} {dA : Nat → ClassId} {A : Nat → Prop} {ad : L3 → Nat} (X : CX RX8 cX8_join 3 none (KA D dA) p s m args meth c A) (hR : 2 ≤ R.frames ∧ 42 ≤ R.locals) {res : Mem} (k20 : Mem → Int32 → Option (Mem)) (hk20 : ∀ (S : Mem) (x1 : Int32) (H : Heap) (locs : List Loc) (ls : Array Slot), Wd D clA (shM dA) exM A ad S H → va_S A s.heap H locs → lv_has ls 3 [(0, .ref (ad M_o)), (1, .int x1)] → k20 S x1 = some res → W p l e R s m args below meth c H locs 0 0 (MQ below (QvW D (shM dA) exM A ad res) args s 0 0 A) (F0 m 20 ls [])) (n : Nat) : ∀ (S : Mem) (x1 : Int32) (x2 : Int32) (H : Heap) (locs : List Loc) (ls : Array Slot), Wd D clA (shM dA) exM A ad S H → va_S A s.heap H locs → lv_has ls 3 [(0, .ref (ad M_o)), (1, .int x1), (2, .int x2)] → f_X8_join_49 k20 n S x1 x2 = some res → W p l e R s m args below meth c H locs 0 0 (MQ below (QvW D (shM dA) exM A ad res) args s 0 0 A) (F0 m 49 ls []) := by
  induction n with
  | zero =>
    intro S x1 x2 H locs ls hP hS hl hf
    exact absurd (show none = some res from hf) (fun h => by cases h)
  | succ n ih =>
    intro S x1 x2 H locs ls hP hS hl hf
    exact w_X8_join_49_b X hR k20 hk20 (f_X8_join_49 k20 n) ih S x1 x2 hP hS hl hf
set_option maxHeartbeats 4000000 in
theorem w_X8_join_20_b {p : Program} {l : Launch} {e : Env} {R : Room} {s : State} {m : MethodId} {args : Array Value} {below : List Frame} {meth : Method} {c : Code} {D : va_G} {dA : Nat → ClassId} {A : Nat → Prop} {ad : L3 → Nat} (X : CX RX8 cX8_join 3 none (KA D dA) p s m args meth c A) (hR : 2 ≤ R.frames ∧ 42 ≤ R.locals) {res : Mem} (k20 : Mem → Int32 → Option (Mem)) (hk20 : ∀ (S : Mem) (x1 : Int32) (H : Heap) (locs : List Loc) (ls : Array Slot), Wd D clA (shM dA) exM A ad S H → va_S A s.heap H locs → lv_has ls 3 [(0, .ref (ad M_o)), (1, .int x1)] → k20 S x1 = some res → W p l e R s m args below meth c H locs 0 0 (MQ below (QvW D (shM dA) exM A ad res) args s 0 0 A) (F0 m 20 ls [])) (S : Mem) (x1 : Int32) {H : Heap} {locs : List Loc} {ls : Array Slot} (hP : Wd D clA (shM dA) exM A ad S H) (hS : va_S A s.heap H locs) (hl : lv_has ls 3 [(0, .ref (ad M_o)), (1, .int x1)]) (hf : f_X8_join_20_b k20 S x1 = some res) : W p l e R s m args below meth c H locs 0 0 (MQ below (QvW D (shM dA) exM A ad res) args s 0 0 A) (F0 m 20 ls []) := by
  have hx := X.hx
  have hb := X.hb
  unfold f_X8_join_20_b at hf
  refine lv_iload_n hx hb dX8_join_20 rfl (lv_at hl 1 rfl) ?_
  refine lv_iconst (v := 2) hx hb dX8_join_21 (by decide) ?_
  refine gb_icmp_ge (tgt := 95) hx hb dX8_join_22 (by decide) hf (fun hf => ?_) (fun hf => ?_)
  · exact gr_vW X hP hS (Option.some.inj hf) dX8_join_95
  · refine lv_aload_n hx hb dX8_join_25 rfl (lv_at hl 0 rfl) ?_
    refine rg_X8_19 X hP dX8_join_26 ?_
    refine lv_iconst (v := 3) hx hb dX8_join_29 (by decide) ?_
    refine lv_iload_n hx hb dX8_join_30 rfl (lv_at hl 1 rfl) ?_
    refine lv_imul hx hb dX8_join_31 ?_
    refine lv_aload_n hx hb dX8_join_32 rfl (lv_at hl 0 rfl) ?_
    refine rg_X8_16 X hP dX8_join_33 ?_
    refine lv_bipush (v := 16) hx hb dX8_join_36 (by decide) ?_
    refine lv_iconst (v := 1) hx hb dX8_join_38 (by decide) ?_
    refine lv_iload_n hx hb dX8_join_39 rfl (lv_at hl 1 rfl) ?_
    refine lv_isub hx hb dX8_join_40 ?_
    refine lv_imul hx hb dX8_join_41 ?_
    refine lv_iconst (v := 4) hx hb dX8_join_42 (by decide) ?_
    refine lv_iadd hx hb dX8_join_43 ?_
    refine ra_grants_ld X hP dX8_join_44 hf (fun hf => ?_)
    refine lv_i2l hx hb dX8_join_45 rfl ?_
    refine ra_limits_st X hP hS dX8_join_46 hf (fun S1 H locs hP hS hf => ?_)
    refine lv_iconst (v := 0) hx hb dX8_join_47 (by decide) ?_
    refine lv_istore_n (lv' := [(2, .int 0), (0, .ref (ad M_o)), (1, .int x1)]) hx hb dX8_join_48 rfl hl (by decide) rfl (fun ls hl => ?_)
    exact w_X8_join_49 X hR k20 hk20 FU S1 x1 0 _ _ _ hP hS (lv_sub hl [1, 2, 0] rfl) hf
set_option maxHeartbeats 4000000 in
theorem w_X8_join_20 {p : Program} {l : Launch} {e : Env} {R : Room} {s : State} {m : MethodId} {args : Array Value} {below : List Frame} {meth : Method} {c : Code} {D : va_G} {dA : Nat → ClassId} {A : Nat → Prop} {ad : L3 → Nat} (X : CX RX8 cX8_join 3 none (KA D dA) p s m args meth c A) (hR : 2 ≤ R.frames ∧ 42 ≤ R.locals) {res : Mem} (n : Nat) : ∀ (S : Mem) (x1 : Int32) (H : Heap) (locs : List Loc) (ls : Array Slot), Wd D clA (shM dA) exM A ad S H → va_S A s.heap H locs → lv_has ls 3 [(0, .ref (ad M_o)), (1, .int x1)] → f_X8_join_20 n S x1 = some res → W p l e R s m args below meth c H locs 0 0 (MQ below (QvW D (shM dA) exM A ad res) args s 0 0 A) (F0 m 20 ls []) := by
  induction n with
  | zero =>
    intro S x1 H locs ls hP hS hl hf
    exact absurd (show none = some res from hf) (fun h => by cases h)
  | succ n ih =>
    intro S x1 H locs ls hP hS hl hf
    exact w_X8_join_20_b X hR (f_X8_join_20 n) ih S x1 hP hS hl hf
set_option maxHeartbeats 4000000 in
theorem w_X8_join {p : Program} {l : Launch} {e : Env} {R : Room} {s : State} {m : MethodId} {args : Array Value} {below : List Frame} {meth : Method} {c : Code} {D : va_G} {dA : Nat → ClassId} {A : Nat → Prop} {ad : L3 → Nat} (X : CX RX8 cX8_join 3 none (KA D dA) p s m args meth c A) (hR : 2 ≤ R.frames ∧ 42 ≤ R.locals) {res : Mem} (S : Mem) {H : Heap} {locs : List Loc} {ls : Array Slot} (hP : Wd D clA (shM dA) exM A ad S H) (hS : va_S A s.heap H locs) (hl : lv_has ls 3 [(0, .ref (ad M_o))]) (hf : f_X8_join S = some res) : W p l e R s m args below meth c H locs 0 0 (MQ below (QvW D (shM dA) exM A ad res) args s 0 0 A) (F0 m 0 ls []) := by
  have hx := X.hx
  have hb := X.hb
  unfold f_X8_join at hf
  refine lv_aload_n hx hb dX8_join_0 rfl (lv_at hl 0 rfl) ?_
  refine lv_aload_n hx hb dX8_join_1 rfl (lv_at hl 0 rfl) ?_
  refine rg_X8_244 X hP dX8_join_2 ?_
  refine lv_iconst (v := 1) hx hb dX8_join_5 (by decide) ?_
  obtain ⟨S1, v2, hq, hf⟩ := gB2_some hf
  refine gc_i (gc_fixV (S := S) X (mt_X8_fails l D dA A ad S (S.1 M_o 1) (1 : Int32) hq) (lw_V q1262 q1264 qs35 q93 q1265) ⟨rfl, rfl⟩ hd_X8_fails ⟨Nat.le_trans (Nat.le_of_ble_eq_true rfl) hR.1, Nat.le_trans (Nat.le_of_ble_eq_true rfl) hR.2⟩ (wd_recv (r := M_o) (ci := 0) (q := (RX8, TX8, 61)) X.hK.1 hP ⟨rfl, rfl⟩ rfl rfl) hP hS ⟨Nat.zero_le _, Nat.zero_le _⟩ rfl hl.1 rfl (Nat.le_of_ble_eq_true rfl) dX8_join_6) hS ?_
  rintro _ _ H locs ⟨⟩ hP hS
  refine gb_if_eq (tgt := 13) hx hb dX8_join_9 (by decide) hf (fun hf => ?_) (fun hf => ?_)
  · refine lv_aload_n hx hb dX8_join_13 rfl (lv_at hl 0 rfl) ?_
    refine lv_iconst (v := 1) hx hb dX8_join_14 (by decide) ?_
    refine rp_X8_244 X hP hS (by decide) dX8_join_15 hf (fun S3 H locs hP hS hf => ?_)
    refine lv_iconst (v := 0) hx hb dX8_join_18 (by decide) ?_
    refine lv_istore_n (lv' := [(1, .int 0), (0, .ref (ad M_o))]) hx hb dX8_join_19 rfl hl (by decide) rfl (fun ls hl => ?_)
    exact w_X8_join_20 X hR FU S3 0 _ _ _ hP hS (lv_sub hl [1, 0] rfl) hf
  · exact gr_vW X hP hS (Option.some.inj hf) dX8_join_12
theorem hd_X8_join : yX8_join.cls = RX8 ∧ yX8_join.cls ≠ "java/lang/invoke/MethodHandle" ∧ yX8_join.cls ≠ "java/lang/invoke/VarHandle" ∧ (parseMethodDescriptor yX8_join.desc).map (fun d => d.parameters.length) = some 0 := by decide +kernel
set_option maxHeartbeats 4000000 in
theorem mt_X8_join (l : Launch) (D : va_G) (dA : Nat → ClassId) (A : Nat → Prop) (ad : L3 → Nat) (S : Mem) {res : Mem} (hq : f_X8_join S = some res) : Met l yX8_join (ws_ yX8_join cX8_join 3 none) ({ frames := 2, cells := 0, slots := 0, locals := 42 } : Room) (va_Pc [.ref (ad M_o)] (PreW D dA (shM dA) exM A ad S)) (QvW D (shM dA) exM A ad res) 0 0 A :=
  gx_head (by decide) (Nat.le_of_ble_eq_true rfl) (fun p e s m below meth c ls X hP hl => w_X8_join (l := l) X ⟨Nat.le_of_ble_eq_true rfl, Nat.le_of_ble_eq_true rfl⟩ S hP va_S.rf (lv_sub (l := [(0, .ref (ad M_o))]) hl [0] rfl) hq)
set_option maxHeartbeats 4000000 in
theorem w_X8_feed_54_b {p : Program} {l : Launch} {e : Env} {R : Room} {s : State} {m : MethodId} {args : Array Value} {below : List Frame} {meth : Method} {c : Code} {D : va_G} {dA : Nat → ClassId} {A : Nat → Prop} {ad : L3 → Nat} (X : CX RX8 cX8_feed 5 (some .int) (KA D dA) p s m args meth c A) (hR : 2 ≤ R.frames ∧ 42 ≤ R.locals) {res : Mem × Int32} (k54 : Mem → Int32 → Int64 → Int32 → Option (Mem × Int32)) (hk54 : ∀ (S : Mem) (x1 : Int32) (x2 : Int64) (x4 : Int32) (H : Heap) (locs : List Loc) (ls : Array Slot), Wd D clA (shM dA) exM A ad S H → va_S A s.heap H locs → lv_has ls 5 [(0, .ref (ad M_o)), (1, .int x1), (2, .long x2), (4, .int x4)] → k54 S x1 x2 x4 = some res → W p l e R s m args below meth c H locs 0 0 (MQ below (QiW D (shM dA) exM A ad res) args s 0 0 A) (F0 m 54 ls [])) (S : Mem) (x1 : Int32) (x2 : Int64) (x4 : Int32) {H : Heap} {locs : List Loc} {ls : Array Slot} (hP : Wd D clA (shM dA) exM A ad S H) (hS : va_S A s.heap H locs) (hl : lv_has ls 5 [(0, .ref (ad M_o)), (1, .int x1), (2, .long x2), (4, .int x4)]) (hf : f_X8_feed_54_b k54 S x1 x2 x4 = some res) : W p l e R s m args below meth c H locs 0 0 (MQ below (QiW D (shM dA) exM A ad res) args s 0 0 A) (F0 m 54 ls []) := by
  have hx := X.hx
  have hb := X.hb
  unfold f_X8_feed_54_b at hf
  refine lv_iload hx hb dX8_feed_54 (lv_at hl 3 rfl) ?_
  refine lv_iload_n hx hb dX8_feed_56 rfl (lv_at hl 1 rfl) ?_
  refine gb_icmp_ge (tgt := 90) hx hb dX8_feed_57 (by decide) hf (fun hf => ?_) (fun hf => ?_)
  · refine lv_aload_n hx hb dX8_feed_90 rfl (lv_at hl 0 rfl) ?_
    refine lv_dup hx hb dX8_feed_91 rfl ?_
    refine rg_X8_263 X hP dX8_feed_92 ?_
    refine lv_iload_n hx hb dX8_feed_95 rfl (lv_at hl 1 rfl) ?_
    refine lv_iadd hx hb dX8_feed_96 ?_
    refine rp_X8_263 X hP hS dX8_feed_97 hf (fun S1 H locs hP hS hf => ?_)
    refine lv_aload_n hx hb dX8_feed_100 rfl (lv_at hl 0 rfl) ?_
    refine rg_X8_263 X hP dX8_feed_101 ?_
    exact gr_iW X hP hS (Option.some.inj hf) dX8_feed_104
  · refine lv_aload_n hx hb dX8_feed_60 rfl (lv_at hl 0 rfl) ?_
    refine rg_X8_7 X hP dX8_feed_61 ?_
    refine lv_aload_n hx hb dX8_feed_64 rfl (lv_at hl 0 rfl) ?_
    refine rg_X8_263 X hP dX8_feed_65 ?_
    refine lv_iload hx hb dX8_feed_68 (lv_at hl 3 rfl) ?_
    refine lv_iadd hx hb dX8_feed_70 ?_
    refine lv_lload_n hx hb dX8_feed_71 rfl (lv_at hl 2 rfl) ?_
    refine lv_bipush (v := 8) hx hb dX8_feed_72 (by decide) ?_
    refine lv_iload hx hb dX8_feed_74 (lv_at hl 3 rfl) ?_
    refine lv_imul hx hb dX8_feed_76 ?_
    refine lv_lshr hx hb dX8_feed_77 rfl ?_
    refine lv_ldc2 hx hb X.hown (X.hts _ q1274) dX8_feed_78 ?_
    refine lv_land hx hb dX8_feed_81 ?_
    refine lv_l2i hx hb dX8_feed_82 rfl ?_
    refine ra_tape_st X hP hS dX8_feed_83 hf (fun S2 H locs hP hS hf => ?_)
    refine lv_iinc (v := (x4 + 1)) (lv' := [(4, .int (x4 + 1)), (0, .ref (ad M_o)), (1, .int x1), (2, .long x2)]) hx hb dX8_feed_84 hl (k := 3) rfl rfl (by decide) rfl (fun ls hl => ?_)
    refine lv_goto (tgt := 54) hx hb dX8_feed_87 (by decide) ?_
    exact hk54 S2 x1 x2 (x4 + 1) _ _ _ hP hS (lv_sub hl [1, 2, 3, 0] rfl) hf
set_option maxHeartbeats 4000000 in
theorem w_X8_feed_54 {p : Program} {l : Launch} {e : Env} {R : Room} {s : State} {m : MethodId} {args : Array Value} {below : List Frame} {meth : Method} {c : Code} {D : va_G} {dA : Nat → ClassId} {A : Nat → Prop} {ad : L3 → Nat} (X : CX RX8 cX8_feed 5 (some .int) (KA D dA) p s m args meth c A) (hR : 2 ≤ R.frames ∧ 42 ≤ R.locals) {res : Mem × Int32} (n : Nat) : ∀ (S : Mem) (x1 : Int32) (x2 : Int64) (x4 : Int32) (H : Heap) (locs : List Loc) (ls : Array Slot), Wd D clA (shM dA) exM A ad S H → va_S A s.heap H locs → lv_has ls 5 [(0, .ref (ad M_o)), (1, .int x1), (2, .long x2), (4, .int x4)] → f_X8_feed_54 n S x1 x2 x4 = some res → W p l e R s m args below meth c H locs 0 0 (MQ below (QiW D (shM dA) exM A ad res) args s 0 0 A) (F0 m 54 ls []) := by
  induction n with
  | zero =>
    intro S x1 x2 x4 H locs ls hP hS hl hf
    exact absurd (show none = some res from hf) (fun h => by cases h)
  | succ n ih =>
    intro S x1 x2 x4 H locs ls hP hS hl hf
    exact w_X8_feed_54_b X hR (f_X8_feed_54 n) ih S x1 x2 x4 hP hS hl hf
set_option maxHeartbeats 4000000 in
theorem w_X8_feed_42 {p : Program} {l : Launch} {e : Env} {R : Room} {s : State} {m : MethodId} {args : Array Value} {below : List Frame} {meth : Method} {c : Code} {D : va_G} {dA : Nat → ClassId} {A : Nat → Prop} {ad : L3 → Nat} (X : CX RX8 cX8_feed 5 (some .int) (KA D dA) p s m args meth c A) (hR : 2 ≤ R.frames ∧ 42 ≤ R.locals) {res : Mem × Int32} (S : Mem) (x1 : Int32) (x2 : Int64) (y0 : Int32) {H : Heap} {locs : List Loc} {ls : Array Slot} (hP : Wd D clA (shM dA) exM A ad S H) (hS : va_S A s.heap H locs) (hl : lv_has ls 5 [(0, .ref (ad M_o)), (1, .int x1), (2, .long x2)]) (hf : f_X8_feed_42 S x1 x2 y0 = some res) : W p l e R s m args below meth c H locs 0 0 (MQ below (QiW D (shM dA) exM A ad res) args s 0 0 A) (F0 m 42 ls [.int y0, .ref (ad M_o)]) := by
  have hx := X.hx
  have hb := X.hb
  unfold f_X8_feed_42 at hf
  refine lv_iconst (v := 2) hx hb dX8_feed_42 (by decide) ?_
  obtain ⟨S1, v2, hq, hf⟩ := gB2_some hf
  refine gc_i (gc_fixV (S := S) X (mt_X8_fails l D dA A ad S y0 (2 : Int32) hq) (lw_V q1262 q1264 qs35 q93 q1265) ⟨rfl, rfl⟩ hd_X8_fails ⟨Nat.le_trans (Nat.le_of_ble_eq_true rfl) hR.1, Nat.le_trans (Nat.le_of_ble_eq_true rfl) hR.2⟩ (wd_recv (r := M_o) (ci := 0) (q := (RX8, TX8, 61)) X.hK.1 hP ⟨rfl, rfl⟩ rfl rfl) hP hS ⟨Nat.zero_le _, Nat.zero_le _⟩ rfl hl.1 rfl (Nat.le_of_ble_eq_true rfl) dX8_feed_43) hS ?_
  rintro _ _ H locs ⟨⟩ hP hS
  refine gb_if_eq (tgt := 51) hx hb dX8_feed_46 (by decide) hf (fun hf => ?_) (fun hf => ?_)
  · refine lv_iconst (v := 0) hx hb dX8_feed_51 (by decide) ?_
    refine lv_istore (lv' := [(4, .int 0), (0, .ref (ad M_o)), (1, .int x1), (2, .long x2)]) hx hb dX8_feed_52 hl (by decide) rfl (fun ls hl => ?_)
    exact w_X8_feed_54 X hR FU S1 x1 x2 0 _ _ _ hP hS (lv_sub hl [1, 2, 3, 0] rfl) hf
  · refine lv_iconst (v := 0) hx hb dX8_feed_49 (by decide) ?_
    exact gr_iW X hP hS (Option.some.inj hf) dX8_feed_50
set_option maxHeartbeats 4000000 in
theorem w_X8_feed_17 {p : Program} {l : Launch} {e : Env} {R : Room} {s : State} {m : MethodId} {args : Array Value} {below : List Frame} {meth : Method} {c : Code} {D : va_G} {dA : Nat → ClassId} {A : Nat → Prop} {ad : L3 → Nat} (X : CX RX8 cX8_feed 5 (some .int) (KA D dA) p s m args meth c A) (hR : 2 ≤ R.frames ∧ 42 ≤ R.locals) {res : Mem × Int32} (S : Mem) (x1 : Int32) (x2 : Int64) (y0 : Int32) {H : Heap} {locs : List Loc} {ls : Array Slot} (hP : Wd D clA (shM dA) exM A ad S H) (hS : va_S A s.heap H locs) (hl : lv_has ls 5 [(0, .ref (ad M_o)), (1, .int x1), (2, .long x2)]) (hf : f_X8_feed_17 S x1 x2 y0 = some res) : W p l e R s m args below meth c H locs 0 0 (MQ below (QiW D (shM dA) exM A ad res) args s 0 0 A) (F0 m 17 ls [.int y0, .ref (ad M_o)]) := by
  have hx := X.hx
  have hb := X.hb
  unfold f_X8_feed_17 at hf
  refine lv_iconst (v := 1) hx hb dX8_feed_17 (by decide) ?_
  obtain ⟨S1, v2, hq, hf⟩ := gB2_some hf
  refine gc_i (gc_fixV (S := S) X (mt_X8_fails l D dA A ad S y0 (1 : Int32) hq) (lw_V q1262 q1264 qs35 q93 q1265) ⟨rfl, rfl⟩ hd_X8_fails ⟨Nat.le_trans (Nat.le_of_ble_eq_true rfl) hR.1, Nat.le_trans (Nat.le_of_ble_eq_true rfl) hR.2⟩ (wd_recv (r := M_o) (ci := 0) (q := (RX8, TX8, 61)) X.hK.1 hP ⟨rfl, rfl⟩ rfl rfl) hP hS ⟨Nat.zero_le _, Nat.zero_le _⟩ rfl hl.1 rfl (Nat.le_of_ble_eq_true rfl) dX8_feed_18) hS ?_
  rintro _ _ H locs ⟨⟩ hP hS
  refine gb_if_ne (tgt := 49) hx hb dX8_feed_21 (by decide) hf (fun hf => ?_) (fun hf => ?_)
  · refine lv_iconst (v := 0) hx hb dX8_feed_49 (by decide) ?_
    exact gr_iW X hP hS (Option.some.inj hf) dX8_feed_50
  · refine lv_aload_n hx hb dX8_feed_24 rfl (lv_at hl 0 rfl) ?_
    refine lv_aload_n hx hb dX8_feed_25 rfl (lv_at hl 0 rfl) ?_
    refine rg_X8_263 X hP dX8_feed_26 ?_
    refine lv_iload_n hx hb dX8_feed_29 rfl (lv_at hl 1 rfl) ?_
    refine lv_iadd hx hb dX8_feed_30 ?_
    refine lv_sipush (v := 2048) hx hb dX8_feed_31 (by decide) ?_
    refine gb_icmp_le (tgt := 41) hx hb dX8_feed_34 (by decide) hf (fun hf => ?_) (fun hf => ?_)
    · refine lv_iconst (v := 0) hx hb dX8_feed_41 (by decide) ?_
      exact w_X8_feed_42 X hR S1 x1 x2 0 hP hS (lv_sub hl [0, 1, 2] rfl) hf
    · refine lv_iconst (v := 1) hx hb dX8_feed_37 (by decide) ?_
      refine lv_goto (tgt := 42) hx hb dX8_feed_38 (by decide) ?_
      exact w_X8_feed_42 X hR S1 x1 x2 1 hP hS (lv_sub hl [0, 1, 2] rfl) hf
set_option maxHeartbeats 4000000 in
theorem w_X8_feed_12 {p : Program} {l : Launch} {e : Env} {R : Room} {s : State} {m : MethodId} {args : Array Value} {below : List Frame} {meth : Method} {c : Code} {D : va_G} {dA : Nat → ClassId} {A : Nat → Prop} {ad : L3 → Nat} (X : CX RX8 cX8_feed 5 (some .int) (KA D dA) p s m args meth c A) (hR : 2 ≤ R.frames ∧ 42 ≤ R.locals) {res : Mem × Int32} (S : Mem) (x1 : Int32) (x2 : Int64) {H : Heap} {locs : List Loc} {ls : Array Slot} (hP : Wd D clA (shM dA) exM A ad S H) (hS : va_S A s.heap H locs) (hl : lv_has ls 5 [(0, .ref (ad M_o)), (1, .int x1), (2, .long x2)]) (hf : f_X8_feed_12 S x1 x2 = some res) : W p l e R s m args below meth c H locs 0 0 (MQ below (QiW D (shM dA) exM A ad res) args s 0 0 A) (F0 m 12 ls [.ref (ad M_o)]) := by
  have hx := X.hx
  have hb := X.hb
  unfold f_X8_feed_12 at hf
  refine lv_iconst (v := 1) hx hb dX8_feed_12 (by decide) ?_
  refine lv_goto (tgt := 17) hx hb dX8_feed_13 (by decide) ?_
  exact w_X8_feed_17 X hR S x1 x2 1 hP hS (lv_sub hl [0, 1, 2] rfl) hf
set_option maxHeartbeats 4000000 in
theorem w_X8_feed {p : Program} {l : Launch} {e : Env} {R : Room} {s : State} {m : MethodId} {args : Array Value} {below : List Frame} {meth : Method} {c : Code} {D : va_G} {dA : Nat → ClassId} {A : Nat → Prop} {ad : L3 → Nat} (X : CX RX8 cX8_feed 5 (some .int) (KA D dA) p s m args meth c A) (hR : 2 ≤ R.frames ∧ 42 ≤ R.locals) {res : Mem × Int32} (S : Mem) (x1 : Int32) (x2 : Int64) {H : Heap} {locs : List Loc} {ls : Array Slot} (hP : Wd D clA (shM dA) exM A ad S H) (hS : va_S A s.heap H locs) (hl : lv_has ls 5 [(0, .ref (ad M_o)), (1, .int x1), (2, .long x2)]) (hf : f_X8_feed S x1 x2 = some res) : W p l e R s m args below meth c H locs 0 0 (MQ below (QiW D (shM dA) exM A ad res) args s 0 0 A) (F0 m 0 ls []) := by
  have hx := X.hx
  have hb := X.hb
  unfold f_X8_feed at hf
  refine lv_aload_n hx hb dX8_feed_0 rfl (lv_at hl 0 rfl) ?_
  refine lv_iload_n hx hb dX8_feed_1 rfl (lv_at hl 1 rfl) ?_
  refine lv_iconst (v := 1) hx hb dX8_feed_2 (by decide) ?_
  refine gb_icmp_lt (tgt := 12) hx hb dX8_feed_3 (by decide) hf (fun hf => ?_) (fun hf => ?_)
  · exact w_X8_feed_12 X hR S x1 x2 hP hS (lv_sub hl [0, 1, 2] rfl) hf
  · refine lv_iload_n hx hb dX8_feed_6 rfl (lv_at hl 1 rfl) ?_
    refine lv_bipush (v := 8) hx hb dX8_feed_7 (by decide) ?_
    refine gb_icmp_le (tgt := 16) hx hb dX8_feed_9 (by decide) hf (fun hf => ?_) (fun hf => ?_)
    · refine lv_iconst (v := 0) hx hb dX8_feed_16 (by decide) ?_
      exact w_X8_feed_17 X hR S x1 x2 0 hP hS (lv_sub hl [0, 1, 2] rfl) hf
    · exact w_X8_feed_12 X hR S x1 x2 hP hS (lv_sub hl [0, 1, 2] rfl) hf
theorem hd_X8_feed : yX8_feed.cls = RX8 ∧ yX8_feed.cls ≠ "java/lang/invoke/MethodHandle" ∧ yX8_feed.cls ≠ "java/lang/invoke/VarHandle" ∧ (parseMethodDescriptor yX8_feed.desc).map (fun d => d.parameters.length) = some 2 := by decide +kernel
set_option maxHeartbeats 4000000 in
theorem mt_X8_feed (l : Launch) (D : va_G) (dA : Nat → ClassId) (A : Nat → Prop) (ad : L3 → Nat) (S : Mem) (x1 : Int32) (x2 : Int64) {res : Mem × Int32} (hq : f_X8_feed S x1 x2 = some res) : Met l yX8_feed (ws_ yX8_feed cX8_feed 5 (some .int)) ({ frames := 2, cells := 0, slots := 0, locals := 42 } : Room) (va_Pc [.ref (ad M_o), .int x1, .long x2] (PreW D dA (shM dA) exM A ad S)) (QiW D (shM dA) exM A ad res) 0 0 A :=
  gx_head (by decide) (Nat.le_of_ble_eq_true rfl) (fun p e s m below meth c ls X hP hl => w_X8_feed (l := l) X ⟨Nat.le_of_ble_eq_true rfl, Nat.le_of_ble_eq_true rfl⟩ S x1 x2 hP va_S.rf (lv_sub (l := [(0, .ref (ad M_o)), (1, .int x1), (2, .long x2)]) hl [0, 1, 2] rfl) hq)
set_option maxHeartbeats 4000000 in
theorem w_X8_at {p : Program} {l : Launch} {e : Env} {R : Room} {s : State} {m : MethodId} {args : Array Value} {below : List Frame} {meth : Method} {c : Code} {D : va_G} {dA : Nat → ClassId} {A : Nat → Prop} {ad : L3 → Nat} (X : CX RX8 cX8_at 2 (some .int) (KA D dA) p s m args meth c A) (hR : 1 ≤ R.frames ∧ 20 ≤ R.locals) {res : Int32} (S : Mem) (x0 : Int32) (x1 : Int32) {H : Heap} {locs : List Loc} {ls : Array Slot} (hP : Wd D clA (shM dA) exM A ad S H) (hS : va_S A s.heap H locs) (hl : lv_has ls 2 [(0, .int x0), (1, .int x1)]) (hf : f_X8_at x0 x1 = res) : W p l e R s m args below meth c H locs 0 0 (MQ below (QiR D (shM dA) exM A ad S res) args s 0 0 A) (F0 m 0 ls []) := by
  have hx := X.hx
  have hb := X.hb
  unfold f_X8_at at hf
  refine lv_sipush (v := 256) hx hb dX8_at_0 (by decide) ?_
  refine lv_iload_n hx hb dX8_at_3 rfl (lv_at hl 0 rfl) ?_
  refine lv_imul hx hb dX8_at_4 ?_
  refine lv_iload_n hx hb dX8_at_5 rfl (lv_at hl 1 rfl) ?_
  refine lv_iadd hx hb dX8_at_6 ?_
  exact gr_iR X hP hS hf dX8_at_7
theorem hd_X8_at : yX8_at.cls = RX8 ∧ yX8_at.cls ≠ "java/lang/invoke/MethodHandle" ∧ yX8_at.cls ≠ "java/lang/invoke/VarHandle" ∧ (parseMethodDescriptor yX8_at.desc).map (fun d => d.parameters.length) = some 2 := by decide +kernel
set_option maxHeartbeats 4000000 in
theorem mt_X8_at (l : Launch) (D : va_G) (dA : Nat → ClassId) (A : Nat → Prop) (ad : L3 → Nat) (S : Mem) (x0 : Int32) (x1 : Int32) {res : Int32} (hq : f_X8_at x0 x1 = res) : Met l yX8_at (ws_ yX8_at cX8_at 2 (some .int)) ({ frames := 1, cells := 0, slots := 0, locals := 20 } : Room) (va_Pc [.int x0, .int x1] (PreW D dA (shM dA) exM A ad S)) (QiR D (shM dA) exM A ad S res) 0 0 A :=
  gx_head (by decide) (Nat.le_of_ble_eq_true rfl) (fun p e s m below meth c ls X hP hl => w_X8_at (l := l) X ⟨Nat.le_of_ble_eq_true rfl, Nat.le_of_ble_eq_true rfl⟩ S x0 x1 hP va_S.rf (lv_sub (l := [(0, .int x0), (1, .int x1)]) hl [0, 1] rfl) hq)
set_option maxHeartbeats 4000000 in
theorem w_X8_wayOf {p : Program} {l : Launch} {e : Env} {R : Room} {s : State} {m : MethodId} {args : Array Value} {below : List Frame} {meth : Method} {c : Code} {D : va_G} {dA : Nat → ClassId} {A : Nat → Prop} {ad : L3 → Nat} (X : CX RX8 cX8_wayOf 2 (some .int) (KA D dA) p s m args meth c A) (hR : 1 ≤ R.frames ∧ 20 ≤ R.locals) {res : Int32} (S : Mem) (x0 : Int64) {H : Heap} {locs : List Loc} {ls : Array Slot} (hP : Wd D clA (shM dA) exM A ad S H) (hS : va_S A s.heap H locs) (hl : lv_has ls 2 [(0, .long x0)]) (hf : f_X8_wayOf x0 = res) : W p l e R s m args below meth c H locs 0 0 (MQ below (QiR D (shM dA) exM A ad S res) args s 0 0 A) (F0 m 0 ls []) := by
  have hx := X.hx
  have hb := X.hb
  unfold f_X8_wayOf at hf
  refine lv_lload_n hx hb dX8_wayOf_0 rfl (lv_at hl 0 rfl) ?_
  refine lv_iconst (v := 1) hx hb dX8_wayOf_1 (by decide) ?_
  refine lv_lshr hx hb dX8_wayOf_2 rfl ?_
  refine lv_lconst (v := 1) hx hb dX8_wayOf_3 (by decide) ?_
  refine lv_land hx hb dX8_wayOf_4 ?_
  refine lv_l2i hx hb dX8_wayOf_5 rfl ?_
  exact gr_iR X hP hS hf dX8_wayOf_6
theorem hd_X8_wayOf : yX8_wayOf.cls = RX8 ∧ yX8_wayOf.cls ≠ "java/lang/invoke/MethodHandle" ∧ yX8_wayOf.cls ≠ "java/lang/invoke/VarHandle" ∧ (parseMethodDescriptor yX8_wayOf.desc).map (fun d => d.parameters.length) = some 1 := by decide +kernel
set_option maxHeartbeats 4000000 in
theorem mt_X8_wayOf (l : Launch) (D : va_G) (dA : Nat → ClassId) (A : Nat → Prop) (ad : L3 → Nat) (S : Mem) (x0 : Int64) {res : Int32} (hq : f_X8_wayOf x0 = res) : Met l yX8_wayOf (ws_ yX8_wayOf cX8_wayOf 2 (some .int)) ({ frames := 1, cells := 0, slots := 0, locals := 20 } : Room) (va_Pc [.long x0] (PreW D dA (shM dA) exM A ad S)) (QiR D (shM dA) exM A ad S res) 0 0 A :=
  gx_head (by decide) (Nat.le_of_ble_eq_true rfl) (fun p e s m below meth c ls X hP hl => w_X8_wayOf (l := l) X ⟨Nat.le_of_ble_eq_true rfl, Nat.le_of_ble_eq_true rfl⟩ S x0 hP va_S.rf (lv_sub (l := [(0, .long x0)]) hl [0] rfl) hq)
set_option maxHeartbeats 4000000 in
theorem w_X8_opens {p : Program} {l : Launch} {e : Env} {R : Room} {s : State} {m : MethodId} {args : Array Value} {below : List Frame} {meth : Method} {c : Code} {D : va_G} {dA : Nat → ClassId} {A : Nat → Prop} {ad : L3 → Nat} (X : CX RX8 cX8_opens 3 (some .boolean) (KA D dA) p s m args meth c A) (hR : 1 ≤ R.frames ∧ 20 ≤ R.locals) {res : Int32} (S : Mem) (x0 : Int32) (x1 : Int64) {H : Heap} {locs : List Loc} {ls : Array Slot} (hP : Wd D clA (shM dA) exM A ad S H) (hS : va_S A s.heap H locs) (hl : lv_has ls 3 [(0, .int x0), (1, .long x1)]) (hf : f_X8_opens x0 x1 = res) : W p l e R s m args below meth c H locs 0 0 (MQ below (QiR D (shM dA) exM A ad S res) args s 0 0 A) (F0 m 0 ls []) := by
  have hx := X.hx
  have hb := X.hb
  unfold f_X8_opens at hf
  refine lv_lload_n hx hb dX8_opens_0 rfl (lv_at hl 1 rfl) ?_
  refine lv_lconst (v := 1) hx hb dX8_opens_1 (by decide) ?_
  refine lv_land hx hb dX8_opens_2 ?_
  refine lv_iload_n hx hb dX8_opens_3 rfl (lv_at hl 0 rfl) ?_
  refine lv_i2l hx hb dX8_opens_4 rfl ?_
  refine gb_lcmp_ne (tgt := 13) hx hb dX8_opens_5 dX8_opens_6 (by decide) hf (fun hf => ?_) (fun hf => ?_)
  · refine lv_iconst (v := 0) hx hb dX8_opens_13 (by decide) ?_
    exact gr_zR X hP hS hf (by decide) dX8_opens_14
  · refine lv_iconst (v := 1) hx hb dX8_opens_9 (by decide) ?_
    refine lv_goto (tgt := 14) hx hb dX8_opens_10 (by decide) ?_
    exact gr_zR X hP hS hf (by decide) dX8_opens_14
theorem hd_X8_opens : yX8_opens.cls = RX8 ∧ yX8_opens.cls ≠ "java/lang/invoke/MethodHandle" ∧ yX8_opens.cls ≠ "java/lang/invoke/VarHandle" ∧ (parseMethodDescriptor yX8_opens.desc).map (fun d => d.parameters.length) = some 2 := by decide +kernel
set_option maxHeartbeats 4000000 in
theorem mt_X8_opens (l : Launch) (D : va_G) (dA : Nat → ClassId) (A : Nat → Prop) (ad : L3 → Nat) (S : Mem) (x0 : Int32) (x1 : Int64) {res : Int32} (hq : f_X8_opens x0 x1 = res) : Met l yX8_opens (ws_ yX8_opens cX8_opens 3 (some .boolean)) ({ frames := 1, cells := 0, slots := 0, locals := 20 } : Room) (va_Pc [.int x0, .long x1] (PreW D dA (shM dA) exM A ad S)) (QiR D (shM dA) exM A ad S res) 0 0 A :=
  gx_head (by decide) (Nat.le_of_ble_eq_true rfl) (fun p e s m below meth c ls X hP hl => w_X8_opens (l := l) X ⟨Nat.le_of_ble_eq_true rfl, Nat.le_of_ble_eq_true rfl⟩ S x0 x1 hP va_S.rf (lv_sub (l := [(0, .int x0), (1, .long x1)]) hl [0, 1] rfl) hq)
set_option maxHeartbeats 4000000 in
theorem w_X8_grantOf_37 {p : Program} {l : Launch} {e : Env} {R : Room} {s : State} {m : MethodId} {args : Array Value} {below : List Frame} {meth : Method} {c : Code} {D : va_G} {dA : Nat → ClassId} {A : Nat → Prop} {ad : L3 → Nat} (X : CX RX8 cX8_grantOf 3 (some .int) (KA D dA) p s m args meth c A) (hR : 2 ≤ R.frames ∧ 42 ≤ R.locals) {res : Int32} (S : Mem) (y0 : Int32) (y1 : Int32) {H : Heap} {locs : List Loc} {ls : Array Slot} (hP : Wd D clA (shM dA) exM A ad S H) (hS : va_S A s.heap H locs) (hl : lv_has ls 3 []) (hf : f_X8_grantOf_37 S y0 y1 = some res) : W p l e R s m args below meth c H locs 0 0 (MQ below (QiR D (shM dA) exM A ad S res) args s 0 0 A) (F0 m 37 ls [.int y0, .int y1, .ref (ad M_grants)]) := by
  have hx := X.hx
  have hb := X.hb
  unfold f_X8_grantOf_37 at hf
  refine lv_iadd hx hb dX8_grantOf_37 ?_
  refine ra_grants_ld X hP dX8_grantOf_38 hf (fun hf => ?_)
  exact gr_iR X hP hS (Option.some.inj hf) dX8_grantOf_39
set_option maxHeartbeats 4000000 in
theorem w_X8_grantOf {p : Program} {l : Launch} {e : Env} {R : Room} {s : State} {m : MethodId} {args : Array Value} {below : List Frame} {meth : Method} {c : Code} {D : va_G} {dA : Nat → ClassId} {A : Nat → Prop} {ad : L3 → Nat} (X : CX RX8 cX8_grantOf 3 (some .int) (KA D dA) p s m args meth c A) (hR : 2 ≤ R.frames ∧ 42 ≤ R.locals) {res : Int32} (S : Mem) (x1 : Int32) (x2 : Int32) {H : Heap} {locs : List Loc} {ls : Array Slot} (hP : Wd D clA (shM dA) exM A ad S H) (hS : va_S A s.heap H locs) (hl : lv_has ls 3 [(0, .ref (ad M_o)), (1, .int x1), (2, .int x2)]) (hf : f_X8_grantOf S x1 x2 = some res) : W p l e R s m args below meth c H locs 0 0 (MQ below (QiR D (shM dA) exM A ad S res) args s 0 0 A) (F0 m 0 ls []) := by
  have hx := X.hx
  have hb := X.hb
  unfold f_X8_grantOf at hf
  refine lv_aload_n hx hb dX8_grantOf_0 rfl (lv_at hl 0 rfl) ?_
  refine rg_X8_16 X hP dX8_grantOf_1 ?_
  refine lv_bipush (v := 16) hx hb dX8_grantOf_4 (by decide) ?_
  refine lv_iload_n hx hb dX8_grantOf_6 rfl (lv_at hl 1 rfl) ?_
  refine lv_imul hx hb dX8_grantOf_7 ?_
  refine lv_iload_n hx hb dX8_grantOf_8 rfl (lv_at hl 2 rfl) ?_
  refine lv_i2l hx hb dX8_grantOf_9 rfl ?_
  obtain ⟨v1, hq, hf⟩ := gS_eq hf
  refine gc_i (gc_fixS (S := S) X (mt_X8_wayOf l D dA A ad S (Int32.toInt64 x2) hq) (lw_S q1290 q1291 q93 q1292) ⟨rfl, rfl⟩ hd_X8_wayOf.2 ⟨Nat.le_trans (Nat.le_of_ble_eq_true rfl) hR.1, Nat.le_trans (Nat.le_of_ble_eq_true rfl) hR.2⟩ hP hS ⟨Nat.zero_le _, Nat.zero_le _⟩ rfl hl.1 rfl (Nat.le_of_ble_eq_true rfl) dX8_grantOf_10) hS ?_
  rintro _ _ H locs ⟨rfl, rfl⟩ hP hS
  refine lv_iconst (v := 1) hx hb dX8_grantOf_13 (by decide) ?_
  refine gb_icmp_ne (tgt := 22) hx hb dX8_grantOf_14 (by decide) hf (fun hf => ?_) (fun hf => ?_)
  · refine lv_iload_n hx hb dX8_grantOf_22 rfl (lv_at hl 1 rfl) ?_
    refine lv_iload_n hx hb dX8_grantOf_23 rfl (lv_at hl 2 rfl) ?_
    refine lv_i2l hx hb dX8_grantOf_24 rfl ?_
    obtain ⟨v2, hq, hf⟩ := gS_eq hf
    refine gc_i (gc_fixS (S := S) X (mt_X8_opens l D dA A ad S x1 (Int32.toInt64 x2) hq) (lw_S q1293 q1294 q93 q1295) ⟨rfl, rfl⟩ hd_X8_opens.2 ⟨Nat.le_trans (Nat.le_of_ble_eq_true rfl) hR.1, Nat.le_trans (Nat.le_of_ble_eq_true rfl) hR.2⟩ hP hS ⟨Nat.zero_le _, Nat.zero_le _⟩ rfl hl.1 rfl (Nat.le_of_ble_eq_true rfl) dX8_grantOf_25) hS ?_
    rintro _ _ H locs ⟨rfl, rfl⟩ hP hS
    refine gb_if_eq (tgt := 35) hx hb dX8_grantOf_28 (by decide) hf (fun hf => ?_) (fun hf => ?_)
    · refine lv_bipush (v := 6) hx hb dX8_grantOf_35 (by decide) ?_
      exact w_X8_grantOf_37 X hR S 6 (16 * x1) hP hS (lv_sub hl [] rfl) hf
    · refine lv_iconst (v := 5) hx hb dX8_grantOf_31 (by decide) ?_
      refine lv_goto (tgt := 37) hx hb dX8_grantOf_32 (by decide) ?_
      exact w_X8_grantOf_37 X hR S 5 (16 * x1) hP hS (lv_sub hl [] rfl) hf
  · refine lv_bipush (v := 7) hx hb dX8_grantOf_17 (by decide) ?_
    refine lv_goto (tgt := 37) hx hb dX8_grantOf_19 (by decide) ?_
    exact w_X8_grantOf_37 X hR S 7 (16 * x1) hP hS (lv_sub hl [] rfl) hf
theorem hd_X8_grantOf : yX8_grantOf.cls = RX8 ∧ yX8_grantOf.cls ≠ "java/lang/invoke/MethodHandle" ∧ yX8_grantOf.cls ≠ "java/lang/invoke/VarHandle" ∧ (parseMethodDescriptor yX8_grantOf.desc).map (fun d => d.parameters.length) = some 2 := by decide +kernel
set_option maxHeartbeats 4000000 in
theorem mt_X8_grantOf (l : Launch) (D : va_G) (dA : Nat → ClassId) (A : Nat → Prop) (ad : L3 → Nat) (S : Mem) (x1 : Int32) (x2 : Int32) {res : Int32} (hq : f_X8_grantOf S x1 x2 = some res) : Met l yX8_grantOf (ws_ yX8_grantOf cX8_grantOf 3 (some .int)) ({ frames := 2, cells := 0, slots := 0, locals := 42 } : Room) (va_Pc [.ref (ad M_o), .int x1, .int x2] (PreW D dA (shM dA) exM A ad S)) (QiR D (shM dA) exM A ad S res) 0 0 A :=
  gx_head (by decide) (Nat.le_of_ble_eq_true rfl) (fun p e s m below meth c ls X hP hl => w_X8_grantOf (l := l) X ⟨Nat.le_of_ble_eq_true rfl, Nat.le_of_ble_eq_true rfl⟩ S x1 x2 hP va_S.rf (lv_sub (l := [(0, .ref (ad M_o)), (1, .int x1), (2, .int x2)]) hl [0, 1, 2] rfl) hq)
set_option maxHeartbeats 4000000 in
theorem w_X8_limitOf {p : Program} {l : Launch} {e : Env} {R : Room} {s : State} {m : MethodId} {args : Array Value} {below : List Frame} {meth : Method} {c : Code} {D : va_G} {dA : Nat → ClassId} {A : Nat → Prop} {ad : L3 → Nat} (X : CX RX8 cX8_limitOf 3 (some .long) (KA D dA) p s m args meth c A) (hR : 3 ≤ R.frames ∧ 64 ≤ R.locals) {res : Int64} (S : Mem) (x1 : Int32) (x2 : Int32) {H : Heap} {locs : List Loc} {ls : Array Slot} (hP : Wd D clA (shM dA) exM A ad S H) (hS : va_S A s.heap H locs) (hl : lv_has ls 3 [(0, .ref (ad M_o)), (1, .int x1), (2, .int x2)]) (hf : f_X8_limitOf S x1 x2 = some res) : W p l e R s m args below meth c H locs 0 0 (MQ below (QjR D (shM dA) exM A ad S res) args s 0 0 A) (F0 m 0 ls []) := by
  have hx := X.hx
  have hb := X.hb
  unfold f_X8_limitOf at hf
  refine lv_aload_n hx hb dX8_limitOf_0 rfl (lv_at hl 0 rfl) ?_
  refine lv_iconst (v := 1) hx hb dX8_limitOf_1 (by decide) ?_
  refine lv_iload_n hx hb dX8_limitOf_2 rfl (lv_at hl 1 rfl) ?_
  refine lv_isub hx hb dX8_limitOf_3 ?_
  refine lv_iload_n hx hb dX8_limitOf_4 rfl (lv_at hl 2 rfl) ?_
  obtain ⟨v1, hq, hf⟩ := gB_some hf
  refine gc_i (gc_fixV (S := S) X (mt_X8_grantOf l D dA A ad S (1 - x1) x2 hq) (lw_V q1286 q1288 qs37 q93 q1289) ⟨rfl, rfl⟩ hd_X8_grantOf ⟨Nat.le_trans (Nat.le_of_ble_eq_true rfl) hR.1, Nat.le_trans (Nat.le_of_ble_eq_true rfl) hR.2⟩ (wd_recv (r := M_o) (ci := 0) (q := (RX8, TX8, 61)) X.hK.1 hP ⟨rfl, rfl⟩ rfl rfl) hP hS ⟨Nat.zero_le _, Nat.zero_le _⟩ rfl hl.1 rfl (Nat.le_of_ble_eq_true rfl) dX8_limitOf_5) hS ?_
  rintro _ _ H locs ⟨rfl, rfl⟩ hP hS
  refine lv_i2l hx hb dX8_limitOf_8 rfl ?_
  exact gr_lR X hP hS (Option.some.inj hf) dX8_limitOf_9
theorem hd_X8_limitOf : yX8_limitOf.cls = RX8 ∧ yX8_limitOf.cls ≠ "java/lang/invoke/MethodHandle" ∧ yX8_limitOf.cls ≠ "java/lang/invoke/VarHandle" ∧ (parseMethodDescriptor yX8_limitOf.desc).map (fun d => d.parameters.length) = some 2 := by decide +kernel
set_option maxHeartbeats 4000000 in
theorem mt_X8_limitOf (l : Launch) (D : va_G) (dA : Nat → ClassId) (A : Nat → Prop) (ad : L3 → Nat) (S : Mem) (x1 : Int32) (x2 : Int32) {res : Int64} (hq : f_X8_limitOf S x1 x2 = some res) : Met l yX8_limitOf (ws_ yX8_limitOf cX8_limitOf 3 (some .long)) ({ frames := 3, cells := 0, slots := 0, locals := 64 } : Room) (va_Pc [.ref (ad M_o), .int x1, .int x2] (PreW D dA (shM dA) exM A ad S)) (QjR D (shM dA) exM A ad S res) 0 0 A :=
  gx_head (by decide) (Nat.le_of_ble_eq_true rfl) (fun p e s m below meth c ls X hP hl => w_X8_limitOf (l := l) X ⟨Nat.le_of_ble_eq_true rfl, Nat.le_of_ble_eq_true rfl⟩ S x1 x2 hP va_S.rf (lv_sub (l := [(0, .ref (ad M_o)), (1, .int x1), (2, .int x2)]) hl [0, 1, 2] rfl) hq)
set_option maxHeartbeats 4000000 in
theorem w_X8_begin {p : Program} {l : Launch} {e : Env} {R : Room} {s : State} {m : MethodId} {args : Array Value} {below : List Frame} {meth : Method} {c : Code} {D : va_G} {dA : Nat → ClassId} {A : Nat → Prop} {ad : L3 → Nat} (X : CX RX8 cX8_begin 4 none (KA D dA) p s m args meth c A) (hR : 4 ≤ R.frames ∧ 86 ≤ R.locals) {res : Mem} (S : Mem) (x1 : Int32) (x2 : Int32) {H : Heap} {locs : List Loc} {ls : Array Slot} (hP : Wd D clA (shM dA) exM A ad S H) (hS : va_S A s.heap H locs) (hl : lv_has ls 4 [(0, .ref (ad M_o)), (1, .int x1), (2, .int x2)]) (hf : f_X8_begin S x1 x2 = some res) : W p l e R s m args below meth c H locs 0 0 (MQ below (QvW D (shM dA) exM A ad res) args s 0 0 A) (F0 m 0 ls []) := by
  have hx := X.hx
  have hb := X.hb
  unfold f_X8_begin at hf
  refine lv_iload_n hx hb dX8_begin_0 rfl (lv_at hl 1 rfl) ?_
  refine lv_iload_n hx hb dX8_begin_1 rfl (lv_at hl 2 rfl) ?_
  obtain ⟨v1, hq, hf⟩ := gS_eq hf
  refine gc_i (gc_fixS (S := S) X (mt_X8_at l D dA A ad S x1 x2 hq) (lw_S q1283 q1284 q93 q1285) ⟨rfl, rfl⟩ hd_X8_at.2 ⟨Nat.le_trans (Nat.le_of_ble_eq_true rfl) hR.1, Nat.le_trans (Nat.le_of_ble_eq_true rfl) hR.2⟩ hP hS ⟨Nat.zero_le _, Nat.zero_le _⟩ rfl hl.1 rfl (Nat.le_of_ble_eq_true rfl) dX8_begin_2) hS ?_
  rintro _ _ H locs ⟨rfl, rfl⟩ hP hS
  refine lv_istore_n (lv' := [(3, .int v1), (0, .ref (ad M_o)), (1, .int x1), (2, .int x2)]) hx hb dX8_begin_5 rfl hl (by decide) rfl (fun ls hl => ?_)
  refine lv_aload_n hx hb dX8_begin_6 rfl (lv_at hl 1 rfl) ?_
  refine rg_X8_51 X hP dX8_begin_7 ?_
  refine lv_iload_n hx hb dX8_begin_10 rfl (lv_at hl 0 rfl) ?_
  refine lv_iconst (v := 1) hx hb dX8_begin_11 (by decide) ?_
  refine ra_there_st X hP hS dX8_begin_12 hf (fun S2 H locs hP hS hf => ?_)
  refine lv_aload_n hx hb dX8_begin_13 rfl (lv_at hl 1 rfl) ?_
  refine rg_X8_90 X hP dX8_begin_14 ?_
  refine lv_iload_n hx hb dX8_begin_17 rfl (lv_at hl 0 rfl) ?_
  refine lv_aload_n hx hb dX8_begin_18 rfl (lv_at hl 1 rfl) ?_
  refine lv_iload_n hx hb dX8_begin_19 rfl (lv_at hl 2 rfl) ?_
  refine lv_iload_n hx hb dX8_begin_20 rfl (lv_at hl 3 rfl) ?_
  obtain ⟨v3, hq, hf⟩ := gB_some hf
  refine gc_i (gc_fixV (S := S2) X (mt_X8_grantOf l D dA A ad S2 x1 x2 hq) (lw_V q1286 q1288 qs37 q93 q1289) ⟨rfl, rfl⟩ hd_X8_grantOf ⟨Nat.le_trans (Nat.le_of_ble_eq_true rfl) hR.1, Nat.le_trans (Nat.le_of_ble_eq_true rfl) hR.2⟩ (wd_recv (r := M_o) (ci := 0) (q := (RX8, TX8, 61)) X.hK.1 hP ⟨rfl, rfl⟩ rfl rfl) hP hS ⟨Nat.zero_le _, Nat.zero_le _⟩ rfl hl.1 rfl (Nat.le_of_ble_eq_true rfl) dX8_begin_21) hS ?_
  rintro _ _ H locs ⟨rfl, rfl⟩ hP hS
  refine lv_i2l hx hb dX8_begin_24 rfl ?_
  refine ra_grant_st X hP hS dX8_begin_25 hf (fun S4 H locs hP hS hf => ?_)
  refine lv_aload_n hx hb dX8_begin_26 rfl (lv_at hl 1 rfl) ?_
  refine rg_X8_54 X hP dX8_begin_27 ?_
  refine lv_iload_n hx hb dX8_begin_30 rfl (lv_at hl 0 rfl) ?_
  refine lv_aload_n hx hb dX8_begin_31 rfl (lv_at hl 1 rfl) ?_
  refine lv_iload_n hx hb dX8_begin_32 rfl (lv_at hl 2 rfl) ?_
  refine lv_iload_n hx hb dX8_begin_33 rfl (lv_at hl 3 rfl) ?_
  obtain ⟨v5, hq, hf⟩ := gB_some hf
  refine gc_l (gc_fixV (S := S4) X (mt_X8_limitOf l D dA A ad S4 x1 x2 hq) (lw_V q1296 q1298 qs38 q93 q1299) ⟨rfl, rfl⟩ hd_X8_limitOf ⟨Nat.le_trans (Nat.le_of_ble_eq_true rfl) hR.1, Nat.le_trans (Nat.le_of_ble_eq_true rfl) hR.2⟩ (wd_recv (r := M_o) (ci := 0) (q := (RX8, TX8, 61)) X.hK.1 hP ⟨rfl, rfl⟩ rfl rfl) hP hS ⟨Nat.zero_le _, Nat.zero_le _⟩ rfl hl.1 rfl (Nat.le_of_ble_eq_true rfl) dX8_begin_34) hS ?_
  rintro _ _ H locs ⟨rfl, rfl⟩ hP hS
  refine ra_limit_st X hP hS dX8_begin_37 hf (fun S6 H locs hP hS hf => ?_)
  exact gr_vW X hP hS (Option.some.inj hf) dX8_begin_38
theorem hd_X8_begin : yX8_begin.cls = RX8 ∧ yX8_begin.cls ≠ "java/lang/invoke/MethodHandle" ∧ yX8_begin.cls ≠ "java/lang/invoke/VarHandle" ∧ (parseMethodDescriptor yX8_begin.desc).map (fun d => d.parameters.length) = some 2 := by decide +kernel
set_option maxHeartbeats 4000000 in
theorem mt_X8_begin (l : Launch) (D : va_G) (dA : Nat → ClassId) (A : Nat → Prop) (ad : L3 → Nat) (S : Mem) (x1 : Int32) (x2 : Int32) {res : Mem} (hq : f_X8_begin S x1 x2 = some res) : Met l yX8_begin (ws_ yX8_begin cX8_begin 4 none) ({ frames := 4, cells := 0, slots := 0, locals := 86 } : Room) (va_Pc [.ref (ad M_o), .int x1, .int x2] (PreW D dA (shM dA) exM A ad S)) (QvW D (shM dA) exM A ad res) 0 0 A :=
  gx_head (by decide) (Nat.le_of_ble_eq_true rfl) (fun p e s m below meth c ls X hP hl => w_X8_begin (l := l) X ⟨Nat.le_of_ble_eq_true rfl, Nat.le_of_ble_eq_true rfl⟩ S x1 x2 hP va_S.rf (lv_sub (l := [(0, .ref (ad M_o)), (1, .int x1), (2, .int x2)]) hl [0, 1, 2] rfl) hq)
set_option maxHeartbeats 4000000 in
theorem w_X8_open_87 {p : Program} {l : Launch} {e : Env} {R : Room} {s : State} {m : MethodId} {args : Array Value} {below : List Frame} {meth : Method} {c : Code} {D : va_G} {dA : Nat → ClassId} {A : Nat → Prop} {ad : L3 → Nat} (X : CX RX8 cX8_open 6 (some .int) (KA D dA) p s m args meth c A) (hR : 5 ≤ R.frames ∧ 109 ≤ R.locals) {res : Mem × Int32} (S : Mem) (x4 : Int32) {H : Heap} {locs : List Loc} {ls : Array Slot} (hP : Wd D clA (shM dA) exM A ad S H) (hS : va_S A s.heap H locs) (hl : lv_has ls 6 [(0, .ref (ad M_o)), (4, .int x4)]) (hf : f_X8_open_87 S x4 = some res) : W p l e R s m args below meth c H locs 0 0 (MQ below (QiW D (shM dA) exM A ad res) args s 0 0 A) (F0 m 87 ls []) := by
  have hx := X.hx
  have hb := X.hb
  unfold f_X8_open_87 at hf
  refine lv_aload_n hx hb dX8_open_87 rfl (lv_at hl 0 rfl) ?_
  refine rg_X8_45 X hP dX8_open_88 ?_
  refine lv_iload hx hb dX8_open_91 (lv_at hl 1 rfl) ?_
  refine lv_iconst (v := 1) hx hb dX8_open_93 (by decide) ?_
  refine ra_refused_st X hP hS dX8_open_94 hf (fun S1 H locs hP hS hf => ?_)
  refine lv_iconst (v := (-1)) hx hb dX8_open_95 (by decide) ?_
  exact gr_iW X hP hS (Option.some.inj hf) dX8_open_96
set_option maxHeartbeats 4000000 in
theorem w_X8_open_43 {p : Program} {l : Launch} {e : Env} {R : Room} {s : State} {m : MethodId} {args : Array Value} {below : List Frame} {meth : Method} {c : Code} {D : va_G} {dA : Nat → ClassId} {A : Nat → Prop} {ad : L3 → Nat} (X : CX RX8 cX8_open 6 (some .int) (KA D dA) p s m args meth c A) (hR : 5 ≤ R.frames ∧ 109 ≤ R.locals) {res : Mem × Int32} (S : Mem) (x1 : Int32) (y0 : Int32) {H : Heap} {locs : List Loc} {ls : Array Slot} (hP : Wd D clA (shM dA) exM A ad S H) (hS : va_S A s.heap H locs) (hl : lv_has ls 6 [(0, .ref (ad M_o)), (1, .int x1)]) (hf : f_X8_open_43 S x1 y0 = some res) : W p l e R s m args below meth c H locs 0 0 (MQ below (QiW D (shM dA) exM A ad res) args s 0 0 A) (F0 m 43 ls [.int y0]) := by
  have hx := X.hx
  have hb := X.hb
  unfold f_X8_open_43 at hf
  refine lv_istore_n (lv' := [(3, .int y0), (0, .ref (ad M_o)), (1, .int x1)]) hx hb dX8_open_43 rfl hl (by decide) rfl (fun ls hl => ?_)
  refine lv_iconst (v := 2) hx hb dX8_open_44 (by decide) ?_
  refine lv_iload_n hx hb dX8_open_45 rfl (lv_at hl 2 rfl) ?_
  refine lv_imul hx hb dX8_open_46 ?_
  refine lv_iload_n hx hb dX8_open_47 rfl (lv_at hl 0 rfl) ?_
  refine lv_iadd hx hb dX8_open_48 ?_
  refine lv_istore (lv' := [(4, .int ((2 * x1) + y0)), (3, .int y0), (0, .ref (ad M_o)), (1, .int x1)]) hx hb dX8_open_49 hl (by decide) rfl (fun ls hl => ?_)
  refine lv_aload_n hx hb dX8_open_51 rfl (lv_at hl 2 rfl) ?_
  refine rg_X8_23 X hP dX8_open_52 ?_
  refine lv_iload hx hb dX8_open_55 (lv_at hl 0 rfl) ?_
  refine ra_opened_ld X hP dX8_open_57 hf (fun hf => ?_)
  refine lv_i2l hx hb dX8_open_58 rfl ?_
  refine lv_aload_n hx hb dX8_open_59 rfl (lv_at hl 2 rfl) ?_
  refine rg_X8_19 X hP dX8_open_60 ?_
  refine lv_iconst (v := 3) hx hb dX8_open_63 (by decide) ?_
  refine lv_iload_n hx hb dX8_open_64 rfl (lv_at hl 3 rfl) ?_
  refine lv_imul hx hb dX8_open_65 ?_
  refine lv_iconst (v := 1) hx hb dX8_open_66 (by decide) ?_
  refine lv_iadd hx hb dX8_open_67 ?_
  refine lv_iload_n hx hb dX8_open_68 rfl (lv_at hl 1 rfl) ?_
  refine lv_iadd hx hb dX8_open_69 ?_
  refine ra_limits_ld X hP dX8_open_70 hf (fun hf => ?_)
  refine gb_lcmp_ge (tgt := 87) hx hb dX8_open_71 dX8_open_72 (by decide) hf (fun hf => ?_) (fun hf => ?_)
  · exact w_X8_open_87 X hR S ((2 * x1) + y0) hP hS (lv_sub hl [2, 0] rfl) hf
  · refine lv_aload_n hx hb dX8_open_75 rfl (lv_at hl 2 rfl) ?_
    refine rg_X8_23 X hP dX8_open_76 ?_
    refine lv_iload hx hb dX8_open_79 (lv_at hl 0 rfl) ?_
    refine ra_opened_ld X hP dX8_open_81 hf (fun hf => ?_)
    refine lv_bipush (v := 64) hx hb dX8_open_82 (by decide) ?_
    refine gb_icmp_ne (tgt := 97) hx hb dX8_open_84 (by decide) hf (fun hf => ?_) (fun hf => ?_)
    · refine lv_aload_n hx hb dX8_open_97 rfl (lv_at hl 2 rfl) ?_
      refine rg_X8_45 X hP dX8_open_98 ?_
      refine lv_iload hx hb dX8_open_101 (lv_at hl 0 rfl) ?_
      refine lv_iconst (v := 0) hx hb dX8_open_103 (by decide) ?_
      refine ra_refused_st X hP hS dX8_open_104 hf (fun S1 H locs hP hS hf => ?_)
      refine lv_iconst (v := 4) hx hb dX8_open_105 (by decide) ?_
      refine lv_aload_n hx hb dX8_open_106 rfl (lv_at hl 2 rfl) ?_
      refine rg_X8_23 X hP dX8_open_107 ?_
      refine lv_iload hx hb dX8_open_110 (lv_at hl 0 rfl) ?_
      refine ra_opened_ld X hP dX8_open_112 hf (fun hf => ?_)
      refine lv_imul hx hb dX8_open_113 ?_
      refine lv_iconst (v := 2) hx hb dX8_open_114 (by decide) ?_
      refine lv_iload_n hx hb dX8_open_115 rfl (lv_at hl 1 rfl) ?_
      refine lv_imul hx hb dX8_open_116 ?_
      refine lv_iadd hx hb dX8_open_117 ?_
      refine lv_iload_n hx hb dX8_open_118 rfl (lv_at hl 3 rfl) ?_
      refine lv_iadd hx hb dX8_open_119 ?_
      refine lv_istore (lv' := [(5, .int (((4 * (S1.1 M_opened (Int32.toNatClampNeg ((2 * x1) + y0)))) + (2 * y0)) + x1)), (4, .int ((2 * x1) + y0)), (3, .int y0), (0, .ref (ad M_o)), (1, .int x1)]) hx hb dX8_open_120 hl (by decide) rfl (fun ls hl => ?_)
      refine lv_aload_n hx hb dX8_open_122 rfl (lv_at hl 3 rfl) ?_
      refine rg_X8_23 X hP dX8_open_123 ?_
      refine lv_iload hx hb dX8_open_126 (lv_at hl 1 rfl) ?_
      refine lv_dup2_11 hx hb dX8_open_128 rfl rfl ?_
      refine ra_opened_ld X hP dX8_open_129 hf (fun hf => ?_)
      refine lv_iconst (v := 1) hx hb dX8_open_130 (by decide) ?_
      refine lv_iadd hx hb dX8_open_131 ?_
      refine ra_opened_st X hP hS dX8_open_132 hf (fun S2 H locs hP hS hf => ?_)
      refine lv_aload_n hx hb dX8_open_133 rfl (lv_at hl 3 rfl) ?_
      refine lv_iload_n hx hb dX8_open_134 rfl (lv_at hl 4 rfl) ?_
      refine lv_iload hx hb dX8_open_135 (lv_at hl 0 rfl) ?_
      obtain ⟨S3, hq, hf⟩ := gB_some hf
      refine gc_v (gc_fixV (S := S2) X (mt_X8_begin l D dA A ad S2 x1 (((4 * (S1.1 M_opened (Int32.toNatClampNeg ((2 * x1) + y0)))) + (2 * y0)) + x1) hq) (lw_V q1279 q1281 qs36 q93 q1282) ⟨rfl, rfl⟩ hd_X8_begin ⟨Nat.le_trans (Nat.le_of_ble_eq_true rfl) hR.1, Nat.le_trans (Nat.le_of_ble_eq_true rfl) hR.2⟩ (wd_recv (r := M_o) (ci := 0) (q := (RX8, TX8, 61)) X.hK.1 hP ⟨rfl, rfl⟩ rfl rfl) hP hS ⟨Nat.zero_le _, Nat.zero_le _⟩ rfl hl.1 rfl (Nat.le_of_ble_eq_true rfl) dX8_open_137) hS ?_
      rintro _ H locs rfl hP hS
      refine lv_iload hx hb dX8_open_140 (lv_at hl 0 rfl) ?_
      exact gr_iW X hP hS (Option.some.inj hf) dX8_open_142
    · exact w_X8_open_87 X hR S ((2 * x1) + y0) hP hS (lv_sub hl [2, 0] rfl) hf
set_option maxHeartbeats 4000000 in
theorem w_X8_open_25 {p : Program} {l : Launch} {e : Env} {R : Room} {s : State} {m : MethodId} {args : Array Value} {below : List Frame} {meth : Method} {c : Code} {D : va_G} {dA : Nat → ClassId} {A : Nat → Prop} {ad : L3 → Nat} (X : CX RX8 cX8_open 6 (some .int) (KA D dA) p s m args meth c A) (hR : 5 ≤ R.frames ∧ 109 ≤ R.locals) {res : Mem × Int32} (S : Mem) (x1 : Int32) (x2 : Int32) (y0 : Int32) {H : Heap} {locs : List Loc} {ls : Array Slot} (hP : Wd D clA (shM dA) exM A ad S H) (hS : va_S A s.heap H locs) (hl : lv_has ls 6 [(0, .ref (ad M_o)), (1, .int x1), (2, .int x2)]) (hf : f_X8_open_25 S x1 x2 y0 = some res) : W p l e R s m args below meth c H locs 0 0 (MQ below (QiW D (shM dA) exM A ad res) args s 0 0 A) (F0 m 25 ls [.int y0, .ref (ad M_o)]) := by
  have hx := X.hx
  have hb := X.hb
  unfold f_X8_open_25 at hf
  refine lv_iconst (v := 2) hx hb dX8_open_25 (by decide) ?_
  obtain ⟨S1, v2, hq, hf⟩ := gB2_some hf
  refine gc_i (gc_fixV (S := S) X (mt_X8_fails l D dA A ad S y0 (2 : Int32) hq) (lw_V q1262 q1264 qs35 q93 q1265) ⟨rfl, rfl⟩ hd_X8_fails ⟨Nat.le_trans (Nat.le_of_ble_eq_true rfl) hR.1, Nat.le_trans (Nat.le_of_ble_eq_true rfl) hR.2⟩ (wd_recv (r := M_o) (ci := 0) (q := (RX8, TX8, 61)) X.hK.1 hP ⟨rfl, rfl⟩ rfl rfl) hP hS ⟨Nat.zero_le _, Nat.zero_le _⟩ rfl hl.1 rfl (Nat.le_of_ble_eq_true rfl) dX8_open_26) hS ?_
  rintro _ _ H locs ⟨⟩ hP hS
  refine gb_if_eq (tgt := 34) hx hb dX8_open_29 (by decide) hf (fun hf => ?_) (fun hf => ?_)
  · refine lv_iload_n hx hb dX8_open_34 rfl (lv_at hl 2 rfl) ?_
    refine gb_if_eq (tgt := 42) hx hb dX8_open_35 (by decide) hf (fun hf => ?_) (fun hf => ?_)
    · refine lv_iconst (v := 1) hx hb dX8_open_42 (by decide) ?_
      exact w_X8_open_43 X hR S1 x1 1 hP hS (lv_sub hl [0, 1] rfl) hf
    · refine lv_iconst (v := 0) hx hb dX8_open_38 (by decide) ?_
      refine lv_goto (tgt := 43) hx hb dX8_open_39 (by decide) ?_
      exact w_X8_open_43 X hR S1 x1 0 hP hS (lv_sub hl [0, 1] rfl) hf
  · refine lv_iconst (v := 0) hx hb dX8_open_32 (by decide) ?_
    exact gr_iW X hP hS (Option.some.inj hf) dX8_open_33
set_option maxHeartbeats 4000000 in
theorem w_X8_open {p : Program} {l : Launch} {e : Env} {R : Room} {s : State} {m : MethodId} {args : Array Value} {below : List Frame} {meth : Method} {c : Code} {D : va_G} {dA : Nat → ClassId} {A : Nat → Prop} {ad : L3 → Nat} (X : CX RX8 cX8_open 6 (some .int) (KA D dA) p s m args meth c A) (hR : 5 ≤ R.frames ∧ 109 ≤ R.locals) {res : Mem × Int32} (S : Mem) (x1 : Int32) (x2 : Int32) {H : Heap} {locs : List Loc} {ls : Array Slot} (hP : Wd D clA (shM dA) exM A ad S H) (hS : va_S A s.heap H locs) (hl : lv_has ls 6 [(0, .ref (ad M_o)), (1, .int x1), (2, .int x2)]) (hf : f_X8_open S x1 x2 = some res) : W p l e R s m args below meth c H locs 0 0 (MQ below (QiW D (shM dA) exM A ad res) args s 0 0 A) (F0 m 0 ls []) := by
  have hx := X.hx
  have hb := X.hb
  unfold f_X8_open at hf
  refine lv_aload_n hx hb dX8_open_0 rfl (lv_at hl 0 rfl) ?_
  refine lv_iload_n hx hb dX8_open_1 rfl (lv_at hl 1 rfl) ?_
  obtain ⟨v1, hq, hf⟩ := gS_eq hf
  refine gc_i (gc_fixS (S := S) X (mt_X8_noSide l D dA A ad S x1 hq) (lw_S q1258 q1259 q93 q1260) ⟨rfl, rfl⟩ hd_X8_noSide.2 ⟨Nat.le_trans (Nat.le_of_ble_eq_true rfl) hR.1, Nat.le_trans (Nat.le_of_ble_eq_true rfl) hR.2⟩ hP hS ⟨Nat.zero_le _, Nat.zero_le _⟩ rfl hl.1 rfl (Nat.le_of_ble_eq_true rfl) dX8_open_2) hS ?_
  rintro _ _ H locs ⟨rfl, rfl⟩ hP hS
  refine lv_iconst (v := 1) hx hb dX8_open_5 (by decide) ?_
  obtain ⟨S2, v3, hq, hf⟩ := gB2_some hf
  refine gc_i (gc_fixV (S := S) X (mt_X8_fails l D dA A ad S v1 (1 : Int32) hq) (lw_V q1262 q1264 qs35 q93 q1265) ⟨rfl, rfl⟩ hd_X8_fails ⟨Nat.le_trans (Nat.le_of_ble_eq_true rfl) hR.1, Nat.le_trans (Nat.le_of_ble_eq_true rfl) hR.2⟩ (wd_recv (r := M_o) (ci := 0) (q := (RX8, TX8, 61)) X.hK.1 hP ⟨rfl, rfl⟩ rfl rfl) hP hS ⟨Nat.zero_le _, Nat.zero_le _⟩ rfl hl.1 rfl (Nat.le_of_ble_eq_true rfl) dX8_open_6) hS ?_
  rintro _ _ H locs ⟨⟩ hP hS
  refine gb_if_ne (tgt := 32) hx hb dX8_open_9 (by decide) hf (fun hf => ?_) (fun hf => ?_)
  · refine lv_iconst (v := 0) hx hb dX8_open_32 (by decide) ?_
    exact gr_iW X hP hS (Option.some.inj hf) dX8_open_33
  · refine lv_aload_n hx hb dX8_open_12 rfl (lv_at hl 0 rfl) ?_
    refine lv_aload_n hx hb dX8_open_13 rfl (lv_at hl 0 rfl) ?_
    refine rg_X8_244 X hP dX8_open_14 ?_
    refine gb_if_ne (tgt := 24) hx hb dX8_open_17 (by decide) hf (fun hf => ?_) (fun hf => ?_)
    · refine lv_iconst (v := 0) hx hb dX8_open_24 (by decide) ?_
      exact w_X8_open_25 X hR S2 x1 x2 0 hP hS (lv_sub hl [0, 1, 2] rfl) hf
    · refine lv_iconst (v := 1) hx hb dX8_open_20 (by decide) ?_
      refine lv_goto (tgt := 25) hx hb dX8_open_21 (by decide) ?_
      exact w_X8_open_25 X hR S2 x1 x2 1 hP hS (lv_sub hl [0, 1, 2] rfl) hf
theorem hd_X8_open : yX8_open.cls = RX8 ∧ yX8_open.cls ≠ "java/lang/invoke/MethodHandle" ∧ yX8_open.cls ≠ "java/lang/invoke/VarHandle" ∧ (parseMethodDescriptor yX8_open.desc).map (fun d => d.parameters.length) = some 2 := by decide +kernel
set_option maxHeartbeats 4000000 in
theorem mt_X8_open (l : Launch) (D : va_G) (dA : Nat → ClassId) (A : Nat → Prop) (ad : L3 → Nat) (S : Mem) (x1 : Int32) (x2 : Int32) {res : Mem × Int32} (hq : f_X8_open S x1 x2 = some res) : Met l yX8_open (ws_ yX8_open cX8_open 6 (some .int)) ({ frames := 5, cells := 0, slots := 0, locals := 109 } : Room) (va_Pc [.ref (ad M_o), .int x1, .int x2] (PreW D dA (shM dA) exM A ad S)) (QiW D (shM dA) exM A ad res) 0 0 A :=
  gx_head (by decide) (Nat.le_of_ble_eq_true rfl) (fun p e s m below meth c ls X hP hl => w_X8_open (l := l) X ⟨Nat.le_of_ble_eq_true rfl, Nat.le_of_ble_eq_true rfl⟩ S x1 x2 hP va_S.rf (lv_sub (l := [(0, .ref (ad M_o)), (1, .int x1), (2, .int x2)]) hl [0, 1, 2] rfl) hq)
set_option maxHeartbeats 4000000 in
theorem w_X8_isThere {p : Program} {l : Launch} {e : Env} {R : Room} {s : State} {m : MethodId} {args : Array Value} {below : List Frame} {meth : Method} {c : Code} {D : va_G} {dA : Nat → ClassId} {A : Nat → Prop} {ad : L3 → Nat} (X : CX RX8 cX8_isThere 3 (some .boolean) (KA D dA) p s m args meth c A) (hR : 2 ≤ R.frames ∧ 41 ≤ R.locals) {res : Int32} (S : Mem) (x1 : Int32) (x2 : Int32) {H : Heap} {locs : List Loc} {ls : Array Slot} (hP : Wd D clA (shM dA) exM A ad S H) (hS : va_S A s.heap H locs) (hl : lv_has ls 3 [(0, .ref (ad M_o)), (1, .int x1), (2, .int x2)]) (hf : f_X8_isThere S x1 x2 = some res) : W p l e R s m args below meth c H locs 0 0 (MQ below (QiR D (shM dA) exM A ad S res) args s 0 0 A) (F0 m 0 ls []) := by
  have hx := X.hx
  have hb := X.hb
  unfold f_X8_isThere at hf
  refine lv_iload_n hx hb dX8_isThere_0 rfl (lv_at hl 2 rfl) ?_
  refine gb_if_lt (tgt := 28) hx hb dX8_isThere_1 (by decide) hf (fun hf => ?_) (fun hf => ?_)
  · refine lv_iconst (v := 0) hx hb dX8_isThere_28 (by decide) ?_
    exact gr_zR X hP hS (Option.some.inj hf) (by decide) dX8_isThere_29
  · refine lv_iload_n hx hb dX8_isThere_4 rfl (lv_at hl 2 rfl) ?_
    refine lv_sipush (v := 256) hx hb dX8_isThere_5 (by decide) ?_
    refine gb_icmp_ge (tgt := 28) hx hb dX8_isThere_8 (by decide) hf (fun hf => ?_) (fun hf => ?_)
    · refine lv_iconst (v := 0) hx hb dX8_isThere_28 (by decide) ?_
      exact gr_zR X hP hS (Option.some.inj hf) (by decide) dX8_isThere_29
    · refine lv_aload_n hx hb dX8_isThere_11 rfl (lv_at hl 0 rfl) ?_
      refine rg_X8_51 X hP dX8_isThere_12 ?_
      refine lv_iload_n hx hb dX8_isThere_15 rfl (lv_at hl 1 rfl) ?_
      refine lv_iload_n hx hb dX8_isThere_16 rfl (lv_at hl 2 rfl) ?_
      obtain ⟨v1, hq, hf⟩ := gS_eq hf
      refine gc_i (gc_fixS (S := S) X (mt_X8_at l D dA A ad S x1 x2 hq) (lw_S q1283 q1284 q93 q1285) ⟨rfl, rfl⟩ hd_X8_at.2 ⟨Nat.le_trans (Nat.le_of_ble_eq_true rfl) hR.1, Nat.le_trans (Nat.le_of_ble_eq_true rfl) hR.2⟩ hP hS ⟨Nat.zero_le _, Nat.zero_le _⟩ rfl hl.1 rfl (Nat.le_of_ble_eq_true rfl) dX8_isThere_17) hS ?_
      rintro _ _ H locs ⟨rfl, rfl⟩ hP hS
      refine ra_there_ld X hP dX8_isThere_20 hf (fun hf => ?_)
      refine gb_if_eq (tgt := 28) hx hb dX8_isThere_21 (by decide) hf (fun hf => ?_) (fun hf => ?_)
      · refine lv_iconst (v := 0) hx hb dX8_isThere_28 (by decide) ?_
        exact gr_zR X hP hS (Option.some.inj hf) (by decide) dX8_isThere_29
      · refine lv_iconst (v := 1) hx hb dX8_isThere_24 (by decide) ?_
        refine lv_goto (tgt := 29) hx hb dX8_isThere_25 (by decide) ?_
        exact gr_zR X hP hS (Option.some.inj hf) (by decide) dX8_isThere_29
theorem hd_X8_isThere : yX8_isThere.cls = RX8 ∧ yX8_isThere.cls ≠ "java/lang/invoke/MethodHandle" ∧ yX8_isThere.cls ≠ "java/lang/invoke/VarHandle" ∧ (parseMethodDescriptor yX8_isThere.desc).map (fun d => d.parameters.length) = some 2 := by decide +kernel
set_option maxHeartbeats 4000000 in
theorem mt_X8_isThere (l : Launch) (D : va_G) (dA : Nat → ClassId) (A : Nat → Prop) (ad : L3 → Nat) (S : Mem) (x1 : Int32) (x2 : Int32) {res : Int32} (hq : f_X8_isThere S x1 x2 = some res) : Met l yX8_isThere (ws_ yX8_isThere cX8_isThere 3 (some .boolean)) ({ frames := 2, cells := 0, slots := 0, locals := 41 } : Room) (va_Pc [.ref (ad M_o), .int x1, .int x2] (PreW D dA (shM dA) exM A ad S)) (QiR D (shM dA) exM A ad S res) 0 0 A :=
  gx_head (by decide) (Nat.le_of_ble_eq_true rfl) (fun p e s m below meth c ls X hP hl => w_X8_isThere (l := l) X ⟨Nat.le_of_ble_eq_true rfl, Nat.le_of_ble_eq_true rfl⟩ S x1 x2 hP va_S.rf (lv_sub (l := [(0, .ref (ad M_o)), (1, .int x1), (2, .int x2)]) hl [0, 1, 2] rfl) hq)
set_option maxHeartbeats 4000000 in
theorem w_X8_sends_15 {p : Program} {l : Launch} {e : Env} {R : Room} {s : State} {m : MethodId} {args : Array Value} {below : List Frame} {meth : Method} {c : Code} {D : va_G} {dA : Nat → ClassId} {A : Nat → Prop} {ad : L3 → Nat} (X : CX RX8 cX8_sends 3 (some .boolean) (KA D dA) p s m args meth c A) (hR : 2 ≤ R.frames ∧ 42 ≤ R.locals) {res : Int32} (S : Mem) {H : Heap} {locs : List Loc} {ls : Array Slot} (hP : Wd D clA (shM dA) exM A ad S H) (hS : va_S A s.heap H locs) (hl : lv_has ls 3 []) (hf : f_X8_sends_15 = res) : W p l e R s m args below meth c H locs 0 0 (MQ below (QiR D (shM dA) exM A ad S res) args s 0 0 A) (F0 m 15 ls []) := by
  have hx := X.hx
  have hb := X.hb
  unfold f_X8_sends_15 at hf
  refine lv_iconst (v := 1) hx hb dX8_sends_15 (by decide) ?_
  refine lv_goto (tgt := 20) hx hb dX8_sends_16 (by decide) ?_
  exact gr_zR X hP hS hf (by decide) dX8_sends_20
set_option maxHeartbeats 4000000 in
theorem w_X8_sends {p : Program} {l : Launch} {e : Env} {R : Room} {s : State} {m : MethodId} {args : Array Value} {below : List Frame} {meth : Method} {c : Code} {D : va_G} {dA : Nat → ClassId} {A : Nat → Prop} {ad : L3 → Nat} (X : CX RX8 cX8_sends 3 (some .boolean) (KA D dA) p s m args meth c A) (hR : 2 ≤ R.frames ∧ 42 ≤ R.locals) {res : Int32} (S : Mem) (x0 : Int32) (x1 : Int64) {H : Heap} {locs : List Loc} {ls : Array Slot} (hP : Wd D clA (shM dA) exM A ad S H) (hS : va_S A s.heap H locs) (hl : lv_has ls 3 [(0, .int x0), (1, .long x1)]) (hf : f_X8_sends x0 x1 = res) : W p l e R s m args below meth c H locs 0 0 (MQ below (QiR D (shM dA) exM A ad S res) args s 0 0 A) (F0 m 0 ls []) := by
  have hx := X.hx
  have hb := X.hb
  unfold f_X8_sends at hf
  refine lv_lload_n hx hb dX8_sends_0 rfl (lv_at hl 1 rfl) ?_
  obtain ⟨v1, hq, hf⟩ := gS_eq hf
  refine gc_i (gc_fixS (S := S) X (mt_X8_wayOf l D dA A ad S x1 hq) (lw_S q1290 q1291 q93 q1292) ⟨rfl, rfl⟩ hd_X8_wayOf.2 ⟨Nat.le_trans (Nat.le_of_ble_eq_true rfl) hR.1, Nat.le_trans (Nat.le_of_ble_eq_true rfl) hR.2⟩ hP hS ⟨Nat.zero_le _, Nat.zero_le _⟩ rfl hl.1 rfl (Nat.le_of_ble_eq_true rfl) dX8_sends_1) hS ?_
  rintro _ _ H locs ⟨rfl, rfl⟩ hP hS
  refine gb_if_eq (tgt := 15) hx hb dX8_sends_4 (by decide) hf (fun hf => ?_) (fun hf => ?_)
  · exact w_X8_sends_15 X hR S hP hS (lv_sub hl [] rfl) hf
  · refine lv_iload_n hx hb dX8_sends_7 rfl (lv_at hl 0 rfl) ?_
    refine lv_lload_n hx hb dX8_sends_8 rfl (lv_at hl 1 rfl) ?_
    obtain ⟨v2, hq, hf⟩ := gS_eq hf
    refine gc_i (gc_fixS (S := S) X (mt_X8_opens l D dA A ad S x0 x1 hq) (lw_S q1293 q1294 q93 q1295) ⟨rfl, rfl⟩ hd_X8_opens.2 ⟨Nat.le_trans (Nat.le_of_ble_eq_true rfl) hR.1, Nat.le_trans (Nat.le_of_ble_eq_true rfl) hR.2⟩ hP hS ⟨Nat.zero_le _, Nat.zero_le _⟩ rfl hl.1 rfl (Nat.le_of_ble_eq_true rfl) dX8_sends_9) hS ?_
    rintro _ _ H locs ⟨rfl, rfl⟩ hP hS
    refine gb_if_eq (tgt := 19) hx hb dX8_sends_12 (by decide) hf (fun hf => ?_) (fun hf => ?_)
    · refine lv_iconst (v := 0) hx hb dX8_sends_19 (by decide) ?_
      exact gr_zR X hP hS hf (by decide) dX8_sends_20
    · exact w_X8_sends_15 X hR S hP hS (lv_sub hl [] rfl) hf
theorem hd_X8_sends : yX8_sends.cls = RX8 ∧ yX8_sends.cls ≠ "java/lang/invoke/MethodHandle" ∧ yX8_sends.cls ≠ "java/lang/invoke/VarHandle" ∧ (parseMethodDescriptor yX8_sends.desc).map (fun d => d.parameters.length) = some 2 := by decide +kernel
set_option maxHeartbeats 4000000 in
theorem mt_X8_sends (l : Launch) (D : va_G) (dA : Nat → ClassId) (A : Nat → Prop) (ad : L3 → Nat) (S : Mem) (x0 : Int32) (x1 : Int64) {res : Int32} (hq : f_X8_sends x0 x1 = res) : Met l yX8_sends (ws_ yX8_sends cX8_sends 3 (some .boolean)) ({ frames := 2, cells := 0, slots := 0, locals := 42 } : Room) (va_Pc [.int x0, .long x1] (PreW D dA (shM dA) exM A ad S)) (QiR D (shM dA) exM A ad S res) 0 0 A :=
  gx_head (by decide) (Nat.le_of_ble_eq_true rfl) (fun p e s m below meth c ls X hP hl => w_X8_sends (l := l) X ⟨Nat.le_of_ble_eq_true rfl, Nat.le_of_ble_eq_true rfl⟩ S x0 x1 hP va_S.rf (lv_sub (l := [(0, .int x0), (1, .long x1)]) hl [0, 1] rfl) hq)
set_option maxHeartbeats 4000000 in
theorem w_X8_hasSending {p : Program} {l : Launch} {e : Env} {R : Room} {s : State} {m : MethodId} {args : Array Value} {below : List Frame} {meth : Method} {c : Code} {D : va_G} {dA : Nat → ClassId} {A : Nat → Prop} {ad : L3 → Nat} (X : CX RX8 cX8_hasSending 3 (some .boolean) (KA D dA) p s m args meth c A) (hR : 3 ≤ R.frames ∧ 64 ≤ R.locals) {res : Int32} (S : Mem) (x1 : Int32) (x2 : Int32) {H : Heap} {locs : List Loc} {ls : Array Slot} (hP : Wd D clA (shM dA) exM A ad S H) (hS : va_S A s.heap H locs) (hl : lv_has ls 3 [(0, .ref (ad M_o)), (1, .int x1), (2, .int x2)]) (hf : f_X8_hasSending S x1 x2 = some res) : W p l e R s m args below meth c H locs 0 0 (MQ below (QiR D (shM dA) exM A ad S res) args s 0 0 A) (F0 m 0 ls []) := by
  have hx := X.hx
  have hb := X.hb
  unfold f_X8_hasSending at hf
  refine lv_aload_n hx hb dX8_hasSending_0 rfl (lv_at hl 0 rfl) ?_
  refine lv_iload_n hx hb dX8_hasSending_1 rfl (lv_at hl 1 rfl) ?_
  refine lv_iload_n hx hb dX8_hasSending_2 rfl (lv_at hl 2 rfl) ?_
  obtain ⟨v1, hq, hf⟩ := gB_some hf
  refine gc_i (gc_fixV (S := S) X (mt_X8_isThere l D dA A ad S x1 x2 hq) (lw_V q1308 q1310 qs40 q93 q1311) ⟨rfl, rfl⟩ hd_X8_isThere ⟨Nat.le_trans (Nat.le_of_ble_eq_true rfl) hR.1, Nat.le_trans (Nat.le_of_ble_eq_true rfl) hR.2⟩ (wd_recv (r := M_o) (ci := 0) (q := (RX8, TX8, 61)) X.hK.1 hP ⟨rfl, rfl⟩ rfl rfl) hP hS ⟨Nat.zero_le _, Nat.zero_le _⟩ rfl hl.1 rfl (Nat.le_of_ble_eq_true rfl) dX8_hasSending_3) hS ?_
  rintro _ _ H locs ⟨rfl, rfl⟩ hP hS
  refine gb_if_eq (tgt := 22) hx hb dX8_hasSending_6 (by decide) hf (fun hf => ?_) (fun hf => ?_)
  · refine lv_iconst (v := 0) hx hb dX8_hasSending_22 (by decide) ?_
    exact gr_zR X hP hS (Option.some.inj hf) (by decide) dX8_hasSending_23
  · refine lv_iload_n hx hb dX8_hasSending_9 rfl (lv_at hl 1 rfl) ?_
    refine lv_iload_n hx hb dX8_hasSending_10 rfl (lv_at hl 2 rfl) ?_
    refine lv_i2l hx hb dX8_hasSending_11 rfl ?_
    obtain ⟨v2, hq, hf⟩ := gS_eq hf
    refine gc_i (gc_fixS (S := S) X (mt_X8_sends l D dA A ad S x1 (Int32.toInt64 x2) hq) (lw_S q1312 q1313 q93 q1314) ⟨rfl, rfl⟩ hd_X8_sends.2 ⟨Nat.le_trans (Nat.le_of_ble_eq_true rfl) hR.1, Nat.le_trans (Nat.le_of_ble_eq_true rfl) hR.2⟩ hP hS ⟨Nat.zero_le _, Nat.zero_le _⟩ rfl hl.1 rfl (Nat.le_of_ble_eq_true rfl) dX8_hasSending_12) hS ?_
    rintro _ _ H locs ⟨rfl, rfl⟩ hP hS
    refine gb_if_eq (tgt := 22) hx hb dX8_hasSending_15 (by decide) hf (fun hf => ?_) (fun hf => ?_)
    · refine lv_iconst (v := 0) hx hb dX8_hasSending_22 (by decide) ?_
      exact gr_zR X hP hS (Option.some.inj hf) (by decide) dX8_hasSending_23
    · refine lv_iconst (v := 1) hx hb dX8_hasSending_18 (by decide) ?_
      refine lv_goto (tgt := 23) hx hb dX8_hasSending_19 (by decide) ?_
      exact gr_zR X hP hS (Option.some.inj hf) (by decide) dX8_hasSending_23
theorem hd_X8_hasSending : yX8_hasSending.cls = RX8 ∧ yX8_hasSending.cls ≠ "java/lang/invoke/MethodHandle" ∧ yX8_hasSending.cls ≠ "java/lang/invoke/VarHandle" ∧ (parseMethodDescriptor yX8_hasSending.desc).map (fun d => d.parameters.length) = some 2 := by decide +kernel
set_option maxHeartbeats 4000000 in
theorem mt_X8_hasSending (l : Launch) (D : va_G) (dA : Nat → ClassId) (A : Nat → Prop) (ad : L3 → Nat) (S : Mem) (x1 : Int32) (x2 : Int32) {res : Int32} (hq : f_X8_hasSending S x1 x2 = some res) : Met l yX8_hasSending (ws_ yX8_hasSending cX8_hasSending 3 (some .boolean)) ({ frames := 3, cells := 0, slots := 0, locals := 64 } : Room) (va_Pc [.ref (ad M_o), .int x1, .int x2] (PreW D dA (shM dA) exM A ad S)) (QiR D (shM dA) exM A ad S res) 0 0 A :=
  gx_head (by decide) (Nat.le_of_ble_eq_true rfl) (fun p e s m below meth c ls X hP hl => w_X8_hasSending (l := l) X ⟨Nat.le_of_ble_eq_true rfl, Nat.le_of_ble_eq_true rfl⟩ S x1 x2 hP va_S.rf (lv_sub (l := [(0, .ref (ad M_o)), (1, .int x1), (2, .int x2)]) hl [0, 1, 2] rfl) hq)
set_option maxHeartbeats 4000000 in
theorem w_X8_count_71 {p : Program} {l : Launch} {e : Env} {R : Room} {s : State} {m : MethodId} {args : Array Value} {below : List Frame} {meth : Method} {c : Code} {D : va_G} {dA : Nat → ClassId} {A : Nat → Prop} {ad : L3 → Nat} (X : CX RX8 cX8_count 6 (some .int) (KA D dA) p s m args meth c A) (hR : 1 ≤ R.frames ∧ 20 ≤ R.locals) {res : Int32} (S : Mem) (k9 : Int32 → Int32 → Int32 → Int32 → Int32 → Option (Int32)) (hk9 : ∀ (x1 : Int32) (x2 : Int32) (x3 : Int32) (x4 : Int32) (x5 : Int32) (H : Heap) (locs : List Loc) (ls : Array Slot), Wd D clA (shM dA) exM A ad S H → va_S A s.heap H locs → lv_has ls 6 [(0, .ref (ad M_o)), (1, .int x1), (2, .int x2), (3, .int x3), (4, .int x4), (5, .int x5)] → k9 x1 x2 x3 x4 x5 = some res → W p l e R s m args below meth c H locs 0 0 (MQ below (QiR D (shM dA) exM A ad S res) args s 0 0 A) (F0 m 9 ls [])) (x1 : Int32) (x2 : Int32) (x3 : Int32) (x4 : Int32) (x5 : Int32) {H : Heap} {locs : List Loc} {ls : Array Slot} (hP : Wd D clA (shM dA) exM A ad S H) (hS : va_S A s.heap H locs) (hl : lv_has ls 6 [(0, .ref (ad M_o)), (1, .int x1), (2, .int x2), (3, .int x3), (4, .int x4), (5, .int x5)]) (hf : f_X8_count_71 S k9 x1 x2 x3 x4 x5 = some res) : W p l e R s m args below meth c H locs 0 0 (MQ below (QiR D (shM dA) exM A ad S res) args s 0 0 A) (F0 m 71 ls []) := by
  have hx := X.hx
  have hb := X.hb
  unfold f_X8_count_71 at hf
  refine lv_iinc (v := (x5 + 1)) (lv' := [(5, .int (x5 + 1)), (0, .ref (ad M_o)), (1, .int x1), (2, .int x2), (3, .int x3), (4, .int x4)]) hx hb dX8_count_71 hl (k := 5) rfl rfl (by decide) rfl (fun ls hl => ?_)
  refine lv_goto (tgt := 9) hx hb dX8_count_74 (by decide) ?_
  exact hk9 x1 x2 x3 x4 (x5 + 1) _ _ _ hP hS (lv_sub hl [1, 2, 3, 4, 5, 0] rfl) hf
set_option maxHeartbeats 4000000 in
theorem w_X8_count_68 {p : Program} {l : Launch} {e : Env} {R : Room} {s : State} {m : MethodId} {args : Array Value} {below : List Frame} {meth : Method} {c : Code} {D : va_G} {dA : Nat → ClassId} {A : Nat → Prop} {ad : L3 → Nat} (X : CX RX8 cX8_count 6 (some .int) (KA D dA) p s m args meth c A) (hR : 1 ≤ R.frames ∧ 20 ≤ R.locals) {res : Int32} (S : Mem) (k9 : Int32 → Int32 → Int32 → Int32 → Int32 → Option (Int32)) (hk9 : ∀ (x1 : Int32) (x2 : Int32) (x3 : Int32) (x4 : Int32) (x5 : Int32) (H : Heap) (locs : List Loc) (ls : Array Slot), Wd D clA (shM dA) exM A ad S H → va_S A s.heap H locs → lv_has ls 6 [(0, .ref (ad M_o)), (1, .int x1), (2, .int x2), (3, .int x3), (4, .int x4), (5, .int x5)] → k9 x1 x2 x3 x4 x5 = some res → W p l e R s m args below meth c H locs 0 0 (MQ below (QiR D (shM dA) exM A ad S res) args s 0 0 A) (F0 m 9 ls [])) (x1 : Int32) (x2 : Int32) (x3 : Int32) (x4 : Int32) (x5 : Int32) {H : Heap} {locs : List Loc} {ls : Array Slot} (hP : Wd D clA (shM dA) exM A ad S H) (hS : va_S A s.heap H locs) (hl : lv_has ls 6 [(0, .ref (ad M_o)), (1, .int x1), (2, .int x2), (3, .int x3), (4, .int x4), (5, .int x5)]) (hf : f_X8_count_68 S k9 x1 x2 x3 x4 x5 = some res) : W p l e R s m args below meth c H locs 0 0 (MQ below (QiR D (shM dA) exM A ad S res) args s 0 0 A) (F0 m 68 ls []) := by
  have hx := X.hx
  have hb := X.hb
  unfold f_X8_count_68 at hf
  refine lv_iinc (v := (x4 + 1)) (lv' := [(4, .int (x4 + 1)), (0, .ref (ad M_o)), (1, .int x1), (2, .int x2), (3, .int x3), (5, .int x5)]) hx hb dX8_count_68 hl (k := 4) rfl rfl (by decide) rfl (fun ls hl => ?_)
  exact w_X8_count_71 X hR S k9 hk9 x1 x2 x3 (x4 + 1) x5 hP hS (lv_sub hl [1, 2, 3, 4, 0, 5] rfl) hf
set_option maxHeartbeats 4000000 in
theorem w_X8_count_9_b {p : Program} {l : Launch} {e : Env} {R : Room} {s : State} {m : MethodId} {args : Array Value} {below : List Frame} {meth : Method} {c : Code} {D : va_G} {dA : Nat → ClassId} {A : Nat → Prop} {ad : L3 → Nat} (X : CX RX8 cX8_count 6 (some .int) (KA D dA) p s m args meth c A) (hR : 1 ≤ R.frames ∧ 20 ≤ R.locals) {res : Int32} (S : Mem) (k9 : Int32 → Int32 → Int32 → Int32 → Int32 → Option (Int32)) (hk9 : ∀ (x1 : Int32) (x2 : Int32) (x3 : Int32) (x4 : Int32) (x5 : Int32) (H : Heap) (locs : List Loc) (ls : Array Slot), Wd D clA (shM dA) exM A ad S H → va_S A s.heap H locs → lv_has ls 6 [(0, .ref (ad M_o)), (1, .int x1), (2, .int x2), (3, .int x3), (4, .int x4), (5, .int x5)] → k9 x1 x2 x3 x4 x5 = some res → W p l e R s m args below meth c H locs 0 0 (MQ below (QiR D (shM dA) exM A ad S res) args s 0 0 A) (F0 m 9 ls [])) (x1 : Int32) (x2 : Int32) (x3 : Int32) (x4 : Int32) (x5 : Int32) {H : Heap} {locs : List Loc} {ls : Array Slot} (hP : Wd D clA (shM dA) exM A ad S H) (hS : va_S A s.heap H locs) (hl : lv_has ls 6 [(0, .ref (ad M_o)), (1, .int x1), (2, .int x2), (3, .int x3), (4, .int x4), (5, .int x5)]) (hf : f_X8_count_9_b S k9 x1 x2 x3 x4 x5 = some res) : W p l e R s m args below meth c H locs 0 0 (MQ below (QiR D (shM dA) exM A ad S res) args s 0 0 A) (F0 m 9 ls []) := by
  have hx := X.hx
  have hb := X.hb
  unfold f_X8_count_9_b at hf
  refine lv_iload hx hb dX8_count_9 (lv_at hl 5 rfl) ?_
  refine lv_ldc hx hb X.hown (X.hts _ q1261) dX8_count_11 ?_
  refine lv_iload_n hx hb dX8_count_13 rfl (lv_at hl 1 rfl) ?_
  refine lv_imul hx hb dX8_count_14 ?_
  refine lv_aload_n hx hb dX8_count_15 rfl (lv_at hl 0 rfl) ?_
  refine rg_X8_108 X hP dX8_count_16 ?_
  refine lv_iload_n hx hb dX8_count_19 rfl (lv_at hl 1 rfl) ?_
  refine ra_total_ld X hP dX8_count_20 hf (fun hf => ?_)
  refine lv_iadd hx hb dX8_count_21 ?_
  refine gb_icmp_ge (tgt := 77) hx hb dX8_count_22 (by decide) hf (fun hf => ?_) (fun hf => ?_)
  · refine lv_iload hx hb dX8_count_77 (lv_at hl 4 rfl) ?_
    exact gr_iR X hP hS (Option.some.inj hf) dX8_count_79
  · refine lv_aload_n hx hb dX8_count_25 rfl (lv_at hl 0 rfl) ?_
    refine rg_X8_112 X hP dX8_count_26 ?_
    refine lv_iload hx hb dX8_count_29 (lv_at hl 5 rfl) ?_
    refine ra_of_ld X hP dX8_count_31 hf (fun hf => ?_)
    refine lv_iload_n hx hb dX8_count_32 rfl (lv_at hl 2 rfl) ?_
    refine gb_icmp_ne (tgt := 71) hx hb dX8_count_33 (by decide) hf (fun hf => ?_) (fun hf => ?_)
    · exact w_X8_count_71 X hR S k9 hk9 x1 x2 x3 x4 x5 hP hS (lv_sub hl [0, 1, 2, 3, 4, 5] rfl) hf
    · refine lv_iload_n hx hb dX8_count_36 rfl (lv_at hl 3 rfl) ?_
      refine lv_iconst (v := (-1)) hx hb dX8_count_37 (by decide) ?_
      refine gb_icmp_eq (tgt := 68) hx hb dX8_count_38 (by decide) hf (fun hf => ?_) (fun hf => ?_)
      · exact w_X8_count_68 X hR S k9 hk9 x1 x2 x3 x4 x5 hP hS (lv_sub hl [0, 1, 2, 3, 4, 5] rfl) hf
      · refine lv_aload_n hx hb dX8_count_41 rfl (lv_at hl 0 rfl) ?_
        refine rg_X8_120 X hP dX8_count_42 ?_
        refine lv_iload hx hb dX8_count_45 (lv_at hl 5 rfl) ?_
        refine ra_mark_ld X hP dX8_count_47 hf (fun hf => ?_)
        refine lv_iload_n hx hb dX8_count_48 rfl (lv_at hl 3 rfl) ?_
        refine gb_icmp_eq (tgt := 68) hx hb dX8_count_49 (by decide) hf (fun hf => ?_) (fun hf => ?_)
        · exact w_X8_count_68 X hR S k9 hk9 x1 x2 x3 x4 x5 hP hS (lv_sub hl [0, 1, 2, 3, 4, 5] rfl) hf
        · refine lv_iload_n hx hb dX8_count_52 rfl (lv_at hl 3 rfl) ?_
          refine lv_bipush (v := (-2)) hx hb dX8_count_53 (by decide) ?_
          refine gb_icmp_ne (tgt := 71) hx hb dX8_count_55 (by decide) hf (fun hf => ?_) (fun hf => ?_)
          · exact w_X8_count_71 X hR S k9 hk9 x1 x2 x3 x4 x5 hP hS (lv_sub hl [0, 1, 2, 3, 4, 5] rfl) hf
          · refine lv_aload_n hx hb dX8_count_58 rfl (lv_at hl 0 rfl) ?_
            refine rg_X8_120 X hP dX8_count_59 ?_
            refine lv_iload hx hb dX8_count_62 (lv_at hl 5 rfl) ?_
            refine ra_mark_ld X hP dX8_count_64 hf (fun hf => ?_)
            refine gb_if_eq (tgt := 71) hx hb dX8_count_65 (by decide) hf (fun hf => ?_) (fun hf => ?_)
            · exact w_X8_count_71 X hR S k9 hk9 x1 x2 x3 x4 x5 hP hS (lv_sub hl [0, 1, 2, 3, 4, 5] rfl) hf
            · exact w_X8_count_68 X hR S k9 hk9 x1 x2 x3 x4 x5 hP hS (lv_sub hl [0, 1, 2, 3, 4, 5] rfl) hf
set_option maxHeartbeats 4000000 in
theorem w_X8_count_9 {p : Program} {l : Launch} {e : Env} {R : Room} {s : State} {m : MethodId} {args : Array Value} {below : List Frame} {meth : Method} {c : Code} {D : va_G} {dA : Nat → ClassId} {A : Nat → Prop} {ad : L3 → Nat} (X : CX RX8 cX8_count 6 (some .int) (KA D dA) p s m args meth c A) (hR : 1 ≤ R.frames ∧ 20 ≤ R.locals) {res : Int32} (S : Mem) (n : Nat) : ∀ (x1 : Int32) (x2 : Int32) (x3 : Int32) (x4 : Int32) (x5 : Int32) (H : Heap) (locs : List Loc) (ls : Array Slot), Wd D clA (shM dA) exM A ad S H → va_S A s.heap H locs → lv_has ls 6 [(0, .ref (ad M_o)), (1, .int x1), (2, .int x2), (3, .int x3), (4, .int x4), (5, .int x5)] → f_X8_count_9 S n x1 x2 x3 x4 x5 = some res → W p l e R s m args below meth c H locs 0 0 (MQ below (QiR D (shM dA) exM A ad S res) args s 0 0 A) (F0 m 9 ls []) := by
  induction n with
  | zero =>
    intro x1 x2 x3 x4 x5 H locs ls hP hS hl hf
    exact absurd (show none = some res from hf) (fun h => by cases h)
  | succ n ih =>
    intro x1 x2 x3 x4 x5 H locs ls hP hS hl hf
    exact w_X8_count_9_b X hR S (f_X8_count_9 S n) ih x1 x2 x3 x4 x5 hP hS hl hf
set_option maxHeartbeats 4000000 in
theorem w_X8_count {p : Program} {l : Launch} {e : Env} {R : Room} {s : State} {m : MethodId} {args : Array Value} {below : List Frame} {meth : Method} {c : Code} {D : va_G} {dA : Nat → ClassId} {A : Nat → Prop} {ad : L3 → Nat} (X : CX RX8 cX8_count 6 (some .int) (KA D dA) p s m args meth c A) (hR : 1 ≤ R.frames ∧ 20 ≤ R.locals) {res : Int32} (S : Mem) (x1 : Int32) (x2 : Int32) (x3 : Int32) {H : Heap} {locs : List Loc} {ls : Array Slot} (hP : Wd D clA (shM dA) exM A ad S H) (hS : va_S A s.heap H locs) (hl : lv_has ls 6 [(0, .ref (ad M_o)), (1, .int x1), (2, .int x2), (3, .int x3)]) (hf : f_X8_count S x1 x2 x3 = some res) : W p l e R s m args below meth c H locs 0 0 (MQ below (QiR D (shM dA) exM A ad S res) args s 0 0 A) (F0 m 0 ls []) := by
  have hx := X.hx
  have hb := X.hb
  unfold f_X8_count at hf
  refine lv_iconst (v := 0) hx hb dX8_count_0 (by decide) ?_
  refine lv_istore (lv' := [(4, .int 0), (0, .ref (ad M_o)), (1, .int x1), (2, .int x2), (3, .int x3)]) hx hb dX8_count_1 hl (by decide) rfl (fun ls hl => ?_)
  refine lv_ldc hx hb X.hown (X.hts _ q1261) dX8_count_3 ?_
  refine lv_iload_n hx hb dX8_count_5 rfl (lv_at hl 2 rfl) ?_
  refine lv_imul hx hb dX8_count_6 ?_
  refine lv_istore (lv' := [(5, .int (65536 * x1)), (4, .int 0), (0, .ref (ad M_o)), (1, .int x1), (2, .int x2), (3, .int x3)]) hx hb dX8_count_7 hl (by decide) rfl (fun ls hl => ?_)
  exact w_X8_count_9 X hR S FU x1 x2 x3 0 (65536 * x1) _ _ _ hP hS (lv_sub hl [2, 3, 4, 5, 1, 0] rfl) hf
theorem hd_X8_count : yX8_count.cls = RX8 ∧ yX8_count.cls ≠ "java/lang/invoke/MethodHandle" ∧ yX8_count.cls ≠ "java/lang/invoke/VarHandle" ∧ (parseMethodDescriptor yX8_count.desc).map (fun d => d.parameters.length) = some 3 := by decide +kernel
set_option maxHeartbeats 4000000 in
theorem mt_X8_count (l : Launch) (D : va_G) (dA : Nat → ClassId) (A : Nat → Prop) (ad : L3 → Nat) (S : Mem) (x1 : Int32) (x2 : Int32) (x3 : Int32) {res : Int32} (hq : f_X8_count S x1 x2 x3 = some res) : Met l yX8_count (ws_ yX8_count cX8_count 6 (some .int)) ({ frames := 1, cells := 0, slots := 0, locals := 20 } : Room) (va_Pc [.ref (ad M_o), .int x1, .int x2, .int x3] (PreW D dA (shM dA) exM A ad S)) (QiR D (shM dA) exM A ad S res) 0 0 A :=
  gx_head (by decide) (Nat.le_of_ble_eq_true rfl) (fun p e s m below meth c ls X hP hl => w_X8_count (l := l) X ⟨Nat.le_of_ble_eq_true rfl, Nat.le_of_ble_eq_true rfl⟩ S x1 x2 x3 hP va_S.rf (lv_sub (l := [(0, .ref (ad M_o)), (1, .int x1), (2, .int x2), (3, .int x3)]) hl [0, 1, 2, 3] rfl) hq)
set_option maxHeartbeats 4000000 in
theorem w_X8_written {p : Program} {l : Launch} {e : Env} {R : Room} {s : State} {m : MethodId} {args : Array Value} {below : List Frame} {meth : Method} {c : Code} {D : va_G} {dA : Nat → ClassId} {A : Nat → Prop} {ad : L3 → Nat} (X : CX RX8 cX8_written 3 (some .int) (KA D dA) p s m args meth c A) (hR : 2 ≤ R.frames ∧ 45 ≤ R.locals) {res : Int32} (S : Mem) (x1 : Int32) (x2 : Int32) {H : Heap} {locs : List Loc} {ls : Array Slot} (hP : Wd D clA (shM dA) exM A ad S H) (hS : va_S A s.heap H locs) (hl : lv_has ls 3 [(0, .ref (ad M_o)), (1, .int x1), (2, .int x2)]) (hf : f_X8_written S x1 x2 = some res) : W p l e R s m args below meth c H locs 0 0 (MQ below (QiR D (shM dA) exM A ad S res) args s 0 0 A) (F0 m 0 ls []) := by
  have hx := X.hx
  have hb := X.hb
  unfold f_X8_written at hf
  refine lv_aload_n hx hb dX8_written_0 rfl (lv_at hl 0 rfl) ?_
  refine lv_iload_n hx hb dX8_written_1 rfl (lv_at hl 1 rfl) ?_
  refine lv_iload_n hx hb dX8_written_2 rfl (lv_at hl 2 rfl) ?_
  refine lv_iconst (v := (-1)) hx hb dX8_written_3 (by decide) ?_
  obtain ⟨v1, hq, hf⟩ := gB_some hf
  refine gc_i (gc_fixV (S := S) X (mt_X8_count l D dA A ad S x1 x2 ((-1) : Int32) hq) (lw_V q1319 q1321 qs42 q93 q1322) ⟨rfl, rfl⟩ hd_X8_count ⟨Nat.le_trans (Nat.le_of_ble_eq_true rfl) hR.1, Nat.le_trans (Nat.le_of_ble_eq_true rfl) hR.2⟩ (wd_recv (r := M_o) (ci := 0) (q := (RX8, TX8, 61)) X.hK.1 hP ⟨rfl, rfl⟩ rfl rfl) hP hS ⟨Nat.zero_le _, Nat.zero_le _⟩ rfl hl.1 rfl (Nat.le_of_ble_eq_true rfl) dX8_written_4) hS ?_
  rintro _ _ H locs ⟨rfl, rfl⟩ hP hS
  exact gr_iR X hP hS (Option.some.inj hf) dX8_written_7
theorem hd_X8_written : yX8_written.cls = RX8 ∧ yX8_written.cls ≠ "java/lang/invoke/MethodHandle" ∧ yX8_written.cls ≠ "java/lang/invoke/VarHandle" ∧ (parseMethodDescriptor yX8_written.desc).map (fun d => d.parameters.length) = some 2 := by decide +kernel
set_option maxHeartbeats 4000000 in
theorem mt_X8_written (l : Launch) (D : va_G) (dA : Nat → ClassId) (A : Nat → Prop) (ad : L3 → Nat) (S : Mem) (x1 : Int32) (x2 : Int32) {res : Int32} (hq : f_X8_written S x1 x2 = some res) : Met l yX8_written (ws_ yX8_written cX8_written 3 (some .int)) ({ frames := 2, cells := 0, slots := 0, locals := 45 } : Room) (va_Pc [.ref (ad M_o), .int x1, .int x2] (PreW D dA (shM dA) exM A ad S)) (QiR D (shM dA) exM A ad S res) 0 0 A :=
  gx_head (by decide) (Nat.le_of_ble_eq_true rfl) (fun p e s m below meth c ls X hP hl => w_X8_written (l := l) X ⟨Nat.le_of_ble_eq_true rfl, Nat.le_of_ble_eq_true rfl⟩ S x1 x2 hP va_S.rf (lv_sub (l := [(0, .ref (ad M_o)), (1, .int x1), (2, .int x2)]) hl [0, 1, 2] rfl) hq)
set_option maxHeartbeats 4000000 in
theorem w_X8_sending {p : Program} {l : Launch} {e : Env} {R : Room} {s : State} {m : MethodId} {args : Array Value} {below : List Frame} {meth : Method} {c : Code} {D : va_G} {dA : Nat → ClassId} {A : Nat → Prop} {ad : L3 → Nat} (X : CX RX8 cX8_sending 4 (some .int) (KA D dA) p s m args meth c A) (hR : 3 ≤ R.frames ∧ 67 ≤ R.locals) {res : Int32} (S : Mem) (x1 : Int32) (x2 : Int32) {H : Heap} {locs : List Loc} {ls : Array Slot} (hP : Wd D clA (shM dA) exM A ad S H) (hS : va_S A s.heap H locs) (hl : lv_has ls 4 [(0, .ref (ad M_o)), (1, .int x1), (2, .int x2)]) (hf : f_X8_sending S x1 x2 = some res) : W p l e R s m args below meth c H locs 0 0 (MQ below (QiR D (shM dA) exM A ad S res) args s 0 0 A) (F0 m 0 ls []) := by
  have hx := X.hx
  have hb := X.hb
  unfold f_X8_sending at hf
  refine lv_iload_n hx hb dX8_sending_0 rfl (lv_at hl 1 rfl) ?_
  refine lv_iload_n hx hb dX8_sending_1 rfl (lv_at hl 2 rfl) ?_
  obtain ⟨v1, hq, hf⟩ := gS_eq hf
  refine gc_i (gc_fixS (S := S) X (mt_X8_at l D dA A ad S x1 x2 hq) (lw_S q1283 q1284 q93 q1285) ⟨rfl, rfl⟩ hd_X8_at.2 ⟨Nat.le_trans (Nat.le_of_ble_eq_true rfl) hR.1, Nat.le_trans (Nat.le_of_ble_eq_true rfl) hR.2⟩ hP hS ⟨Nat.zero_le _, Nat.zero_le _⟩ rfl hl.1 rfl (Nat.le_of_ble_eq_true rfl) dX8_sending_2) hS ?_
  rintro _ _ H locs ⟨rfl, rfl⟩ hP hS
  refine lv_istore_n (lv' := [(3, .int v1), (0, .ref (ad M_o)), (1, .int x1), (2, .int x2)]) hx hb dX8_sending_5 rfl hl (by decide) rfl (fun ls hl => ?_)
  refine lv_aload_n hx hb dX8_sending_6 rfl (lv_at hl 1 rfl) ?_
  refine rg_X8_63 X hP dX8_sending_7 ?_
  refine lv_iload_n hx hb dX8_sending_10 rfl (lv_at hl 0 rfl) ?_
  refine ra_resets_ld X hP dX8_sending_11 hf (fun hf => ?_)
  refine gb_if_le (tgt := 24) hx hb dX8_sending_12 (by decide) hf (fun hf => ?_) (fun hf => ?_)
  · refine lv_aload_n hx hb dX8_sending_24 rfl (lv_at hl 1 rfl) ?_
    refine rg_X8_57 X hP dX8_sending_25 ?_
    refine lv_iload_n hx hb dX8_sending_28 rfl (lv_at hl 0 rfl) ?_
    refine ra_finished_ld X hP dX8_sending_29 hf (fun hf => ?_)
    refine gb_if_ne (tgt := 35) hx hb dX8_sending_30 (by decide) hf (fun hf => ?_) (fun hf => ?_)
    · refine lv_aload_n hx hb dX8_sending_35 rfl (lv_at hl 1 rfl) ?_
      refine rg_X8_60 X hP dX8_sending_36 ?_
      refine lv_iload_n hx hb dX8_sending_39 rfl (lv_at hl 0 rfl) ?_
      refine ra_end_ld X hP dX8_sending_40 hf (fun hf => ?_)
      refine lv_iconst (v := 3) hx hb dX8_sending_41 (by decide) ?_
      refine gb_icmp_ne (tgt := 65) hx hb dX8_sending_42 (by decide) hf (fun hf => ?_) (fun hf => ?_)
      · refine lv_iconst (v := 1) hx hb dX8_sending_65 (by decide) ?_
        exact gr_iR X hP hS (Option.some.inj hf) dX8_sending_66
      · refine lv_aload_n hx hb dX8_sending_45 rfl (lv_at hl 1 rfl) ?_
        refine lv_iload_n hx hb dX8_sending_46 rfl (lv_at hl 2 rfl) ?_
        refine lv_iload_n hx hb dX8_sending_47 rfl (lv_at hl 3 rfl) ?_
        refine lv_iconst (v := 3) hx hb dX8_sending_48 (by decide) ?_
        obtain ⟨v2, hq, hf⟩ := gB_some hf
        refine gc_i (gc_fixV (S := S) X (mt_X8_count l D dA A ad S x1 x2 (3 : Int32) hq) (lw_V q1319 q1321 qs42 q93 q1322) ⟨rfl, rfl⟩ hd_X8_count ⟨Nat.le_trans (Nat.le_of_ble_eq_true rfl) hR.1, Nat.le_trans (Nat.le_of_ble_eq_true rfl) hR.2⟩ (wd_recv (r := M_o) (ci := 0) (q := (RX8, TX8, 61)) X.hK.1 hP ⟨rfl, rfl⟩ rfl rfl) hP hS ⟨Nat.zero_le _, Nat.zero_le _⟩ rfl hl.1 rfl (Nat.le_of_ble_eq_true rfl) dX8_sending_49) hS ?_
        rintro _ _ H locs ⟨rfl, rfl⟩ hP hS
        refine lv_aload_n hx hb dX8_sending_52 rfl (lv_at hl 1 rfl) ?_
        refine lv_iload_n hx hb dX8_sending_53 rfl (lv_at hl 2 rfl) ?_
        refine lv_iload_n hx hb dX8_sending_54 rfl (lv_at hl 3 rfl) ?_
        obtain ⟨v3, hq, hf⟩ := gB_some hf
        refine gc_i (gc_fixV (S := S) X (mt_X8_written l D dA A ad S x1 x2 hq) (lw_V q1323 q1325 qs43 q93 q1326) ⟨rfl, rfl⟩ hd_X8_written ⟨Nat.le_trans (Nat.le_of_ble_eq_true rfl) hR.1, Nat.le_trans (Nat.le_of_ble_eq_true rfl) hR.2⟩ (wd_recv (r := M_o) (ci := 0) (q := (RX8, TX8, 61)) X.hK.1 hP ⟨rfl, rfl⟩ rfl rfl) hP hS ⟨Nat.zero_le _, Nat.zero_le _⟩ rfl hl.1 rfl (Nat.le_of_ble_eq_true rfl) dX8_sending_55) hS ?_
        rintro _ _ H locs ⟨rfl, rfl⟩ hP hS
        refine gb_icmp_ne (tgt := 65) hx hb dX8_sending_58 (by decide) hf (fun hf => ?_) (fun hf => ?_)
        · refine lv_iconst (v := 1) hx hb dX8_sending_65 (by decide) ?_
          exact gr_iR X hP hS (Option.some.inj hf) dX8_sending_66
        · refine lv_iconst (v := 2) hx hb dX8_sending_61 (by decide) ?_
          refine lv_goto (tgt := 66) hx hb dX8_sending_62 (by decide) ?_
          exact gr_iR X hP hS (Option.some.inj hf) dX8_sending_66
    · refine lv_iconst (v := 0) hx hb dX8_sending_33 (by decide) ?_
      exact gr_iR X hP hS (Option.some.inj hf) dX8_sending_34
  · refine lv_iconst (v := 2) hx hb dX8_sending_15 (by decide) ?_
    refine lv_aload_n hx hb dX8_sending_16 rfl (lv_at hl 1 rfl) ?_
    refine rg_X8_63 X hP dX8_sending_17 ?_
    refine lv_iload_n hx hb dX8_sending_20 rfl (lv_at hl 0 rfl) ?_
    refine ra_resets_ld X hP dX8_sending_21 hf (fun hf => ?_)
    refine lv_iadd hx hb dX8_sending_22 ?_
    exact gr_iR X hP hS (Option.some.inj hf) dX8_sending_23
theorem hd_X8_sending : yX8_sending.cls = RX8 ∧ yX8_sending.cls ≠ "java/lang/invoke/MethodHandle" ∧ yX8_sending.cls ≠ "java/lang/invoke/VarHandle" ∧ (parseMethodDescriptor yX8_sending.desc).map (fun d => d.parameters.length) = some 2 := by decide +kernel
set_option maxHeartbeats 4000000 in
theorem mt_X8_sending (l : Launch) (D : va_G) (dA : Nat → ClassId) (A : Nat → Prop) (ad : L3 → Nat) (S : Mem) (x1 : Int32) (x2 : Int32) {res : Int32} (hq : f_X8_sending S x1 x2 = some res) : Met l yX8_sending (ws_ yX8_sending cX8_sending 4 (some .int)) ({ frames := 3, cells := 0, slots := 0, locals := 67 } : Room) (va_Pc [.ref (ad M_o), .int x1, .int x2] (PreW D dA (shM dA) exM A ad S)) (QiR D (shM dA) exM A ad S res) 0 0 A :=
  gx_head (by decide) (Nat.le_of_ble_eq_true rfl) (fun p e s m below meth c ls X hP hl => w_X8_sending (l := l) X ⟨Nat.le_of_ble_eq_true rfl, Nat.le_of_ble_eq_true rfl⟩ S x1 x2 hP va_S.rf (lv_sub (l := [(0, .ref (ad M_o)), (1, .int x1), (2, .int x2)]) hl [0, 1, 2] rfl) hq)
set_option maxHeartbeats 4000000 in
theorem w_X8_write_47_b {p : Program} {l : Launch} {e : Env} {R : Room} {s : State} {m : MethodId} {args : Array Value} {below : List Frame} {meth : Method} {c : Code} {D : va_G} {dA : Nat → ClassId} {A : Nat → Prop} {ad : L3 → Nat} (X : CX RX8 cX8_write 6 (some .int) (KA D dA) p s m args meth c A) (hR : 4 ≤ R.frames ∧ 90 ≤ R.locals) {res : Mem × Int32} (k47 : Mem → Int32 → Int32 → Int32 → Int32 → Option (Mem × Int32)) (hk47 : ∀ (S : Mem) (x1 : Int32) (x2 : Int32) (x3 : Int32) (x4 : Int32) (H : Heap) (locs : List Loc) (ls : Array Slot), Wd D clA (shM dA) exM A ad S H → va_S A s.heap H locs → lv_has ls 6 [(0, .ref (ad M_o)), (1, .int x1), (2, .int x2), (3, .int x3), (4, .int x4)] → k47 S x1 x2 x3 x4 = some res → W p l e R s m args below meth c H locs 0 0 (MQ below (QiW D (shM dA) exM A ad res) args s 0 0 A) (F0 m 47 ls [])) (S : Mem) (x1 : Int32) (x2 : Int32) (x3 : Int32) (x4 : Int32) {H : Heap} {locs : List Loc} {ls : Array Slot} (hP : Wd D clA (shM dA) exM A ad S H) (hS : va_S A s.heap H locs) (hl : lv_has ls 6 [(0, .ref (ad M_o)), (1, .int x1), (2, .int x2), (3, .int x3), (4, .int x4)]) (hf : f_X8_write_47_b k47 S x1 x2 x3 x4 = some res) : W p l e R s m args below meth c H locs 0 0 (MQ below (QiW D (shM dA) exM A ad res) args s 0 0 A) (F0 m 47 ls []) := by
  have hx := X.hx
  have hb := X.hb
  unfold f_X8_write_47_b at hf
  refine lv_iload hx hb dX8_write_47 (lv_at hl 4 rfl) ?_
  refine lv_iload_n hx hb dX8_write_49 rfl (lv_at hl 3 rfl) ?_
  refine gb_icmp_ge (tgt := 125) hx hb dX8_write_50 (by decide) hf (fun hf => ?_) (fun hf => ?_)
  · refine lv_iload hx hb dX8_write_125 (lv_at hl 4 rfl) ?_
    exact gr_iW X hP hS (Option.some.inj hf) dX8_write_127
  · refine lv_aload_n hx hb dX8_write_53 rfl (lv_at hl 0 rfl) ?_
    refine rg_X8_108 X hP dX8_write_54 ?_
    refine lv_iload_n hx hb dX8_write_57 rfl (lv_at hl 1 rfl) ?_
    refine ra_total_ld X hP dX8_write_58 hf (fun hf => ?_)
    refine lv_ldc hx hb X.hown (X.hts _ q1261) dX8_write_59 ?_
    refine gb_icmp_ge (tgt := 125) hx hb dX8_write_61 (by decide) hf (fun hf => ?_) (fun hf => ?_)
    · refine lv_iload hx hb dX8_write_125 (lv_at hl 4 rfl) ?_
      exact gr_iW X hP hS (Option.some.inj hf) dX8_write_127
    · refine lv_ldc hx hb X.hown (X.hts _ q1261) dX8_write_64 ?_
      refine lv_iload_n hx hb dX8_write_66 rfl (lv_at hl 1 rfl) ?_
      refine lv_imul hx hb dX8_write_67 ?_
      refine lv_aload_n hx hb dX8_write_68 rfl (lv_at hl 0 rfl) ?_
      refine rg_X8_108 X hP dX8_write_69 ?_
      refine lv_iload_n hx hb dX8_write_72 rfl (lv_at hl 1 rfl) ?_
      refine ra_total_ld X hP dX8_write_73 hf (fun hf => ?_)
      refine lv_iadd hx hb dX8_write_74 ?_
      refine lv_istore (lv' := [(5, .int ((65536 * x1) + (S.1 M_total (Int32.toNatClampNeg x1)))), (0, .ref (ad M_o)), (1, .int x1), (2, .int x2), (3, .int x3), (4, .int x4)]) hx hb dX8_write_75 hl (by decide) rfl (fun ls hl => ?_)
      refine lv_aload_n hx hb dX8_write_77 rfl (lv_at hl 1 rfl) ?_
      refine rg_X8_112 X hP dX8_write_78 ?_
      refine lv_iload hx hb dX8_write_81 (lv_at hl 0 rfl) ?_
      refine lv_iload_n hx hb dX8_write_83 rfl (lv_at hl 3 rfl) ?_
      refine lv_i2s hx hb dX8_write_84 rfl ?_
      refine ra_of_st X hP hS dX8_write_85 hf (fun S1 H locs hP hS hf => ?_)
      refine lv_aload_n hx hb dX8_write_86 rfl (lv_at hl 1 rfl) ?_
      refine rg_X8_116 X hP dX8_write_87 ?_
      refine lv_iload hx hb dX8_write_90 (lv_at hl 0 rfl) ?_
      refine lv_aload_n hx hb dX8_write_92 rfl (lv_at hl 1 rfl) ?_
      refine rg_X8_7 X hP dX8_write_93 ?_
      refine lv_iload hx hb dX8_write_96 (lv_at hl 5 rfl) ?_
      refine ra_tape_ld X hP dX8_write_98 hf (fun hf => ?_)
      refine lv_i2b hx hb dX8_write_99 rfl ?_
      refine ra_value_st X hP hS dX8_write_100 hf (fun S2 H locs hP hS hf => ?_)
      refine lv_aload_n hx hb dX8_write_101 rfl (lv_at hl 1 rfl) ?_
      refine rg_X8_120 X hP dX8_write_102 ?_
      refine lv_iload hx hb dX8_write_105 (lv_at hl 0 rfl) ?_
      refine lv_iconst (v := 0) hx hb dX8_write_107 (by decide) ?_
      refine ra_mark_st X hP hS dX8_write_108 hf (fun S3 H locs hP hS hf => ?_)
      refine lv_aload_n hx hb dX8_write_109 rfl (lv_at hl 1 rfl) ?_
      refine rg_X8_108 X hP dX8_write_110 ?_
      refine lv_iload_n hx hb dX8_write_113 rfl (lv_at hl 2 rfl) ?_
      refine lv_dup2_11 hx hb dX8_write_114 rfl rfl ?_
      refine ra_total_ld X hP dX8_write_115 hf (fun hf => ?_)
      refine lv_iconst (v := 1) hx hb dX8_write_116 (by decide) ?_
      refine lv_iadd hx hb dX8_write_117 ?_
      refine ra_total_st X hP hS dX8_write_118 hf (fun S4 H locs hP hS hf => ?_)
      refine lv_iinc (v := (x4 + 1)) (lv' := [(4, .int (x4 + 1)), (5, .int ((65536 * x1) + (S.1 M_total (Int32.toNatClampNeg x1)))), (0, .ref (ad M_o)), (1, .int x1), (2, .int x2), (3, .int x3)]) hx hb dX8_write_119 hl (k := 5) rfl rfl (by decide) rfl (fun ls hl => ?_)
      refine lv_goto (tgt := 47) hx hb dX8_write_122 (by decide) ?_
      exact hk47 S4 x1 x2 x3 (x4 + 1) _ _ _ hP hS (lv_sub hl [2, 3, 4, 5, 0] rfl) hf
set_option maxHeartbeats 4000000 in
theorem w_X8_write_47 {p : Program} {l : Launch} {e : Env} {R : Room} {s : State} {m : MethodId} {args : Array Value} {below : List Frame} {meth : Method} {c : Code} {D : va_G} {dA : Nat → ClassId} {A : Nat → Prop} {ad : L3 → Nat} (X : CX RX8 cX8_write 6 (some .int) (KA D dA) p s m args meth c A) (hR : 4 ≤ R.frames ∧ 90 ≤ R.locals) {res : Mem × Int32} (n : Nat) : ∀ (S : Mem) (x1 : Int32) (x2 : Int32) (x3 : Int32) (x4 : Int32) (H : Heap) (locs : List Loc) (ls : Array Slot), Wd D clA (shM dA) exM A ad S H → va_S A s.heap H locs → lv_has ls 6 [(0, .ref (ad M_o)), (1, .int x1), (2, .int x2), (3, .int x3), (4, .int x4)] → f_X8_write_47 n S x1 x2 x3 x4 = some res → W p l e R s m args below meth c H locs 0 0 (MQ below (QiW D (shM dA) exM A ad res) args s 0 0 A) (F0 m 47 ls []) := by
  induction n with
  | zero =>
    intro S x1 x2 x3 x4 H locs ls hP hS hl hf
    exact absurd (show none = some res from hf) (fun h => by cases h)
  | succ n ih =>
    intro S x1 x2 x3 x4 H locs ls hP hS hl hf
    exact w_X8_write_47_b X hR (f_X8_write_47 n) ih S x1 x2 x3 x4 hP hS hl hf
set_option maxHeartbeats 4000000 in
theorem w_X8_write {p : Program} {l : Launch} {e : Env} {R : Room} {s : State} {m : MethodId} {args : Array Value} {below : List Frame} {meth : Method} {c : Code} {D : va_G} {dA : Nat → ClassId} {A : Nat → Prop} {ad : L3 → Nat} (X : CX RX8 cX8_write 6 (some .int) (KA D dA) p s m args meth c A) (hR : 4 ≤ R.frames ∧ 90 ≤ R.locals) {res : Mem × Int32} (S : Mem) (x1 : Int32) (x2 : Int32) {H : Heap} {locs : List Loc} {ls : Array Slot} (hP : Wd D clA (shM dA) exM A ad S H) (hS : va_S A s.heap H locs) (hl : lv_has ls 6 [(0, .ref (ad M_o)), (1, .int x1), (2, .int x2)]) (hf : f_X8_write S x1 x2 = some res) : W p l e R s m args below meth c H locs 0 0 (MQ below (QiW D (shM dA) exM A ad res) args s 0 0 A) (F0 m 0 ls []) := by
  have hx := X.hx
  have hb := X.hb
  unfold f_X8_write at hf
  refine lv_aload_n hx hb dX8_write_0 rfl (lv_at hl 0 rfl) ?_
  refine lv_iload_n hx hb dX8_write_1 rfl (lv_at hl 1 rfl) ?_
  obtain ⟨v1, hq, hf⟩ := gS_eq hf
  refine gc_i (gc_fixS (S := S) X (mt_X8_noSide l D dA A ad S x1 hq) (lw_S q1258 q1259 q93 q1260) ⟨rfl, rfl⟩ hd_X8_noSide.2 ⟨Nat.le_trans (Nat.le_of_ble_eq_true rfl) hR.1, Nat.le_trans (Nat.le_of_ble_eq_true rfl) hR.2⟩ hP hS ⟨Nat.zero_le _, Nat.zero_le _⟩ rfl hl.1 rfl (Nat.le_of_ble_eq_true rfl) dX8_write_2) hS ?_
  rintro _ _ H locs ⟨rfl, rfl⟩ hP hS
  refine lv_iconst (v := 1) hx hb dX8_write_5 (by decide) ?_
  obtain ⟨S2, v3, hq, hf⟩ := gB2_some hf
  refine gc_i (gc_fixV (S := S) X (mt_X8_fails l D dA A ad S v1 (1 : Int32) hq) (lw_V q1262 q1264 qs35 q93 q1265) ⟨rfl, rfl⟩ hd_X8_fails ⟨Nat.le_trans (Nat.le_of_ble_eq_true rfl) hR.1, Nat.le_trans (Nat.le_of_ble_eq_true rfl) hR.2⟩ (wd_recv (r := M_o) (ci := 0) (q := (RX8, TX8, 61)) X.hK.1 hP ⟨rfl, rfl⟩ rfl rfl) hP hS ⟨Nat.zero_le _, Nat.zero_le _⟩ rfl hl.1 rfl (Nat.le_of_ble_eq_true rfl) dX8_write_6) hS ?_
  rintro _ _ H locs ⟨⟩ hP hS
  refine gb_if_eq (tgt := 14) hx hb dX8_write_9 (by decide) hf (fun hf => ?_) (fun hf => ?_)
  · refine lv_aload_n hx hb dX8_write_14 rfl (lv_at hl 0 rfl) ?_
    refine rg_X8_263 X hP dX8_write_15 ?_
    refine lv_istore_n (lv' := [(3, .int (S2.1 M_o 3)), (0, .ref (ad M_o)), (1, .int x1), (2, .int x2)]) hx hb dX8_write_18 rfl hl (by decide) rfl (fun ls hl => ?_)
    refine lv_aload_n hx hb dX8_write_19 rfl (lv_at hl 1 rfl) ?_
    refine lv_iconst (v := 0) hx hb dX8_write_20 (by decide) ?_
    refine rp_X8_263 X hP hS dX8_write_21 hf (fun S4 H locs hP hS hf => ?_)
    refine lv_aload_n hx hb dX8_write_24 rfl (lv_at hl 1 rfl) ?_
    refine lv_iload_n hx hb dX8_write_25 rfl (lv_at hl 2 rfl) ?_
    refine lv_iload_n hx hb dX8_write_26 rfl (lv_at hl 3 rfl) ?_
    obtain ⟨v5, hq, hf⟩ := gB_some hf
    refine gc_i (gc_fixV (S := S4) X (mt_X8_hasSending l D dA A ad S4 x1 x2 hq) (lw_V q1304 q1306 qs39 q93 q1307) ⟨rfl, rfl⟩ hd_X8_hasSending ⟨Nat.le_trans (Nat.le_of_ble_eq_true rfl) hR.1, Nat.le_trans (Nat.le_of_ble_eq_true rfl) hR.2⟩ (wd_recv (r := M_o) (ci := 0) (q := (RX8, TX8, 61)) X.hK.1 hP ⟨rfl, rfl⟩ rfl rfl) hP hS ⟨Nat.zero_le _, Nat.zero_le _⟩ rfl hl.1 rfl (Nat.le_of_ble_eq_true rfl) dX8_write_27) hS ?_
    rintro _ _ H locs ⟨rfl, rfl⟩ hP hS
    refine gb_if_eq (tgt := 42) hx hb dX8_write_30 (by decide) hf (fun hf => ?_) (fun hf => ?_)
    · refine lv_iconst (v := (-1)) hx hb dX8_write_42 (by decide) ?_
      exact gr_iW X hP hS (Option.some.inj hf) dX8_write_43
    · refine lv_aload_n hx hb dX8_write_33 rfl (lv_at hl 1 rfl) ?_
      refine lv_iload_n hx hb dX8_write_34 rfl (lv_at hl 2 rfl) ?_
      refine lv_iload_n hx hb dX8_write_35 rfl (lv_at hl 3 rfl) ?_
      obtain ⟨v6, hq, hf⟩ := gB_some hf
      refine gc_i (gc_fixV (S := S4) X (mt_X8_sending l D dA A ad S4 x1 x2 hq) (lw_V q1315 q1317 qs41 q93 q1318) ⟨rfl, rfl⟩ hd_X8_sending ⟨Nat.le_trans (Nat.le_of_ble_eq_true rfl) hR.1, Nat.le_trans (Nat.le_of_ble_eq_true rfl) hR.2⟩ (wd_recv (r := M_o) (ci := 0) (q := (RX8, TX8, 61)) X.hK.1 hP ⟨rfl, rfl⟩ rfl rfl) hP hS ⟨Nat.zero_le _, Nat.zero_le _⟩ rfl hl.1 rfl (Nat.le_of_ble_eq_true rfl) dX8_write_36) hS ?_
      rintro _ _ H locs ⟨rfl, rfl⟩ hP hS
      refine gb_if_eq (tgt := 44) hx hb dX8_write_39 (by decide) hf (fun hf => ?_) (fun hf => ?_)
      · refine lv_iconst (v := 0) hx hb dX8_write_44 (by decide) ?_
        refine lv_istore (lv' := [(4, .int 0), (3, .int (S2.1 M_o 3)), (0, .ref (ad M_o)), (1, .int x1), (2, .int x2)]) hx hb dX8_write_45 hl (by decide) rfl (fun ls hl => ?_)
        exact w_X8_write_47 X hR FU S4 x1 x2 (S2.1 M_o 3) 0 _ _ _ hP hS (lv_sub hl [2, 3, 4, 1, 0] rfl) hf
      · refine lv_iconst (v := (-1)) hx hb dX8_write_42 (by decide) ?_
        exact gr_iW X hP hS (Option.some.inj hf) dX8_write_43
  · refine lv_iconst (v := 0) hx hb dX8_write_12 (by decide) ?_
    exact gr_iW X hP hS (Option.some.inj hf) dX8_write_13
theorem hd_X8_write : yX8_write.cls = RX8 ∧ yX8_write.cls ≠ "java/lang/invoke/MethodHandle" ∧ yX8_write.cls ≠ "java/lang/invoke/VarHandle" ∧ (parseMethodDescriptor yX8_write.desc).map (fun d => d.parameters.length) = some 2 := by decide +kernel
set_option maxHeartbeats 4000000 in
theorem mt_X8_write (l : Launch) (D : va_G) (dA : Nat → ClassId) (A : Nat → Prop) (ad : L3 → Nat) (S : Mem) (x1 : Int32) (x2 : Int32) {res : Mem × Int32} (hq : f_X8_write S x1 x2 = some res) : Met l yX8_write (ws_ yX8_write cX8_write 6 (some .int)) ({ frames := 4, cells := 0, slots := 0, locals := 90 } : Room) (va_Pc [.ref (ad M_o), .int x1, .int x2] (PreW D dA (shM dA) exM A ad S)) (QiW D (shM dA) exM A ad res) 0 0 A :=
  gx_head (by decide) (Nat.le_of_ble_eq_true rfl) (fun p e s m below meth c ls X hP hl => w_X8_write (l := l) X ⟨Nat.le_of_ble_eq_true rfl, Nat.le_of_ble_eq_true rfl⟩ S x1 x2 hP va_S.rf (lv_sub (l := [(0, .ref (ad M_o)), (1, .int x1), (2, .int x2)]) hl [0, 1, 2] rfl) hq)
set_option maxHeartbeats 4000000 in
theorem w_X8_finish {p : Program} {l : Launch} {e : Env} {R : Room} {s : State} {m : MethodId} {args : Array Value} {below : List Frame} {meth : Method} {c : Code} {D : va_G} {dA : Nat → ClassId} {A : Nat → Prop} {ad : L3 → Nat} (X : CX RX8 cX8_finish 3 (some .boolean) (KA D dA) p s m args meth c A) (hR : 4 ≤ R.frames ∧ 90 ≤ R.locals) {res : Mem × Int32} (S : Mem) (x1 : Int32) (x2 : Int32) {H : Heap} {locs : List Loc} {ls : Array Slot} (hP : Wd D clA (shM dA) exM A ad S H) (hS : va_S A s.heap H locs) (hl : lv_has ls 3 [(0, .ref (ad M_o)), (1, .int x1), (2, .int x2)]) (hf : f_X8_finish S x1 x2 = some res) : W p l e R s m args below meth c H locs 0 0 (MQ below (QiW D (shM dA) exM A ad res) args s 0 0 A) (F0 m 0 ls []) := by
  have hx := X.hx
  have hb := X.hb
  unfold f_X8_finish at hf
  refine lv_aload_n hx hb dX8_finish_0 rfl (lv_at hl 0 rfl) ?_
  refine lv_iload_n hx hb dX8_finish_1 rfl (lv_at hl 1 rfl) ?_
  obtain ⟨v1, hq, hf⟩ := gS_eq hf
  refine gc_i (gc_fixS (S := S) X (mt_X8_noSide l D dA A ad S x1 hq) (lw_S q1258 q1259 q93 q1260) ⟨rfl, rfl⟩ hd_X8_noSide.2 ⟨Nat.le_trans (Nat.le_of_ble_eq_true rfl) hR.1, Nat.le_trans (Nat.le_of_ble_eq_true rfl) hR.2⟩ hP hS ⟨Nat.zero_le _, Nat.zero_le _⟩ rfl hl.1 rfl (Nat.le_of_ble_eq_true rfl) dX8_finish_2) hS ?_
  rintro _ _ H locs ⟨rfl, rfl⟩ hP hS
  refine lv_iconst (v := 1) hx hb dX8_finish_5 (by decide) ?_
  obtain ⟨S2, v3, hq, hf⟩ := gB2_some hf
  refine gc_i (gc_fixV (S := S) X (mt_X8_fails l D dA A ad S v1 (1 : Int32) hq) (lw_V q1262 q1264 qs35 q93 q1265) ⟨rfl, rfl⟩ hd_X8_fails ⟨Nat.le_trans (Nat.le_of_ble_eq_true rfl) hR.1, Nat.le_trans (Nat.le_of_ble_eq_true rfl) hR.2⟩ (wd_recv (r := M_o) (ci := 0) (q := (RX8, TX8, 61)) X.hK.1 hP ⟨rfl, rfl⟩ rfl rfl) hP hS ⟨Nat.zero_le _, Nat.zero_le _⟩ rfl hl.1 rfl (Nat.le_of_ble_eq_true rfl) dX8_finish_6) hS ?_
  rintro _ _ H locs ⟨⟩ hP hS
  refine gb_if_ne (tgt := 30) hx hb dX8_finish_9 (by decide) hf (fun hf => ?_) (fun hf => ?_)
  · refine lv_iconst (v := 0) hx hb dX8_finish_30 (by decide) ?_
    exact gr_zW X hP hS (Option.some.inj hf) (by decide) dX8_finish_31
  · refine lv_aload_n hx hb dX8_finish_12 rfl (lv_at hl 0 rfl) ?_
    refine lv_iload_n hx hb dX8_finish_13 rfl (lv_at hl 1 rfl) ?_
    refine lv_iload_n hx hb dX8_finish_14 rfl (lv_at hl 2 rfl) ?_
    obtain ⟨v4, hq, hf⟩ := gB_some hf
    refine gc_i (gc_fixV (S := S2) X (mt_X8_hasSending l D dA A ad S2 x1 x2 hq) (lw_V q1304 q1306 qs39 q93 q1307) ⟨rfl, rfl⟩ hd_X8_hasSending ⟨Nat.le_trans (Nat.le_of_ble_eq_true rfl) hR.1, Nat.le_trans (Nat.le_of_ble_eq_true rfl) hR.2⟩ (wd_recv (r := M_o) (ci := 0) (q := (RX8, TX8, 61)) X.hK.1 hP ⟨rfl, rfl⟩ rfl rfl) hP hS ⟨Nat.zero_le _, Nat.zero_le _⟩ rfl hl.1 rfl (Nat.le_of_ble_eq_true rfl) dX8_finish_15) hS ?_
    rintro _ _ H locs ⟨rfl, rfl⟩ hP hS
    refine gb_if_eq (tgt := 30) hx hb dX8_finish_18 (by decide) hf (fun hf => ?_) (fun hf => ?_)
    · refine lv_iconst (v := 0) hx hb dX8_finish_30 (by decide) ?_
      exact gr_zW X hP hS (Option.some.inj hf) (by decide) dX8_finish_31
    · refine lv_aload_n hx hb dX8_finish_21 rfl (lv_at hl 0 rfl) ?_
      refine lv_iload_n hx hb dX8_finish_22 rfl (lv_at hl 1 rfl) ?_
      refine lv_iload_n hx hb dX8_finish_23 rfl (lv_at hl 2 rfl) ?_
      obtain ⟨v5, hq, hf⟩ := gB_some hf
      refine gc_i (gc_fixV (S := S2) X (mt_X8_sending l D dA A ad S2 x1 x2 hq) (lw_V q1315 q1317 qs41 q93 q1318) ⟨rfl, rfl⟩ hd_X8_sending ⟨Nat.le_trans (Nat.le_of_ble_eq_true rfl) hR.1, Nat.le_trans (Nat.le_of_ble_eq_true rfl) hR.2⟩ (wd_recv (r := M_o) (ci := 0) (q := (RX8, TX8, 61)) X.hK.1 hP ⟨rfl, rfl⟩ rfl rfl) hP hS ⟨Nat.zero_le _, Nat.zero_le _⟩ rfl hl.1 rfl (Nat.le_of_ble_eq_true rfl) dX8_finish_24) hS ?_
      rintro _ _ H locs ⟨rfl, rfl⟩ hP hS
      refine gb_if_eq (tgt := 32) hx hb dX8_finish_27 (by decide) hf (fun hf => ?_) (fun hf => ?_)
      · refine lv_aload_n hx hb dX8_finish_32 rfl (lv_at hl 0 rfl) ?_
        refine rg_X8_57 X hP dX8_finish_33 ?_
        refine lv_iload_n hx hb dX8_finish_36 rfl (lv_at hl 1 rfl) ?_
        refine lv_iload_n hx hb dX8_finish_37 rfl (lv_at hl 2 rfl) ?_
        obtain ⟨v6, hq, hf⟩ := gS_eq hf
        refine gc_i (gc_fixS (S := S2) X (mt_X8_at l D dA A ad S2 x1 x2 hq) (lw_S q1283 q1284 q93 q1285) ⟨rfl, rfl⟩ hd_X8_at.2 ⟨Nat.le_trans (Nat.le_of_ble_eq_true rfl) hR.1, Nat.le_trans (Nat.le_of_ble_eq_true rfl) hR.2⟩ hP hS ⟨Nat.zero_le _, Nat.zero_le _⟩ rfl hl.1 rfl (Nat.le_of_ble_eq_true rfl) dX8_finish_38) hS ?_
        rintro _ _ H locs ⟨rfl, rfl⟩ hP hS
        refine lv_iconst (v := 1) hx hb dX8_finish_41 (by decide) ?_
        refine ra_finished_st X hP hS dX8_finish_42 hf (fun S7 H locs hP hS hf => ?_)
        refine lv_aload_n hx hb dX8_finish_43 rfl (lv_at hl 0 rfl) ?_
        refine rg_X8_60 X hP dX8_finish_44 ?_
        refine lv_iload_n hx hb dX8_finish_47 rfl (lv_at hl 1 rfl) ?_
        refine lv_iload_n hx hb dX8_finish_48 rfl (lv_at hl 2 rfl) ?_
        obtain ⟨v8, hq, hf⟩ := gS_eq hf
        refine gc_i (gc_fixS (S := S7) X (mt_X8_at l D dA A ad S7 x1 x2 hq) (lw_S q1283 q1284 q93 q1285) ⟨rfl, rfl⟩ hd_X8_at.2 ⟨Nat.le_trans (Nat.le_of_ble_eq_true rfl) hR.1, Nat.le_trans (Nat.le_of_ble_eq_true rfl) hR.2⟩ hP hS ⟨Nat.zero_le _, Nat.zero_le _⟩ rfl hl.1 rfl (Nat.le_of_ble_eq_true rfl) dX8_finish_49) hS ?_
        rintro _ _ H locs ⟨rfl, rfl⟩ hP hS
        refine lv_iconst (v := 0) hx hb dX8_finish_52 (by decide) ?_
        refine ra_end_st X hP hS dX8_finish_53 hf (fun S9 H locs hP hS hf => ?_)
        refine lv_iconst (v := 1) hx hb dX8_finish_54 (by decide) ?_
        exact gr_zW X hP hS (Option.some.inj hf) (by decide) dX8_finish_55
      · refine lv_iconst (v := 0) hx hb dX8_finish_30 (by decide) ?_
        exact gr_zW X hP hS (Option.some.inj hf) (by decide) dX8_finish_31
theorem hd_X8_finish : yX8_finish.cls = RX8 ∧ yX8_finish.cls ≠ "java/lang/invoke/MethodHandle" ∧ yX8_finish.cls ≠ "java/lang/invoke/VarHandle" ∧ (parseMethodDescriptor yX8_finish.desc).map (fun d => d.parameters.length) = some 2 := by decide +kernel
set_option maxHeartbeats 4000000 in
theorem mt_X8_finish (l : Launch) (D : va_G) (dA : Nat → ClassId) (A : Nat → Prop) (ad : L3 → Nat) (S : Mem) (x1 : Int32) (x2 : Int32) {res : Mem × Int32} (hq : f_X8_finish S x1 x2 = some res) : Met l yX8_finish (ws_ yX8_finish cX8_finish 3 (some .boolean)) ({ frames := 4, cells := 0, slots := 0, locals := 90 } : Room) (va_Pc [.ref (ad M_o), .int x1, .int x2] (PreW D dA (shM dA) exM A ad S)) (QiW D (shM dA) exM A ad res) 0 0 A :=
  gx_head (by decide) (Nat.le_of_ble_eq_true rfl) (fun p e s m below meth c ls X hP hl => w_X8_finish (l := l) X ⟨Nat.le_of_ble_eq_true rfl, Nat.le_of_ble_eq_true rfl⟩ S x1 x2 hP va_S.rf (lv_sub (l := [(0, .ref (ad M_o)), (1, .int x1), (2, .int x2)]) hl [0, 1, 2] rfl) hq)
set_option maxHeartbeats 4000000 in
theorem w_X8_isOpenSending {p : Program} {l : Launch} {e : Env} {R : Room} {s : State} {m : MethodId} {args : Array Value} {below : List Frame} {meth : Method} {c : Code} {D : va_G} {dA : Nat → ClassId} {A : Nat → Prop} {ad : L3 → Nat} (X : CX RX8 cX8_isOpenSending 3 (some .boolean) (KA D dA) p s m args meth c A) (hR : 4 ≤ R.frames ∧ 90 ≤ R.locals) {res : Int32} (S : Mem) (x1 : Int32) (x2 : Int32) {H : Heap} {locs : List Loc} {ls : Array Slot} (hP : Wd D clA (shM dA) exM A ad S H) (hS : va_S A s.heap H locs) (hl : lv_has ls 3 [(0, .ref (ad M_o)), (1, .int x1), (2, .int x2)]) (hf : f_X8_isOpenSending S x1 x2 = some res) : W p l e R s m args below meth c H locs 0 0 (MQ below (QiR D (shM dA) exM A ad S res) args s 0 0 A) (F0 m 0 ls []) := by
  have hx := X.hx
  have hb := X.hb
  unfold f_X8_isOpenSending at hf
  refine lv_aload_n hx hb dX8_isOpenSending_0 rfl (lv_at hl 0 rfl) ?_
  refine lv_iload_n hx hb dX8_isOpenSending_1 rfl (lv_at hl 1 rfl) ?_
  refine lv_iload_n hx hb dX8_isOpenSending_2 rfl (lv_at hl 2 rfl) ?_
  obtain ⟨v1, hq, hf⟩ := gB_some hf
  refine gc_i (gc_fixV (S := S) X (mt_X8_hasSending l D dA A ad S x1 x2 hq) (lw_V q1304 q1306 qs39 q93 q1307) ⟨rfl, rfl⟩ hd_X8_hasSending ⟨Nat.le_trans (Nat.le_of_ble_eq_true rfl) hR.1, Nat.le_trans (Nat.le_of_ble_eq_true rfl) hR.2⟩ (wd_recv (r := M_o) (ci := 0) (q := (RX8, TX8, 61)) X.hK.1 hP ⟨rfl, rfl⟩ rfl rfl) hP hS ⟨Nat.zero_le _, Nat.zero_le _⟩ rfl hl.1 rfl (Nat.le_of_ble_eq_true rfl) dX8_isOpenSending_3) hS ?_
  rintro _ _ H locs ⟨rfl, rfl⟩ hP hS
  refine gb_if_eq (tgt := 23) hx hb dX8_isOpenSending_6 (by decide) hf (fun hf => ?_) (fun hf => ?_)
  · refine lv_iconst (v := 0) hx hb dX8_isOpenSending_23 (by decide) ?_
    exact gr_zR X hP hS (Option.some.inj hf) (by decide) dX8_isOpenSending_24
  · refine lv_aload_n hx hb dX8_isOpenSending_9 rfl (lv_at hl 0 rfl) ?_
    refine lv_iload_n hx hb dX8_isOpenSending_10 rfl (lv_at hl 1 rfl) ?_
    refine lv_iload_n hx hb dX8_isOpenSending_11 rfl (lv_at hl 2 rfl) ?_
    obtain ⟨v2, hq, hf⟩ := gB_some hf
    refine gc_i (gc_fixV (S := S) X (mt_X8_sending l D dA A ad S x1 x2 hq) (lw_V q1315 q1317 qs41 q93 q1318) ⟨rfl, rfl⟩ hd_X8_sending ⟨Nat.le_trans (Nat.le_of_ble_eq_true rfl) hR.1, Nat.le_trans (Nat.le_of_ble_eq_true rfl) hR.2⟩ (wd_recv (r := M_o) (ci := 0) (q := (RX8, TX8, 61)) X.hK.1 hP ⟨rfl, rfl⟩ rfl rfl) hP hS ⟨Nat.zero_le _, Nat.zero_le _⟩ rfl hl.1 rfl (Nat.le_of_ble_eq_true rfl) dX8_isOpenSending_12) hS ?_
    rintro _ _ H locs ⟨rfl, rfl⟩ hP hS
    refine lv_iconst (v := 2) hx hb dX8_isOpenSending_15 (by decide) ?_
    refine gb_icmp_ge (tgt := 23) hx hb dX8_isOpenSending_16 (by decide) hf (fun hf => ?_) (fun hf => ?_)
    · refine lv_iconst (v := 0) hx hb dX8_isOpenSending_23 (by decide) ?_
      exact gr_zR X hP hS (Option.some.inj hf) (by decide) dX8_isOpenSending_24
    · refine lv_iconst (v := 1) hx hb dX8_isOpenSending_19 (by decide) ?_
      refine lv_goto (tgt := 24) hx hb dX8_isOpenSending_20 (by decide) ?_
      exact gr_zR X hP hS (Option.some.inj hf) (by decide) dX8_isOpenSending_24
theorem hd_X8_isOpenSending : yX8_isOpenSending.cls = RX8 ∧ yX8_isOpenSending.cls ≠ "java/lang/invoke/MethodHandle" ∧ yX8_isOpenSending.cls ≠ "java/lang/invoke/VarHandle" ∧ (parseMethodDescriptor yX8_isOpenSending.desc).map (fun d => d.parameters.length) = some 2 := by decide +kernel
set_option maxHeartbeats 4000000 in
theorem mt_X8_isOpenSending (l : Launch) (D : va_G) (dA : Nat → ClassId) (A : Nat → Prop) (ad : L3 → Nat) (S : Mem) (x1 : Int32) (x2 : Int32) {res : Int32} (hq : f_X8_isOpenSending S x1 x2 = some res) : Met l yX8_isOpenSending (ws_ yX8_isOpenSending cX8_isOpenSending 3 (some .boolean)) ({ frames := 4, cells := 0, slots := 0, locals := 90 } : Room) (va_Pc [.ref (ad M_o), .int x1, .int x2] (PreW D dA (shM dA) exM A ad S)) (QiR D (shM dA) exM A ad S res) 0 0 A :=
  gx_head (by decide) (Nat.le_of_ble_eq_true rfl) (fun p e s m below meth c ls X hP hl => w_X8_isOpenSending (l := l) X ⟨Nat.le_of_ble_eq_true rfl, Nat.le_of_ble_eq_true rfl⟩ S x1 x2 hP va_S.rf (lv_sub (l := [(0, .ref (ad M_o)), (1, .int x1), (2, .int x2)]) hl [0, 1, 2] rfl) hq)
set_option maxHeartbeats 4000000 in
theorem w_X8_doReset {p : Program} {l : Launch} {e : Env} {R : Room} {s : State} {m : MethodId} {args : Array Value} {below : List Frame} {meth : Method} {c : Code} {D : va_G} {dA : Nat → ClassId} {A : Nat → Prop} {ad : L3 → Nat} (X : CX RX8 cX8_doReset 6 none (KA D dA) p s m args meth c A) (hR : 2 ≤ R.frames ∧ 41 ≤ R.locals) {res : Mem} (S : Mem) (x1 : Int32) (x2 : Int32) (x3 : Int64) {H : Heap} {locs : List Loc} {ls : Array Slot} (hP : Wd D clA (shM dA) exM A ad S H) (hS : va_S A s.heap H locs) (hl : lv_has ls 6 [(0, .ref (ad M_o)), (1, .int x1), (2, .int x2), (3, .long x3)]) (hf : f_X8_doReset S x1 x2 x3 = some res) : W p l e R s m args below meth c H locs 0 0 (MQ below (QvW D (shM dA) exM A ad res) args s 0 0 A) (F0 m 0 ls []) := by
  have hx := X.hx
  have hb := X.hb
  unfold f_X8_doReset at hf
  refine lv_iload_n hx hb dX8_doReset_0 rfl (lv_at hl 1 rfl) ?_
  refine lv_iload_n hx hb dX8_doReset_1 rfl (lv_at hl 2 rfl) ?_
  obtain ⟨v1, hq, hf⟩ := gS_eq hf
  refine gc_i (gc_fixS (S := S) X (mt_X8_at l D dA A ad S x1 x2 hq) (lw_S q1283 q1284 q93 q1285) ⟨rfl, rfl⟩ hd_X8_at.2 ⟨Nat.le_trans (Nat.le_of_ble_eq_true rfl) hR.1, Nat.le_trans (Nat.le_of_ble_eq_true rfl) hR.2⟩ hP hS ⟨Nat.zero_le _, Nat.zero_le _⟩ rfl hl.1 rfl (Nat.le_of_ble_eq_true rfl) dX8_doReset_2) hS ?_
  rintro _ _ H locs ⟨rfl, rfl⟩ hP hS
  refine lv_istore (lv' := [(5, .int v1), (0, .ref (ad M_o)), (1, .int x1), (2, .int x2), (3, .long x3)]) hx hb dX8_doReset_5 hl (by decide) rfl (fun ls hl => ?_)
  refine lv_aload_n hx hb dX8_doReset_7 rfl (lv_at hl 1 rfl) ?_
  refine rg_X8_63 X hP dX8_doReset_8 ?_
  refine lv_iload hx hb dX8_doReset_11 (lv_at hl 0 rfl) ?_
  refine lv_iconst (v := 1) hx hb dX8_doReset_13 (by decide) ?_
  refine ra_resets_st X hP hS dX8_doReset_14 hf (fun S2 H locs hP hS hf => ?_)
  refine lv_aload_n hx hb dX8_doReset_15 rfl (lv_at hl 1 rfl) ?_
  refine rg_X8_69 X hP dX8_doReset_16 ?_
  refine lv_iload hx hb dX8_doReset_19 (lv_at hl 0 rfl) ?_
  refine lv_lload_n hx hb dX8_doReset_21 rfl (lv_at hl 4 rfl) ?_
  refine ra_code_st X hP hS dX8_doReset_22 hf (fun S3 H locs hP hS hf => ?_)
  refine lv_aload_n hx hb dX8_doReset_23 rfl (lv_at hl 1 rfl) ?_
  refine rg_X8_66 X hP dX8_doReset_24 ?_
  refine lv_iload hx hb dX8_doReset_27 (lv_at hl 0 rfl) ?_
  refine lv_iconst (v := 1) hx hb dX8_doReset_29 (by decide) ?_
  refine ra_tellReset_st X hP hS dX8_doReset_30 hf (fun S4 H locs hP hS hf => ?_)
  exact gr_vW X hP hS (Option.some.inj hf) dX8_doReset_31
theorem hd_X8_doReset : yX8_doReset.cls = RX8 ∧ yX8_doReset.cls ≠ "java/lang/invoke/MethodHandle" ∧ yX8_doReset.cls ≠ "java/lang/invoke/VarHandle" ∧ (parseMethodDescriptor yX8_doReset.desc).map (fun d => d.parameters.length) = some 3 := by decide +kernel
set_option maxHeartbeats 4000000 in
theorem mt_X8_doReset (l : Launch) (D : va_G) (dA : Nat → ClassId) (A : Nat → Prop) (ad : L3 → Nat) (S : Mem) (x1 : Int32) (x2 : Int32) (x3 : Int64) {res : Mem} (hq : f_X8_doReset S x1 x2 x3 = some res) : Met l yX8_doReset (ws_ yX8_doReset cX8_doReset 6 none) ({ frames := 2, cells := 0, slots := 0, locals := 41 } : Room) (va_Pc [.ref (ad M_o), .int x1, .int x2, .long x3] (PreW D dA (shM dA) exM A ad S)) (QvW D (shM dA) exM A ad res) 0 0 A :=
  gx_head (by decide) (Nat.le_of_ble_eq_true rfl) (fun p e s m below meth c ls X hP hl => w_X8_doReset (l := l) X ⟨Nat.le_of_ble_eq_true rfl, Nat.le_of_ble_eq_true rfl⟩ S x1 x2 x3 hP va_S.rf (lv_sub (l := [(0, .ref (ad M_o)), (1, .int x1), (2, .int x2), (3, .long x3)]) hl [0, 1, 2, 3] rfl) hq)
set_option maxHeartbeats 4000000 in
theorem w_X8_reset_27 {p : Program} {l : Launch} {e : Env} {R : Room} {s : State} {m : MethodId} {args : Array Value} {below : List Frame} {meth : Method} {c : Code} {D : va_G} {dA : Nat → ClassId} {A : Nat → Prop} {ad : L3 → Nat} (X : CX RX8 cX8_reset 5 (some .boolean) (KA D dA) p s m args meth c A) (hR : 5 ≤ R.frames ∧ 112 ≤ R.locals) {res : Mem × Int32} (S : Mem) (x1 : Int32) (x2 : Int32) (x3 : Int64) (y0 : Int32) {H : Heap} {locs : List Loc} {ls : Array Slot} (hP : Wd D clA (shM dA) exM A ad S H) (hS : va_S A s.heap H locs) (hl : lv_has ls 5 [(0, .ref (ad M_o)), (1, .int x1), (2, .int x2), (3, .long x3)]) (hf : f_X8_reset_27 S x1 x2 x3 y0 = some res) : W p l e R s m args below meth c H locs 0 0 (MQ below (QiW D (shM dA) exM A ad res) args s 0 0 A) (F0 m 27 ls [.int y0, .ref (ad M_o)]) := by
  have hx := X.hx
  have hb := X.hb
  unfold f_X8_reset_27 at hf
  refine lv_iconst (v := 1) hx hb dX8_reset_27 (by decide) ?_
  obtain ⟨S1, v2, hq, hf⟩ := gB2_some hf
  refine gc_i (gc_fixV (S := S) X (mt_X8_fails l D dA A ad S y0 (1 : Int32) hq) (lw_V q1262 q1264 qs35 q93 q1265) ⟨rfl, rfl⟩ hd_X8_fails ⟨Nat.le_trans (Nat.le_of_ble_eq_true rfl) hR.1, Nat.le_trans (Nat.le_of_ble_eq_true rfl) hR.2⟩ (wd_recv (r := M_o) (ci := 0) (q := (RX8, TX8, 61)) X.hK.1 hP ⟨rfl, rfl⟩ rfl rfl) hP hS ⟨Nat.zero_le _, Nat.zero_le _⟩ rfl hl.1 rfl (Nat.le_of_ble_eq_true rfl) dX8_reset_28) hS ?_
  rintro _ _ H locs ⟨⟩ hP hS
  refine gb_if_ne (tgt := 43) hx hb dX8_reset_31 (by decide) hf (fun hf => ?_) (fun hf => ?_)
  · refine lv_iconst (v := 0) hx hb dX8_reset_43 (by decide) ?_
    exact gr_zW X hP hS (Option.some.inj hf) (by decide) dX8_reset_44
  · refine lv_aload_n hx hb dX8_reset_34 rfl (lv_at hl 0 rfl) ?_
    refine lv_iload_n hx hb dX8_reset_35 rfl (lv_at hl 1 rfl) ?_
    refine lv_iload_n hx hb dX8_reset_36 rfl (lv_at hl 2 rfl) ?_
    obtain ⟨v3, hq, hf⟩ := gB_some hf
    refine gc_i (gc_fixV (S := S1) X (mt_X8_isOpenSending l D dA A ad S1 x1 x2 hq) (lw_V q1336 q1338 qs44 q93 q1339) ⟨rfl, rfl⟩ hd_X8_isOpenSending ⟨Nat.le_trans (Nat.le_of_ble_eq_true rfl) hR.1, Nat.le_trans (Nat.le_of_ble_eq_true rfl) hR.2⟩ (wd_recv (r := M_o) (ci := 0) (q := (RX8, TX8, 61)) X.hK.1 hP ⟨rfl, rfl⟩ rfl rfl) hP hS ⟨Nat.zero_le _, Nat.zero_le _⟩ rfl hl.1 rfl (Nat.le_of_ble_eq_true rfl) dX8_reset_37) hS ?_
    rintro _ _ H locs ⟨rfl, rfl⟩ hP hS
    refine gb_if_ne (tgt := 45) hx hb dX8_reset_40 (by decide) hf (fun hf => ?_) (fun hf => ?_)
    · refine lv_aload_n hx hb dX8_reset_45 rfl (lv_at hl 0 rfl) ?_
      refine lv_iload_n hx hb dX8_reset_46 rfl (lv_at hl 1 rfl) ?_
      refine lv_iload_n hx hb dX8_reset_47 rfl (lv_at hl 2 rfl) ?_
      refine lv_lload_n hx hb dX8_reset_48 rfl (lv_at hl 3 rfl) ?_
      obtain ⟨S4, hq, hf⟩ := gB_some hf
      refine gc_v (gc_fixV (S := S1) X (mt_X8_doReset l D dA A ad S1 x1 x2 x3 hq) (lw_V q1340 q1342 qs45 q93 q1343) ⟨rfl, rfl⟩ hd_X8_doReset ⟨Nat.le_trans (Nat.le_of_ble_eq_true rfl) hR.1, Nat.le_trans (Nat.le_of_ble_eq_true rfl) hR.2⟩ (wd_recv (r := M_o) (ci := 0) (q := (RX8, TX8, 61)) X.hK.1 hP ⟨rfl, rfl⟩ rfl rfl) hP hS ⟨Nat.zero_le _, Nat.zero_le _⟩ rfl hl.1 rfl (Nat.le_of_ble_eq_true rfl) dX8_reset_49) hS ?_
      rintro _ H locs rfl hP hS
      refine lv_iconst (v := 1) hx hb dX8_reset_52 (by decide) ?_
      exact gr_zW X hP hS (Option.some.inj hf) (by decide) dX8_reset_53
    · refine lv_iconst (v := 0) hx hb dX8_reset_43 (by decide) ?_
      exact gr_zW X hP hS (Option.some.inj hf) (by decide) dX8_reset_44
set_option maxHeartbeats 4000000 in
theorem w_X8_reset_22 {p : Program} {l : Launch} {e : Env} {R : Room} {s : State} {m : MethodId} {args : Array Value} {below : List Frame} {meth : Method} {c : Code} {D : va_G} {dA : Nat → ClassId} {A : Nat → Prop} {ad : L3 → Nat} (X : CX RX8 cX8_reset 5 (some .boolean) (KA D dA) p s m args meth c A) (hR : 5 ≤ R.frames ∧ 112 ≤ R.locals) {res : Mem × Int32} (S : Mem) (x1 : Int32) (x2 : Int32) (x3 : Int64) {H : Heap} {locs : List Loc} {ls : Array Slot} (hP : Wd D clA (shM dA) exM A ad S H) (hS : va_S A s.heap H locs) (hl : lv_has ls 5 [(0, .ref (ad M_o)), (1, .int x1), (2, .int x2), (3, .long x3)]) (hf : f_X8_reset_22 S x1 x2 x3 = some res) : W p l e R s m args below meth c H locs 0 0 (MQ below (QiW D (shM dA) exM A ad res) args s 0 0 A) (F0 m 22 ls [.ref (ad M_o)]) := by
  have hx := X.hx
  have hb := X.hb
  unfold f_X8_reset_22 at hf
  refine lv_iconst (v := 1) hx hb dX8_reset_22 (by decide) ?_
  refine lv_goto (tgt := 27) hx hb dX8_reset_23 (by decide) ?_
  exact w_X8_reset_27 X hR S x1 x2 x3 1 hP hS (lv_sub hl [0, 1, 2, 3] rfl) hf
set_option maxHeartbeats 4000000 in
theorem w_X8_reset {p : Program} {l : Launch} {e : Env} {R : Room} {s : State} {m : MethodId} {args : Array Value} {below : List Frame} {meth : Method} {c : Code} {D : va_G} {dA : Nat → ClassId} {A : Nat → Prop} {ad : L3 → Nat} (X : CX RX8 cX8_reset 5 (some .boolean) (KA D dA) p s m args meth c A) (hR : 5 ≤ R.frames ∧ 112 ≤ R.locals) {res : Mem × Int32} (S : Mem) (x1 : Int32) (x2 : Int32) (x3 : Int64) {H : Heap} {locs : List Loc} {ls : Array Slot} (hP : Wd D clA (shM dA) exM A ad S H) (hS : va_S A s.heap H locs) (hl : lv_has ls 5 [(0, .ref (ad M_o)), (1, .int x1), (2, .int x2), (3, .long x3)]) (hf : f_X8_reset S x1 x2 x3 = some res) : W p l e R s m args below meth c H locs 0 0 (MQ below (QiW D (shM dA) exM A ad res) args s 0 0 A) (F0 m 0 ls []) := by
  have hx := X.hx
  have hb := X.hb
  unfold f_X8_reset at hf
  refine lv_aload_n hx hb dX8_reset_0 rfl (lv_at hl 0 rfl) ?_
  refine lv_iload_n hx hb dX8_reset_1 rfl (lv_at hl 1 rfl) ?_
  obtain ⟨v1, hq, hf⟩ := gS_eq hf
  refine gc_i (gc_fixS (S := S) X (mt_X8_noSide l D dA A ad S x1 hq) (lw_S q1258 q1259 q93 q1260) ⟨rfl, rfl⟩ hd_X8_noSide.2 ⟨Nat.le_trans (Nat.le_of_ble_eq_true rfl) hR.1, Nat.le_trans (Nat.le_of_ble_eq_true rfl) hR.2⟩ hP hS ⟨Nat.zero_le _, Nat.zero_le _⟩ rfl hl.1 rfl (Nat.le_of_ble_eq_true rfl) dX8_reset_2) hS ?_
  rintro _ _ H locs ⟨rfl, rfl⟩ hP hS
  refine gb_if_ne (tgt := 22) hx hb dX8_reset_5 (by decide) hf (fun hf => ?_) (fun hf => ?_)
  · exact w_X8_reset_22 X hR S x1 x2 x3 hP hS (lv_sub hl [0, 1, 2, 3] rfl) hf
  · refine lv_lload_n hx hb dX8_reset_8 rfl (lv_at hl 3 rfl) ?_
    refine lv_lconst (v := 0) hx hb dX8_reset_9 (by decide) ?_
    refine gb_lcmp_lt (tgt := 22) hx hb dX8_reset_10 dX8_reset_11 (by decide) hf (fun hf => ?_) (fun hf => ?_)
    · exact w_X8_reset_22 X hR S x1 x2 x3 hP hS (lv_sub hl [0, 1, 2, 3] rfl) hf
    · refine lv_lload_n hx hb dX8_reset_14 rfl (lv_at hl 3 rfl) ?_
      refine lv_ldc2 hx hb X.hown (X.hts _ q1335) dX8_reset_15 ?_
      refine gb_lcmp_le (tgt := 26) hx hb dX8_reset_18 dX8_reset_19 (by decide) hf (fun hf => ?_) (fun hf => ?_)
      · refine lv_iconst (v := 0) hx hb dX8_reset_26 (by decide) ?_
        exact w_X8_reset_27 X hR S x1 x2 x3 0 hP hS (lv_sub hl [0, 1, 2, 3] rfl) hf
      · exact w_X8_reset_22 X hR S x1 x2 x3 hP hS (lv_sub hl [0, 1, 2, 3] rfl) hf
theorem hd_X8_reset : yX8_reset.cls = RX8 ∧ yX8_reset.cls ≠ "java/lang/invoke/MethodHandle" ∧ yX8_reset.cls ≠ "java/lang/invoke/VarHandle" ∧ (parseMethodDescriptor yX8_reset.desc).map (fun d => d.parameters.length) = some 3 := by decide +kernel
set_option maxHeartbeats 4000000 in
theorem mt_X8_reset (l : Launch) (D : va_G) (dA : Nat → ClassId) (A : Nat → Prop) (ad : L3 → Nat) (S : Mem) (x1 : Int32) (x2 : Int32) (x3 : Int64) {res : Mem × Int32} (hq : f_X8_reset S x1 x2 x3 = some res) : Met l yX8_reset (ws_ yX8_reset cX8_reset 5 (some .boolean)) ({ frames := 5, cells := 0, slots := 0, locals := 112 } : Room) (va_Pc [.ref (ad M_o), .int x1, .int x2, .long x3] (PreW D dA (shM dA) exM A ad S)) (QiW D (shM dA) exM A ad res) 0 0 A :=
  gx_head (by decide) (Nat.le_of_ble_eq_true rfl) (fun p e s m below meth c ls X hP hl => w_X8_reset (l := l) X ⟨Nat.le_of_ble_eq_true rfl, Nat.le_of_ble_eq_true rfl⟩ S x1 x2 x3 hP va_S.rf (lv_sub (l := [(0, .ref (ad M_o)), (1, .int x1), (2, .int x2), (3, .long x3)]) hl [0, 1, 2, 3] rfl) hq)
set_option maxHeartbeats 4000000 in
theorem w_X8_receives_15 {p : Program} {l : Launch} {e : Env} {R : Room} {s : State} {m : MethodId} {args : Array Value} {below : List Frame} {meth : Method} {c : Code} {D : va_G} {dA : Nat → ClassId} {A : Nat → Prop} {ad : L3 → Nat} (X : CX RX8 cX8_receives 3 (some .boolean) (KA D dA) p s m args meth c A) (hR : 2 ≤ R.frames ∧ 42 ≤ R.locals) {res : Int32} (S : Mem) {H : Heap} {locs : List Loc} {ls : Array Slot} (hP : Wd D clA (shM dA) exM A ad S H) (hS : va_S A s.heap H locs) (hl : lv_has ls 3 []) (hf : f_X8_receives_15 = res) : W p l e R s m args below meth c H locs 0 0 (MQ below (QiR D (shM dA) exM A ad S res) args s 0 0 A) (F0 m 15 ls []) := by
  have hx := X.hx
  have hb := X.hb
  unfold f_X8_receives_15 at hf
  refine lv_iconst (v := 1) hx hb dX8_receives_15 (by decide) ?_
  refine lv_goto (tgt := 20) hx hb dX8_receives_16 (by decide) ?_
  exact gr_zR X hP hS hf (by decide) dX8_receives_20
set_option maxHeartbeats 4000000 in
theorem w_X8_receives {p : Program} {l : Launch} {e : Env} {R : Room} {s : State} {m : MethodId} {args : Array Value} {below : List Frame} {meth : Method} {c : Code} {D : va_G} {dA : Nat → ClassId} {A : Nat → Prop} {ad : L3 → Nat} (X : CX RX8 cX8_receives 3 (some .boolean) (KA D dA) p s m args meth c A) (hR : 2 ≤ R.frames ∧ 42 ≤ R.locals) {res : Int32} (S : Mem) (x0 : Int32) (x1 : Int64) {H : Heap} {locs : List Loc} {ls : Array Slot} (hP : Wd D clA (shM dA) exM A ad S H) (hS : va_S A s.heap H locs) (hl : lv_has ls 3 [(0, .int x0), (1, .long x1)]) (hf : f_X8_receives x0 x1 = res) : W p l e R s m args below meth c H locs 0 0 (MQ below (QiR D (shM dA) exM A ad S res) args s 0 0 A) (F0 m 0 ls []) := by
  have hx := X.hx
  have hb := X.hb
  unfold f_X8_receives at hf
  refine lv_lload_n hx hb dX8_receives_0 rfl (lv_at hl 1 rfl) ?_
  obtain ⟨v1, hq, hf⟩ := gS_eq hf
  refine gc_i (gc_fixS (S := S) X (mt_X8_wayOf l D dA A ad S x1 hq) (lw_S q1290 q1291 q93 q1292) ⟨rfl, rfl⟩ hd_X8_wayOf.2 ⟨Nat.le_trans (Nat.le_of_ble_eq_true rfl) hR.1, Nat.le_trans (Nat.le_of_ble_eq_true rfl) hR.2⟩ hP hS ⟨Nat.zero_le _, Nat.zero_le _⟩ rfl hl.1 rfl (Nat.le_of_ble_eq_true rfl) dX8_receives_1) hS ?_
  rintro _ _ H locs ⟨rfl, rfl⟩ hP hS
  refine gb_if_eq (tgt := 15) hx hb dX8_receives_4 (by decide) hf (fun hf => ?_) (fun hf => ?_)
  · exact w_X8_receives_15 X hR S hP hS (lv_sub hl [] rfl) hf
  · refine lv_iload_n hx hb dX8_receives_7 rfl (lv_at hl 0 rfl) ?_
    refine lv_lload_n hx hb dX8_receives_8 rfl (lv_at hl 1 rfl) ?_
    obtain ⟨v2, hq, hf⟩ := gS_eq hf
    refine gc_i (gc_fixS (S := S) X (mt_X8_opens l D dA A ad S x0 x1 hq) (lw_S q1293 q1294 q93 q1295) ⟨rfl, rfl⟩ hd_X8_opens.2 ⟨Nat.le_trans (Nat.le_of_ble_eq_true rfl) hR.1, Nat.le_trans (Nat.le_of_ble_eq_true rfl) hR.2⟩ hP hS ⟨Nat.zero_le _, Nat.zero_le _⟩ rfl hl.1 rfl (Nat.le_of_ble_eq_true rfl) dX8_receives_9) hS ?_
    rintro _ _ H locs ⟨rfl, rfl⟩ hP hS
    refine gb_if_ne (tgt := 19) hx hb dX8_receives_12 (by decide) hf (fun hf => ?_) (fun hf => ?_)
    · refine lv_iconst (v := 0) hx hb dX8_receives_19 (by decide) ?_
      exact gr_zR X hP hS hf (by decide) dX8_receives_20
    · exact w_X8_receives_15 X hR S hP hS (lv_sub hl [] rfl) hf
theorem hd_X8_receives : yX8_receives.cls = RX8 ∧ yX8_receives.cls ≠ "java/lang/invoke/MethodHandle" ∧ yX8_receives.cls ≠ "java/lang/invoke/VarHandle" ∧ (parseMethodDescriptor yX8_receives.desc).map (fun d => d.parameters.length) = some 2 := by decide +kernel
set_option maxHeartbeats 4000000 in
theorem mt_X8_receives (l : Launch) (D : va_G) (dA : Nat → ClassId) (A : Nat → Prop) (ad : L3 → Nat) (S : Mem) (x0 : Int32) (x1 : Int64) {res : Int32} (hq : f_X8_receives x0 x1 = res) : Met l yX8_receives (ws_ yX8_receives cX8_receives 3 (some .boolean)) ({ frames := 2, cells := 0, slots := 0, locals := 42 } : Room) (va_Pc [.int x0, .long x1] (PreW D dA (shM dA) exM A ad S)) (QiR D (shM dA) exM A ad S res) 0 0 A :=
  gx_head (by decide) (Nat.le_of_ble_eq_true rfl) (fun p e s m below meth c ls X hP hl => w_X8_receives (l := l) X ⟨Nat.le_of_ble_eq_true rfl, Nat.le_of_ble_eq_true rfl⟩ S x0 x1 hP va_S.rf (lv_sub (l := [(0, .int x0), (1, .long x1)]) hl [0, 1] rfl) hq)
set_option maxHeartbeats 4000000 in
theorem w_X8_hasReceiving {p : Program} {l : Launch} {e : Env} {R : Room} {s : State} {m : MethodId} {args : Array Value} {below : List Frame} {meth : Method} {c : Code} {D : va_G} {dA : Nat → ClassId} {A : Nat → Prop} {ad : L3 → Nat} (X : CX RX8 cX8_hasReceiving 3 (some .boolean) (KA D dA) p s m args meth c A) (hR : 3 ≤ R.frames ∧ 64 ≤ R.locals) {res : Int32} (S : Mem) (x1 : Int32) (x2 : Int32) {H : Heap} {locs : List Loc} {ls : Array Slot} (hP : Wd D clA (shM dA) exM A ad S H) (hS : va_S A s.heap H locs) (hl : lv_has ls 3 [(0, .ref (ad M_o)), (1, .int x1), (2, .int x2)]) (hf : f_X8_hasReceiving S x1 x2 = some res) : W p l e R s m args below meth c H locs 0 0 (MQ below (QiR D (shM dA) exM A ad S res) args s 0 0 A) (F0 m 0 ls []) := by
  have hx := X.hx
  have hb := X.hb
  unfold f_X8_hasReceiving at hf
  refine lv_aload_n hx hb dX8_hasReceiving_0 rfl (lv_at hl 0 rfl) ?_
  refine lv_iload_n hx hb dX8_hasReceiving_1 rfl (lv_at hl 1 rfl) ?_
  refine lv_iload_n hx hb dX8_hasReceiving_2 rfl (lv_at hl 2 rfl) ?_
  obtain ⟨v1, hq, hf⟩ := gB_some hf
  refine gc_i (gc_fixV (S := S) X (mt_X8_isThere l D dA A ad S x1 x2 hq) (lw_V q1308 q1310 qs40 q93 q1311) ⟨rfl, rfl⟩ hd_X8_isThere ⟨Nat.le_trans (Nat.le_of_ble_eq_true rfl) hR.1, Nat.le_trans (Nat.le_of_ble_eq_true rfl) hR.2⟩ (wd_recv (r := M_o) (ci := 0) (q := (RX8, TX8, 61)) X.hK.1 hP ⟨rfl, rfl⟩ rfl rfl) hP hS ⟨Nat.zero_le _, Nat.zero_le _⟩ rfl hl.1 rfl (Nat.le_of_ble_eq_true rfl) dX8_hasReceiving_3) hS ?_
  rintro _ _ H locs ⟨rfl, rfl⟩ hP hS
  refine gb_if_eq (tgt := 22) hx hb dX8_hasReceiving_6 (by decide) hf (fun hf => ?_) (fun hf => ?_)
  · refine lv_iconst (v := 0) hx hb dX8_hasReceiving_22 (by decide) ?_
    exact gr_zR X hP hS (Option.some.inj hf) (by decide) dX8_hasReceiving_23
  · refine lv_iload_n hx hb dX8_hasReceiving_9 rfl (lv_at hl 1 rfl) ?_
    refine lv_iload_n hx hb dX8_hasReceiving_10 rfl (lv_at hl 2 rfl) ?_
    refine lv_i2l hx hb dX8_hasReceiving_11 rfl ?_
    obtain ⟨v2, hq, hf⟩ := gS_eq hf
    refine gc_i (gc_fixS (S := S) X (mt_X8_receives l D dA A ad S x1 (Int32.toInt64 x2) hq) (lw_S q1352 q1353 q93 q1354) ⟨rfl, rfl⟩ hd_X8_receives.2 ⟨Nat.le_trans (Nat.le_of_ble_eq_true rfl) hR.1, Nat.le_trans (Nat.le_of_ble_eq_true rfl) hR.2⟩ hP hS ⟨Nat.zero_le _, Nat.zero_le _⟩ rfl hl.1 rfl (Nat.le_of_ble_eq_true rfl) dX8_hasReceiving_12) hS ?_
    rintro _ _ H locs ⟨rfl, rfl⟩ hP hS
    refine gb_if_eq (tgt := 22) hx hb dX8_hasReceiving_15 (by decide) hf (fun hf => ?_) (fun hf => ?_)
    · refine lv_iconst (v := 0) hx hb dX8_hasReceiving_22 (by decide) ?_
      exact gr_zR X hP hS (Option.some.inj hf) (by decide) dX8_hasReceiving_23
    · refine lv_iconst (v := 1) hx hb dX8_hasReceiving_18 (by decide) ?_
      refine lv_goto (tgt := 23) hx hb dX8_hasReceiving_19 (by decide) ?_
      exact gr_zR X hP hS (Option.some.inj hf) (by decide) dX8_hasReceiving_23
theorem hd_X8_hasReceiving : yX8_hasReceiving.cls = RX8 ∧ yX8_hasReceiving.cls ≠ "java/lang/invoke/MethodHandle" ∧ yX8_hasReceiving.cls ≠ "java/lang/invoke/VarHandle" ∧ (parseMethodDescriptor yX8_hasReceiving.desc).map (fun d => d.parameters.length) = some 2 := by decide +kernel
set_option maxHeartbeats 4000000 in
theorem mt_X8_hasReceiving (l : Launch) (D : va_G) (dA : Nat → ClassId) (A : Nat → Prop) (ad : L3 → Nat) (S : Mem) (x1 : Int32) (x2 : Int32) {res : Int32} (hq : f_X8_hasReceiving S x1 x2 = some res) : Met l yX8_hasReceiving (ws_ yX8_hasReceiving cX8_hasReceiving 3 (some .boolean)) ({ frames := 3, cells := 0, slots := 0, locals := 64 } : Room) (va_Pc [.ref (ad M_o), .int x1, .int x2] (PreW D dA (shM dA) exM A ad S)) (QiR D (shM dA) exM A ad S res) 0 0 A :=
  gx_head (by decide) (Nat.le_of_ble_eq_true rfl) (fun p e s m below meth c ls X hP hl => w_X8_hasReceiving (l := l) X ⟨Nat.le_of_ble_eq_true rfl, Nat.le_of_ble_eq_true rfl⟩ S x1 x2 hP va_S.rf (lv_sub (l := [(0, .ref (ad M_o)), (1, .int x1), (2, .int x2)]) hl [0, 1, 2] rfl) hq)
set_option maxHeartbeats 4000000 in
theorem w_X8_pieceAt_49 {p : Program} {l : Launch} {e : Env} {R : Room} {s : State} {m : MethodId} {args : Array Value} {below : List Frame} {meth : Method} {c : Code} {D : va_G} {dA : Nat → ClassId} {A : Nat → Prop} {ad : L3 → Nat} (X : CX RX8 cX8_pieceAt 5 (some .int) (KA D dA) p s m args meth c A) (hR : 1 ≤ R.frames ∧ 20 ≤ R.locals) {res : Int32} (S : Mem) (k7 : Int32 → Int32 → Int32 → Int32 → Option (Int32)) (hk7 : ∀ (x1 : Int32) (x2 : Int32) (x3 : Int32) (x4 : Int32) (H : Heap) (locs : List Loc) (ls : Array Slot), Wd D clA (shM dA) exM A ad S H → va_S A s.heap H locs → lv_has ls 5 [(0, .ref (ad M_o)), (1, .int x1), (2, .int x2), (3, .int x3), (4, .int x4)] → k7 x1 x2 x3 x4 = some res → W p l e R s m args below meth c H locs 0 0 (MQ below (QiR D (shM dA) exM A ad S res) args s 0 0 A) (F0 m 7 ls [])) (x1 : Int32) (x2 : Int32) (x3 : Int32) (x4 : Int32) {H : Heap} {locs : List Loc} {ls : Array Slot} (hP : Wd D clA (shM dA) exM A ad S H) (hS : va_S A s.heap H locs) (hl : lv_has ls 5 [(0, .ref (ad M_o)), (1, .int x1), (2, .int x2), (3, .int x3), (4, .int x4)]) (hf : f_X8_pieceAt_49 S k7 x1 x2 x3 x4 = some res) : W p l e R s m args below meth c H locs 0 0 (MQ below (QiR D (shM dA) exM A ad S res) args s 0 0 A) (F0 m 49 ls []) := by
  have hx := X.hx
  have hb := X.hb
  unfold f_X8_pieceAt_49 at hf
  refine lv_iinc (v := (x4 + 1)) (lv' := [(4, .int (x4 + 1)), (0, .ref (ad M_o)), (1, .int x1), (2, .int x2), (3, .int x3)]) hx hb dX8_pieceAt_49 hl (k := 4) rfl rfl (by decide) rfl (fun ls hl => ?_)
  refine lv_goto (tgt := 7) hx hb dX8_pieceAt_52 (by decide) ?_
  exact hk7 x1 x2 x3 (x4 + 1) _ _ _ hP hS (lv_sub hl [1, 2, 3, 4, 0] rfl) hf
set_option maxHeartbeats 4000000 in
theorem w_X8_pieceAt_7_b {p : Program} {l : Launch} {e : Env} {R : Room} {s : State} {m : MethodId} {args : Array Value} {below : List Frame} {meth : Method} {c : Code} {D : va_G} {dA : Nat → ClassId} {A : Nat → Prop} {ad : L3 → Nat} (X : CX RX8 cX8_pieceAt 5 (some .int) (KA D dA) p s m args meth c A) (hR : 1 ≤ R.frames ∧ 20 ≤ R.locals) {res : Int32} (S : Mem) (k7 : Int32 → Int32 → Int32 → Int32 → Option (Int32)) (hk7 : ∀ (x1 : Int32) (x2 : Int32) (x3 : Int32) (x4 : Int32) (H : Heap) (locs : List Loc) (ls : Array Slot), Wd D clA (shM dA) exM A ad S H → va_S A s.heap H locs → lv_has ls 5 [(0, .ref (ad M_o)), (1, .int x1), (2, .int x2), (3, .int x3), (4, .int x4)] → k7 x1 x2 x3 x4 = some res → W p l e R s m args below meth c H locs 0 0 (MQ below (QiR D (shM dA) exM A ad S res) args s 0 0 A) (F0 m 7 ls [])) (x1 : Int32) (x2 : Int32) (x3 : Int32) (x4 : Int32) {H : Heap} {locs : List Loc} {ls : Array Slot} (hP : Wd D clA (shM dA) exM A ad S H) (hS : va_S A s.heap H locs) (hl : lv_has ls 5 [(0, .ref (ad M_o)), (1, .int x1), (2, .int x2), (3, .int x3), (4, .int x4)]) (hf : f_X8_pieceAt_7_b S k7 x1 x2 x3 x4 = some res) : W p l e R s m args below meth c H locs 0 0 (MQ below (QiR D (shM dA) exM A ad S res) args s 0 0 A) (F0 m 7 ls []) := by
  have hx := X.hx
  have hb := X.hb
  unfold f_X8_pieceAt_7_b at hf
  refine lv_iload hx hb dX8_pieceAt_7 (lv_at hl 4 rfl) ?_
  refine lv_sipush (v := 1408) hx hb dX8_pieceAt_9 (by decide) ?_
  refine lv_iload_n hx hb dX8_pieceAt_12 rfl (lv_at hl 1 rfl) ?_
  refine lv_imul hx hb dX8_pieceAt_13 ?_
  refine lv_aload_n hx hb dX8_pieceAt_14 rfl (lv_at hl 0 rfl) ?_
  refine rg_X8_123 X hP dX8_pieceAt_15 ?_
  refine lv_iload_n hx hb dX8_pieceAt_18 rfl (lv_at hl 1 rfl) ?_
  refine ra_pieces_ld X hP dX8_pieceAt_19 hf (fun hf => ?_)
  refine lv_iadd hx hb dX8_pieceAt_20 ?_
  refine gb_icmp_ge (tgt := 55) hx hb dX8_pieceAt_21 (by decide) hf (fun hf => ?_) (fun hf => ?_)
  · refine lv_iconst (v := (-1)) hx hb dX8_pieceAt_55 (by decide) ?_
    exact gr_iR X hP hS (Option.some.inj hf) dX8_pieceAt_56
  · refine lv_aload_n hx hb dX8_pieceAt_24 rfl (lv_at hl 0 rfl) ?_
    refine rg_X8_126 X hP dX8_pieceAt_25 ?_
    refine lv_iload hx hb dX8_pieceAt_28 (lv_at hl 4 rfl) ?_
    refine ra_pieceOf_ld X hP dX8_pieceAt_30 hf (fun hf => ?_)
    refine lv_iload_n hx hb dX8_pieceAt_31 rfl (lv_at hl 2 rfl) ?_
    refine gb_icmp_ne (tgt := 49) hx hb dX8_pieceAt_32 (by decide) hf (fun hf => ?_) (fun hf => ?_)
    · exact w_X8_pieceAt_49 X hR S k7 hk7 x1 x2 x3 x4 hP hS (lv_sub hl [0, 1, 2, 3, 4] rfl) hf
    · refine lv_aload_n hx hb dX8_pieceAt_35 rfl (lv_at hl 0 rfl) ?_
      refine rg_X8_129 X hP dX8_pieceAt_36 ?_
      refine lv_iload hx hb dX8_pieceAt_39 (lv_at hl 4 rfl) ?_
      refine ra_pieceNumber_ld X hP dX8_pieceAt_41 hf (fun hf => ?_)
      refine lv_iload_n hx hb dX8_pieceAt_42 rfl (lv_at hl 3 rfl) ?_
      refine gb_icmp_ne (tgt := 49) hx hb dX8_pieceAt_43 (by decide) hf (fun hf => ?_) (fun hf => ?_)
      · exact w_X8_pieceAt_49 X hR S k7 hk7 x1 x2 x3 x4 hP hS (lv_sub hl [0, 1, 2, 3, 4] rfl) hf
      · refine lv_iload hx hb dX8_pieceAt_46 (lv_at hl 4 rfl) ?_
        exact gr_iR X hP hS (Option.some.inj hf) dX8_pieceAt_48
set_option maxHeartbeats 4000000 in
theorem w_X8_pieceAt_7 {p : Program} {l : Launch} {e : Env} {R : Room} {s : State} {m : MethodId} {args : Array Value} {below : List Frame} {meth : Method} {c : Code} {D : va_G} {dA : Nat → ClassId} {A : Nat → Prop} {ad : L3 → Nat} (X : CX RX8 cX8_pieceAt 5 (some .int) (KA D dA) p s m args meth c A) (hR : 1 ≤ R.frames ∧ 20 ≤ R.locals) {res : Int32} (S : Mem) (n : Nat) : ∀ (x1 : Int32) (x2 : Int32) (x3 : Int32) (x4 : Int32) (H : Heap) (locs : List Loc) (ls : Array Slot), Wd D clA (shM dA) exM A ad S H → va_S A s.heap H locs → lv_has ls 5 [(0, .ref (ad M_o)), (1, .int x1), (2, .int x2), (3, .int x3), (4, .int x4)] → f_X8_pieceAt_7 S n x1 x2 x3 x4 = some res → W p l e R s m args below meth c H locs 0 0 (MQ below (QiR D (shM dA) exM A ad S res) args s 0 0 A) (F0 m 7 ls []) := by
  induction n with
  | zero =>
    intro x1 x2 x3 x4 H locs ls hP hS hl hf
    exact absurd (show none = some res from hf) (fun h => by cases h)
  | succ n ih =>
    intro x1 x2 x3 x4 H locs ls hP hS hl hf
    exact w_X8_pieceAt_7_b X hR S (f_X8_pieceAt_7 S n) ih x1 x2 x3 x4 hP hS hl hf
set_option maxHeartbeats 4000000 in
theorem w_X8_pieceAt {p : Program} {l : Launch} {e : Env} {R : Room} {s : State} {m : MethodId} {args : Array Value} {below : List Frame} {meth : Method} {c : Code} {D : va_G} {dA : Nat → ClassId} {A : Nat → Prop} {ad : L3 → Nat} (X : CX RX8 cX8_pieceAt 5 (some .int) (KA D dA) p s m args meth c A) (hR : 1 ≤ R.frames ∧ 20 ≤ R.locals) {res : Int32} (S : Mem) (x1 : Int32) (x2 : Int32) (x3 : Int32) {H : Heap} {locs : List Loc} {ls : Array Slot} (hP : Wd D clA (shM dA) exM A ad S H) (hS : va_S A s.heap H locs) (hl : lv_has ls 5 [(0, .ref (ad M_o)), (1, .int x1), (2, .int x2), (3, .int x3)]) (hf : f_X8_pieceAt S x1 x2 x3 = some res) : W p l e R s m args below meth c H locs 0 0 (MQ below (QiR D (shM dA) exM A ad S res) args s 0 0 A) (F0 m 0 ls []) := by
  have hx := X.hx
  have hb := X.hb
  unfold f_X8_pieceAt at hf
  refine lv_sipush (v := 1408) hx hb dX8_pieceAt_0 (by decide) ?_
  refine lv_iload_n hx hb dX8_pieceAt_3 rfl (lv_at hl 1 rfl) ?_
  refine lv_imul hx hb dX8_pieceAt_4 ?_
  refine lv_istore (lv' := [(4, .int (1408 * x1)), (0, .ref (ad M_o)), (1, .int x1), (2, .int x2), (3, .int x3)]) hx hb dX8_pieceAt_5 hl (by decide) rfl (fun ls hl => ?_)
  exact w_X8_pieceAt_7 X hR S FU x1 x2 x3 (1408 * x1) _ _ _ hP hS (lv_sub hl [1, 2, 3, 4, 0] rfl) hf
theorem hd_X8_pieceAt : yX8_pieceAt.cls = RX8 ∧ yX8_pieceAt.cls ≠ "java/lang/invoke/MethodHandle" ∧ yX8_pieceAt.cls ≠ "java/lang/invoke/VarHandle" ∧ (parseMethodDescriptor yX8_pieceAt.desc).map (fun d => d.parameters.length) = some 3 := by decide +kernel
set_option maxHeartbeats 4000000 in
theorem mt_X8_pieceAt (l : Launch) (D : va_G) (dA : Nat → ClassId) (A : Nat → Prop) (ad : L3 → Nat) (S : Mem) (x1 : Int32) (x2 : Int32) (x3 : Int32) {res : Int32} (hq : f_X8_pieceAt S x1 x2 x3 = some res) : Met l yX8_pieceAt (ws_ yX8_pieceAt cX8_pieceAt 5 (some .int)) ({ frames := 1, cells := 0, slots := 0, locals := 20 } : Room) (va_Pc [.ref (ad M_o), .int x1, .int x2, .int x3] (PreW D dA (shM dA) exM A ad S)) (QiR D (shM dA) exM A ad S res) 0 0 A :=
  gx_head (by decide) (Nat.le_of_ble_eq_true rfl) (fun p e s m below meth c ls X hP hl => w_X8_pieceAt (l := l) X ⟨Nat.le_of_ble_eq_true rfl, Nat.le_of_ble_eq_true rfl⟩ S x1 x2 x3 hP va_S.rf (lv_sub (l := [(0, .ref (ad M_o)), (1, .int x1), (2, .int x2), (3, .int x3)]) hl [0, 1, 2, 3] rfl) hq)
set_option maxHeartbeats 4000000 in
theorem w_X8_isHere {p : Program} {l : Launch} {e : Env} {R : Room} {s : State} {m : MethodId} {args : Array Value} {below : List Frame} {meth : Method} {c : Code} {D : va_G} {dA : Nat → ClassId} {A : Nat → Prop} {ad : L3 → Nat} (X : CX RX8 cX8_isHere 6 (some .boolean) (KA D dA) p s m args meth c A) (hR : 2 ≤ R.frames ∧ 44 ≤ R.locals) {res : Int32} (S : Mem) (x1 : Int32) (x2 : Int32) (x3 : Int64) {H : Heap} {locs : List Loc} {ls : Array Slot} (hP : Wd D clA (shM dA) exM A ad S H) (hS : va_S A s.heap H locs) (hl : lv_has ls 6 [(0, .ref (ad M_o)), (1, .int x1), (2, .int x2), (3, .long x3)]) (hf : f_X8_isHere S x1 x2 x3 = some res) : W p l e R s m args below meth c H locs 0 0 (MQ below (QiR D (shM dA) exM A ad S res) args s 0 0 A) (F0 m 0 ls []) := by
  have hx := X.hx
  have hb := X.hb
  unfold f_X8_isHere at hf
  refine lv_aload_n hx hb dX8_isHere_0 rfl (lv_at hl 0 rfl) ?_
  refine lv_iload_n hx hb dX8_isHere_1 rfl (lv_at hl 1 rfl) ?_
  refine lv_iload_n hx hb dX8_isHere_2 rfl (lv_at hl 2 rfl) ?_
  refine lv_lload_n hx hb dX8_isHere_3 rfl (lv_at hl 3 rfl) ?_
  refine lv_ldc2 hx hb X.hown (X.hts _ q1367) dX8_isHere_4 ?_
  refine lv_ldiv hx hb dX8_isHere_7 (by decide) ?_
  refine lv_l2i hx hb dX8_isHere_8 rfl ?_
  obtain ⟨v1, hq, hf⟩ := gB_some hf
  refine gc_i (gc_fixV (S := S) X (mt_X8_pieceAt l D dA A ad S x1 x2 (Int64.toInt32 (x3 / 64)) hq) (lw_V q1368 q1370 qs50 q93 q1371) ⟨rfl, rfl⟩ hd_X8_pieceAt ⟨Nat.le_trans (Nat.le_of_ble_eq_true rfl) hR.1, Nat.le_trans (Nat.le_of_ble_eq_true rfl) hR.2⟩ (wd_recv (r := M_o) (ci := 0) (q := (RX8, TX8, 61)) X.hK.1 hP ⟨rfl, rfl⟩ rfl rfl) hP hS ⟨Nat.zero_le _, Nat.zero_le _⟩ rfl hl.1 rfl (Nat.le_of_ble_eq_true rfl) dX8_isHere_9) hS ?_
  rintro _ _ H locs ⟨rfl, rfl⟩ hP hS
  refine lv_istore (lv' := [(5, .int v1), (0, .ref (ad M_o)), (1, .int x1), (2, .int x2), (3, .long x3)]) hx hb dX8_isHere_12 hl (by decide) rfl (fun ls hl => ?_)
  refine lv_iload hx hb dX8_isHere_14 (lv_at hl 0 rfl) ?_
  refine gb_if_lt (tgt := 43) hx hb dX8_isHere_16 (by decide) hf (fun hf => ?_) (fun hf => ?_)
  · refine lv_iconst (v := 0) hx hb dX8_isHere_43 (by decide) ?_
    exact gr_zR X hP hS (Option.some.inj hf) (by decide) dX8_isHere_44
  · refine lv_aload_n hx hb dX8_isHere_19 rfl (lv_at hl 1 rfl) ?_
    refine rg_X8_136 X hP dX8_isHere_20 ?_
    refine lv_bipush (v := 64) hx hb dX8_isHere_23 (by decide) ?_
    refine lv_iload hx hb dX8_isHere_25 (lv_at hl 0 rfl) ?_
    refine lv_imul hx hb dX8_isHere_27 ?_
    refine lv_lload_n hx hb dX8_isHere_28 rfl (lv_at hl 4 rfl) ?_
    refine lv_ldc2 hx hb X.hown (X.hts _ q1367) dX8_isHere_29 ?_
    refine lv_lrem hx hb dX8_isHere_32 (by decide) ?_
    refine lv_l2i hx hb dX8_isHere_33 rfl ?_
    refine lv_iadd hx hb dX8_isHere_34 ?_
    refine ra_has_ld X hP dX8_isHere_35 hf (fun hf => ?_)
    refine gb_if_eq (tgt := 43) hx hb dX8_isHere_36 (by decide) hf (fun hf => ?_) (fun hf => ?_)
    · refine lv_iconst (v := 0) hx hb dX8_isHere_43 (by decide) ?_
      exact gr_zR X hP hS (Option.some.inj hf) (by decide) dX8_isHere_44
    · refine lv_iconst (v := 1) hx hb dX8_isHere_39 (by decide) ?_
      refine lv_goto (tgt := 44) hx hb dX8_isHere_40 (by decide) ?_
      exact gr_zR X hP hS (Option.some.inj hf) (by decide) dX8_isHere_44
theorem hd_X8_isHere : yX8_isHere.cls = RX8 ∧ yX8_isHere.cls ≠ "java/lang/invoke/MethodHandle" ∧ yX8_isHere.cls ≠ "java/lang/invoke/VarHandle" ∧ (parseMethodDescriptor yX8_isHere.desc).map (fun d => d.parameters.length) = some 3 := by decide +kernel
set_option maxHeartbeats 4000000 in
theorem mt_X8_isHere (l : Launch) (D : va_G) (dA : Nat → ClassId) (A : Nat → Prop) (ad : L3 → Nat) (S : Mem) (x1 : Int32) (x2 : Int32) (x3 : Int64) {res : Int32} (hq : f_X8_isHere S x1 x2 x3 = some res) : Met l yX8_isHere (ws_ yX8_isHere cX8_isHere 6 (some .boolean)) ({ frames := 2, cells := 0, slots := 0, locals := 44 } : Room) (va_Pc [.ref (ad M_o), .int x1, .int x2, .long x3] (PreW D dA (shM dA) exM A ad S)) (QiR D (shM dA) exM A ad S res) 0 0 A :=
  gx_head (by decide) (Nat.le_of_ble_eq_true rfl) (fun p e s m below meth c ls X hP hl => w_X8_isHere (l := l) X ⟨Nat.le_of_ble_eq_true rfl, Nat.le_of_ble_eq_true rfl⟩ S x1 x2 x3 hP va_S.rf (lv_sub (l := [(0, .ref (ad M_o)), (1, .int x1), (2, .int x2), (3, .long x3)]) hl [0, 1, 2, 3] rfl) hq)
set_option maxHeartbeats 4000000 in
theorem w_X8_readyOf_11_b {p : Program} {l : Launch} {e : Env} {R : Room} {s : State} {m : MethodId} {args : Array Value} {below : List Frame} {meth : Method} {c : Code} {D : va_G} {dA : Nat → ClassId} {A : Nat → Prop} {ad : L3 → Nat} (X : CX RX8 cX8_readyOf 5 (some .long) (KA D dA) p s m args meth c A) (hR : 3 ≤ R.frames ∧ 69 ≤ R.locals) {res : Int64} (S : Mem) (k11 : Int32 → Int32 → Int64 → Option (Int64)) (hk11 : ∀ (x1 : Int32) (x2 : Int32) (x3 : Int64) (H : Heap) (locs : List Loc) (ls : Array Slot), Wd D clA (shM dA) exM A ad S H → va_S A s.heap H locs → lv_has ls 5 [(0, .ref (ad M_o)), (1, .int x1), (2, .int x2), (3, .long x3)] → k11 x1 x2 x3 = some res → W p l e R s m args below meth c H locs 0 0 (MQ below (QjR D (shM dA) exM A ad S res) args s 0 0 A) (F0 m 11 ls [])) (x1 : Int32) (x2 : Int32) (x3 : Int64) {H : Heap} {locs : List Loc} {ls : Array Slot} (hP : Wd D clA (shM dA) exM A ad S H) (hS : va_S A s.heap H locs) (hl : lv_has ls 5 [(0, .ref (ad M_o)), (1, .int x1), (2, .int x2), (3, .long x3)]) (hf : f_X8_readyOf_11_b S k11 x1 x2 x3 = some res) : W p l e R s m args below meth c H locs 0 0 (MQ below (QjR D (shM dA) exM A ad S res) args s 0 0 A) (F0 m 11 ls []) := by
  have hx := X.hx
  have hb := X.hb
  unfold f_X8_readyOf_11_b at hf
  refine lv_aload_n hx hb dX8_readyOf_11 rfl (lv_at hl 0 rfl) ?_
  refine lv_iload_n hx hb dX8_readyOf_12 rfl (lv_at hl 1 rfl) ?_
  refine lv_iload_n hx hb dX8_readyOf_13 rfl (lv_at hl 2 rfl) ?_
  refine lv_lload_n hx hb dX8_readyOf_14 rfl (lv_at hl 3 rfl) ?_
  obtain ⟨v1, hq, hf⟩ := gB_some hf
  refine gc_i (gc_fixV (S := S) X (mt_X8_isHere l D dA A ad S x1 x2 x3 hq) (lw_V q1363 q1365 qs49 q93 q1366) ⟨rfl, rfl⟩ hd_X8_isHere ⟨Nat.le_trans (Nat.le_of_ble_eq_true rfl) hR.1, Nat.le_trans (Nat.le_of_ble_eq_true rfl) hR.2⟩ (wd_recv (r := M_o) (ci := 0) (q := (RX8, TX8, 61)) X.hK.1 hP ⟨rfl, rfl⟩ rfl rfl) hP hS ⟨Nat.zero_le _, Nat.zero_le _⟩ rfl hl.1 rfl (Nat.le_of_ble_eq_true rfl) dX8_readyOf_15) hS ?_
  rintro _ _ H locs ⟨rfl, rfl⟩ hP hS
  refine gb_if_eq (tgt := 28) hx hb dX8_readyOf_18 (by decide) hf (fun hf => ?_) (fun hf => ?_)
  · refine lv_lload_n hx hb dX8_readyOf_28 rfl (lv_at hl 3 rfl) ?_
    exact gr_lR X hP hS (Option.some.inj hf) dX8_readyOf_29
  · refine lv_lload_n hx hb dX8_readyOf_21 rfl (lv_at hl 3 rfl) ?_
    refine lv_lconst (v := 1) hx hb dX8_readyOf_22 (by decide) ?_
    refine lv_ladd hx hb dX8_readyOf_23 ?_
    refine lv_lstore_n (lv' := [(3, .long (x3 + 1)), (0, .ref (ad M_o)), (1, .int x1), (2, .int x2)]) hx hb dX8_readyOf_24 rfl hl (by decide) rfl (fun ls hl => ?_)
    refine lv_goto (tgt := 11) hx hb dX8_readyOf_25 (by decide) ?_
    exact hk11 x1 x2 (x3 + 1) _ _ _ hP hS (lv_sub hl [1, 2, 3, 0] rfl) hf
set_option maxHeartbeats 4000000 in
theorem w_X8_readyOf_11 {p : Program} {l : Launch} {e : Env} {R : Room} {s : State} {m : MethodId} {args : Array Value} {below : List Frame} {meth : Method} {c : Code} {D : va_G} {dA : Nat → ClassId} {A : Nat → Prop} {ad : L3 → Nat} (X : CX RX8 cX8_readyOf 5 (some .long) (KA D dA) p s m args meth c A) (hR : 3 ≤ R.frames ∧ 69 ≤ R.locals) {res : Int64} (S : Mem) (n : Nat) : ∀ (x1 : Int32) (x2 : Int32) (x3 : Int64) (H : Heap) (locs : List Loc) (ls : Array Slot), Wd D clA (shM dA) exM A ad S H → va_S A s.heap H locs → lv_has ls 5 [(0, .ref (ad M_o)), (1, .int x1), (2, .int x2), (3, .long x3)] → f_X8_readyOf_11 S n x1 x2 x3 = some res → W p l e R s m args below meth c H locs 0 0 (MQ below (QjR D (shM dA) exM A ad S res) args s 0 0 A) (F0 m 11 ls []) := by
  induction n with
  | zero =>
    intro x1 x2 x3 H locs ls hP hS hl hf
    exact absurd (show none = some res from hf) (fun h => by cases h)
  | succ n ih =>
    intro x1 x2 x3 H locs ls hP hS hl hf
    exact w_X8_readyOf_11_b X hR S (f_X8_readyOf_11 S n) ih x1 x2 x3 hP hS hl hf
set_option maxHeartbeats 4000000 in
theorem w_X8_readyOf {p : Program} {l : Launch} {e : Env} {R : Room} {s : State} {m : MethodId} {args : Array Value} {below : List Frame} {meth : Method} {c : Code} {D : va_G} {dA : Nat → ClassId} {A : Nat → Prop} {ad : L3 → Nat} (X : CX RX8 cX8_readyOf 5 (some .long) (KA D dA) p s m args meth c A) (hR : 3 ≤ R.frames ∧ 69 ≤ R.locals) {res : Int64} (S : Mem) (x1 : Int32) (x2 : Int32) {H : Heap} {locs : List Loc} {ls : Array Slot} (hP : Wd D clA (shM dA) exM A ad S H) (hS : va_S A s.heap H locs) (hl : lv_has ls 5 [(0, .ref (ad M_o)), (1, .int x1), (2, .int x2)]) (hf : f_X8_readyOf S x1 x2 = some res) : W p l e R s m args below meth c H locs 0 0 (MQ below (QjR D (shM dA) exM A ad S res) args s 0 0 A) (F0 m 0 ls []) := by
  have hx := X.hx
  have hb := X.hb
  unfold f_X8_readyOf at hf
  refine lv_aload_n hx hb dX8_readyOf_0 rfl (lv_at hl 0 rfl) ?_
  refine rg_X8_81 X hP dX8_readyOf_1 ?_
  refine lv_iload_n hx hb dX8_readyOf_4 rfl (lv_at hl 1 rfl) ?_
  refine lv_iload_n hx hb dX8_readyOf_5 rfl (lv_at hl 2 rfl) ?_
  obtain ⟨v1, hq, hf⟩ := gS_eq hf
  refine gc_i (gc_fixS (S := S) X (mt_X8_at l D dA A ad S x1 x2 hq) (lw_S q1283 q1284 q93 q1285) ⟨rfl, rfl⟩ hd_X8_at.2 ⟨Nat.le_trans (Nat.le_of_ble_eq_true rfl) hR.1, Nat.le_trans (Nat.le_of_ble_eq_true rfl) hR.2⟩ hP hS ⟨Nat.zero_le _, Nat.zero_le _⟩ rfl hl.1 rfl (Nat.le_of_ble_eq_true rfl) dX8_readyOf_6) hS ?_
  rintro _ _ H locs ⟨rfl, rfl⟩ hP hS
  refine ra_read_ld X hP dX8_readyOf_9 hf (fun hf => ?_)
  refine lv_lstore_n (lv' := [(3, .long (S.2 M_read (Int32.toNatClampNeg v1))), (0, .ref (ad M_o)), (1, .int x1), (2, .int x2)]) hx hb dX8_readyOf_10 rfl hl (by decide) rfl (fun ls hl => ?_)
  exact w_X8_readyOf_11 X hR S FU x1 x2 (S.2 M_read (Int32.toNatClampNeg v1)) _ _ _ hP hS (lv_sub hl [1, 2, 3, 0] rfl) hf
theorem hd_X8_readyOf : yX8_readyOf.cls = RX8 ∧ yX8_readyOf.cls ≠ "java/lang/invoke/MethodHandle" ∧ yX8_readyOf.cls ≠ "java/lang/invoke/VarHandle" ∧ (parseMethodDescriptor yX8_readyOf.desc).map (fun d => d.parameters.length) = some 2 := by decide +kernel
set_option maxHeartbeats 4000000 in
theorem mt_X8_readyOf (l : Launch) (D : va_G) (dA : Nat → ClassId) (A : Nat → Prop) (ad : L3 → Nat) (S : Mem) (x1 : Int32) (x2 : Int32) {res : Int64} (hq : f_X8_readyOf S x1 x2 = some res) : Met l yX8_readyOf (ws_ yX8_readyOf cX8_readyOf 5 (some .long)) ({ frames := 3, cells := 0, slots := 0, locals := 69 } : Room) (va_Pc [.ref (ad M_o), .int x1, .int x2] (PreW D dA (shM dA) exM A ad S)) (QjR D (shM dA) exM A ad S res) 0 0 A :=
  gx_head (by decide) (Nat.le_of_ble_eq_true rfl) (fun p e s m below meth c ls X hP hl => w_X8_readyOf (l := l) X ⟨Nat.le_of_ble_eq_true rfl, Nat.le_of_ble_eq_true rfl⟩ S x1 x2 hP va_S.rf (lv_sub (l := [(0, .ref (ad M_o)), (1, .int x1), (2, .int x2)]) hl [0, 1, 2] rfl) hq)
set_option maxHeartbeats 4000000 in
theorem w_X8_receiving {p : Program} {l : Launch} {e : Env} {R : Room} {s : State} {m : MethodId} {args : Array Value} {below : List Frame} {meth : Method} {c : Code} {D : va_G} {dA : Nat → ClassId} {A : Nat → Prop} {ad : L3 → Nat} (X : CX RX8 cX8_receiving 4 (some .int) (KA D dA) p s m args meth c A) (hR : 4 ≤ R.frames ∧ 93 ≤ R.locals) {res : Int32} (S : Mem) (x1 : Int32) (x2 : Int32) {H : Heap} {locs : List Loc} {ls : Array Slot} (hP : Wd D clA (shM dA) exM A ad S H) (hS : va_S A s.heap H locs) (hl : lv_has ls 4 [(0, .ref (ad M_o)), (1, .int x1), (2, .int x2)]) (hf : f_X8_receiving S x1 x2 = some res) : W p l e R s m args below meth c H locs 0 0 (MQ below (QiR D (shM dA) exM A ad S res) args s 0 0 A) (F0 m 0 ls []) := by
  have hx := X.hx
  have hb := X.hb
  unfold f_X8_receiving at hf
  refine lv_iload_n hx hb dX8_receiving_0 rfl (lv_at hl 1 rfl) ?_
  refine lv_iload_n hx hb dX8_receiving_1 rfl (lv_at hl 2 rfl) ?_
  obtain ⟨v1, hq, hf⟩ := gS_eq hf
  refine gc_i (gc_fixS (S := S) X (mt_X8_at l D dA A ad S x1 x2 hq) (lw_S q1283 q1284 q93 q1285) ⟨rfl, rfl⟩ hd_X8_at.2 ⟨Nat.le_trans (Nat.le_of_ble_eq_true rfl) hR.1, Nat.le_trans (Nat.le_of_ble_eq_true rfl) hR.2⟩ hP hS ⟨Nat.zero_le _, Nat.zero_le _⟩ rfl hl.1 rfl (Nat.le_of_ble_eq_true rfl) dX8_receiving_2) hS ?_
  rintro _ _ H locs ⟨rfl, rfl⟩ hP hS
  refine lv_istore_n (lv' := [(3, .int v1), (0, .ref (ad M_o)), (1, .int x1), (2, .int x2)]) hx hb dX8_receiving_5 rfl hl (by decide) rfl (fun ls hl => ?_)
  refine lv_aload_n hx hb dX8_receiving_6 rfl (lv_at hl 1 rfl) ?_
  refine rg_X8_84 X hP dX8_receiving_7 ?_
  refine lv_iload_n hx hb dX8_receiving_10 rfl (lv_at hl 0 rfl) ?_
  refine ra_wasReset_ld X hP dX8_receiving_11 hf (fun hf => ?_)
  refine gb_if_eq (tgt := 17) hx hb dX8_receiving_12 (by decide) hf (fun hf => ?_) (fun hf => ?_)
  · refine lv_aload_n hx hb dX8_receiving_17 rfl (lv_at hl 1 rfl) ?_
    refine rg_X8_78 X hP dX8_receiving_18 ?_
    refine lv_iload_n hx hb dX8_receiving_21 rfl (lv_at hl 0 rfl) ?_
    refine ra_size_ld X hP dX8_receiving_22 hf (fun hf => ?_)
    refine lv_lconst (v := 0) hx hb dX8_receiving_23 (by decide) ?_
    refine gb_lcmp_ge (tgt := 30) hx hb dX8_receiving_24 dX8_receiving_25 (by decide) hf (fun hf => ?_) (fun hf => ?_)
    · refine lv_aload_n hx hb dX8_receiving_30 rfl (lv_at hl 1 rfl) ?_
      refine rg_X8_81 X hP dX8_receiving_31 ?_
      refine lv_iload_n hx hb dX8_receiving_34 rfl (lv_at hl 0 rfl) ?_
      refine ra_read_ld X hP dX8_receiving_35 hf (fun hf => ?_)
      refine lv_aload_n hx hb dX8_receiving_36 rfl (lv_at hl 1 rfl) ?_
      refine rg_X8_78 X hP dX8_receiving_37 ?_
      refine lv_iload_n hx hb dX8_receiving_40 rfl (lv_at hl 0 rfl) ?_
      refine ra_size_ld X hP dX8_receiving_41 hf (fun hf => ?_)
      refine gb_lcmp_ne (tgt := 48) hx hb dX8_receiving_42 dX8_receiving_43 (by decide) hf (fun hf => ?_) (fun hf => ?_)
      · refine lv_aload_n hx hb dX8_receiving_48 rfl (lv_at hl 1 rfl) ?_
        refine lv_iload_n hx hb dX8_receiving_49 rfl (lv_at hl 2 rfl) ?_
        refine lv_iload_n hx hb dX8_receiving_50 rfl (lv_at hl 3 rfl) ?_
        obtain ⟨v2, hq, hf⟩ := gB_some hf
        refine gc_l (gc_fixV (S := S) X (mt_X8_readyOf l D dA A ad S x1 x2 hq) (lw_V q1359 q1361 qs48 q93 q1362) ⟨rfl, rfl⟩ hd_X8_readyOf ⟨Nat.le_trans (Nat.le_of_ble_eq_true rfl) hR.1, Nat.le_trans (Nat.le_of_ble_eq_true rfl) hR.2⟩ (wd_recv (r := M_o) (ci := 0) (q := (RX8, TX8, 61)) X.hK.1 hP ⟨rfl, rfl⟩ rfl rfl) hP hS ⟨Nat.zero_le _, Nat.zero_le _⟩ rfl hl.1 rfl (Nat.le_of_ble_eq_true rfl) dX8_receiving_51) hS ?_
        rintro _ _ H locs ⟨rfl, rfl⟩ hP hS
        refine lv_aload_n hx hb dX8_receiving_54 rfl (lv_at hl 1 rfl) ?_
        refine rg_X8_78 X hP dX8_receiving_55 ?_
        refine lv_iload_n hx hb dX8_receiving_58 rfl (lv_at hl 0 rfl) ?_
        refine ra_size_ld X hP dX8_receiving_59 hf (fun hf => ?_)
        refine gb_lcmp_ne (tgt := 68) hx hb dX8_receiving_60 dX8_receiving_61 (by decide) hf (fun hf => ?_) (fun hf => ?_)
        · refine lv_iconst (v := 1) hx hb dX8_receiving_68 (by decide) ?_
          exact gr_iR X hP hS (Option.some.inj hf) dX8_receiving_69
        · refine lv_iconst (v := 2) hx hb dX8_receiving_64 (by decide) ?_
          refine lv_goto (tgt := 69) hx hb dX8_receiving_65 (by decide) ?_
          exact gr_iR X hP hS (Option.some.inj hf) dX8_receiving_69
      · refine lv_iconst (v := 3) hx hb dX8_receiving_46 (by decide) ?_
        exact gr_iR X hP hS (Option.some.inj hf) dX8_receiving_47
    · refine lv_iconst (v := 0) hx hb dX8_receiving_28 (by decide) ?_
      exact gr_iR X hP hS (Option.some.inj hf) dX8_receiving_29
  · refine lv_iconst (v := 4) hx hb dX8_receiving_15 (by decide) ?_
    exact gr_iR X hP hS (Option.some.inj hf) dX8_receiving_16
theorem hd_X8_receiving : yX8_receiving.cls = RX8 ∧ yX8_receiving.cls ≠ "java/lang/invoke/MethodHandle" ∧ yX8_receiving.cls ≠ "java/lang/invoke/VarHandle" ∧ (parseMethodDescriptor yX8_receiving.desc).map (fun d => d.parameters.length) = some 2 := by decide +kernel
set_option maxHeartbeats 4000000 in
theorem mt_X8_receiving (l : Launch) (D : va_G) (dA : Nat → ClassId) (A : Nat → Prop) (ad : L3 → Nat) (S : Mem) (x1 : Int32) (x2 : Int32) {res : Int32} (hq : f_X8_receiving S x1 x2 = some res) : Met l yX8_receiving (ws_ yX8_receiving cX8_receiving 4 (some .int)) ({ frames := 4, cells := 0, slots := 0, locals := 93 } : Room) (va_Pc [.ref (ad M_o), .int x1, .int x2] (PreW D dA (shM dA) exM A ad S)) (QiR D (shM dA) exM A ad S res) 0 0 A :=
  gx_head (by decide) (Nat.le_of_ble_eq_true rfl) (fun p e s m below meth c ls X hP hl => w_X8_receiving (l := l) X ⟨Nat.le_of_ble_eq_true rfl, Nat.le_of_ble_eq_true rfl⟩ S x1 x2 hP va_S.rf (lv_sub (l := [(0, .ref (ad M_o)), (1, .int x1), (2, .int x2)]) hl [0, 1, 2] rfl) hq)
