set_option maxRecDepth 100000
set_option maxHeartbeats 4000000 in
theorem w_X2_grants {p : Program} {l : Launch} {e : Env} {R : Room} {s : State} {m : MethodId} {args : Array Value} {below : List Frame} {meth : Method} {c : Code} {D : va_G} {dA : Nat → ClassId} {A : Nat → Prop} {ad : L3 → Nat} (E : L3 → Bool) (k : Nat) (hE : EOK E) (hk : k < 2) (X : CX RX2 cX2_grants 7 none (KA D dA) p s m args meth c A) (hR : 1 ≤ R.frames ∧ 40 ≤ R.locals) {res : Mem} (S : Mem) (x1 : Int32) (x2 : Int32) (x3 : Int32) (x4 : Int32) (x5 : Int32) (x6 : Int32) {H : Heap} {locs : List Loc} {ls : Array Slot} (hP : Wd D clA (shC dA E) (exC E) A ad S H) (hS : va_S A s.heap H locs) (hl : lv_has ls 7 [(0, .ref (ad (H_o k))), (1, .int x1), (2, .int x2), (3, .int x3), (4, .int x4), (5, .int x5), (6, .int x6)]) (hf : f_X2_grants k S x1 x2 x3 x4 x5 x6 = some res) : W p l e R s m args below meth c H locs 0 0 (MQ below (QvW D (shC dA E) (exC E) A ad res) args s 0 0 A) (F0 m 0 ls []) := by
  have hx := X.hx
  have hb := X.hb
  unfold f_X2_grants at hf
  refine lv_aload_n hx hb dX2_grants_0 rfl (lv_at hl 0 rfl) ?_
  refine rg_X2_30 X hP (ex_H_o hE hk) dX2_grants_1 ?_
  refine lv_iconst (v := 0) hx hb dX2_grants_4 (by decide) ?_
  refine lv_iload_n hx hb dX2_grants_5 rfl (lv_at hl 1 rfl) ?_
  refine ra_H_grants_st X hP hS (ex_H_grants hE hk) dX2_grants_6 hf (fun S1 H locs hP hS hf => ?_)
  refine lv_aload_n hx hb dX2_grants_7 rfl (lv_at hl 0 rfl) ?_
  refine rg_X2_30 X hP (ex_H_o hE hk) dX2_grants_8 ?_
  refine lv_iconst (v := 1) hx hb dX2_grants_11 (by decide) ?_
  refine lv_iload_n hx hb dX2_grants_12 rfl (lv_at hl 2 rfl) ?_
  refine ra_H_grants_st X hP hS (ex_H_grants hE hk) dX2_grants_13 hf (fun S2 H locs hP hS hf => ?_)
  refine lv_aload_n hx hb dX2_grants_14 rfl (lv_at hl 0 rfl) ?_
  refine rg_X2_30 X hP (ex_H_o hE hk) dX2_grants_15 ?_
  refine lv_iconst (v := 2) hx hb dX2_grants_18 (by decide) ?_
  refine lv_iload_n hx hb dX2_grants_19 rfl (lv_at hl 3 rfl) ?_
  refine ra_H_grants_st X hP hS (ex_H_grants hE hk) dX2_grants_20 hf (fun S3 H locs hP hS hf => ?_)
  refine lv_aload_n hx hb dX2_grants_21 rfl (lv_at hl 0 rfl) ?_
  refine rg_X2_30 X hP (ex_H_o hE hk) dX2_grants_22 ?_
  refine lv_iconst (v := 3) hx hb dX2_grants_25 (by decide) ?_
  refine lv_iload hx hb dX2_grants_26 (lv_at hl 4 rfl) ?_
  refine ra_H_grants_st X hP hS (ex_H_grants hE hk) dX2_grants_28 hf (fun S4 H locs hP hS hf => ?_)
  refine lv_aload_n hx hb dX2_grants_29 rfl (lv_at hl 0 rfl) ?_
  refine rg_X2_30 X hP (ex_H_o hE hk) dX2_grants_30 ?_
  refine lv_iconst (v := 4) hx hb dX2_grants_33 (by decide) ?_
  refine lv_iload hx hb dX2_grants_34 (lv_at hl 5 rfl) ?_
  refine ra_H_grants_st X hP hS (ex_H_grants hE hk) dX2_grants_36 hf (fun S5 H locs hP hS hf => ?_)
  refine lv_aload_n hx hb dX2_grants_37 rfl (lv_at hl 0 rfl) ?_
  refine rg_X2_30 X hP (ex_H_o hE hk) dX2_grants_38 ?_
  refine lv_iconst (v := 5) hx hb dX2_grants_41 (by decide) ?_
  refine lv_iload hx hb dX2_grants_42 (lv_at hl 6 rfl) ?_
  refine ra_H_grants_st X hP hS (ex_H_grants hE hk) dX2_grants_44 hf (fun S6 H locs hP hS hf => ?_)
  refine lv_aload_n hx hb dX2_grants_45 rfl (lv_at hl 0 rfl) ?_
  refine lv_iload_n hx hb dX2_grants_46 rfl (lv_at hl 1 rfl) ?_
  refine rp_X2_76 X hP hS (ex_H_o hE hk) dX2_grants_47 hf (fun S7 H locs hP hS hf => ?_)
  refine lv_aload_n hx hb dX2_grants_50 rfl (lv_at hl 0 rfl) ?_
  refine rg_X2_26 X hP (ex_H_o hE hk) dX2_grants_51 ?_
  refine lv_iconst (v := 0) hx hb dX2_grants_54 (by decide) ?_
  refine ra_H_ways_ld X hP (ex_H_ways hE hk) dX2_grants_55 hf (fun hi8 hf => ?_)
  refine lv_iload hx hb dX2_grants_56 (lv_at hl 5 rfl) ?_
  refine rp_X2_79 X hP hS (ex_W_o hE hk hi8) dX2_grants_58 hf (fun S9 H locs hP hS hf => ?_)
  refine lv_aload_n hx hb dX2_grants_61 rfl (lv_at hl 0 rfl) ?_
  refine rg_X2_26 X hP (ex_H_o hE hk) dX2_grants_62 ?_
  refine lv_iconst (v := 1) hx hb dX2_grants_65 (by decide) ?_
  refine ra_H_ways_ld X hP (ex_H_ways hE hk) dX2_grants_66 hf (fun hi10 hf => ?_)
  refine lv_iload hx hb dX2_grants_67 (lv_at hl 6 rfl) ?_
  refine rp_X2_79 X hP hS (ex_W_o hE hk hi10) dX2_grants_69 hf (fun S11 H locs hP hS hf => ?_)
  exact gr_vW X hP hS (Option.some.inj hf) dX2_grants_72
theorem hd_X2_grants : yX2_grants.cls = RX2 ∧ yX2_grants.cls ≠ "java/lang/invoke/MethodHandle" ∧ yX2_grants.cls ≠ "java/lang/invoke/VarHandle" ∧ (parseMethodDescriptor yX2_grants.desc).map (fun d => d.parameters.length) = some 6 := by decide +kernel
set_option maxHeartbeats 4000000 in
theorem mt_X2_grants (l : Launch) (D : va_G) (dA : Nat → ClassId) (A : Nat → Prop) (ad : L3 → Nat) (E : L3 → Bool) (k : Nat) (hE : EOK E) (hk : k < 2) (S : Mem) (x1 : Int32) (x2 : Int32) (x3 : Int32) (x4 : Int32) (x5 : Int32) (x6 : Int32) {res : Mem} (hq : f_X2_grants k S x1 x2 x3 x4 x5 x6 = some res) : Met l yX2_grants (ws_ yX2_grants cX2_grants 7 none) ({ frames := 1, cells := 0, slots := 0, locals := 40 } : Room) (va_Pc [.ref (ad (H_o k)), .int x1, .int x2, .int x3, .int x4, .int x5, .int x6] (PreW D dA (shC dA E) (exC E) A ad S)) (QvW D (shC dA E) (exC E) A ad res) 0 0 A :=
  gx_head (by decide) (Nat.le_of_ble_eq_true rfl) (fun p e s m below meth c ls X hP hl => w_X2_grants (l := l) E k hE hk X ⟨Nat.le_of_ble_eq_true rfl, Nat.le_of_ble_eq_true rfl⟩ S x1 x2 x3 x4 x5 x6 hP va_S.rf (lv_sub (l := [(0, .ref (ad (H_o k))), (1, .int x1), (2, .int x2), (3, .int x3), (4, .int x4), (5, .int x5), (6, .int x6)]) hl [0, 1, 2, 3, 4, 5, 6] rfl) hq)
set_option maxHeartbeats 4000000 in
theorem w_X1_allow {p : Program} {l : Launch} {e : Env} {R : Room} {s : State} {m : MethodId} {args : Array Value} {below : List Frame} {meth : Method} {c : Code} {D : va_G} {dA : Nat → ClassId} {A : Nat → Prop} {ad : L3 → Nat} (E : L3 → Bool) (hE : EOK E) (X : CX RX1 cX1_allow 3 none (KA D dA) p s m args meth c A) (hR : 2 ≤ R.frames ∧ 66 ≤ R.locals) {res : Mem} (S : Mem) (x1 : Int32) {H : Heap} {locs : List Loc} {ls : Array Slot} (hP : Wd D clA (shC dA E) (exC E) A ad S H) (hS : va_S A s.heap H locs) (hl : lv_has ls 3 [(0, .ref (ad C_o)), (1, .int x1)]) (hf : f_X1_allow S x1 = some res) : W p l e R s m args below meth c H locs 0 0 (MQ below (QvW D (shC dA E) (exC E) A ad res) args s 0 0 A) (F0 m 0 ls []) := by
  have hx := X.hx
  have hb := X.hb
  unfold f_X1_allow at hf
  refine lv_aload_n hx hb dX1_allow_0 rfl (lv_at hl 0 rfl) ?_
  refine rg_X1_26 X hP (ex_C_o hE) dX1_allow_1 ?_
  refine lv_iload_n hx hb dX1_allow_4 rfl (lv_at hl 1 rfl) ?_
  refine ra_C_grants_ld X hP (ex_C_grants hE) dX1_allow_5 hf (fun hi1 hf => ?_)
  refine lv_astore_n (lv' := [(2, .ref (ad (C_grow (Int32.toNatClampNeg x1)))), (0, .ref (ad C_o)), (1, .int x1)]) hx hb dX1_allow_6 rfl hl (by decide) rfl (fun ls hl => ?_)
  refine lv_aload_n hx hb dX1_allow_7 rfl (lv_at hl 1 rfl) ?_
  refine rg_X1_18 X hP (ex_C_o hE) dX1_allow_8 ?_
  refine lv_iload_n hx hb dX1_allow_11 rfl (lv_at hl 2 rfl) ?_
  refine ra_C_halls_ld X hP (ex_C_halls hE) dX1_allow_12 hf (fun hi2 hf => ?_)
  refine lv_aload_n hx hb dX1_allow_13 rfl (lv_at hl 0 rfl) ?_
  refine lv_iconst (v := 0) hx hb dX1_allow_14 (by decide) ?_
  refine ra_C_grow_ld X hP (ex_C_grow hE hi1) dX1_allow_15 hf (fun hf => ?_)
  refine lv_aload_n hx hb dX1_allow_16 rfl (lv_at hl 0 rfl) ?_
  refine lv_iconst (v := 1) hx hb dX1_allow_17 (by decide) ?_
  refine ra_C_grow_ld X hP (ex_C_grow hE hi1) dX1_allow_18 hf (fun hf => ?_)
  refine lv_aload_n hx hb dX1_allow_19 rfl (lv_at hl 0 rfl) ?_
  refine lv_iconst (v := 2) hx hb dX1_allow_20 (by decide) ?_
  refine ra_C_grow_ld X hP (ex_C_grow hE hi1) dX1_allow_21 hf (fun hf => ?_)
  refine lv_aload_n hx hb dX1_allow_22 rfl (lv_at hl 0 rfl) ?_
  refine lv_iconst (v := 3) hx hb dX1_allow_23 (by decide) ?_
  refine ra_C_grow_ld X hP (ex_C_grow hE hi1) dX1_allow_24 hf (fun hf => ?_)
  refine lv_aload_n hx hb dX1_allow_25 rfl (lv_at hl 0 rfl) ?_
  refine lv_iconst (v := 4) hx hb dX1_allow_26 (by decide) ?_
  refine ra_C_grow_ld X hP (ex_C_grow hE hi1) dX1_allow_27 hf (fun hf => ?_)
  refine lv_aload_n hx hb dX1_allow_28 rfl (lv_at hl 0 rfl) ?_
  refine lv_iconst (v := 5) hx hb dX1_allow_29 (by decide) ?_
  refine ra_C_grow_ld X hP (ex_C_grow hE hi1) dX1_allow_30 hf (fun hf => ?_)
  obtain ⟨S3, hq, hf⟩ := gB_some hf
  refine gc_v (gc_fixV (S := S) X (mt_X2_grants l D dA A ad E (Int32.toNatClampNeg x1) hE hi2 S (S.1 (C_grow (Int32.toNatClampNeg x1)) (Int32.toNatClampNeg 0)) (S.1 (C_grow (Int32.toNatClampNeg x1)) (Int32.toNatClampNeg 1)) (S.1 (C_grow (Int32.toNatClampNeg x1)) (Int32.toNatClampNeg 2)) (S.1 (C_grow (Int32.toNatClampNeg x1)) (Int32.toNatClampNeg 3)) (S.1 (C_grow (Int32.toNatClampNeg x1)) (Int32.toNatClampNeg 4)) (S.1 (C_grow (Int32.toNatClampNeg x1)) (Int32.toNatClampNeg 5)) hq) (lw_V q358 q359 q360 q87 q361) ⟨rfl, rfl⟩ hd_X2_grants ⟨Nat.le_trans (Nat.le_of_ble_eq_true rfl) hR.1, Nat.le_trans (Nat.le_of_ble_eq_true rfl) hR.2⟩ (wd_recv (r := H_o (Int32.toNatClampNeg x1)) (ci := 2) (q := (RX2, TX2, 23)) X.hK.1 hP (ex_H_o hE hi2) rfl rfl) hP hS ⟨Nat.zero_le _, Nat.zero_le _⟩ rfl hl.1 rfl (Nat.le_of_ble_eq_true rfl) dX1_allow_31) hS ?_
  rintro _ H locs rfl hP hS
  exact gr_vW X hP hS (Option.some.inj hf) dX1_allow_34
theorem hd_X1_allow : yX1_allow.cls = RX1 ∧ yX1_allow.cls ≠ "java/lang/invoke/MethodHandle" ∧ yX1_allow.cls ≠ "java/lang/invoke/VarHandle" ∧ (parseMethodDescriptor yX1_allow.desc).map (fun d => d.parameters.length) = some 1 := by decide +kernel
set_option maxHeartbeats 4000000 in
theorem mt_X1_allow (l : Launch) (D : va_G) (dA : Nat → ClassId) (A : Nat → Prop) (ad : L3 → Nat) (E : L3 → Bool) (hE : EOK E) (S : Mem) (x1 : Int32) {res : Mem} (hq : f_X1_allow S x1 = some res) : Met l yX1_allow (ws_ yX1_allow cX1_allow 3 none) ({ frames := 2, cells := 0, slots := 0, locals := 66 } : Room) (va_Pc [.ref (ad C_o), .int x1] (PreW D dA (shC dA E) (exC E) A ad S)) (QvW D (shC dA E) (exC E) A ad res) 0 0 A :=
  gx_head (by decide) (Nat.le_of_ble_eq_true rfl) (fun p e s m below meth c ls X hP hl => w_X1_allow (l := l) E hE X ⟨Nat.le_of_ble_eq_true rfl, Nat.le_of_ble_eq_true rfl⟩ S x1 hP va_S.rf (lv_sub (l := [(0, .ref (ad C_o)), (1, .int x1)]) hl [0, 1] rfl) hq)
set_option maxHeartbeats 4000000 in
theorem w_X1_in {p : Program} {l : Launch} {e : Env} {R : Room} {s : State} {m : MethodId} {args : Array Value} {below : List Frame} {meth : Method} {c : Code} {D : va_G} {dA : Nat → ClassId} {A : Nat → Prop} {ad : L3 → Nat} (E : L3 → Bool) (hE : EOK E) (X : CX RX1 cX1_in 6 (some .boolean) (KA D dA) p s m args meth c A) (hR : 1 ≤ R.frames ∧ 40 ≤ R.locals) {res : Int32} (S : Mem) (x0 : Int64) (x2 : Int64) (x4 : Int64) {H : Heap} {locs : List Loc} {ls : Array Slot} (hP : Wd D clA (shC dA E) (exC E) A ad S H) (hS : va_S A s.heap H locs) (hl : lv_has ls 6 [(0, .long x0), (2, .long x2), (4, .long x4)]) (hf : f_X1_in x0 x2 x4 = res) : W p l e R s m args below meth c H locs 0 0 (MQ below (QiR D (shC dA E) (exC E) A ad S res) args s 0 0 A) (F0 m 0 ls []) := by
  have hx := X.hx
  have hb := X.hb
  unfold f_X1_in at hf
  refine lv_lload_n hx hb dX1_in_0 rfl (lv_at hl 0 rfl) ?_
  refine lv_lload_n hx hb dX1_in_1 rfl (lv_at hl 1 rfl) ?_
  refine gb_lcmp_lt (tgt := 17) hx hb dX1_in_2 dX1_in_3 (by decide) hf (fun hf => ?_) (fun hf => ?_)
  · refine lv_iconst (v := 0) hx hb dX1_in_17 (by decide) ?_
    exact gr_zR X hP hS hf (by decide) dX1_in_18
  · refine lv_lload_n hx hb dX1_in_6 rfl (lv_at hl 0 rfl) ?_
    refine lv_lload hx hb dX1_in_7 (lv_at hl 2 rfl) ?_
    refine gb_lcmp_gt (tgt := 17) hx hb dX1_in_9 dX1_in_10 (by decide) hf (fun hf => ?_) (fun hf => ?_)
    · refine lv_iconst (v := 0) hx hb dX1_in_17 (by decide) ?_
      exact gr_zR X hP hS hf (by decide) dX1_in_18
    · refine lv_iconst (v := 1) hx hb dX1_in_13 (by decide) ?_
      refine lv_goto (tgt := 18) hx hb dX1_in_14 (by decide) ?_
      exact gr_zR X hP hS hf (by decide) dX1_in_18
theorem hd_X1_in : yX1_in.cls = RX1 ∧ yX1_in.cls ≠ "java/lang/invoke/MethodHandle" ∧ yX1_in.cls ≠ "java/lang/invoke/VarHandle" ∧ (parseMethodDescriptor yX1_in.desc).map (fun d => d.parameters.length) = some 3 := by decide +kernel
set_option maxHeartbeats 4000000 in
theorem mt_X1_in (l : Launch) (D : va_G) (dA : Nat → ClassId) (A : Nat → Prop) (ad : L3 → Nat) (E : L3 → Bool) (hE : EOK E) (S : Mem) (x0 : Int64) (x2 : Int64) (x4 : Int64) {res : Int32} (hq : f_X1_in x0 x2 x4 = res) : Met l yX1_in (ws_ yX1_in cX1_in 6 (some .boolean)) ({ frames := 1, cells := 0, slots := 0, locals := 40 } : Room) (va_Pc [.long x0, .long x2, .long x4] (PreW D dA (shC dA E) (exC E) A ad S)) (QiR D (shC dA E) (exC E) A ad S res) 0 0 A :=
  gx_head (by decide) (Nat.le_of_ble_eq_true rfl) (fun p e s m below meth c ls X hP hl => w_X1_in (l := l) E hE X ⟨Nat.le_of_ble_eq_true rfl, Nat.le_of_ble_eq_true rfl⟩ S x0 x2 x4 hP va_S.rf (lv_sub (l := [(0, .long x0), (2, .long x2), (4, .long x4)]) hl [0, 1, 2] rfl) hq)
set_option maxHeartbeats 4000000 in
theorem w_X1_sizeOf {p : Program} {l : Launch} {e : Env} {R : Room} {s : State} {m : MethodId} {args : Array Value} {below : List Frame} {meth : Method} {c : Code} {D : va_G} {dA : Nat → ClassId} {A : Nat → Prop} {ad : L3 → Nat} (E : L3 → Bool) (hE : EOK E) (X : CX RX1 cX1_sizeOf 2 (some .int) (KA D dA) p s m args meth c A) (hR : 1 ≤ R.frames ∧ 40 ≤ R.locals) {res : Int32} (S : Mem) (x0 : Int64) {H : Heap} {locs : List Loc} {ls : Array Slot} (hP : Wd D clA (shC dA E) (exC E) A ad S H) (hS : va_S A s.heap H locs) (hl : lv_has ls 2 [(0, .long x0)]) (hf : f_X1_sizeOf x0 = res) : W p l e R s m args below meth c H locs 0 0 (MQ below (QiR D (shC dA E) (exC E) A ad S res) args s 0 0 A) (F0 m 0 ls []) := by
  have hx := X.hx
  have hb := X.hb
  unfold f_X1_sizeOf at hf
  refine lv_lload_n hx hb dX1_sizeOf_0 rfl (lv_at hl 0 rfl) ?_
  refine lv_ldc2 hx hb X.hown (X.hts _ q402) dX1_sizeOf_1 ?_
  refine gb_lcmp_ge (tgt := 12) hx hb dX1_sizeOf_4 dX1_sizeOf_5 (by decide) hf (fun hf => ?_) (fun hf => ?_)
  · refine lv_lload_n hx hb dX1_sizeOf_12 rfl (lv_at hl 0 rfl) ?_
    refine lv_ldc2 hx hb X.hown (X.hts _ q819) dX1_sizeOf_13 ?_
    refine gb_lcmp_ge (tgt := 24) hx hb dX1_sizeOf_16 dX1_sizeOf_17 (by decide) hf (fun hf => ?_) (fun hf => ?_)
    · refine lv_lload_n hx hb dX1_sizeOf_24 rfl (lv_at hl 0 rfl) ?_
      refine lv_ldc2 hx hb X.hown (X.hts _ q820) dX1_sizeOf_25 ?_
      refine gb_lcmp_ge (tgt := 36) hx hb dX1_sizeOf_28 dX1_sizeOf_29 (by decide) hf (fun hf => ?_) (fun hf => ?_)
      · refine lv_bipush (v := 8) hx hb dX1_sizeOf_36 (by decide) ?_
        exact gr_iR X hP hS hf dX1_sizeOf_38
      · refine lv_iconst (v := 4) hx hb dX1_sizeOf_32 (by decide) ?_
        refine lv_goto (tgt := 38) hx hb dX1_sizeOf_33 (by decide) ?_
        exact gr_iR X hP hS hf dX1_sizeOf_38
    · refine lv_iconst (v := 2) hx hb dX1_sizeOf_20 (by decide) ?_
      refine lv_goto (tgt := 38) hx hb dX1_sizeOf_21 (by decide) ?_
      exact gr_iR X hP hS hf dX1_sizeOf_38
  · refine lv_iconst (v := 1) hx hb dX1_sizeOf_8 (by decide) ?_
    refine lv_goto (tgt := 38) hx hb dX1_sizeOf_9 (by decide) ?_
    exact gr_iR X hP hS hf dX1_sizeOf_38
theorem hd_X1_sizeOf : yX1_sizeOf.cls = RX1 ∧ yX1_sizeOf.cls ≠ "java/lang/invoke/MethodHandle" ∧ yX1_sizeOf.cls ≠ "java/lang/invoke/VarHandle" ∧ (parseMethodDescriptor yX1_sizeOf.desc).map (fun d => d.parameters.length) = some 1 := by decide +kernel
set_option maxHeartbeats 4000000 in
theorem mt_X1_sizeOf (l : Launch) (D : va_G) (dA : Nat → ClassId) (A : Nat → Prop) (ad : L3 → Nat) (E : L3 → Bool) (hE : EOK E) (S : Mem) (x0 : Int64) {res : Int32} (hq : f_X1_sizeOf x0 = res) : Met l yX1_sizeOf (ws_ yX1_sizeOf cX1_sizeOf 2 (some .int)) ({ frames := 1, cells := 0, slots := 0, locals := 40 } : Room) (va_Pc [.long x0] (PreW D dA (shC dA E) (exC E) A ad S)) (QiR D (shC dA E) (exC E) A ad S res) 0 0 A :=
  gx_head (by decide) (Nat.le_of_ble_eq_true rfl) (fun p e s m below meth c ls X hP hl => w_X1_sizeOf (l := l) E hE X ⟨Nat.le_of_ble_eq_true rfl, Nat.le_of_ble_eq_true rfl⟩ S x0 hP va_S.rf (lv_sub (l := [(0, .long x0)]) hl [0] rfl) hq)
set_option maxHeartbeats 4000000 in
theorem w_X2_limits {p : Program} {l : Launch} {e : Env} {R : Room} {s : State} {m : MethodId} {args : Array Value} {below : List Frame} {meth : Method} {c : Code} {D : va_G} {dA : Nat → ClassId} {A : Nat → Prop} {ad : L3 → Nat} (E : L3 → Bool) (k : Nat) (hE : EOK E) (hk : k < 2) (X : CX RX2 cX2_limits 13 none (KA D dA) p s m args meth c A) (hR : 1 ≤ R.frames ∧ 40 ≤ R.locals) {res : Mem} (S : Mem) (x1 : Int64) (x3 : Int64) (x5 : Int64) (x7 : Int64) (x9 : Int64) (x11 : Int64) {H : Heap} {locs : List Loc} {ls : Array Slot} (hP : Wd D clA (shC dA E) (exC E) A ad S H) (hS : va_S A s.heap H locs) (hl : lv_has ls 13 [(0, .ref (ad (H_o k))), (1, .long x1), (3, .long x3), (5, .long x5), (7, .long x7), (9, .long x9), (11, .long x11)]) (hf : f_X2_limits k S x1 x3 x5 x7 x9 x11 = some res) : W p l e R s m args below meth c H locs 0 0 (MQ below (QvW D (shC dA E) (exC E) A ad res) args s 0 0 A) (F0 m 0 ls []) := by
  have hx := X.hx
  have hb := X.hb
  unfold f_X2_limits at hf
  refine lv_aload_n hx hb dX2_limits_0 rfl (lv_at hl 0 rfl) ?_
  refine rg_X2_34 X hP (ex_H_o hE hk) dX2_limits_1 ?_
  refine lv_iconst (v := 1) hx hb dX2_limits_4 (by decide) ?_
  refine lv_lload_n hx hb dX2_limits_5 rfl (lv_at hl 2 rfl) ?_
  refine ra_H_limits_st X hP hS (ex_H_limits hE hk) dX2_limits_6 hf (fun S1 H locs hP hS hf => ?_)
  refine lv_aload_n hx hb dX2_limits_7 rfl (lv_at hl 0 rfl) ?_
  refine rg_X2_34 X hP (ex_H_o hE hk) dX2_limits_8 ?_
  refine lv_iconst (v := 2) hx hb dX2_limits_11 (by decide) ?_
  refine lv_lload hx hb dX2_limits_12 (lv_at hl 3 rfl) ?_
  refine ra_H_limits_st X hP hS (ex_H_limits hE hk) dX2_limits_14 hf (fun S2 H locs hP hS hf => ?_)
  refine lv_aload_n hx hb dX2_limits_15 rfl (lv_at hl 0 rfl) ?_
  refine rg_X2_34 X hP (ex_H_o hE hk) dX2_limits_16 ?_
  refine lv_iconst (v := 3) hx hb dX2_limits_19 (by decide) ?_
  refine lv_lload hx hb dX2_limits_20 (lv_at hl 4 rfl) ?_
  refine ra_H_limits_st X hP hS (ex_H_limits hE hk) dX2_limits_22 hf (fun S3 H locs hP hS hf => ?_)
  refine lv_aload_n hx hb dX2_limits_23 rfl (lv_at hl 0 rfl) ?_
  refine lv_lload_n hx hb dX2_limits_24 rfl (lv_at hl 1 rfl) ?_
  refine rp_X2_82 X hP hS (ex_H_o hE hk) dX2_limits_25 hf (fun S4 H locs hP hS hf => ?_)
  refine lv_aload_n hx hb dX2_limits_28 rfl (lv_at hl 0 rfl) ?_
  refine rg_X2_26 X hP (ex_H_o hE hk) dX2_limits_29 ?_
  refine lv_iconst (v := 0) hx hb dX2_limits_32 (by decide) ?_
  refine ra_H_ways_ld X hP (ex_H_ways hE hk) dX2_limits_33 hf (fun hi5 hf => ?_)
  refine lv_lload hx hb dX2_limits_34 (lv_at hl 5 rfl) ?_
  refine lv_ldc2 hx hb X.hown (X.hts _ q498) dX2_limits_36 ?_
  refine gm_mnJ X (X.hts _ q499) (X.hts _ q500) (X.hts _ q99) (X.hts _ q501) hl.1 ⟨Nat.zero_le _, Nat.zero_le _⟩ (Nat.le_trans (Nat.le_of_ble_eq_true rfl) hR.1) (Nat.le_trans (Nat.le_of_ble_eq_true rfl) hR.2) dX2_limits_39 ?_
  refine rp_X2_93 X hP hS (ex_W_o hE hk hi5) dX2_limits_42 hf (fun S6 H locs hP hS hf => ?_)
  refine lv_aload_n hx hb dX2_limits_45 rfl (lv_at hl 0 rfl) ?_
  refine rg_X2_26 X hP (ex_H_o hE hk) dX2_limits_46 ?_
  refine lv_iconst (v := 1) hx hb dX2_limits_49 (by decide) ?_
  refine ra_H_ways_ld X hP (ex_H_ways hE hk) dX2_limits_50 hf (fun hi7 hf => ?_)
  refine lv_lload hx hb dX2_limits_51 (lv_at hl 6 rfl) ?_
  refine lv_ldc2 hx hb X.hown (X.hts _ q498) dX2_limits_53 ?_
  refine gm_mnJ X (X.hts _ q499) (X.hts _ q500) (X.hts _ q99) (X.hts _ q501) hl.1 ⟨Nat.zero_le _, Nat.zero_le _⟩ (Nat.le_trans (Nat.le_of_ble_eq_true rfl) hR.1) (Nat.le_trans (Nat.le_of_ble_eq_true rfl) hR.2) dX2_limits_56 ?_
  refine rp_X2_93 X hP hS (ex_W_o hE hk hi7) dX2_limits_59 hf (fun S8 H locs hP hS hf => ?_)
  exact gr_vW X hP hS (Option.some.inj hf) dX2_limits_62
theorem hd_X2_limits : yX2_limits.cls = RX2 ∧ yX2_limits.cls ≠ "java/lang/invoke/MethodHandle" ∧ yX2_limits.cls ≠ "java/lang/invoke/VarHandle" ∧ (parseMethodDescriptor yX2_limits.desc).map (fun d => d.parameters.length) = some 6 := by decide +kernel
set_option maxHeartbeats 4000000 in
theorem mt_X2_limits (l : Launch) (D : va_G) (dA : Nat → ClassId) (A : Nat → Prop) (ad : L3 → Nat) (E : L3 → Bool) (k : Nat) (hE : EOK E) (hk : k < 2) (S : Mem) (x1 : Int64) (x3 : Int64) (x5 : Int64) (x7 : Int64) (x9 : Int64) (x11 : Int64) {res : Mem} (hq : f_X2_limits k S x1 x3 x5 x7 x9 x11 = some res) : Met l yX2_limits (ws_ yX2_limits cX2_limits 13 none) ({ frames := 1, cells := 0, slots := 0, locals := 40 } : Room) (va_Pc [.ref (ad (H_o k)), .long x1, .long x3, .long x5, .long x7, .long x9, .long x11] (PreW D dA (shC dA E) (exC E) A ad S)) (QvW D (shC dA E) (exC E) A ad res) 0 0 A :=
  gx_head (by decide) (Nat.le_of_ble_eq_true rfl) (fun p e s m below meth c ls X hP hl => w_X2_limits (l := l) E k hE hk X ⟨Nat.le_of_ble_eq_true rfl, Nat.le_of_ble_eq_true rfl⟩ S x1 x3 x5 x7 x9 x11 hP va_S.rf (lv_sub (l := [(0, .ref (ad (H_o k))), (1, .long x1), (3, .long x3), (5, .long x5), (7, .long x7), (9, .long x9), (11, .long x11)]) hl [0, 1, 2, 3, 4, 5, 6] rfl) hq)
set_option maxHeartbeats 4000000 in
theorem w_X2_isOneWay {p : Program} {l : Launch} {e : Env} {R : Room} {s : State} {m : MethodId} {args : Array Value} {below : List Frame} {meth : Method} {c : Code} {D : va_G} {dA : Nat → ClassId} {A : Nat → Prop} {ad : L3 → Nat} (E : L3 → Bool) (hE : EOK E) (X : CX RX2 cX2_isOneWay 2 (some .boolean) (KA D dA) p s m args meth c A) (hR : 1 ≤ R.frames ∧ 40 ≤ R.locals) {res : Int32} (S : Mem) (x0 : Int64) {H : Heap} {locs : List Loc} {ls : Array Slot} (hP : Wd D clA (shC dA E) (exC E) A ad S H) (hS : va_S A s.heap H locs) (hl : lv_has ls 2 [(0, .long x0)]) (hf : f_X2_isOneWay x0 = res) : W p l e R s m args below meth c H locs 0 0 (MQ below (QiR D (shC dA E) (exC E) A ad S res) args s 0 0 A) (F0 m 0 ls []) := by
  have hx := X.hx
  have hb := X.hb
  unfold f_X2_isOneWay at hf
  refine lv_lload_n hx hb dX2_isOneWay_0 rfl (lv_at hl 0 rfl) ?_
  refine lv_ldc2 hx hb X.hown (X.hts _ q532) dX2_isOneWay_1 ?_
  refine lv_ldiv hx hb dX2_isOneWay_4 (by decide) ?_
  refine lv_ldc2 hx hb X.hown (X.hts _ q532) dX2_isOneWay_5 ?_
  refine lv_lrem hx hb dX2_isOneWay_8 (by decide) ?_
  refine lv_lconst (v := 1) hx hb dX2_isOneWay_9 (by decide) ?_
  refine gb_lcmp_ne (tgt := 18) hx hb dX2_isOneWay_10 dX2_isOneWay_11 (by decide) hf (fun hf => ?_) (fun hf => ?_)
  · refine lv_iconst (v := 0) hx hb dX2_isOneWay_18 (by decide) ?_
    exact gr_zR X hP hS hf (by decide) dX2_isOneWay_19
  · refine lv_iconst (v := 1) hx hb dX2_isOneWay_14 (by decide) ?_
    refine lv_goto (tgt := 19) hx hb dX2_isOneWay_15 (by decide) ?_
    exact gr_zR X hP hS hf (by decide) dX2_isOneWay_19
theorem hd_X2_isOneWay : yX2_isOneWay.cls = RX2 ∧ yX2_isOneWay.cls ≠ "java/lang/invoke/MethodHandle" ∧ yX2_isOneWay.cls ≠ "java/lang/invoke/VarHandle" ∧ (parseMethodDescriptor yX2_isOneWay.desc).map (fun d => d.parameters.length) = some 1 := by decide +kernel
set_option maxHeartbeats 4000000 in
theorem mt_X2_isOneWay (l : Launch) (D : va_G) (dA : Nat → ClassId) (A : Nat → Prop) (ad : L3 → Nat) (E : L3 → Bool) (hE : EOK E) (S : Mem) (x0 : Int64) {res : Int32} (hq : f_X2_isOneWay x0 = res) : Met l yX2_isOneWay (ws_ yX2_isOneWay cX2_isOneWay 2 (some .boolean)) ({ frames := 1, cells := 0, slots := 0, locals := 40 } : Room) (va_Pc [.long x0] (PreW D dA (shC dA E) (exC E) A ad S)) (QiR D (shC dA E) (exC E) A ad S res) 0 0 A :=
  gx_head (by decide) (Nat.le_of_ble_eq_true rfl) (fun p e s m below meth c ls X hP hl => w_X2_isOneWay (l := l) E hE X ⟨Nat.le_of_ble_eq_true rfl, Nat.le_of_ble_eq_true rfl⟩ S x0 hP va_S.rf (lv_sub (l := [(0, .long x0)]) hl [0] rfl) hq)
set_option maxHeartbeats 4000000 in
theorem w_X2_isOwn {p : Program} {l : Launch} {e : Env} {R : Room} {s : State} {m : MethodId} {args : Array Value} {below : List Frame} {meth : Method} {c : Code} {D : va_G} {dA : Nat → ClassId} {A : Nat → Prop} {ad : L3 → Nat} (E : L3 → Bool) (k : Nat) (hE : EOK E) (hk : k < 2) (X : CX RX2 cX2_isOwn 3 (some .boolean) (KA D dA) p s m args meth c A) (hR : 1 ≤ R.frames ∧ 40 ≤ R.locals) {res : Int32} (S : Mem) (x1 : Int64) {H : Heap} {locs : List Loc} {ls : Array Slot} (hP : Wd D clA (shC dA E) (exC E) A ad S H) (hS : va_S A s.heap H locs) (hl : lv_has ls 3 [(0, .ref (ad (H_o k))), (1, .long x1)]) (hf : f_X2_isOwn k S x1 = res) : W p l e R s m args below meth c H locs 0 0 (MQ below (QiR D (shC dA E) (exC E) A ad S res) args s 0 0 A) (F0 m 0 ls []) := by
  have hx := X.hx
  have hb := X.hb
  unfold f_X2_isOwn at hf
  refine lv_lload_n hx hb dX2_isOwn_0 rfl (lv_at hl 1 rfl) ?_
  refine lv_ldc2 hx hb X.hown (X.hts _ q532) dX2_isOwn_1 ?_
  refine lv_lrem hx hb dX2_isOwn_4 (by decide) ?_
  refine lv_aload_n hx hb dX2_isOwn_5 rfl (lv_at hl 0 rfl) ?_
  refine rg_X2_73 X hP (ex_H_o hE hk) dX2_isOwn_6 ?_
  refine lv_i2l hx hb dX2_isOwn_9 rfl ?_
  refine gb_lcmp_ne (tgt := 18) hx hb dX2_isOwn_10 dX2_isOwn_11 (by decide) hf (fun hf => ?_) (fun hf => ?_)
  · refine lv_iconst (v := 0) hx hb dX2_isOwn_18 (by decide) ?_
    exact gr_zR X hP hS hf (by decide) dX2_isOwn_19
  · refine lv_iconst (v := 1) hx hb dX2_isOwn_14 (by decide) ?_
    refine lv_goto (tgt := 19) hx hb dX2_isOwn_15 (by decide) ?_
    exact gr_zR X hP hS hf (by decide) dX2_isOwn_19
theorem hd_X2_isOwn : yX2_isOwn.cls = RX2 ∧ yX2_isOwn.cls ≠ "java/lang/invoke/MethodHandle" ∧ yX2_isOwn.cls ≠ "java/lang/invoke/VarHandle" ∧ (parseMethodDescriptor yX2_isOwn.desc).map (fun d => d.parameters.length) = some 1 := by decide +kernel
set_option maxHeartbeats 4000000 in
theorem mt_X2_isOwn (l : Launch) (D : va_G) (dA : Nat → ClassId) (A : Nat → Prop) (ad : L3 → Nat) (E : L3 → Bool) (k : Nat) (hE : EOK E) (hk : k < 2) (S : Mem) (x1 : Int64) {res : Int32} (hq : f_X2_isOwn k S x1 = res) : Met l yX2_isOwn (ws_ yX2_isOwn cX2_isOwn 3 (some .boolean)) ({ frames := 1, cells := 0, slots := 0, locals := 40 } : Room) (va_Pc [.ref (ad (H_o k)), .long x1] (PreW D dA (shC dA E) (exC E) A ad S)) (QiR D (shC dA E) (exC E) A ad S res) 0 0 A :=
  gx_head (by decide) (Nat.le_of_ble_eq_true rfl) (fun p e s m below meth c ls X hP hl => w_X2_isOwn (l := l) E k hE hk X ⟨Nat.le_of_ble_eq_true rfl, Nat.le_of_ble_eq_true rfl⟩ S x1 hP va_S.rf (lv_sub (l := [(0, .ref (ad (H_o k))), (1, .long x1)]) hl [0, 1] rfl) hq)
set_option maxHeartbeats 4000000 in
theorem w_X2_rule {p : Program} {l : Launch} {e : Env} {R : Room} {s : State} {m : MethodId} {args : Array Value} {below : List Frame} {meth : Method} {c : Code} {D : va_G} {dA : Nat → ClassId} {A : Nat → Prop} {ad : L3 → Nat} (E : L3 → Bool) (k : Nat) (hE : EOK E) (hk : k < 2) (X : CX RX2 cX2_rule 4 (some .int) (KA D dA) p s m args meth c A) (hR : 2 ≤ R.frames ∧ 62 ≤ R.locals) {res : Int32} (S : Mem) (x1 : Int64) (x3 : Int32) {H : Heap} {locs : List Loc} {ls : Array Slot} (hP : Wd D clA (shC dA E) (exC E) A ad S H) (hS : va_S A s.heap H locs) (hl : lv_has ls 4 [(0, .ref (ad (H_o k))), (1, .long x1), (3, .int x3)]) (hf : f_X2_rule k S x1 x3 = res) : W p l e R s m args below meth c H locs 0 0 (MQ below (QiR D (shC dA E) (exC E) A ad S res) args s 0 0 A) (F0 m 0 ls []) := by
  have hx := X.hx
  have hb := X.hb
  unfold f_X2_rule at hf
  refine lv_lload_n hx hb dX2_rule_0 rfl (lv_at hl 1 rfl) ?_
  obtain ⟨v1, hq, hf⟩ := gS_eq hf
  refine gc_i (gc_fixS (S := S) X (mt_X2_isOneWay l D dA A ad E hE S x1 hq) (lw_S q529 q530 q87 q531) ⟨rfl, rfl⟩ hd_X2_isOneWay.2 ⟨Nat.le_trans (Nat.le_of_ble_eq_true rfl) hR.1, Nat.le_trans (Nat.le_of_ble_eq_true rfl) hR.2⟩ hP hS ⟨Nat.zero_le _, Nat.zero_le _⟩ rfl hl.1 rfl (Nat.le_of_ble_eq_true rfl) dX2_rule_1) hS ?_
  rintro _ _ H locs ⟨rfl, rfl⟩ hP hS
  refine gb_if_eq (tgt := 11) hx hb dX2_rule_4 (by decide) hf (fun hf => ?_) (fun hf => ?_)
  · refine lv_aload_n hx hb dX2_rule_11 rfl (lv_at hl 0 rfl) ?_
    refine lv_lload_n hx hb dX2_rule_12 rfl (lv_at hl 1 rfl) ?_
    obtain ⟨v2, hq, hf⟩ := gS_eq hf
    refine gc_i (gc_fixV (S := S) X (mt_X2_isOwn l D dA A ad E k hE hk S x1 hq) (lw_V q533 q535 qs4 q87 q536) ⟨rfl, rfl⟩ hd_X2_isOwn ⟨Nat.le_trans (Nat.le_of_ble_eq_true rfl) hR.1, Nat.le_trans (Nat.le_of_ble_eq_true rfl) hR.2⟩ (wd_recv (r := H_o k) (ci := 2) (q := (RX2, TX2, 23)) X.hK.1 hP (ex_H_o hE hk) rfl rfl) hP hS ⟨Nat.zero_le _, Nat.zero_le _⟩ rfl hl.1 rfl (Nat.le_of_ble_eq_true rfl) dX2_rule_13) hS ?_
    rintro _ _ H locs ⟨rfl, rfl⟩ hP hS
    refine lv_iload_n hx hb dX2_rule_16 rfl (lv_at hl 2 rfl) ?_
    refine gb_icmp_ne (tgt := 24) hx hb dX2_rule_17 (by decide) hf (fun hf => ?_) (fun hf => ?_)
    · refine lv_iconst (v := 1) hx hb dX2_rule_24 (by decide) ?_
      exact gr_iR X hP hS hf dX2_rule_25
    · refine lv_iconst (v := 2) hx hb dX2_rule_20 (by decide) ?_
      refine lv_goto (tgt := 25) hx hb dX2_rule_21 (by decide) ?_
      exact gr_iR X hP hS hf dX2_rule_25
  · refine lv_iconst (v := 3) hx hb dX2_rule_7 (by decide) ?_
    refine lv_goto (tgt := 25) hx hb dX2_rule_8 (by decide) ?_
    exact gr_iR X hP hS hf dX2_rule_25
theorem hd_X2_rule : yX2_rule.cls = RX2 ∧ yX2_rule.cls ≠ "java/lang/invoke/MethodHandle" ∧ yX2_rule.cls ≠ "java/lang/invoke/VarHandle" ∧ (parseMethodDescriptor yX2_rule.desc).map (fun d => d.parameters.length) = some 2 := by decide +kernel
set_option maxHeartbeats 4000000 in
theorem mt_X2_rule (l : Launch) (D : va_G) (dA : Nat → ClassId) (A : Nat → Prop) (ad : L3 → Nat) (E : L3 → Bool) (k : Nat) (hE : EOK E) (hk : k < 2) (S : Mem) (x1 : Int64) (x3 : Int32) {res : Int32} (hq : f_X2_rule k S x1 x3 = res) : Met l yX2_rule (ws_ yX2_rule cX2_rule 4 (some .int)) ({ frames := 2, cells := 0, slots := 0, locals := 62 } : Room) (va_Pc [.ref (ad (H_o k)), .long x1, .int x3] (PreW D dA (shC dA E) (exC E) A ad S)) (QiR D (shC dA E) (exC E) A ad S res) 0 0 A :=
  gx_head (by decide) (Nat.le_of_ble_eq_true rfl) (fun p e s m below meth c ls X hP hl => w_X2_rule (l := l) E k hE hk X ⟨Nat.le_of_ble_eq_true rfl, Nat.le_of_ble_eq_true rfl⟩ S x1 x3 hP va_S.rf (lv_sub (l := [(0, .ref (ad (H_o k))), (1, .long x1), (3, .int x3)]) hl [0, 1, 2] rfl) hq)
set_option maxHeartbeats 4000000 in
theorem w_X2_sending_11 {p : Program} {l : Launch} {e : Env} {R : Room} {s : State} {m : MethodId} {args : Array Value} {below : List Frame} {meth : Method} {c : Code} {D : va_G} {dA : Nat → ClassId} {A : Nat → Prop} {ad : L3 → Nat} (E : L3 → Bool) (k : Nat) (hE : EOK E) (hk : k < 2) (X : CX RX2 cX2_sending 2 (some (.object "StreamHall$Sending")) (KA D dA) p s m args meth c A) (hR : 1 ≤ R.frames ∧ 40 ≤ R.locals) {res : Option Nat} (S : Mem) {H : Heap} {locs : List Loc} {ls : Array Slot} (hP : Wd D clA (shC dA E) (exC E) A ad S H) (hS : va_S A s.heap H locs) (hl : lv_has ls 2 []) (hf : f_X2_sending_11 E k S = some res) : W p l e R s m args below meth c H locs 0 0 (MQ below (QqR D (shC dA E) (exC E) A ad S (Option.map (fun j => ad (S_o k j)) res) (∀ j, res = some j → E (S_o k j) = true)) args s 0 0 A) (F0 m 11 ls []) := by
  have hx := X.hx
  have hb := X.hb
  unfold f_X2_sending_11 at hf
  refine lv_null hx hb dX2_sending_11 ?_
  refine lv_goto (tgt := 21) hx hb dX2_sending_12 (by decide) ?_
  have e := (Option.some.inj hf)
  subst e
  exact gr_q X hP hS (x := none) rfl (fun _ h => by cases h) dX2_sending_21
set_option maxHeartbeats 4000000 in
theorem w_X2_sending {p : Program} {l : Launch} {e : Env} {R : Room} {s : State} {m : MethodId} {args : Array Value} {below : List Frame} {meth : Method} {c : Code} {D : va_G} {dA : Nat → ClassId} {A : Nat → Prop} {ad : L3 → Nat} (E : L3 → Bool) (k : Nat) (hE : EOK E) (hk : k < 2) (X : CX RX2 cX2_sending 2 (some (.object "StreamHall$Sending")) (KA D dA) p s m args meth c A) (hR : 1 ≤ R.frames ∧ 40 ≤ R.locals) {res : Option Nat} (S : Mem) (x1 : Int32) {H : Heap} {locs : List Loc} {ls : Array Slot} (hP : Wd D clA (shC dA E) (exC E) A ad S H) (hS : va_S A s.heap H locs) (hl : lv_has ls 2 [(0, .ref (ad (H_o k))), (1, .int x1)]) (hf : f_X2_sending E k S x1 = some res) : W p l e R s m args below meth c H locs 0 0 (MQ below (QqR D (shC dA E) (exC E) A ad S (Option.map (fun j => ad (S_o k j)) res) (∀ j, res = some j → E (S_o k j) = true)) args s 0 0 A) (F0 m 0 ls []) := by
  have hx := X.hx
  have hb := X.hb
  unfold f_X2_sending at hf
  refine lv_iload_n hx hb dX2_sending_0 rfl (lv_at hl 1 rfl) ?_
  refine gb_if_lt (tgt := 11) hx hb dX2_sending_1 (by decide) hf (fun hf => ?_) (fun hf => ?_)
  · exact w_X2_sending_11 E k hE hk X hR S hP hS (lv_sub hl [] rfl) hf
  · refine lv_iload_n hx hb dX2_sending_4 rfl (lv_at hl 1 rfl) ?_
    refine lv_sipush (v := 256) hx hb dX2_sending_5 (by decide) ?_
    refine gb_icmp_lt (tgt := 15) hx hb dX2_sending_8 (by decide) hf (fun hf => ?_) (fun hf => ?_)
    · refine lv_aload_n hx hb dX2_sending_15 rfl (lv_at hl 0 rfl) ?_
      refine rg_X2_11 X hP (ex_H_o hE hk) dX2_sending_16 ?_
      refine lv_iload_n hx hb dX2_sending_19 rfl (lv_at hl 1 rfl) ?_
      refine ra_H_sendings_ld X hP (ex_H_sendings hE hk) dX2_sending_20 hf (fun he1 hf => ?_) (fun hf => ?_)
      · have e := (Option.some.inj hf)
        subst e
        exact gr_q X hP hS (x := some (ad (S_o k (Int32.toNatClampNeg x1)))) rfl (fun _ h => by cases h; exact he1) dX2_sending_21
      · have e := (Option.some.inj hf)
        subst e
        exact gr_q X hP hS (x := none) rfl (fun _ h => by cases h) dX2_sending_21
    · exact w_X2_sending_11 E k hE hk X hR S hP hS (lv_sub hl [] rfl) hf
theorem hd_X2_sending : yX2_sending.cls = RX2 ∧ yX2_sending.cls ≠ "java/lang/invoke/MethodHandle" ∧ yX2_sending.cls ≠ "java/lang/invoke/VarHandle" ∧ (parseMethodDescriptor yX2_sending.desc).map (fun d => d.parameters.length) = some 1 := by decide +kernel
set_option maxHeartbeats 4000000 in
theorem mt_X2_sending (l : Launch) (D : va_G) (dA : Nat → ClassId) (A : Nat → Prop) (ad : L3 → Nat) (E : L3 → Bool) (k : Nat) (hE : EOK E) (hk : k < 2) (S : Mem) (x1 : Int32) {res : Option Nat} (hq : f_X2_sending E k S x1 = some res) : Met l yX2_sending (ws_ yX2_sending cX2_sending 2 (some (.object "StreamHall$Sending"))) ({ frames := 1, cells := 0, slots := 0, locals := 40 } : Room) (va_Pc [.ref (ad (H_o k)), .int x1] (PreW D dA (shC dA E) (exC E) A ad S)) (QqR D (shC dA E) (exC E) A ad S (Option.map (fun j => ad (S_o k j)) res) (∀ j, res = some j → E (S_o k j) = true)) 0 0 A :=
  gx_head (by decide) (Nat.le_of_ble_eq_true rfl) (fun p e s m below meth c ls X hP hl => w_X2_sending (l := l) E k hE hk X ⟨Nat.le_of_ble_eq_true rfl, Nat.le_of_ble_eq_true rfl⟩ S x1 hP va_S.rf (lv_sub (l := [(0, .ref (ad (H_o k))), (1, .int x1)]) hl [0, 1] rfl) hq)
set_option maxHeartbeats 4000000 in
theorem w_X5_piece_63 {p : Program} {l : Launch} {e : Env} {R : Room} {s : State} {m : MethodId} {args : Array Value} {below : List Frame} {meth : Method} {c : Code} {D : va_G} {dA : Nat → ClassId} {A : Nat → Prop} {ad : L3 → Nat} (E : L3 → Bool) (k : Nat) (hE : EOK E) (hk : k < 2) (X : CX RX5 cX5_piece 1 (some .int) (KA D dA) p s m args meth c A) (hR : 1 ≤ R.frames ∧ 40 ≤ R.locals) {res : Mem × Int32} (S : Mem) {H : Heap} {locs : List Loc} {ls : Array Slot} (hP : Wd D clA (shC dA E) (exC E) A ad S H) (hS : va_S A s.heap H locs) (hl : lv_has ls 1 [(0, .ref (ad (T_o k)))]) (hf : f_X5_piece_63 k S = some res) : W p l e R s m args below meth c H locs 0 0 (MQ below (QiW D (shC dA E) (exC E) A ad res) args s 0 0 A) (F0 m 63 ls []) := by
  have hx := X.hx
  have hb := X.hb
  unfold f_X5_piece_63 at hf
  refine lv_aload_n hx hb dX5_piece_63 rfl (lv_at hl 0 rfl) ?_
  refine rg_X5_16 X hP (ex_T_o hE hk) dX5_piece_64 ?_
  refine lv_aload_n hx hb dX5_piece_67 rfl (lv_at hl 0 rfl) ?_
  refine rg_X5_26 X hP (ex_T_o hE hk) dX5_piece_68 ?_
  refine lv_aload_n hx hb dX5_piece_71 rfl (lv_at hl 0 rfl) ?_
  refine rg_X5_36 X hP (ex_T_o hE hk) dX5_piece_72 ?_
  refine ra_T_at_st X hP hS (ex_T_at hE hk) dX5_piece_75 hf (fun S1 H locs hP hS hf => ?_)
  refine lv_aload_n hx hb dX5_piece_76 rfl (lv_at hl 0 rfl) ?_
  refine rg_X5_20 X hP (ex_T_o hE hk) dX5_piece_77 ?_
  refine lv_aload_n hx hb dX5_piece_80 rfl (lv_at hl 0 rfl) ?_
  refine rg_X5_26 X hP (ex_T_o hE hk) dX5_piece_81 ?_
  refine lv_iconst (v := 0) hx hb dX5_piece_84 (by decide) ?_
  refine ra_T_size_st X hP hS (ex_T_size hE hk) dX5_piece_85 hf (fun S2 H locs hP hS hf => ?_)
  refine lv_aload_n hx hb dX5_piece_86 rfl (lv_at hl 0 rfl) ?_
  refine rg_X5_23 X hP (ex_T_o hE hk) dX5_piece_87 ?_
  refine lv_aload_n hx hb dX5_piece_90 rfl (lv_at hl 0 rfl) ?_
  refine rg_X5_26 X hP (ex_T_o hE hk) dX5_piece_91 ?_
  refine lv_iconst (v := (-1)) hx hb dX5_piece_94 (by decide) ?_
  refine ra_T_next_st X hP hS (ex_T_next hE hk) dX5_piece_95 hf (fun S3 H locs hP hS hf => ?_)
  refine lv_aload_n hx hb dX5_piece_96 rfl (lv_at hl 0 rfl) ?_
  refine lv_dup hx hb dX5_piece_97 rfl ?_
  refine rg_X5_26 X hP (ex_T_o hE hk) dX5_piece_98 ?_
  refine lv_dup_x1 hx hb dX5_piece_101 rfl rfl ?_
  refine lv_iconst (v := 1) hx hb dX5_piece_102 (by decide) ?_
  refine lv_iadd hx hb dX5_piece_103 ?_
  refine rp_X5_26 X hP hS (ex_T_o hE hk) dX5_piece_104 hf (fun S4 H locs hP hS hf => ?_)
  exact gr_iW X hP hS (Option.some.inj hf) dX5_piece_107
set_option maxHeartbeats 4000000 in
theorem w_X5_piece {p : Program} {l : Launch} {e : Env} {R : Room} {s : State} {m : MethodId} {args : Array Value} {below : List Frame} {meth : Method} {c : Code} {D : va_G} {dA : Nat → ClassId} {A : Nat → Prop} {ad : L3 → Nat} (E : L3 → Bool) (k : Nat) (hE : EOK E) (hk : k < 2) (X : CX RX5 cX5_piece 1 (some .int) (KA D dA) p s m args meth c A) (hR : 1 ≤ R.frames ∧ 40 ≤ R.locals) {res : Mem × Int32} (S : Mem) {H : Heap} {locs : List Loc} {ls : Array Slot} (hP : Wd D clA (shC dA E) (exC E) A ad S H) (hS : va_S A s.heap H locs) (hl : lv_has ls 1 [(0, .ref (ad (T_o k)))]) (hf : f_X5_piece k S = some res) : W p l e R s m args below meth c H locs 0 0 (MQ below (QiW D (shC dA E) (exC E) A ad res) args s 0 0 A) (F0 m 0 ls []) := by
  have hx := X.hx
  have hb := X.hb
  unfold f_X5_piece at hf
  refine lv_aload_n hx hb dX5_piece_0 rfl (lv_at hl 0 rfl) ?_
  refine rg_X5_26 X hP (ex_T_o hE hk) dX5_piece_1 ?_
  refine lv_aload_n hx hb dX5_piece_4 rfl (lv_at hl 0 rfl) ?_
  refine rg_X5_16 X hP (ex_T_o hE hk) dX5_piece_5 ?_
  refine ra_T_at_len X hP (ex_T_at hE hk) dX5_piece_8 ?_
  refine gb_icmp_ne (tgt := 63) hx hb dX5_piece_9 (by decide) hf (fun hf => ?_) (fun hf => ?_)
  · exact w_X5_piece_63 E k hE hk X hR S hP hS (lv_sub hl [0] rfl) hf
  · refine lv_aload_n hx hb dX5_piece_12 rfl (lv_at hl 0 rfl) ?_
    refine lv_aload_n hx hb dX5_piece_13 rfl (lv_at hl 0 rfl) ?_
    refine rg_X5_16 X hP (ex_T_o hE hk) dX5_piece_14 ?_
    refine lv_iconst (v := 2) hx hb dX5_piece_17 (by decide) ?_
    refine lv_aload_n hx hb dX5_piece_18 rfl (lv_at hl 0 rfl) ?_
    refine rg_X5_26 X hP (ex_T_o hE hk) dX5_piece_19 ?_
    refine lv_imul hx hb dX5_piece_22 ?_
    cases hf
theorem hd_X5_piece : yX5_piece.cls = RX5 ∧ yX5_piece.cls ≠ "java/lang/invoke/MethodHandle" ∧ yX5_piece.cls ≠ "java/lang/invoke/VarHandle" ∧ (parseMethodDescriptor yX5_piece.desc).map (fun d => d.parameters.length) = some 0 := by decide +kernel
set_option maxHeartbeats 4000000 in
theorem mt_X5_piece (l : Launch) (D : va_G) (dA : Nat → ClassId) (A : Nat → Prop) (ad : L3 → Nat) (E : L3 → Bool) (k : Nat) (hE : EOK E) (hk : k < 2) (S : Mem) {res : Mem × Int32} (hq : f_X5_piece k S = some res) : Met l yX5_piece (ws_ yX5_piece cX5_piece 1 (some .int)) ({ frames := 1, cells := 0, slots := 0, locals := 40 } : Room) (va_Pc [.ref (ad (T_o k))] (PreW D dA (shC dA E) (exC E) A ad S)) (QiW D (shC dA E) (exC E) A ad res) 0 0 A :=
  gx_head (by decide) (Nat.le_of_ble_eq_true rfl) (fun p e s m below meth c ls X hP hl => w_X5_piece (l := l) E k hE hk X ⟨Nat.le_of_ble_eq_true rfl, Nat.le_of_ble_eq_true rfl⟩ S hP va_S.rf (lv_sub (l := [(0, .ref (ad (T_o k)))]) hl [0] rfl) hq)
set_option maxHeartbeats 4000000 in
theorem w_X5_add_95 {p : Program} {l : Launch} {e : Env} {R : Room} {s : State} {m : MethodId} {args : Array Value} {below : List Frame} {meth : Method} {c : Code} {D : va_G} {dA : Nat → ClassId} {A : Nat → Prop} {ad : L3 → Nat} (E : L3 → Bool) (k : Nat) (hE : EOK E) (hk : k < 2) (X : CX RX5 cX5_add 7 (some .int) (KA D dA) p s m args meth c A) (hR : 2 ≤ R.frames ∧ 60 ≤ R.locals) {res : Mem × Int32} (S : Mem) (x1 : Nat) (x3 : Int32) (x5 : Int32) (hx1 : E (S_o k x1) = true) {H : Heap} {locs : List Loc} {ls : Array Slot} (hP : Wd D clA (shC dA E) (exC E) A ad S H) (hS : va_S A s.heap H locs) (hl : lv_has ls 7 [(0, .ref (ad (T_o k))), (1, .ref (ad (S_o k x1))), (2, .ref (ad C_tape)), (3, .int x3), (5, .int x5)]) (hf : f_X5_add_95 k S x1 x3 x5 = some res) : W p l e R s m args below meth c H locs 0 0 (MQ below (QiW D (shC dA E) (exC E) A ad res) args s 0 0 A) (F0 m 95 ls []) := by
  have hx := X.hx
  have hb := X.hb
  unfold f_X5_add_95 at hf
  refine lv_aload_n hx hb dX5_add_95 rfl (lv_at hl 2 rfl) ?_
  refine lv_iload_n hx hb dX5_add_96 rfl (lv_at hl 3 rfl) ?_
  refine lv_aload_n hx hb dX5_add_97 rfl (lv_at hl 0 rfl) ?_
  refine rg_X5_10 X hP (ex_T_o hE hk) dX5_add_98 ?_
  refine lv_aload_n hx hb dX5_add_101 rfl (lv_at hl 0 rfl) ?_
  refine rg_X5_36 X hP (ex_T_o hE hk) dX5_add_102 ?_
  refine lv_iload hx hb dX5_add_105 (lv_at hl 4 rfl) ?_
  refine gc_copy X hP hS (src := C_tape) (dst := T_bytes k) (ex_C_tape hE) (ex_T_bytes hE hk) (fun _ _ => rfl) (fun _ _ => rfl) (fun _ _ h => h) (X.hts _ q688) (X.hts _ q687) (X.hts _ q686) (X.hts _ q103) hl.1 (Nat.le_trans (Nat.le_of_ble_eq_true rfl) hR.1) (Nat.le_trans (Nat.le_of_ble_eq_true rfl) hR.2) dX5_add_107 hf (fun S1 H locs hP hS hf => ?_)
  refine lv_aload_n hx hb dX5_add_110 rfl (lv_at hl 0 rfl) ?_
  refine rg_X5_20 X hP (ex_T_o hE hk) dX5_add_111 ?_
  refine lv_aload_n hx hb dX5_add_114 rfl (lv_at hl 1 rfl) ?_
  refine rg_X5_45 X hP hx1 dX5_add_115 ?_
  refine lv_dup2_11 hx hb dX5_add_118 rfl rfl ?_
  refine ra_T_size_ld X hP (ex_T_size hE hk) dX5_add_119 hf (fun hf => ?_)
  refine lv_iload hx hb dX5_add_120 (lv_at hl 4 rfl) ?_
  refine lv_iadd hx hb dX5_add_122 ?_
  refine ra_T_size_st X hP hS (ex_T_size hE hk) dX5_add_123 hf (fun S2 H locs hP hS hf => ?_)
  refine lv_aload_n hx hb dX5_add_124 rfl (lv_at hl 0 rfl) ?_
  refine lv_dup hx hb dX5_add_125 rfl ?_
  refine rg_X5_36 X hP (ex_T_o hE hk) dX5_add_126 ?_
  refine lv_iload hx hb dX5_add_129 (lv_at hl 4 rfl) ?_
  refine lv_iadd hx hb dX5_add_131 ?_
  refine rp_X5_36 X hP hS (ex_T_o hE hk) dX5_add_132 hf (fun S3 H locs hP hS hf => ?_)
  refine lv_aload_n hx hb dX5_add_135 rfl (lv_at hl 1 rfl) ?_
  refine lv_dup hx hb dX5_add_136 rfl ?_
  refine rg_X5_63 X hP hx1 dX5_add_137 ?_
  refine lv_iload hx hb dX5_add_140 (lv_at hl 4 rfl) ?_
  refine lv_iadd hx hb dX5_add_142 ?_
  refine rp_X5_63 X hP hS hx1 dX5_add_143 hf (fun S4 H locs hP hS hf => ?_)
  refine lv_iload hx hb dX5_add_146 (lv_at hl 4 rfl) ?_
  exact gr_iW X hP hS (Option.some.inj hf) dX5_add_148
set_option maxHeartbeats 4000000 in
theorem w_X5_add_89 {p : Program} {l : Launch} {e : Env} {R : Room} {s : State} {m : MethodId} {args : Array Value} {below : List Frame} {meth : Method} {c : Code} {D : va_G} {dA : Nat → ClassId} {A : Nat → Prop} {ad : L3 → Nat} (E : L3 → Bool) (k : Nat) (hE : EOK E) (hk : k < 2) (X : CX RX5 cX5_add 7 (some .int) (KA D dA) p s m args meth c A) (hR : 2 ≤ R.frames ∧ 60 ≤ R.locals) {res : Mem × Int32} (S : Mem) (x1 : Nat) (x3 : Int32) (x5 : Int32) (x6 : Int32) (hx1 : E (S_o k x1) = true) {H : Heap} {locs : List Loc} {ls : Array Slot} (hP : Wd D clA (shC dA E) (exC E) A ad S H) (hS : va_S A s.heap H locs) (hl : lv_has ls 7 [(0, .ref (ad (T_o k))), (1, .ref (ad (S_o k x1))), (2, .ref (ad C_tape)), (3, .int x3), (5, .int x5), (6, .int x6)]) (hf : f_X5_add_89 k S x1 x3 x5 x6 = some res) : W p l e R s m args below meth c H locs 0 0 (MQ below (QiW D (shC dA E) (exC E) A ad res) args s 0 0 A) (F0 m 89 ls []) := by
  have hx := X.hx
  have hb := X.hb
  unfold f_X5_add_89 at hf
  refine lv_aload_n hx hb dX5_add_89 rfl (lv_at hl 1 rfl) ?_
  refine lv_iload hx hb dX5_add_90 (lv_at hl 5 rfl) ?_
  refine rp_X5_45 X hP hS hx1 dX5_add_92 hf (fun S1 H locs hP hS hf => ?_)
  exact w_X5_add_95 E k hE hk X hR S1 x1 x3 x5 hx1 hP hS (lv_sub hl [0, 1, 2, 3, 4] rfl) hf
set_option maxHeartbeats 4000000 in
theorem w_X5_add_55 {p : Program} {l : Launch} {e : Env} {R : Room} {s : State} {m : MethodId} {args : Array Value} {below : List Frame} {meth : Method} {c : Code} {D : va_G} {dA : Nat → ClassId} {A : Nat → Prop} {ad : L3 → Nat} (E : L3 → Bool) (k : Nat) (hE : EOK E) (hk : k < 2) (X : CX RX5 cX5_add 7 (some .int) (KA D dA) p s m args meth c A) (hR : 2 ≤ R.frames ∧ 60 ≤ R.locals) {res : Mem × Int32} (S : Mem) (x1 : Nat) (x3 : Int32) (x5 : Int32) (hx1 : E (S_o k x1) = true) {H : Heap} {locs : List Loc} {ls : Array Slot} (hP : Wd D clA (shC dA E) (exC E) A ad S H) (hS : va_S A s.heap H locs) (hl : lv_has ls 7 [(0, .ref (ad (T_o k))), (1, .ref (ad (S_o k x1))), (2, .ref (ad C_tape)), (3, .int x3), (5, .int x5)]) (hf : f_X5_add_55 k S x1 x3 x5 = some res) : W p l e R s m args below meth c H locs 0 0 (MQ below (QiW D (shC dA E) (exC E) A ad res) args s 0 0 A) (F0 m 55 ls []) := by
  have hx := X.hx
  have hb := X.hb
  unfold f_X5_add_55 at hf
  refine lv_aload_n hx hb dX5_add_55 rfl (lv_at hl 0 rfl) ?_
  obtain ⟨S1, v2, hq, hf⟩ := gB2_some hf
  refine gc_i (gc_fixV (S := S) X (mt_X5_piece l D dA A ad E k hE hk S hq) (lw_V q670 q672 qs7 q90 q673) ⟨rfl, rfl⟩ hd_X5_piece ⟨Nat.le_trans (Nat.le_of_ble_eq_true rfl) hR.1, Nat.le_trans (Nat.le_of_ble_eq_true rfl) hR.2⟩ (wd_recv (r := T_o k) (ci := 5) (q := (RX5, TX5, 6)) X.hK.1 hP (ex_T_o hE hk) rfl rfl) hP hS ⟨Nat.zero_le _, Nat.zero_le _⟩ rfl hl.1 rfl (Nat.le_of_ble_eq_true rfl) dX5_add_56) hS ?_
  rintro _ _ H locs ⟨⟩ hP hS
  refine lv_istore (lv' := [(6, .int v2), (0, .ref (ad (T_o k))), (1, .ref (ad (S_o k x1))), (2, .ref (ad C_tape)), (3, .int x3), (5, .int x5)]) hx hb dX5_add_59 hl (by decide) rfl (fun ls hl => ?_)
  refine lv_aload_n hx hb dX5_add_61 rfl (lv_at hl 2 rfl) ?_
  refine rg_X5_45 X hP hx1 dX5_add_62 ?_
  refine lv_iconst (v := (-1)) hx hb dX5_add_65 (by decide) ?_
  refine gb_icmp_ne (tgt := 78) hx hb dX5_add_66 (by decide) hf (fun hf => ?_) (fun hf => ?_)
  · refine lv_aload_n hx hb dX5_add_78 rfl (lv_at hl 1 rfl) ?_
    refine rg_X5_23 X hP (ex_T_o hE hk) dX5_add_79 ?_
    refine lv_aload_n hx hb dX5_add_82 rfl (lv_at hl 2 rfl) ?_
    refine rg_X5_45 X hP hx1 dX5_add_83 ?_
    refine lv_iload hx hb dX5_add_86 (lv_at hl 0 rfl) ?_
    refine ra_T_next_st X hP hS (ex_T_next hE hk) dX5_add_88 hf (fun S3 H locs hP hS hf => ?_)
    exact w_X5_add_89 E k hE hk X hR S3 x1 x3 x5 v2 hx1 hP hS (lv_sub hl [1, 2, 3, 4, 5, 0] rfl) hf
  · refine lv_aload_n hx hb dX5_add_69 rfl (lv_at hl 2 rfl) ?_
    refine lv_iload hx hb dX5_add_70 (lv_at hl 0 rfl) ?_
    refine rp_X5_54 X hP hS hx1 dX5_add_72 hf (fun S4 H locs hP hS hf => ?_)
    refine lv_goto (tgt := 89) hx hb dX5_add_75 (by decide) ?_
    exact w_X5_add_89 E k hE hk X hR S4 x1 x3 x5 v2 hx1 hP hS (lv_sub hl [1, 2, 3, 4, 5, 0] rfl) hf
set_option maxHeartbeats 4000000 in
theorem w_X5_add {p : Program} {l : Launch} {e : Env} {R : Room} {s : State} {m : MethodId} {args : Array Value} {below : List Frame} {meth : Method} {c : Code} {D : va_G} {dA : Nat → ClassId} {A : Nat → Prop} {ad : L3 → Nat} (E : L3 → Bool) (k : Nat) (hE : EOK E) (hk : k < 2) (X : CX RX5 cX5_add 7 (some .int) (KA D dA) p s m args meth c A) (hR : 2 ≤ R.frames ∧ 60 ≤ R.locals) {res : Mem × Int32} (S : Mem) (x1 : Nat) (x3 : Int32) (x4 : Int32) (hx1 : E (S_o k x1) = true) {H : Heap} {locs : List Loc} {ls : Array Slot} (hP : Wd D clA (shC dA E) (exC E) A ad S H) (hS : va_S A s.heap H locs) (hl : lv_has ls 7 [(0, .ref (ad (T_o k))), (1, .ref (ad (S_o k x1))), (2, .ref (ad C_tape)), (3, .int x3), (4, .int x4)]) (hf : f_X5_add k S x1 x3 x4 = some res) : W p l e R s m args below meth c H locs 0 0 (MQ below (QiW D (shC dA E) (exC E) A ad res) args s 0 0 A) (F0 m 0 ls []) := by
  have hx := X.hx
  have hb := X.hb
  unfold f_X5_add at hf
  refine lv_iload hx hb dX5_add_0 (lv_at hl 4 rfl) ?_
  refine lv_ldc hx hb X.hown (X.hts _ q189) dX5_add_2 ?_
  refine lv_aload_n hx hb dX5_add_4 rfl (lv_at hl 0 rfl) ?_
  refine rg_X5_36 X hP (ex_T_o hE hk) dX5_add_5 ?_
  refine lv_isub hx hb dX5_add_8 ?_
  refine gm_mnI X (X.hts _ q667) (X.hts _ q668) (X.hts _ q99) (X.hts _ q669) hl.1 ⟨Nat.zero_le _, Nat.zero_le _⟩ (Nat.le_trans (Nat.le_of_ble_eq_true rfl) hR.1) (Nat.le_trans (Nat.le_of_ble_eq_true rfl) hR.2) dX5_add_9 ?_
  refine lv_istore (lv' := [(5, .int (mnI x4 (65536 - (S.1 (T_o k) 1)))), (0, .ref (ad (T_o k))), (1, .ref (ad (S_o k x1))), (2, .ref (ad C_tape)), (3, .int x3), (4, .int x4)]) hx hb dX5_add_12 hl (by decide) rfl (fun ls hl => ?_)
  refine lv_iload hx hb dX5_add_14 (lv_at hl 0 rfl) ?_
  refine gb_if_ne (tgt := 21) hx hb dX5_add_16 (by decide) hf (fun hf => ?_) (fun hf => ?_)
  · refine lv_aload_n hx hb dX5_add_21 rfl (lv_at hl 2 rfl) ?_
    refine rg_X5_45 X hP hx1 dX5_add_22 ?_
    refine lv_iconst (v := (-1)) hx hb dX5_add_25 (by decide) ?_
    refine gb_icmp_eq (tgt := 55) hx hb dX5_add_26 (by decide) hf (fun hf => ?_) (fun hf => ?_)
    · exact w_X5_add_55 E k hE hk X hR S x1 x3 (mnI x4 (65536 - (S.1 (T_o k) 1))) hx1 hP hS (lv_sub hl [1, 2, 3, 4, 0] rfl) hf
    · refine lv_aload_n hx hb dX5_add_29 rfl (lv_at hl 1 rfl) ?_
      refine rg_X5_16 X hP (ex_T_o hE hk) dX5_add_30 ?_
      refine lv_aload_n hx hb dX5_add_33 rfl (lv_at hl 2 rfl) ?_
      refine rg_X5_45 X hP hx1 dX5_add_34 ?_
      refine ra_T_at_ld X hP (ex_T_at hE hk) dX5_add_37 hf (fun hf => ?_)
      refine lv_aload_n hx hb dX5_add_38 rfl (lv_at hl 1 rfl) ?_
      refine rg_X5_20 X hP (ex_T_o hE hk) dX5_add_39 ?_
      refine lv_aload_n hx hb dX5_add_42 rfl (lv_at hl 2 rfl) ?_
      refine rg_X5_45 X hP hx1 dX5_add_43 ?_
      refine ra_T_size_ld X hP (ex_T_size hE hk) dX5_add_46 hf (fun hf => ?_)
      refine lv_iadd hx hb dX5_add_47 ?_
      refine lv_aload_n hx hb dX5_add_48 rfl (lv_at hl 1 rfl) ?_
      refine rg_X5_36 X hP (ex_T_o hE hk) dX5_add_49 ?_
      refine gb_icmp_eq (tgt := 95) hx hb dX5_add_52 (by decide) hf (fun hf => ?_) (fun hf => ?_)
      · exact w_X5_add_95 E k hE hk X hR S x1 x3 (mnI x4 (65536 - (S.1 (T_o k) 1))) hx1 hP hS (lv_sub hl [1, 2, 3, 4, 0] rfl) hf
      · exact w_X5_add_55 E k hE hk X hR S x1 x3 (mnI x4 (65536 - (S.1 (T_o k) 1))) hx1 hP hS (lv_sub hl [1, 2, 3, 4, 0] rfl) hf
  · refine lv_iconst (v := 0) hx hb dX5_add_19 (by decide) ?_
    exact gr_iW X hP hS (Option.some.inj hf) dX5_add_20
theorem hd_X5_add : yX5_add.cls = RX5 ∧ yX5_add.cls ≠ "java/lang/invoke/MethodHandle" ∧ yX5_add.cls ≠ "java/lang/invoke/VarHandle" ∧ (parseMethodDescriptor yX5_add.desc).map (fun d => d.parameters.length) = some 4 := by decide +kernel
set_option maxHeartbeats 4000000 in
theorem mt_X5_add (l : Launch) (D : va_G) (dA : Nat → ClassId) (A : Nat → Prop) (ad : L3 → Nat) (E : L3 → Bool) (k : Nat) (hE : EOK E) (hk : k < 2) (S : Mem) (x1 : Nat) (x3 : Int32) (x4 : Int32) (hx1 : E (S_o k x1) = true) {res : Mem × Int32} (hq : f_X5_add k S x1 x3 x4 = some res) : Met l yX5_add (ws_ yX5_add cX5_add 7 (some .int)) ({ frames := 2, cells := 0, slots := 0, locals := 60 } : Room) (va_Pc [.ref (ad (T_o k)), .ref (ad (S_o k x1)), .ref (ad C_tape), .int x3, .int x4] (PreW D dA (shC dA E) (exC E) A ad S)) (QiW D (shC dA E) (exC E) A ad res) 0 0 A :=
  gx_head (by decide) (Nat.le_of_ble_eq_true rfl) (fun p e s m below meth c ls X hP hl => w_X5_add (l := l) E k hE hk X ⟨Nat.le_of_ble_eq_true rfl, Nat.le_of_ble_eq_true rfl⟩ S x1 x3 x4 hx1 hP va_S.rf (lv_sub (l := [(0, .ref (ad (T_o k))), (1, .ref (ad (S_o k x1))), (2, .ref (ad C_tape)), (3, .int x3), (4, .int x4)]) hl [0, 1, 2, 3, 4] rfl) hq)
set_option maxHeartbeats 4000000 in
theorem w_X2_write_20 {p : Program} {l : Launch} {e : Env} {R : Room} {s : State} {m : MethodId} {args : Array Value} {below : List Frame} {meth : Method} {c : Code} {D : va_G} {dA : Nat → ClassId} {A : Nat → Prop} {ad : L3 → Nat} (E : L3 → Bool) (k : Nat) (hE : EOK E) (hk : k < 2) (X : CX RX2 cX2_write 6 (some .int) (KA D dA) p s m args meth c A) (hR : 3 ≤ R.frames ∧ 86 ≤ R.locals) {res : Mem × Int32} (S : Mem) {H : Heap} {locs : List Loc} {ls : Array Slot} (hP : Wd D clA (shC dA E) (exC E) A ad S H) (hS : va_S A s.heap H locs) (hl : lv_has ls 6 []) (hf : f_X2_write_20 E k S = some res) : W p l e R s m args below meth c H locs 0 0 (MQ below (QiW D (shC dA E) (exC E) A ad res) args s 0 0 A) (F0 m 20 ls []) := by
  have hx := X.hx
  have hb := X.hb
  unfold f_X2_write_20 at hf
  refine lv_iconst (v := (-1)) hx hb dX2_write_20 (by decide) ?_
  refine lv_goto (tgt := 37) hx hb dX2_write_21 (by decide) ?_
  exact gr_iW X hP hS (Option.some.inj hf) dX2_write_37
set_option maxHeartbeats 4000000 in
theorem w_X2_write {p : Program} {l : Launch} {e : Env} {R : Room} {s : State} {m : MethodId} {args : Array Value} {below : List Frame} {meth : Method} {c : Code} {D : va_G} {dA : Nat → ClassId} {A : Nat → Prop} {ad : L3 → Nat} (E : L3 → Bool) (k : Nat) (hE : EOK E) (hk : k < 2) (X : CX RX2 cX2_write 6 (some .int) (KA D dA) p s m args meth c A) (hR : 3 ≤ R.frames ∧ 86 ≤ R.locals) {res : Mem × Int32} (S : Mem) (x1 : Int32) (x3 : Int32) (x4 : Int32) {H : Heap} {locs : List Loc} {ls : Array Slot} (hP : Wd D clA (shC dA E) (exC E) A ad S H) (hS : va_S A s.heap H locs) (hl : lv_has ls 6 [(0, .ref (ad (H_o k))), (1, .int x1), (2, .ref (ad C_tape)), (3, .int x3), (4, .int x4)]) (hf : f_X2_write E k S x1 x3 x4 = some res) : W p l e R s m args below meth c H locs 0 0 (MQ below (QiW D (shC dA E) (exC E) A ad res) args s 0 0 A) (F0 m 0 ls []) := by
  have hx := X.hx
  have hb := X.hb
  unfold f_X2_write at hf
  refine lv_aload_n hx hb dX2_write_0 rfl (lv_at hl 0 rfl) ?_
  refine lv_iload_n hx hb dX2_write_1 rfl (lv_at hl 1 rfl) ?_
  obtain ⟨v1, hq, hf⟩ := gB_some hf
  refine gc_q (gc_fixV (S := S) X (mt_X2_sending l D dA A ad E k hE hk S x1 hq) (lw_V q659 q661 qs6 q87 q662) ⟨rfl, rfl⟩ hd_X2_sending ⟨Nat.le_trans (Nat.le_of_ble_eq_true rfl) hR.1, Nat.le_trans (Nat.le_of_ble_eq_true rfl) hR.2⟩ (wd_recv (r := H_o k) (ci := 2) (q := (RX2, TX2, 23)) X.hK.1 hP (ex_H_o hE hk) rfl rfl) hP hS ⟨Nat.zero_le _, Nat.zero_le _⟩ rfl hl.1 rfl (Nat.le_of_ble_eq_true rfl) dX2_write_2) hS ?_
  rintro _ _ H locs ⟨rfl, rfl, hv⟩ hP hS
  rcases v1 with _ | j2
  · replace hf := gM_none hf
    refine lv_astoreN (lv' := [(5, .null), (0, .ref (ad (H_o k))), (1, .int x1), (2, .ref (ad C_tape)), (3, .int x3), (4, .int x4)]) hx hb dX2_write_5 hl (by decide) rfl (fun ls hl => ?_)
    refine lv_aloadN hx hb dX2_write_7 (lv_at hl 0 rfl) ?_
    refine lv_ifnullN (tgt := 20) hx hb dX2_write_9 (by decide) ?_
    exact w_X2_write_20 E k hE hk X hR S hP hS (lv_sub hl [] rfl) hf
  · replace hf := gM_some hf
    have he3 := hv j2 rfl
    refine lv_astore (lv' := [(5, .ref (ad (S_o k j2))), (0, .ref (ad (H_o k))), (1, .int x1), (2, .ref (ad C_tape)), (3, .int x3), (4, .int x4)]) hx hb dX2_write_5 hl (by decide) rfl (fun ls hl => ?_)
    refine lv_aload hx hb dX2_write_7 (lv_at hl 0 rfl) ?_
    refine lv_ifnull hx hb dX2_write_9 ?_
    refine lv_aload hx hb dX2_write_12 (lv_at hl 0 rfl) ?_
    refine rg_X2_150 X hP he3 dX2_write_14 ?_
    refine gb_if_eq (tgt := 24) hx hb dX2_write_17 (by decide) hf (fun hf => ?_) (fun hf => ?_)
    · refine lv_aload_n hx hb dX2_write_24 rfl (lv_at hl 1 rfl) ?_
      refine rg_X2_48 X hP (ex_H_o hE hk) dX2_write_25 ?_
      refine lv_aload hx hb dX2_write_28 (lv_at hl 0 rfl) ?_
      refine lv_aload_n hx hb dX2_write_30 rfl (lv_at hl 3 rfl) ?_
      refine lv_iload_n hx hb dX2_write_31 rfl (lv_at hl 4 rfl) ?_
      refine lv_iload hx hb dX2_write_32 (lv_at hl 5 rfl) ?_
      obtain ⟨S4, v5, hq, hf⟩ := gB2_some hf
      refine gc_i (gc_fixV (S := S) X (mt_X5_add l D dA A ad E k hE hk S j2 x3 x4 he3 hq) (lw_V q663 q664 q665 q90 q666) ⟨rfl, rfl⟩ hd_X5_add ⟨Nat.le_trans (Nat.le_of_ble_eq_true rfl) hR.1, Nat.le_trans (Nat.le_of_ble_eq_true rfl) hR.2⟩ (wd_recv (r := T_o k) (ci := 5) (q := (RX5, TX5, 6)) X.hK.1 hP (ex_T_o hE hk) rfl rfl) hP hS ⟨Nat.zero_le _, Nat.zero_le _⟩ rfl hl.1 rfl (Nat.le_of_ble_eq_true rfl) dX2_write_34) hS ?_
      rintro _ _ H locs ⟨⟩ hP hS
      exact gr_iW X hP hS (Option.some.inj hf) dX2_write_37
    · exact w_X2_write_20 E k hE hk X hR S hP hS (lv_sub hl [] rfl) hf
theorem hd_X2_write : yX2_write.cls = RX2 ∧ yX2_write.cls ≠ "java/lang/invoke/MethodHandle" ∧ yX2_write.cls ≠ "java/lang/invoke/VarHandle" ∧ (parseMethodDescriptor yX2_write.desc).map (fun d => d.parameters.length) = some 4 := by decide +kernel
set_option maxHeartbeats 4000000 in
theorem mt_X2_write (l : Launch) (D : va_G) (dA : Nat → ClassId) (A : Nat → Prop) (ad : L3 → Nat) (E : L3 → Bool) (k : Nat) (hE : EOK E) (hk : k < 2) (S : Mem) (x1 : Int32) (x3 : Int32) (x4 : Int32) {res : Mem × Int32} (hq : f_X2_write E k S x1 x3 x4 = some res) : Met l yX2_write (ws_ yX2_write cX2_write 6 (some .int)) ({ frames := 3, cells := 0, slots := 0, locals := 86 } : Room) (va_Pc [.ref (ad (H_o k)), .int x1, .ref (ad C_tape), .int x3, .int x4] (PreW D dA (shC dA E) (exC E) A ad S)) (QiW D (shC dA E) (exC E) A ad res) 0 0 A :=
  gx_head (by decide) (Nat.le_of_ble_eq_true rfl) (fun p e s m below meth c ls X hP hl => w_X2_write (l := l) E k hE hk X ⟨Nat.le_of_ble_eq_true rfl, Nat.le_of_ble_eq_true rfl⟩ S x1 x3 x4 hP va_S.rf (lv_sub (l := [(0, .ref (ad (H_o k))), (1, .int x1), (2, .ref (ad C_tape)), (3, .int x3), (4, .int x4)]) hl [0, 1, 2, 3, 4] rfl) hq)
set_option maxHeartbeats 4000000 in
theorem w_X2_finish {p : Program} {l : Launch} {e : Env} {R : Room} {s : State} {m : MethodId} {args : Array Value} {below : List Frame} {meth : Method} {c : Code} {D : va_G} {dA : Nat → ClassId} {A : Nat → Prop} {ad : L3 → Nat} (E : L3 → Bool) (k : Nat) (hE : EOK E) (hk : k < 2) (X : CX RX2 cX2_finish 3 (some .boolean) (KA D dA) p s m args meth c A) (hR : 2 ≤ R.frames ∧ 61 ≤ R.locals) {res : Mem × Int32} (S : Mem) (x1 : Int32) {H : Heap} {locs : List Loc} {ls : Array Slot} (hP : Wd D clA (shC dA E) (exC E) A ad S H) (hS : va_S A s.heap H locs) (hl : lv_has ls 3 [(0, .ref (ad (H_o k))), (1, .int x1)]) (hf : f_X2_finish E k S x1 = some res) : W p l e R s m args below meth c H locs 0 0 (MQ below (QiW D (shC dA E) (exC E) A ad res) args s 0 0 A) (F0 m 0 ls []) := by
  have hx := X.hx
  have hb := X.hb
  unfold f_X2_finish at hf
  refine lv_aload_n hx hb dX2_finish_0 rfl (lv_at hl 0 rfl) ?_
  refine lv_iload_n hx hb dX2_finish_1 rfl (lv_at hl 1 rfl) ?_
  obtain ⟨v1, hq, hf⟩ := gB_some hf
  refine gc_q (gc_fixV (S := S) X (mt_X2_sending l D dA A ad E k hE hk S x1 hq) (lw_V q659 q661 qs6 q87 q662) ⟨rfl, rfl⟩ hd_X2_sending ⟨Nat.le_trans (Nat.le_of_ble_eq_true rfl) hR.1, Nat.le_trans (Nat.le_of_ble_eq_true rfl) hR.2⟩ (wd_recv (r := H_o k) (ci := 2) (q := (RX2, TX2, 23)) X.hK.1 hP (ex_H_o hE hk) rfl rfl) hP hS ⟨Nat.zero_le _, Nat.zero_le _⟩ rfl hl.1 rfl (Nat.le_of_ble_eq_true rfl) dX2_finish_2) hS ?_
  rintro _ _ H locs ⟨rfl, rfl, hv⟩ hP hS
  rcases v1 with _ | j2
  · replace hf := gM_none hf
    refine lv_astore_nN (lv' := [(2, .null), (0, .ref (ad (H_o k))), (1, .int x1)]) hx hb dX2_finish_5 rfl hl (by decide) rfl (fun ls hl => ?_)
    refine lv_aload_nN hx hb dX2_finish_6 rfl (lv_at hl 0 rfl) ?_
    refine lv_ifnullN (tgt := 17) hx hb dX2_finish_7 (by decide) ?_
    refine lv_iconst (v := 0) hx hb dX2_finish_17 (by decide) ?_
    exact gr_zW X hP hS (Option.some.inj hf) (by decide) dX2_finish_18
  · replace hf := gM_some hf
    have he3 := hv j2 rfl
    refine lv_astore_n (lv' := [(2, .ref (ad (S_o k j2))), (0, .ref (ad (H_o k))), (1, .int x1)]) hx hb dX2_finish_5 rfl hl (by decide) rfl (fun ls hl => ?_)
    refine lv_aload_n hx hb dX2_finish_6 rfl (lv_at hl 0 rfl) ?_
    refine lv_ifnull hx hb dX2_finish_7 ?_
    refine lv_aload_n hx hb dX2_finish_10 rfl (lv_at hl 0 rfl) ?_
    refine rg_X2_150 X hP he3 dX2_finish_11 ?_
    refine gb_if_eq (tgt := 19) hx hb dX2_finish_14 (by decide) hf (fun hf => ?_) (fun hf => ?_)
    · refine lv_aload_n hx hb dX2_finish_19 rfl (lv_at hl 0 rfl) ?_
      refine lv_iconst (v := 1) hx hb dX2_finish_20 (by decide) ?_
      refine rp_X2_150 X hP hS he3 dX2_finish_21 hf (fun S4 H locs hP hS hf => ?_)
      refine lv_aload_n hx hb dX2_finish_24 rfl (lv_at hl 0 rfl) ?_
      refine lv_iconst (v := 1) hx hb dX2_finish_25 (by decide) ?_
      refine rp_X2_157 X hP hS he3 dX2_finish_26 hf (fun S5 H locs hP hS hf => ?_)
      refine lv_iconst (v := 1) hx hb dX2_finish_29 (by decide) ?_
      exact gr_zW X hP hS (Option.some.inj hf) (by decide) dX2_finish_30
    · refine lv_iconst (v := 0) hx hb dX2_finish_17 (by decide) ?_
      exact gr_zW X hP hS (Option.some.inj hf) (by decide) dX2_finish_18
theorem hd_X2_finish : yX2_finish.cls = RX2 ∧ yX2_finish.cls ≠ "java/lang/invoke/MethodHandle" ∧ yX2_finish.cls ≠ "java/lang/invoke/VarHandle" ∧ (parseMethodDescriptor yX2_finish.desc).map (fun d => d.parameters.length) = some 1 := by decide +kernel
set_option maxHeartbeats 4000000 in
theorem mt_X2_finish (l : Launch) (D : va_G) (dA : Nat → ClassId) (A : Nat → Prop) (ad : L3 → Nat) (E : L3 → Bool) (k : Nat) (hE : EOK E) (hk : k < 2) (S : Mem) (x1 : Int32) {res : Mem × Int32} (hq : f_X2_finish E k S x1 = some res) : Met l yX2_finish (ws_ yX2_finish cX2_finish 3 (some .boolean)) ({ frames := 2, cells := 0, slots := 0, locals := 61 } : Room) (va_Pc [.ref (ad (H_o k)), .int x1] (PreW D dA (shC dA E) (exC E) A ad S)) (QiW D (shC dA E) (exC E) A ad res) 0 0 A :=
  gx_head (by decide) (Nat.le_of_ble_eq_true rfl) (fun p e s m below meth c ls X hP hl => w_X2_finish (l := l) E k hE hk X ⟨Nat.le_of_ble_eq_true rfl, Nat.le_of_ble_eq_true rfl⟩ S x1 hP va_S.rf (lv_sub (l := [(0, .ref (ad (H_o k))), (1, .int x1)]) hl [0, 1] rfl) hq)
set_option maxHeartbeats 4000000 in
theorem w_X9_isLive_15 {p : Program} {l : Launch} {e : Env} {R : Room} {s : State} {m : MethodId} {args : Array Value} {below : List Frame} {meth : Method} {c : Code} {D : va_G} {dA : Nat → ClassId} {A : Nat → Prop} {ad : L3 → Nat} (E : L3 → Bool) (k : Nat) (j : Nat) (hE : EOK E) (hk : k < 2) (hj : E (S_o k j) = true) (X : CX RX9 cX9_isLive 1 (some .boolean) (KA D dA) p s m args meth c A) (hR : 1 ≤ R.frames ∧ 40 ≤ R.locals) {res : Int32} (S : Mem) {H : Heap} {locs : List Loc} {ls : Array Slot} (hP : Wd D clA (shC dA E) (exC E) A ad S H) (hS : va_S A s.heap H locs) (hl : lv_has ls 1 []) (hf : f_X9_isLive_15 k j S = res) : W p l e R s m args below meth c H locs 0 0 (MQ below (QiR D (shC dA E) (exC E) A ad S res) args s 0 0 A) (F0 m 15 ls []) := by
  have hx := X.hx
  have hb := X.hb
  unfold f_X9_isLive_15 at hf
  refine lv_iconst (v := 1) hx hb dX9_isLive_15 (by decide) ?_
  refine lv_goto (tgt := 20) hx hb dX9_isLive_16 (by decide) ?_
  exact gr_zR X hP hS hf (by decide) dX9_isLive_20
set_option maxHeartbeats 4000000 in
theorem w_X9_isLive {p : Program} {l : Launch} {e : Env} {R : Room} {s : State} {m : MethodId} {args : Array Value} {below : List Frame} {meth : Method} {c : Code} {D : va_G} {dA : Nat → ClassId} {A : Nat → Prop} {ad : L3 → Nat} (E : L3 → Bool) (k : Nat) (j : Nat) (hE : EOK E) (hk : k < 2) (hj : E (S_o k j) = true) (X : CX RX9 cX9_isLive 1 (some .boolean) (KA D dA) p s m args meth c A) (hR : 1 ≤ R.frames ∧ 40 ≤ R.locals) {res : Int32} (S : Mem) {H : Heap} {locs : List Loc} {ls : Array Slot} (hP : Wd D clA (shC dA E) (exC E) A ad S H) (hS : va_S A s.heap H locs) (hl : lv_has ls 1 [(0, .ref (ad (S_o k j)))]) (hf : f_X9_isLive k j S = res) : W p l e R s m args below meth c H locs 0 0 (MQ below (QiR D (shC dA E) (exC E) A ad S res) args s 0 0 A) (F0 m 0 ls []) := by
  have hx := X.hx
  have hb := X.hb
  unfold f_X9_isLive at hf
  refine lv_aload_n hx hb dX9_isLive_0 rfl (lv_at hl 0 rfl) ?_
  refine rg_X9_33 X hP hj dX9_isLive_1 ?_
  refine gb_if_eq (tgt := 15) hx hb dX9_isLive_4 (by decide) hf (fun hf => ?_) (fun hf => ?_)
  · exact w_X9_isLive_15 E k j hE hk hj X hR S hP hS (lv_sub hl [] rfl) hf
  · refine lv_aload_n hx hb dX9_isLive_7 rfl (lv_at hl 0 rfl) ?_
    refine rg_X9_33 X hP hj dX9_isLive_8 ?_
    refine lv_iconst (v := 1) hx hb dX9_isLive_11 (by decide) ?_
    refine gb_icmp_ne (tgt := 19) hx hb dX9_isLive_12 (by decide) hf (fun hf => ?_) (fun hf => ?_)
    · refine lv_iconst (v := 0) hx hb dX9_isLive_19 (by decide) ?_
      exact gr_zR X hP hS hf (by decide) dX9_isLive_20
    · exact w_X9_isLive_15 E k j hE hk hj X hR S hP hS (lv_sub hl [] rfl) hf
theorem hd_X9_isLive : yX9_isLive.cls = RX9 ∧ yX9_isLive.cls ≠ "java/lang/invoke/MethodHandle" ∧ yX9_isLive.cls ≠ "java/lang/invoke/VarHandle" ∧ (parseMethodDescriptor yX9_isLive.desc).map (fun d => d.parameters.length) = some 0 := by decide +kernel
set_option maxHeartbeats 4000000 in
theorem mt_X9_isLive (l : Launch) (D : va_G) (dA : Nat → ClassId) (A : Nat → Prop) (ad : L3 → Nat) (E : L3 → Bool) (k : Nat) (j : Nat) (hE : EOK E) (hk : k < 2) (hj : E (S_o k j) = true) (S : Mem) {res : Int32} (hq : f_X9_isLive k j S = res) : Met l yX9_isLive (ws_ yX9_isLive cX9_isLive 1 (some .boolean)) ({ frames := 1, cells := 0, slots := 0, locals := 40 } : Room) (va_Pc [.ref (ad (S_o k j))] (PreW D dA (shC dA E) (exC E) A ad S)) (QiR D (shC dA E) (exC E) A ad S res) 0 0 A :=
  gx_head (by decide) (Nat.le_of_ble_eq_true rfl) (fun p e s m below meth c ls X hP hl => w_X9_isLive (l := l) E k j hE hk hj X ⟨Nat.le_of_ble_eq_true rfl, Nat.le_of_ble_eq_true rfl⟩ S hP va_S.rf (lv_sub (l := [(0, .ref (ad (S_o k j)))]) hl [0] rfl) hq)
set_option maxHeartbeats 4000000 in
theorem w_X9_reset {p : Program} {l : Launch} {e : Env} {R : Room} {s : State} {m : MethodId} {args : Array Value} {below : List Frame} {meth : Method} {c : Code} {D : va_G} {dA : Nat → ClassId} {A : Nat → Prop} {ad : L3 → Nat} (E : L3 → Bool) (k : Nat) (j : Nat) (hE : EOK E) (hk : k < 2) (hj : E (S_o k j) = true) (X : CX RX9 cX9_reset 3 none (KA D dA) p s m args meth c A) (hR : 1 ≤ R.frames ∧ 40 ≤ R.locals) {res : Mem} (S : Mem) (x1 : Int64) {H : Heap} {locs : List Loc} {ls : Array Slot} (hP : Wd D clA (shC dA E) (exC E) A ad S H) (hS : va_S A s.heap H locs) (hl : lv_has ls 3 [(0, .ref (ad (S_o k j))), (1, .long x1)]) (hf : f_X9_reset k j S x1 = some res) : W p l e R s m args below meth c H locs 0 0 (MQ below (QvW D (shC dA E) (exC E) A ad res) args s 0 0 A) (F0 m 0 ls []) := by
  have hx := X.hx
  have hb := X.hb
  unfold f_X9_reset at hf
  refine lv_aload_n hx hb dX9_reset_0 rfl (lv_at hl 0 rfl) ?_
  refine lv_iconst (v := 3) hx hb dX9_reset_1 (by decide) ?_
  refine rp_X9_33 X hP hS hj dX9_reset_2 hf (fun S1 H locs hP hS hf => ?_)
  refine lv_aload_n hx hb dX9_reset_5 rfl (lv_at hl 0 rfl) ?_
  refine lv_lload_n hx hb dX9_reset_6 rfl (lv_at hl 1 rfl) ?_
  refine rp_X9_36 X hP hS hj dX9_reset_7 hf (fun S2 H locs hP hS hf => ?_)
  refine lv_aload_n hx hb dX9_reset_10 rfl (lv_at hl 0 rfl) ?_
  refine lv_iconst (v := 1) hx hb dX9_reset_11 (by decide) ?_
  refine rp_X9_39 X hP hS hj (by decide) dX9_reset_12 hf (fun S3 H locs hP hS hf => ?_)
  exact gr_vW X hP hS (Option.some.inj hf) dX9_reset_15
theorem hd_X9_reset : yX9_reset.cls = RX9 ∧ yX9_reset.cls ≠ "java/lang/invoke/MethodHandle" ∧ yX9_reset.cls ≠ "java/lang/invoke/VarHandle" ∧ (parseMethodDescriptor yX9_reset.desc).map (fun d => d.parameters.length) = some 1 := by decide +kernel
set_option maxHeartbeats 4000000 in
theorem mt_X9_reset (l : Launch) (D : va_G) (dA : Nat → ClassId) (A : Nat → Prop) (ad : L3 → Nat) (E : L3 → Bool) (k : Nat) (j : Nat) (hE : EOK E) (hk : k < 2) (hj : E (S_o k j) = true) (S : Mem) (x1 : Int64) {res : Mem} (hq : f_X9_reset k j S x1 = some res) : Met l yX9_reset (ws_ yX9_reset cX9_reset 3 none) ({ frames := 1, cells := 0, slots := 0, locals := 40 } : Room) (va_Pc [.ref (ad (S_o k j)), .long x1] (PreW D dA (shC dA E) (exC E) A ad S)) (QvW D (shC dA E) (exC E) A ad res) 0 0 A :=
  gx_head (by decide) (Nat.le_of_ble_eq_true rfl) (fun p e s m below meth c ls X hP hl => w_X9_reset (l := l) E k j hE hk hj X ⟨Nat.le_of_ble_eq_true rfl, Nat.le_of_ble_eq_true rfl⟩ S x1 hP va_S.rf (lv_sub (l := [(0, .ref (ad (S_o k j))), (1, .long x1)]) hl [0, 1] rfl) hq)
set_option maxHeartbeats 4000000 in
theorem w_X2_reset {p : Program} {l : Launch} {e : Env} {R : Room} {s : State} {m : MethodId} {args : Array Value} {below : List Frame} {meth : Method} {c : Code} {D : va_G} {dA : Nat → ClassId} {A : Nat → Prop} {ad : L3 → Nat} (E : L3 → Bool) (k : Nat) (hE : EOK E) (hk : k < 2) (X : CX RX2 cX2_reset 5 (some .boolean) (KA D dA) p s m args meth c A) (hR : 2 ≤ R.frames ∧ 62 ≤ R.locals) {res : Mem × Int32} (S : Mem) (x1 : Int32) (x2 : Int64) {H : Heap} {locs : List Loc} {ls : Array Slot} (hP : Wd D clA (shC dA E) (exC E) A ad S H) (hS : va_S A s.heap H locs) (hl : lv_has ls 5 [(0, .ref (ad (H_o k))), (1, .int x1), (2, .long x2)]) (hf : f_X2_reset E k S x1 x2 = some res) : W p l e R s m args below meth c H locs 0 0 (MQ below (QiW D (shC dA E) (exC E) A ad res) args s 0 0 A) (F0 m 0 ls []) := by
  have hx := X.hx
  have hb := X.hb
  unfold f_X2_reset at hf
  refine lv_aload_n hx hb dX2_reset_0 rfl (lv_at hl 0 rfl) ?_
  refine lv_iload_n hx hb dX2_reset_1 rfl (lv_at hl 1 rfl) ?_
  obtain ⟨v1, hq, hf⟩ := gB_some hf
  refine gc_q (gc_fixV (S := S) X (mt_X2_sending l D dA A ad E k hE hk S x1 hq) (lw_V q659 q661 qs6 q87 q662) ⟨rfl, rfl⟩ hd_X2_sending ⟨Nat.le_trans (Nat.le_of_ble_eq_true rfl) hR.1, Nat.le_trans (Nat.le_of_ble_eq_true rfl) hR.2⟩ (wd_recv (r := H_o k) (ci := 2) (q := (RX2, TX2, 23)) X.hK.1 hP (ex_H_o hE hk) rfl rfl) hP hS ⟨Nat.zero_le _, Nat.zero_le _⟩ rfl hl.1 rfl (Nat.le_of_ble_eq_true rfl) dX2_reset_2) hS ?_
  rintro _ _ H locs ⟨rfl, rfl, hv⟩ hP hS
  rcases v1 with _ | j2
  · replace hf := gM_none hf
    refine lv_astoreN (lv' := [(4, .null), (0, .ref (ad (H_o k))), (1, .int x1), (2, .long x2)]) hx hb dX2_reset_5 hl (by decide) rfl (fun ls hl => ?_)
    refine lv_aloadN hx hb dX2_reset_7 (lv_at hl 0 rfl) ?_
    refine lv_ifnullN (tgt := 20) hx hb dX2_reset_9 (by decide) ?_
    refine lv_iconst (v := 0) hx hb dX2_reset_20 (by decide) ?_
    exact gr_zW X hP hS (Option.some.inj hf) (by decide) dX2_reset_21
  · replace hf := gM_some hf
    have he3 := hv j2 rfl
    refine lv_astore (lv' := [(4, .ref (ad (S_o k j2))), (0, .ref (ad (H_o k))), (1, .int x1), (2, .long x2)]) hx hb dX2_reset_5 hl (by decide) rfl (fun ls hl => ?_)
    refine lv_aload hx hb dX2_reset_7 (lv_at hl 0 rfl) ?_
    refine lv_ifnull hx hb dX2_reset_9 ?_
    refine lv_aload hx hb dX2_reset_12 (lv_at hl 0 rfl) ?_
    obtain ⟨v4, hq, hf⟩ := gS_eq hf
    refine gc_i (gc_fixV (S := S) X (mt_X9_isLive l D dA A ad E k j2 hE hk he3 S hq) (lw_V q712 q713 q714 q100 q715) ⟨rfl, rfl⟩ hd_X9_isLive ⟨Nat.le_trans (Nat.le_of_ble_eq_true rfl) hR.1, Nat.le_trans (Nat.le_of_ble_eq_true rfl) hR.2⟩ (wd_recv (r := S_o k j2) (ci := 8) (q := (RX9, TX9, 12)) X.hK.1 hP he3 rfl rfl) hP hS ⟨Nat.zero_le _, Nat.zero_le _⟩ rfl hl.1 rfl (Nat.le_of_ble_eq_true rfl) dX2_reset_14) hS ?_
    rintro _ _ H locs ⟨rfl, rfl⟩ hP hS
    refine gb_if_ne (tgt := 22) hx hb dX2_reset_17 (by decide) hf (fun hf => ?_) (fun hf => ?_)
    · refine lv_aload hx hb dX2_reset_22 (lv_at hl 0 rfl) ?_
      refine lv_lload_n hx hb dX2_reset_24 rfl (lv_at hl 3 rfl) ?_
      obtain ⟨S5, hq, hf⟩ := gB_some hf
      refine gc_v (gc_fixV (S := S) X (mt_X9_reset l D dA A ad E k j2 hE hk he3 S x2 hq) (lw_V q716 q717 q718 q100 q719) ⟨rfl, rfl⟩ hd_X9_reset ⟨Nat.le_trans (Nat.le_of_ble_eq_true rfl) hR.1, Nat.le_trans (Nat.le_of_ble_eq_true rfl) hR.2⟩ (wd_recv (r := S_o k j2) (ci := 8) (q := (RX9, TX9, 12)) X.hK.1 hP he3 rfl rfl) hP hS ⟨Nat.zero_le _, Nat.zero_le _⟩ rfl hl.1 rfl (Nat.le_of_ble_eq_true rfl) dX2_reset_25) hS ?_
      rintro _ H locs rfl hP hS
      refine lv_iconst (v := 1) hx hb dX2_reset_28 (by decide) ?_
      exact gr_zW X hP hS (Option.some.inj hf) (by decide) dX2_reset_29
    · refine lv_iconst (v := 0) hx hb dX2_reset_20 (by decide) ?_
      exact gr_zW X hP hS (Option.some.inj hf) (by decide) dX2_reset_21
theorem hd_X2_reset : yX2_reset.cls = RX2 ∧ yX2_reset.cls ≠ "java/lang/invoke/MethodHandle" ∧ yX2_reset.cls ≠ "java/lang/invoke/VarHandle" ∧ (parseMethodDescriptor yX2_reset.desc).map (fun d => d.parameters.length) = some 2 := by decide +kernel
set_option maxHeartbeats 4000000 in
theorem mt_X2_reset (l : Launch) (D : va_G) (dA : Nat → ClassId) (A : Nat → Prop) (ad : L3 → Nat) (E : L3 → Bool) (k : Nat) (hE : EOK E) (hk : k < 2) (S : Mem) (x1 : Int32) (x2 : Int64) {res : Mem × Int32} (hq : f_X2_reset E k S x1 x2 = some res) : Met l yX2_reset (ws_ yX2_reset cX2_reset 5 (some .boolean)) ({ frames := 2, cells := 0, slots := 0, locals := 62 } : Room) (va_Pc [.ref (ad (H_o k)), .int x1, .long x2] (PreW D dA (shC dA E) (exC E) A ad S)) (QiW D (shC dA E) (exC E) A ad res) 0 0 A :=
  gx_head (by decide) (Nat.le_of_ble_eq_true rfl) (fun p e s m below meth c ls X hP hl => w_X2_reset (l := l) E k hE hk X ⟨Nat.le_of_ble_eq_true rfl, Nat.le_of_ble_eq_true rfl⟩ S x1 x2 hP va_S.rf (lv_sub (l := [(0, .ref (ad (H_o k))), (1, .int x1), (2, .long x2)]) hl [0, 1, 2] rfl) hq)
set_option maxHeartbeats 4000000 in
theorem w_X2_receiving_11 {p : Program} {l : Launch} {e : Env} {R : Room} {s : State} {m : MethodId} {args : Array Value} {below : List Frame} {meth : Method} {c : Code} {D : va_G} {dA : Nat → ClassId} {A : Nat → Prop} {ad : L3 → Nat} (E : L3 → Bool) (k : Nat) (hE : EOK E) (hk : k < 2) (X : CX RX2 cX2_receiving 2 (some (.object "StreamHall$Receiving")) (KA D dA) p s m args meth c A) (hR : 1 ≤ R.frames ∧ 40 ≤ R.locals) {res : Option Nat} (S : Mem) {H : Heap} {locs : List Loc} {ls : Array Slot} (hP : Wd D clA (shC dA E) (exC E) A ad S H) (hS : va_S A s.heap H locs) (hl : lv_has ls 2 []) (hf : f_X2_receiving_11 E k S = some res) : W p l e R s m args below meth c H locs 0 0 (MQ below (QqR D (shC dA E) (exC E) A ad S (Option.map (fun j => ad (R_o k j)) res) (∀ j, res = some j → E (R_o k j) = true)) args s 0 0 A) (F0 m 11 ls []) := by
  have hx := X.hx
  have hb := X.hb
  unfold f_X2_receiving_11 at hf
  refine lv_null hx hb dX2_receiving_11 ?_
  refine lv_goto (tgt := 21) hx hb dX2_receiving_12 (by decide) ?_
  have e := (Option.some.inj hf)
  subst e
  exact gr_q X hP hS (x := none) rfl (fun _ h => by cases h) dX2_receiving_21
set_option maxHeartbeats 4000000 in
theorem w_X2_receiving {p : Program} {l : Launch} {e : Env} {R : Room} {s : State} {m : MethodId} {args : Array Value} {below : List Frame} {meth : Method} {c : Code} {D : va_G} {dA : Nat → ClassId} {A : Nat → Prop} {ad : L3 → Nat} (E : L3 → Bool) (k : Nat) (hE : EOK E) (hk : k < 2) (X : CX RX2 cX2_receiving 2 (some (.object "StreamHall$Receiving")) (KA D dA) p s m args meth c A) (hR : 1 ≤ R.frames ∧ 40 ≤ R.locals) {res : Option Nat} (S : Mem) (x1 : Int32) {H : Heap} {locs : List Loc} {ls : Array Slot} (hP : Wd D clA (shC dA E) (exC E) A ad S H) (hS : va_S A s.heap H locs) (hl : lv_has ls 2 [(0, .ref (ad (H_o k))), (1, .int x1)]) (hf : f_X2_receiving E k S x1 = some res) : W p l e R s m args below meth c H locs 0 0 (MQ below (QqR D (shC dA E) (exC E) A ad S (Option.map (fun j => ad (R_o k j)) res) (∀ j, res = some j → E (R_o k j) = true)) args s 0 0 A) (F0 m 0 ls []) := by
  have hx := X.hx
  have hb := X.hb
  unfold f_X2_receiving at hf
  refine lv_iload_n hx hb dX2_receiving_0 rfl (lv_at hl 1 rfl) ?_
  refine gb_if_lt (tgt := 11) hx hb dX2_receiving_1 (by decide) hf (fun hf => ?_) (fun hf => ?_)
  · exact w_X2_receiving_11 E k hE hk X hR S hP hS (lv_sub hl [] rfl) hf
  · refine lv_iload_n hx hb dX2_receiving_4 rfl (lv_at hl 1 rfl) ?_
    refine lv_sipush (v := 256) hx hb dX2_receiving_5 (by decide) ?_
    refine gb_icmp_lt (tgt := 15) hx hb dX2_receiving_8 (by decide) hf (fun hf => ?_) (fun hf => ?_)
    · refine lv_aload_n hx hb dX2_receiving_15 rfl (lv_at hl 0 rfl) ?_
      refine rg_X2_19 X hP (ex_H_o hE hk) dX2_receiving_16 ?_
      refine lv_iload_n hx hb dX2_receiving_19 rfl (lv_at hl 1 rfl) ?_
      refine ra_H_receivings_ld X hP (ex_H_receivings hE hk) dX2_receiving_20 hf (fun he1 hf => ?_) (fun hf => ?_)
      · have e := (Option.some.inj hf)
        subst e
        exact gr_q X hP hS (x := some (ad (R_o k (Int32.toNatClampNeg x1)))) rfl (fun _ h => by cases h; exact he1) dX2_receiving_21
      · have e := (Option.some.inj hf)
        subst e
        exact gr_q X hP hS (x := none) rfl (fun _ h => by cases h) dX2_receiving_21
    · exact w_X2_receiving_11 E k hE hk X hR S hP hS (lv_sub hl [] rfl) hf
theorem hd_X2_receiving : yX2_receiving.cls = RX2 ∧ yX2_receiving.cls ≠ "java/lang/invoke/MethodHandle" ∧ yX2_receiving.cls ≠ "java/lang/invoke/VarHandle" ∧ (parseMethodDescriptor yX2_receiving.desc).map (fun d => d.parameters.length) = some 1 := by decide +kernel
set_option maxHeartbeats 4000000 in
theorem mt_X2_receiving (l : Launch) (D : va_G) (dA : Nat → ClassId) (A : Nat → Prop) (ad : L3 → Nat) (E : L3 → Bool) (k : Nat) (hE : EOK E) (hk : k < 2) (S : Mem) (x1 : Int32) {res : Option Nat} (hq : f_X2_receiving E k S x1 = some res) : Met l yX2_receiving (ws_ yX2_receiving cX2_receiving 2 (some (.object "StreamHall$Receiving"))) ({ frames := 1, cells := 0, slots := 0, locals := 40 } : Room) (va_Pc [.ref (ad (H_o k)), .int x1] (PreW D dA (shC dA E) (exC E) A ad S)) (QqR D (shC dA E) (exC E) A ad S (Option.map (fun j => ad (R_o k j)) res) (∀ j, res = some j → E (R_o k j) = true)) 0 0 A :=
  gx_head (by decide) (Nat.le_of_ble_eq_true rfl) (fun p e s m below meth c ls X hP hl => w_X2_receiving (l := l) E k hE hk X ⟨Nat.le_of_ble_eq_true rfl, Nat.le_of_ble_eq_true rfl⟩ S x1 hP va_S.rf (lv_sub (l := [(0, .ref (ad (H_o k))), (1, .int x1)]) hl [0, 1] rfl) hq)
set_option maxHeartbeats 4000000 in
theorem w_X10_isLive_15 {p : Program} {l : Launch} {e : Env} {R : Room} {s : State} {m : MethodId} {args : Array Value} {below : List Frame} {meth : Method} {c : Code} {D : va_G} {dA : Nat → ClassId} {A : Nat → Prop} {ad : L3 → Nat} (E : L3 → Bool) (k : Nat) (j : Nat) (hE : EOK E) (hk : k < 2) (hj : E (R_o k j) = true) (X : CX RX10 cX10_isLive 1 (some .boolean) (KA D dA) p s m args meth c A) (hR : 1 ≤ R.frames ∧ 40 ≤ R.locals) {res : Int32} (S : Mem) {H : Heap} {locs : List Loc} {ls : Array Slot} (hP : Wd D clA (shC dA E) (exC E) A ad S H) (hS : va_S A s.heap H locs) (hl : lv_has ls 1 []) (hf : f_X10_isLive_15 k j S = res) : W p l e R s m args below meth c H locs 0 0 (MQ below (QiR D (shC dA E) (exC E) A ad S res) args s 0 0 A) (F0 m 15 ls []) := by
  have hx := X.hx
  have hb := X.hb
  unfold f_X10_isLive_15 at hf
  refine lv_iconst (v := 1) hx hb dX10_isLive_15 (by decide) ?_
  refine lv_goto (tgt := 20) hx hb dX10_isLive_16 (by decide) ?_
  exact gr_zR X hP hS hf (by decide) dX10_isLive_20
set_option maxHeartbeats 4000000 in
theorem w_X10_isLive {p : Program} {l : Launch} {e : Env} {R : Room} {s : State} {m : MethodId} {args : Array Value} {below : List Frame} {meth : Method} {c : Code} {D : va_G} {dA : Nat → ClassId} {A : Nat → Prop} {ad : L3 → Nat} (E : L3 → Bool) (k : Nat) (j : Nat) (hE : EOK E) (hk : k < 2) (hj : E (R_o k j) = true) (X : CX RX10 cX10_isLive 1 (some .boolean) (KA D dA) p s m args meth c A) (hR : 1 ≤ R.frames ∧ 40 ≤ R.locals) {res : Int32} (S : Mem) {H : Heap} {locs : List Loc} {ls : Array Slot} (hP : Wd D clA (shC dA E) (exC E) A ad S H) (hS : va_S A s.heap H locs) (hl : lv_has ls 1 [(0, .ref (ad (R_o k j)))]) (hf : f_X10_isLive k j S = res) : W p l e R s m args below meth c H locs 0 0 (MQ below (QiR D (shC dA E) (exC E) A ad S res) args s 0 0 A) (F0 m 0 ls []) := by
  have hx := X.hx
  have hb := X.hb
  unfold f_X10_isLive at hf
  refine lv_aload_n hx hb dX10_isLive_0 rfl (lv_at hl 0 rfl) ?_
  refine rg_X10_24 X hP hj dX10_isLive_1 ?_
  refine gb_if_eq (tgt := 15) hx hb dX10_isLive_4 (by decide) hf (fun hf => ?_) (fun hf => ?_)
  · exact w_X10_isLive_15 E k j hE hk hj X hR S hP hS (lv_sub hl [] rfl) hf
  · refine lv_aload_n hx hb dX10_isLive_7 rfl (lv_at hl 0 rfl) ?_
    refine rg_X10_24 X hP hj dX10_isLive_8 ?_
    refine lv_iconst (v := 1) hx hb dX10_isLive_11 (by decide) ?_
    refine gb_icmp_ne (tgt := 19) hx hb dX10_isLive_12 (by decide) hf (fun hf => ?_) (fun hf => ?_)
    · refine lv_iconst (v := 0) hx hb dX10_isLive_19 (by decide) ?_
      exact gr_zR X hP hS hf (by decide) dX10_isLive_20
    · exact w_X10_isLive_15 E k j hE hk hj X hR S hP hS (lv_sub hl [] rfl) hf
theorem hd_X10_isLive : yX10_isLive.cls = RX10 ∧ yX10_isLive.cls ≠ "java/lang/invoke/MethodHandle" ∧ yX10_isLive.cls ≠ "java/lang/invoke/VarHandle" ∧ (parseMethodDescriptor yX10_isLive.desc).map (fun d => d.parameters.length) = some 0 := by decide +kernel
set_option maxHeartbeats 4000000 in
theorem mt_X10_isLive (l : Launch) (D : va_G) (dA : Nat → ClassId) (A : Nat → Prop) (ad : L3 → Nat) (E : L3 → Bool) (k : Nat) (j : Nat) (hE : EOK E) (hk : k < 2) (hj : E (R_o k j) = true) (S : Mem) {res : Int32} (hq : f_X10_isLive k j S = res) : Met l yX10_isLive (ws_ yX10_isLive cX10_isLive 1 (some .boolean)) ({ frames := 1, cells := 0, slots := 0, locals := 40 } : Room) (va_Pc [.ref (ad (R_o k j))] (PreW D dA (shC dA E) (exC E) A ad S)) (QiR D (shC dA E) (exC E) A ad S res) 0 0 A :=
  gx_head (by decide) (Nat.le_of_ble_eq_true rfl) (fun p e s m below meth c ls X hP hl => w_X10_isLive (l := l) E k j hE hk hj X ⟨Nat.le_of_ble_eq_true rfl, Nat.le_of_ble_eq_true rfl⟩ S hP va_S.rf (lv_sub (l := [(0, .ref (ad (R_o k j)))]) hl [0] rfl) hq)
set_option maxHeartbeats 4000000 in
theorem w_X2_stop {p : Program} {l : Launch} {e : Env} {R : Room} {s : State} {m : MethodId} {args : Array Value} {below : List Frame} {meth : Method} {c : Code} {D : va_G} {dA : Nat → ClassId} {A : Nat → Prop} {ad : L3 → Nat} (E : L3 → Bool) (k : Nat) (hE : EOK E) (hk : k < 2) (X : CX RX2 cX2_stop 5 (some .boolean) (KA D dA) p s m args meth c A) (hR : 2 ≤ R.frames ∧ 61 ≤ R.locals) {res : Mem × Int32} (S : Mem) (x1 : Int32) (x2 : Int64) {H : Heap} {locs : List Loc} {ls : Array Slot} (hP : Wd D clA (shC dA E) (exC E) A ad S H) (hS : va_S A s.heap H locs) (hl : lv_has ls 5 [(0, .ref (ad (H_o k))), (1, .int x1), (2, .long x2)]) (hf : f_X2_stop E k S x1 x2 = some res) : W p l e R s m args below meth c H locs 0 0 (MQ below (QiW D (shC dA E) (exC E) A ad res) args s 0 0 A) (F0 m 0 ls []) := by
  have hx := X.hx
  have hb := X.hb
  unfold f_X2_stop at hf
  refine lv_aload_n hx hb dX2_stop_0 rfl (lv_at hl 0 rfl) ?_
  refine lv_iload_n hx hb dX2_stop_1 rfl (lv_at hl 1 rfl) ?_
  obtain ⟨v1, hq, hf⟩ := gB_some hf
  refine gc_q (gc_fixV (S := S) X (mt_X2_receiving l D dA A ad E k hE hk S x1 hq) (lw_V q731 q733 qs8 q87 q734) ⟨rfl, rfl⟩ hd_X2_receiving ⟨Nat.le_trans (Nat.le_of_ble_eq_true rfl) hR.1, Nat.le_trans (Nat.le_of_ble_eq_true rfl) hR.2⟩ (wd_recv (r := H_o k) (ci := 2) (q := (RX2, TX2, 23)) X.hK.1 hP (ex_H_o hE hk) rfl rfl) hP hS ⟨Nat.zero_le _, Nat.zero_le _⟩ rfl hl.1 rfl (Nat.le_of_ble_eq_true rfl) dX2_stop_2) hS ?_
  rintro _ _ H locs ⟨rfl, rfl, hv⟩ hP hS
  rcases v1 with _ | j2
  · replace hf := gM_none hf
    refine lv_astoreN (lv' := [(4, .null), (0, .ref (ad (H_o k))), (1, .int x1), (2, .long x2)]) hx hb dX2_stop_5 hl (by decide) rfl (fun ls hl => ?_)
    refine lv_aloadN hx hb dX2_stop_7 (lv_at hl 0 rfl) ?_
    refine lv_ifnullN (tgt := 28) hx hb dX2_stop_9 (by decide) ?_
    refine lv_iconst (v := 0) hx hb dX2_stop_28 (by decide) ?_
    exact gr_zW X hP hS (Option.some.inj hf) (by decide) dX2_stop_29
  · replace hf := gM_some hf
    have he3 := hv j2 rfl
    refine lv_astore (lv' := [(4, .ref (ad (R_o k j2))), (0, .ref (ad (H_o k))), (1, .int x1), (2, .long x2)]) hx hb dX2_stop_5 hl (by decide) rfl (fun ls hl => ?_)
    refine lv_aload hx hb dX2_stop_7 (lv_at hl 0 rfl) ?_
    refine lv_ifnull hx hb dX2_stop_9 ?_
    refine lv_aload hx hb dX2_stop_12 (lv_at hl 0 rfl) ?_
    obtain ⟨v4, hq, hf⟩ := gS_eq hf
    refine gc_i (gc_fixV (S := S) X (mt_X10_isLive l D dA A ad E k j2 hE hk he3 S hq) (lw_V q735 q736 q737 q101 q738) ⟨rfl, rfl⟩ hd_X10_isLive ⟨Nat.le_trans (Nat.le_of_ble_eq_true rfl) hR.1, Nat.le_trans (Nat.le_of_ble_eq_true rfl) hR.2⟩ (wd_recv (r := R_o k j2) (ci := 9) (q := (RX10, TX10, 13)) X.hK.1 hP he3 rfl rfl) hP hS ⟨Nat.zero_le _, Nat.zero_le _⟩ rfl hl.1 rfl (Nat.le_of_ble_eq_true rfl) dX2_stop_14) hS ?_
    rintro _ _ H locs ⟨rfl, rfl⟩ hP hS
    refine gb_if_eq (tgt := 28) hx hb dX2_stop_17 (by decide) hf (fun hf => ?_) (fun hf => ?_)
    · refine lv_iconst (v := 0) hx hb dX2_stop_28 (by decide) ?_
      exact gr_zW X hP hS (Option.some.inj hf) (by decide) dX2_stop_29
    · refine lv_aload hx hb dX2_stop_20 (lv_at hl 0 rfl) ?_
      refine rg_X2_171 X hP he3 dX2_stop_22 ?_
      refine gb_if_eq (tgt := 30) hx hb dX2_stop_25 (by decide) hf (fun hf => ?_) (fun hf => ?_)
      · refine lv_aload hx hb dX2_stop_30 (lv_at hl 0 rfl) ?_
        refine lv_iconst (v := 1) hx hb dX2_stop_32 (by decide) ?_
        refine rp_X2_171 X hP hS he3 (by decide) dX2_stop_33 hf (fun S5 H locs hP hS hf => ?_)
        refine lv_aload hx hb dX2_stop_36 (lv_at hl 0 rfl) ?_
        refine lv_iconst (v := 1) hx hb dX2_stop_38 (by decide) ?_
        refine rp_X2_174 X hP hS he3 (by decide) dX2_stop_39 hf (fun S6 H locs hP hS hf => ?_)
        refine lv_aload hx hb dX2_stop_42 (lv_at hl 0 rfl) ?_
        refine lv_lload_n hx hb dX2_stop_44 rfl (lv_at hl 3 rfl) ?_
        refine rp_X2_177 X hP hS he3 dX2_stop_45 hf (fun S7 H locs hP hS hf => ?_)
        refine lv_iconst (v := 1) hx hb dX2_stop_48 (by decide) ?_
        exact gr_zW X hP hS (Option.some.inj hf) (by decide) dX2_stop_49
      · refine lv_iconst (v := 0) hx hb dX2_stop_28 (by decide) ?_
        exact gr_zW X hP hS (Option.some.inj hf) (by decide) dX2_stop_29
theorem hd_X2_stop : yX2_stop.cls = RX2 ∧ yX2_stop.cls ≠ "java/lang/invoke/MethodHandle" ∧ yX2_stop.cls ≠ "java/lang/invoke/VarHandle" ∧ (parseMethodDescriptor yX2_stop.desc).map (fun d => d.parameters.length) = some 2 := by decide +kernel
set_option maxHeartbeats 4000000 in
theorem mt_X2_stop (l : Launch) (D : va_G) (dA : Nat → ClassId) (A : Nat → Prop) (ad : L3 → Nat) (E : L3 → Bool) (k : Nat) (hE : EOK E) (hk : k < 2) (S : Mem) (x1 : Int32) (x2 : Int64) {res : Mem × Int32} (hq : f_X2_stop E k S x1 x2 = some res) : Met l yX2_stop (ws_ yX2_stop cX2_stop 5 (some .boolean)) ({ frames := 2, cells := 0, slots := 0, locals := 61 } : Room) (va_Pc [.ref (ad (H_o k)), .int x1, .long x2] (PreW D dA (shC dA E) (exC E) A ad S)) (QiW D (shC dA E) (exC E) A ad res) 0 0 A :=
  gx_head (by decide) (Nat.le_of_ble_eq_true rfl) (fun p e s m below meth c ls X hP hl => w_X2_stop (l := l) E k hE hk X ⟨Nat.le_of_ble_eq_true rfl, Nat.le_of_ble_eq_true rfl⟩ S x1 x2 hP va_S.rf (lv_sub (l := [(0, .ref (ad (H_o k))), (1, .int x1), (2, .long x2)]) hl [0, 1, 2] rfl) hq)
set_option maxHeartbeats 4000000 in
theorem w_X6_drop {p : Program} {l : Launch} {e : Env} {R : Room} {s : State} {m : MethodId} {args : Array Value} {below : List Frame} {meth : Method} {c : Code} {D : va_G} {dA : Nat → ClassId} {A : Nat → Prop} {ad : L3 → Nat} (E : L3 → Bool) (k : Nat) (hE : EOK E) (hk : k < 2) (X : CX RX6 cX6_drop 3 none (KA D dA) p s m args meth c A) (hR : 1 ≤ R.frames ∧ 40 ≤ R.locals) {res : Mem} (S : Mem) (x1 : Nat) (hx1 : E (R_o k x1) = true) {H : Heap} {locs : List Loc} {ls : Array Slot} (hP : Wd D clA (shC dA E) (exC E) A ad S H) (hS : va_S A s.heap H locs) (hl : lv_has ls 3 [(0, .ref (ad (B_o k))), (1, .ref (ad (R_o k x1)))]) (hf : f_X6_drop k S x1 = some res) : W p l e R s m args below meth c H locs 0 0 (MQ below (QvW D (shC dA E) (exC E) A ad res) args s 0 0 A) (F0 m 0 ls []) := by
  have hx := X.hx
  have hb := X.hb
  unfold f_X6_drop at hf
  refine lv_aload_n hx hb dX6_drop_0 rfl (lv_at hl 1 rfl) ?_
  refine rg_X6_45 X hP hx1 dX6_drop_1 ?_
  refine lv_istore_n (lv' := [(2, .int (S.1 (R_o k x1) 7)), (0, .ref (ad (B_o k))), (1, .ref (ad (R_o k x1)))]) hx hb dX6_drop_4 rfl hl (by decide) rfl (fun ls hl => ?_)
  refine lv_aload_n hx hb dX6_drop_5 rfl (lv_at hl 2 rfl) ?_
  refine lv_aload_n hx hb dX6_drop_6 rfl (lv_at hl 1 rfl) ?_
  refine rg_X6_23 X hP (ex_B_o hE hk) dX6_drop_7 ?_
  refine lv_iload_n hx hb dX6_drop_10 rfl (lv_at hl 0 rfl) ?_
  refine ra_B_next_ld X hP (ex_B_next hE hk) dX6_drop_11 hf (fun hf => ?_)
  refine rp_X6_45 X hP hS hx1 dX6_drop_12 hf (fun S1 H locs hP hS hf => ?_)
  refine lv_aload_n hx hb dX6_drop_15 rfl (lv_at hl 1 rfl) ?_
  refine rg_X6_23 X hP (ex_B_o hE hk) dX6_drop_16 ?_
  refine lv_iload_n hx hb dX6_drop_19 rfl (lv_at hl 0 rfl) ?_
  refine lv_aload_n hx hb dX6_drop_20 rfl (lv_at hl 1 rfl) ?_
  refine rg_X6_26 X hP (ex_B_o hE hk) dX6_drop_21 ?_
  refine ra_B_next_st X hP hS (ex_B_next hE hk) dX6_drop_24 hf (fun S2 H locs hP hS hf => ?_)
  refine lv_aload_n hx hb dX6_drop_25 rfl (lv_at hl 1 rfl) ?_
  refine lv_iload_n hx hb dX6_drop_26 rfl (lv_at hl 0 rfl) ?_
  refine rp_X6_26 X hP hS (ex_B_o hE hk) dX6_drop_27 hf (fun S3 H locs hP hS hf => ?_)
  exact gr_vW X hP hS (Option.some.inj hf) dX6_drop_30
theorem hd_X6_drop : yX6_drop.cls = RX6 ∧ yX6_drop.cls ≠ "java/lang/invoke/MethodHandle" ∧ yX6_drop.cls ≠ "java/lang/invoke/VarHandle" ∧ (parseMethodDescriptor yX6_drop.desc).map (fun d => d.parameters.length) = some 1 := by decide +kernel
set_option maxHeartbeats 4000000 in
theorem mt_X6_drop (l : Launch) (D : va_G) (dA : Nat → ClassId) (A : Nat → Prop) (ad : L3 → Nat) (E : L3 → Bool) (k : Nat) (hE : EOK E) (hk : k < 2) (S : Mem) (x1 : Nat) (hx1 : E (R_o k x1) = true) {res : Mem} (hq : f_X6_drop k S x1 = some res) : Met l yX6_drop (ws_ yX6_drop cX6_drop 3 none) ({ frames := 1, cells := 0, slots := 0, locals := 40 } : Room) (va_Pc [.ref (ad (B_o k)), .ref (ad (R_o k x1))] (PreW D dA (shC dA E) (exC E) A ad S)) (QvW D (shC dA E) (exC E) A ad res) 0 0 A :=
  gx_head (by decide) (Nat.le_of_ble_eq_true rfl) (fun p e s m below meth c ls X hP hl => w_X6_drop (l := l) E k hE hk X ⟨Nat.le_of_ble_eq_true rfl, Nat.le_of_ble_eq_true rfl⟩ S x1 hx1 hP va_S.rf (lv_sub (l := [(0, .ref (ad (B_o k))), (1, .ref (ad (R_o k x1)))]) hl [0, 1] rfl) hq)
set_option maxHeartbeats 4000000 in
theorem w_X6_take_61 {p : Program} {l : Launch} {e : Env} {R : Room} {s : State} {m : MethodId} {args : Array Value} {below : List Frame} {meth : Method} {c : Code} {D : va_G} {dA : Nat → ClassId} {A : Nat → Prop} {ad : L3 → Nat} (E : L3 → Bool) (k : Nat) (hE : EOK E) (hk : k < 2) (X : CX RX6 cX6_take 6 none (KA D dA) p s m args meth c A) (hR : 2 ≤ R.frames ∧ 62 ≤ R.locals) {res : Mem} (k3 : Mem → Nat → Int32 → Int32 → Int32 → Option (Mem)) (hk3 : ∀ (S : Mem) (x1 : Nat) (x3 : Int32) (x4 : Int32) (x5 : Int32) (H : Heap) (locs : List Loc) (ls : Array Slot), (E (R_o k x1) = true) → Wd D clA (shC dA E) (exC E) A ad S H → va_S A s.heap H locs → lv_has ls 6 [(0, .ref (ad (B_o k))), (1, .ref (ad (R_o k x1))), (2, .ref (ad C_out)), (3, .int x3), (4, .int x4), (5, .int x5)] → k3 S x1 x3 x4 x5 = some res → W p l e R s m args below meth c H locs 0 0 (MQ below (QvW D (shC dA E) (exC E) A ad res) args s 0 0 A) (F0 m 3 ls [])) (S : Mem) (x1 : Nat) (x3 : Int32) (x4 : Int32) (x5 : Int32) (hx1 : E (R_o k x1) = true) {H : Heap} {locs : List Loc} {ls : Array Slot} (hP : Wd D clA (shC dA E) (exC E) A ad S H) (hS : va_S A s.heap H locs) (hl : lv_has ls 6 [(0, .ref (ad (B_o k))), (1, .ref (ad (R_o k x1))), (2, .ref (ad C_out)), (3, .int x3), (4, .int x4), (5, .int x5)]) (hf : f_X6_take_61 k k3 S x1 x3 x4 x5 = some res) : W p l e R s m args below meth c H locs 0 0 (MQ below (QvW D (shC dA E) (exC E) A ad res) args s 0 0 A) (F0 m 61 ls []) := by
  have hx := X.hx
  have hb := X.hb
  unfold f_X6_take_61 at hf
  refine lv_iinc (v := (x5 + 1)) (lv' := [(5, .int (x5 + 1)), (0, .ref (ad (B_o k))), (1, .ref (ad (R_o k x1))), (2, .ref (ad C_out)), (3, .int x3), (4, .int x4)]) hx hb dX6_take_61 hl (k := 5) rfl rfl (by decide) rfl (fun ls hl => ?_)
  refine lv_goto (tgt := 3) hx hb dX6_take_64 (by decide) ?_
  exact hk3 S x1 x3 x4 (x5 + 1) _ _ _ hx1 hP hS (lv_sub hl [1, 2, 3, 4, 5, 0] rfl) hf
set_option maxHeartbeats 4000000 in
theorem w_X6_take_3_b {p : Program} {l : Launch} {e : Env} {R : Room} {s : State} {m : MethodId} {args : Array Value} {below : List Frame} {meth : Method} {c : Code} {D : va_G} {dA : Nat → ClassId} {A : Nat → Prop} {ad : L3 → Nat} (E : L3 → Bool) (k : Nat) (hE : EOK E) (hk : k < 2) (X : CX RX6 cX6_take 6 none (KA D dA) p s m args meth c A) (hR : 2 ≤ R.frames ∧ 62 ≤ R.locals) {res : Mem} (k3 : Mem → Nat → Int32 → Int32 → Int32 → Option (Mem)) (hk3 : ∀ (S : Mem) (x1 : Nat) (x3 : Int32) (x4 : Int32) (x5 : Int32) (H : Heap) (locs : List Loc) (ls : Array Slot), (E (R_o k x1) = true) → Wd D clA (shC dA E) (exC E) A ad S H → va_S A s.heap H locs → lv_has ls 6 [(0, .ref (ad (B_o k))), (1, .ref (ad (R_o k x1))), (2, .ref (ad C_out)), (3, .int x3), (4, .int x4), (5, .int x5)] → k3 S x1 x3 x4 x5 = some res → W p l e R s m args below meth c H locs 0 0 (MQ below (QvW D (shC dA E) (exC E) A ad res) args s 0 0 A) (F0 m 3 ls [])) (S : Mem) (x1 : Nat) (x3 : Int32) (x4 : Int32) (x5 : Int32) (hx1 : E (R_o k x1) = true) {H : Heap} {locs : List Loc} {ls : Array Slot} (hP : Wd D clA (shC dA E) (exC E) A ad S H) (hS : va_S A s.heap H locs) (hl : lv_has ls 6 [(0, .ref (ad (B_o k))), (1, .ref (ad (R_o k x1))), (2, .ref (ad C_out)), (3, .int x3), (4, .int x4), (5, .int x5)]) (hf : f_X6_take_3_b k k3 S x1 x3 x4 x5 = some res) : W p l e R s m args below meth c H locs 0 0 (MQ below (QvW D (shC dA E) (exC E) A ad res) args s 0 0 A) (F0 m 3 ls []) := by
  have hx := X.hx
  have hb := X.hb
  unfold f_X6_take_3_b at hf
  refine lv_iload hx hb dX6_take_3 (lv_at hl 5 rfl) ?_
  refine lv_iload hx hb dX6_take_5 (lv_at hl 4 rfl) ?_
  refine gb_icmp_ge (tgt := 67) hx hb dX6_take_7 (by decide) hf (fun hf => ?_) (fun hf => ?_)
  · exact gr_vW X hP hS (Option.some.inj hf) dX6_take_67
  · refine lv_aload_n hx hb dX6_take_10 rfl (lv_at hl 2 rfl) ?_
    refine lv_iload_n hx hb dX6_take_11 rfl (lv_at hl 3 rfl) ?_
    refine lv_iload hx hb dX6_take_12 (lv_at hl 5 rfl) ?_
    refine lv_iadd hx hb dX6_take_14 ?_
    refine lv_aload_n hx hb dX6_take_15 rfl (lv_at hl 0 rfl) ?_
    refine rg_X6_9 X hP (ex_B_o hE hk) dX6_take_16 ?_
    refine lv_aload_n hx hb dX6_take_19 rfl (lv_at hl 1 rfl) ?_
    refine rg_X6_45 X hP hx1 dX6_take_20 ?_
    refine lv_bipush (v := 64) hx hb dX6_take_23 (by decide) ?_
    refine lv_imul hx hb dX6_take_25 ?_
    refine lv_aload_n hx hb dX6_take_26 rfl (lv_at hl 1 rfl) ?_
    refine rg_X6_66 X hP hx1 dX6_take_27 ?_
    refine lv_bipush (v := 64) hx hb dX6_take_30 (by decide) ?_
    refine lv_irem hx hb dX6_take_32 (by decide) ?_
    refine lv_iadd hx hb dX6_take_33 ?_
    refine ra_B_bytes_ld X hP (ex_B_bytes hE hk) dX6_take_34 hf (fun hf => ?_)
    refine ra_C_out_st X hP hS (ex_C_out hE) dX6_take_35 hf (fun S1 H locs hP hS hf => ?_)
    refine lv_aload_n hx hb dX6_take_36 rfl (lv_at hl 1 rfl) ?_
    refine lv_dup hx hb dX6_take_37 rfl ?_
    refine rg_X6_66 X hP hx1 dX6_take_38 ?_
    refine lv_iconst (v := 1) hx hb dX6_take_41 (by decide) ?_
    refine lv_iadd hx hb dX6_take_42 ?_
    refine rp_X6_66 X hP hS hx1 dX6_take_43 hf (fun S2 H locs hP hS hf => ?_)
    refine lv_aload_n hx hb dX6_take_46 rfl (lv_at hl 1 rfl) ?_
    refine rg_X6_66 X hP hx1 dX6_take_47 ?_
    refine lv_bipush (v := 64) hx hb dX6_take_50 (by decide) ?_
    refine lv_irem hx hb dX6_take_52 (by decide) ?_
    refine gb_if_ne (tgt := 61) hx hb dX6_take_53 (by decide) hf (fun hf => ?_) (fun hf => ?_)
    · exact w_X6_take_61 E k hE hk X hR k3 hk3 S2 x1 x3 x4 x5 hx1 hP hS (lv_sub hl [0, 1, 2, 3, 4, 5] rfl) hf
    · refine lv_aload_n hx hb dX6_take_56 rfl (lv_at hl 0 rfl) ?_
      refine lv_aload_n hx hb dX6_take_57 rfl (lv_at hl 1 rfl) ?_
      obtain ⟨S3, hq, hf⟩ := gB_some hf
      refine gc_v (gc_fixV (S := S2) X (mt_X6_drop l D dA A ad E k hE hk S2 x1 hx1 hq) (lw_V q756 q758 qs9 q91 q759) ⟨rfl, rfl⟩ hd_X6_drop ⟨Nat.le_trans (Nat.le_of_ble_eq_true rfl) hR.1, Nat.le_trans (Nat.le_of_ble_eq_true rfl) hR.2⟩ (wd_recv (r := B_o k) (ci := 6) (q := (RX6, TX6, 6)) X.hK.1 hP (ex_B_o hE hk) rfl rfl) hP hS ⟨Nat.zero_le _, Nat.zero_le _⟩ rfl hl.1 rfl (Nat.le_of_ble_eq_true rfl) dX6_take_58) hS ?_
      rintro _ H locs rfl hP hS
      exact w_X6_take_61 E k hE hk X hR k3 hk3 S3 x1 x3 x4 x5 hx1 hP hS (lv_sub hl [0, 1, 2, 3, 4, 5] rfl) hf
set_option maxHeartbeats 4000000 in
theorem w_X6_take_3 {p : Program} {l : Launch} {e : Env} {R : Room} {s : State} {m : MethodId} {args : Array Value} {below : List Frame} {meth : Method} {c : Code} {D : va_G} {dA : Nat → ClassId} {A : Nat → Prop} {ad : L3 → Nat} (E : L3 → Bool) (k : Nat) (hE : EOK E) (hk : k < 2) (X : CX RX6 cX6_take 6 none (KA D dA) p s m args meth c A) (hR : 2 ≤ R.frames ∧ 62 ≤ R.locals) {res : Mem} (n : Nat) : ∀ (S : Mem) (x1 : Nat) (x3 : Int32) (x4 : Int32) (x5 : Int32) (H : Heap) (locs : List Loc) (ls : Array Slot), (E (R_o k x1) = true) → Wd D clA (shC dA E) (exC E) A ad S H → va_S A s.heap H locs → lv_has ls 6 [(0, .ref (ad (B_o k))), (1, .ref (ad (R_o k x1))), (2, .ref (ad C_out)), (3, .int x3), (4, .int x4), (5, .int x5)] → f_X6_take_3 k n S x1 x3 x4 x5 = some res → W p l e R s m args below meth c H locs 0 0 (MQ below (QvW D (shC dA E) (exC E) A ad res) args s 0 0 A) (F0 m 3 ls []) := by
  induction n with
  | zero =>
    intro S x1 x3 x4 x5 H locs ls hx1 hP hS hl hf
    exact absurd (show none = some res from hf) (fun h => by cases h)
  | succ n ih =>
    intro S x1 x3 x4 x5 H locs ls hx1 hP hS hl hf
    exact w_X6_take_3_b E k hE hk X hR (f_X6_take_3 k n) ih S x1 x3 x4 x5 hx1 hP hS hl hf
set_option maxHeartbeats 4000000 in
theorem w_X6_take {p : Program} {l : Launch} {e : Env} {R : Room} {s : State} {m : MethodId} {args : Array Value} {below : List Frame} {meth : Method} {c : Code} {D : va_G} {dA : Nat → ClassId} {A : Nat → Prop} {ad : L3 → Nat} (E : L3 → Bool) (k : Nat) (hE : EOK E) (hk : k < 2) (X : CX RX6 cX6_take 6 none (KA D dA) p s m args meth c A) (hR : 2 ≤ R.frames ∧ 62 ≤ R.locals) {res : Mem} (S : Mem) (x1 : Nat) (x3 : Int32) (x4 : Int32) (hx1 : E (R_o k x1) = true) {H : Heap} {locs : List Loc} {ls : Array Slot} (hP : Wd D clA (shC dA E) (exC E) A ad S H) (hS : va_S A s.heap H locs) (hl : lv_has ls 6 [(0, .ref (ad (B_o k))), (1, .ref (ad (R_o k x1))), (2, .ref (ad C_out)), (3, .int x3), (4, .int x4)]) (hf : f_X6_take k S x1 x3 x4 = some res) : W p l e R s m args below meth c H locs 0 0 (MQ below (QvW D (shC dA E) (exC E) A ad res) args s 0 0 A) (F0 m 0 ls []) := by
  have hx := X.hx
  have hb := X.hb
  unfold f_X6_take at hf
  refine lv_iconst (v := 0) hx hb dX6_take_0 (by decide) ?_
  refine lv_istore (lv' := [(5, .int 0), (0, .ref (ad (B_o k))), (1, .ref (ad (R_o k x1))), (2, .ref (ad C_out)), (3, .int x3), (4, .int x4)]) hx hb dX6_take_1 hl (by decide) rfl (fun ls hl => ?_)
  exact w_X6_take_3 E k hE hk X hR FU S x1 x3 x4 0 _ _ _ hx1 hP hS (lv_sub hl [1, 2, 3, 4, 5, 0] rfl) hf
theorem hd_X6_take : yX6_take.cls = RX6 ∧ yX6_take.cls ≠ "java/lang/invoke/MethodHandle" ∧ yX6_take.cls ≠ "java/lang/invoke/VarHandle" ∧ (parseMethodDescriptor yX6_take.desc).map (fun d => d.parameters.length) = some 4 := by decide +kernel
set_option maxHeartbeats 4000000 in
theorem mt_X6_take (l : Launch) (D : va_G) (dA : Nat → ClassId) (A : Nat → Prop) (ad : L3 → Nat) (E : L3 → Bool) (k : Nat) (hE : EOK E) (hk : k < 2) (S : Mem) (x1 : Nat) (x3 : Int32) (x4 : Int32) (hx1 : E (R_o k x1) = true) {res : Mem} (hq : f_X6_take k S x1 x3 x4 = some res) : Met l yX6_take (ws_ yX6_take cX6_take 6 none) ({ frames := 2, cells := 0, slots := 0, locals := 62 } : Room) (va_Pc [.ref (ad (B_o k)), .ref (ad (R_o k x1)), .ref (ad C_out), .int x3, .int x4] (PreW D dA (shC dA E) (exC E) A ad S)) (QvW D (shC dA E) (exC E) A ad res) 0 0 A :=
  gx_head (by decide) (Nat.le_of_ble_eq_true rfl) (fun p e s m below meth c ls X hP hl => w_X6_take (l := l) E k hE hk X ⟨Nat.le_of_ble_eq_true rfl, Nat.le_of_ble_eq_true rfl⟩ S x1 x3 x4 hx1 hP va_S.rf (lv_sub (l := [(0, .ref (ad (B_o k))), (1, .ref (ad (R_o k x1))), (2, .ref (ad C_out)), (3, .int x3), (4, .int x4)]) hl [0, 1, 2, 3, 4] rfl) hq)
set_option maxHeartbeats 4000000 in
theorem w_X2_grow {p : Program} {l : Launch} {e : Env} {R : Room} {s : State} {m : MethodId} {args : Array Value} {below : List Frame} {meth : Method} {c : Code} {D : va_G} {dA : Nat → ClassId} {A : Nat → Prop} {ad : L3 → Nat} (E : L3 → Bool) (k : Nat) (hE : EOK E) (hk : k < 2) (X : CX RX2 cX2_grow 2 none (KA D dA) p s m args meth c A) (hR : 1 ≤ R.frames ∧ 40 ≤ R.locals) {res : Mem} (S : Mem) {H : Heap} {locs : List Loc} {ls : Array Slot} (hP : Wd D clA (shC dA E) (exC E) A ad S H) (hS : va_S A s.heap H locs) (hl : lv_has ls 2 [(0, .ref (ad (H_o k)))]) (hf : f_X2_grow k S = some res) : W p l e R s m args below meth c H locs 0 0 (MQ below (QvW D (shC dA E) (exC E) A ad res) args s 0 0 A) (F0 m 0 ls []) := by
  have hx := X.hx
  have hb := X.hb
  unfold f_X2_grow at hf
  refine lv_aload_n hx hb dX2_grow_0 rfl (lv_at hl 0 rfl) ?_
  refine rg_X2_191 X hP (ex_H_o hE hk) dX2_grow_1 ?_
  refine lv_aload_n hx hb dX2_grow_4 rfl (lv_at hl 0 rfl) ?_
  refine rg_X2_30 X hP (ex_H_o hE hk) dX2_grow_5 ?_
  refine lv_iconst (v := 0) hx hb dX2_grow_8 (by decide) ?_
  refine ra_H_grants_ld X hP (ex_H_grants hE hk) dX2_grow_9 hf (fun hf => ?_)
  refine lv_iadd hx hb dX2_grow_10 ?_
  refine lv_ldc hx hb X.hown (X.hts _ q764) dX2_grow_11 ?_
  refine gm_mnI X (X.hts _ q751) (X.hts _ q668) (X.hts _ q99) (X.hts _ q669) hl.1 ⟨Nat.zero_le _, Nat.zero_le _⟩ (Nat.le_trans (Nat.le_of_ble_eq_true rfl) hR.1) (Nat.le_trans (Nat.le_of_ble_eq_true rfl) hR.2) dX2_grow_13 ?_
  refine lv_istore_n (lv' := [(1, .int (mnI ((S.1 (H_o k) 13) + (S.1 (H_grants k) (Int32.toNatClampNeg 0))) (65536 : Int32))), (0, .ref (ad (H_o k)))]) hx hb dX2_grow_16 rfl hl (by decide) rfl (fun ls hl => ?_)
  refine lv_iconst (v := 2) hx hb dX2_grow_17 (by decide) ?_
  refine lv_aload_n hx hb dX2_grow_18 rfl (lv_at hl 1 rfl) ?_
  refine rg_X2_191 X hP (ex_H_o hE hk) dX2_grow_19 ?_
  refine lv_aload_n hx hb dX2_grow_22 rfl (lv_at hl 1 rfl) ?_
  refine rg_X2_30 X hP (ex_H_o hE hk) dX2_grow_23 ?_
  refine lv_iconst (v := 0) hx hb dX2_grow_26 (by decide) ?_
  refine ra_H_grants_ld X hP (ex_H_grants hE hk) dX2_grow_27 hf (fun hf => ?_)
  refine lv_iadd hx hb dX2_grow_28 ?_
  refine lv_aload_n hx hb dX2_grow_29 rfl (lv_at hl 1 rfl) ?_
  refine rg_X2_76 X hP (ex_H_o hE hk) dX2_grow_30 ?_
  refine lv_isub hx hb dX2_grow_33 ?_
  refine lv_imul hx hb dX2_grow_34 ?_
  refine lv_aload_n hx hb dX2_grow_35 rfl (lv_at hl 1 rfl) ?_
  refine rg_X2_30 X hP (ex_H_o hE hk) dX2_grow_36 ?_
  refine lv_iconst (v := 0) hx hb dX2_grow_39 (by decide) ?_
  refine ra_H_grants_ld X hP (ex_H_grants hE hk) dX2_grow_40 hf (fun hf => ?_)
  refine gb_icmp_lt (tgt := 52) hx hb dX2_grow_41 (by decide) hf (fun hf => ?_) (fun hf => ?_)
  · exact gr_vW X hP hS (Option.some.inj hf) dX2_grow_52
  · refine lv_iload_n hx hb dX2_grow_44 rfl (lv_at hl 0 rfl) ?_
    refine lv_aload_n hx hb dX2_grow_45 rfl (lv_at hl 1 rfl) ?_
    refine rg_X2_76 X hP (ex_H_o hE hk) dX2_grow_46 ?_
    refine gb_icmp_gt (tgt := 53) hx hb dX2_grow_49 (by decide) hf (fun hf => ?_) (fun hf => ?_)
    · refine lv_aload_n hx hb dX2_grow_53 rfl (lv_at hl 1 rfl) ?_
      refine lv_iload_n hx hb dX2_grow_54 rfl (lv_at hl 0 rfl) ?_
      refine rp_X2_76 X hP hS (ex_H_o hE hk) dX2_grow_55 hf (fun S1 H locs hP hS hf => ?_)
      refine lv_aload_n hx hb dX2_grow_58 rfl (lv_at hl 1 rfl) ?_
      refine lv_iconst (v := 1) hx hb dX2_grow_59 (by decide) ?_
      refine rp_X2_208 X hP hS (ex_H_o hE hk) (by decide) dX2_grow_60 hf (fun S2 H locs hP hS hf => ?_)
      exact gr_vW X hP hS (Option.some.inj hf) dX2_grow_63
    · exact gr_vW X hP hS (Option.some.inj hf) dX2_grow_52
theorem hd_X2_grow : yX2_grow.cls = RX2 ∧ yX2_grow.cls ≠ "java/lang/invoke/MethodHandle" ∧ yX2_grow.cls ≠ "java/lang/invoke/VarHandle" ∧ (parseMethodDescriptor yX2_grow.desc).map (fun d => d.parameters.length) = some 0 := by decide +kernel
set_option maxHeartbeats 4000000 in
theorem mt_X2_grow (l : Launch) (D : va_G) (dA : Nat → ClassId) (A : Nat → Prop) (ad : L3 → Nat) (E : L3 → Bool) (k : Nat) (hE : EOK E) (hk : k < 2) (S : Mem) {res : Mem} (hq : f_X2_grow k S = some res) : Met l yX2_grow (ws_ yX2_grow cX2_grow 2 none) ({ frames := 1, cells := 0, slots := 0, locals := 40 } : Room) (va_Pc [.ref (ad (H_o k))] (PreW D dA (shC dA E) (exC E) A ad S)) (QvW D (shC dA E) (exC E) A ad res) 0 0 A :=
  gx_head (by decide) (Nat.le_of_ble_eq_true rfl) (fun p e s m below meth c ls X hP hl => w_X2_grow (l := l) E k hE hk X ⟨Nat.le_of_ble_eq_true rfl, Nat.le_of_ble_eq_true rfl⟩ S hP va_S.rf (lv_sub (l := [(0, .ref (ad (H_o k)))]) hl [0] rfl) hq)
set_option maxHeartbeats 4000000 in
theorem w_X2_grow_2 {p : Program} {l : Launch} {e : Env} {R : Room} {s : State} {m : MethodId} {args : Array Value} {below : List Frame} {meth : Method} {c : Code} {D : va_G} {dA : Nat → ClassId} {A : Nat → Prop} {ad : L3 → Nat} (E : L3 → Bool) (k : Nat) (hE : EOK E) (hk : k < 2) (X : CX RX2 cX2_grow_2 3 none (KA D dA) p s m args meth c A) (hR : 1 ≤ R.frames ∧ 40 ≤ R.locals) {res : Mem} (S : Mem) (x1 : Nat) (hx1 : E (R_o k x1) = true) {H : Heap} {locs : List Loc} {ls : Array Slot} (hP : Wd D clA (shC dA E) (exC E) A ad S H) (hS : va_S A s.heap H locs) (hl : lv_has ls 3 [(1, .ref (ad (R_o k x1)))]) (hf : f_X2_grow_2 k S x1 = some res) : W p l e R s m args below meth c H locs 0 0 (MQ below (QvW D (shC dA E) (exC E) A ad res) args s 0 0 A) (F0 m 0 ls []) := by
  have hx := X.hx
  have hb := X.hb
  unfold f_X2_grow_2 at hf
  refine lv_aload_n hx hb dX2_grow_2_0 rfl (lv_at hl 0 rfl) ?_
  refine rg_X2_184 X hP hx1 dX2_grow_2_1 ?_
  refine lv_aload_n hx hb dX2_grow_2_4 rfl (lv_at hl 0 rfl) ?_
  refine rg_X2_211 X hP hx1 dX2_grow_2_5 ?_
  refine lv_iadd hx hb dX2_grow_2_8 ?_
  refine lv_ldc hx hb X.hown (X.hts _ q764) dX2_grow_2_9 ?_
  refine gm_mnI X (X.hts _ q751) (X.hts _ q668) (X.hts _ q99) (X.hts _ q669) hl.1 ⟨Nat.zero_le _, Nat.zero_le _⟩ (Nat.le_trans (Nat.le_of_ble_eq_true rfl) hR.1) (Nat.le_trans (Nat.le_of_ble_eq_true rfl) hR.2) dX2_grow_2_11 ?_
  refine lv_istore_n (lv' := [(2, .int (mnI ((S.1 (R_o k x1) 2) + (S.1 (R_o k x1) 0)) (65536 : Int32))), (1, .ref (ad (R_o k x1)))]) hx hb dX2_grow_2_14 rfl hl (by decide) rfl (fun ls hl => ?_)
  refine lv_iconst (v := 2) hx hb dX2_grow_2_15 (by decide) ?_
  refine lv_aload_n hx hb dX2_grow_2_16 rfl (lv_at hl 1 rfl) ?_
  refine rg_X2_184 X hP hx1 dX2_grow_2_17 ?_
  refine lv_aload_n hx hb dX2_grow_2_20 rfl (lv_at hl 1 rfl) ?_
  refine rg_X2_211 X hP hx1 dX2_grow_2_21 ?_
  refine lv_iadd hx hb dX2_grow_2_24 ?_
  refine lv_aload_n hx hb dX2_grow_2_25 rfl (lv_at hl 1 rfl) ?_
  refine rg_X2_214 X hP hx1 dX2_grow_2_26 ?_
  refine lv_isub hx hb dX2_grow_2_29 ?_
  refine lv_imul hx hb dX2_grow_2_30 ?_
  refine lv_aload_n hx hb dX2_grow_2_31 rfl (lv_at hl 1 rfl) ?_
  refine rg_X2_211 X hP hx1 dX2_grow_2_32 ?_
  refine gb_icmp_lt (tgt := 46) hx hb dX2_grow_2_35 (by decide) hf (fun hf => ?_) (fun hf => ?_)
  · exact gr_vW X hP hS (Option.some.inj hf) dX2_grow_2_46
  · refine lv_iload_n hx hb dX2_grow_2_38 rfl (lv_at hl 0 rfl) ?_
    refine lv_aload_n hx hb dX2_grow_2_39 rfl (lv_at hl 1 rfl) ?_
    refine rg_X2_214 X hP hx1 dX2_grow_2_40 ?_
    refine gb_icmp_gt (tgt := 47) hx hb dX2_grow_2_43 (by decide) hf (fun hf => ?_) (fun hf => ?_)
    · refine lv_aload_n hx hb dX2_grow_2_47 rfl (lv_at hl 1 rfl) ?_
      refine lv_iload_n hx hb dX2_grow_2_48 rfl (lv_at hl 0 rfl) ?_
      refine rp_X2_214 X hP hS hx1 dX2_grow_2_49 hf (fun S1 H locs hP hS hf => ?_)
      refine lv_aload_n hx hb dX2_grow_2_52 rfl (lv_at hl 1 rfl) ?_
      refine lv_iconst (v := 1) hx hb dX2_grow_2_53 (by decide) ?_
      refine rp_X2_217 X hP hS hx1 (by decide) dX2_grow_2_54 hf (fun S2 H locs hP hS hf => ?_)
      exact gr_vW X hP hS (Option.some.inj hf) dX2_grow_2_57
    · exact gr_vW X hP hS (Option.some.inj hf) dX2_grow_2_46
theorem hd_X2_grow_2 : yX2_grow_2.cls = RX2 ∧ yX2_grow_2.cls ≠ "java/lang/invoke/MethodHandle" ∧ yX2_grow_2.cls ≠ "java/lang/invoke/VarHandle" ∧ (parseMethodDescriptor yX2_grow_2.desc).map (fun d => d.parameters.length) = some 1 := by decide +kernel
set_option maxHeartbeats 4000000 in
theorem mt_X2_grow_2 (l : Launch) (D : va_G) (dA : Nat → ClassId) (A : Nat → Prop) (ad : L3 → Nat) (E : L3 → Bool) (k : Nat) (hE : EOK E) (hk : k < 2) (S : Mem) (x1 : Nat) (hx1 : E (R_o k x1) = true) {res : Mem} (hq : f_X2_grow_2 k S x1 = some res) : Met l yX2_grow_2 (ws_ yX2_grow_2 cX2_grow_2 3 none) ({ frames := 1, cells := 0, slots := 0, locals := 40 } : Room) (va_Pc [.ref (ad (H_o k)), .ref (ad (R_o k x1))] (PreW D dA (shC dA E) (exC E) A ad S)) (QvW D (shC dA E) (exC E) A ad res) 0 0 A :=
  gx_head (by decide) (Nat.le_of_ble_eq_true rfl) (fun p e s m below meth c ls X hP hl => w_X2_grow_2 (l := l) E k hE hk X ⟨Nat.le_of_ble_eq_true rfl, Nat.le_of_ble_eq_true rfl⟩ S x1 hx1 hP va_S.rf (lv_sub (l := [(0, .ref (ad (H_o k))), (1, .ref (ad (R_o k x1)))]) hl [1] rfl) hq)
set_option maxHeartbeats 4000000 in
theorem w_X9_isOver_16 {p : Program} {l : Launch} {e : Env} {R : Room} {s : State} {m : MethodId} {args : Array Value} {below : List Frame} {meth : Method} {c : Code} {D : va_G} {dA : Nat → ClassId} {A : Nat → Prop} {ad : L3 → Nat} (E : L3 → Bool) (k : Nat) (j : Nat) (hE : EOK E) (hk : k < 2) (hj : E (S_o k j) = true) (X : CX RX9 cX9_isOver 1 (some .boolean) (KA D dA) p s m args meth c A) (hR : 1 ≤ R.frames ∧ 40 ≤ R.locals) {res : Int32} (S : Mem) {H : Heap} {locs : List Loc} {ls : Array Slot} (hP : Wd D clA (shC dA E) (exC E) A ad S H) (hS : va_S A s.heap H locs) (hl : lv_has ls 1 []) (hf : f_X9_isOver_16 k j S = res) : W p l e R s m args below meth c H locs 0 0 (MQ below (QiR D (shC dA E) (exC E) A ad S res) args s 0 0 A) (F0 m 16 ls []) := by
  have hx := X.hx
  have hb := X.hb
  unfold f_X9_isOver_16 at hf
  refine lv_iconst (v := 1) hx hb dX9_isOver_16 (by decide) ?_
  refine lv_goto (tgt := 21) hx hb dX9_isOver_17 (by decide) ?_
  exact gr_zR X hP hS hf (by decide) dX9_isOver_21
set_option maxHeartbeats 4000000 in
theorem w_X9_isOver {p : Program} {l : Launch} {e : Env} {R : Room} {s : State} {m : MethodId} {args : Array Value} {below : List Frame} {meth : Method} {c : Code} {D : va_G} {dA : Nat → ClassId} {A : Nat → Prop} {ad : L3 → Nat} (E : L3 → Bool) (k : Nat) (j : Nat) (hE : EOK E) (hk : k < 2) (hj : E (S_o k j) = true) (X : CX RX9 cX9_isOver 1 (some .boolean) (KA D dA) p s m args meth c A) (hR : 1 ≤ R.frames ∧ 40 ≤ R.locals) {res : Int32} (S : Mem) {H : Heap} {locs : List Loc} {ls : Array Slot} (hP : Wd D clA (shC dA E) (exC E) A ad S H) (hS : va_S A s.heap H locs) (hl : lv_has ls 1 [(0, .ref (ad (S_o k j)))]) (hf : f_X9_isOver k j S = res) : W p l e R s m args below meth c H locs 0 0 (MQ below (QiR D (shC dA E) (exC E) A ad S res) args s 0 0 A) (F0 m 0 ls []) := by
  have hx := X.hx
  have hb := X.hb
  unfold f_X9_isOver at hf
  refine lv_aload_n hx hb dX9_isOver_0 rfl (lv_at hl 0 rfl) ?_
  refine rg_X9_33 X hP hj dX9_isOver_1 ?_
  refine lv_iconst (v := 2) hx hb dX9_isOver_4 (by decide) ?_
  refine gb_icmp_eq (tgt := 16) hx hb dX9_isOver_5 (by decide) hf (fun hf => ?_) (fun hf => ?_)
  · exact w_X9_isOver_16 E k j hE hk hj X hR S hP hS (lv_sub hl [] rfl) hf
  · refine lv_aload_n hx hb dX9_isOver_8 rfl (lv_at hl 0 rfl) ?_
    refine rg_X9_33 X hP hj dX9_isOver_9 ?_
    refine lv_iconst (v := 4) hx hb dX9_isOver_12 (by decide) ?_
    refine gb_icmp_ne (tgt := 20) hx hb dX9_isOver_13 (by decide) hf (fun hf => ?_) (fun hf => ?_)
    · refine lv_iconst (v := 0) hx hb dX9_isOver_20 (by decide) ?_
      exact gr_zR X hP hS hf (by decide) dX9_isOver_21
    · exact w_X9_isOver_16 E k j hE hk hj X hR S hP hS (lv_sub hl [] rfl) hf
theorem hd_X9_isOver : yX9_isOver.cls = RX9 ∧ yX9_isOver.cls ≠ "java/lang/invoke/MethodHandle" ∧ yX9_isOver.cls ≠ "java/lang/invoke/VarHandle" ∧ (parseMethodDescriptor yX9_isOver.desc).map (fun d => d.parameters.length) = some 0 := by decide +kernel
set_option maxHeartbeats 4000000 in
theorem mt_X9_isOver (l : Launch) (D : va_G) (dA : Nat → ClassId) (A : Nat → Prop) (ad : L3 → Nat) (E : L3 → Bool) (k : Nat) (j : Nat) (hE : EOK E) (hk : k < 2) (hj : E (S_o k j) = true) (S : Mem) {res : Int32} (hq : f_X9_isOver k j S = res) : Met l yX9_isOver (ws_ yX9_isOver cX9_isOver 1 (some .boolean)) ({ frames := 1, cells := 0, slots := 0, locals := 40 } : Room) (va_Pc [.ref (ad (S_o k j))] (PreW D dA (shC dA E) (exC E) A ad S)) (QiR D (shC dA E) (exC E) A ad S res) 0 0 A :=
  gx_head (by decide) (Nat.le_of_ble_eq_true rfl) (fun p e s m below meth c ls X hP hl => w_X9_isOver (l := l) E k j hE hk hj X ⟨Nat.le_of_ble_eq_true rfl, Nat.le_of_ble_eq_true rfl⟩ S hP va_S.rf (lv_sub (l := [(0, .ref (ad (S_o k j)))]) hl [0] rfl) hq)
set_option maxHeartbeats 4000000 in
theorem w_X10_isOver_16 {p : Program} {l : Launch} {e : Env} {R : Room} {s : State} {m : MethodId} {args : Array Value} {below : List Frame} {meth : Method} {c : Code} {D : va_G} {dA : Nat → ClassId} {A : Nat → Prop} {ad : L3 → Nat} (E : L3 → Bool) (k : Nat) (j : Nat) (hE : EOK E) (hk : k < 2) (hj : E (R_o k j) = true) (X : CX RX10 cX10_isOver 1 (some .boolean) (KA D dA) p s m args meth c A) (hR : 1 ≤ R.frames ∧ 40 ≤ R.locals) {res : Int32} (S : Mem) {H : Heap} {locs : List Loc} {ls : Array Slot} (hP : Wd D clA (shC dA E) (exC E) A ad S H) (hS : va_S A s.heap H locs) (hl : lv_has ls 1 []) (hf : f_X10_isOver_16 k j S = res) : W p l e R s m args below meth c H locs 0 0 (MQ below (QiR D (shC dA E) (exC E) A ad S res) args s 0 0 A) (F0 m 16 ls []) := by
  have hx := X.hx
  have hb := X.hb
  unfold f_X10_isOver_16 at hf
  refine lv_iconst (v := 1) hx hb dX10_isOver_16 (by decide) ?_
  refine lv_goto (tgt := 21) hx hb dX10_isOver_17 (by decide) ?_
  exact gr_zR X hP hS hf (by decide) dX10_isOver_21
set_option maxHeartbeats 4000000 in
theorem w_X10_isOver {p : Program} {l : Launch} {e : Env} {R : Room} {s : State} {m : MethodId} {args : Array Value} {below : List Frame} {meth : Method} {c : Code} {D : va_G} {dA : Nat → ClassId} {A : Nat → Prop} {ad : L3 → Nat} (E : L3 → Bool) (k : Nat) (j : Nat) (hE : EOK E) (hk : k < 2) (hj : E (R_o k j) = true) (X : CX RX10 cX10_isOver 1 (some .boolean) (KA D dA) p s m args meth c A) (hR : 1 ≤ R.frames ∧ 40 ≤ R.locals) {res : Int32} (S : Mem) {H : Heap} {locs : List Loc} {ls : Array Slot} (hP : Wd D clA (shC dA E) (exC E) A ad S H) (hS : va_S A s.heap H locs) (hl : lv_has ls 1 [(0, .ref (ad (R_o k j)))]) (hf : f_X10_isOver k j S = res) : W p l e R s m args below meth c H locs 0 0 (MQ below (QiR D (shC dA E) (exC E) A ad S res) args s 0 0 A) (F0 m 0 ls []) := by
  have hx := X.hx
  have hb := X.hb
  unfold f_X10_isOver at hf
  refine lv_aload_n hx hb dX10_isOver_0 rfl (lv_at hl 0 rfl) ?_
  refine rg_X10_24 X hP hj dX10_isOver_1 ?_
  refine lv_iconst (v := 3) hx hb dX10_isOver_4 (by decide) ?_
  refine gb_icmp_eq (tgt := 16) hx hb dX10_isOver_5 (by decide) hf (fun hf => ?_) (fun hf => ?_)
  · exact w_X10_isOver_16 E k j hE hk hj X hR S hP hS (lv_sub hl [] rfl) hf
  · refine lv_aload_n hx hb dX10_isOver_8 rfl (lv_at hl 0 rfl) ?_
    refine rg_X10_24 X hP hj dX10_isOver_9 ?_
    refine lv_iconst (v := 4) hx hb dX10_isOver_12 (by decide) ?_
    refine gb_icmp_ne (tgt := 20) hx hb dX10_isOver_13 (by decide) hf (fun hf => ?_) (fun hf => ?_)
    · refine lv_iconst (v := 0) hx hb dX10_isOver_20 (by decide) ?_
      exact gr_zR X hP hS hf (by decide) dX10_isOver_21
    · exact w_X10_isOver_16 E k j hE hk hj X hR S hP hS (lv_sub hl [] rfl) hf
theorem hd_X10_isOver : yX10_isOver.cls = RX10 ∧ yX10_isOver.cls ≠ "java/lang/invoke/MethodHandle" ∧ yX10_isOver.cls ≠ "java/lang/invoke/VarHandle" ∧ (parseMethodDescriptor yX10_isOver.desc).map (fun d => d.parameters.length) = some 0 := by decide +kernel
set_option maxHeartbeats 4000000 in
theorem mt_X10_isOver (l : Launch) (D : va_G) (dA : Nat → ClassId) (A : Nat → Prop) (ad : L3 → Nat) (E : L3 → Bool) (k : Nat) (j : Nat) (hE : EOK E) (hk : k < 2) (hj : E (R_o k j) = true) (S : Mem) {res : Int32} (hq : f_X10_isOver k j S = res) : Met l yX10_isOver (ws_ yX10_isOver cX10_isOver 1 (some .boolean)) ({ frames := 1, cells := 0, slots := 0, locals := 40 } : Room) (va_Pc [.ref (ad (R_o k j))] (PreW D dA (shC dA E) (exC E) A ad S)) (QiR D (shC dA E) (exC E) A ad S res) 0 0 A :=
  gx_head (by decide) (Nat.le_of_ble_eq_true rfl) (fun p e s m below meth c ls X hP hl => w_X10_isOver (l := l) E k j hE hk hj X ⟨Nat.le_of_ble_eq_true rfl, Nat.le_of_ble_eq_true rfl⟩ S hP va_S.rf (lv_sub (l := [(0, .ref (ad (R_o k j)))]) hl [0] rfl) hq)
set_option maxHeartbeats 4000000 in
theorem w_X2_isOver_42 {p : Program} {l : Launch} {e : Env} {R : Room} {s : State} {m : MethodId} {args : Array Value} {below : List Frame} {meth : Method} {c : Code} {D : va_G} {dA : Nat → ClassId} {A : Nat → Prop} {ad : L3 → Nat} (E : L3 → Bool) (k : Nat) (hE : EOK E) (hk : k < 2) (X : CX RX2 cX2_isOver 2 (some .boolean) (KA D dA) p s m args meth c A) (hR : 2 ≤ R.frames ∧ 60 ≤ R.locals) {res : Int32} (S : Mem) {H : Heap} {locs : List Loc} {ls : Array Slot} (hP : Wd D clA (shC dA E) (exC E) A ad S H) (hS : va_S A s.heap H locs) (hl : lv_has ls 2 []) (hf : f_X2_isOver_42 E k S = some res) : W p l e R s m args below meth c H locs 0 0 (MQ below (QiR D (shC dA E) (exC E) A ad S res) args s 0 0 A) (F0 m 42 ls []) := by
  have hx := X.hx
  have hb := X.hb
  unfold f_X2_isOver_42 at hf
  refine lv_iconst (v := 1) hx hb dX2_isOver_42 (by decide) ?_
  refine lv_goto (tgt := 47) hx hb dX2_isOver_43 (by decide) ?_
  exact gr_zR X hP hS (Option.some.inj hf) (by decide) dX2_isOver_47
set_option maxHeartbeats 4000000 in
theorem w_X2_isOver_21 {p : Program} {l : Launch} {e : Env} {R : Room} {s : State} {m : MethodId} {args : Array Value} {below : List Frame} {meth : Method} {c : Code} {D : va_G} {dA : Nat → ClassId} {A : Nat → Prop} {ad : L3 → Nat} (E : L3 → Bool) (k : Nat) (hE : EOK E) (hk : k < 2) (X : CX RX2 cX2_isOver 2 (some .boolean) (KA D dA) p s m args meth c A) (hR : 2 ≤ R.frames ∧ 60 ≤ R.locals) {res : Int32} (S : Mem) (x1 : Int32) {H : Heap} {locs : List Loc} {ls : Array Slot} (hP : Wd D clA (shC dA E) (exC E) A ad S H) (hS : va_S A s.heap H locs) (hl : lv_has ls 2 [(0, .ref (ad (H_o k))), (1, .int x1)]) (hf : f_X2_isOver_21 E k S x1 = some res) : W p l e R s m args below meth c H locs 0 0 (MQ below (QiR D (shC dA E) (exC E) A ad S res) args s 0 0 A) (F0 m 21 ls []) := by
  have hx := X.hx
  have hb := X.hb
  unfold f_X2_isOver_21 at hf
  refine lv_aload_n hx hb dX2_isOver_21 rfl (lv_at hl 0 rfl) ?_
  refine rg_X2_19 X hP (ex_H_o hE hk) dX2_isOver_22 ?_
  refine lv_iload_n hx hb dX2_isOver_25 rfl (lv_at hl 1 rfl) ?_
  refine ra_H_receivings_ld X hP (ex_H_receivings hE hk) dX2_isOver_26 hf (fun he1 hf => ?_) (fun hf => ?_)
  · refine lv_ifnull hx hb dX2_isOver_27 ?_
    refine lv_aload_n hx hb dX2_isOver_30 rfl (lv_at hl 0 rfl) ?_
    refine rg_X2_19 X hP (ex_H_o hE hk) dX2_isOver_31 ?_
    refine lv_iload_n hx hb dX2_isOver_34 rfl (lv_at hl 1 rfl) ?_
    refine ra_H_receivings_ld X hP (ex_H_receivings hE hk) dX2_isOver_35 hf (fun he2 hf => ?_) (fun hf => ?_)
    · obtain ⟨v3, hq, hf⟩ := gS_eq hf
      refine gc_i (gc_fixV (S := S) X (mt_X10_isOver l D dA A ad E k (Int32.toNatClampNeg x1) hE hk he2 S hq) (lw_V q777 q778 q779 q101 q780) ⟨rfl, rfl⟩ hd_X10_isOver ⟨Nat.le_trans (Nat.le_of_ble_eq_true rfl) hR.1, Nat.le_trans (Nat.le_of_ble_eq_true rfl) hR.2⟩ (wd_recv (r := R_o k (Int32.toNatClampNeg x1)) (ci := 9) (q := (RX10, TX10, 13)) X.hK.1 hP he2 rfl rfl) hP hS ⟨Nat.zero_le _, Nat.zero_le _⟩ rfl hl.1 rfl (Nat.le_of_ble_eq_true rfl) dX2_isOver_36) hS ?_
      rintro _ _ H locs ⟨rfl, rfl⟩ hP hS
      refine gb_if_eq (tgt := 46) hx hb dX2_isOver_39 (by decide) hf (fun hf => ?_) (fun hf => ?_)
      · refine lv_iconst (v := 0) hx hb dX2_isOver_46 (by decide) ?_
        exact gr_zR X hP hS (Option.some.inj hf) (by decide) dX2_isOver_47
      · exact w_X2_isOver_42 E k hE hk X hR S hP hS (lv_sub hl [] rfl) hf
    · cases hf
  · refine lv_ifnullN (tgt := 42) hx hb dX2_isOver_27 (by decide) ?_
    exact w_X2_isOver_42 E k hE hk X hR S hP hS (lv_sub hl [] rfl) hf
set_option maxHeartbeats 4000000 in
theorem w_X2_isOver {p : Program} {l : Launch} {e : Env} {R : Room} {s : State} {m : MethodId} {args : Array Value} {below : List Frame} {meth : Method} {c : Code} {D : va_G} {dA : Nat → ClassId} {A : Nat → Prop} {ad : L3 → Nat} (E : L3 → Bool) (k : Nat) (hE : EOK E) (hk : k < 2) (X : CX RX2 cX2_isOver 2 (some .boolean) (KA D dA) p s m args meth c A) (hR : 2 ≤ R.frames ∧ 60 ≤ R.locals) {res : Int32} (S : Mem) (x1 : Int32) {H : Heap} {locs : List Loc} {ls : Array Slot} (hP : Wd D clA (shC dA E) (exC E) A ad S H) (hS : va_S A s.heap H locs) (hl : lv_has ls 2 [(0, .ref (ad (H_o k))), (1, .int x1)]) (hf : f_X2_isOver E k S x1 = some res) : W p l e R s m args below meth c H locs 0 0 (MQ below (QiR D (shC dA E) (exC E) A ad S res) args s 0 0 A) (F0 m 0 ls []) := by
  have hx := X.hx
  have hb := X.hb
  unfold f_X2_isOver at hf
  refine lv_aload_n hx hb dX2_isOver_0 rfl (lv_at hl 0 rfl) ?_
  refine rg_X2_11 X hP (ex_H_o hE hk) dX2_isOver_1 ?_
  refine lv_iload_n hx hb dX2_isOver_4 rfl (lv_at hl 1 rfl) ?_
  refine ra_H_sendings_ld X hP (ex_H_sendings hE hk) dX2_isOver_5 hf (fun he1 hf => ?_) (fun hf => ?_)
  · refine lv_ifnull hx hb dX2_isOver_6 ?_
    refine lv_aload_n hx hb dX2_isOver_9 rfl (lv_at hl 0 rfl) ?_
    refine rg_X2_11 X hP (ex_H_o hE hk) dX2_isOver_10 ?_
    refine lv_iload_n hx hb dX2_isOver_13 rfl (lv_at hl 1 rfl) ?_
    refine ra_H_sendings_ld X hP (ex_H_sendings hE hk) dX2_isOver_14 hf (fun he2 hf => ?_) (fun hf => ?_)
    · obtain ⟨v3, hq, hf⟩ := gS_eq hf
      refine gc_i (gc_fixV (S := S) X (mt_X9_isOver l D dA A ad E k (Int32.toNatClampNeg x1) hE hk he2 S hq) (lw_V q773 q774 q775 q100 q776) ⟨rfl, rfl⟩ hd_X9_isOver ⟨Nat.le_trans (Nat.le_of_ble_eq_true rfl) hR.1, Nat.le_trans (Nat.le_of_ble_eq_true rfl) hR.2⟩ (wd_recv (r := S_o k (Int32.toNatClampNeg x1)) (ci := 8) (q := (RX9, TX9, 12)) X.hK.1 hP he2 rfl rfl) hP hS ⟨Nat.zero_le _, Nat.zero_le _⟩ rfl hl.1 rfl (Nat.le_of_ble_eq_true rfl) dX2_isOver_15) hS ?_
      rintro _ _ H locs ⟨rfl, rfl⟩ hP hS
      refine gb_if_eq (tgt := 46) hx hb dX2_isOver_18 (by decide) hf (fun hf => ?_) (fun hf => ?_)
      · refine lv_iconst (v := 0) hx hb dX2_isOver_46 (by decide) ?_
        exact gr_zR X hP hS (Option.some.inj hf) (by decide) dX2_isOver_47
      · exact w_X2_isOver_21 E k hE hk X hR S x1 hP hS (lv_sub hl [0, 1] rfl) hf
    · cases hf
  · refine lv_ifnullN (tgt := 21) hx hb dX2_isOver_6 (by decide) ?_
    exact w_X2_isOver_21 E k hE hk X hR S x1 hP hS (lv_sub hl [0, 1] rfl) hf
theorem hd_X2_isOver : yX2_isOver.cls = RX2 ∧ yX2_isOver.cls ≠ "java/lang/invoke/MethodHandle" ∧ yX2_isOver.cls ≠ "java/lang/invoke/VarHandle" ∧ (parseMethodDescriptor yX2_isOver.desc).map (fun d => d.parameters.length) = some 1 := by decide +kernel
set_option maxHeartbeats 4000000 in
theorem mt_X2_isOver (l : Launch) (D : va_G) (dA : Nat → ClassId) (A : Nat → Prop) (ad : L3 → Nat) (E : L3 → Bool) (k : Nat) (hE : EOK E) (hk : k < 2) (S : Mem) (x1 : Int32) {res : Int32} (hq : f_X2_isOver E k S x1 = some res) : Met l yX2_isOver (ws_ yX2_isOver cX2_isOver 2 (some .boolean)) ({ frames := 2, cells := 0, slots := 0, locals := 60 } : Room) (va_Pc [.ref (ad (H_o k)), .int x1] (PreW D dA (shC dA E) (exC E) A ad S)) (QiR D (shC dA E) (exC E) A ad S res) 0 0 A :=
  gx_head (by decide) (Nat.le_of_ble_eq_true rfl) (fun p e s m below meth c ls X hP hl => w_X2_isOver (l := l) E k hE hk X ⟨Nat.le_of_ble_eq_true rfl, Nat.le_of_ble_eq_true rfl⟩ S x1 hP va_S.rf (lv_sub (l := [(0, .ref (ad (H_o k))), (1, .int x1)]) hl [0, 1] rfl) hq)
set_option maxHeartbeats 4000000 in
theorem w_X10_settle_43 {p : Program} {l : Launch} {e : Env} {R : Room} {s : State} {m : MethodId} {args : Array Value} {below : List Frame} {meth : Method} {c : Code} {D : va_G} {dA : Nat → ClassId} {A : Nat → Prop} {ad : L3 → Nat} (E : L3 → Bool) (k : Nat) (j : Nat) (hE : EOK E) (hk : k < 2) (hj : E (R_o k j) = true) (X : CX RX10 cX10_settle 1 none (KA D dA) p s m args meth c A) (hR : 1 ≤ R.frames ∧ 40 ≤ R.locals) {res : Mem} (S : Mem) {H : Heap} {locs : List Loc} {ls : Array Slot} (hP : Wd D clA (shC dA E) (exC E) A ad S H) (hS : va_S A s.heap H locs) (hl : lv_has ls 1 [(0, .ref (ad (R_o k j)))]) (hf : f_X10_settle_43 k j S = res) : W p l e R s m args below meth c H locs 0 0 (MQ below (QvW D (shC dA E) (exC E) A ad res) args s 0 0 A) (F0 m 43 ls []) := by
  have hx := X.hx
  have hb := X.hb
  unfold f_X10_settle_43 at hf
  refine lv_aload_n hx hb dX10_settle_43 rfl (lv_at hl 0 rfl) ?_
  refine rg_X10_24 X hP hj dX10_settle_44 ?_
  refine lv_iconst (v := 2) hx hb dX10_settle_47 (by decide) ?_
  refine gb_icmp_ne (tgt := 67) hx hb dX10_settle_48 (by decide) hf (fun hf => ?_) (fun hf => ?_)
  · exact gr_vW X hP hS hf dX10_settle_67
  · refine lv_aload_n hx hb dX10_settle_51 rfl (lv_at hl 0 rfl) ?_
    refine rg_X10_27 X hP hj dX10_settle_52 ?_
    refine lv_aload_n hx hb dX10_settle_55 rfl (lv_at hl 0 rfl) ?_
    refine rg_X10_9 X hP hj dX10_settle_56 ?_
    refine gb_icmp_ne (tgt := 67) hx hb dX10_settle_59 (by decide) hf (fun hf => ?_) (fun hf => ?_)
    · exact gr_vW X hP hS hf dX10_settle_67
    · refine lv_aload_n hx hb dX10_settle_62 rfl (lv_at hl 0 rfl) ?_
      refine lv_iconst (v := 3) hx hb dX10_settle_63 (by decide) ?_
      refine rp_X10_24 X hP hS hj dX10_settle_64 hf (fun S1 H locs hP hS hf => ?_)
      exact gr_vW X hP hS hf dX10_settle_67
set_option maxHeartbeats 4000000 in
theorem w_X10_settle_19 {p : Program} {l : Launch} {e : Env} {R : Room} {s : State} {m : MethodId} {args : Array Value} {below : List Frame} {meth : Method} {c : Code} {D : va_G} {dA : Nat → ClassId} {A : Nat → Prop} {ad : L3 → Nat} (E : L3 → Bool) (k : Nat) (j : Nat) (hE : EOK E) (hk : k < 2) (hj : E (R_o k j) = true) (X : CX RX10 cX10_settle 1 none (KA D dA) p s m args meth c A) (hR : 1 ≤ R.frames ∧ 40 ≤ R.locals) {res : Mem} (S : Mem) {H : Heap} {locs : List Loc} {ls : Array Slot} (hP : Wd D clA (shC dA E) (exC E) A ad S H) (hS : va_S A s.heap H locs) (hl : lv_has ls 1 [(0, .ref (ad (R_o k j)))]) (hf : f_X10_settle_19 k j S = res) : W p l e R s m args below meth c H locs 0 0 (MQ below (QvW D (shC dA E) (exC E) A ad res) args s 0 0 A) (F0 m 19 ls []) := by
  have hx := X.hx
  have hb := X.hb
  unfold f_X10_settle_19 at hf
  refine lv_aload_n hx hb dX10_settle_19 rfl (lv_at hl 0 rfl) ?_
  refine rg_X10_24 X hP hj dX10_settle_20 ?_
  refine lv_iconst (v := 1) hx hb dX10_settle_23 (by decide) ?_
  refine gb_icmp_ne (tgt := 43) hx hb dX10_settle_24 (by decide) hf (fun hf => ?_) (fun hf => ?_)
  · exact w_X10_settle_43 E k j hE hk hj X hR S hP hS (lv_sub hl [0] rfl) hf
  · refine lv_aload_n hx hb dX10_settle_27 rfl (lv_at hl 0 rfl) ?_
    refine rg_X10_30 X hP hj dX10_settle_28 ?_
    refine lv_aload_n hx hb dX10_settle_31 rfl (lv_at hl 0 rfl) ?_
    refine rg_X10_9 X hP hj dX10_settle_32 ?_
    refine gb_icmp_ne (tgt := 43) hx hb dX10_settle_35 (by decide) hf (fun hf => ?_) (fun hf => ?_)
    · exact w_X10_settle_43 E k j hE hk hj X hR S hP hS (lv_sub hl [0] rfl) hf
    · refine lv_aload_n hx hb dX10_settle_38 rfl (lv_at hl 0 rfl) ?_
      refine lv_iconst (v := 2) hx hb dX10_settle_39 (by decide) ?_
      refine rp_X10_24 X hP hS hj dX10_settle_40 hf (fun S1 H locs hP hS hf => ?_)
      exact w_X10_settle_43 E k j hE hk hj X hR S1 hP hS (lv_sub hl [0] rfl) hf
set_option maxHeartbeats 4000000 in
theorem w_X10_settle {p : Program} {l : Launch} {e : Env} {R : Room} {s : State} {m : MethodId} {args : Array Value} {below : List Frame} {meth : Method} {c : Code} {D : va_G} {dA : Nat → ClassId} {A : Nat → Prop} {ad : L3 → Nat} (E : L3 → Bool) (k : Nat) (j : Nat) (hE : EOK E) (hk : k < 2) (hj : E (R_o k j) = true) (X : CX RX10 cX10_settle 1 none (KA D dA) p s m args meth c A) (hR : 1 ≤ R.frames ∧ 40 ≤ R.locals) {res : Mem} (S : Mem) {H : Heap} {locs : List Loc} {ls : Array Slot} (hP : Wd D clA (shC dA E) (exC E) A ad S H) (hS : va_S A s.heap H locs) (hl : lv_has ls 1 [(0, .ref (ad (R_o k j)))]) (hf : f_X10_settle k j S = res) : W p l e R s m args below meth c H locs 0 0 (MQ below (QvW D (shC dA E) (exC E) A ad res) args s 0 0 A) (F0 m 0 ls []) := by
  have hx := X.hx
  have hb := X.hb
  unfold f_X10_settle at hf
  refine lv_aload_n hx hb dX10_settle_0 rfl (lv_at hl 0 rfl) ?_
  refine rg_X10_24 X hP hj dX10_settle_1 ?_
  refine gb_if_ne (tgt := 19) hx hb dX10_settle_4 (by decide) hf (fun hf => ?_) (fun hf => ?_)
  · exact w_X10_settle_19 E k j hE hk hj X hR S hP hS (lv_sub hl [0] rfl) hf
  · refine lv_aload_n hx hb dX10_settle_7 rfl (lv_at hl 0 rfl) ?_
    refine rg_X10_9 X hP hj dX10_settle_8 ?_
    refine gb_if_lt (tgt := 19) hx hb dX10_settle_11 (by decide) hf (fun hf => ?_) (fun hf => ?_)
    · exact w_X10_settle_19 E k j hE hk hj X hR S hP hS (lv_sub hl [0] rfl) hf
    · refine lv_aload_n hx hb dX10_settle_14 rfl (lv_at hl 0 rfl) ?_
      refine lv_iconst (v := 1) hx hb dX10_settle_15 (by decide) ?_
      refine rp_X10_24 X hP hS hj dX10_settle_16 hf (fun S1 H locs hP hS hf => ?_)
      exact w_X10_settle_19 E k j hE hk hj X hR S1 hP hS (lv_sub hl [0] rfl) hf
theorem hd_X10_settle : yX10_settle.cls = RX10 ∧ yX10_settle.cls ≠ "java/lang/invoke/MethodHandle" ∧ yX10_settle.cls ≠ "java/lang/invoke/VarHandle" ∧ (parseMethodDescriptor yX10_settle.desc).map (fun d => d.parameters.length) = some 0 := by decide +kernel
set_option maxHeartbeats 4000000 in
theorem mt_X10_settle (l : Launch) (D : va_G) (dA : Nat → ClassId) (A : Nat → Prop) (ad : L3 → Nat) (E : L3 → Bool) (k : Nat) (j : Nat) (hE : EOK E) (hk : k < 2) (hj : E (R_o k j) = true) (S : Mem) {res : Mem} (hq : f_X10_settle k j S = res) : Met l yX10_settle (ws_ yX10_settle cX10_settle 1 none) ({ frames := 1, cells := 0, slots := 0, locals := 40 } : Room) (va_Pc [.ref (ad (R_o k j))] (PreW D dA (shC dA E) (exC E) A ad S)) (QvW D (shC dA E) (exC E) A ad res) 0 0 A :=
  gx_head (by decide) (Nat.le_of_ble_eq_true rfl) (fun p e s m below meth c ls X hP hl => w_X10_settle (l := l) E k j hE hk hj X ⟨Nat.le_of_ble_eq_true rfl, Nat.le_of_ble_eq_true rfl⟩ S hP va_S.rf (lv_sub (l := [(0, .ref (ad (R_o k j)))]) hl [0] rfl) hq)
set_option maxHeartbeats 4000000 in
theorem w_X2_way_16 {p : Program} {l : Launch} {e : Env} {R : Room} {s : State} {m : MethodId} {args : Array Value} {below : List Frame} {meth : Method} {c : Code} {D : va_G} {dA : Nat → ClassId} {A : Nat → Prop} {ad : L3 → Nat} (E : L3 → Bool) (k : Nat) (hE : EOK E) (hk : k < 2) (X : CX RX2 cX2_way 3 (some (.object "StreamHall$Way")) (KA D dA) p s m args meth c A) (hR : 2 ≤ R.frames ∧ 61 ≤ R.locals) {res : Nat} (S : Mem) (y0 : Int32) {H : Heap} {locs : List Loc} {ls : Array Slot} (hP : Wd D clA (shC dA E) (exC E) A ad S H) (hS : va_S A s.heap H locs) (hl : lv_has ls 3 []) (hf : f_X2_way_16 k S y0 = some res) : W p l e R s m args below meth c H locs 0 0 (MQ below (QqR D (shC dA E) (exC E) A ad S (some (ad (W_o k res))) (res < 2)) args s 0 0 A) (F0 m 16 ls [.int y0, .ref (ad (H_ways k))]) := by
  have hx := X.hx
  have hb := X.hb
  unfold f_X2_way_16 at hf
  refine ra_H_ways_ld X hP (ex_H_ways hE hk) dX2_way_16 hf (fun hi1 hf => ?_)
  have e := (Option.some.inj hf)
  subst e
  exact gr_q X hP hS (x := some (ad (W_o k (Int32.toNatClampNeg y0)))) rfl hi1 dX2_way_17
set_option maxHeartbeats 4000000 in
theorem w_X2_way {p : Program} {l : Launch} {e : Env} {R : Room} {s : State} {m : MethodId} {args : Array Value} {below : List Frame} {meth : Method} {c : Code} {D : va_G} {dA : Nat → ClassId} {A : Nat → Prop} {ad : L3 → Nat} (E : L3 → Bool) (k : Nat) (hE : EOK E) (hk : k < 2) (X : CX RX2 cX2_way 3 (some (.object "StreamHall$Way")) (KA D dA) p s m args meth c A) (hR : 2 ≤ R.frames ∧ 61 ≤ R.locals) {res : Nat} (S : Mem) (x1 : Int64) {H : Heap} {locs : List Loc} {ls : Array Slot} (hP : Wd D clA (shC dA E) (exC E) A ad S H) (hS : va_S A s.heap H locs) (hl : lv_has ls 3 [(0, .ref (ad (H_o k))), (1, .long x1)]) (hf : f_X2_way k S x1 = some res) : W p l e R s m args below meth c H locs 0 0 (MQ below (QqR D (shC dA E) (exC E) A ad S (some (ad (W_o k res))) (res < 2)) args s 0 0 A) (F0 m 0 ls []) := by
  have hx := X.hx
  have hb := X.hb
  unfold f_X2_way at hf
  refine lv_aload_n hx hb dX2_way_0 rfl (lv_at hl 0 rfl) ?_
  refine rg_X2_26 X hP (ex_H_o hE hk) dX2_way_1 ?_
  refine lv_lload_n hx hb dX2_way_4 rfl (lv_at hl 1 rfl) ?_
  obtain ⟨v1, hq, hf⟩ := gS_eq hf
  refine gc_i (gc_fixS (S := S) X (mt_X2_isOneWay l D dA A ad E hE S x1 hq) (lw_S q529 q530 q87 q531) ⟨rfl, rfl⟩ hd_X2_isOneWay.2 ⟨Nat.le_trans (Nat.le_of_ble_eq_true rfl) hR.1, Nat.le_trans (Nat.le_of_ble_eq_true rfl) hR.2⟩ hP hS ⟨Nat.zero_le _, Nat.zero_le _⟩ rfl hl.1 rfl (Nat.le_of_ble_eq_true rfl) dX2_way_5) hS ?_
  rintro _ _ H locs ⟨rfl, rfl⟩ hP hS
  refine gb_if_eq (tgt := 15) hx hb dX2_way_8 (by decide) hf (fun hf => ?_) (fun hf => ?_)
  · refine lv_iconst (v := 0) hx hb dX2_way_15 (by decide) ?_
    exact w_X2_way_16 E k hE hk X hR S 0 hP hS (lv_sub hl [] rfl) hf
  · refine lv_iconst (v := 1) hx hb dX2_way_11 (by decide) ?_
    refine lv_goto (tgt := 16) hx hb dX2_way_12 (by decide) ?_
    exact w_X2_way_16 E k hE hk X hR S 1 hP hS (lv_sub hl [] rfl) hf
theorem hd_X2_way : yX2_way.cls = RX2 ∧ yX2_way.cls ≠ "java/lang/invoke/MethodHandle" ∧ yX2_way.cls ≠ "java/lang/invoke/VarHandle" ∧ (parseMethodDescriptor yX2_way.desc).map (fun d => d.parameters.length) = some 1 := by decide +kernel
set_option maxHeartbeats 4000000 in
theorem mt_X2_way (l : Launch) (D : va_G) (dA : Nat → ClassId) (A : Nat → Prop) (ad : L3 → Nat) (E : L3 → Bool) (k : Nat) (hE : EOK E) (hk : k < 2) (S : Mem) (x1 : Int64) {res : Nat} (hq : f_X2_way k S x1 = some res) : Met l yX2_way (ws_ yX2_way cX2_way 3 (some (.object "StreamHall$Way"))) ({ frames := 2, cells := 0, slots := 0, locals := 61 } : Room) (va_Pc [.ref (ad (H_o k)), .long x1] (PreW D dA (shC dA E) (exC E) A ad S)) (QqR D (shC dA E) (exC E) A ad S (some (ad (W_o k res))) (res < 2)) 0 0 A :=
  gx_head (by decide) (Nat.le_of_ble_eq_true rfl) (fun p e s m below meth c ls X hP hl => w_X2_way (l := l) E k hE hk X ⟨Nat.le_of_ble_eq_true rfl, Nat.le_of_ble_eq_true rfl⟩ S x1 hP va_S.rf (lv_sub (l := [(0, .ref (ad (H_o k))), (1, .long x1)]) hl [0, 1] rfl) hq)
set_option maxHeartbeats 4000000 in
theorem w_X2_mayBeOver_51 {p : Program} {l : Launch} {e : Env} {R : Room} {s : State} {m : MethodId} {args : Array Value} {below : List Frame} {meth : Method} {c : Code} {D : va_G} {dA : Nat → ClassId} {A : Nat → Prop} {ad : L3 → Nat} (E : L3 → Bool) (k : Nat) (hE : EOK E) (hk : k < 2) (X : CX RX2 cX2_mayBeOver 4 none (KA D dA) p s m args meth c A) (hR : 3 ≤ R.frames ∧ 83 ≤ R.locals) {res : Mem} (S : Mem) (x3 : Nat) (y0 : Int32) (y1 : Nat) (hx3 : x3 < 2) (hy1 : y1 < 2) {H : Heap} {locs : List Loc} {ls : Array Slot} (hP : Wd D clA (shC dA E) (exC E) A ad S H) (hS : va_S A s.heap H locs) (hl : lv_has ls 4 [(3, .ref (ad (W_o k x3)))]) (hf : f_X2_mayBeOver_51 E k S x3 y0 y1 = some res) : W p l e R s m args below meth c H locs 0 0 (MQ below (QvW D (shC dA E) (exC E) A ad res) args s 0 0 A) (F0 m 51 ls [.int y0, .ref (ad (W_o k y1))]) := by
  have hx := X.hx
  have hb := X.hb
  unfold f_X2_mayBeOver_51 at hf
  obtain ⟨hn, hf⟩ := gN_some hf
  refine rp_X2_135 X hP hS (ex_W_o hE hk hy1) hn dX2_mayBeOver_51 hf (fun S1 H locs hP hS hf => ?_)
  refine lv_aload_n hx hb dX2_mayBeOver_54 rfl (lv_at hl 0 rfl) ?_
  refine lv_aload_n hx hb dX2_mayBeOver_55 rfl (lv_at hl 0 rfl) ?_
  refine rg_X2_79 X hP (ex_W_o hE hk hx3) dX2_mayBeOver_56 ?_
  refine lv_iconst (v := 1) hx hb dX2_mayBeOver_59 (by decide) ?_
  refine lv_iadd hx hb dX2_mayBeOver_60 ?_
  refine lv_bipush (v := 64) hx hb dX2_mayBeOver_61 (by decide) ?_
  refine gm_mnI X (X.hts _ q751) (X.hts _ q668) (X.hts _ q99) (X.hts _ q669) hl.1 ⟨Nat.zero_le _, Nat.zero_le _⟩ (Nat.le_trans (Nat.le_of_ble_eq_true rfl) hR.1) (Nat.le_trans (Nat.le_of_ble_eq_true rfl) hR.2) dX2_mayBeOver_63 ?_
  refine rp_X2_79 X hP hS (ex_W_o hE hk hx3) dX2_mayBeOver_66 hf (fun S2 H locs hP hS hf => ?_)
  exact gr_vW X hP hS (Option.some.inj hf) dX2_mayBeOver_69
set_option maxHeartbeats 4000000 in
theorem w_X2_mayBeOver_46 {p : Program} {l : Launch} {e : Env} {R : Room} {s : State} {m : MethodId} {args : Array Value} {below : List Frame} {meth : Method} {c : Code} {D : va_G} {dA : Nat → ClassId} {A : Nat → Prop} {ad : L3 → Nat} (E : L3 → Bool) (k : Nat) (hE : EOK E) (hk : k < 2) (X : CX RX2 cX2_mayBeOver 4 none (KA D dA) p s m args meth c A) (hR : 3 ≤ R.frames ∧ 83 ≤ R.locals) {res : Mem} (S : Mem) (x3 : Nat) (y0 : Nat) (hx3 : x3 < 2) (hy0 : y0 < 2) {H : Heap} {locs : List Loc} {ls : Array Slot} (hP : Wd D clA (shC dA E) (exC E) A ad S H) (hS : va_S A s.heap H locs) (hl : lv_has ls 4 [(3, .ref (ad (W_o k x3)))]) (hf : f_X2_mayBeOver_46 E k S x3 y0 = some res) : W p l e R s m args below meth c H locs 0 0 (MQ below (QvW D (shC dA E) (exC E) A ad res) args s 0 0 A) (F0 m 46 ls [.ref (ad (W_o k y0))]) := by
  have hx := X.hx
  have hb := X.hb
  unfold f_X2_mayBeOver_46 at hf
  refine lv_iconst (v := 1) hx hb dX2_mayBeOver_46 (by decide) ?_
  refine lv_goto (tgt := 51) hx hb dX2_mayBeOver_47 (by decide) ?_
  exact w_X2_mayBeOver_51 E k hE hk X hR S x3 1 y0 hx3 hy0 hP hS (lv_sub hl [0] rfl) hf
set_option maxHeartbeats 4000000 in
theorem w_X2_mayBeOver {p : Program} {l : Launch} {e : Env} {R : Room} {s : State} {m : MethodId} {args : Array Value} {below : List Frame} {meth : Method} {c : Code} {D : va_G} {dA : Nat → ClassId} {A : Nat → Prop} {ad : L3 → Nat} (E : L3 → Bool) (k : Nat) (hE : EOK E) (hk : k < 2) (X : CX RX2 cX2_mayBeOver 4 none (KA D dA) p s m args meth c A) (hR : 3 ≤ R.frames ∧ 83 ≤ R.locals) {res : Mem} (S : Mem) (x1 : Int32) (x2 : Int32) {H : Heap} {locs : List Loc} {ls : Array Slot} (hP : Wd D clA (shC dA E) (exC E) A ad S H) (hS : va_S A s.heap H locs) (hl : lv_has ls 4 [(0, .ref (ad (H_o k))), (1, .int x1), (2, .int x2)]) (hf : f_X2_mayBeOver E k S x1 x2 = some res) : W p l e R s m args below meth c H locs 0 0 (MQ below (QvW D (shC dA E) (exC E) A ad res) args s 0 0 A) (F0 m 0 ls []) := by
  have hx := X.hx
  have hb := X.hb
  unfold f_X2_mayBeOver at hf
  refine lv_iload_n hx hb dX2_mayBeOver_0 rfl (lv_at hl 2 rfl) ?_
  refine gb_if_ne (tgt := 21) hx hb dX2_mayBeOver_1 (by decide) hf (fun hf => ?_) (fun hf => ?_)
  · exact gr_vW X hP hS (Option.some.inj hf) dX2_mayBeOver_21
  · refine lv_aload_n hx hb dX2_mayBeOver_4 rfl (lv_at hl 0 rfl) ?_
    refine lv_iload_n hx hb dX2_mayBeOver_5 rfl (lv_at hl 1 rfl) ?_
    refine lv_i2l hx hb dX2_mayBeOver_6 rfl ?_
    obtain ⟨v1, hq, hf⟩ := gS_eq hf
    refine gc_i (gc_fixV (S := S) X (mt_X2_isOwn l D dA A ad E k hE hk S (Int32.toInt64 x1) hq) (lw_V q533 q535 qs4 q87 q536) ⟨rfl, rfl⟩ hd_X2_isOwn ⟨Nat.le_trans (Nat.le_of_ble_eq_true rfl) hR.1, Nat.le_trans (Nat.le_of_ble_eq_true rfl) hR.2⟩ (wd_recv (r := H_o k) (ci := 2) (q := (RX2, TX2, 23)) X.hK.1 hP (ex_H_o hE hk) rfl rfl) hP hS ⟨Nat.zero_le _, Nat.zero_le _⟩ rfl hl.1 rfl (Nat.le_of_ble_eq_true rfl) dX2_mayBeOver_7) hS ?_
    rintro _ _ H locs ⟨rfl, rfl⟩ hP hS
    refine gb_if_ne (tgt := 21) hx hb dX2_mayBeOver_10 (by decide) hf (fun hf => ?_) (fun hf => ?_)
    · exact gr_vW X hP hS (Option.some.inj hf) dX2_mayBeOver_21
    · refine lv_aload_n hx hb dX2_mayBeOver_13 rfl (lv_at hl 0 rfl) ?_
      refine lv_iload_n hx hb dX2_mayBeOver_14 rfl (lv_at hl 1 rfl) ?_
      obtain ⟨v2, hq, hf⟩ := gB_some hf
      refine gc_i (gc_fixV (S := S) X (mt_X2_isOver l D dA A ad E k hE hk S x1 hq) (lw_V q769 q771 qs12 q87 q772) ⟨rfl, rfl⟩ hd_X2_isOver ⟨Nat.le_trans (Nat.le_of_ble_eq_true rfl) hR.1, Nat.le_trans (Nat.le_of_ble_eq_true rfl) hR.2⟩ (wd_recv (r := H_o k) (ci := 2) (q := (RX2, TX2, 23)) X.hK.1 hP (ex_H_o hE hk) rfl rfl) hP hS ⟨Nat.zero_le _, Nat.zero_le _⟩ rfl hl.1 rfl (Nat.le_of_ble_eq_true rfl) dX2_mayBeOver_15) hS ?_
      rintro _ _ H locs ⟨rfl, rfl⟩ hP hS
      refine gb_if_ne (tgt := 22) hx hb dX2_mayBeOver_18 (by decide) hf (fun hf => ?_) (fun hf => ?_)
      · refine lv_aload_n hx hb dX2_mayBeOver_22 rfl (lv_at hl 0 rfl) ?_
        refine lv_iload_n hx hb dX2_mayBeOver_23 rfl (lv_at hl 1 rfl) ?_
        refine lv_i2l hx hb dX2_mayBeOver_24 rfl ?_
        obtain ⟨v3, hq, hf⟩ := gB_some hf
        refine gc_q (gc_fixV (S := S) X (mt_X2_way l D dA A ad E k hE hk S (Int32.toInt64 x1) hq) (lw_V q789 q791 qs14 q87 q792) ⟨rfl, rfl⟩ hd_X2_way ⟨Nat.le_trans (Nat.le_of_ble_eq_true rfl) hR.1, Nat.le_trans (Nat.le_of_ble_eq_true rfl) hR.2⟩ (wd_recv (r := H_o k) (ci := 2) (q := (RX2, TX2, 23)) X.hK.1 hP (ex_H_o hE hk) rfl rfl) hP hS ⟨Nat.zero_le _, Nat.zero_le _⟩ rfl hl.1 rfl (Nat.le_of_ble_eq_true rfl) dX2_mayBeOver_25) hS ?_
        rintro _ _ H locs ⟨rfl, rfl, hv⟩ hP hS
        have hw4 := hv
        refine lv_astore_n (lv' := [(3, .ref (ad (W_o k v3))), (0, .ref (ad (H_o k))), (1, .int x1), (2, .int x2)]) hx hb dX2_mayBeOver_28 rfl hl (by decide) rfl (fun ls hl => ?_)
        refine lv_aload_n hx hb dX2_mayBeOver_29 rfl (lv_at hl 0 rfl) ?_
        refine lv_aload_n hx hb dX2_mayBeOver_30 rfl (lv_at hl 0 rfl) ?_
        refine rg_X2_135 X hP (ex_W_o hE hk hw4) dX2_mayBeOver_31 ?_
        refine gb_if_ne (tgt := 46) hx hb dX2_mayBeOver_34 (by decide) hf (fun hf => ?_) (fun hf => ?_)
        · exact w_X2_mayBeOver_46 E k hE hk X hR S v3 v3 hw4 hw4 hP hS (lv_sub hl [0] rfl) hf
        · refine lv_aload_n hx hb dX2_mayBeOver_37 rfl (lv_at hl 0 rfl) ?_
          refine rg_X2_79 X hP (ex_W_o hE hk hw4) dX2_mayBeOver_38 ?_
          refine lv_bipush (v := 64) hx hb dX2_mayBeOver_41 (by decide) ?_
          refine gb_icmp_ge (tgt := 50) hx hb dX2_mayBeOver_43 (by decide) hf (fun hf => ?_) (fun hf => ?_)
          · refine lv_iconst (v := 0) hx hb dX2_mayBeOver_50 (by decide) ?_
            exact w_X2_mayBeOver_51 E k hE hk X hR S v3 0 v3 hw4 hw4 hP hS (lv_sub hl [0] rfl) hf
          · exact w_X2_mayBeOver_46 E k hE hk X hR S v3 v3 hw4 hw4 hP hS (lv_sub hl [0] rfl) hf
      · exact gr_vW X hP hS (Option.some.inj hf) dX2_mayBeOver_21
theorem hd_X2_mayBeOver : yX2_mayBeOver.cls = RX2 ∧ yX2_mayBeOver.cls ≠ "java/lang/invoke/MethodHandle" ∧ yX2_mayBeOver.cls ≠ "java/lang/invoke/VarHandle" ∧ (parseMethodDescriptor yX2_mayBeOver.desc).map (fun d => d.parameters.length) = some 2 := by decide +kernel
set_option maxHeartbeats 4000000 in
theorem mt_X2_mayBeOver (l : Launch) (D : va_G) (dA : Nat → ClassId) (A : Nat → Prop) (ad : L3 → Nat) (E : L3 → Bool) (k : Nat) (hE : EOK E) (hk : k < 2) (S : Mem) (x1 : Int32) (x2 : Int32) {res : Mem} (hq : f_X2_mayBeOver E k S x1 x2 = some res) : Met l yX2_mayBeOver (ws_ yX2_mayBeOver cX2_mayBeOver 4 none) ({ frames := 3, cells := 0, slots := 0, locals := 83 } : Room) (va_Pc [.ref (ad (H_o k)), .int x1, .int x2] (PreW D dA (shC dA E) (exC E) A ad S)) (QvW D (shC dA E) (exC E) A ad res) 0 0 A :=
  gx_head (by decide) (Nat.le_of_ble_eq_true rfl) (fun p e s m below meth c ls X hP hl => w_X2_mayBeOver (l := l) E k hE hk X ⟨Nat.le_of_ble_eq_true rfl, Nat.le_of_ble_eq_true rfl⟩ S x1 x2 hP va_S.rf (lv_sub (l := [(0, .ref (ad (H_o k))), (1, .int x1), (2, .int x2)]) hl [0, 1, 2] rfl) hq)
set_option maxHeartbeats 4000000 in
theorem w_X2_read_91 {p : Program} {l : Launch} {e : Env} {R : Room} {s : State} {m : MethodId} {args : Array Value} {below : List Frame} {meth : Method} {c : Code} {D : va_G} {dA : Nat → ClassId} {A : Nat → Prop} {ad : L3 → Nat} (E : L3 → Bool) (k : Nat) (hE : EOK E) (hk : k < 2) (X : CX RX2 cX2_read 8 (some .int) (KA D dA) p s m args meth c A) (hR : 4 ≤ R.frames ∧ 106 ≤ R.locals) {res : Mem × Int32} (S : Mem) (x1 : Int32) (x5 : Nat) (x6 : Int32) (hx5 : E (R_o k x5) = true) {H : Heap} {locs : List Loc} {ls : Array Slot} (hP : Wd D clA (shC dA E) (exC E) A ad S H) (hS : va_S A s.heap H locs) (hl : lv_has ls 8 [(0, .ref (ad (H_o k))), (1, .int x1), (5, .ref (ad (R_o k x5))), (6, .int x6)]) (hf : f_X2_read_91 E k S x1 x5 x6 = some res) : W p l e R s m args below meth c H locs 0 0 (MQ below (QiW D (shC dA E) (exC E) A ad res) args s 0 0 A) (F0 m 91 ls []) := by
  have hx := X.hx
  have hb := X.hb
  unfold f_X2_read_91 at hf
  refine lv_aload_n hx hb dX2_read_91 rfl (lv_at hl 0 rfl) ?_
  refine lv_iload_n hx hb dX2_read_92 rfl (lv_at hl 1 rfl) ?_
  obtain ⟨v1, hq, hf⟩ := gB_some hf
  refine gc_i (gc_fixV (S := S) X (mt_X2_isOver l D dA A ad E k hE hk S x1 hq) (lw_V q769 q771 qs12 q87 q772) ⟨rfl, rfl⟩ hd_X2_isOver ⟨Nat.le_trans (Nat.le_of_ble_eq_true rfl) hR.1, Nat.le_trans (Nat.le_of_ble_eq_true rfl) hR.2⟩ (wd_recv (r := H_o k) (ci := 2) (q := (RX2, TX2, 23)) X.hK.1 hP (ex_H_o hE hk) rfl rfl) hP hS ⟨Nat.zero_le _, Nat.zero_le _⟩ rfl hl.1 rfl (Nat.le_of_ble_eq_true rfl) dX2_read_93) hS ?_
  rintro _ _ H locs ⟨rfl, rfl⟩ hP hS
  refine lv_istore (lv' := [(7, .int v1), (0, .ref (ad (H_o k))), (1, .int x1), (5, .ref (ad (R_o k x5))), (6, .int x6)]) hx hb dX2_read_96 hl (by decide) rfl (fun ls hl => ?_)
  refine lv_aload hx hb dX2_read_98 (lv_at hl 3 rfl) ?_
  obtain ⟨S2, hq, hf⟩ := gS_eq hf
  refine gc_v (gc_fixV (S := S) X (mt_X10_settle l D dA A ad E k x5 hE hk hx5 S hq) (lw_V q781 q782 q783 q101 q784) ⟨rfl, rfl⟩ hd_X10_settle ⟨Nat.le_trans (Nat.le_of_ble_eq_true rfl) hR.1, Nat.le_trans (Nat.le_of_ble_eq_true rfl) hR.2⟩ (wd_recv (r := R_o k x5) (ci := 9) (q := (RX10, TX10, 13)) X.hK.1 hP hx5 rfl rfl) hP hS ⟨Nat.zero_le _, Nat.zero_le _⟩ rfl hl.1 rfl (Nat.le_of_ble_eq_true rfl) dX2_read_100) hS ?_
  rintro _ H locs rfl hP hS
  refine lv_aload_n hx hb dX2_read_103 rfl (lv_at hl 1 rfl) ?_
  refine lv_iload_n hx hb dX2_read_104 rfl (lv_at hl 2 rfl) ?_
  refine lv_iload hx hb dX2_read_105 (lv_at hl 0 rfl) ?_
  obtain ⟨S3, hq, hf⟩ := gB_some hf
  refine gc_v (gc_fixV (S := S2) X (mt_X2_mayBeOver l D dA A ad E k hE hk S2 x1 v1 hq) (lw_V q785 q787 qs13 q87 q788) ⟨rfl, rfl⟩ hd_X2_mayBeOver ⟨Nat.le_trans (Nat.le_of_ble_eq_true rfl) hR.1, Nat.le_trans (Nat.le_of_ble_eq_true rfl) hR.2⟩ (wd_recv (r := H_o k) (ci := 2) (q := (RX2, TX2, 23)) X.hK.1 hP (ex_H_o hE hk) rfl rfl) hP hS ⟨Nat.zero_le _, Nat.zero_le _⟩ rfl hl.1 rfl (Nat.le_of_ble_eq_true rfl) dX2_read_107) hS ?_
  rintro _ H locs rfl hP hS
  refine lv_iload hx hb dX2_read_110 (lv_at hl 4 rfl) ?_
  exact gr_iW X hP hS (Option.some.inj hf) dX2_read_112
set_option maxHeartbeats 4000000 in
theorem w_X2_read {p : Program} {l : Launch} {e : Env} {R : Room} {s : State} {m : MethodId} {args : Array Value} {below : List Frame} {meth : Method} {c : Code} {D : va_G} {dA : Nat → ClassId} {A : Nat → Prop} {ad : L3 → Nat} (E : L3 → Bool) (k : Nat) (hE : EOK E) (hk : k < 2) (X : CX RX2 cX2_read 8 (some .int) (KA D dA) p s m args meth c A) (hR : 4 ≤ R.frames ∧ 106 ≤ R.locals) {res : Mem × Int32} (S : Mem) (x1 : Int32) (x3 : Int32) (x4 : Int32) {H : Heap} {locs : List Loc} {ls : Array Slot} (hP : Wd D clA (shC dA E) (exC E) A ad S H) (hS : va_S A s.heap H locs) (hl : lv_has ls 8 [(0, .ref (ad (H_o k))), (1, .int x1), (2, .ref (ad C_out)), (3, .int x3), (4, .int x4)]) (hf : f_X2_read E k S x1 x3 x4 = some res) : W p l e R s m args below meth c H locs 0 0 (MQ below (QiW D (shC dA E) (exC E) A ad res) args s 0 0 A) (F0 m 0 ls []) := by
  have hx := X.hx
  have hb := X.hb
  unfold f_X2_read at hf
  refine lv_aload_n hx hb dX2_read_0 rfl (lv_at hl 0 rfl) ?_
  refine lv_iload_n hx hb dX2_read_1 rfl (lv_at hl 1 rfl) ?_
  obtain ⟨v1, hq, hf⟩ := gB_some hf
  refine gc_q (gc_fixV (S := S) X (mt_X2_receiving l D dA A ad E k hE hk S x1 hq) (lw_V q731 q733 qs8 q87 q734) ⟨rfl, rfl⟩ hd_X2_receiving ⟨Nat.le_trans (Nat.le_of_ble_eq_true rfl) hR.1, Nat.le_trans (Nat.le_of_ble_eq_true rfl) hR.2⟩ (wd_recv (r := H_o k) (ci := 2) (q := (RX2, TX2, 23)) X.hK.1 hP (ex_H_o hE hk) rfl rfl) hP hS ⟨Nat.zero_le _, Nat.zero_le _⟩ rfl hl.1 rfl (Nat.le_of_ble_eq_true rfl) dX2_read_2) hS ?_
  rintro _ _ H locs ⟨rfl, rfl, hv⟩ hP hS
  rcases v1 with _ | j2
  · replace hf := gM_none hf
    refine lv_astoreN (lv' := [(5, .null), (0, .ref (ad (H_o k))), (1, .int x1), (2, .ref (ad C_out)), (3, .int x3), (4, .int x4)]) hx hb dX2_read_5 hl (by decide) rfl (fun ls hl => ?_)
    refine lv_aloadN hx hb dX2_read_7 (lv_at hl 0 rfl) ?_
    refine lv_ifnonnullN hx hb dX2_read_9 ?_
    refine lv_iconst (v := (-1)) hx hb dX2_read_12 (by decide) ?_
    exact gr_iW X hP hS (Option.some.inj hf) dX2_read_13
  · replace hf := gM_some hf
    have he3 := hv j2 rfl
    refine lv_astore (lv' := [(5, .ref (ad (R_o k j2))), (0, .ref (ad (H_o k))), (1, .int x1), (2, .ref (ad C_out)), (3, .int x3), (4, .int x4)]) hx hb dX2_read_5 hl (by decide) rfl (fun ls hl => ?_)
    refine lv_aload hx hb dX2_read_7 (lv_at hl 0 rfl) ?_
    refine lv_ifnonnull (tgt := 14) hx hb dX2_read_9 (by decide) ?_
    refine lv_aload hx hb dX2_read_14 (lv_at hl 0 rfl) ?_
    refine rg_X2_180 X hP he3 dX2_read_16 ?_
    refine lv_iconst (v := 4) hx hb dX2_read_19 (by decide) ?_
    refine gb_icmp_ne (tgt := 26) hx hb dX2_read_20 (by decide) hf (fun hf => ?_) (fun hf => ?_)
    · refine lv_iload hx hb dX2_read_26 (lv_at hl 5 rfl) ?_
      refine lv_aload hx hb dX2_read_28 (lv_at hl 0 rfl) ?_
      refine rg_X2_181 X hP he3 dX2_read_30 ?_
      refine lv_aload hx hb dX2_read_33 (lv_at hl 0 rfl) ?_
      refine rg_X2_184 X hP he3 dX2_read_35 ?_
      refine lv_isub hx hb dX2_read_38 ?_
      refine gm_mnI X (X.hts _ q751) (X.hts _ q668) (X.hts _ q99) (X.hts _ q669) hl.1 ⟨Nat.zero_le _, Nat.zero_le _⟩ (Nat.le_trans (Nat.le_of_ble_eq_true rfl) hR.1) (Nat.le_trans (Nat.le_of_ble_eq_true rfl) hR.2) dX2_read_39 ?_
      refine lv_istore (lv' := [(6, .int (mnI x4 ((S.1 (R_o k j2) 3) - (S.1 (R_o k j2) 2)))), (5, .ref (ad (R_o k j2))), (0, .ref (ad (H_o k))), (1, .int x1), (2, .ref (ad C_out)), (3, .int x3), (4, .int x4)]) hx hb dX2_read_42 hl (by decide) rfl (fun ls hl => ?_)
      refine lv_iload hx hb dX2_read_44 (lv_at hl 0 rfl) ?_
      refine gb_if_le (tgt := 91) hx hb dX2_read_46 (by decide) hf (fun hf => ?_) (fun hf => ?_)
      · exact w_X2_read_91 E k hE hk X hR S x1 j2 (mnI x4 ((S.1 (R_o k j2) 3) - (S.1 (R_o k j2) 2))) he3 hP hS (lv_sub hl [2, 3, 1, 0] rfl) hf
      · refine lv_aload_n hx hb dX2_read_49 rfl (lv_at hl 2 rfl) ?_
        refine rg_X2_55 X hP (ex_H_o hE hk) dX2_read_50 ?_
        refine lv_aload hx hb dX2_read_53 (lv_at hl 1 rfl) ?_
        refine lv_aload_n hx hb dX2_read_55 rfl (lv_at hl 4 rfl) ?_
        refine lv_iload_n hx hb dX2_read_56 rfl (lv_at hl 5 rfl) ?_
        refine lv_iload hx hb dX2_read_57 (lv_at hl 0 rfl) ?_
        obtain ⟨S4, hq, hf⟩ := gB_some hf
        refine gc_v (gc_fixV (S := S) X (mt_X6_take l D dA A ad E k hE hk S j2 x3 (mnI x4 ((S.1 (R_o k j2) 3) - (S.1 (R_o k j2) 2))) he3 hq) (lw_V q752 q753 q754 q91 q755) ⟨rfl, rfl⟩ hd_X6_take ⟨Nat.le_trans (Nat.le_of_ble_eq_true rfl) hR.1, Nat.le_trans (Nat.le_of_ble_eq_true rfl) hR.2⟩ (wd_recv (r := B_o k) (ci := 6) (q := (RX6, TX6, 6)) X.hK.1 hP (ex_B_o hE hk) rfl rfl) hP hS ⟨Nat.zero_le _, Nat.zero_le _⟩ rfl hl.1 rfl (Nat.le_of_ble_eq_true rfl) dX2_read_59) hS ?_
        rintro _ H locs rfl hP hS
        refine lv_aload_n hx hb dX2_read_62 rfl (lv_at hl 2 rfl) ?_
        refine lv_dup hx hb dX2_read_63 rfl ?_
        refine rg_X2_191 X hP (ex_H_o hE hk) dX2_read_64 ?_
        refine lv_iload hx hb dX2_read_67 (lv_at hl 0 rfl) ?_
        refine lv_iadd hx hb dX2_read_69 ?_
        refine rp_X2_191 X hP hS (ex_H_o hE hk) dX2_read_70 hf (fun S5 H locs hP hS hf => ?_)
        refine lv_aload_n hx hb dX2_read_73 rfl (lv_at hl 2 rfl) ?_
        obtain ⟨S6, hq, hf⟩ := gB_some hf
        refine gc_v (gc_fixV (S := S5) X (mt_X2_grow l D dA A ad E k hE hk S5 hq) (lw_V q760 q762 qs10 q87 q763) ⟨rfl, rfl⟩ hd_X2_grow ⟨Nat.le_trans (Nat.le_of_ble_eq_true rfl) hR.1, Nat.le_trans (Nat.le_of_ble_eq_true rfl) hR.2⟩ (wd_recv (r := H_o k) (ci := 2) (q := (RX2, TX2, 23)) X.hK.1 hP (ex_H_o hE hk) rfl rfl) hP hS ⟨Nat.zero_le _, Nat.zero_le _⟩ rfl hl.1 rfl (Nat.le_of_ble_eq_true rfl) dX2_read_74) hS ?_
        rintro _ H locs rfl hP hS
        refine lv_aload hx hb dX2_read_77 (lv_at hl 1 rfl) ?_
        refine rg_X2_180 X hP he3 dX2_read_79 ?_
        refine gb_if_ne (tgt := 91) hx hb dX2_read_82 (by decide) hf (fun hf => ?_) (fun hf => ?_)
        · exact w_X2_read_91 E k hE hk X hR S6 x1 j2 (mnI x4 ((S.1 (R_o k j2) 3) - (S.1 (R_o k j2) 2))) he3 hP hS (lv_sub hl [2, 3, 1, 0] rfl) hf
        · refine lv_aload_n hx hb dX2_read_85 rfl (lv_at hl 2 rfl) ?_
          refine lv_aload hx hb dX2_read_86 (lv_at hl 1 rfl) ?_
          obtain ⟨S7, hq, hf⟩ := gB_some hf
          refine gc_v (gc_fixV (S := S6) X (mt_X2_grow_2 l D dA A ad E k hE hk S6 j2 he3 hq) (lw_V q765 q767 qs11 q87 q768) ⟨rfl, rfl⟩ hd_X2_grow_2 ⟨Nat.le_trans (Nat.le_of_ble_eq_true rfl) hR.1, Nat.le_trans (Nat.le_of_ble_eq_true rfl) hR.2⟩ (wd_recv (r := H_o k) (ci := 2) (q := (RX2, TX2, 23)) X.hK.1 hP (ex_H_o hE hk) rfl rfl) hP hS ⟨Nat.zero_le _, Nat.zero_le _⟩ rfl hl.1 rfl (Nat.le_of_ble_eq_true rfl) dX2_read_88) hS ?_
          rintro _ H locs rfl hP hS
          exact w_X2_read_91 E k hE hk X hR S7 x1 j2 (mnI x4 ((S.1 (R_o k j2) 3) - (S.1 (R_o k j2) 2))) he3 hP hS (lv_sub hl [2, 3, 1, 0] rfl) hf
    · refine lv_bipush (v := (-2)) hx hb dX2_read_23 (by decide) ?_
      exact gr_iW X hP hS (Option.some.inj hf) dX2_read_25
theorem hd_X2_read : yX2_read.cls = RX2 ∧ yX2_read.cls ≠ "java/lang/invoke/MethodHandle" ∧ yX2_read.cls ≠ "java/lang/invoke/VarHandle" ∧ (parseMethodDescriptor yX2_read.desc).map (fun d => d.parameters.length) = some 4 := by decide +kernel
set_option maxHeartbeats 4000000 in
theorem mt_X2_read (l : Launch) (D : va_G) (dA : Nat → ClassId) (A : Nat → Prop) (ad : L3 → Nat) (E : L3 → Bool) (k : Nat) (hE : EOK E) (hk : k < 2) (S : Mem) (x1 : Int32) (x3 : Int32) (x4 : Int32) {res : Mem × Int32} (hq : f_X2_read E k S x1 x3 x4 = some res) : Met l yX2_read (ws_ yX2_read cX2_read 8 (some .int)) ({ frames := 4, cells := 0, slots := 0, locals := 106 } : Room) (va_Pc [.ref (ad (H_o k)), .int x1, .ref (ad C_out), .int x3, .int x4] (PreW D dA (shC dA E) (exC E) A ad S)) (QiW D (shC dA E) (exC E) A ad res) 0 0 A :=
  gx_head (by decide) (Nat.le_of_ble_eq_true rfl) (fun p e s m below meth c ls X hP hl => w_X2_read (l := l) E k hE hk X ⟨Nat.le_of_ble_eq_true rfl, Nat.le_of_ble_eq_true rfl⟩ S x1 x3 x4 hP va_S.rf (lv_sub (l := [(0, .ref (ad (H_o k))), (1, .int x1), (2, .ref (ad C_out)), (3, .int x3), (4, .int x4)]) hl [0, 1, 2, 3, 4] rfl) hq)
set_option maxHeartbeats 4000000 in
theorem w_X2_frame_70 {p : Program} {l : Launch} {e : Env} {R : Room} {s : State} {m : MethodId} {args : Array Value} {below : List Frame} {meth : Method} {c : Code} {D : va_G} {dA : Nat → ClassId} {A : Nat → Prop} {ad : L3 → Nat} (E : L3 → Bool) (k : Nat) (hE : EOK E) (hk : k < 2) (X : CX RX2 cX2_frame 11 (some .boolean) (KA D dA) p s m args meth c A) (hR : 2 ≤ R.frames ∧ 61 ≤ R.locals) {res : Mem × Int32} (S : Mem) (x1 : Int32) (x2 : Int64) (x4 : Int64) (x6 : Int64) (x8 : Int32) (y0 : Int32) (y1 : Int32) {H : Heap} {locs : List Loc} {ls : Array Slot} (hP : Wd D clA (shC dA E) (exC E) A ad S H) (hS : va_S A s.heap H locs) (hl : lv_has ls 11 [(0, .ref (ad (H_o k))), (1, .int x1), (2, .long x2), (4, .long x4), (6, .long x6), (8, .int x8)]) (hf : f_X2_frame_70 k S x1 x2 x4 x6 x8 y0 y1 = res) : W p l e R s m args below meth c H locs 0 0 (MQ below (QiW D (shC dA E) (exC E) A ad res) args s 0 0 A) (F0 m 70 ls [.int y0, .int y1]) := by
  have hx := X.hx
  have hb := X.hb
  unfold f_X2_frame_70 at hf
  refine lv_iadd hx hb dX2_frame_70 ?_
  refine lv_istore (lv' := [(10, .int (y1 + y0)), (0, .ref (ad (H_o k))), (1, .int x1), (2, .long x2), (4, .long x4), (6, .long x6), (8, .int x8)]) hx hb dX2_frame_71 hl (by decide) rfl (fun ls hl => ?_)
  refine lv_iload hx hb dX2_frame_73 (lv_at hl 0 rfl) ?_
  refine lv_iload hx hb dX2_frame_75 (lv_at hl 6 rfl) ?_
  refine gb_icmp_le (tgt := 82) hx hb dX2_frame_77 (by decide) hf (fun hf => ?_) (fun hf => ?_)
  · refine lv_aload_n hx hb dX2_frame_82 rfl (lv_at hl 1 rfl) ?_
    refine lv_iload_n hx hb dX2_frame_83 rfl (lv_at hl 2 rfl) ?_
    refine rp_X2_271 X hP hS (ex_H_o hE hk) dX2_frame_84 hf (fun S1 H locs hP hS hf => ?_)
    refine lv_aload_n hx hb dX2_frame_87 rfl (lv_at hl 1 rfl) ?_
    refine lv_lload_n hx hb dX2_frame_88 rfl (lv_at hl 3 rfl) ?_
    refine rp_X2_274 X hP hS (ex_H_o hE hk) dX2_frame_89 hf (fun S2 H locs hP hS hf => ?_)
    refine lv_aload_n hx hb dX2_frame_92 rfl (lv_at hl 1 rfl) ?_
    refine lv_lload hx hb dX2_frame_93 (lv_at hl 4 rfl) ?_
    refine rp_X2_277 X hP hS (ex_H_o hE hk) dX2_frame_95 hf (fun S3 H locs hP hS hf => ?_)
    refine lv_aload_n hx hb dX2_frame_98 rfl (lv_at hl 1 rfl) ?_
    refine lv_lload hx hb dX2_frame_99 (lv_at hl 5 rfl) ?_
    refine rp_X2_280 X hP hS (ex_H_o hE hk) dX2_frame_101 hf (fun S4 H locs hP hS hf => ?_)
    refine lv_aload_n hx hb dX2_frame_104 rfl (lv_at hl 1 rfl) ?_
    refine lv_iconst (v := 0) hx hb dX2_frame_105 (by decide) ?_
    refine rp_X2_283 X hP hS (ex_H_o hE hk) dX2_frame_106 hf (fun S5 H locs hP hS hf => ?_)
    refine lv_iconst (v := 1) hx hb dX2_frame_109 (by decide) ?_
    exact gr_zW X hP hS hf (by decide) dX2_frame_110
  · refine lv_iconst (v := 0) hx hb dX2_frame_80 (by decide) ?_
    exact gr_zW X hP hS hf (by decide) dX2_frame_81
set_option maxHeartbeats 4000000 in
theorem w_X2_frame_54 {p : Program} {l : Launch} {e : Env} {R : Room} {s : State} {m : MethodId} {args : Array Value} {below : List Frame} {meth : Method} {c : Code} {D : va_G} {dA : Nat → ClassId} {A : Nat → Prop} {ad : L3 → Nat} (E : L3 → Bool) (k : Nat) (hE : EOK E) (hk : k < 2) (X : CX RX2 cX2_frame 11 (some .boolean) (KA D dA) p s m args meth c A) (hR : 2 ≤ R.frames ∧ 61 ≤ R.locals) {res : Mem × Int32} (S : Mem) (x1 : Int32) (x2 : Int64) (x4 : Int64) (x6 : Int64) (x8 : Int32) (x9 : Int32) (y0 : Int32) (y1 : Int32) {H : Heap} {locs : List Loc} {ls : Array Slot} (hP : Wd D clA (shC dA E) (exC E) A ad S H) (hS : va_S A s.heap H locs) (hl : lv_has ls 11 [(0, .ref (ad (H_o k))), (1, .int x1), (2, .long x2), (4, .long x4), (6, .long x6), (8, .int x8), (9, .int x9)]) (hf : f_X2_frame_54 k S x1 x2 x4 x6 x8 x9 y0 y1 = res) : W p l e R s m args below meth c H locs 0 0 (MQ below (QiW D (shC dA E) (exC E) A ad res) args s 0 0 A) (F0 m 54 ls [.int y0, .int y1]) := by
  have hx := X.hx
  have hb := X.hb
  unfold f_X2_frame_54 at hf
  refine lv_iadd hx hb dX2_frame_54 ?_
  refine lv_iload hx hb dX2_frame_55 (lv_at hl 6 rfl) ?_
  refine lv_iconst (v := 2) hx hb dX2_frame_57 (by decide) ?_
  refine gb_icmp_le (tgt := 69) hx hb dX2_frame_58 (by decide) hf (fun hf => ?_) (fun hf => ?_)
  · refine lv_iconst (v := 0) hx hb dX2_frame_69 (by decide) ?_
    exact w_X2_frame_70 E k hE hk X hR S x1 x2 x4 x6 x8 0 (y1 + y0) hP hS (lv_sub hl [0, 1, 2, 3, 4, 5] rfl) hf
  · refine lv_lload hx hb dX2_frame_61 (lv_at hl 4 rfl) ?_
    obtain ⟨v1, hq, hf⟩ := gS_eq hf
    refine gc_i (gc_fixSN (S := S) X (mt_X1_sizeOf l D dA A ad E hE S x6 hq) (lw_meth q818) ⟨rfl, rfl⟩ hd_X1_sizeOf.2 ⟨Nat.le_trans (Nat.le_of_ble_eq_true rfl) hR.1, Nat.le_trans (Nat.le_of_ble_eq_true rfl) hR.2⟩ (X.hK.2 _ (nw_in q816 rfl)) (X.hts _ q86) (X.hts _ q817) hP hS ⟨Nat.zero_le _, Nat.zero_le _⟩ rfl hl.1 rfl (Nat.le_of_ble_eq_true rfl) dX2_frame_63) hS ?_
    rintro _ _ H locs ⟨rfl, rfl⟩ hP hS
    refine lv_goto (tgt := 70) hx hb dX2_frame_66 (by decide) ?_
    exact w_X2_frame_70 E k hE hk X hR S x1 x2 x4 x6 x8 v1 (y1 + y0) hP hS (lv_sub hl [0, 1, 2, 3, 4, 5] rfl) hf
set_option maxHeartbeats 4000000 in
theorem w_X2_frame_31 {p : Program} {l : Launch} {e : Env} {R : Room} {s : State} {m : MethodId} {args : Array Value} {below : List Frame} {meth : Method} {c : Code} {D : va_G} {dA : Nat → ClassId} {A : Nat → Prop} {ad : L3 → Nat} (E : L3 → Bool) (k : Nat) (hE : EOK E) (hk : k < 2) (X : CX RX2 cX2_frame 11 (some .boolean) (KA D dA) p s m args meth c A) (hR : 2 ≤ R.frames ∧ 61 ≤ R.locals) {res : Mem × Int32} (S : Mem) (x1 : Int32) (x2 : Int64) (x4 : Int64) (x6 : Int64) (x8 : Int32) (y0 : Int32) {H : Heap} {locs : List Loc} {ls : Array Slot} (hP : Wd D clA (shC dA E) (exC E) A ad S H) (hS : va_S A s.heap H locs) (hl : lv_has ls 11 [(0, .ref (ad (H_o k))), (1, .int x1), (2, .long x2), (4, .long x4), (6, .long x6), (8, .int x8)]) (hf : f_X2_frame_31 k S x1 x2 x4 x6 x8 y0 = res) : W p l e R s m args below meth c H locs 0 0 (MQ below (QiW D (shC dA E) (exC E) A ad res) args s 0 0 A) (F0 m 31 ls [.int y0]) := by
  have hx := X.hx
  have hb := X.hb
  unfold f_X2_frame_31 at hf
  refine lv_istore (lv' := [(9, .int y0), (0, .ref (ad (H_o k))), (1, .int x1), (2, .long x2), (4, .long x4), (6, .long x6), (8, .int x8)]) hx hb dX2_frame_31 hl (by decide) rfl (fun ls hl => ?_)
  refine lv_iconst (v := 1) hx hb dX2_frame_33 (by decide) ?_
  refine lv_lload_n hx hb dX2_frame_34 rfl (lv_at hl 3 rfl) ?_
  obtain ⟨v1, hq, hf⟩ := gS_eq hf
  refine gc_i (gc_fixSN (S := S) X (mt_X1_sizeOf l D dA A ad E hE S x2 hq) (lw_meth q818) ⟨rfl, rfl⟩ hd_X1_sizeOf.2 ⟨Nat.le_trans (Nat.le_of_ble_eq_true rfl) hR.1, Nat.le_trans (Nat.le_of_ble_eq_true rfl) hR.2⟩ (X.hK.2 _ (nw_in q816 rfl)) (X.hts _ q86) (X.hts _ q817) hP hS ⟨Nat.zero_le _, Nat.zero_le _⟩ rfl hl.1 rfl (Nat.le_of_ble_eq_true rfl) dX2_frame_35) hS ?_
  rintro _ _ H locs ⟨rfl, rfl⟩ hP hS
  refine lv_iadd hx hb dX2_frame_38 ?_
  refine lv_iload hx hb dX2_frame_39 (lv_at hl 0 rfl) ?_
  refine lv_iconst (v := 1) hx hb dX2_frame_41 (by decide) ?_
  refine gb_icmp_le (tgt := 53) hx hb dX2_frame_42 (by decide) hf (fun hf => ?_) (fun hf => ?_)
  · refine lv_iconst (v := 0) hx hb dX2_frame_53 (by decide) ?_
    exact w_X2_frame_54 E k hE hk X hR S x1 x2 x4 x6 x8 y0 0 (1 + v1) hP hS (lv_sub hl [1, 2, 3, 4, 5, 6, 0] rfl) hf
  · refine lv_lload hx hb dX2_frame_45 (lv_at hl 4 rfl) ?_
    obtain ⟨v2, hq, hf⟩ := gS_eq hf
    refine gc_i (gc_fixSN (S := S) X (mt_X1_sizeOf l D dA A ad E hE S x4 hq) (lw_meth q818) ⟨rfl, rfl⟩ hd_X1_sizeOf.2 ⟨Nat.le_trans (Nat.le_of_ble_eq_true rfl) hR.1, Nat.le_trans (Nat.le_of_ble_eq_true rfl) hR.2⟩ (X.hK.2 _ (nw_in q816 rfl)) (X.hts _ q86) (X.hts _ q817) hP hS ⟨Nat.zero_le _, Nat.zero_le _⟩ rfl hl.1 rfl (Nat.le_of_ble_eq_true rfl) dX2_frame_47) hS ?_
    rintro _ _ H locs ⟨rfl, rfl⟩ hP hS
    refine lv_goto (tgt := 54) hx hb dX2_frame_50 (by decide) ?_
    exact w_X2_frame_54 E k hE hk X hR S x1 x2 x4 x6 x8 y0 v2 (1 + v1) hP hS (lv_sub hl [1, 2, 3, 4, 5, 6, 0] rfl) hf
set_option maxHeartbeats 4000000 in
theorem w_X2_frame_26 {p : Program} {l : Launch} {e : Env} {R : Room} {s : State} {m : MethodId} {args : Array Value} {below : List Frame} {meth : Method} {c : Code} {D : va_G} {dA : Nat → ClassId} {A : Nat → Prop} {ad : L3 → Nat} (E : L3 → Bool) (k : Nat) (hE : EOK E) (hk : k < 2) (X : CX RX2 cX2_frame 11 (some .boolean) (KA D dA) p s m args meth c A) (hR : 2 ≤ R.frames ∧ 61 ≤ R.locals) {res : Mem × Int32} (S : Mem) (x1 : Int32) (x2 : Int64) (x4 : Int64) (x6 : Int64) (x8 : Int32) {H : Heap} {locs : List Loc} {ls : Array Slot} (hP : Wd D clA (shC dA E) (exC E) A ad S H) (hS : va_S A s.heap H locs) (hl : lv_has ls 11 [(0, .ref (ad (H_o k))), (1, .int x1), (2, .long x2), (4, .long x4), (6, .long x6), (8, .int x8)]) (hf : f_X2_frame_26 k S x1 x2 x4 x6 x8 = res) : W p l e R s m args below meth c H locs 0 0 (MQ below (QiW D (shC dA E) (exC E) A ad res) args s 0 0 A) (F0 m 26 ls []) := by
  have hx := X.hx
  have hb := X.hb
  unfold f_X2_frame_26 at hf
  refine lv_iconst (v := 2) hx hb dX2_frame_26 (by decide) ?_
  refine lv_goto (tgt := 31) hx hb dX2_frame_27 (by decide) ?_
  exact w_X2_frame_31 E k hE hk X hR S x1 x2 x4 x6 x8 2 hP hS (lv_sub hl [0, 1, 2, 3, 4, 5] rfl) hf
set_option maxHeartbeats 4000000 in
theorem w_X2_frame {p : Program} {l : Launch} {e : Env} {R : Room} {s : State} {m : MethodId} {args : Array Value} {below : List Frame} {meth : Method} {c : Code} {D : va_G} {dA : Nat → ClassId} {A : Nat → Prop} {ad : L3 → Nat} (E : L3 → Bool) (k : Nat) (hE : EOK E) (hk : k < 2) (X : CX RX2 cX2_frame 11 (some .boolean) (KA D dA) p s m args meth c A) (hR : 2 ≤ R.frames ∧ 61 ≤ R.locals) {res : Mem × Int32} (S : Mem) (x1 : Int32) (x2 : Int64) (x4 : Int64) (x6 : Int64) (x8 : Int32) {H : Heap} {locs : List Loc} {ls : Array Slot} (hP : Wd D clA (shC dA E) (exC E) A ad S H) (hS : va_S A s.heap H locs) (hl : lv_has ls 11 [(0, .ref (ad (H_o k))), (1, .int x1), (2, .long x2), (4, .long x4), (6, .long x6), (8, .int x8)]) (hf : f_X2_frame k S x1 x2 x4 x6 x8 = res) : W p l e R s m args below meth c H locs 0 0 (MQ below (QiW D (shC dA E) (exC E) A ad res) args s 0 0 A) (F0 m 0 ls []) := by
  have hx := X.hx
  have hb := X.hb
  unfold f_X2_frame at hf
  refine lv_iload_n hx hb dX2_frame_0 rfl (lv_at hl 1 rfl) ?_
  refine lv_iconst (v := 4) hx hb dX2_frame_1 (by decide) ?_
  refine gb_icmp_ne (tgt := 9) hx hb dX2_frame_2 (by decide) hf (fun hf => ?_) (fun hf => ?_)
  · refine lv_iload_n hx hb dX2_frame_9 rfl (lv_at hl 1 rfl) ?_
    refine lv_iconst (v := 5) hx hb dX2_frame_10 (by decide) ?_
    refine gb_icmp_eq (tgt := 26) hx hb dX2_frame_11 (by decide) hf (fun hf => ?_) (fun hf => ?_)
    · exact w_X2_frame_26 E k hE hk X hR S x1 x2 x4 x6 x8 hP hS (lv_sub hl [0, 1, 2, 3, 4, 5] rfl) hf
    · refine lv_iload_n hx hb dX2_frame_14 rfl (lv_at hl 1 rfl) ?_
      refine lv_bipush (v := 17) hx hb dX2_frame_15 (by decide) ?_
      refine gb_icmp_eq (tgt := 26) hx hb dX2_frame_17 (by decide) hf (fun hf => ?_) (fun hf => ?_)
      · exact w_X2_frame_26 E k hE hk X hR S x1 x2 x4 x6 x8 hP hS (lv_sub hl [0, 1, 2, 3, 4, 5] rfl) hf
      · refine lv_iload_n hx hb dX2_frame_20 rfl (lv_at hl 1 rfl) ?_
        refine lv_bipush (v := 21) hx hb dX2_frame_21 (by decide) ?_
        refine gb_icmp_ne (tgt := 30) hx hb dX2_frame_23 (by decide) hf (fun hf => ?_) (fun hf => ?_)
        · refine lv_iconst (v := 1) hx hb dX2_frame_30 (by decide) ?_
          exact w_X2_frame_31 E k hE hk X hR S x1 x2 x4 x6 x8 1 hP hS (lv_sub hl [0, 1, 2, 3, 4, 5] rfl) hf
        · exact w_X2_frame_26 E k hE hk X hR S x1 x2 x4 x6 x8 hP hS (lv_sub hl [0, 1, 2, 3, 4, 5] rfl) hf
  · refine lv_iconst (v := 3) hx hb dX2_frame_5 (by decide) ?_
    refine lv_goto (tgt := 31) hx hb dX2_frame_6 (by decide) ?_
    exact w_X2_frame_31 E k hE hk X hR S x1 x2 x4 x6 x8 3 hP hS (lv_sub hl [0, 1, 2, 3, 4, 5] rfl) hf
theorem hd_X2_frame : yX2_frame.cls = RX2 ∧ yX2_frame.cls ≠ "java/lang/invoke/MethodHandle" ∧ yX2_frame.cls ≠ "java/lang/invoke/VarHandle" ∧ (parseMethodDescriptor yX2_frame.desc).map (fun d => d.parameters.length) = some 5 := by decide +kernel
set_option maxHeartbeats 4000000 in
theorem mt_X2_frame (l : Launch) (D : va_G) (dA : Nat → ClassId) (A : Nat → Prop) (ad : L3 → Nat) (E : L3 → Bool) (k : Nat) (hE : EOK E) (hk : k < 2) (S : Mem) (x1 : Int32) (x2 : Int64) (x4 : Int64) (x6 : Int64) (x8 : Int32) {res : Mem × Int32} (hq : f_X2_frame k S x1 x2 x4 x6 x8 = res) : Met l yX2_frame (ws_ yX2_frame cX2_frame 11 (some .boolean)) ({ frames := 2, cells := 0, slots := 0, locals := 61 } : Room) (va_Pc [.ref (ad (H_o k)), .int x1, .long x2, .long x4, .long x6, .int x8] (PreW D dA (shC dA E) (exC E) A ad S)) (QiW D (shC dA E) (exC E) A ad res) 0 0 A :=
  gx_head (by decide) (Nat.le_of_ble_eq_true rfl) (fun p e s m below meth c ls X hP hl => w_X2_frame (l := l) E k hE hk X ⟨Nat.le_of_ble_eq_true rfl, Nat.le_of_ble_eq_true rfl⟩ S x1 x2 x4 x6 x8 hP va_S.rf (lv_sub (l := [(0, .ref (ad (H_o k))), (1, .int x1), (2, .long x2), (4, .long x4), (6, .long x6), (8, .int x8)]) hl [0, 1, 2, 3, 4, 5] rfl) hq)
