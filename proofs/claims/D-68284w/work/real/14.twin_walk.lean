set_option maxRecDepth 100000
set_option maxHeartbeats 4000000 in
theorem w_X8_firstIn_56 {p : Program} {l : Launch} {e : Env} {R : Room} {s : State} {m : MethodId} {args : Array Value} {below : List Frame} {meth : Method} {c : Code} {D : va_G} {dA : Nat → ClassId} {A : Nat → Prop} {ad : L3 → Nat} (X : CX RX8 cX8_firstIn 6 (some .int) (KA D dA) p s m args meth c A) (hR : 1 ≤ R.frames ∧ 20 ≤ R.locals) {res : Int32} (S : Mem) (k9 : Int32 → Int32 → Int32 → Int32 → Int32 → Option (Int32)) (hk9 : ∀ (x1 : Int32) (x2 : Int32) (x3 : Int32) (x4 : Int32) (x5 : Int32) (H : Heap) (locs : List Loc) (ls : Array Slot), Wd D clA (shM dA) exM A ad S H → va_S A s.heap H locs → lv_has ls 6 [(0, .ref (ad M_o)), (1, .int x1), (2, .int x2), (3, .int x3), (4, .int x4), (5, .int x5)] → k9 x1 x2 x3 x4 x5 = some res → W p l e R s m args below meth c H locs 0 0 (MQ below (QiR D (shM dA) exM A ad S res) args s 0 0 A) (F0 m 9 ls [])) (x1 : Int32) (x2 : Int32) (x3 : Int32) (x4 : Int32) (x5 : Int32) {H : Heap} {locs : List Loc} {ls : Array Slot} (hP : Wd D clA (shM dA) exM A ad S H) (hS : va_S A s.heap H locs) (hl : lv_has ls 6 [(0, .ref (ad M_o)), (1, .int x1), (2, .int x2), (3, .int x3), (4, .int x4), (5, .int x5)]) (hf : f_X8_firstIn_56 S k9 x1 x2 x3 x4 x5 = some res) : W p l e R s m args below meth c H locs 0 0 (MQ below (QiR D (shM dA) exM A ad S res) args s 0 0 A) (F0 m 56 ls []) := by
  have hx := X.hx
  have hb := X.hb
  unfold f_X8_firstIn_56 at hf
  refine lv_iinc (v := (x5 + 1)) (lv' := [(5, .int (x5 + 1)), (0, .ref (ad M_o)), (1, .int x1), (2, .int x2), (3, .int x3), (4, .int x4)]) hx hb dX8_firstIn_56 hl (k := 5) rfl rfl (by decide) rfl (fun ls hl => ?_)
  refine lv_goto (tgt := 9) hx hb dX8_firstIn_59 (by decide) ?_
  exact hk9 x1 x2 x3 x4 (x5 + 1) _ _ _ hP hS (lv_sub hl [1, 2, 3, 4, 5, 0] rfl) hf
set_option maxHeartbeats 4000000 in
theorem w_X8_firstIn_9_b {p : Program} {l : Launch} {e : Env} {R : Room} {s : State} {m : MethodId} {args : Array Value} {below : List Frame} {meth : Method} {c : Code} {D : va_G} {dA : Nat → ClassId} {A : Nat → Prop} {ad : L3 → Nat} (X : CX RX8 cX8_firstIn 6 (some .int) (KA D dA) p s m args meth c A) (hR : 1 ≤ R.frames ∧ 20 ≤ R.locals) {res : Int32} (S : Mem) (k9 : Int32 → Int32 → Int32 → Int32 → Int32 → Option (Int32)) (hk9 : ∀ (x1 : Int32) (x2 : Int32) (x3 : Int32) (x4 : Int32) (x5 : Int32) (H : Heap) (locs : List Loc) (ls : Array Slot), Wd D clA (shM dA) exM A ad S H → va_S A s.heap H locs → lv_has ls 6 [(0, .ref (ad M_o)), (1, .int x1), (2, .int x2), (3, .int x3), (4, .int x4), (5, .int x5)] → k9 x1 x2 x3 x4 x5 = some res → W p l e R s m args below meth c H locs 0 0 (MQ below (QiR D (shM dA) exM A ad S res) args s 0 0 A) (F0 m 9 ls [])) (x1 : Int32) (x2 : Int32) (x3 : Int32) (x4 : Int32) (x5 : Int32) {H : Heap} {locs : List Loc} {ls : Array Slot} (hP : Wd D clA (shM dA) exM A ad S H) (hS : va_S A s.heap H locs) (hl : lv_has ls 6 [(0, .ref (ad M_o)), (1, .int x1), (2, .int x2), (3, .int x3), (4, .int x4), (5, .int x5)]) (hf : f_X8_firstIn_9_b S k9 x1 x2 x3 x4 x5 = some res) : W p l e R s m args below meth c H locs 0 0 (MQ below (QiR D (shM dA) exM A ad S res) args s 0 0 A) (F0 m 9 ls []) := by
  have hx := X.hx
  have hb := X.hb
  unfold f_X8_firstIn_9_b at hf
  refine lv_iload hx hb dX8_firstIn_9 (lv_at hl 5 rfl) ?_
  refine lv_ldc hx hb X.hown (X.hts _ q1261) dX8_firstIn_11 ?_
  refine lv_iload_n hx hb dX8_firstIn_13 rfl (lv_at hl 1 rfl) ?_
  refine lv_imul hx hb dX8_firstIn_14 ?_
  refine lv_aload_n hx hb dX8_firstIn_15 rfl (lv_at hl 0 rfl) ?_
  refine rg_X8_108 X hP dX8_firstIn_16 ?_
  refine lv_iload_n hx hb dX8_firstIn_19 rfl (lv_at hl 1 rfl) ?_
  refine ra_total_ld X hP dX8_firstIn_20 hf (fun hf => ?_)
  refine lv_iadd hx hb dX8_firstIn_21 ?_
  refine gb_icmp_ge (tgt := 62) hx hb dX8_firstIn_22 (by decide) hf (fun hf => ?_) (fun hf => ?_)
  · refine lv_iconst (v := (-1)) hx hb dX8_firstIn_62 (by decide) ?_
    exact gr_iR X hP hS (Option.some.inj hf) dX8_firstIn_63
  · refine lv_aload_n hx hb dX8_firstIn_25 rfl (lv_at hl 0 rfl) ?_
    refine rg_X8_112 X hP dX8_firstIn_26 ?_
    refine lv_iload hx hb dX8_firstIn_29 (lv_at hl 5 rfl) ?_
    refine ra_of_ld X hP dX8_firstIn_31 hf (fun hf => ?_)
    refine lv_iload_n hx hb dX8_firstIn_32 rfl (lv_at hl 2 rfl) ?_
    refine gb_icmp_eq (tgt := 39) hx hb dX8_firstIn_33 (by decide) hf (fun hf => ?_) (fun hf => ?_)
    · refine lv_aload_n hx hb dX8_firstIn_39 rfl (lv_at hl 0 rfl) ?_
      refine rg_X8_120 X hP dX8_firstIn_40 ?_
      refine lv_iload hx hb dX8_firstIn_43 (lv_at hl 5 rfl) ?_
      refine ra_mark_ld X hP dX8_firstIn_45 hf (fun hf => ?_)
      refine lv_iload_n hx hb dX8_firstIn_46 rfl (lv_at hl 3 rfl) ?_
      refine gb_icmp_ne (tgt := 53) hx hb dX8_firstIn_47 (by decide) hf (fun hf => ?_) (fun hf => ?_)
      · refine lv_iinc (v := (x4 + 1)) (lv' := [(4, .int (x4 + 1)), (0, .ref (ad M_o)), (1, .int x1), (2, .int x2), (3, .int x3), (5, .int x5)]) hx hb dX8_firstIn_53 hl (k := 4) rfl rfl (by decide) rfl (fun ls hl => ?_)
        exact w_X8_firstIn_56 X hR S k9 hk9 x1 x2 x3 (x4 + 1) x5 hP hS (lv_sub hl [1, 2, 3, 4, 0, 5] rfl) hf
      · refine lv_iload hx hb dX8_firstIn_50 (lv_at hl 4 rfl) ?_
        exact gr_iR X hP hS (Option.some.inj hf) dX8_firstIn_52
    · refine lv_goto (tgt := 56) hx hb dX8_firstIn_36 (by decide) ?_
      exact w_X8_firstIn_56 X hR S k9 hk9 x1 x2 x3 x4 x5 hP hS (lv_sub hl [0, 1, 2, 3, 4, 5] rfl) hf
set_option maxHeartbeats 4000000 in
theorem w_X8_firstIn_9 {p : Program} {l : Launch} {e : Env} {R : Room} {s : State} {m : MethodId} {args : Array Value} {below : List Frame} {meth : Method} {c : Code} {D : va_G} {dA : Nat → ClassId} {A : Nat → Prop} {ad : L3 → Nat} (X : CX RX8 cX8_firstIn 6 (some .int) (KA D dA) p s m args meth c A) (hR : 1 ≤ R.frames ∧ 20 ≤ R.locals) {res : Int32} (S : Mem) (n : Nat) : ∀ (x1 : Int32) (x2 : Int32) (x3 : Int32) (x4 : Int32) (x5 : Int32) (H : Heap) (locs : List Loc) (ls : Array Slot), Wd D clA (shM dA) exM A ad S H → va_S A s.heap H locs → lv_has ls 6 [(0, .ref (ad M_o)), (1, .int x1), (2, .int x2), (3, .int x3), (4, .int x4), (5, .int x5)] → f_X8_firstIn_9 S n x1 x2 x3 x4 x5 = some res → W p l e R s m args below meth c H locs 0 0 (MQ below (QiR D (shM dA) exM A ad S res) args s 0 0 A) (F0 m 9 ls []) := by
  induction n with
  | zero =>
    intro x1 x2 x3 x4 x5 H locs ls hP hS hl hf
    exact absurd (show none = some res from hf) (fun h => by cases h)
  | succ n ih =>
    intro x1 x2 x3 x4 x5 H locs ls hP hS hl hf
    exact w_X8_firstIn_9_b X hR S (f_X8_firstIn_9 S n) ih x1 x2 x3 x4 x5 hP hS hl hf
set_option maxHeartbeats 4000000 in
theorem w_X8_firstIn {p : Program} {l : Launch} {e : Env} {R : Room} {s : State} {m : MethodId} {args : Array Value} {below : List Frame} {meth : Method} {c : Code} {D : va_G} {dA : Nat → ClassId} {A : Nat → Prop} {ad : L3 → Nat} (X : CX RX8 cX8_firstIn 6 (some .int) (KA D dA) p s m args meth c A) (hR : 1 ≤ R.frames ∧ 20 ≤ R.locals) {res : Int32} (S : Mem) (x1 : Int32) (x2 : Int32) (x3 : Int32) {H : Heap} {locs : List Loc} {ls : Array Slot} (hP : Wd D clA (shM dA) exM A ad S H) (hS : va_S A s.heap H locs) (hl : lv_has ls 6 [(0, .ref (ad M_o)), (1, .int x1), (2, .int x2), (3, .int x3)]) (hf : f_X8_firstIn S x1 x2 x3 = some res) : W p l e R s m args below meth c H locs 0 0 (MQ below (QiR D (shM dA) exM A ad S res) args s 0 0 A) (F0 m 0 ls []) := by
  have hx := X.hx
  have hb := X.hb
  unfold f_X8_firstIn at hf
  refine lv_iconst (v := 0) hx hb dX8_firstIn_0 (by decide) ?_
  refine lv_istore (lv' := [(4, .int 0), (0, .ref (ad M_o)), (1, .int x1), (2, .int x2), (3, .int x3)]) hx hb dX8_firstIn_1 hl (by decide) rfl (fun ls hl => ?_)
  refine lv_ldc hx hb X.hown (X.hts _ q1261) dX8_firstIn_3 ?_
  refine lv_iload_n hx hb dX8_firstIn_5 rfl (lv_at hl 2 rfl) ?_
  refine lv_imul hx hb dX8_firstIn_6 ?_
  refine lv_istore (lv' := [(5, .int (65536 * x1)), (4, .int 0), (0, .ref (ad M_o)), (1, .int x1), (2, .int x2), (3, .int x3)]) hx hb dX8_firstIn_7 hl (by decide) rfl (fun ls hl => ?_)
  exact w_X8_firstIn_9 X hR S FU x1 x2 x3 0 (65536 * x1) _ _ _ hP hS (lv_sub hl [2, 3, 4, 5, 1, 0] rfl) hf
theorem hd_X8_firstIn : yX8_firstIn.cls = RX8 ∧ yX8_firstIn.cls ≠ "java/lang/invoke/MethodHandle" ∧ yX8_firstIn.cls ≠ "java/lang/invoke/VarHandle" ∧ (parseMethodDescriptor yX8_firstIn.desc).map (fun d => d.parameters.length) = some 3 := by decide +kernel
set_option maxHeartbeats 4000000 in
theorem mt_X8_firstIn (l : Launch) (D : va_G) (dA : Nat → ClassId) (A : Nat → Prop) (ad : L3 → Nat) (S : Mem) (x1 : Int32) (x2 : Int32) (x3 : Int32) {res : Int32} (hq : f_X8_firstIn S x1 x2 x3 = some res) : Met l yX8_firstIn (ws_ yX8_firstIn cX8_firstIn 6 (some .int)) ({ frames := 1, cells := 0, slots := 0, locals := 20 } : Room) (va_Pc [.ref (ad M_o), .int x1, .int x2, .int x3] (PreW D dA (shM dA) exM A ad S)) (QiR D (shM dA) exM A ad S res) 0 0 A :=
  gx_head (by decide) (Nat.le_of_ble_eq_true rfl) (fun p e s m below meth c ls X hP hl => w_X8_firstIn (l := l) X ⟨Nat.le_of_ble_eq_true rfl, Nat.le_of_ble_eq_true rfl⟩ S x1 x2 x3 hP va_S.rf (lv_sub (l := [(0, .ref (ad M_o)), (1, .int x1), (2, .int x2), (3, .int x3)]) hl [0, 1, 2, 3] rfl) hq)
set_option maxHeartbeats 4000000 in
theorem w_X8_allowed_49 {p : Program} {l : Launch} {e : Env} {R : Room} {s : State} {m : MethodId} {args : Array Value} {below : List Frame} {meth : Method} {c : Code} {D : va_G} {dA : Nat → ClassId} {A : Nat → Prop} {ad : L3 → Nat} (X : CX RX8 cX8_allowed 9 (some .long) (KA D dA) p s m args meth c A) (hR : 3 ≤ R.frames ∧ 67 ≤ R.locals) {res : Int64} (S : Mem) (y0 : Int64) {H : Heap} {locs : List Loc} {ls : Array Slot} (hP : Wd D clA (shM dA) exM A ad S H) (hS : va_S A s.heap H locs) (hl : lv_has ls 9 []) (hf : f_X8_allowed_49 S y0 = some res) : W p l e R s m args below meth c H locs 0 0 (MQ below (QjR D (shM dA) exM A ad S res) args s 0 0 A) (F0 m 49 ls [.long y0]) := by
  have hx := X.hx
  have hb := X.hb
  unfold f_X8_allowed_49 at hf
  refine lv_lstore (lv' := [(7, .long y0)]) hx hb dX8_allowed_49 hl (by decide) rfl (fun ls hl => ?_)
  refine lv_lload hx hb dX8_allowed_51 (lv_at hl 0 rfl) ?_
  refine lv_lconst (v := 0) hx hb dX8_allowed_53 (by decide) ?_
  refine gb_lcmp_ge (tgt := 62) hx hb dX8_allowed_54 dX8_allowed_55 (by decide) hf (fun hf => ?_) (fun hf => ?_)
  · refine lv_lload hx hb dX8_allowed_62 (lv_at hl 0 rfl) ?_
    exact gr_lR X hP hS (Option.some.inj hf) dX8_allowed_64
  · refine lv_lconst (v := 0) hx hb dX8_allowed_58 (by decide) ?_
    refine lv_goto (tgt := 64) hx hb dX8_allowed_59 (by decide) ?_
    exact gr_lR X hP hS (Option.some.inj hf) dX8_allowed_64
set_option maxHeartbeats 4000000 in
theorem w_X8_allowed {p : Program} {l : Launch} {e : Env} {R : Room} {s : State} {m : MethodId} {args : Array Value} {below : List Frame} {meth : Method} {c : Code} {D : va_G} {dA : Nat → ClassId} {A : Nat → Prop} {ad : L3 → Nat} (X : CX RX8 cX8_allowed 9 (some .long) (KA D dA) p s m args meth c A) (hR : 3 ≤ R.frames ∧ 67 ≤ R.locals) {res : Int64} (S : Mem) (x1 : Int32) (x2 : Int32) {H : Heap} {locs : List Loc} {ls : Array Slot} (hP : Wd D clA (shM dA) exM A ad S H) (hS : va_S A s.heap H locs) (hl : lv_has ls 9 [(0, .ref (ad M_o)), (1, .int x1), (2, .int x2)]) (hf : f_X8_allowed S x1 x2 = some res) : W p l e R s m args below meth c H locs 0 0 (MQ below (QjR D (shM dA) exM A ad S res) args s 0 0 A) (F0 m 0 ls []) := by
  have hx := X.hx
  have hb := X.hb
  unfold f_X8_allowed at hf
  refine lv_aload_n hx hb dX8_allowed_0 rfl (lv_at hl 0 rfl) ?_
  refine rg_X8_54 X hP dX8_allowed_1 ?_
  refine lv_iload_n hx hb dX8_allowed_4 rfl (lv_at hl 1 rfl) ?_
  refine lv_iload_n hx hb dX8_allowed_5 rfl (lv_at hl 2 rfl) ?_
  obtain ⟨v1, hq, hf⟩ := gS_eq hf
  refine gc_i (gc_fixS (S := S) X (mt_X8_at l D dA A ad S x1 x2 hq) (lw_S q1283 q1284 q93 q1285) ⟨rfl, rfl⟩ hd_X8_at.2 ⟨Nat.le_trans (Nat.le_of_ble_eq_true rfl) hR.1, Nat.le_trans (Nat.le_of_ble_eq_true rfl) hR.2⟩ hP hS ⟨Nat.zero_le _, Nat.zero_le _⟩ rfl hl.1 rfl (Nat.le_of_ble_eq_true rfl) dX8_allowed_6) hS ?_
  rintro _ _ H locs ⟨rfl, rfl⟩ hP hS
  refine ra_limit_ld X hP dX8_allowed_9 hf (fun hf => ?_)
  refine lv_aload_n hx hb dX8_allowed_10 rfl (lv_at hl 0 rfl) ?_
  refine lv_iload_n hx hb dX8_allowed_11 rfl (lv_at hl 1 rfl) ?_
  refine lv_iload_n hx hb dX8_allowed_12 rfl (lv_at hl 2 rfl) ?_
  obtain ⟨v2, hq, hf⟩ := gB_some hf
  refine gc_i (gc_fixV (S := S) X (mt_X8_sent l D dA A ad S x1 x2 hq) (lw_V q1463 q1465 qs68 q93 q1466) ⟨rfl, rfl⟩ hd_X8_sent ⟨Nat.le_trans (Nat.le_of_ble_eq_true rfl) hR.1, Nat.le_trans (Nat.le_of_ble_eq_true rfl) hR.2⟩ (wd_recv (r := M_o) (ci := 0) (q := (RX8, TX8, 61)) X.hK.1 hP ⟨rfl, rfl⟩ rfl rfl) hP hS ⟨Nat.zero_le _, Nat.zero_le _⟩ rfl hl.1 rfl (Nat.le_of_ble_eq_true rfl) dX8_allowed_13) hS ?_
  rintro _ _ H locs ⟨rfl, rfl⟩ hP hS
  refine lv_i2l hx hb dX8_allowed_16 rfl ?_
  refine lv_lsub hx hb dX8_allowed_17 ?_
  refine lv_lstore_n (lv' := [(3, .long ((S.2 M_limit (Int32.toNatClampNeg v1)) - (Int32.toInt64 v2))), (0, .ref (ad M_o)), (1, .int x1), (2, .int x2)]) hx hb dX8_allowed_18 rfl hl (by decide) rfl (fun ls hl => ?_)
  refine lv_aload_n hx hb dX8_allowed_19 rfl (lv_at hl 1 rfl) ?_
  refine rg_X8_19 X hP dX8_allowed_20 ?_
  refine lv_iconst (v := 3) hx hb dX8_allowed_23 (by decide) ?_
  refine lv_iload_n hx hb dX8_allowed_24 rfl (lv_at hl 2 rfl) ?_
  refine lv_imul hx hb dX8_allowed_25 ?_
  refine ra_limits_ld X hP dX8_allowed_26 hf (fun hf => ?_)
  refine lv_aload_n hx hb dX8_allowed_27 rfl (lv_at hl 1 rfl) ?_
  refine lv_iload_n hx hb dX8_allowed_28 rfl (lv_at hl 2 rfl) ?_
  obtain ⟨v3, hq, hf⟩ := gB_some hf
  refine gc_i (gc_fixV (S := S) X (mt_X8_allSent l D dA A ad S x1 hq) (lw_V q1492 q1494 qs74 q93 q1495) ⟨rfl, rfl⟩ hd_X8_allSent ⟨Nat.le_trans (Nat.le_of_ble_eq_true rfl) hR.1, Nat.le_trans (Nat.le_of_ble_eq_true rfl) hR.2⟩ (wd_recv (r := M_o) (ci := 0) (q := (RX8, TX8, 61)) X.hK.1 hP ⟨rfl, rfl⟩ rfl rfl) hP hS ⟨Nat.zero_le _, Nat.zero_le _⟩ rfl hl.1 rfl (Nat.le_of_ble_eq_true rfl) dX8_allowed_29) hS ?_
  rintro _ _ H locs ⟨rfl, rfl⟩ hP hS
  refine lv_i2l hx hb dX8_allowed_32 rfl ?_
  refine lv_lsub hx hb dX8_allowed_33 ?_
  refine lv_lstore (lv' := [(5, .long ((S.2 M_limits (Int32.toNatClampNeg (3 * x1))) - (Int32.toInt64 v3))), (3, .long ((S.2 M_limit (Int32.toNatClampNeg v1)) - (Int32.toInt64 v2))), (0, .ref (ad M_o)), (1, .int x1), (2, .int x2)]) hx hb dX8_allowed_34 hl (by decide) rfl (fun ls hl => ?_)
  refine lv_lload_n hx hb dX8_allowed_36 rfl (lv_at hl 1 rfl) ?_
  refine lv_lload hx hb dX8_allowed_37 (lv_at hl 0 rfl) ?_
  refine gb_lcmp_ge (tgt := 47) hx hb dX8_allowed_39 dX8_allowed_40 (by decide) hf (fun hf => ?_) (fun hf => ?_)
  · refine lv_lload hx hb dX8_allowed_47 (lv_at hl 0 rfl) ?_
    exact w_X8_allowed_49 X hR S ((S.2 M_limits (Int32.toNatClampNeg (3 * x1))) - (Int32.toInt64 v3)) hP hS (lv_sub hl [] rfl) hf
  · refine lv_lload_n hx hb dX8_allowed_43 rfl (lv_at hl 1 rfl) ?_
    refine lv_goto (tgt := 49) hx hb dX8_allowed_44 (by decide) ?_
    exact w_X8_allowed_49 X hR S ((S.2 M_limit (Int32.toNatClampNeg v1)) - (Int32.toInt64 v2)) hP hS (lv_sub hl [] rfl) hf
theorem hd_X8_allowed : yX8_allowed.cls = RX8 ∧ yX8_allowed.cls ≠ "java/lang/invoke/MethodHandle" ∧ yX8_allowed.cls ≠ "java/lang/invoke/VarHandle" ∧ (parseMethodDescriptor yX8_allowed.desc).map (fun d => d.parameters.length) = some 2 := by decide +kernel
set_option maxHeartbeats 4000000 in
theorem mt_X8_allowed (l : Launch) (D : va_G) (dA : Nat → ClassId) (A : Nat → Prop) (ad : L3 → Nat) (S : Mem) (x1 : Int32) (x2 : Int32) {res : Int64} (hq : f_X8_allowed S x1 x2 = some res) : Met l yX8_allowed (ws_ yX8_allowed cX8_allowed 9 (some .long)) ({ frames := 3, cells := 0, slots := 0, locals := 67 } : Room) (va_Pc [.ref (ad M_o), .int x1, .int x2] (PreW D dA (shM dA) exM A ad S)) (QjR D (shM dA) exM A ad S res) 0 0 A :=
  gx_head (by decide) (Nat.le_of_ble_eq_true rfl) (fun p e s m below meth c ls X hP hl => w_X8_allowed (l := l) X ⟨Nat.le_of_ble_eq_true rfl, Nat.le_of_ble_eq_true rfl⟩ S x1 x2 hP va_S.rf (lv_sub (l := [(0, .ref (ad M_o)), (1, .int x1), (2, .int x2)]) hl [0, 1, 2] rfl) hq)
set_option maxHeartbeats 4000000 in
theorem w_X8_endAlone {p : Program} {l : Launch} {e : Env} {R : Room} {s : State} {m : MethodId} {args : Array Value} {below : List Frame} {meth : Method} {c : Code} {D : va_G} {dA : Nat → ClassId} {A : Nat → Prop} {ad : L3 → Nat} (X : CX RX8 cX8_endAlone 4 (some .boolean) (KA D dA) p s m args meth c A) (hR : 3 ≤ R.frames ∧ 62 ≤ R.locals) {res : Mem × Int32} (S : Mem) (x1 : Int32) (x2 : Int32) (x3 : Int32) {H : Heap} {locs : List Loc} {ls : Array Slot} (hP : Wd D clA (shM dA) exM A ad S H) (hS : va_S A s.heap H locs) (hl : lv_has ls 4 [(0, .ref (ad M_o)), (1, .int x1), (2, .int x2), (3, .int x3)]) (hf : f_X8_endAlone S x1 x2 x3 = some res) : W p l e R s m args below meth c H locs 0 0 (MQ below (QiW D (shM dA) exM A ad res) args s 0 0 A) (F0 m 0 ls []) := by
  have hx := X.hx
  have hb := X.hb
  unfold f_X8_endAlone at hf
  refine lv_aload_n hx hb dX8_endAlone_0 rfl (lv_at hl 0 rfl) ?_
  refine lv_lconst (v := 1) hx hb dX8_endAlone_1 (by decide) ?_
  refine rp_X8_322 X hP hS dX8_endAlone_2 hf (fun S1 H locs hP hS hf => ?_)
  refine lv_aload_n hx hb dX8_endAlone_5 rfl (lv_at hl 0 rfl) ?_
  obtain ⟨v2, hq, hf⟩ := gS_eq hf
  refine gc_i (gc_fixV (S := S1) X (mt_X8_bytes l D dA A ad S1 hq) (lw_V q1471 q1473 qs70 q93 q1474) ⟨rfl, rfl⟩ hd_X8_bytes ⟨Nat.le_trans (Nat.le_of_ble_eq_true rfl) hR.1, Nat.le_trans (Nat.le_of_ble_eq_true rfl) hR.2⟩ (wd_recv (r := M_o) (ci := 0) (q := (RX8, TX8, 61)) X.hK.1 hP ⟨rfl, rfl⟩ rfl rfl) hP hS ⟨Nat.zero_le _, Nat.zero_le _⟩ rfl hl.1 rfl (Nat.le_of_ble_eq_true rfl) dX8_endAlone_6) hS ?_
  rintro _ _ H locs ⟨rfl, rfl⟩ hP hS
  refine lv_iload_n hx hb dX8_endAlone_9 rfl (lv_at hl 3 rfl) ?_
  refine gb_icmp_le (tgt := 15) hx hb dX8_endAlone_10 (by decide) hf (fun hf => ?_) (fun hf => ?_)
  · refine lv_aload_n hx hb dX8_endAlone_15 rfl (lv_at hl 0 rfl) ?_
    refine rg_X8_60 X hP dX8_endAlone_16 ?_
    refine lv_iload_n hx hb dX8_endAlone_19 rfl (lv_at hl 1 rfl) ?_
    refine lv_iload_n hx hb dX8_endAlone_20 rfl (lv_at hl 2 rfl) ?_
    obtain ⟨v3, hq, hf⟩ := gS_eq hf
    refine gc_i (gc_fixS (S := S1) X (mt_X8_at l D dA A ad S1 x1 x2 hq) (lw_S q1283 q1284 q93 q1285) ⟨rfl, rfl⟩ hd_X8_at.2 ⟨Nat.le_trans (Nat.le_of_ble_eq_true rfl) hR.1, Nat.le_trans (Nat.le_of_ble_eq_true rfl) hR.2⟩ hP hS ⟨Nat.zero_le _, Nat.zero_le _⟩ rfl hl.1 rfl (Nat.le_of_ble_eq_true rfl) dX8_endAlone_21) hS ?_
    rintro _ _ H locs ⟨rfl, rfl⟩ hP hS
    refine lv_iconst (v := 1) hx hb dX8_endAlone_24 (by decide) ?_
    refine ra_end_st X hP hS dX8_endAlone_25 hf (fun S4 H locs hP hS hf => ?_)
    refine lv_iconst (v := 1) hx hb dX8_endAlone_26 (by decide) ?_
    exact gr_zW X hP hS (Option.some.inj hf) (by decide) dX8_endAlone_27
  · refine lv_iconst (v := 0) hx hb dX8_endAlone_13 (by decide) ?_
    exact gr_zW X hP hS (Option.some.inj hf) (by decide) dX8_endAlone_14
theorem hd_X8_endAlone : yX8_endAlone.cls = RX8 ∧ yX8_endAlone.cls ≠ "java/lang/invoke/MethodHandle" ∧ yX8_endAlone.cls ≠ "java/lang/invoke/VarHandle" ∧ (parseMethodDescriptor yX8_endAlone.desc).map (fun d => d.parameters.length) = some 3 := by decide +kernel
set_option maxHeartbeats 4000000 in
theorem mt_X8_endAlone (l : Launch) (D : va_G) (dA : Nat → ClassId) (A : Nat → Prop) (ad : L3 → Nat) (S : Mem) (x1 : Int32) (x2 : Int32) (x3 : Int32) {res : Mem × Int32} (hq : f_X8_endAlone S x1 x2 x3 = some res) : Met l yX8_endAlone (ws_ yX8_endAlone cX8_endAlone 4 (some .boolean)) ({ frames := 3, cells := 0, slots := 0, locals := 62 } : Room) (va_Pc [.ref (ad M_o), .int x1, .int x2, .int x3] (PreW D dA (shM dA) exM A ad S)) (QiW D (shM dA) exM A ad res) 0 0 A :=
  gx_head (by decide) (Nat.le_of_ble_eq_true rfl) (fun p e s m below meth c ls X hP hl => w_X8_endAlone (l := l) X ⟨Nat.le_of_ble_eq_true rfl, Nat.le_of_ble_eq_true rfl⟩ S x1 x2 x3 hP va_S.rf (lv_sub (l := [(0, .ref (ad M_o)), (1, .int x1), (2, .int x2), (3, .int x3)]) hl [0, 1, 2, 3] rfl) hq)
set_option maxHeartbeats 4000000 in
theorem w_X8_placeOf_43 {p : Program} {l : Launch} {e : Env} {R : Room} {s : State} {m : MethodId} {args : Array Value} {below : List Frame} {meth : Method} {c : Code} {D : va_G} {dA : Nat → ClassId} {A : Nat → Prop} {ad : L3 → Nat} (X : CX RX8 cX8_placeOf 6 (some .int) (KA D dA) p s m args meth c A) (hR : 1 ≤ R.frames ∧ 20 ≤ R.locals) {res : Int32} (S : Mem) (k9 : Int32 → Int32 → Int32 → Option (Int32)) (hk9 : ∀ (x2 : Int32) (x4 : Int32) (x5 : Int32) (H : Heap) (locs : List Loc) (ls : Array Slot), Wd D clA (shM dA) exM A ad S H → va_S A s.heap H locs → lv_has ls 6 [(0, .ref (ad M_o)), (2, .int x2), (4, .int x4), (5, .int x5)] → k9 x2 x4 x5 = some res → W p l e R s m args below meth c H locs 0 0 (MQ below (QiR D (shM dA) exM A ad S res) args s 0 0 A) (F0 m 9 ls [])) (x2 : Int32) (x5 : Int32) (y0 : Int32) (y1 : Int32) {H : Heap} {locs : List Loc} {ls : Array Slot} (hP : Wd D clA (shM dA) exM A ad S H) (hS : va_S A s.heap H locs) (hl : lv_has ls 6 [(0, .ref (ad M_o)), (2, .int x2), (5, .int x5)]) (hf : f_X8_placeOf_43 S k9 x2 x5 y0 y1 = some res) : W p l e R s m args below meth c H locs 0 0 (MQ below (QiR D (shM dA) exM A ad S res) args s 0 0 A) (F0 m 43 ls [.int y0, .int y1]) := by
  have hx := X.hx
  have hb := X.hb
  unfold f_X8_placeOf_43 at hf
  refine lv_isub hx hb dX8_placeOf_43 ?_
  refine lv_istore (lv' := [(4, .int (y1 - y0)), (0, .ref (ad M_o)), (2, .int x2), (5, .int x5)]) hx hb dX8_placeOf_44 hl (by decide) rfl (fun ls hl => ?_)
  refine lv_iinc (v := (x5 + 1)) (lv' := [(5, .int (x5 + 1)), (4, .int (y1 - y0)), (0, .ref (ad M_o)), (2, .int x2)]) hx hb dX8_placeOf_46 hl (k := 3) rfl rfl (by decide) rfl (fun ls hl => ?_)
  refine lv_goto (tgt := 9) hx hb dX8_placeOf_49 (by decide) ?_
  exact hk9 x2 (y1 - y0) (x5 + 1) _ _ _ hP hS (lv_sub hl [2, 3, 1, 0] rfl) hf
set_option maxHeartbeats 4000000 in
theorem w_X8_placeOf_25 {p : Program} {l : Launch} {e : Env} {R : Room} {s : State} {m : MethodId} {args : Array Value} {below : List Frame} {meth : Method} {c : Code} {D : va_G} {dA : Nat → ClassId} {A : Nat → Prop} {ad : L3 → Nat} (X : CX RX8 cX8_placeOf 6 (some .int) (KA D dA) p s m args meth c A) (hR : 1 ≤ R.frames ∧ 20 ≤ R.locals) {res : Int32} (S : Mem) (k9 : Int32 → Int32 → Int32 → Option (Int32)) (hk9 : ∀ (x2 : Int32) (x4 : Int32) (x5 : Int32) (H : Heap) (locs : List Loc) (ls : Array Slot), Wd D clA (shM dA) exM A ad S H → va_S A s.heap H locs → lv_has ls 6 [(0, .ref (ad M_o)), (2, .int x2), (4, .int x4), (5, .int x5)] → k9 x2 x4 x5 = some res → W p l e R s m args below meth c H locs 0 0 (MQ below (QiR D (shM dA) exM A ad S res) args s 0 0 A) (F0 m 9 ls [])) (x2 : Int32) (x4 : Int32) (x5 : Int32) {H : Heap} {locs : List Loc} {ls : Array Slot} (hP : Wd D clA (shM dA) exM A ad S H) (hS : va_S A s.heap H locs) (hl : lv_has ls 6 [(0, .ref (ad M_o)), (2, .int x2), (4, .int x4), (5, .int x5)]) (hf : f_X8_placeOf_25 S k9 x2 x4 x5 = some res) : W p l e R s m args below meth c H locs 0 0 (MQ below (QiR D (shM dA) exM A ad S res) args s 0 0 A) (F0 m 25 ls []) := by
  have hx := X.hx
  have hb := X.hb
  unfold f_X8_placeOf_25 at hf
  refine lv_iload hx hb dX8_placeOf_25 (lv_at hl 2 rfl) ?_
  refine lv_aload_n hx hb dX8_placeOf_27 rfl (lv_at hl 0 rfl) ?_
  refine rg_X8_112 X hP dX8_placeOf_28 ?_
  refine lv_iload hx hb dX8_placeOf_31 (lv_at hl 3 rfl) ?_
  refine ra_of_ld X hP dX8_placeOf_33 hf (fun hf => ?_)
  refine lv_iload_n hx hb dX8_placeOf_34 rfl (lv_at hl 1 rfl) ?_
  refine gb_icmp_ne (tgt := 42) hx hb dX8_placeOf_35 (by decide) hf (fun hf => ?_) (fun hf => ?_)
  · refine lv_iconst (v := 0) hx hb dX8_placeOf_42 (by decide) ?_
    exact w_X8_placeOf_43 X hR S k9 hk9 x2 x5 0 x4 hP hS (lv_sub hl [0, 1, 3] rfl) hf
  · refine lv_iconst (v := 1) hx hb dX8_placeOf_38 (by decide) ?_
    refine lv_goto (tgt := 43) hx hb dX8_placeOf_39 (by decide) ?_
    exact w_X8_placeOf_43 X hR S k9 hk9 x2 x5 1 x4 hP hS (lv_sub hl [0, 1, 3] rfl) hf
set_option maxHeartbeats 4000000 in
theorem w_X8_placeOf_9_b {p : Program} {l : Launch} {e : Env} {R : Room} {s : State} {m : MethodId} {args : Array Value} {below : List Frame} {meth : Method} {c : Code} {D : va_G} {dA : Nat → ClassId} {A : Nat → Prop} {ad : L3 → Nat} (X : CX RX8 cX8_placeOf 6 (some .int) (KA D dA) p s m args meth c A) (hR : 1 ≤ R.frames ∧ 20 ≤ R.locals) {res : Int32} (S : Mem) (k9 : Int32 → Int32 → Int32 → Option (Int32)) (hk9 : ∀ (x2 : Int32) (x4 : Int32) (x5 : Int32) (H : Heap) (locs : List Loc) (ls : Array Slot), Wd D clA (shM dA) exM A ad S H → va_S A s.heap H locs → lv_has ls 6 [(0, .ref (ad M_o)), (2, .int x2), (4, .int x4), (5, .int x5)] → k9 x2 x4 x5 = some res → W p l e R s m args below meth c H locs 0 0 (MQ below (QiR D (shM dA) exM A ad S res) args s 0 0 A) (F0 m 9 ls [])) (x2 : Int32) (x4 : Int32) (x5 : Int32) {H : Heap} {locs : List Loc} {ls : Array Slot} (hP : Wd D clA (shM dA) exM A ad S H) (hS : va_S A s.heap H locs) (hl : lv_has ls 6 [(0, .ref (ad M_o)), (2, .int x2), (4, .int x4), (5, .int x5)]) (hf : f_X8_placeOf_9_b S k9 x2 x4 x5 = some res) : W p l e R s m args below meth c H locs 0 0 (MQ below (QiR D (shM dA) exM A ad S res) args s 0 0 A) (F0 m 9 ls []) := by
  have hx := X.hx
  have hb := X.hb
  unfold f_X8_placeOf_9_b at hf
  refine lv_aload_n hx hb dX8_placeOf_9 rfl (lv_at hl 0 rfl) ?_
  refine rg_X8_112 X hP dX8_placeOf_10 ?_
  refine lv_iload hx hb dX8_placeOf_13 (lv_at hl 3 rfl) ?_
  refine ra_of_ld X hP dX8_placeOf_15 hf (fun hf => ?_)
  refine lv_iload_n hx hb dX8_placeOf_16 rfl (lv_at hl 1 rfl) ?_
  refine gb_icmp_ne (tgt := 25) hx hb dX8_placeOf_17 (by decide) hf (fun hf => ?_) (fun hf => ?_)
  · exact w_X8_placeOf_25 X hR S k9 hk9 x2 x4 x5 hP hS (lv_sub hl [0, 1, 2, 3] rfl) hf
  · refine lv_iload hx hb dX8_placeOf_20 (lv_at hl 2 rfl) ?_
    refine gb_if_le (tgt := 52) hx hb dX8_placeOf_22 (by decide) hf (fun hf => ?_) (fun hf => ?_)
    · refine lv_iload hx hb dX8_placeOf_52 (lv_at hl 3 rfl) ?_
      exact gr_iR X hP hS (Option.some.inj hf) dX8_placeOf_54
    · exact w_X8_placeOf_25 X hR S k9 hk9 x2 x4 x5 hP hS (lv_sub hl [0, 1, 2, 3] rfl) hf
set_option maxHeartbeats 4000000 in
theorem w_X8_placeOf_9 {p : Program} {l : Launch} {e : Env} {R : Room} {s : State} {m : MethodId} {args : Array Value} {below : List Frame} {meth : Method} {c : Code} {D : va_G} {dA : Nat → ClassId} {A : Nat → Prop} {ad : L3 → Nat} (X : CX RX8 cX8_placeOf 6 (some .int) (KA D dA) p s m args meth c A) (hR : 1 ≤ R.frames ∧ 20 ≤ R.locals) {res : Int32} (S : Mem) (n : Nat) : ∀ (x2 : Int32) (x4 : Int32) (x5 : Int32) (H : Heap) (locs : List Loc) (ls : Array Slot), Wd D clA (shM dA) exM A ad S H → va_S A s.heap H locs → lv_has ls 6 [(0, .ref (ad M_o)), (2, .int x2), (4, .int x4), (5, .int x5)] → f_X8_placeOf_9 S n x2 x4 x5 = some res → W p l e R s m args below meth c H locs 0 0 (MQ below (QiR D (shM dA) exM A ad S res) args s 0 0 A) (F0 m 9 ls []) := by
  induction n with
  | zero =>
    intro x2 x4 x5 H locs ls hP hS hl hf
    exact absurd (show none = some res from hf) (fun h => by cases h)
  | succ n ih =>
    intro x2 x4 x5 H locs ls hP hS hl hf
    exact w_X8_placeOf_9_b X hR S (f_X8_placeOf_9 S n) ih x2 x4 x5 hP hS hl hf
set_option maxHeartbeats 4000000 in
theorem w_X8_placeOf {p : Program} {l : Launch} {e : Env} {R : Room} {s : State} {m : MethodId} {args : Array Value} {below : List Frame} {meth : Method} {c : Code} {D : va_G} {dA : Nat → ClassId} {A : Nat → Prop} {ad : L3 → Nat} (X : CX RX8 cX8_placeOf 6 (some .int) (KA D dA) p s m args meth c A) (hR : 1 ≤ R.frames ∧ 20 ≤ R.locals) {res : Int32} (S : Mem) (x1 : Int32) (x2 : Int32) (x3 : Int32) {H : Heap} {locs : List Loc} {ls : Array Slot} (hP : Wd D clA (shM dA) exM A ad S H) (hS : va_S A s.heap H locs) (hl : lv_has ls 6 [(0, .ref (ad M_o)), (1, .int x1), (2, .int x2), (3, .int x3)]) (hf : f_X8_placeOf S x1 x2 x3 = some res) : W p l e R s m args below meth c H locs 0 0 (MQ below (QiR D (shM dA) exM A ad S res) args s 0 0 A) (F0 m 0 ls []) := by
  have hx := X.hx
  have hb := X.hb
  unfold f_X8_placeOf at hf
  refine lv_iload_n hx hb dX8_placeOf_0 rfl (lv_at hl 3 rfl) ?_
  refine lv_istore (lv' := [(4, .int x3), (0, .ref (ad M_o)), (1, .int x1), (2, .int x2), (3, .int x3)]) hx hb dX8_placeOf_1 hl (by decide) rfl (fun ls hl => ?_)
  refine lv_ldc hx hb X.hown (X.hts _ q1261) dX8_placeOf_3 ?_
  refine lv_iload_n hx hb dX8_placeOf_5 rfl (lv_at hl 2 rfl) ?_
  refine lv_imul hx hb dX8_placeOf_6 ?_
  refine lv_istore (lv' := [(5, .int (65536 * x1)), (4, .int x3), (0, .ref (ad M_o)), (1, .int x1), (2, .int x2), (3, .int x3)]) hx hb dX8_placeOf_7 hl (by decide) rfl (fun ls hl => ?_)
  exact w_X8_placeOf_9 X hR S FU x2 x3 (65536 * x1) _ _ _ hP hS (lv_sub hl [2, 4, 1, 0] rfl) hf
theorem hd_X8_placeOf : yX8_placeOf.cls = RX8 ∧ yX8_placeOf.cls ≠ "java/lang/invoke/MethodHandle" ∧ yX8_placeOf.cls ≠ "java/lang/invoke/VarHandle" ∧ (parseMethodDescriptor yX8_placeOf.desc).map (fun d => d.parameters.length) = some 3 := by decide +kernel
set_option maxHeartbeats 4000000 in
theorem mt_X8_placeOf (l : Launch) (D : va_G) (dA : Nat → ClassId) (A : Nat → Prop) (ad : L3 → Nat) (S : Mem) (x1 : Int32) (x2 : Int32) (x3 : Int32) {res : Int32} (hq : f_X8_placeOf S x1 x2 x3 = some res) : Met l yX8_placeOf (ws_ yX8_placeOf cX8_placeOf 6 (some .int)) ({ frames := 1, cells := 0, slots := 0, locals := 20 } : Room) (va_Pc [.ref (ad M_o), .int x1, .int x2, .int x3] (PreW D dA (shM dA) exM A ad S)) (QiR D (shM dA) exM A ad S res) 0 0 A :=
  gx_head (by decide) (Nat.le_of_ble_eq_true rfl) (fun p e s m below meth c ls X hP hl => w_X8_placeOf (l := l) X ⟨Nat.le_of_ble_eq_true rfl, Nat.le_of_ble_eq_true rfl⟩ S x1 x2 x3 hP va_S.rf (lv_sub (l := [(0, .ref (ad M_o)), (1, .int x1), (2, .int x2), (3, .int x3)]) hl [0, 1, 2, 3] rfl) hq)
set_option maxHeartbeats 4000000 in
theorem w_X8_fillsStream_288 {p : Program} {l : Launch} {e : Env} {R : Room} {s : State} {m : MethodId} {args : Array Value} {below : List Frame} {meth : Method} {c : Code} {D : va_G} {dA : Nat → ClassId} {A : Nat → Prop} {ad : L3 → Nat} (X : CX RX8 cX8_fillsStream 16 (some .boolean) (KA D dA) p s m args meth c A) (hR : 5 ≤ R.frames ∧ 112 ≤ R.locals) {res : Mem × Int32} (k207 : Mem → Int32 → Int32 → Int32 → Int32 → Int32 → Int32 → Int64 → Int32 → Int32 → Int32 → Option (Mem × Int32)) (hk207 : ∀ (S : Mem) (x1 : Int32) (x2 : Int32) (x3 : Int32) (x4 : Int32) (x5 : Int32) (x6 : Int32) (x7 : Int64) (x9 : Int32) (x12 : Int32) (x13 : Int32) (H : Heap) (locs : List Loc) (ls : Array Slot), Wd D clA (shM dA) exM A ad S H → va_S A s.heap H locs → lv_has ls 16 [(0, .ref (ad M_o)), (1, .int x1), (2, .int x2), (3, .int x3), (4, .int x4), (5, .int x5), (6, .int x6), (7, .long x7), (9, .int x9), (12, .int x12), (13, .int x13)] → k207 S x1 x2 x3 x4 x5 x6 x7 x9 x12 x13 = some res → W p l e R s m args below meth c H locs 0 0 (MQ below (QiW D (shM dA) exM A ad res) args s 0 0 A) (F0 m 207 ls [])) (S : Mem) (x1 : Int32) (x2 : Int32) (x3 : Int32) (x4 : Int32) (x5 : Int32) (x6 : Int32) (x7 : Int64) (x9 : Int32) (x12 : Int32) (y0 : Int32) {H : Heap} {locs : List Loc} {ls : Array Slot} (hP : Wd D clA (shM dA) exM A ad S H) (hS : va_S A s.heap H locs) (hl : lv_has ls 16 [(0, .ref (ad M_o)), (1, .int x1), (2, .int x2), (3, .int x3), (4, .int x4), (5, .int x5), (6, .int x6), (7, .long x7), (9, .int x9), (12, .int x12)]) (hf : f_X8_fillsStream_288 k207 S x1 x2 x3 x4 x5 x6 x7 x9 x12 y0 = some res) : W p l e R s m args below meth c H locs 0 0 (MQ below (QiW D (shM dA) exM A ad res) args s 0 0 A) (F0 m 288 ls [.int y0]) := by
  have hx := X.hx
  have hb := X.hb
  unfold f_X8_fillsStream_288 at hf
  refine lv_istore (lv' := [(13, .int y0), (0, .ref (ad M_o)), (1, .int x1), (2, .int x2), (3, .int x3), (4, .int x4), (5, .int x5), (6, .int x6), (7, .long x7), (9, .int x9), (12, .int x12)]) hx hb dX8_fillsStream_288 hl (by decide) rfl (fun ls hl => ?_)
  refine lv_iload hx hb dX8_fillsStream_290 (lv_at hl 0 rfl) ?_
  refine gb_if_eq (tgt := 207) hx hb dX8_fillsStream_292 (by decide) hf (fun hf => ?_) (fun hf => ?_)
  · exact hk207 S x1 x2 x3 x4 x5 x6 x7 x9 x12 y0 _ _ _ hP hS (lv_sub hl [1, 2, 3, 4, 5, 6, 7, 8, 9, 10, 0] rfl) hf
  · refine lv_iinc (v := (x12 + 1)) (lv' := [(12, .int (x12 + 1)), (13, .int y0), (0, .ref (ad M_o)), (1, .int x1), (2, .int x2), (3, .int x3), (4, .int x4), (5, .int x5), (6, .int x6), (7, .long x7), (9, .int x9)]) hx hb dX8_fillsStream_295 hl (k := 10) rfl rfl (by decide) rfl (fun ls hl => ?_)
    refine lv_goto (tgt := 207) hx hb dX8_fillsStream_298 (by decide) ?_
    exact hk207 S x1 x2 x3 x4 x5 x6 x7 x9 (x12 + 1) y0 _ _ _ hP hS (lv_sub hl [2, 3, 4, 5, 6, 7, 8, 9, 10, 0, 1] rfl) hf
set_option maxHeartbeats 4000000 in
theorem w_X8_fillsStream_257 {p : Program} {l : Launch} {e : Env} {R : Room} {s : State} {m : MethodId} {args : Array Value} {below : List Frame} {meth : Method} {c : Code} {D : va_G} {dA : Nat → ClassId} {A : Nat → Prop} {ad : L3 → Nat} (X : CX RX8 cX8_fillsStream 16 (some .boolean) (KA D dA) p s m args meth c A) (hR : 5 ≤ R.frames ∧ 112 ≤ R.locals) {res : Mem × Int32} (k207 : Mem → Int32 → Int32 → Int32 → Int32 → Int32 → Int32 → Int64 → Int32 → Int32 → Int32 → Option (Mem × Int32)) (hk207 : ∀ (S : Mem) (x1 : Int32) (x2 : Int32) (x3 : Int32) (x4 : Int32) (x5 : Int32) (x6 : Int32) (x7 : Int64) (x9 : Int32) (x12 : Int32) (x13 : Int32) (H : Heap) (locs : List Loc) (ls : Array Slot), Wd D clA (shM dA) exM A ad S H → va_S A s.heap H locs → lv_has ls 16 [(0, .ref (ad M_o)), (1, .int x1), (2, .int x2), (3, .int x3), (4, .int x4), (5, .int x5), (6, .int x6), (7, .long x7), (9, .int x9), (12, .int x12), (13, .int x13)] → k207 S x1 x2 x3 x4 x5 x6 x7 x9 x12 x13 = some res → W p l e R s m args below meth c H locs 0 0 (MQ below (QiW D (shM dA) exM A ad res) args s 0 0 A) (F0 m 207 ls [])) (S : Mem) (x1 : Int32) (x2 : Int32) (x3 : Int32) (x4 : Int32) (x5 : Int32) (x6 : Int32) (x7 : Int64) (x9 : Int32) (x12 : Int32) (y0 : Int32) {H : Heap} {locs : List Loc} {ls : Array Slot} (hP : Wd D clA (shM dA) exM A ad S H) (hS : va_S A s.heap H locs) (hl : lv_has ls 16 [(0, .ref (ad M_o)), (1, .int x1), (2, .int x2), (3, .int x3), (4, .int x4), (5, .int x5), (6, .int x6), (7, .long x7), (9, .int x9), (12, .int x12)]) (hf : f_X8_fillsStream_257 k207 S x1 x2 x3 x4 x5 x6 x7 x9 x12 y0 = some res) : W p l e R s m args below meth c H locs 0 0 (MQ below (QiW D (shM dA) exM A ad res) args s 0 0 A) (F0 m 257 ls [.int y0]) := by
  have hx := X.hx
  have hb := X.hb
  unfold f_X8_fillsStream_257 at hf
  refine lv_istore (lv' := [(13, .int y0), (0, .ref (ad M_o)), (1, .int x1), (2, .int x2), (3, .int x3), (4, .int x4), (5, .int x5), (6, .int x6), (7, .long x7), (9, .int x9), (12, .int x12)]) hx hb dX8_fillsStream_257 hl (by decide) rfl (fun ls hl => ?_)
  refine lv_iload hx hb dX8_fillsStream_259 (lv_at hl 0 rfl) ?_
  refine gb_if_ne (tgt := 267) hx hb dX8_fillsStream_261 (by decide) hf (fun hf => ?_) (fun hf => ?_)
  · refine lv_aload_n hx hb dX8_fillsStream_267 rfl (lv_at hl 1 rfl) ?_
    refine lv_iload hx hb dX8_fillsStream_268 (lv_at hl 10 rfl) ?_
    refine lv_iconst (v := 1) hx hb dX8_fillsStream_270 (by decide) ?_
    refine lv_iadd hx hb dX8_fillsStream_271 ?_
    refine rp_X8_319 X hP hS dX8_fillsStream_272 hf (fun S1 H locs hP hS hf => ?_)
    refine lv_aload_n hx hb dX8_fillsStream_275 rfl (lv_at hl 1 rfl) ?_
    obtain ⟨v2, hq, hf⟩ := gS_eq hf
    refine gc_i (gc_fixV (S := S1) X (mt_X8_bytes l D dA A ad S1 hq) (lw_V q1471 q1473 qs70 q93 q1474) ⟨rfl, rfl⟩ hd_X8_bytes ⟨Nat.le_trans (Nat.le_of_ble_eq_true rfl) hR.1, Nat.le_trans (Nat.le_of_ble_eq_true rfl) hR.2⟩ (wd_recv (r := M_o) (ci := 0) (q := (RX8, TX8, 61)) X.hK.1 hP ⟨rfl, rfl⟩ rfl rfl) hP hS ⟨Nat.zero_le _, Nat.zero_le _⟩ rfl hl.1 rfl (Nat.le_of_ble_eq_true rfl) dX8_fillsStream_276) hS ?_
    rintro _ _ H locs ⟨rfl, rfl⟩ hP hS
    refine lv_iload_n hx hb dX8_fillsStream_279 rfl (lv_at hl 4 rfl) ?_
    refine gb_icmp_gt (tgt := 287) hx hb dX8_fillsStream_280 (by decide) hf (fun hf => ?_) (fun hf => ?_)
    · refine lv_iconst (v := 0) hx hb dX8_fillsStream_287 (by decide) ?_
      exact w_X8_fillsStream_288 X hR k207 hk207 S1 x1 x2 x3 x4 x5 x6 x7 x9 x12 0 hP hS (lv_sub hl [1, 2, 3, 4, 5, 6, 7, 8, 9, 10] rfl) hf
    · refine lv_iconst (v := 1) hx hb dX8_fillsStream_283 (by decide) ?_
      refine lv_goto (tgt := 288) hx hb dX8_fillsStream_284 (by decide) ?_
      exact w_X8_fillsStream_288 X hR k207 hk207 S1 x1 x2 x3 x4 x5 x6 x7 x9 x12 1 hP hS (lv_sub hl [1, 2, 3, 4, 5, 6, 7, 8, 9, 10] rfl) hf
  · refine lv_goto (tgt := 207) hx hb dX8_fillsStream_264 (by decide) ?_
    exact hk207 S x1 x2 x3 x4 x5 x6 x7 x9 x12 y0 _ _ _ hP hS (lv_sub hl [1, 2, 3, 4, 5, 6, 7, 8, 9, 10, 0] rfl) hf
set_option maxHeartbeats 4000000 in
theorem w_X8_fillsStream_256 {p : Program} {l : Launch} {e : Env} {R : Room} {s : State} {m : MethodId} {args : Array Value} {below : List Frame} {meth : Method} {c : Code} {D : va_G} {dA : Nat → ClassId} {A : Nat → Prop} {ad : L3 → Nat} (X : CX RX8 cX8_fillsStream 16 (some .boolean) (KA D dA) p s m args meth c A) (hR : 5 ≤ R.frames ∧ 112 ≤ R.locals) {res : Mem × Int32} (k207 : Mem → Int32 → Int32 → Int32 → Int32 → Int32 → Int32 → Int64 → Int32 → Int32 → Int32 → Option (Mem × Int32)) (hk207 : ∀ (S : Mem) (x1 : Int32) (x2 : Int32) (x3 : Int32) (x4 : Int32) (x5 : Int32) (x6 : Int32) (x7 : Int64) (x9 : Int32) (x12 : Int32) (x13 : Int32) (H : Heap) (locs : List Loc) (ls : Array Slot), Wd D clA (shM dA) exM A ad S H → va_S A s.heap H locs → lv_has ls 16 [(0, .ref (ad M_o)), (1, .int x1), (2, .int x2), (3, .int x3), (4, .int x4), (5, .int x5), (6, .int x6), (7, .long x7), (9, .int x9), (12, .int x12), (13, .int x13)] → k207 S x1 x2 x3 x4 x5 x6 x7 x9 x12 x13 = some res → W p l e R s m args below meth c H locs 0 0 (MQ below (QiW D (shM dA) exM A ad res) args s 0 0 A) (F0 m 207 ls [])) (S : Mem) (x1 : Int32) (x2 : Int32) (x3 : Int32) (x4 : Int32) (x5 : Int32) (x6 : Int32) (x7 : Int64) (x9 : Int32) (x12 : Int32) {H : Heap} {locs : List Loc} {ls : Array Slot} (hP : Wd D clA (shM dA) exM A ad S H) (hS : va_S A s.heap H locs) (hl : lv_has ls 16 [(0, .ref (ad M_o)), (1, .int x1), (2, .int x2), (3, .int x3), (4, .int x4), (5, .int x5), (6, .int x6), (7, .long x7), (9, .int x9), (12, .int x12)]) (hf : f_X8_fillsStream_256 k207 S x1 x2 x3 x4 x5 x6 x7 x9 x12 = some res) : W p l e R s m args below meth c H locs 0 0 (MQ below (QiW D (shM dA) exM A ad res) args s 0 0 A) (F0 m 256 ls []) := by
  have hx := X.hx
  have hb := X.hb
  unfold f_X8_fillsStream_256 at hf
  refine lv_iconst (v := 0) hx hb dX8_fillsStream_256 (by decide) ?_
  exact w_X8_fillsStream_257 X hR k207 hk207 S x1 x2 x3 x4 x5 x6 x7 x9 x12 0 hP hS (lv_sub hl [0, 1, 2, 3, 4, 5, 6, 7, 8, 9] rfl) hf
set_option maxHeartbeats 4000000 in
theorem w_X8_fillsStream_317_b {p : Program} {l : Launch} {e : Env} {R : Room} {s : State} {m : MethodId} {args : Array Value} {below : List Frame} {meth : Method} {c : Code} {D : va_G} {dA : Nat → ClassId} {A : Nat → Prop} {ad : L3 → Nat} (X : CX RX8 cX8_fillsStream 16 (some .boolean) (KA D dA) p s m args meth c A) (hR : 5 ≤ R.frames ∧ 112 ≤ R.locals) {res : Mem × Int32} (k317 : Mem → Int32 → Int32 → Int32 → Int32 → Int32 → Int32 → Int32 → Option (Mem × Int32)) (hk317 : ∀ (S : Mem) (x1 : Int32) (x2 : Int32) (x4 : Int32) (x5 : Int32) (x9 : Int32) (x12 : Int32) (x14 : Int32) (H : Heap) (locs : List Loc) (ls : Array Slot), Wd D clA (shM dA) exM A ad S H → va_S A s.heap H locs → lv_has ls 16 [(0, .ref (ad M_o)), (1, .int x1), (2, .int x2), (4, .int x4), (5, .int x5), (9, .int x9), (12, .int x12), (14, .int x14)] → k317 S x1 x2 x4 x5 x9 x12 x14 = some res → W p l e R s m args below meth c H locs 0 0 (MQ below (QiW D (shM dA) exM A ad res) args s 0 0 A) (F0 m 317 ls [])) (S : Mem) (x1 : Int32) (x2 : Int32) (x4 : Int32) (x5 : Int32) (x9 : Int32) (x12 : Int32) (x14 : Int32) {H : Heap} {locs : List Loc} {ls : Array Slot} (hP : Wd D clA (shM dA) exM A ad S H) (hS : va_S A s.heap H locs) (hl : lv_has ls 16 [(0, .ref (ad M_o)), (1, .int x1), (2, .int x2), (4, .int x4), (5, .int x5), (9, .int x9), (12, .int x12), (14, .int x14)]) (hf : f_X8_fillsStream_317_b k317 S x1 x2 x4 x5 x9 x12 x14 = some res) : W p l e R s m args below meth c H locs 0 0 (MQ below (QiW D (shM dA) exM A ad res) args s 0 0 A) (F0 m 317 ls []) := by
  have hx := X.hx
  have hb := X.hb
  unfold f_X8_fillsStream_317_b at hf
  refine lv_iload hx hb dX8_fillsStream_317 (lv_at hl 7 rfl) ?_
  refine lv_iload hx hb dX8_fillsStream_319 (lv_at hl 6 rfl) ?_
  refine gb_icmp_ge (tgt := 365) hx hb dX8_fillsStream_321 (by decide) hf (fun hf => ?_) (fun hf => ?_)
  · refine lv_iload hx hb dX8_fillsStream_365 (lv_at hl 4 rfl) ?_
    refine lv_iload hx hb dX8_fillsStream_367 (lv_at hl 6 rfl) ?_
    refine lv_iadd hx hb dX8_fillsStream_369 ?_
    refine lv_iload hx hb dX8_fillsStream_370 (lv_at hl 5 rfl) ?_
    refine gb_icmp_ne (tgt := 409) hx hb dX8_fillsStream_372 (by decide) hf (fun hf => ?_) (fun hf => ?_)
    · refine lv_iconst (v := 1) hx hb dX8_fillsStream_409 (by decide) ?_
      exact gr_zW X hP hS (Option.some.inj hf) (by decide) dX8_fillsStream_410
    · refine lv_aload_n hx hb dX8_fillsStream_375 rfl (lv_at hl 0 rfl) ?_
      refine rg_X8_57 X hP dX8_fillsStream_376 ?_
      refine lv_iload hx hb dX8_fillsStream_379 (lv_at hl 3 rfl) ?_
      refine ra_finished_ld X hP dX8_fillsStream_381 hf (fun hf => ?_)
      refine gb_if_eq (tgt := 409) hx hb dX8_fillsStream_382 (by decide) hf (fun hf => ?_) (fun hf => ?_)
      · refine lv_iconst (v := 1) hx hb dX8_fillsStream_409 (by decide) ?_
        exact gr_zW X hP hS (Option.some.inj hf) (by decide) dX8_fillsStream_410
      · refine lv_aload_n hx hb dX8_fillsStream_385 rfl (lv_at hl 0 rfl) ?_
        refine lv_lconst (v := 1) hx hb dX8_fillsStream_386 (by decide) ?_
        refine rp_X8_322 X hP hS dX8_fillsStream_387 hf (fun S1 H locs hP hS hf => ?_)
        refine lv_aload_n hx hb dX8_fillsStream_390 rfl (lv_at hl 0 rfl) ?_
        refine rg_X8_60 X hP dX8_fillsStream_391 ?_
        refine lv_iload hx hb dX8_fillsStream_394 (lv_at hl 3 rfl) ?_
        refine ra_end_ld X hP dX8_fillsStream_396 hf (fun hf => ?_)
        refine lv_iconst (v := 3) hx hb dX8_fillsStream_397 (by decide) ?_
        refine gb_icmp_eq (tgt := 409) hx hb dX8_fillsStream_398 (by decide) hf (fun hf => ?_) (fun hf => ?_)
        · refine lv_iconst (v := 1) hx hb dX8_fillsStream_409 (by decide) ?_
          exact gr_zW X hP hS (Option.some.inj hf) (by decide) dX8_fillsStream_410
        · refine lv_aload_n hx hb dX8_fillsStream_401 rfl (lv_at hl 0 rfl) ?_
          refine rg_X8_60 X hP dX8_fillsStream_402 ?_
          refine lv_iload hx hb dX8_fillsStream_405 (lv_at hl 3 rfl) ?_
          refine lv_iconst (v := 1) hx hb dX8_fillsStream_407 (by decide) ?_
          refine ra_end_st X hP hS dX8_fillsStream_408 hf (fun S2 H locs hP hS hf => ?_)
          refine lv_iconst (v := 1) hx hb dX8_fillsStream_409 (by decide) ?_
          exact gr_zW X hP hS (Option.some.inj hf) (by decide) dX8_fillsStream_410
  · refine lv_aload_n hx hb dX8_fillsStream_324 rfl (lv_at hl 0 rfl) ?_
    refine lv_iload_n hx hb dX8_fillsStream_325 rfl (lv_at hl 1 rfl) ?_
    refine lv_iload_n hx hb dX8_fillsStream_326 rfl (lv_at hl 2 rfl) ?_
    refine lv_iload hx hb dX8_fillsStream_327 (lv_at hl 4 rfl) ?_
    refine lv_iload hx hb dX8_fillsStream_329 (lv_at hl 7 rfl) ?_
    refine lv_iadd hx hb dX8_fillsStream_331 ?_
    obtain ⟨v3, hq, hf⟩ := gB_some hf
    refine gc_i (gc_fixV (S := S) X (mt_X8_placeOf l D dA A ad S x1 x2 (x5 + x14) hq) (lw_V q1512 q1514 qs79 q93 q1515) ⟨rfl, rfl⟩ hd_X8_placeOf ⟨Nat.le_trans (Nat.le_of_ble_eq_true rfl) hR.1, Nat.le_trans (Nat.le_of_ble_eq_true rfl) hR.2⟩ (wd_recv (r := M_o) (ci := 0) (q := (RX8, TX8, 61)) X.hK.1 hP ⟨rfl, rfl⟩ rfl rfl) hP hS ⟨Nat.zero_le _, Nat.zero_le _⟩ rfl hl.1 rfl (Nat.le_of_ble_eq_true rfl) dX8_fillsStream_332) hS ?_
    rintro _ _ H locs ⟨rfl, rfl⟩ hP hS
    refine lv_istore (lv' := [(15, .int v3), (0, .ref (ad M_o)), (1, .int x1), (2, .int x2), (4, .int x4), (5, .int x5), (9, .int x9), (12, .int x12), (14, .int x14)]) hx hb dX8_fillsStream_335 hl (by decide) rfl (fun ls hl => ?_)
    refine lv_aload_n hx hb dX8_fillsStream_337 rfl (lv_at hl 1 rfl) ?_
    refine rg_X8_139 X hP dX8_fillsStream_338 ?_
    refine lv_iload hx hb dX8_fillsStream_341 (lv_at hl 8 rfl) ?_
    refine lv_aload_n hx hb dX8_fillsStream_343 rfl (lv_at hl 1 rfl) ?_
    refine rg_X8_116 X hP dX8_fillsStream_344 ?_
    refine lv_iload hx hb dX8_fillsStream_347 (lv_at hl 0 rfl) ?_
    refine ra_value_ld X hP dX8_fillsStream_349 hf (fun hf => ?_)
    refine ra_fData_st X hP hS dX8_fillsStream_350 hf (fun S4 H locs hP hS hf => ?_)
    refine lv_aload_n hx hb dX8_fillsStream_351 rfl (lv_at hl 1 rfl) ?_
    refine rg_X8_120 X hP dX8_fillsStream_352 ?_
    refine lv_iload hx hb dX8_fillsStream_355 (lv_at hl 0 rfl) ?_
    refine lv_iconst (v := 1) hx hb dX8_fillsStream_357 (by decide) ?_
    refine ra_mark_st X hP hS dX8_fillsStream_358 hf (fun S5 H locs hP hS hf => ?_)
    refine lv_iinc (v := (x14 + 1)) (lv' := [(14, .int (x14 + 1)), (15, .int v3), (0, .ref (ad M_o)), (1, .int x1), (2, .int x2), (4, .int x4), (5, .int x5), (9, .int x9), (12, .int x12)]) hx hb dX8_fillsStream_359 hl (k := 8) rfl rfl (by decide) rfl (fun ls hl => ?_)
    refine lv_goto (tgt := 317) hx hb dX8_fillsStream_362 (by decide) ?_
    exact hk317 S5 x1 x2 x4 x5 x9 x12 (x14 + 1) _ _ _ hP hS (lv_sub hl [2, 3, 4, 5, 6, 7, 8, 0] rfl) hf
set_option maxHeartbeats 4000000 in
theorem w_X8_fillsStream_317 {p : Program} {l : Launch} {e : Env} {R : Room} {s : State} {m : MethodId} {args : Array Value} {below : List Frame} {meth : Method} {c : Code} {D : va_G} {dA : Nat → ClassId} {A : Nat → Prop} {ad : L3 → Nat} (X : CX RX8 cX8_fillsStream 16 (some .boolean) (KA D dA) p s m args meth c A) (hR : 5 ≤ R.frames ∧ 112 ≤ R.locals) {res : Mem × Int32} (n : Nat) : ∀ (S : Mem) (x1 : Int32) (x2 : Int32) (x4 : Int32) (x5 : Int32) (x9 : Int32) (x12 : Int32) (x14 : Int32) (H : Heap) (locs : List Loc) (ls : Array Slot), Wd D clA (shM dA) exM A ad S H → va_S A s.heap H locs → lv_has ls 16 [(0, .ref (ad M_o)), (1, .int x1), (2, .int x2), (4, .int x4), (5, .int x5), (9, .int x9), (12, .int x12), (14, .int x14)] → f_X8_fillsStream_317 n S x1 x2 x4 x5 x9 x12 x14 = some res → W p l e R s m args below meth c H locs 0 0 (MQ below (QiW D (shM dA) exM A ad res) args s 0 0 A) (F0 m 317 ls []) := by
  induction n with
  | zero =>
    intro S x1 x2 x4 x5 x9 x12 x14 H locs ls hP hS hl hf
    exact absurd (show none = some res from hf) (fun h => by cases h)
  | succ n ih =>
    intro S x1 x2 x4 x5 x9 x12 x14 H locs ls hP hS hl hf
    exact w_X8_fillsStream_317_b X hR (f_X8_fillsStream_317 n) ih S x1 x2 x4 x5 x9 x12 x14 hP hS hl hf
set_option maxHeartbeats 4000000 in
theorem w_X8_fillsStream_207_b {p : Program} {l : Launch} {e : Env} {R : Room} {s : State} {m : MethodId} {args : Array Value} {below : List Frame} {meth : Method} {c : Code} {D : va_G} {dA : Nat → ClassId} {A : Nat → Prop} {ad : L3 → Nat} (X : CX RX8 cX8_fillsStream 16 (some .boolean) (KA D dA) p s m args meth c A) (hR : 5 ≤ R.frames ∧ 112 ≤ R.locals) {res : Mem × Int32} (k207 : Mem → Int32 → Int32 → Int32 → Int32 → Int32 → Int32 → Int64 → Int32 → Int32 → Int32 → Option (Mem × Int32)) (hk207 : ∀ (S : Mem) (x1 : Int32) (x2 : Int32) (x3 : Int32) (x4 : Int32) (x5 : Int32) (x6 : Int32) (x7 : Int64) (x9 : Int32) (x12 : Int32) (x13 : Int32) (H : Heap) (locs : List Loc) (ls : Array Slot), Wd D clA (shM dA) exM A ad S H → va_S A s.heap H locs → lv_has ls 16 [(0, .ref (ad M_o)), (1, .int x1), (2, .int x2), (3, .int x3), (4, .int x4), (5, .int x5), (6, .int x6), (7, .long x7), (9, .int x9), (12, .int x12), (13, .int x13)] → k207 S x1 x2 x3 x4 x5 x6 x7 x9 x12 x13 = some res → W p l e R s m args below meth c H locs 0 0 (MQ below (QiW D (shM dA) exM A ad res) args s 0 0 A) (F0 m 207 ls [])) (S : Mem) (x1 : Int32) (x2 : Int32) (x3 : Int32) (x4 : Int32) (x5 : Int32) (x6 : Int32) (x7 : Int64) (x9 : Int32) (x12 : Int32) (x13 : Int32) {H : Heap} {locs : List Loc} {ls : Array Slot} (hP : Wd D clA (shM dA) exM A ad S H) (hS : va_S A s.heap H locs) (hl : lv_has ls 16 [(0, .ref (ad M_o)), (1, .int x1), (2, .int x2), (3, .int x3), (4, .int x4), (5, .int x5), (6, .int x6), (7, .long x7), (9, .int x9), (12, .int x12), (13, .int x13)]) (hf : f_X8_fillsStream_207_b k207 S x1 x2 x3 x4 x5 x6 x7 x9 x12 x13 = some res) : W p l e R s m args below meth c H locs 0 0 (MQ below (QiW D (shM dA) exM A ad res) args s 0 0 A) (F0 m 207 ls []) := by
  have hx := X.hx
  have hb := X.hb
  unfold f_X8_fillsStream_207_b at hf
  refine lv_iload hx hb dX8_fillsStream_207 (lv_at hl 10 rfl) ?_
  refine gb_if_eq (tgt := 301) hx hb dX8_fillsStream_209 (by decide) hf (fun hf => ?_) (fun hf => ?_)
  · refine lv_aload_n hx hb dX8_fillsStream_301 rfl (lv_at hl 0 rfl) ?_
    refine lv_iload hx hb dX8_fillsStream_302 (lv_at hl 9 rfl) ?_
    refine rp_X8_319 X hP hS dX8_fillsStream_304 hf (fun S1 H locs hP hS hf => ?_)
    refine lv_iload hx hb dX8_fillsStream_307 (lv_at hl 9 rfl) ?_
    refine gb_if_ne (tgt := 314) hx hb dX8_fillsStream_309 (by decide) hf (fun hf => ?_) (fun hf => ?_)
    · refine lv_iconst (v := 0) hx hb dX8_fillsStream_314 (by decide) ?_
      refine lv_istore (lv' := [(14, .int 0), (0, .ref (ad M_o)), (1, .int x1), (2, .int x2), (3, .int x3), (4, .int x4), (5, .int x5), (6, .int x6), (7, .long x7), (9, .int x9), (12, .int x12), (13, .int x13)]) hx hb dX8_fillsStream_315 hl (by decide) rfl (fun ls hl => ?_)
      exact w_X8_fillsStream_317 X hR FU S1 x1 x2 x4 x5 x9 x12 0 _ _ _ hP hS (lv_sub hl [1, 2, 3, 5, 6, 9, 10, 0] rfl) hf
    · refine lv_iconst (v := 0) hx hb dX8_fillsStream_312 (by decide) ?_
      exact gr_zW X hP hS (Option.some.inj hf) (by decide) dX8_fillsStream_313
  · refine lv_iload hx hb dX8_fillsStream_212 (lv_at hl 9 rfl) ?_
    refine lv_i2l hx hb dX8_fillsStream_214 rfl ?_
    refine lv_lload hx hb dX8_fillsStream_215 (lv_at hl 7 rfl) ?_
    refine gb_lcmp_ge (tgt := 256) hx hb dX8_fillsStream_217 dX8_fillsStream_218 (by decide) hf (fun hf => ?_) (fun hf => ?_)
    · exact w_X8_fillsStream_256 X hR k207 hk207 S x1 x2 x3 x4 x5 x6 x7 x9 x12 hP hS (lv_sub hl [0, 1, 2, 3, 4, 5, 6, 7, 8, 9] rfl) hf
    · refine lv_iload hx hb dX8_fillsStream_221 (lv_at hl 5 rfl) ?_
      refine lv_iload hx hb dX8_fillsStream_223 (lv_at hl 9 rfl) ?_
      refine lv_iadd hx hb dX8_fillsStream_225 ?_
      refine lv_iload hx hb dX8_fillsStream_226 (lv_at hl 8 rfl) ?_
      refine gb_icmp_ge (tgt := 256) hx hb dX8_fillsStream_228 (by decide) hf (fun hf => ?_) (fun hf => ?_)
      · exact w_X8_fillsStream_256 X hR k207 hk207 S x1 x2 x3 x4 x5 x6 x7 x9 x12 hP hS (lv_sub hl [0, 1, 2, 3, 4, 5, 6, 7, 8, 9] rfl) hf
      · refine lv_aload_n hx hb dX8_fillsStream_231 rfl (lv_at hl 0 rfl) ?_
        refine rg_X8_120 X hP dX8_fillsStream_232 ?_
        refine lv_aload_n hx hb dX8_fillsStream_235 rfl (lv_at hl 0 rfl) ?_
        refine lv_iload_n hx hb dX8_fillsStream_236 rfl (lv_at hl 1 rfl) ?_
        refine lv_iload_n hx hb dX8_fillsStream_237 rfl (lv_at hl 2 rfl) ?_
        refine lv_iload hx hb dX8_fillsStream_238 (lv_at hl 5 rfl) ?_
        refine lv_iload hx hb dX8_fillsStream_240 (lv_at hl 9 rfl) ?_
        refine lv_iadd hx hb dX8_fillsStream_242 ?_
        obtain ⟨v2, hq, hf⟩ := gB_some hf
        refine gc_i (gc_fixV (S := S) X (mt_X8_placeOf l D dA A ad S x1 x2 (x5 + x12) hq) (lw_V q1512 q1514 qs79 q93 q1515) ⟨rfl, rfl⟩ hd_X8_placeOf ⟨Nat.le_trans (Nat.le_of_ble_eq_true rfl) hR.1, Nat.le_trans (Nat.le_of_ble_eq_true rfl) hR.2⟩ (wd_recv (r := M_o) (ci := 0) (q := (RX8, TX8, 61)) X.hK.1 hP ⟨rfl, rfl⟩ rfl rfl) hP hS ⟨Nat.zero_le _, Nat.zero_le _⟩ rfl hl.1 rfl (Nat.le_of_ble_eq_true rfl) dX8_fillsStream_243) hS ?_
        rintro _ _ H locs ⟨rfl, rfl⟩ hP hS
        refine ra_mark_ld X hP dX8_fillsStream_246 hf (fun hf => ?_)
        refine lv_iload hx hb dX8_fillsStream_247 (lv_at hl 6 rfl) ?_
        refine gb_icmp_ne (tgt := 256) hx hb dX8_fillsStream_249 (by decide) hf (fun hf => ?_) (fun hf => ?_)
        · exact w_X8_fillsStream_256 X hR k207 hk207 S x1 x2 x3 x4 x5 x6 x7 x9 x12 hP hS (lv_sub hl [0, 1, 2, 3, 4, 5, 6, 7, 8, 9] rfl) hf
        · refine lv_iconst (v := 1) hx hb dX8_fillsStream_252 (by decide) ?_
          refine lv_goto (tgt := 257) hx hb dX8_fillsStream_253 (by decide) ?_
          exact w_X8_fillsStream_257 X hR k207 hk207 S x1 x2 x3 x4 x5 x6 x7 x9 x12 1 hP hS (lv_sub hl [0, 1, 2, 3, 4, 5, 6, 7, 8, 9] rfl) hf
set_option maxHeartbeats 4000000 in
theorem w_X8_fillsStream_207 {p : Program} {l : Launch} {e : Env} {R : Room} {s : State} {m : MethodId} {args : Array Value} {below : List Frame} {meth : Method} {c : Code} {D : va_G} {dA : Nat → ClassId} {A : Nat → Prop} {ad : L3 → Nat} (X : CX RX8 cX8_fillsStream 16 (some .boolean) (KA D dA) p s m args meth c A) (hR : 5 ≤ R.frames ∧ 112 ≤ R.locals) {res : Mem × Int32} (n : Nat) : ∀ (S : Mem) (x1 : Int32) (x2 : Int32) (x3 : Int32) (x4 : Int32) (x5 : Int32) (x6 : Int32) (x7 : Int64) (x9 : Int32) (x12 : Int32) (x13 : Int32) (H : Heap) (locs : List Loc) (ls : Array Slot), Wd D clA (shM dA) exM A ad S H → va_S A s.heap H locs → lv_has ls 16 [(0, .ref (ad M_o)), (1, .int x1), (2, .int x2), (3, .int x3), (4, .int x4), (5, .int x5), (6, .int x6), (7, .long x7), (9, .int x9), (12, .int x12), (13, .int x13)] → f_X8_fillsStream_207 n S x1 x2 x3 x4 x5 x6 x7 x9 x12 x13 = some res → W p l e R s m args below meth c H locs 0 0 (MQ below (QiW D (shM dA) exM A ad res) args s 0 0 A) (F0 m 207 ls []) := by
  induction n with
  | zero =>
    intro S x1 x2 x3 x4 x5 x6 x7 x9 x12 x13 H locs ls hP hS hl hf
    exact absurd (show none = some res from hf) (fun h => by cases h)
  | succ n ih =>
    intro S x1 x2 x3 x4 x5 x6 x7 x9 x12 x13 H locs ls hP hS hl hf
    exact w_X8_fillsStream_207_b X hR (f_X8_fillsStream_207 n) ih S x1 x2 x3 x4 x5 x6 x7 x9 x12 x13 hP hS hl hf
set_option maxHeartbeats 4000000 in
theorem w_X8_fillsStream_180 {p : Program} {l : Launch} {e : Env} {R : Room} {s : State} {m : MethodId} {args : Array Value} {below : List Frame} {meth : Method} {c : Code} {D : va_G} {dA : Nat → ClassId} {A : Nat → Prop} {ad : L3 → Nat} (X : CX RX8 cX8_fillsStream 16 (some .boolean) (KA D dA) p s m args meth c A) (hR : 5 ≤ R.frames ∧ 112 ≤ R.locals) {res : Mem × Int32} (S : Mem) (x1 : Int32) (x2 : Int32) (x3 : Int32) (x4 : Int32) (x5 : Int32) (x6 : Int32) (x7 : Int64) (x9 : Int32) (x11 : Int32) (y0 : Int64) {H : Heap} {locs : List Loc} {ls : Array Slot} (hP : Wd D clA (shM dA) exM A ad S H) (hS : va_S A s.heap H locs) (hl : lv_has ls 16 [(0, .ref (ad M_o)), (1, .int x1), (2, .int x2), (3, .int x3), (4, .int x4), (5, .int x5), (6, .int x6), (7, .long x7), (9, .int x9), (11, .int x11)]) (hf : f_X8_fillsStream_180 S x1 x2 x3 x4 x5 x6 x7 x9 x11 y0 = some res) : W p l e R s m args below meth c H locs 0 0 (MQ below (QiW D (shM dA) exM A ad res) args s 0 0 A) (F0 m 180 ls [.long y0, .ref (ad M_o)]) := by
  have hx := X.hx
  have hb := X.hb
  unfold f_X8_fillsStream_180 at hf
  refine rp_X8_316 X hP hS dX8_fillsStream_180 hf (fun S1 H locs hP hS hf => ?_)
  refine lv_aload_n hx hb dX8_fillsStream_183 rfl (lv_at hl 0 rfl) ?_
  refine lv_lconst (v := 0) hx hb dX8_fillsStream_184 (by decide) ?_
  refine rp_X8_322 X hP hS dX8_fillsStream_185 hf (fun S2 H locs hP hS hf => ?_)
  refine lv_iload hx hb dX8_fillsStream_188 (lv_at hl 9 rfl) ?_
  refine gb_if_eq (tgt := 201) hx hb dX8_fillsStream_190 (by decide) hf (fun hf => ?_) (fun hf => ?_)
  · refine lv_iconst (v := 0) hx hb dX8_fillsStream_201 (by decide) ?_
    refine lv_istore (lv' := [(12, .int 0), (0, .ref (ad M_o)), (1, .int x1), (2, .int x2), (3, .int x3), (4, .int x4), (5, .int x5), (6, .int x6), (7, .long x7), (9, .int x9), (11, .int x11)]) hx hb dX8_fillsStream_202 hl (by decide) rfl (fun ls hl => ?_)
    refine lv_iconst (v := 1) hx hb dX8_fillsStream_204 (by decide) ?_
    refine lv_istore (lv' := [(13, .int 1), (12, .int 0), (0, .ref (ad M_o)), (1, .int x1), (2, .int x2), (3, .int x3), (4, .int x4), (5, .int x5), (6, .int x6), (7, .long x7), (9, .int x9), (11, .int x11)]) hx hb dX8_fillsStream_205 hl (by decide) rfl (fun ls hl => ?_)
    exact w_X8_fillsStream_207 X hR FU S2 x1 x2 x3 x4 x5 x6 x7 x9 0 1 _ _ _ hP hS (lv_sub hl [2, 3, 4, 5, 6, 7, 8, 9, 10, 1, 0] rfl) hf
  · refine lv_aload_n hx hb dX8_fillsStream_193 rfl (lv_at hl 0 rfl) ?_
    refine lv_iload_n hx hb dX8_fillsStream_194 rfl (lv_at hl 1 rfl) ?_
    refine lv_iload_n hx hb dX8_fillsStream_195 rfl (lv_at hl 2 rfl) ?_
    refine lv_iload_n hx hb dX8_fillsStream_196 rfl (lv_at hl 3 rfl) ?_
    obtain ⟨S3, v4, hq, hf⟩ := gB2_some hf
    refine gc_i (gc_fixV (S := S2) X (mt_X8_endAlone l D dA A ad S2 x1 x2 x3 hq) (lw_V q1508 q1510 qs78 q93 q1511) ⟨rfl, rfl⟩ hd_X8_endAlone ⟨Nat.le_trans (Nat.le_of_ble_eq_true rfl) hR.1, Nat.le_trans (Nat.le_of_ble_eq_true rfl) hR.2⟩ (wd_recv (r := M_o) (ci := 0) (q := (RX8, TX8, 61)) X.hK.1 hP ⟨rfl, rfl⟩ rfl rfl) hP hS ⟨Nat.zero_le _, Nat.zero_le _⟩ rfl hl.1 rfl (Nat.le_of_ble_eq_true rfl) dX8_fillsStream_197) hS ?_
    rintro _ _ H locs ⟨⟩ hP hS
    obtain ⟨hn, hf⟩ := gN_some hf
    exact gr_zW X hP hS (Option.some.inj hf) hn dX8_fillsStream_200
set_option maxHeartbeats 4000000 in
theorem w_X8_fillsStream_148 {p : Program} {l : Launch} {e : Env} {R : Room} {s : State} {m : MethodId} {args : Array Value} {below : List Frame} {meth : Method} {c : Code} {D : va_G} {dA : Nat → ClassId} {A : Nat → Prop} {ad : L3 → Nat} (X : CX RX8 cX8_fillsStream 16 (some .boolean) (KA D dA) p s m args meth c A) (hR : 5 ≤ R.frames ∧ 112 ≤ R.locals) {res : Mem × Int32} (S : Mem) (x1 : Int32) (x2 : Int32) (x3 : Int32) (x4 : Int32) (x5 : Int32) (x6 : Int32) (x7 : Int64) (x9 : Int32) (x11 : Int32) {H : Heap} {locs : List Loc} {ls : Array Slot} (hP : Wd D clA (shM dA) exM A ad S H) (hS : va_S A s.heap H locs) (hl : lv_has ls 16 [(0, .ref (ad M_o)), (1, .int x1), (2, .int x2), (3, .int x3), (4, .int x4), (5, .int x5), (6, .int x6), (7, .long x7), (9, .int x9), (11, .int x11)]) (hf : f_X8_fillsStream_148 S x1 x2 x3 x4 x5 x6 x7 x9 x11 = some res) : W p l e R s m args below meth c H locs 0 0 (MQ below (QiW D (shM dA) exM A ad res) args s 0 0 A) (F0 m 148 ls []) := by
  have hx := X.hx
  have hb := X.hb
  unfold f_X8_fillsStream_148 at hf
  refine lv_aload_n hx hb dX8_fillsStream_148 rfl (lv_at hl 0 rfl) ?_
  refine lv_iconst (v := 0) hx hb dX8_fillsStream_149 (by decide) ?_
  refine rp_X8_319 X hP hS dX8_fillsStream_150 hf (fun S1 H locs hP hS hf => ?_)
  refine lv_aload_n hx hb dX8_fillsStream_153 rfl (lv_at hl 0 rfl) ?_
  refine lv_bipush (v := 8) hx hb dX8_fillsStream_154 (by decide) ?_
  refine rp_X8_336 X hP hS dX8_fillsStream_156 hf (fun S2 H locs hP hS hf => ?_)
  refine lv_aload_n hx hb dX8_fillsStream_159 rfl (lv_at hl 0 rfl) ?_
  refine lv_iload_n hx hb dX8_fillsStream_160 rfl (lv_at hl 2 rfl) ?_
  refine lv_i2l hx hb dX8_fillsStream_161 rfl ?_
  refine rp_X8_308 X hP hS dX8_fillsStream_162 hf (fun S3 H locs hP hS hf => ?_)
  refine lv_aload_n hx hb dX8_fillsStream_165 rfl (lv_at hl 0 rfl) ?_
  refine lv_iload hx hb dX8_fillsStream_166 (lv_at hl 9 rfl) ?_
  refine gb_if_eq (tgt := 177) hx hb dX8_fillsStream_168 (by decide) hf (fun hf => ?_) (fun hf => ?_)
  · refine lv_iload hx hb dX8_fillsStream_177 (lv_at hl 5 rfl) ?_
    refine lv_i2l hx hb dX8_fillsStream_179 rfl ?_
    exact w_X8_fillsStream_180 X hR S3 x1 x2 x3 x4 x5 x6 x7 x9 x11 (Int32.toInt64 x5) hP hS (lv_sub hl [0, 1, 2, 3, 4, 5, 6, 7, 8, 9] rfl) hf
  · refine lv_iload hx hb dX8_fillsStream_171 (lv_at hl 8 rfl) ?_
    refine lv_i2l hx hb dX8_fillsStream_173 rfl ?_
    refine lv_goto (tgt := 180) hx hb dX8_fillsStream_174 (by decide) ?_
    exact w_X8_fillsStream_180 X hR S3 x1 x2 x3 x4 x5 x6 x7 x9 x11 (Int32.toInt64 x9) hP hS (lv_sub hl [0, 1, 2, 3, 4, 5, 6, 7, 8, 9] rfl) hf
set_option maxHeartbeats 4000000 in
theorem w_X8_fillsStream_134 {p : Program} {l : Launch} {e : Env} {R : Room} {s : State} {m : MethodId} {args : Array Value} {below : List Frame} {meth : Method} {c : Code} {D : va_G} {dA : Nat → ClassId} {A : Nat → Prop} {ad : L3 → Nat} (X : CX RX8 cX8_fillsStream 16 (some .boolean) (KA D dA) p s m args meth c A) (hR : 5 ≤ R.frames ∧ 112 ≤ R.locals) {res : Mem × Int32} (S : Mem) (x1 : Int32) (x2 : Int32) (x3 : Int32) (x4 : Int32) (x5 : Int32) (x6 : Int32) (x7 : Int64) (x9 : Int32) (x11 : Int32) {H : Heap} {locs : List Loc} {ls : Array Slot} (hP : Wd D clA (shM dA) exM A ad S H) (hS : va_S A s.heap H locs) (hl : lv_has ls 16 [(0, .ref (ad M_o)), (1, .int x1), (2, .int x2), (3, .int x3), (4, .int x4), (5, .int x5), (6, .int x6), (7, .long x7), (9, .int x9), (11, .int x11)]) (hf : f_X8_fillsStream_134 S x1 x2 x3 x4 x5 x6 x7 x9 x11 = some res) : W p l e R s m args below meth c H locs 0 0 (MQ below (QiW D (shM dA) exM A ad res) args s 0 0 A) (F0 m 134 ls []) := by
  have hx := X.hx
  have hb := X.hb
  unfold f_X8_fillsStream_134 at hf
  refine lv_iload hx hb dX8_fillsStream_134 (lv_at hl 9 rfl) ?_
  refine gb_if_ne (tgt := 148) hx hb dX8_fillsStream_136 (by decide) hf (fun hf => ?_) (fun hf => ?_)
  · exact w_X8_fillsStream_148 X hR S x1 x2 x3 x4 x5 x6 x7 x9 x11 hP hS (lv_sub hl [0, 1, 2, 3, 4, 5, 6, 7, 8, 9] rfl) hf
  · refine lv_lload hx hb dX8_fillsStream_139 (lv_at hl 7 rfl) ?_
    refine lv_lconst (v := 0) hx hb dX8_fillsStream_141 (by decide) ?_
    refine gb_lcmp_ne (tgt := 148) hx hb dX8_fillsStream_142 dX8_fillsStream_143 (by decide) hf (fun hf => ?_) (fun hf => ?_)
    · exact w_X8_fillsStream_148 X hR S x1 x2 x3 x4 x5 x6 x7 x9 x11 hP hS (lv_sub hl [0, 1, 2, 3, 4, 5, 6, 7, 8, 9] rfl) hf
    · refine lv_iconst (v := 0) hx hb dX8_fillsStream_146 (by decide) ?_
      exact gr_zW X hP hS (Option.some.inj hf) (by decide) dX8_fillsStream_147
set_option maxHeartbeats 4000000 in
theorem w_X8_fillsStream_122 {p : Program} {l : Launch} {e : Env} {R : Room} {s : State} {m : MethodId} {args : Array Value} {below : List Frame} {meth : Method} {c : Code} {D : va_G} {dA : Nat → ClassId} {A : Nat → Prop} {ad : L3 → Nat} (X : CX RX8 cX8_fillsStream 16 (some .boolean) (KA D dA) p s m args meth c A) (hR : 5 ≤ R.frames ∧ 112 ≤ R.locals) {res : Mem × Int32} (S : Mem) (x1 : Int32) (x2 : Int32) (x3 : Int32) (x4 : Int32) (x5 : Int32) (x6 : Int32) (x7 : Int64) (x9 : Int32) (x10 : Int32) (y0 : Int32) {H : Heap} {locs : List Loc} {ls : Array Slot} (hP : Wd D clA (shM dA) exM A ad S H) (hS : va_S A s.heap H locs) (hl : lv_has ls 16 [(0, .ref (ad M_o)), (1, .int x1), (2, .int x2), (3, .int x3), (4, .int x4), (5, .int x5), (6, .int x6), (7, .long x7), (9, .int x9), (10, .int x10)]) (hf : f_X8_fillsStream_122 S x1 x2 x3 x4 x5 x6 x7 x9 x10 y0 = some res) : W p l e R s m args below meth c H locs 0 0 (MQ below (QiW D (shM dA) exM A ad res) args s 0 0 A) (F0 m 122 ls [.int y0]) := by
  have hx := X.hx
  have hb := X.hb
  unfold f_X8_fillsStream_122 at hf
  refine lv_istore (lv' := [(11, .int y0), (0, .ref (ad M_o)), (1, .int x1), (2, .int x2), (3, .int x3), (4, .int x4), (5, .int x5), (6, .int x6), (7, .long x7), (9, .int x9), (10, .int x10)]) hx hb dX8_fillsStream_122 hl (by decide) rfl (fun ls hl => ?_)
  refine lv_iload hx hb dX8_fillsStream_124 (lv_at hl 0 rfl) ?_
  refine gb_if_eq (tgt := 134) hx hb dX8_fillsStream_126 (by decide) hf (fun hf => ?_) (fun hf => ?_)
  · exact w_X8_fillsStream_134 X hR S x1 x2 x3 x4 x5 x6 x7 x9 y0 hP hS (lv_sub hl [1, 2, 3, 4, 5, 6, 7, 8, 9, 0] rfl) hf
  · refine lv_iload hx hb dX8_fillsStream_129 (lv_at hl 10 rfl) ?_
    refine gb_if_eq (tgt := 146) hx hb dX8_fillsStream_131 (by decide) hf (fun hf => ?_) (fun hf => ?_)
    · refine lv_iconst (v := 0) hx hb dX8_fillsStream_146 (by decide) ?_
      exact gr_zW X hP hS (Option.some.inj hf) (by decide) dX8_fillsStream_147
    · exact w_X8_fillsStream_134 X hR S x1 x2 x3 x4 x5 x6 x7 x9 y0 hP hS (lv_sub hl [1, 2, 3, 4, 5, 6, 7, 8, 9, 0] rfl) hf
set_option maxHeartbeats 4000000 in
theorem w_X8_fillsStream_110 {p : Program} {l : Launch} {e : Env} {R : Room} {s : State} {m : MethodId} {args : Array Value} {below : List Frame} {meth : Method} {c : Code} {D : va_G} {dA : Nat → ClassId} {A : Nat → Prop} {ad : L3 → Nat} (X : CX RX8 cX8_fillsStream 16 (some .boolean) (KA D dA) p s m args meth c A) (hR : 5 ≤ R.frames ∧ 112 ≤ R.locals) {res : Mem × Int32} (S : Mem) (x1 : Int32) (x2 : Int32) (x3 : Int32) (x4 : Int32) (x5 : Int32) (x6 : Int32) (x7 : Int64) (x9 : Int32) (y0 : Int32) {H : Heap} {locs : List Loc} {ls : Array Slot} (hP : Wd D clA (shM dA) exM A ad S H) (hS : va_S A s.heap H locs) (hl : lv_has ls 16 [(0, .ref (ad M_o)), (1, .int x1), (2, .int x2), (3, .int x3), (4, .int x4), (5, .int x5), (6, .int x6), (7, .long x7), (9, .int x9)]) (hf : f_X8_fillsStream_110 S x1 x2 x3 x4 x5 x6 x7 x9 y0 = some res) : W p l e R s m args below meth c H locs 0 0 (MQ below (QiW D (shM dA) exM A ad res) args s 0 0 A) (F0 m 110 ls [.int y0]) := by
  have hx := X.hx
  have hb := X.hb
  unfold f_X8_fillsStream_110 at hf
  refine lv_istore (lv' := [(10, .int y0), (0, .ref (ad M_o)), (1, .int x1), (2, .int x2), (3, .int x3), (4, .int x4), (5, .int x5), (6, .int x6), (7, .long x7), (9, .int x9)]) hx hb dX8_fillsStream_110 hl (by decide) rfl (fun ls hl => ?_)
  refine lv_iload hx hb dX8_fillsStream_112 (lv_at hl 6 rfl) ?_
  refine gb_if_ge (tgt := 121) hx hb dX8_fillsStream_114 (by decide) hf (fun hf => ?_) (fun hf => ?_)
  · refine lv_iconst (v := 0) hx hb dX8_fillsStream_121 (by decide) ?_
    exact w_X8_fillsStream_122 X hR S x1 x2 x3 x4 x5 x6 x7 x9 y0 0 hP hS (lv_sub hl [1, 2, 3, 4, 5, 6, 7, 8, 9, 0] rfl) hf
  · refine lv_iconst (v := 1) hx hb dX8_fillsStream_117 (by decide) ?_
    refine lv_goto (tgt := 122) hx hb dX8_fillsStream_118 (by decide) ?_
    exact w_X8_fillsStream_122 X hR S x1 x2 x3 x4 x5 x6 x7 x9 y0 1 hP hS (lv_sub hl [1, 2, 3, 4, 5, 6, 7, 8, 9, 0] rfl) hf
set_option maxHeartbeats 4000000 in
theorem w_X8_fillsStream_105 {p : Program} {l : Launch} {e : Env} {R : Room} {s : State} {m : MethodId} {args : Array Value} {below : List Frame} {meth : Method} {c : Code} {D : va_G} {dA : Nat → ClassId} {A : Nat → Prop} {ad : L3 → Nat} (X : CX RX8 cX8_fillsStream 16 (some .boolean) (KA D dA) p s m args meth c A) (hR : 5 ≤ R.frames ∧ 112 ≤ R.locals) {res : Mem × Int32} (S : Mem) (x1 : Int32) (x2 : Int32) (x3 : Int32) (x4 : Int32) (x5 : Int32) (x6 : Int32) (x7 : Int64) (x9 : Int32) {H : Heap} {locs : List Loc} {ls : Array Slot} (hP : Wd D clA (shM dA) exM A ad S H) (hS : va_S A s.heap H locs) (hl : lv_has ls 16 [(0, .ref (ad M_o)), (1, .int x1), (2, .int x2), (3, .int x3), (4, .int x4), (5, .int x5), (6, .int x6), (7, .long x7), (9, .int x9)]) (hf : f_X8_fillsStream_105 S x1 x2 x3 x4 x5 x6 x7 x9 = some res) : W p l e R s m args below meth c H locs 0 0 (MQ below (QiW D (shM dA) exM A ad res) args s 0 0 A) (F0 m 105 ls []) := by
  have hx := X.hx
  have hb := X.hb
  unfold f_X8_fillsStream_105 at hf
  refine lv_iconst (v := 1) hx hb dX8_fillsStream_105 (by decide) ?_
  refine lv_goto (tgt := 110) hx hb dX8_fillsStream_106 (by decide) ?_
  exact w_X8_fillsStream_110 X hR S x1 x2 x3 x4 x5 x6 x7 x9 1 hP hS (lv_sub hl [0, 1, 2, 3, 4, 5, 6, 7, 8] rfl) hf
set_option maxHeartbeats 4000000 in
theorem w_X8_fillsStream_109 {p : Program} {l : Launch} {e : Env} {R : Room} {s : State} {m : MethodId} {args : Array Value} {below : List Frame} {meth : Method} {c : Code} {D : va_G} {dA : Nat → ClassId} {A : Nat → Prop} {ad : L3 → Nat} (X : CX RX8 cX8_fillsStream 16 (some .boolean) (KA D dA) p s m args meth c A) (hR : 5 ≤ R.frames ∧ 112 ≤ R.locals) {res : Mem × Int32} (S : Mem) (x1 : Int32) (x2 : Int32) (x3 : Int32) (x4 : Int32) (x5 : Int32) (x6 : Int32) (x7 : Int64) (x9 : Int32) {H : Heap} {locs : List Loc} {ls : Array Slot} (hP : Wd D clA (shM dA) exM A ad S H) (hS : va_S A s.heap H locs) (hl : lv_has ls 16 [(0, .ref (ad M_o)), (1, .int x1), (2, .int x2), (3, .int x3), (4, .int x4), (5, .int x5), (6, .int x6), (7, .long x7), (9, .int x9)]) (hf : f_X8_fillsStream_109 S x1 x2 x3 x4 x5 x6 x7 x9 = some res) : W p l e R s m args below meth c H locs 0 0 (MQ below (QiW D (shM dA) exM A ad res) args s 0 0 A) (F0 m 109 ls []) := by
  have hx := X.hx
  have hb := X.hb
  unfold f_X8_fillsStream_109 at hf
  refine lv_iconst (v := 0) hx hb dX8_fillsStream_109 (by decide) ?_
  exact w_X8_fillsStream_110 X hR S x1 x2 x3 x4 x5 x6 x7 x9 0 hP hS (lv_sub hl [0, 1, 2, 3, 4, 5, 6, 7, 8] rfl) hf
set_option maxHeartbeats 4000000 in
theorem w_X8_fillsStream_66 {p : Program} {l : Launch} {e : Env} {R : Room} {s : State} {m : MethodId} {args : Array Value} {below : List Frame} {meth : Method} {c : Code} {D : va_G} {dA : Nat → ClassId} {A : Nat → Prop} {ad : L3 → Nat} (X : CX RX8 cX8_fillsStream 16 (some .boolean) (KA D dA) p s m args meth c A) (hR : 5 ≤ R.frames ∧ 112 ≤ R.locals) {res : Mem × Int32} (S : Mem) (x1 : Int32) (x2 : Int32) (x3 : Int32) (x4 : Int32) (x5 : Int32) (x6 : Int32) (x7 : Int64) {H : Heap} {locs : List Loc} {ls : Array Slot} (hP : Wd D clA (shM dA) exM A ad S H) (hS : va_S A s.heap H locs) (hl : lv_has ls 16 [(0, .ref (ad M_o)), (1, .int x1), (2, .int x2), (3, .int x3), (4, .int x4), (5, .int x5), (6, .int x6), (7, .long x7)]) (hf : f_X8_fillsStream_66 S x1 x2 x3 x4 x5 x6 x7 = some res) : W p l e R s m args below meth c H locs 0 0 (MQ below (QiW D (shM dA) exM A ad res) args s 0 0 A) (F0 m 66 ls []) := by
  have hx := X.hx
  have hb := X.hb
  unfold f_X8_fillsStream_66 at hf
  refine lv_aload_n hx hb dX8_fillsStream_66 rfl (lv_at hl 0 rfl) ?_
  refine lv_iload_n hx hb dX8_fillsStream_67 rfl (lv_at hl 1 rfl) ?_
  refine lv_iload_n hx hb dX8_fillsStream_68 rfl (lv_at hl 2 rfl) ?_
  obtain ⟨v1, hq, hf⟩ := gB_some hf
  refine gc_i (gc_fixV (S := S) X (mt_X8_written l D dA A ad S x1 x2 hq) (lw_V q1323 q1325 qs43 q93 q1326) ⟨rfl, rfl⟩ hd_X8_written ⟨Nat.le_trans (Nat.le_of_ble_eq_true rfl) hR.1, Nat.le_trans (Nat.le_of_ble_eq_true rfl) hR.2⟩ (wd_recv (r := M_o) (ci := 0) (q := (RX8, TX8, 61)) X.hK.1 hP ⟨rfl, rfl⟩ rfl rfl) hP hS ⟨Nat.zero_le _, Nat.zero_le _⟩ rfl hl.1 rfl (Nat.le_of_ble_eq_true rfl) dX8_fillsStream_69) hS ?_
  rintro _ _ H locs ⟨rfl, rfl⟩ hP hS
  refine lv_istore (lv' := [(9, .int v1), (0, .ref (ad M_o)), (1, .int x1), (2, .int x2), (3, .int x3), (4, .int x4), (5, .int x5), (6, .int x6), (7, .long x7)]) hx hb dX8_fillsStream_72 hl (by decide) rfl (fun ls hl => ?_)
  refine lv_aload_n hx hb dX8_fillsStream_74 rfl (lv_at hl 1 rfl) ?_
  refine rg_X8_57 X hP dX8_fillsStream_75 ?_
  refine lv_iload hx hb dX8_fillsStream_78 (lv_at hl 5 rfl) ?_
  refine ra_finished_ld X hP dX8_fillsStream_80 hf (fun hf => ?_)
  refine gb_if_eq (tgt := 109) hx hb dX8_fillsStream_81 (by decide) hf (fun hf => ?_) (fun hf => ?_)
  · exact w_X8_fillsStream_109 X hR S x1 x2 x3 x4 x5 x6 x7 v1 hP hS (lv_sub hl [1, 2, 3, 4, 5, 6, 7, 8, 0] rfl) hf
  · refine lv_aload_n hx hb dX8_fillsStream_84 rfl (lv_at hl 1 rfl) ?_
    refine rg_X8_60 X hP dX8_fillsStream_85 ?_
    refine lv_iload hx hb dX8_fillsStream_88 (lv_at hl 5 rfl) ?_
    refine ra_end_ld X hP dX8_fillsStream_90 hf (fun hf => ?_)
    refine gb_if_eq (tgt := 105) hx hb dX8_fillsStream_91 (by decide) hf (fun hf => ?_) (fun hf => ?_)
    · exact w_X8_fillsStream_105 X hR S x1 x2 x3 x4 x5 x6 x7 v1 hP hS (lv_sub hl [1, 2, 3, 4, 5, 6, 7, 8, 0] rfl) hf
    · refine lv_aload_n hx hb dX8_fillsStream_94 rfl (lv_at hl 1 rfl) ?_
      refine rg_X8_60 X hP dX8_fillsStream_95 ?_
      refine lv_iload hx hb dX8_fillsStream_98 (lv_at hl 5 rfl) ?_
      refine ra_end_ld X hP dX8_fillsStream_100 hf (fun hf => ?_)
      refine lv_iconst (v := 2) hx hb dX8_fillsStream_101 (by decide) ?_
      refine gb_icmp_ne (tgt := 109) hx hb dX8_fillsStream_102 (by decide) hf (fun hf => ?_) (fun hf => ?_)
      · exact w_X8_fillsStream_109 X hR S x1 x2 x3 x4 x5 x6 x7 v1 hP hS (lv_sub hl [1, 2, 3, 4, 5, 6, 7, 8, 0] rfl) hf
      · exact w_X8_fillsStream_105 X hR S x1 x2 x3 x4 x5 x6 x7 v1 hP hS (lv_sub hl [1, 2, 3, 4, 5, 6, 7, 8, 0] rfl) hf
set_option maxHeartbeats 4000000 in
theorem w_X8_fillsStream_37 {p : Program} {l : Launch} {e : Env} {R : Room} {s : State} {m : MethodId} {args : Array Value} {below : List Frame} {meth : Method} {c : Code} {D : va_G} {dA : Nat → ClassId} {A : Nat → Prop} {ad : L3 → Nat} (X : CX RX8 cX8_fillsStream 16 (some .boolean) (KA D dA) p s m args meth c A) (hR : 5 ≤ R.frames ∧ 112 ≤ R.locals) {res : Mem × Int32} (S : Mem) (x1 : Int32) (x2 : Int32) (x3 : Int32) (x4 : Int32) (x5 : Int32) (y0 : Int32) {H : Heap} {locs : List Loc} {ls : Array Slot} (hP : Wd D clA (shM dA) exM A ad S H) (hS : va_S A s.heap H locs) (hl : lv_has ls 16 [(0, .ref (ad M_o)), (1, .int x1), (2, .int x2), (3, .int x3), (4, .int x4), (5, .int x5)]) (hf : f_X8_fillsStream_37 S x1 x2 x3 x4 x5 y0 = some res) : W p l e R s m args below meth c H locs 0 0 (MQ below (QiW D (shM dA) exM A ad res) args s 0 0 A) (F0 m 37 ls [.int y0]) := by
  have hx := X.hx
  have hb := X.hb
  unfold f_X8_fillsStream_37 at hf
  refine lv_istore (lv' := [(6, .int y0), (0, .ref (ad M_o)), (1, .int x1), (2, .int x2), (3, .int x3), (4, .int x4), (5, .int x5)]) hx hb dX8_fillsStream_37 hl (by decide) rfl (fun ls hl => ?_)
  refine lv_ldc2 hx hb X.hown (X.hts _ q1392) dX8_fillsStream_39 ?_
  refine lv_lstore (lv' := [(7, .long 65536), (6, .int y0), (0, .ref (ad M_o)), (1, .int x1), (2, .int x2), (3, .int x3), (4, .int x4), (5, .int x5)]) hx hb dX8_fillsStream_42 hl (by decide) rfl (fun ls hl => ?_)
  refine lv_iload hx hb dX8_fillsStream_44 (lv_at hl 7 rfl) ?_
  refine gb_if_ge (tgt := 66) hx hb dX8_fillsStream_46 (by decide) hf (fun hf => ?_) (fun hf => ?_)
  · exact w_X8_fillsStream_66 X hR S x1 x2 x3 x4 x5 y0 65536 hP hS (lv_sub hl [2, 3, 4, 5, 6, 7, 1, 0] rfl) hf
  · refine lv_aload_n hx hb dX8_fillsStream_49 rfl (lv_at hl 2 rfl) ?_
    refine lv_iload_n hx hb dX8_fillsStream_50 rfl (lv_at hl 3 rfl) ?_
    refine lv_iload_n hx hb dX8_fillsStream_51 rfl (lv_at hl 4 rfl) ?_
    refine lv_iconst (v := 0) hx hb dX8_fillsStream_52 (by decide) ?_
    obtain ⟨v1, hq, hf⟩ := gB_some hf
    refine gc_i (gc_fixV (S := S) X (mt_X8_firstIn l D dA A ad S x1 x2 (0 : Int32) hq) (lw_V q1500 q1502 qs76 q93 q1503) ⟨rfl, rfl⟩ hd_X8_firstIn ⟨Nat.le_trans (Nat.le_of_ble_eq_true rfl) hR.1, Nat.le_trans (Nat.le_of_ble_eq_true rfl) hR.2⟩ (wd_recv (r := M_o) (ci := 0) (q := (RX8, TX8, 61)) X.hK.1 hP ⟨rfl, rfl⟩ rfl rfl) hP hS ⟨Nat.zero_le _, Nat.zero_le _⟩ rfl hl.1 rfl (Nat.le_of_ble_eq_true rfl) dX8_fillsStream_53) hS ?_
    rintro _ _ H locs ⟨rfl, rfl⟩ hP hS
    refine lv_istore (lv' := [(5, .int v1), (7, .long 65536), (6, .int y0), (0, .ref (ad M_o)), (1, .int x1), (2, .int x2), (3, .int x3), (4, .int x4)]) hx hb dX8_fillsStream_56 hl (by decide) rfl (fun ls hl => ?_)
    refine lv_aload_n hx hb dX8_fillsStream_58 rfl (lv_at hl 3 rfl) ?_
    refine lv_iload_n hx hb dX8_fillsStream_59 rfl (lv_at hl 4 rfl) ?_
    refine lv_iload_n hx hb dX8_fillsStream_60 rfl (lv_at hl 5 rfl) ?_
    obtain ⟨v2, hq, hf⟩ := gB_some hf
    refine gc_l (gc_fixV (S := S) X (mt_X8_allowed l D dA A ad S x1 x2 hq) (lw_V q1504 q1506 qs77 q93 q1507) ⟨rfl, rfl⟩ hd_X8_allowed ⟨Nat.le_trans (Nat.le_of_ble_eq_true rfl) hR.1, Nat.le_trans (Nat.le_of_ble_eq_true rfl) hR.2⟩ (wd_recv (r := M_o) (ci := 0) (q := (RX8, TX8, 61)) X.hK.1 hP ⟨rfl, rfl⟩ rfl rfl) hP hS ⟨Nat.zero_le _, Nat.zero_le _⟩ rfl hl.1 rfl (Nat.le_of_ble_eq_true rfl) dX8_fillsStream_61) hS ?_
    rintro _ _ H locs ⟨rfl, rfl⟩ hP hS
    refine lv_lstore (lv' := [(7, .long v2), (5, .int v1), (6, .int y0), (0, .ref (ad M_o)), (1, .int x1), (2, .int x2), (3, .int x3), (4, .int x4)]) hx hb dX8_fillsStream_64 hl (by decide) rfl (fun ls hl => ?_)
    exact w_X8_fillsStream_66 X hR S x1 x2 x3 x4 v1 y0 v2 hP hS (lv_sub hl [3, 4, 5, 6, 7, 1, 2, 0] rfl) hf
set_option maxHeartbeats 4000000 in
theorem w_X8_fillsStream {p : Program} {l : Launch} {e : Env} {R : Room} {s : State} {m : MethodId} {args : Array Value} {below : List Frame} {meth : Method} {c : Code} {D : va_G} {dA : Nat → ClassId} {A : Nat → Prop} {ad : L3 → Nat} (X : CX RX8 cX8_fillsStream 16 (some .boolean) (KA D dA) p s m args meth c A) (hR : 5 ≤ R.frames ∧ 112 ≤ R.locals) {res : Mem × Int32} (S : Mem) (x1 : Int32) (x2 : Int32) (x3 : Int32) {H : Heap} {locs : List Loc} {ls : Array Slot} (hP : Wd D clA (shM dA) exM A ad S H) (hS : va_S A s.heap H locs) (hl : lv_has ls 16 [(0, .ref (ad M_o)), (1, .int x1), (2, .int x2), (3, .int x3)]) (hf : f_X8_fillsStream S x1 x2 x3 = some res) : W p l e R s m args below meth c H locs 0 0 (MQ below (QiW D (shM dA) exM A ad res) args s 0 0 A) (F0 m 0 ls []) := by
  have hx := X.hx
  have hb := X.hb
  unfold f_X8_fillsStream at hf
  refine lv_aload_n hx hb dX8_fillsStream_0 rfl (lv_at hl 0 rfl) ?_
  refine lv_iload_n hx hb dX8_fillsStream_1 rfl (lv_at hl 1 rfl) ?_
  refine lv_iload_n hx hb dX8_fillsStream_2 rfl (lv_at hl 2 rfl) ?_
  obtain ⟨v1, hq, hf⟩ := gB_some hf
  refine gc_i (gc_fixV (S := S) X (mt_X8_isOpenSending l D dA A ad S x1 x2 hq) (lw_V q1336 q1338 qs44 q93 q1339) ⟨rfl, rfl⟩ hd_X8_isOpenSending ⟨Nat.le_trans (Nat.le_of_ble_eq_true rfl) hR.1, Nat.le_trans (Nat.le_of_ble_eq_true rfl) hR.2⟩ (wd_recv (r := M_o) (ci := 0) (q := (RX8, TX8, 61)) X.hK.1 hP ⟨rfl, rfl⟩ rfl rfl) hP hS ⟨Nat.zero_le _, Nat.zero_le _⟩ rfl hl.1 rfl (Nat.le_of_ble_eq_true rfl) dX8_fillsStream_3) hS ?_
  rintro _ _ H locs ⟨rfl, rfl⟩ hP hS
  refine gb_if_ne (tgt := 11) hx hb dX8_fillsStream_6 (by decide) hf (fun hf => ?_) (fun hf => ?_)
  · refine lv_iload_n hx hb dX8_fillsStream_11 rfl (lv_at hl 1 rfl) ?_
    refine lv_iload_n hx hb dX8_fillsStream_12 rfl (lv_at hl 2 rfl) ?_
    obtain ⟨v2, hq, hf⟩ := gS_eq hf
    refine gc_i (gc_fixS (S := S) X (mt_X8_at l D dA A ad S x1 x2 hq) (lw_S q1283 q1284 q93 q1285) ⟨rfl, rfl⟩ hd_X8_at.2 ⟨Nat.le_trans (Nat.le_of_ble_eq_true rfl) hR.1, Nat.le_trans (Nat.le_of_ble_eq_true rfl) hR.2⟩ hP hS ⟨Nat.zero_le _, Nat.zero_le _⟩ rfl hl.1 rfl (Nat.le_of_ble_eq_true rfl) dX8_fillsStream_13) hS ?_
    rintro _ _ H locs ⟨rfl, rfl⟩ hP hS
    refine lv_istore (lv' := [(4, .int v2), (0, .ref (ad M_o)), (1, .int x1), (2, .int x2), (3, .int x3)]) hx hb dX8_fillsStream_16 hl (by decide) rfl (fun ls hl => ?_)
    refine lv_aload_n hx hb dX8_fillsStream_18 rfl (lv_at hl 1 rfl) ?_
    refine lv_iload_n hx hb dX8_fillsStream_19 rfl (lv_at hl 2 rfl) ?_
    refine lv_iload_n hx hb dX8_fillsStream_20 rfl (lv_at hl 3 rfl) ?_
    refine lv_iconst (v := 2) hx hb dX8_fillsStream_21 (by decide) ?_
    obtain ⟨v3, hq, hf⟩ := gB_some hf
    refine gc_i (gc_fixV (S := S) X (mt_X8_firstIn l D dA A ad S x1 x2 (2 : Int32) hq) (lw_V q1500 q1502 qs76 q93 q1503) ⟨rfl, rfl⟩ hd_X8_firstIn ⟨Nat.le_trans (Nat.le_of_ble_eq_true rfl) hR.1, Nat.le_trans (Nat.le_of_ble_eq_true rfl) hR.2⟩ (wd_recv (r := M_o) (ci := 0) (q := (RX8, TX8, 61)) X.hK.1 hP ⟨rfl, rfl⟩ rfl rfl) hP hS ⟨Nat.zero_le _, Nat.zero_le _⟩ rfl hl.1 rfl (Nat.le_of_ble_eq_true rfl) dX8_fillsStream_22) hS ?_
    rintro _ _ H locs ⟨rfl, rfl⟩ hP hS
    refine lv_istore (lv' := [(5, .int v3), (4, .int v2), (0, .ref (ad M_o)), (1, .int x1), (2, .int x2), (3, .int x3)]) hx hb dX8_fillsStream_25 hl (by decide) rfl (fun ls hl => ?_)
    refine lv_iload hx hb dX8_fillsStream_27 (lv_at hl 0 rfl) ?_
    refine gb_if_lt (tgt := 36) hx hb dX8_fillsStream_29 (by decide) hf (fun hf => ?_) (fun hf => ?_)
    · refine lv_iconst (v := 0) hx hb dX8_fillsStream_36 (by decide) ?_
      exact w_X8_fillsStream_37 X hR S x1 x2 x3 v2 v3 0 hP hS (lv_sub hl [2, 3, 4, 5, 1, 0] rfl) hf
    · refine lv_iconst (v := 2) hx hb dX8_fillsStream_32 (by decide) ?_
      refine lv_goto (tgt := 37) hx hb dX8_fillsStream_33 (by decide) ?_
      exact w_X8_fillsStream_37 X hR S x1 x2 x3 v2 v3 2 hP hS (lv_sub hl [2, 3, 4, 5, 1, 0] rfl) hf
  · refine lv_iconst (v := 0) hx hb dX8_fillsStream_9 (by decide) ?_
    exact gr_zW X hP hS (Option.some.inj hf) (by decide) dX8_fillsStream_10
theorem hd_X8_fillsStream : yX8_fillsStream.cls = RX8 ∧ yX8_fillsStream.cls ≠ "java/lang/invoke/MethodHandle" ∧ yX8_fillsStream.cls ≠ "java/lang/invoke/VarHandle" ∧ (parseMethodDescriptor yX8_fillsStream.desc).map (fun d => d.parameters.length) = some 3 := by decide +kernel
set_option maxHeartbeats 4000000 in
theorem mt_X8_fillsStream (l : Launch) (D : va_G) (dA : Nat → ClassId) (A : Nat → Prop) (ad : L3 → Nat) (S : Mem) (x1 : Int32) (x2 : Int32) (x3 : Int32) {res : Mem × Int32} (hq : f_X8_fillsStream S x1 x2 x3 = some res) : Met l yX8_fillsStream (ws_ yX8_fillsStream cX8_fillsStream 16 (some .boolean)) ({ frames := 5, cells := 0, slots := 0, locals := 112 } : Room) (va_Pc [.ref (ad M_o), .int x1, .int x2, .int x3] (PreW D dA (shM dA) exM A ad S)) (QiW D (shM dA) exM A ad res) 0 0 A :=
  gx_head (by decide) (Nat.le_of_ble_eq_true rfl) (fun p e s m below meth c ls X hP hl => w_X8_fillsStream (l := l) X ⟨Nat.le_of_ble_eq_true rfl, Nat.le_of_ble_eq_true rfl⟩ S x1 x2 x3 hP va_S.rf (lv_sub (l := [(0, .ref (ad M_o)), (1, .int x1), (2, .int x2), (3, .int x3)]) hl [0, 1, 2, 3] rfl) hq)
set_option maxHeartbeats 4000000 in
theorem w_X8_fills_31_b {p : Program} {l : Launch} {e : Env} {R : Room} {s : State} {m : MethodId} {args : Array Value} {below : List Frame} {meth : Method} {c : Code} {D : va_G} {dA : Nat → ClassId} {A : Nat → Prop} {ad : L3 → Nat} (X : CX RX8 cX8_fills 5 (some .boolean) (KA D dA) p s m args meth c A) (hR : 7 ≤ R.frames ∧ 159 ≤ R.locals) {res : Mem × Int32} (k31 : Mem → Int32 → Int32 → Int32 → Option (Mem × Int32)) (hk31 : ∀ (S : Mem) (x1 : Int32) (x2 : Int32) (x3 : Int32) (H : Heap) (locs : List Loc) (ls : Array Slot), Wd D clA (shM dA) exM A ad S H → va_S A s.heap H locs → lv_has ls 5 [(0, .ref (ad M_o)), (1, .int x1), (2, .int x2), (3, .int x3)] → k31 S x1 x2 x3 = some res → W p l e R s m args below meth c H locs 0 0 (MQ below (QiW D (shM dA) exM A ad res) args s 0 0 A) (F0 m 31 ls [])) (S : Mem) (x1 : Int32) (x2 : Int32) (x3 : Int32) {H : Heap} {locs : List Loc} {ls : Array Slot} (hP : Wd D clA (shM dA) exM A ad S H) (hS : va_S A s.heap H locs) (hl : lv_has ls 5 [(0, .ref (ad M_o)), (1, .int x1), (2, .int x2), (3, .int x3)]) (hf : f_X8_fills_31_b k31 S x1 x2 x3 = some res) : W p l e R s m args below meth c H locs 0 0 (MQ below (QiW D (shM dA) exM A ad res) args s 0 0 A) (F0 m 31 ls []) := by
  have hx := X.hx
  have hb := X.hb
  unfold f_X8_fills_31_b at hf
  refine lv_iload_n hx hb dX8_fills_31 rfl (lv_at hl 3 rfl) ?_
  refine lv_sipush (v := 256) hx hb dX8_fills_32 (by decide) ?_
  refine gb_icmp_gt (tgt := 83) hx hb dX8_fills_35 (by decide) hf (fun hf => ?_) (fun hf => ?_)
  · refine lv_iconst (v := 0) hx hb dX8_fills_83 (by decide) ?_
    exact gr_zW X hP hS (Option.some.inj hf) (by decide) dX8_fills_84
  · refine lv_aload_n hx hb dX8_fills_38 rfl (lv_at hl 0 rfl) ?_
    refine rg_X8_48 X hP dX8_fills_39 ?_
    refine lv_iload_n hx hb dX8_fills_42 rfl (lv_at hl 1 rfl) ?_
    refine ra_lastStream_ld X hP dX8_fills_43 hf (fun hf => ?_)
    refine lv_iload_n hx hb dX8_fills_44 rfl (lv_at hl 3 rfl) ?_
    refine lv_iadd hx hb dX8_fills_45 ?_
    refine lv_sipush (v := 256) hx hb dX8_fills_46 (by decide) ?_
    refine lv_iadd hx hb dX8_fills_49 ?_
    refine lv_sipush (v := 256) hx hb dX8_fills_50 (by decide) ?_
    refine lv_irem hx hb dX8_fills_53 (by decide) ?_
    refine lv_istore (lv' := [(4, .int ((((S.1 M_lastStream (Int32.toNatClampNeg x1)) + x3) + 256) - (((S.1 M_lastStream (Int32.toNatClampNeg x1)) + x3) + 256) / 256 * 256)), (0, .ref (ad M_o)), (1, .int x1), (2, .int x2), (3, .int x3)]) hx hb dX8_fills_54 hl (by decide) rfl (fun ls hl => ?_)
    refine lv_aload_n hx hb dX8_fills_56 rfl (lv_at hl 1 rfl) ?_
    refine lv_iload_n hx hb dX8_fills_57 rfl (lv_at hl 2 rfl) ?_
    refine lv_iload hx hb dX8_fills_58 (lv_at hl 0 rfl) ?_
    refine lv_iload_n hx hb dX8_fills_60 rfl (lv_at hl 3 rfl) ?_
    obtain ⟨S1, v2, hq, hf⟩ := gB2_some hf
    refine gc_i (gc_fixV (S := S) X (mt_X8_fillsStream l D dA A ad S x1 ((((S.1 M_lastStream (Int32.toNatClampNeg x1)) + x3) + 256) - (((S.1 M_lastStream (Int32.toNatClampNeg x1)) + x3) + 256) / 256 * 256) x2 hq) (lw_V q1496 q1498 qs75 q93 q1499) ⟨rfl, rfl⟩ hd_X8_fillsStream ⟨Nat.le_trans (Nat.le_of_ble_eq_true rfl) hR.1, Nat.le_trans (Nat.le_of_ble_eq_true rfl) hR.2⟩ (wd_recv (r := M_o) (ci := 0) (q := (RX8, TX8, 61)) X.hK.1 hP ⟨rfl, rfl⟩ rfl rfl) hP hS ⟨Nat.zero_le _, Nat.zero_le _⟩ rfl hl.1 rfl (Nat.le_of_ble_eq_true rfl) dX8_fills_61) hS ?_
    rintro _ _ H locs ⟨⟩ hP hS
    refine gb_if_eq (tgt := 77) hx hb dX8_fills_64 (by decide) hf (fun hf => ?_) (fun hf => ?_)
    · refine lv_iinc (v := (x3 + 1)) (lv' := [(3, .int (x3 + 1)), (4, .int ((((S.1 M_lastStream (Int32.toNatClampNeg x1)) + x3) + 256) - (((S.1 M_lastStream (Int32.toNatClampNeg x1)) + x3) + 256) / 256 * 256)), (0, .ref (ad M_o)), (1, .int x1), (2, .int x2)]) hx hb dX8_fills_77 hl (k := 4) rfl rfl (by decide) rfl (fun ls hl => ?_)
      refine lv_goto (tgt := 31) hx hb dX8_fills_80 (by decide) ?_
      exact hk31 S1 x1 x2 (x3 + 1) _ _ _ hP hS (lv_sub hl [2, 3, 4, 0] rfl) hf
    · refine lv_aload_n hx hb dX8_fills_67 rfl (lv_at hl 1 rfl) ?_
      refine rg_X8_48 X hP dX8_fills_68 ?_
      refine lv_iload_n hx hb dX8_fills_71 rfl (lv_at hl 2 rfl) ?_
      refine lv_iload hx hb dX8_fills_72 (lv_at hl 0 rfl) ?_
      refine ra_lastStream_st X hP hS dX8_fills_74 hf (fun S3 H locs hP hS hf => ?_)
      refine lv_iconst (v := 1) hx hb dX8_fills_75 (by decide) ?_
      exact gr_zW X hP hS (Option.some.inj hf) (by decide) dX8_fills_76
set_option maxHeartbeats 4000000 in
theorem w_X8_fills_31 {p : Program} {l : Launch} {e : Env} {R : Room} {s : State} {m : MethodId} {args : Array Value} {below : List Frame} {meth : Method} {c : Code} {D : va_G} {dA : Nat → ClassId} {A : Nat → Prop} {ad : L3 → Nat} (X : CX RX8 cX8_fills 5 (some .boolean) (KA D dA) p s m args meth c A) (hR : 7 ≤ R.frames ∧ 159 ≤ R.locals) {res : Mem × Int32} (n : Nat) : ∀ (S : Mem) (x1 : Int32) (x2 : Int32) (x3 : Int32) (H : Heap) (locs : List Loc) (ls : Array Slot), Wd D clA (shM dA) exM A ad S H → va_S A s.heap H locs → lv_has ls 5 [(0, .ref (ad M_o)), (1, .int x1), (2, .int x2), (3, .int x3)] → f_X8_fills_31 n S x1 x2 x3 = some res → W p l e R s m args below meth c H locs 0 0 (MQ below (QiW D (shM dA) exM A ad res) args s 0 0 A) (F0 m 31 ls []) := by
  induction n with
  | zero =>
    intro S x1 x2 x3 H locs ls hP hS hl hf
    exact absurd (show none = some res from hf) (fun h => by cases h)
  | succ n ih =>
    intro S x1 x2 x3 H locs ls hP hS hl hf
    exact w_X8_fills_31_b X hR (f_X8_fills_31 n) ih S x1 x2 x3 hP hS hl hf
set_option maxHeartbeats 4000000 in
theorem w_X8_fills {p : Program} {l : Launch} {e : Env} {R : Room} {s : State} {m : MethodId} {args : Array Value} {below : List Frame} {meth : Method} {c : Code} {D : va_G} {dA : Nat → ClassId} {A : Nat → Prop} {ad : L3 → Nat} (X : CX RX8 cX8_fills 5 (some .boolean) (KA D dA) p s m args meth c A) (hR : 7 ≤ R.frames ∧ 159 ≤ R.locals) {res : Mem × Int32} (S : Mem) (x1 : Int32) (x2 : Int32) {H : Heap} {locs : List Loc} {ls : Array Slot} (hP : Wd D clA (shM dA) exM A ad S H) (hS : va_S A s.heap H locs) (hl : lv_has ls 5 [(0, .ref (ad M_o)), (1, .int x1), (2, .int x2)]) (hf : f_X8_fills S x1 x2 = some res) : W p l e R s m args below meth c H locs 0 0 (MQ below (QiW D (shM dA) exM A ad res) args s 0 0 A) (F0 m 0 ls []) := by
  have hx := X.hx
  have hb := X.hb
  unfold f_X8_fills at hf
  refine lv_aload_n hx hb dX8_fills_0 rfl (lv_at hl 0 rfl) ?_
  refine lv_iload_n hx hb dX8_fills_1 rfl (lv_at hl 1 rfl) ?_
  refine lv_iload_n hx hb dX8_fills_2 rfl (lv_at hl 2 rfl) ?_
  obtain ⟨S1, v2, hq, hf⟩ := gB2_some hf
  refine gc_i (gc_fixV (S := S) X (mt_X8_fillsResets l D dA A ad S x1 x2 hq) (lw_V q1459 q1461 qs67 q93 q1462) ⟨rfl, rfl⟩ hd_X8_fillsResets ⟨Nat.le_trans (Nat.le_of_ble_eq_true rfl) hR.1, Nat.le_trans (Nat.le_of_ble_eq_true rfl) hR.2⟩ (wd_recv (r := M_o) (ci := 0) (q := (RX8, TX8, 61)) X.hK.1 hP ⟨rfl, rfl⟩ rfl rfl) hP hS ⟨Nat.zero_le _, Nat.zero_le _⟩ rfl hl.1 rfl (Nat.le_of_ble_eq_true rfl) dX8_fills_3) hS ?_
  rintro _ _ H locs ⟨⟩ hP hS
  refine gb_if_ne (tgt := 27) hx hb dX8_fills_6 (by decide) hf (fun hf => ?_) (fun hf => ?_)
  · refine lv_iconst (v := 1) hx hb dX8_fills_27 (by decide) ?_
    exact gr_zW X hP hS (Option.some.inj hf) (by decide) dX8_fills_28
  · refine lv_aload_n hx hb dX8_fills_9 rfl (lv_at hl 0 rfl) ?_
    refine lv_iload_n hx hb dX8_fills_10 rfl (lv_at hl 1 rfl) ?_
    refine lv_iload_n hx hb dX8_fills_11 rfl (lv_at hl 2 rfl) ?_
    obtain ⟨S3, v4, hq, hf⟩ := gB2_some hf
    refine gc_i (gc_fixV (S := S1) X (mt_X8_fillsGrants l D dA A ad S1 x1 x2 hq) (lw_V q1480 q1482 qs71 q93 q1483) ⟨rfl, rfl⟩ hd_X8_fillsGrants ⟨Nat.le_trans (Nat.le_of_ble_eq_true rfl) hR.1, Nat.le_trans (Nat.le_of_ble_eq_true rfl) hR.2⟩ (wd_recv (r := M_o) (ci := 0) (q := (RX8, TX8, 61)) X.hK.1 hP ⟨rfl, rfl⟩ rfl rfl) hP hS ⟨Nat.zero_le _, Nat.zero_le _⟩ rfl hl.1 rfl (Nat.le_of_ble_eq_true rfl) dX8_fills_12) hS ?_
    rintro _ _ H locs ⟨⟩ hP hS
    refine gb_if_ne (tgt := 27) hx hb dX8_fills_15 (by decide) hf (fun hf => ?_) (fun hf => ?_)
    · refine lv_iconst (v := 1) hx hb dX8_fills_27 (by decide) ?_
      exact gr_zW X hP hS (Option.some.inj hf) (by decide) dX8_fills_28
    · refine lv_aload_n hx hb dX8_fills_18 rfl (lv_at hl 0 rfl) ?_
      refine lv_iload_n hx hb dX8_fills_19 rfl (lv_at hl 1 rfl) ?_
      refine lv_iload_n hx hb dX8_fills_20 rfl (lv_at hl 2 rfl) ?_
      obtain ⟨S5, v6, hq, hf⟩ := gB2_some hf
      refine gc_i (gc_fixV (S := S3) X (mt_X8_fillsBlocked l D dA A ad S3 x1 x2 hq) (lw_V q1484 q1486 qs72 q93 q1487) ⟨rfl, rfl⟩ hd_X8_fillsBlocked ⟨Nat.le_trans (Nat.le_of_ble_eq_true rfl) hR.1, Nat.le_trans (Nat.le_of_ble_eq_true rfl) hR.2⟩ (wd_recv (r := M_o) (ci := 0) (q := (RX8, TX8, 61)) X.hK.1 hP ⟨rfl, rfl⟩ rfl rfl) hP hS ⟨Nat.zero_le _, Nat.zero_le _⟩ rfl hl.1 rfl (Nat.le_of_ble_eq_true rfl) dX8_fills_21) hS ?_
      rintro _ _ H locs ⟨⟩ hP hS
      refine gb_if_eq (tgt := 29) hx hb dX8_fills_24 (by decide) hf (fun hf => ?_) (fun hf => ?_)
      · refine lv_iconst (v := 1) hx hb dX8_fills_29 (by decide) ?_
        refine lv_istore_n (lv' := [(3, .int 1), (0, .ref (ad M_o)), (1, .int x1), (2, .int x2)]) hx hb dX8_fills_30 rfl hl (by decide) rfl (fun ls hl => ?_)
        exact w_X8_fills_31 X hR FU S5 x1 x2 1 _ _ _ hP hS (lv_sub hl [1, 2, 3, 0] rfl) hf
      · refine lv_iconst (v := 1) hx hb dX8_fills_27 (by decide) ?_
        exact gr_zW X hP hS (Option.some.inj hf) (by decide) dX8_fills_28
theorem hd_X8_fills : yX8_fills.cls = RX8 ∧ yX8_fills.cls ≠ "java/lang/invoke/MethodHandle" ∧ yX8_fills.cls ≠ "java/lang/invoke/VarHandle" ∧ (parseMethodDescriptor yX8_fills.desc).map (fun d => d.parameters.length) = some 2 := by decide +kernel
set_option maxHeartbeats 4000000 in
theorem mt_X8_fills (l : Launch) (D : va_G) (dA : Nat → ClassId) (A : Nat → Prop) (ad : L3 → Nat) (S : Mem) (x1 : Int32) (x2 : Int32) {res : Mem × Int32} (hq : f_X8_fills S x1 x2 = some res) : Met l yX8_fills (ws_ yX8_fills cX8_fills 5 (some .boolean)) ({ frames := 7, cells := 0, slots := 0, locals := 159 } : Room) (va_Pc [.ref (ad M_o), .int x1, .int x2] (PreW D dA (shM dA) exM A ad S)) (QiW D (shM dA) exM A ad res) 0 0 A :=
  gx_head (by decide) (Nat.le_of_ble_eq_true rfl) (fun p e s m below meth c ls X hP hl => w_X8_fills (l := l) X ⟨Nat.le_of_ble_eq_true rfl, Nat.le_of_ble_eq_true rfl⟩ S x1 x2 hP va_S.rf (lv_sub (l := [(0, .ref (ad M_o)), (1, .int x1), (2, .int x2)]) hl [0, 1, 2] rfl) hq)
set_option maxHeartbeats 4000000 in
theorem w_X8_fill_161_b {p : Program} {l : Launch} {e : Env} {R : Room} {s : State} {m : MethodId} {args : Array Value} {below : List Frame} {meth : Method} {c : Code} {D : va_G} {dA : Nat → ClassId} {A : Nat → Prop} {ad : L3 → Nat} (X : CX RX8 cX8_fill 5 (some .int) (KA D dA) p s m args meth c A) (hR : 8 ≤ R.frames ∧ 183 ≤ R.locals) {res : Mem × Int32} (k161 : Mem → Int32 → Int32 → Option (Mem × Int32)) (hk161 : ∀ (S : Mem) (x3 : Int32) (x4 : Int32) (H : Heap) (locs : List Loc) (ls : Array Slot), Wd D clA (shM dA) exM A ad S H → va_S A s.heap H locs → lv_has ls 5 [(0, .ref (ad M_o)), (3, .int x3), (4, .int x4)] → k161 S x3 x4 = some res → W p l e R s m args below meth c H locs 0 0 (MQ below (QiW D (shM dA) exM A ad res) args s 0 0 A) (F0 m 161 ls [])) (S : Mem) (x3 : Int32) (x4 : Int32) {H : Heap} {locs : List Loc} {ls : Array Slot} (hP : Wd D clA (shM dA) exM A ad S H) (hS : va_S A s.heap H locs) (hl : lv_has ls 5 [(0, .ref (ad M_o)), (3, .int x3), (4, .int x4)]) (hf : f_X8_fill_161_b k161 S x3 x4 = some res) : W p l e R s m args below meth c H locs 0 0 (MQ below (QiW D (shM dA) exM A ad res) args s 0 0 A) (F0 m 161 ls []) := by
  have hx := X.hx
  have hb := X.hb
  unfold f_X8_fill_161_b at hf
  refine lv_iload hx hb dX8_fill_161 (lv_at hl 2 rfl) ?_
  refine lv_aload_n hx hb dX8_fill_163 rfl (lv_at hl 0 rfl) ?_
  refine rg_X8_319 X hP dX8_fill_164 ?_
  refine gb_icmp_ge (tgt := 196) hx hb dX8_fill_167 (by decide) hf (fun hf => ?_) (fun hf => ?_)
  · refine lv_iload_n hx hb dX8_fill_196 rfl (lv_at hl 1 rfl) ?_
    exact gr_iW X hP hS (Option.some.inj hf) dX8_fill_197
  · refine lv_aload_n hx hb dX8_fill_170 rfl (lv_at hl 0 rfl) ?_
    refine rg_X8_170 X hP dX8_fill_171 ?_
    refine lv_sipush (v := 1200) hx hb dX8_fill_174 (by decide) ?_
    refine lv_iload_n hx hb dX8_fill_177 rfl (lv_at hl 1 rfl) ?_
    refine lv_imul hx hb dX8_fill_178 ?_
    refine lv_iload hx hb dX8_fill_179 (lv_at hl 2 rfl) ?_
    refine lv_iadd hx hb dX8_fill_181 ?_
    refine lv_aload_n hx hb dX8_fill_182 rfl (lv_at hl 0 rfl) ?_
    refine rg_X8_139 X hP dX8_fill_183 ?_
    refine lv_iload hx hb dX8_fill_186 (lv_at hl 2 rfl) ?_
    refine ra_fData_ld X hP dX8_fill_188 hf (fun hf => ?_)
    refine ra_lineData_st X hP hS dX8_fill_189 hf (fun S1 H locs hP hS hf => ?_)
    refine lv_iinc (v := (x4 + 1)) (lv' := [(4, .int (x4 + 1)), (0, .ref (ad M_o)), (3, .int x3)]) hx hb dX8_fill_190 hl (k := 2) rfl rfl (by decide) rfl (fun ls hl => ?_)
    refine lv_goto (tgt := 161) hx hb dX8_fill_193 (by decide) ?_
    exact hk161 S1 x3 (x4 + 1) _ _ _ hP hS (lv_sub hl [1, 2, 0] rfl) hf
set_option maxHeartbeats 4000000 in
theorem w_X8_fill_161 {p : Program} {l : Launch} {e : Env} {R : Room} {s : State} {m : MethodId} {args : Array Value} {below : List Frame} {meth : Method} {c : Code} {D : va_G} {dA : Nat → ClassId} {A : Nat → Prop} {ad : L3 → Nat} (X : CX RX8 cX8_fill 5 (some .int) (KA D dA) p s m args meth c A) (hR : 8 ≤ R.frames ∧ 183 ≤ R.locals) {res : Mem × Int32} (n : Nat) : ∀ (S : Mem) (x3 : Int32) (x4 : Int32) (H : Heap) (locs : List Loc) (ls : Array Slot), Wd D clA (shM dA) exM A ad S H → va_S A s.heap H locs → lv_has ls 5 [(0, .ref (ad M_o)), (3, .int x3), (4, .int x4)] → f_X8_fill_161 n S x3 x4 = some res → W p l e R s m args below meth c H locs 0 0 (MQ below (QiW D (shM dA) exM A ad res) args s 0 0 A) (F0 m 161 ls []) := by
  induction n with
  | zero =>
    intro S x3 x4 H locs ls hP hS hl hf
    exact absurd (show none = some res from hf) (fun h => by cases h)
  | succ n ih =>
    intro S x3 x4 H locs ls hP hS hl hf
    exact w_X8_fill_161_b X hR (f_X8_fill_161 n) ih S x3 x4 hP hS hl hf
set_option maxHeartbeats 4000000 in
theorem w_X8_fill_52 {p : Program} {l : Launch} {e : Env} {R : Room} {s : State} {m : MethodId} {args : Array Value} {below : List Frame} {meth : Method} {c : Code} {D : va_G} {dA : Nat → ClassId} {A : Nat → Prop} {ad : L3 → Nat} (X : CX RX8 cX8_fill 5 (some .int) (KA D dA) p s m args meth c A) (hR : 8 ≤ R.frames ∧ 183 ≤ R.locals) {res : Mem × Int32} (S : Mem) (x1 : Int32) (x2 : Int32) (y0 : Int32) {H : Heap} {locs : List Loc} {ls : Array Slot} (hP : Wd D clA (shM dA) exM A ad S H) (hS : va_S A s.heap H locs) (hl : lv_has ls 5 [(0, .ref (ad M_o)), (1, .int x1), (2, .int x2)]) (hf : f_X8_fill_52 S x1 x2 y0 = some res) : W p l e R s m args below meth c H locs 0 0 (MQ below (QiW D (shM dA) exM A ad res) args s 0 0 A) (F0 m 52 ls [.int y0, .ref (ad M_o)]) := by
  have hx := X.hx
  have hb := X.hb
  unfold f_X8_fill_52 at hf
  refine lv_iconst (v := 2) hx hb dX8_fill_52 (by decide) ?_
  obtain ⟨S1, v2, hq, hf⟩ := gB2_some hf
  refine gc_i (gc_fixV (S := S) X (mt_X8_fails l D dA A ad S y0 (2 : Int32) hq) (lw_V q1262 q1264 qs35 q93 q1265) ⟨rfl, rfl⟩ hd_X8_fails ⟨Nat.le_trans (Nat.le_of_ble_eq_true rfl) hR.1, Nat.le_trans (Nat.le_of_ble_eq_true rfl) hR.2⟩ (wd_recv (r := M_o) (ci := 0) (q := (RX8, TX8, 61)) X.hK.1 hP ⟨rfl, rfl⟩ rfl rfl) hP hS ⟨Nat.zero_le _, Nat.zero_le _⟩ rfl hl.1 rfl (Nat.le_of_ble_eq_true rfl) dX8_fill_53) hS ?_
  rintro _ _ H locs ⟨⟩ hP hS
  refine gb_if_eq (tgt := 61) hx hb dX8_fill_56 (by decide) hf (fun hf => ?_) (fun hf => ?_)
  · refine lv_aload_n hx hb dX8_fill_61 rfl (lv_at hl 0 rfl) ?_
    refine lv_iload_n hx hb dX8_fill_62 rfl (lv_at hl 1 rfl) ?_
    refine lv_iload_n hx hb dX8_fill_63 rfl (lv_at hl 2 rfl) ?_
    obtain ⟨S3, v4, hq, hf⟩ := gB2_some hf
    refine gc_i (gc_fixV (S := S1) X (mt_X8_fills l D dA A ad S1 x1 x2 hq) (lw_V q1455 q1457 qs66 q93 q1458) ⟨rfl, rfl⟩ hd_X8_fills ⟨Nat.le_trans (Nat.le_of_ble_eq_true rfl) hR.1, Nat.le_trans (Nat.le_of_ble_eq_true rfl) hR.2⟩ (wd_recv (r := M_o) (ci := 0) (q := (RX8, TX8, 61)) X.hK.1 hP ⟨rfl, rfl⟩ rfl rfl) hP hS ⟨Nat.zero_le _, Nat.zero_le _⟩ rfl hl.1 rfl (Nat.le_of_ble_eq_true rfl) dX8_fill_64) hS ?_
    rintro _ _ H locs ⟨⟩ hP hS
    refine gb_if_ne (tgt := 72) hx hb dX8_fill_67 (by decide) hf (fun hf => ?_) (fun hf => ?_)
    · refine lv_aload_n hx hb dX8_fill_72 rfl (lv_at hl 0 rfl) ?_
      obtain ⟨v5, hq, hf⟩ := gB_some hf
      refine gc_i (gc_fixV (S := S3) X (mt_X8_freePlace l D dA A ad S3 hq) (lw_V q1451 q1453 qs65 q93 q1454) ⟨rfl, rfl⟩ hd_X8_freePlace ⟨Nat.le_trans (Nat.le_of_ble_eq_true rfl) hR.1, Nat.le_trans (Nat.le_of_ble_eq_true rfl) hR.2⟩ (wd_recv (r := M_o) (ci := 0) (q := (RX8, TX8, 61)) X.hK.1 hP ⟨rfl, rfl⟩ rfl rfl) hP hS ⟨Nat.zero_le _, Nat.zero_le _⟩ rfl hl.1 rfl (Nat.le_of_ble_eq_true rfl) dX8_fill_73) hS ?_
      rintro _ _ H locs ⟨rfl, rfl⟩ hP hS
      refine lv_istore_n (lv' := [(3, .int v5), (0, .ref (ad M_o)), (1, .int x1), (2, .int x2)]) hx hb dX8_fill_76 rfl hl (by decide) rfl (fun ls hl => ?_)
      refine lv_aload_n hx hb dX8_fill_77 rfl (lv_at hl 1 rfl) ?_
      refine rg_X8_163 X hP dX8_fill_78 ?_
      refine lv_iload_n hx hb dX8_fill_81 rfl (lv_at hl 0 rfl) ?_
      refine lv_iconst (v := 1) hx hb dX8_fill_82 (by decide) ?_
      refine ra_lineUsed_st X hP hS dX8_fill_83 hf (fun S6 H locs hP hS hf => ?_)
      refine lv_aload_n hx hb dX8_fill_84 rfl (lv_at hl 1 rfl) ?_
      refine rg_X8_142 X hP dX8_fill_85 ?_
      refine lv_iload_n hx hb dX8_fill_88 rfl (lv_at hl 0 rfl) ?_
      refine lv_iload_n hx hb dX8_fill_89 rfl (lv_at hl 2 rfl) ?_
      refine ra_lineSide_st X hP hS dX8_fill_90 hf (fun S7 H locs hP hS hf => ?_)
      refine lv_aload_n hx hb dX8_fill_91 rfl (lv_at hl 1 rfl) ?_
      refine rg_X8_145 X hP dX8_fill_92 ?_
      refine lv_iload_n hx hb dX8_fill_95 rfl (lv_at hl 0 rfl) ?_
      refine lv_aload_n hx hb dX8_fill_96 rfl (lv_at hl 1 rfl) ?_
      refine rg_X8_336 X hP dX8_fill_97 ?_
      refine ra_lineKind_st X hP hS dX8_fill_100 hf (fun S8 H locs hP hS hf => ?_)
      refine lv_aload_n hx hb dX8_fill_101 rfl (lv_at hl 1 rfl) ?_
      refine rg_X8_148 X hP dX8_fill_102 ?_
      refine lv_iload_n hx hb dX8_fill_105 rfl (lv_at hl 0 rfl) ?_
      refine lv_aload_n hx hb dX8_fill_106 rfl (lv_at hl 1 rfl) ?_
      refine rg_X8_308 X hP dX8_fill_107 ?_
      refine ra_lineA_st X hP hS dX8_fill_110 hf (fun S9 H locs hP hS hf => ?_)
      refine lv_aload_n hx hb dX8_fill_111 rfl (lv_at hl 1 rfl) ?_
      refine rg_X8_151 X hP dX8_fill_112 ?_
      refine lv_iload_n hx hb dX8_fill_115 rfl (lv_at hl 0 rfl) ?_
      refine lv_aload_n hx hb dX8_fill_116 rfl (lv_at hl 1 rfl) ?_
      refine rg_X8_316 X hP dX8_fill_117 ?_
      refine ra_lineB_st X hP hS dX8_fill_120 hf (fun S10 H locs hP hS hf => ?_)
      refine lv_aload_n hx hb dX8_fill_121 rfl (lv_at hl 1 rfl) ?_
      refine rg_X8_154 X hP dX8_fill_122 ?_
      refine lv_iload_n hx hb dX8_fill_125 rfl (lv_at hl 0 rfl) ?_
      refine lv_aload_n hx hb dX8_fill_126 rfl (lv_at hl 1 rfl) ?_
      refine rg_X8_322 X hP dX8_fill_127 ?_
      refine ra_lineC_st X hP hS dX8_fill_130 hf (fun S11 H locs hP hS hf => ?_)
      refine lv_aload_n hx hb dX8_fill_131 rfl (lv_at hl 1 rfl) ?_
      refine rg_X8_157 X hP dX8_fill_132 ?_
      refine lv_iload_n hx hb dX8_fill_135 rfl (lv_at hl 0 rfl) ?_
      refine lv_aload_n hx hb dX8_fill_136 rfl (lv_at hl 1 rfl) ?_
      refine rg_X8_319 X hP dX8_fill_137 ?_
      refine ra_lineSize_st X hP hS dX8_fill_140 hf (fun S12 H locs hP hS hf => ?_)
      refine lv_aload_n hx hb dX8_fill_141 rfl (lv_at hl 1 rfl) ?_
      refine rg_X8_160 X hP dX8_fill_142 ?_
      refine lv_iload_n hx hb dX8_fill_145 rfl (lv_at hl 0 rfl) ?_
      refine lv_aload_n hx hb dX8_fill_146 rfl (lv_at hl 1 rfl) ?_
      obtain ⟨v13, hq, hf⟩ := gS_eq hf
      refine gc_i (gc_fixV (S := S12) X (mt_X8_bytes l D dA A ad S12 hq) (lw_V q1471 q1473 qs70 q93 q1474) ⟨rfl, rfl⟩ hd_X8_bytes ⟨Nat.le_trans (Nat.le_of_ble_eq_true rfl) hR.1, Nat.le_trans (Nat.le_of_ble_eq_true rfl) hR.2⟩ (wd_recv (r := M_o) (ci := 0) (q := (RX8, TX8, 61)) X.hK.1 hP ⟨rfl, rfl⟩ rfl rfl) hP hS ⟨Nat.zero_le _, Nat.zero_le _⟩ rfl hl.1 rfl (Nat.le_of_ble_eq_true rfl) dX8_fill_147) hS ?_
      rintro _ _ H locs ⟨rfl, rfl⟩ hP hS
      refine ra_lineBytes_st X hP hS dX8_fill_150 hf (fun S14 H locs hP hS hf => ?_)
      refine lv_aload_n hx hb dX8_fill_151 rfl (lv_at hl 1 rfl) ?_
      refine rg_X8_166 X hP dX8_fill_152 ?_
      refine lv_iload_n hx hb dX8_fill_155 rfl (lv_at hl 0 rfl) ?_
      refine lv_iconst (v := 0) hx hb dX8_fill_156 (by decide) ?_
      refine ra_delivered_st X hP hS dX8_fill_157 hf (fun S15 H locs hP hS hf => ?_)
      refine lv_iconst (v := 0) hx hb dX8_fill_158 (by decide) ?_
      refine lv_istore (lv' := [(4, .int 0), (3, .int v5), (0, .ref (ad M_o)), (1, .int x1), (2, .int x2)]) hx hb dX8_fill_159 hl (by decide) rfl (fun ls hl => ?_)
      exact w_X8_fill_161 X hR FU S15 v5 0 _ _ _ hP hS (lv_sub hl [2, 1, 0] rfl) hf
    · refine lv_iconst (v := (-1)) hx hb dX8_fill_70 (by decide) ?_
      exact gr_iW X hP hS (Option.some.inj hf) dX8_fill_71
  · refine lv_iconst (v := 0) hx hb dX8_fill_59 (by decide) ?_
    exact gr_iW X hP hS (Option.some.inj hf) dX8_fill_60
set_option maxHeartbeats 4000000 in
theorem w_X8_fill_47 {p : Program} {l : Launch} {e : Env} {R : Room} {s : State} {m : MethodId} {args : Array Value} {below : List Frame} {meth : Method} {c : Code} {D : va_G} {dA : Nat → ClassId} {A : Nat → Prop} {ad : L3 → Nat} (X : CX RX8 cX8_fill 5 (some .int) (KA D dA) p s m args meth c A) (hR : 8 ≤ R.frames ∧ 183 ≤ R.locals) {res : Mem × Int32} (S : Mem) (x1 : Int32) (x2 : Int32) {H : Heap} {locs : List Loc} {ls : Array Slot} (hP : Wd D clA (shM dA) exM A ad S H) (hS : va_S A s.heap H locs) (hl : lv_has ls 5 [(0, .ref (ad M_o)), (1, .int x1), (2, .int x2)]) (hf : f_X8_fill_47 S x1 x2 = some res) : W p l e R s m args below meth c H locs 0 0 (MQ below (QiW D (shM dA) exM A ad res) args s 0 0 A) (F0 m 47 ls [.ref (ad M_o)]) := by
  have hx := X.hx
  have hb := X.hb
  unfold f_X8_fill_47 at hf
  refine lv_iconst (v := 1) hx hb dX8_fill_47 (by decide) ?_
  refine lv_goto (tgt := 52) hx hb dX8_fill_48 (by decide) ?_
  exact w_X8_fill_52 X hR S x1 x2 1 hP hS (lv_sub hl [0, 1, 2] rfl) hf
set_option maxHeartbeats 4000000 in
theorem w_X8_fill_25 {p : Program} {l : Launch} {e : Env} {R : Room} {s : State} {m : MethodId} {args : Array Value} {below : List Frame} {meth : Method} {c : Code} {D : va_G} {dA : Nat → ClassId} {A : Nat → Prop} {ad : L3 → Nat} (X : CX RX8 cX8_fill 5 (some .int) (KA D dA) p s m args meth c A) (hR : 8 ≤ R.frames ∧ 183 ≤ R.locals) {res : Mem × Int32} (S : Mem) (x1 : Int32) (x2 : Int32) (y0 : Int32) {H : Heap} {locs : List Loc} {ls : Array Slot} (hP : Wd D clA (shM dA) exM A ad S H) (hS : va_S A s.heap H locs) (hl : lv_has ls 5 [(0, .ref (ad M_o)), (1, .int x1), (2, .int x2)]) (hf : f_X8_fill_25 S x1 x2 y0 = some res) : W p l e R s m args below meth c H locs 0 0 (MQ below (QiW D (shM dA) exM A ad res) args s 0 0 A) (F0 m 25 ls [.int y0, .ref (ad M_o)]) := by
  have hx := X.hx
  have hb := X.hb
  unfold f_X8_fill_25 at hf
  refine lv_iconst (v := 1) hx hb dX8_fill_25 (by decide) ?_
  obtain ⟨S1, v2, hq, hf⟩ := gB2_some hf
  refine gc_i (gc_fixV (S := S) X (mt_X8_fails l D dA A ad S y0 (1 : Int32) hq) (lw_V q1262 q1264 qs35 q93 q1265) ⟨rfl, rfl⟩ hd_X8_fails ⟨Nat.le_trans (Nat.le_of_ble_eq_true rfl) hR.1, Nat.le_trans (Nat.le_of_ble_eq_true rfl) hR.2⟩ (wd_recv (r := M_o) (ci := 0) (q := (RX8, TX8, 61)) X.hK.1 hP ⟨rfl, rfl⟩ rfl rfl) hP hS ⟨Nat.zero_le _, Nat.zero_le _⟩ rfl hl.1 rfl (Nat.le_of_ble_eq_true rfl) dX8_fill_26) hS ?_
  rintro _ _ H locs ⟨⟩ hP hS
  refine gb_if_ne (tgt := 59) hx hb dX8_fill_29 (by decide) hf (fun hf => ?_) (fun hf => ?_)
  · refine lv_iconst (v := 0) hx hb dX8_fill_59 (by decide) ?_
    exact gr_iW X hP hS (Option.some.inj hf) dX8_fill_60
  · refine lv_aload_n hx hb dX8_fill_32 rfl (lv_at hl 0 rfl) ?_
    refine lv_aload_n hx hb dX8_fill_33 rfl (lv_at hl 0 rfl) ?_
    obtain ⟨v3, hq, hf⟩ := gB_some hf
    refine gc_i (gc_fixV (S := S1) X (mt_X8_freePlace l D dA A ad S1 hq) (lw_V q1451 q1453 qs65 q93 q1454) ⟨rfl, rfl⟩ hd_X8_freePlace ⟨Nat.le_trans (Nat.le_of_ble_eq_true rfl) hR.1, Nat.le_trans (Nat.le_of_ble_eq_true rfl) hR.2⟩ (wd_recv (r := M_o) (ci := 0) (q := (RX8, TX8, 61)) X.hK.1 hP ⟨rfl, rfl⟩ rfl rfl) hP hS ⟨Nat.zero_le _, Nat.zero_le _⟩ rfl hl.1 rfl (Nat.le_of_ble_eq_true rfl) dX8_fill_34) hS ?_
    rintro _ _ H locs ⟨rfl, rfl⟩ hP hS
    refine gb_if_lt (tgt := 47) hx hb dX8_fill_37 (by decide) hf (fun hf => ?_) (fun hf => ?_)
    · exact w_X8_fill_47 X hR S1 x1 x2 hP hS (lv_sub hl [0, 1, 2] rfl) hf
    · refine lv_aload_n hx hb dX8_fill_40 rfl (lv_at hl 0 rfl) ?_
      refine rg_X8_244 X hP dX8_fill_41 ?_
      refine gb_if_ne (tgt := 51) hx hb dX8_fill_44 (by decide) hf (fun hf => ?_) (fun hf => ?_)
      · refine lv_iconst (v := 0) hx hb dX8_fill_51 (by decide) ?_
        exact w_X8_fill_52 X hR S1 x1 x2 0 hP hS (lv_sub hl [0, 1, 2] rfl) hf
      · exact w_X8_fill_47 X hR S1 x1 x2 hP hS (lv_sub hl [0, 1, 2] rfl) hf
set_option maxHeartbeats 4000000 in
theorem w_X8_fill_20 {p : Program} {l : Launch} {e : Env} {R : Room} {s : State} {m : MethodId} {args : Array Value} {below : List Frame} {meth : Method} {c : Code} {D : va_G} {dA : Nat → ClassId} {A : Nat → Prop} {ad : L3 → Nat} (X : CX RX8 cX8_fill 5 (some .int) (KA D dA) p s m args meth c A) (hR : 8 ≤ R.frames ∧ 183 ≤ R.locals) {res : Mem × Int32} (S : Mem) (x1 : Int32) (x2 : Int32) {H : Heap} {locs : List Loc} {ls : Array Slot} (hP : Wd D clA (shM dA) exM A ad S H) (hS : va_S A s.heap H locs) (hl : lv_has ls 5 [(0, .ref (ad M_o)), (1, .int x1), (2, .int x2)]) (hf : f_X8_fill_20 S x1 x2 = some res) : W p l e R s m args below meth c H locs 0 0 (MQ below (QiW D (shM dA) exM A ad res) args s 0 0 A) (F0 m 20 ls [.ref (ad M_o)]) := by
  have hx := X.hx
  have hb := X.hb
  unfold f_X8_fill_20 at hf
  refine lv_iconst (v := 1) hx hb dX8_fill_20 (by decide) ?_
  refine lv_goto (tgt := 25) hx hb dX8_fill_21 (by decide) ?_
  exact w_X8_fill_25 X hR S x1 x2 1 hP hS (lv_sub hl [0, 1, 2] rfl) hf
set_option maxHeartbeats 4000000 in
theorem w_X8_fill {p : Program} {l : Launch} {e : Env} {R : Room} {s : State} {m : MethodId} {args : Array Value} {below : List Frame} {meth : Method} {c : Code} {D : va_G} {dA : Nat → ClassId} {A : Nat → Prop} {ad : L3 → Nat} (X : CX RX8 cX8_fill 5 (some .int) (KA D dA) p s m args meth c A) (hR : 8 ≤ R.frames ∧ 183 ≤ R.locals) {res : Mem × Int32} (S : Mem) (x1 : Int32) (x2 : Int32) {H : Heap} {locs : List Loc} {ls : Array Slot} (hP : Wd D clA (shM dA) exM A ad S H) (hS : va_S A s.heap H locs) (hl : lv_has ls 5 [(0, .ref (ad M_o)), (1, .int x1), (2, .int x2)]) (hf : f_X8_fill S x1 x2 = some res) : W p l e R s m args below meth c H locs 0 0 (MQ below (QiW D (shM dA) exM A ad res) args s 0 0 A) (F0 m 0 ls []) := by
  have hx := X.hx
  have hb := X.hb
  unfold f_X8_fill at hf
  refine lv_aload_n hx hb dX8_fill_0 rfl (lv_at hl 0 rfl) ?_
  refine lv_iload_n hx hb dX8_fill_1 rfl (lv_at hl 1 rfl) ?_
  obtain ⟨v1, hq, hf⟩ := gS_eq hf
  refine gc_i (gc_fixS (S := S) X (mt_X8_noSide l D dA A ad S x1 hq) (lw_S q1258 q1259 q93 q1260) ⟨rfl, rfl⟩ hd_X8_noSide.2 ⟨Nat.le_trans (Nat.le_of_ble_eq_true rfl) hR.1, Nat.le_trans (Nat.le_of_ble_eq_true rfl) hR.2⟩ hP hS ⟨Nat.zero_le _, Nat.zero_le _⟩ rfl hl.1 rfl (Nat.le_of_ble_eq_true rfl) dX8_fill_2) hS ?_
  rintro _ _ H locs ⟨rfl, rfl⟩ hP hS
  refine gb_if_ne (tgt := 20) hx hb dX8_fill_5 (by decide) hf (fun hf => ?_) (fun hf => ?_)
  · exact w_X8_fill_20 X hR S x1 x2 hP hS (lv_sub hl [0, 1, 2] rfl) hf
  · refine lv_iload_n hx hb dX8_fill_8 rfl (lv_at hl 2 rfl) ?_
    refine lv_iconst (v := 1) hx hb dX8_fill_9 (by decide) ?_
    refine gb_icmp_lt (tgt := 20) hx hb dX8_fill_10 (by decide) hf (fun hf => ?_) (fun hf => ?_)
    · exact w_X8_fill_20 X hR S x1 x2 hP hS (lv_sub hl [0, 1, 2] rfl) hf
    · refine lv_iload_n hx hb dX8_fill_13 rfl (lv_at hl 2 rfl) ?_
      refine lv_sipush (v := 1200) hx hb dX8_fill_14 (by decide) ?_
      refine gb_icmp_le (tgt := 24) hx hb dX8_fill_17 (by decide) hf (fun hf => ?_) (fun hf => ?_)
      · refine lv_iconst (v := 0) hx hb dX8_fill_24 (by decide) ?_
        exact w_X8_fill_25 X hR S x1 x2 0 hP hS (lv_sub hl [0, 1, 2] rfl) hf
      · exact w_X8_fill_20 X hR S x1 x2 hP hS (lv_sub hl [0, 1, 2] rfl) hf
theorem hd_X8_fill : yX8_fill.cls = RX8 ∧ yX8_fill.cls ≠ "java/lang/invoke/MethodHandle" ∧ yX8_fill.cls ≠ "java/lang/invoke/VarHandle" ∧ (parseMethodDescriptor yX8_fill.desc).map (fun d => d.parameters.length) = some 2 := by decide +kernel
set_option maxHeartbeats 4000000 in
theorem mt_X8_fill (l : Launch) (D : va_G) (dA : Nat → ClassId) (A : Nat → Prop) (ad : L3 → Nat) (S : Mem) (x1 : Int32) (x2 : Int32) {res : Mem × Int32} (hq : f_X8_fill S x1 x2 = some res) : Met l yX8_fill (ws_ yX8_fill cX8_fill 5 (some .int)) ({ frames := 8, cells := 0, slots := 0, locals := 183 } : Room) (va_Pc [.ref (ad M_o), .int x1, .int x2] (PreW D dA (shM dA) exM A ad S)) (QiW D (shM dA) exM A ad res) 0 0 A :=
  gx_head (by decide) (Nat.le_of_ble_eq_true rfl) (fun p e s m below meth c ls X hP hl => w_X8_fill (l := l) X ⟨Nat.le_of_ble_eq_true rfl, Nat.le_of_ble_eq_true rfl⟩ S x1 x2 hP va_S.rf (lv_sub (l := [(0, .ref (ad M_o)), (1, .int x1), (2, .int x2)]) hl [0, 1, 2] rfl) hq)
set_option maxHeartbeats 4000000 in
theorem w_X8_noPlace_19 {p : Program} {l : Launch} {e : Env} {R : Room} {s : State} {m : MethodId} {args : Array Value} {below : List Frame} {meth : Method} {c : Code} {D : va_G} {dA : Nat → ClassId} {A : Nat → Prop} {ad : L3 → Nat} (X : CX RX8 cX8_noPlace 2 (some .boolean) (KA D dA) p s m args meth c A) (hR : 1 ≤ R.frames ∧ 20 ≤ R.locals) {res : Int32} (S : Mem) {H : Heap} {locs : List Loc} {ls : Array Slot} (hP : Wd D clA (shM dA) exM A ad S H) (hS : va_S A s.heap H locs) (hl : lv_has ls 2 []) (hf : f_X8_noPlace_19 S = some res) : W p l e R s m args below meth c H locs 0 0 (MQ below (QiR D (shM dA) exM A ad S res) args s 0 0 A) (F0 m 19 ls []) := by
  have hx := X.hx
  have hb := X.hb
  unfold f_X8_noPlace_19 at hf
  refine lv_iconst (v := 1) hx hb dX8_noPlace_19 (by decide) ?_
  refine lv_goto (tgt := 24) hx hb dX8_noPlace_20 (by decide) ?_
  exact gr_zR X hP hS (Option.some.inj hf) (by decide) dX8_noPlace_24
set_option maxHeartbeats 4000000 in
theorem w_X8_noPlace {p : Program} {l : Launch} {e : Env} {R : Room} {s : State} {m : MethodId} {args : Array Value} {below : List Frame} {meth : Method} {c : Code} {D : va_G} {dA : Nat → ClassId} {A : Nat → Prop} {ad : L3 → Nat} (X : CX RX8 cX8_noPlace 2 (some .boolean) (KA D dA) p s m args meth c A) (hR : 1 ≤ R.frames ∧ 20 ≤ R.locals) {res : Int32} (S : Mem) (x1 : Int32) {H : Heap} {locs : List Loc} {ls : Array Slot} (hP : Wd D clA (shM dA) exM A ad S H) (hS : va_S A s.heap H locs) (hl : lv_has ls 2 [(0, .ref (ad M_o)), (1, .int x1)]) (hf : f_X8_noPlace S x1 = some res) : W p l e R s m args below meth c H locs 0 0 (MQ below (QiR D (shM dA) exM A ad S res) args s 0 0 A) (F0 m 0 ls []) := by
  have hx := X.hx
  have hb := X.hb
  unfold f_X8_noPlace at hf
  refine lv_iload_n hx hb dX8_noPlace_0 rfl (lv_at hl 1 rfl) ?_
  refine gb_if_lt (tgt := 19) hx hb dX8_noPlace_1 (by decide) hf (fun hf => ?_) (fun hf => ?_)
  · exact w_X8_noPlace_19 X hR S hP hS (lv_sub hl [] rfl) hf
  · refine lv_iload_n hx hb dX8_noPlace_4 rfl (lv_at hl 1 rfl) ?_
    refine lv_bipush (v := 63) hx hb dX8_noPlace_5 (by decide) ?_
    refine gb_icmp_gt (tgt := 19) hx hb dX8_noPlace_7 (by decide) hf (fun hf => ?_) (fun hf => ?_)
    · exact w_X8_noPlace_19 X hR S hP hS (lv_sub hl [] rfl) hf
    · refine lv_aload_n hx hb dX8_noPlace_10 rfl (lv_at hl 0 rfl) ?_
      refine rg_X8_163 X hP dX8_noPlace_11 ?_
      refine lv_iload_n hx hb dX8_noPlace_14 rfl (lv_at hl 1 rfl) ?_
      refine ra_lineUsed_ld X hP dX8_noPlace_15 hf (fun hf => ?_)
      refine gb_if_ne (tgt := 23) hx hb dX8_noPlace_16 (by decide) hf (fun hf => ?_) (fun hf => ?_)
      · refine lv_iconst (v := 0) hx hb dX8_noPlace_23 (by decide) ?_
        exact gr_zR X hP hS (Option.some.inj hf) (by decide) dX8_noPlace_24
      · exact w_X8_noPlace_19 X hR S hP hS (lv_sub hl [] rfl) hf
theorem hd_X8_noPlace : yX8_noPlace.cls = RX8 ∧ yX8_noPlace.cls ≠ "java/lang/invoke/MethodHandle" ∧ yX8_noPlace.cls ≠ "java/lang/invoke/VarHandle" ∧ (parseMethodDescriptor yX8_noPlace.desc).map (fun d => d.parameters.length) = some 1 := by decide +kernel
set_option maxHeartbeats 4000000 in
theorem mt_X8_noPlace (l : Launch) (D : va_G) (dA : Nat → ClassId) (A : Nat → Prop) (ad : L3 → Nat) (S : Mem) (x1 : Int32) {res : Int32} (hq : f_X8_noPlace S x1 = some res) : Met l yX8_noPlace (ws_ yX8_noPlace cX8_noPlace 2 (some .boolean)) ({ frames := 1, cells := 0, slots := 0, locals := 20 } : Room) (va_Pc [.ref (ad M_o), .int x1] (PreW D dA (shM dA) exM A ad S)) (QiR D (shM dA) exM A ad S res) 0 0 A :=
  gx_head (by decide) (Nat.le_of_ble_eq_true rfl) (fun p e s m below meth c ls X hP hl => w_X8_noPlace (l := l) X ⟨Nat.le_of_ble_eq_true rfl, Nat.le_of_ble_eq_true rfl⟩ S x1 hP va_S.rf (lv_sub (l := [(0, .ref (ad M_o)), (1, .int x1)]) hl [0, 1] rfl) hq)
set_option maxHeartbeats 4000000 in
theorem w_X8_deliver_67_b {p : Program} {l : Launch} {e : Env} {R : Room} {s : State} {m : MethodId} {args : Array Value} {below : List Frame} {meth : Method} {c : Code} {D : va_G} {dA : Nat → ClassId} {A : Nat → Prop} {ad : L3 → Nat} (X : CX RX8 cX8_deliver 3 (some .int) (KA D dA) p s m args meth c A) (hR : 8 ≤ R.frames ∧ 192 ≤ R.locals) {res : Mem × Int32} (k67 : Mem → Int32 → Int32 → Option (Mem × Int32)) (hk67 : ∀ (S : Mem) (x1 : Int32) (x2 : Int32) (H : Heap) (locs : List Loc) (ls : Array Slot), Wd D clA (shM dA) exM A ad S H → va_S A s.heap H locs → lv_has ls 3 [(0, .ref (ad M_o)), (1, .int x1), (2, .int x2)] → k67 S x1 x2 = some res → W p l e R s m args below meth c H locs 0 0 (MQ below (QiW D (shM dA) exM A ad res) args s 0 0 A) (F0 m 67 ls [])) (S : Mem) (x1 : Int32) (x2 : Int32) {H : Heap} {locs : List Loc} {ls : Array Slot} (hP : Wd D clA (shM dA) exM A ad S H) (hS : va_S A s.heap H locs) (hl : lv_has ls 3 [(0, .ref (ad M_o)), (1, .int x1), (2, .int x2)]) (hf : f_X8_deliver_67_b k67 S x1 x2 = some res) : W p l e R s m args below meth c H locs 0 0 (MQ below (QiW D (shM dA) exM A ad res) args s 0 0 A) (F0 m 67 ls []) := by
  have hx := X.hx
  have hb := X.hb
  unfold f_X8_deliver_67_b at hf
  refine lv_iload_n hx hb dX8_deliver_67 rfl (lv_at hl 2 rfl) ?_
  refine lv_aload_n hx hb dX8_deliver_68 rfl (lv_at hl 0 rfl) ?_
  refine rg_X8_319 X hP dX8_deliver_69 ?_
  refine gb_icmp_ge (tgt := 99) hx hb dX8_deliver_72 (by decide) hf (fun hf => ?_) (fun hf => ?_)
  · refine lv_aload_n hx hb dX8_deliver_99 rfl (lv_at hl 0 rfl) ?_
    refine lv_iconst (v := 1) hx hb dX8_deliver_100 (by decide) ?_
    refine lv_aload_n hx hb dX8_deliver_101 rfl (lv_at hl 0 rfl) ?_
    refine rg_X8_142 X hP dX8_deliver_102 ?_
    refine lv_iload_n hx hb dX8_deliver_105 rfl (lv_at hl 1 rfl) ?_
    refine ra_lineSide_ld X hP dX8_deliver_106 hf (fun hf => ?_)
    refine lv_isub hx hb dX8_deliver_107 ?_
    obtain ⟨S1, v2, hq, hf⟩ := gB2_some hf
    refine gc_i (gc_fixV (S := S) X (mt_X8_takes l D dA A ad S (1 - (S.1 M_lineSide (Int32.toNatClampNeg x1))) hq) (lw_V q1406 q1408 qs56 q93 q1409) ⟨rfl, rfl⟩ hd_X8_takes ⟨Nat.le_trans (Nat.le_of_ble_eq_true rfl) hR.1, Nat.le_trans (Nat.le_of_ble_eq_true rfl) hR.2⟩ (wd_recv (r := M_o) (ci := 0) (q := (RX8, TX8, 61)) X.hK.1 hP ⟨rfl, rfl⟩ rfl rfl) hP hS ⟨Nat.zero_le _, Nat.zero_le _⟩ rfl hl.1 rfl (Nat.le_of_ble_eq_true rfl) dX8_deliver_108) hS ?_
    rintro _ _ H locs ⟨⟩ hP hS
    refine lv_istore_n (lv' := [(2, .int v2), (0, .ref (ad M_o)), (1, .int x1)]) hx hb dX8_deliver_111 rfl hl (by decide) rfl (fun ls hl => ?_)
    refine lv_iload_n hx hb dX8_deliver_112 rfl (lv_at hl 0 rfl) ?_
    refine gb_if_ne (tgt := 123) hx hb dX8_deliver_113 (by decide) hf (fun hf => ?_) (fun hf => ?_)
    · refine lv_iload_n hx hb dX8_deliver_123 rfl (lv_at hl 0 rfl) ?_
      exact gr_iW X hP hS (Option.some.inj hf) dX8_deliver_124
    · refine lv_aload_n hx hb dX8_deliver_116 rfl (lv_at hl 1 rfl) ?_
      refine rg_X8_166 X hP dX8_deliver_117 ?_
      refine lv_iload_n hx hb dX8_deliver_120 rfl (lv_at hl 2 rfl) ?_
      refine lv_iconst (v := 1) hx hb dX8_deliver_121 (by decide) ?_
      refine ra_delivered_st X hP hS dX8_deliver_122 hf (fun S3 H locs hP hS hf => ?_)
      refine lv_iload_n hx hb dX8_deliver_123 rfl (lv_at hl 0 rfl) ?_
      exact gr_iW X hP hS (Option.some.inj hf) dX8_deliver_124
  · refine lv_aload_n hx hb dX8_deliver_75 rfl (lv_at hl 0 rfl) ?_
    refine rg_X8_139 X hP dX8_deliver_76 ?_
    refine lv_iload_n hx hb dX8_deliver_79 rfl (lv_at hl 2 rfl) ?_
    refine lv_aload_n hx hb dX8_deliver_80 rfl (lv_at hl 0 rfl) ?_
    refine rg_X8_170 X hP dX8_deliver_81 ?_
    refine lv_sipush (v := 1200) hx hb dX8_deliver_84 (by decide) ?_
    refine lv_iload_n hx hb dX8_deliver_87 rfl (lv_at hl 1 rfl) ?_
    refine lv_imul hx hb dX8_deliver_88 ?_
    refine lv_iload_n hx hb dX8_deliver_89 rfl (lv_at hl 2 rfl) ?_
    refine lv_iadd hx hb dX8_deliver_90 ?_
    refine ra_lineData_ld X hP dX8_deliver_91 hf (fun hf => ?_)
    refine ra_fData_st X hP hS dX8_deliver_92 hf (fun S4 H locs hP hS hf => ?_)
    refine lv_iinc (v := (x2 + 1)) (lv' := [(2, .int (x2 + 1)), (0, .ref (ad M_o)), (1, .int x1)]) hx hb dX8_deliver_93 hl (k := 2) rfl rfl (by decide) rfl (fun ls hl => ?_)
    refine lv_goto (tgt := 67) hx hb dX8_deliver_96 (by decide) ?_
    exact hk67 S4 x1 (x2 + 1) _ _ _ hP hS (lv_sub hl [1, 2, 0] rfl) hf
set_option maxHeartbeats 4000000 in
theorem w_X8_deliver_67 {p : Program} {l : Launch} {e : Env} {R : Room} {s : State} {m : MethodId} {args : Array Value} {below : List Frame} {meth : Method} {c : Code} {D : va_G} {dA : Nat → ClassId} {A : Nat → Prop} {ad : L3 → Nat} (X : CX RX8 cX8_deliver 3 (some .int) (KA D dA) p s m args meth c A) (hR : 8 ≤ R.frames ∧ 192 ≤ R.locals) {res : Mem × Int32} (n : Nat) : ∀ (S : Mem) (x1 : Int32) (x2 : Int32) (H : Heap) (locs : List Loc) (ls : Array Slot), Wd D clA (shM dA) exM A ad S H → va_S A s.heap H locs → lv_has ls 3 [(0, .ref (ad M_o)), (1, .int x1), (2, .int x2)] → f_X8_deliver_67 n S x1 x2 = some res → W p l e R s m args below meth c H locs 0 0 (MQ below (QiW D (shM dA) exM A ad res) args s 0 0 A) (F0 m 67 ls []) := by
  induction n with
  | zero =>
    intro S x1 x2 H locs ls hP hS hl hf
    exact absurd (show none = some res from hf) (fun h => by cases h)
  | succ n ih =>
    intro S x1 x2 H locs ls hP hS hl hf
    exact w_X8_deliver_67_b X hR (f_X8_deliver_67 n) ih S x1 x2 hP hS hl hf
set_option maxHeartbeats 4000000 in
theorem w_X8_deliver {p : Program} {l : Launch} {e : Env} {R : Room} {s : State} {m : MethodId} {args : Array Value} {below : List Frame} {meth : Method} {c : Code} {D : va_G} {dA : Nat → ClassId} {A : Nat → Prop} {ad : L3 → Nat} (X : CX RX8 cX8_deliver 3 (some .int) (KA D dA) p s m args meth c A) (hR : 8 ≤ R.frames ∧ 192 ≤ R.locals) {res : Mem × Int32} (S : Mem) (x1 : Int32) {H : Heap} {locs : List Loc} {ls : Array Slot} (hP : Wd D clA (shM dA) exM A ad S H) (hS : va_S A s.heap H locs) (hl : lv_has ls 3 [(0, .ref (ad M_o)), (1, .int x1)]) (hf : f_X8_deliver S x1 = some res) : W p l e R s m args below meth c H locs 0 0 (MQ below (QiW D (shM dA) exM A ad res) args s 0 0 A) (F0 m 0 ls []) := by
  have hx := X.hx
  have hb := X.hb
  unfold f_X8_deliver at hf
  refine lv_aload_n hx hb dX8_deliver_0 rfl (lv_at hl 0 rfl) ?_
  refine lv_aload_n hx hb dX8_deliver_1 rfl (lv_at hl 0 rfl) ?_
  refine lv_iload_n hx hb dX8_deliver_2 rfl (lv_at hl 1 rfl) ?_
  obtain ⟨v1, hq, hf⟩ := gB_some hf
  refine gc_i (gc_fixV (S := S) X (mt_X8_noPlace l D dA A ad S x1 hq) (lw_V q1520 q1522 qs80 q93 q1523) ⟨rfl, rfl⟩ hd_X8_noPlace ⟨Nat.le_trans (Nat.le_of_ble_eq_true rfl) hR.1, Nat.le_trans (Nat.le_of_ble_eq_true rfl) hR.2⟩ (wd_recv (r := M_o) (ci := 0) (q := (RX8, TX8, 61)) X.hK.1 hP ⟨rfl, rfl⟩ rfl rfl) hP hS ⟨Nat.zero_le _, Nat.zero_le _⟩ rfl hl.1 rfl (Nat.le_of_ble_eq_true rfl) dX8_deliver_3) hS ?_
  rintro _ _ H locs ⟨rfl, rfl⟩ hP hS
  refine lv_iconst (v := 1) hx hb dX8_deliver_6 (by decide) ?_
  obtain ⟨S2, v3, hq, hf⟩ := gB2_some hf
  refine gc_i (gc_fixV (S := S) X (mt_X8_fails l D dA A ad S v1 (1 : Int32) hq) (lw_V q1262 q1264 qs35 q93 q1265) ⟨rfl, rfl⟩ hd_X8_fails ⟨Nat.le_trans (Nat.le_of_ble_eq_true rfl) hR.1, Nat.le_trans (Nat.le_of_ble_eq_true rfl) hR.2⟩ (wd_recv (r := M_o) (ci := 0) (q := (RX8, TX8, 61)) X.hK.1 hP ⟨rfl, rfl⟩ rfl rfl) hP hS ⟨Nat.zero_le _, Nat.zero_le _⟩ rfl hl.1 rfl (Nat.le_of_ble_eq_true rfl) dX8_deliver_7) hS ?_
  rintro _ _ H locs ⟨⟩ hP hS
  refine gb_if_eq (tgt := 15) hx hb dX8_deliver_10 (by decide) hf (fun hf => ?_) (fun hf => ?_)
  · refine lv_aload_n hx hb dX8_deliver_15 rfl (lv_at hl 0 rfl) ?_
    refine lv_aload_n hx hb dX8_deliver_16 rfl (lv_at hl 0 rfl) ?_
    refine rg_X8_145 X hP dX8_deliver_17 ?_
    refine lv_iload_n hx hb dX8_deliver_20 rfl (lv_at hl 1 rfl) ?_
    refine ra_lineKind_ld X hP dX8_deliver_21 hf (fun hf => ?_)
    refine rp_X8_336 X hP hS dX8_deliver_22 hf (fun S4 H locs hP hS hf => ?_)
    refine lv_aload_n hx hb dX8_deliver_25 rfl (lv_at hl 0 rfl) ?_
    refine lv_aload_n hx hb dX8_deliver_26 rfl (lv_at hl 0 rfl) ?_
    refine rg_X8_148 X hP dX8_deliver_27 ?_
    refine lv_iload_n hx hb dX8_deliver_30 rfl (lv_at hl 1 rfl) ?_
    refine ra_lineA_ld X hP dX8_deliver_31 hf (fun hf => ?_)
    refine rp_X8_308 X hP hS dX8_deliver_32 hf (fun S5 H locs hP hS hf => ?_)
    refine lv_aload_n hx hb dX8_deliver_35 rfl (lv_at hl 0 rfl) ?_
    refine lv_aload_n hx hb dX8_deliver_36 rfl (lv_at hl 0 rfl) ?_
    refine rg_X8_151 X hP dX8_deliver_37 ?_
    refine lv_iload_n hx hb dX8_deliver_40 rfl (lv_at hl 1 rfl) ?_
    refine ra_lineB_ld X hP dX8_deliver_41 hf (fun hf => ?_)
    refine rp_X8_316 X hP hS dX8_deliver_42 hf (fun S6 H locs hP hS hf => ?_)
    refine lv_aload_n hx hb dX8_deliver_45 rfl (lv_at hl 0 rfl) ?_
    refine lv_aload_n hx hb dX8_deliver_46 rfl (lv_at hl 0 rfl) ?_
    refine rg_X8_154 X hP dX8_deliver_47 ?_
    refine lv_iload_n hx hb dX8_deliver_50 rfl (lv_at hl 1 rfl) ?_
    refine ra_lineC_ld X hP dX8_deliver_51 hf (fun hf => ?_)
    refine rp_X8_322 X hP hS dX8_deliver_52 hf (fun S7 H locs hP hS hf => ?_)
    refine lv_aload_n hx hb dX8_deliver_55 rfl (lv_at hl 0 rfl) ?_
    refine lv_aload_n hx hb dX8_deliver_56 rfl (lv_at hl 0 rfl) ?_
    refine rg_X8_157 X hP dX8_deliver_57 ?_
    refine lv_iload_n hx hb dX8_deliver_60 rfl (lv_at hl 1 rfl) ?_
    refine ra_lineSize_ld X hP dX8_deliver_61 hf (fun hf => ?_)
    refine rp_X8_319 X hP hS dX8_deliver_62 hf (fun S8 H locs hP hS hf => ?_)
    refine lv_iconst (v := 0) hx hb dX8_deliver_65 (by decide) ?_
    refine lv_istore_n (lv' := [(2, .int 0), (0, .ref (ad M_o)), (1, .int x1)]) hx hb dX8_deliver_66 rfl hl (by decide) rfl (fun ls hl => ?_)
    exact w_X8_deliver_67 X hR FU S8 x1 0 _ _ _ hP hS (lv_sub hl [1, 2, 0] rfl) hf
  · refine lv_iconst (v := 0) hx hb dX8_deliver_13 (by decide) ?_
    exact gr_iW X hP hS (Option.some.inj hf) dX8_deliver_14
theorem hd_X8_deliver : yX8_deliver.cls = RX8 ∧ yX8_deliver.cls ≠ "java/lang/invoke/MethodHandle" ∧ yX8_deliver.cls ≠ "java/lang/invoke/VarHandle" ∧ (parseMethodDescriptor yX8_deliver.desc).map (fun d => d.parameters.length) = some 1 := by decide +kernel
set_option maxHeartbeats 4000000 in
theorem mt_X8_deliver (l : Launch) (D : va_G) (dA : Nat → ClassId) (A : Nat → Prop) (ad : L3 → Nat) (S : Mem) (x1 : Int32) {res : Mem × Int32} (hq : f_X8_deliver S x1 = some res) : Met l yX8_deliver (ws_ yX8_deliver cX8_deliver 3 (some .int)) ({ frames := 8, cells := 0, slots := 0, locals := 192 } : Room) (va_Pc [.ref (ad M_o), .int x1] (PreW D dA (shM dA) exM A ad S)) (QiW D (shM dA) exM A ad res) 0 0 A :=
  gx_head (by decide) (Nat.le_of_ble_eq_true rfl) (fun p e s m below meth c ls X hP hl => w_X8_deliver (l := l) X ⟨Nat.le_of_ble_eq_true rfl, Nat.le_of_ble_eq_true rfl⟩ S x1 hP va_S.rf (lv_sub (l := [(0, .ref (ad M_o)), (1, .int x1)]) hl [0, 1] rfl) hq)
set_option maxHeartbeats 4000000 in
theorem w_X8_goneStream_78 {p : Program} {l : Launch} {e : Env} {R : Room} {s : State} {m : MethodId} {args : Array Value} {below : List Frame} {meth : Method} {c : Code} {D : va_G} {dA : Nat → ClassId} {A : Nat → Prop} {ad : L3 → Nat} (X : CX RX8 cX8_goneStream 8 none (KA D dA) p s m args meth c A) (hR : 6 ≤ R.frames ∧ 142 ≤ R.locals) {res : Mem} (k20 : Mem → Int32 → Int32 → Int32 → Int32 → Int32 → Int32 → Option (Mem)) (hk20 : ∀ (S : Mem) (x1 : Int32) (x2 : Int32) (x3 : Int32) (x4 : Int32) (x5 : Int32) (x6 : Int32) (H : Heap) (locs : List Loc) (ls : Array Slot), Wd D clA (shM dA) exM A ad S H → va_S A s.heap H locs → lv_has ls 8 [(0, .ref (ad M_o)), (1, .int x1), (2, .int x2), (3, .int x3), (4, .int x4), (5, .int x5), (6, .int x6)] → k20 S x1 x2 x3 x4 x5 x6 = some res → W p l e R s m args below meth c H locs 0 0 (MQ below (QvW D (shM dA) exM A ad res) args s 0 0 A) (F0 m 20 ls [])) (S : Mem) (x1 : Int32) (x2 : Int32) (x3 : Int32) (x4 : Int32) (x5 : Int32) (x6 : Int32) {H : Heap} {locs : List Loc} {ls : Array Slot} (hP : Wd D clA (shM dA) exM A ad S H) (hS : va_S A s.heap H locs) (hl : lv_has ls 8 [(0, .ref (ad M_o)), (1, .int x1), (2, .int x2), (3, .int x3), (4, .int x4), (5, .int x5), (6, .int x6)]) (hf : f_X8_goneStream_78 k20 S x1 x2 x3 x4 x5 x6 = some res) : W p l e R s m args below meth c H locs 0 0 (MQ below (QvW D (shM dA) exM A ad res) args s 0 0 A) (F0 m 78 ls []) := by
  have hx := X.hx
  have hb := X.hb
  unfold f_X8_goneStream_78 at hf
  refine lv_iinc (v := (x6 + 1)) (lv' := [(6, .int (x6 + 1)), (0, .ref (ad M_o)), (1, .int x1), (2, .int x2), (3, .int x3), (4, .int x4), (5, .int x5)]) hx hb dX8_goneStream_78 hl (k := 6) rfl rfl (by decide) rfl (fun ls hl => ?_)
  refine lv_goto (tgt := 20) hx hb dX8_goneStream_81 (by decide) ?_
  exact hk20 S x1 x2 x3 x4 x5 (x6 + 1) _ _ _ hP hS (lv_sub hl [1, 2, 3, 4, 5, 6, 0] rfl) hf
set_option maxHeartbeats 4000000 in
theorem w_X8_goneStream_76 {p : Program} {l : Launch} {e : Env} {R : Room} {s : State} {m : MethodId} {args : Array Value} {below : List Frame} {meth : Method} {c : Code} {D : va_G} {dA : Nat → ClassId} {A : Nat → Prop} {ad : L3 → Nat} (X : CX RX8 cX8_goneStream 8 none (KA D dA) p s m args meth c A) (hR : 6 ≤ R.frames ∧ 142 ≤ R.locals) {res : Mem} (k20 : Mem → Int32 → Int32 → Int32 → Int32 → Int32 → Int32 → Option (Mem)) (hk20 : ∀ (S : Mem) (x1 : Int32) (x2 : Int32) (x3 : Int32) (x4 : Int32) (x5 : Int32) (x6 : Int32) (H : Heap) (locs : List Loc) (ls : Array Slot), Wd D clA (shM dA) exM A ad S H → va_S A s.heap H locs → lv_has ls 8 [(0, .ref (ad M_o)), (1, .int x1), (2, .int x2), (3, .int x3), (4, .int x4), (5, .int x5), (6, .int x6)] → k20 S x1 x2 x3 x4 x5 x6 = some res → W p l e R s m args below meth c H locs 0 0 (MQ below (QvW D (shM dA) exM A ad res) args s 0 0 A) (F0 m 20 ls [])) (S : Mem) (x1 : Int32) (x2 : Int32) (x3 : Int32) (x4 : Int32) (x5 : Int32) (x6 : Int32) (y0 : Int32) (y1 : Int32) {H : Heap} {locs : List Loc} {ls : Array Slot} (hP : Wd D clA (shM dA) exM A ad S H) (hS : va_S A s.heap H locs) (hl : lv_has ls 8 [(0, .ref (ad M_o)), (1, .int x1), (2, .int x2), (3, .int x3), (4, .int x4), (5, .int x5), (6, .int x6)]) (hf : f_X8_goneStream_76 k20 S x1 x2 x3 x4 x5 x6 y0 y1 = some res) : W p l e R s m args below meth c H locs 0 0 (MQ below (QvW D (shM dA) exM A ad res) args s 0 0 A) (F0 m 76 ls [.int y0, .int y1, .ref (ad M_mark)]) := by
  have hx := X.hx
  have hb := X.hb
  unfold f_X8_goneStream_76 at hf
  refine lv_i2b hx hb dX8_goneStream_76 rfl ?_
  refine ra_mark_st X hP hS dX8_goneStream_77 hf (fun S1 H locs hP hS hf => ?_)
  exact w_X8_goneStream_78 X hR k20 hk20 S1 x1 x2 x3 x4 x5 x6 hP hS (lv_sub hl [0, 1, 2, 3, 4, 5, 6] rfl) hf
set_option maxHeartbeats 4000000 in
theorem w_X8_goneStream_122 {p : Program} {l : Launch} {e : Env} {R : Room} {s : State} {m : MethodId} {args : Array Value} {below : List Frame} {meth : Method} {c : Code} {D : va_G} {dA : Nat → ClassId} {A : Nat → Prop} {ad : L3 → Nat} (X : CX RX8 cX8_goneStream 8 none (KA D dA) p s m args meth c A) (hR : 6 ≤ R.frames ∧ 142 ≤ R.locals) {res : Mem} (S : Mem) (x1 : Int32) (x4 : Int32) {H : Heap} {locs : List Loc} {ls : Array Slot} (hP : Wd D clA (shM dA) exM A ad S H) (hS : va_S A s.heap H locs) (hl : lv_has ls 8 [(0, .ref (ad M_o)), (1, .int x1), (4, .int x4)]) (hf : f_X8_goneStream_122 S x1 x4 = some res) : W p l e R s m args below meth c H locs 0 0 (MQ below (QvW D (shM dA) exM A ad res) args s 0 0 A) (F0 m 122 ls []) := by
  have hx := X.hx
  have hb := X.hb
  unfold f_X8_goneStream_122 at hf
  refine lv_aload_n hx hb dX8_goneStream_122 rfl (lv_at hl 0 rfl) ?_
  refine lv_iload_n hx hb dX8_goneStream_123 rfl (lv_at hl 1 rfl) ?_
  refine lv_iload hx hb dX8_goneStream_124 (lv_at hl 2 rfl) ?_
  obtain ⟨S1, hq, hf⟩ := gB_some hf
  refine gc_v (gc_fixV (S := S) X (mt_X8_looksOver l D dA A ad S x1 x4 hq) (lw_V q1397 q1399 qs55 q93 q1400) ⟨rfl, rfl⟩ hd_X8_looksOver ⟨Nat.le_trans (Nat.le_of_ble_eq_true rfl) hR.1, Nat.le_trans (Nat.le_of_ble_eq_true rfl) hR.2⟩ (wd_recv (r := M_o) (ci := 0) (q := (RX8, TX8, 61)) X.hK.1 hP ⟨rfl, rfl⟩ rfl rfl) hP hS ⟨Nat.zero_le _, Nat.zero_le _⟩ rfl hl.1 rfl (Nat.le_of_ble_eq_true rfl) dX8_goneStream_126) hS ?_
  rintro _ H locs rfl hP hS
  exact gr_vW X hP hS (Option.some.inj hf) dX8_goneStream_129
set_option maxHeartbeats 4000000 in
theorem w_X8_goneStream_121 {p : Program} {l : Launch} {e : Env} {R : Room} {s : State} {m : MethodId} {args : Array Value} {below : List Frame} {meth : Method} {c : Code} {D : va_G} {dA : Nat → ClassId} {A : Nat → Prop} {ad : L3 → Nat} (X : CX RX8 cX8_goneStream 8 none (KA D dA) p s m args meth c A) (hR : 6 ≤ R.frames ∧ 142 ≤ R.locals) {res : Mem} (S : Mem) (x1 : Int32) (x4 : Int32) (y0 : Int32) (y1 : Int32) {H : Heap} {locs : List Loc} {ls : Array Slot} (hP : Wd D clA (shM dA) exM A ad S H) (hS : va_S A s.heap H locs) (hl : lv_has ls 8 [(0, .ref (ad M_o)), (1, .int x1), (4, .int x4)]) (hf : f_X8_goneStream_121 S x1 x4 y0 y1 = some res) : W p l e R s m args below meth c H locs 0 0 (MQ below (QvW D (shM dA) exM A ad res) args s 0 0 A) (F0 m 121 ls [.int y0, .int y1, .ref (ad M_end)]) := by
  have hx := X.hx
  have hb := X.hb
  unfold f_X8_goneStream_121 at hf
  refine ra_end_st X hP hS dX8_goneStream_121 hf (fun S1 H locs hP hS hf => ?_)
  exact w_X8_goneStream_122 X hR S1 x1 x4 hP hS (lv_sub hl [0, 1, 2] rfl) hf
set_option maxHeartbeats 4000000 in
theorem w_X8_goneStream_20_b {p : Program} {l : Launch} {e : Env} {R : Room} {s : State} {m : MethodId} {args : Array Value} {below : List Frame} {meth : Method} {c : Code} {D : va_G} {dA : Nat → ClassId} {A : Nat → Prop} {ad : L3 → Nat} (X : CX RX8 cX8_goneStream 8 none (KA D dA) p s m args meth c A) (hR : 6 ≤ R.frames ∧ 142 ≤ R.locals) {res : Mem} (k20 : Mem → Int32 → Int32 → Int32 → Int32 → Int32 → Int32 → Option (Mem)) (hk20 : ∀ (S : Mem) (x1 : Int32) (x2 : Int32) (x3 : Int32) (x4 : Int32) (x5 : Int32) (x6 : Int32) (H : Heap) (locs : List Loc) (ls : Array Slot), Wd D clA (shM dA) exM A ad S H → va_S A s.heap H locs → lv_has ls 8 [(0, .ref (ad M_o)), (1, .int x1), (2, .int x2), (3, .int x3), (4, .int x4), (5, .int x5), (6, .int x6)] → k20 S x1 x2 x3 x4 x5 x6 = some res → W p l e R s m args below meth c H locs 0 0 (MQ below (QvW D (shM dA) exM A ad res) args s 0 0 A) (F0 m 20 ls [])) (S : Mem) (x1 : Int32) (x2 : Int32) (x3 : Int32) (x4 : Int32) (x5 : Int32) (x6 : Int32) {H : Heap} {locs : List Loc} {ls : Array Slot} (hP : Wd D clA (shM dA) exM A ad S H) (hS : va_S A s.heap H locs) (hl : lv_has ls 8 [(0, .ref (ad M_o)), (1, .int x1), (2, .int x2), (3, .int x3), (4, .int x4), (5, .int x5), (6, .int x6)]) (hf : f_X8_goneStream_20_b k20 S x1 x2 x3 x4 x5 x6 = some res) : W p l e R s m args below meth c H locs 0 0 (MQ below (QvW D (shM dA) exM A ad res) args s 0 0 A) (F0 m 20 ls []) := by
  have hx := X.hx
  have hb := X.hb
  unfold f_X8_goneStream_20_b at hf
  refine lv_iload hx hb dX8_goneStream_20 (lv_at hl 6 rfl) ?_
  refine lv_aload_n hx hb dX8_goneStream_22 rfl (lv_at hl 0 rfl) ?_
  refine rg_X8_157 X hP dX8_goneStream_23 ?_
  refine lv_iload_n hx hb dX8_goneStream_26 rfl (lv_at hl 2 rfl) ?_
  refine ra_lineSize_ld X hP dX8_goneStream_27 hf (fun hf => ?_)
  refine gb_icmp_ge (tgt := 84) hx hb dX8_goneStream_28 (by decide) hf (fun hf => ?_) (fun hf => ?_)
  · refine lv_aload_n hx hb dX8_goneStream_84 rfl (lv_at hl 0 rfl) ?_
    refine rg_X8_154 X hP dX8_goneStream_85 ?_
    refine lv_iload_n hx hb dX8_goneStream_88 rfl (lv_at hl 2 rfl) ?_
    refine ra_lineC_ld X hP dX8_goneStream_89 hf (fun hf => ?_)
    refine lv_lconst (v := 1) hx hb dX8_goneStream_90 (by decide) ?_
    refine gb_lcmp_ne (tgt := 122) hx hb dX8_goneStream_91 dX8_goneStream_92 (by decide) hf (fun hf => ?_) (fun hf => ?_)
    · exact w_X8_goneStream_122 X hR S x1 x4 hP hS (lv_sub hl [0, 1, 4] rfl) hf
    · refine lv_aload_n hx hb dX8_goneStream_95 rfl (lv_at hl 0 rfl) ?_
      refine rg_X8_60 X hP dX8_goneStream_96 ?_
      refine lv_iload hx hb dX8_goneStream_99 (lv_at hl 5 rfl) ?_
      refine ra_end_ld X hP dX8_goneStream_101 hf (fun hf => ?_)
      refine lv_iconst (v := 3) hx hb dX8_goneStream_102 (by decide) ?_
      refine gb_icmp_eq (tgt := 122) hx hb dX8_goneStream_103 (by decide) hf (fun hf => ?_) (fun hf => ?_)
      · exact w_X8_goneStream_122 X hR S x1 x4 hP hS (lv_sub hl [0, 1, 4] rfl) hf
      · refine lv_aload_n hx hb dX8_goneStream_106 rfl (lv_at hl 0 rfl) ?_
        refine rg_X8_60 X hP dX8_goneStream_107 ?_
        refine lv_iload hx hb dX8_goneStream_110 (lv_at hl 5 rfl) ?_
        refine lv_iload_n hx hb dX8_goneStream_112 rfl (lv_at hl 3 rfl) ?_
        refine gb_if_eq (tgt := 120) hx hb dX8_goneStream_113 (by decide) hf (fun hf => ?_) (fun hf => ?_)
        · refine lv_iconst (v := 2) hx hb dX8_goneStream_120 (by decide) ?_
          exact w_X8_goneStream_121 X hR S x1 x4 2 x5 hP hS (lv_sub hl [0, 1, 4] rfl) hf
        · refine lv_iconst (v := 3) hx hb dX8_goneStream_116 (by decide) ?_
          refine lv_goto (tgt := 121) hx hb dX8_goneStream_117 (by decide) ?_
          exact w_X8_goneStream_121 X hR S x1 x4 3 x5 hP hS (lv_sub hl [0, 1, 4] rfl) hf
  · refine lv_aload_n hx hb dX8_goneStream_31 rfl (lv_at hl 0 rfl) ?_
    refine lv_iload_n hx hb dX8_goneStream_32 rfl (lv_at hl 1 rfl) ?_
    refine lv_iload hx hb dX8_goneStream_33 (lv_at hl 4 rfl) ?_
    refine lv_aload_n hx hb dX8_goneStream_35 rfl (lv_at hl 0 rfl) ?_
    refine rg_X8_151 X hP dX8_goneStream_36 ?_
    refine lv_iload_n hx hb dX8_goneStream_39 rfl (lv_at hl 2 rfl) ?_
    refine ra_lineB_ld X hP dX8_goneStream_40 hf (fun hf => ?_)
    refine lv_l2i hx hb dX8_goneStream_41 rfl ?_
    refine lv_iload hx hb dX8_goneStream_42 (lv_at hl 6 rfl) ?_
    refine lv_iadd hx hb dX8_goneStream_44 ?_
    obtain ⟨v1, hq, hf⟩ := gB_some hf
    refine gc_i (gc_fixV (S := S) X (mt_X8_placeOf l D dA A ad S x1 x4 ((Int64.toInt32 (S.2 M_lineB (Int32.toNatClampNeg x2))) + x6) hq) (lw_V q1512 q1514 qs79 q93 q1515) ⟨rfl, rfl⟩ hd_X8_placeOf ⟨Nat.le_trans (Nat.le_of_ble_eq_true rfl) hR.1, Nat.le_trans (Nat.le_of_ble_eq_true rfl) hR.2⟩ (wd_recv (r := M_o) (ci := 0) (q := (RX8, TX8, 61)) X.hK.1 hP ⟨rfl, rfl⟩ rfl rfl) hP hS ⟨Nat.zero_le _, Nat.zero_le _⟩ rfl hl.1 rfl (Nat.le_of_ble_eq_true rfl) dX8_goneStream_45) hS ?_
    rintro _ _ H locs ⟨rfl, rfl⟩ hP hS
    refine lv_istore (lv' := [(7, .int v1), (0, .ref (ad M_o)), (1, .int x1), (2, .int x2), (3, .int x3), (4, .int x4), (5, .int x5), (6, .int x6)]) hx hb dX8_goneStream_48 hl (by decide) rfl (fun ls hl => ?_)
    refine lv_aload_n hx hb dX8_goneStream_50 rfl (lv_at hl 1 rfl) ?_
    refine rg_X8_120 X hP dX8_goneStream_51 ?_
    refine lv_iload hx hb dX8_goneStream_54 (lv_at hl 0 rfl) ?_
    refine ra_mark_ld X hP dX8_goneStream_56 hf (fun hf => ?_)
    refine lv_iconst (v := 3) hx hb dX8_goneStream_57 (by decide) ?_
    refine gb_icmp_eq (tgt := 78) hx hb dX8_goneStream_58 (by decide) hf (fun hf => ?_) (fun hf => ?_)
    · exact w_X8_goneStream_78 X hR k20 hk20 S x1 x2 x3 x4 x5 x6 hP hS (lv_sub hl [1, 2, 3, 4, 5, 6, 7] rfl) hf
    · refine lv_aload_n hx hb dX8_goneStream_61 rfl (lv_at hl 1 rfl) ?_
      refine rg_X8_120 X hP dX8_goneStream_62 ?_
      refine lv_iload hx hb dX8_goneStream_65 (lv_at hl 0 rfl) ?_
      refine lv_iload_n hx hb dX8_goneStream_67 rfl (lv_at hl 4 rfl) ?_
      refine gb_if_eq (tgt := 75) hx hb dX8_goneStream_68 (by decide) hf (fun hf => ?_) (fun hf => ?_)
      · refine lv_iconst (v := 2) hx hb dX8_goneStream_75 (by decide) ?_
        exact w_X8_goneStream_76 X hR k20 hk20 S x1 x2 x3 x4 x5 x6 2 v1 hP hS (lv_sub hl [1, 2, 3, 4, 5, 6, 7] rfl) hf
      · refine lv_iconst (v := 3) hx hb dX8_goneStream_71 (by decide) ?_
        refine lv_goto (tgt := 76) hx hb dX8_goneStream_72 (by decide) ?_
        exact w_X8_goneStream_76 X hR k20 hk20 S x1 x2 x3 x4 x5 x6 3 v1 hP hS (lv_sub hl [1, 2, 3, 4, 5, 6, 7] rfl) hf
set_option maxHeartbeats 4000000 in
theorem w_X8_goneStream_20 {p : Program} {l : Launch} {e : Env} {R : Room} {s : State} {m : MethodId} {args : Array Value} {below : List Frame} {meth : Method} {c : Code} {D : va_G} {dA : Nat → ClassId} {A : Nat → Prop} {ad : L3 → Nat} (X : CX RX8 cX8_goneStream 8 none (KA D dA) p s m args meth c A) (hR : 6 ≤ R.frames ∧ 142 ≤ R.locals) {res : Mem} (n : Nat) : ∀ (S : Mem) (x1 : Int32) (x2 : Int32) (x3 : Int32) (x4 : Int32) (x5 : Int32) (x6 : Int32) (H : Heap) (locs : List Loc) (ls : Array Slot), Wd D clA (shM dA) exM A ad S H → va_S A s.heap H locs → lv_has ls 8 [(0, .ref (ad M_o)), (1, .int x1), (2, .int x2), (3, .int x3), (4, .int x4), (5, .int x5), (6, .int x6)] → f_X8_goneStream_20 n S x1 x2 x3 x4 x5 x6 = some res → W p l e R s m args below meth c H locs 0 0 (MQ below (QvW D (shM dA) exM A ad res) args s 0 0 A) (F0 m 20 ls []) := by
  induction n with
  | zero =>
    intro S x1 x2 x3 x4 x5 x6 H locs ls hP hS hl hf
    exact absurd (show none = some res from hf) (fun h => by cases h)
  | succ n ih =>
    intro S x1 x2 x3 x4 x5 x6 H locs ls hP hS hl hf
    exact w_X8_goneStream_20_b X hR (f_X8_goneStream_20 n) ih S x1 x2 x3 x4 x5 x6 hP hS hl hf
set_option maxHeartbeats 4000000 in
theorem w_X8_goneStream {p : Program} {l : Launch} {e : Env} {R : Room} {s : State} {m : MethodId} {args : Array Value} {below : List Frame} {meth : Method} {c : Code} {D : va_G} {dA : Nat → ClassId} {A : Nat → Prop} {ad : L3 → Nat} (X : CX RX8 cX8_goneStream 8 none (KA D dA) p s m args meth c A) (hR : 6 ≤ R.frames ∧ 142 ≤ R.locals) {res : Mem} (S : Mem) (x1 : Int32) (x2 : Int32) (x3 : Int32) {H : Heap} {locs : List Loc} {ls : Array Slot} (hP : Wd D clA (shM dA) exM A ad S H) (hS : va_S A s.heap H locs) (hl : lv_has ls 8 [(0, .ref (ad M_o)), (1, .int x1), (2, .int x2), (3, .int x3)]) (hf : f_X8_goneStream S x1 x2 x3 = some res) : W p l e R s m args below meth c H locs 0 0 (MQ below (QvW D (shM dA) exM A ad res) args s 0 0 A) (F0 m 0 ls []) := by
  have hx := X.hx
  have hb := X.hb
  unfold f_X8_goneStream at hf
  refine lv_aload_n hx hb dX8_goneStream_0 rfl (lv_at hl 0 rfl) ?_
  refine rg_X8_148 X hP dX8_goneStream_1 ?_
  refine lv_iload_n hx hb dX8_goneStream_4 rfl (lv_at hl 2 rfl) ?_
  refine ra_lineA_ld X hP dX8_goneStream_5 hf (fun hf => ?_)
  refine lv_l2i hx hb dX8_goneStream_6 rfl ?_
  refine lv_istore (lv' := [(4, .int (Int64.toInt32 (S.2 M_lineA (Int32.toNatClampNeg x2)))), (0, .ref (ad M_o)), (1, .int x1), (2, .int x2), (3, .int x3)]) hx hb dX8_goneStream_7 hl (by decide) rfl (fun ls hl => ?_)
  refine lv_iload_n hx hb dX8_goneStream_9 rfl (lv_at hl 2 rfl) ?_
  refine lv_iload hx hb dX8_goneStream_10 (lv_at hl 0 rfl) ?_
  obtain ⟨v1, hq, hf⟩ := gS_eq hf
  refine gc_i (gc_fixS (S := S) X (mt_X8_at l D dA A ad S x1 (Int64.toInt32 (S.2 M_lineA (Int32.toNatClampNeg x2))) hq) (lw_S q1283 q1284 q93 q1285) ⟨rfl, rfl⟩ hd_X8_at.2 ⟨Nat.le_trans (Nat.le_of_ble_eq_true rfl) hR.1, Nat.le_trans (Nat.le_of_ble_eq_true rfl) hR.2⟩ hP hS ⟨Nat.zero_le _, Nat.zero_le _⟩ rfl hl.1 rfl (Nat.le_of_ble_eq_true rfl) dX8_goneStream_12) hS ?_
  rintro _ _ H locs ⟨rfl, rfl⟩ hP hS
  refine lv_istore (lv' := [(5, .int v1), (4, .int (Int64.toInt32 (S.2 M_lineA (Int32.toNatClampNeg x2)))), (0, .ref (ad M_o)), (1, .int x1), (2, .int x2), (3, .int x3)]) hx hb dX8_goneStream_15 hl (by decide) rfl (fun ls hl => ?_)
  refine lv_iconst (v := 0) hx hb dX8_goneStream_17 (by decide) ?_
  refine lv_istore (lv' := [(6, .int 0), (5, .int v1), (4, .int (Int64.toInt32 (S.2 M_lineA (Int32.toNatClampNeg x2)))), (0, .ref (ad M_o)), (1, .int x1), (2, .int x2), (3, .int x3)]) hx hb dX8_goneStream_18 hl (by decide) rfl (fun ls hl => ?_)
  exact w_X8_goneStream_20 X hR FU S x1 x2 x3 (Int64.toInt32 (S.2 M_lineA (Int32.toNatClampNeg x2))) v1 0 _ _ _ hP hS (lv_sub hl [3, 4, 5, 6, 2, 1, 0] rfl) hf
theorem hd_X8_goneStream : yX8_goneStream.cls = RX8 ∧ yX8_goneStream.cls ≠ "java/lang/invoke/MethodHandle" ∧ yX8_goneStream.cls ≠ "java/lang/invoke/VarHandle" ∧ (parseMethodDescriptor yX8_goneStream.desc).map (fun d => d.parameters.length) = some 3 := by decide +kernel
set_option maxHeartbeats 4000000 in
theorem mt_X8_goneStream (l : Launch) (D : va_G) (dA : Nat → ClassId) (A : Nat → Prop) (ad : L3 → Nat) (S : Mem) (x1 : Int32) (x2 : Int32) (x3 : Int32) {res : Mem} (hq : f_X8_goneStream S x1 x2 x3 = some res) : Met l yX8_goneStream (ws_ yX8_goneStream cX8_goneStream 8 none) ({ frames := 6, cells := 0, slots := 0, locals := 142 } : Room) (va_Pc [.ref (ad M_o), .int x1, .int x2, .int x3] (PreW D dA (shM dA) exM A ad S)) (QvW D (shM dA) exM A ad res) 0 0 A :=
  gx_head (by decide) (Nat.le_of_ble_eq_true rfl) (fun p e s m below meth c ls X hP hl => w_X8_goneStream (l := l) X ⟨Nat.le_of_ble_eq_true rfl, Nat.le_of_ble_eq_true rfl⟩ S x1 x2 x3 hP va_S.rf (lv_sub (l := [(0, .ref (ad M_o)), (1, .int x1), (2, .int x2), (3, .int x3)]) hl [0, 1, 2, 3] rfl) hq)
