set_option maxRecDepth 100000
set_option maxHeartbeats 4000000 in
theorem w_X2_bytes_38 {p : Program} {l : Launch} {e : Env} {R : Room} {s : State} {m : MethodId} {args : Array Value} {below : List Frame} {meth : Method} {c : Code} {D : va_G} {dA : Nat → ClassId} {A : Nat → Prop} {ad : L3 → Nat} (E : L3 → Bool) (k : Nat) (hE : EOK E) (hk : k < 2) (X : CX RX2 cX2_bytes 2 (some .int) (KA D dA) p s m args meth c A) (hR : 2 ≤ R.frames ∧ 61 ≤ R.locals) {res : Int32} (S : Mem) (y0 : Int32) (y1 : Int32) {H : Heap} {locs : List Loc} {ls : Array Slot} (hP : Wd D clA (shC dA E) (exC E) A ad S H) (hS : va_S A s.heap H locs) (hl : lv_has ls 2 [(0, .ref (ad (H_o k)))]) (hf : f_X2_bytes_38 k S y0 y1 = res) : W p l e R s m args below meth c H locs 0 0 (MQ below (QiR D (shC dA E) (exC E) A ad S res) args s 0 0 A) (F0 m 38 ls [.int y0, .int y1]) := by
  have hx := X.hx
  have hb := X.hb
  unfold f_X2_bytes_38 at hf
  refine lv_iadd hx hb dX2_bytes_38 ?_
  refine lv_aload_n hx hb dX2_bytes_39 rfl (lv_at hl 0 rfl) ?_
  refine rg_X2_283 X hP (ex_H_o hE hk) dX2_bytes_40 ?_
  refine lv_i2l hx hb dX2_bytes_43 rfl ?_
  obtain ⟨v1, hq, hf⟩ := gS_eq hf
  refine gc_i (gc_fixSN (S := S) X (mt_X1_sizeOf l D dA A ad E hE S (Int32.toInt64 (S.1 (H_o k) 18)) hq) (lw_meth q818) ⟨rfl, rfl⟩ hd_X1_sizeOf.2 ⟨Nat.le_trans (Nat.le_of_ble_eq_true rfl) hR.1, Nat.le_trans (Nat.le_of_ble_eq_true rfl) hR.2⟩ (X.hK.2 _ (nw_in q816 rfl)) (X.hts _ q86) (X.hts _ q817) hP hS ⟨Nat.zero_le _, Nat.zero_le _⟩ rfl hl.1 rfl (Nat.le_of_ble_eq_true rfl) dX2_bytes_44) hS ?_
  rintro _ _ H locs ⟨rfl, rfl⟩ hP hS
  refine lv_iadd hx hb dX2_bytes_47 ?_
  refine lv_aload_n hx hb dX2_bytes_48 rfl (lv_at hl 0 rfl) ?_
  refine rg_X2_283 X hP (ex_H_o hE hk) dX2_bytes_49 ?_
  refine lv_iadd hx hb dX2_bytes_52 ?_
  exact gr_iR X hP hS hf dX2_bytes_53
set_option maxHeartbeats 4000000 in
theorem w_X2_bytes_108 {p : Program} {l : Launch} {e : Env} {R : Room} {s : State} {m : MethodId} {args : Array Value} {below : List Frame} {meth : Method} {c : Code} {D : va_G} {dA : Nat → ClassId} {A : Nat → Prop} {ad : L3 → Nat} (E : L3 → Bool) (k : Nat) (hE : EOK E) (hk : k < 2) (X : CX RX2 cX2_bytes 2 (some .int) (KA D dA) p s m args meth c A) (hR : 2 ≤ R.frames ∧ 61 ≤ R.locals) {res : Int32} (S : Mem) (x1 : Int32) {H : Heap} {locs : List Loc} {ls : Array Slot} (hP : Wd D clA (shC dA E) (exC E) A ad S H) (hS : va_S A s.heap H locs) (hl : lv_has ls 2 [(0, .ref (ad (H_o k))), (1, .int x1)]) (hf : f_X2_bytes_108 k S x1 = res) : W p l e R s m args below meth c H locs 0 0 (MQ below (QiR D (shC dA E) (exC E) A ad S res) args s 0 0 A) (F0 m 108 ls []) := by
  have hx := X.hx
  have hb := X.hb
  unfold f_X2_bytes_108 at hf
  refine lv_aload_n hx hb dX2_bytes_108 rfl (lv_at hl 0 rfl) ?_
  refine rg_X2_271 X hP (ex_H_o hE hk) dX2_bytes_109 ?_
  refine lv_iconst (v := 4) hx hb dX2_bytes_112 (by decide) ?_
  refine gb_icmp_ne (tgt := 128) hx hb dX2_bytes_113 (by decide) hf (fun hf => ?_) (fun hf => ?_)
  · refine lv_iload_n hx hb dX2_bytes_128 rfl (lv_at hl 1 rfl) ?_
    exact gr_iR X hP hS hf dX2_bytes_129
  · refine lv_iload_n hx hb dX2_bytes_116 rfl (lv_at hl 1 rfl) ?_
    refine lv_aload_n hx hb dX2_bytes_117 rfl (lv_at hl 0 rfl) ?_
    refine rg_X2_280 X hP (ex_H_o hE hk) dX2_bytes_118 ?_
    obtain ⟨v1, hq, hf⟩ := gS_eq hf
    refine gc_i (gc_fixSN (S := S) X (mt_X1_sizeOf l D dA A ad E hE S (S.2 (H_o k) 21) hq) (lw_meth q818) ⟨rfl, rfl⟩ hd_X1_sizeOf.2 ⟨Nat.le_trans (Nat.le_of_ble_eq_true rfl) hR.1, Nat.le_trans (Nat.le_of_ble_eq_true rfl) hR.2⟩ (X.hK.2 _ (nw_in q816 rfl)) (X.hts _ q86) (X.hts _ q817) hP hS ⟨Nat.zero_le _, Nat.zero_le _⟩ rfl hl.1 rfl (Nat.le_of_ble_eq_true rfl) dX2_bytes_121) hS ?_
    rintro _ _ H locs ⟨rfl, rfl⟩ hP hS
    refine lv_iadd hx hb dX2_bytes_124 ?_
    refine lv_goto (tgt := 129) hx hb dX2_bytes_125 (by decide) ?_
    exact gr_iR X hP hS hf dX2_bytes_129
set_option maxHeartbeats 4000000 in
theorem w_X2_bytes_98 {p : Program} {l : Launch} {e : Env} {R : Room} {s : State} {m : MethodId} {args : Array Value} {below : List Frame} {meth : Method} {c : Code} {D : va_G} {dA : Nat → ClassId} {A : Nat → Prop} {ad : L3 → Nat} (E : L3 → Bool) (k : Nat) (hE : EOK E) (hk : k < 2) (X : CX RX2 cX2_bytes 2 (some .int) (KA D dA) p s m args meth c A) (hR : 2 ≤ R.frames ∧ 61 ≤ R.locals) {res : Int32} (S : Mem) (x1 : Int32) {H : Heap} {locs : List Loc} {ls : Array Slot} (hP : Wd D clA (shC dA E) (exC E) A ad S H) (hS : va_S A s.heap H locs) (hl : lv_has ls 2 [(0, .ref (ad (H_o k))), (1, .int x1)]) (hf : f_X2_bytes_98 k S x1 = res) : W p l e R s m args below meth c H locs 0 0 (MQ below (QiR D (shC dA E) (exC E) A ad S res) args s 0 0 A) (F0 m 98 ls []) := by
  have hx := X.hx
  have hb := X.hb
  unfold f_X2_bytes_98 at hf
  refine lv_iload_n hx hb dX2_bytes_98 rfl (lv_at hl 1 rfl) ?_
  refine lv_aload_n hx hb dX2_bytes_99 rfl (lv_at hl 0 rfl) ?_
  refine rg_X2_277 X hP (ex_H_o hE hk) dX2_bytes_100 ?_
  obtain ⟨v1, hq, hf⟩ := gS_eq hf
  refine gc_i (gc_fixSN (S := S) X (mt_X1_sizeOf l D dA A ad E hE S (S.2 (H_o k) 20) hq) (lw_meth q818) ⟨rfl, rfl⟩ hd_X1_sizeOf.2 ⟨Nat.le_trans (Nat.le_of_ble_eq_true rfl) hR.1, Nat.le_trans (Nat.le_of_ble_eq_true rfl) hR.2⟩ (X.hK.2 _ (nw_in q816 rfl)) (X.hts _ q86) (X.hts _ q817) hP hS ⟨Nat.zero_le _, Nat.zero_le _⟩ rfl hl.1 rfl (Nat.le_of_ble_eq_true rfl) dX2_bytes_103) hS ?_
  rintro _ _ H locs ⟨rfl, rfl⟩ hP hS
  refine lv_iadd hx hb dX2_bytes_106 ?_
  refine lv_istore_n (lv' := [(1, .int (x1 + v1)), (0, .ref (ad (H_o k)))]) hx hb dX2_bytes_107 rfl hl (by decide) rfl (fun ls hl => ?_)
  exact w_X2_bytes_108 E k hE hk X hR S (x1 + v1) hP hS (lv_sub hl [1, 0] rfl) hf
set_option maxHeartbeats 4000000 in
theorem w_X2_bytes {p : Program} {l : Launch} {e : Env} {R : Room} {s : State} {m : MethodId} {args : Array Value} {below : List Frame} {meth : Method} {c : Code} {D : va_G} {dA : Nat → ClassId} {A : Nat → Prop} {ad : L3 → Nat} (E : L3 → Bool) (k : Nat) (hE : EOK E) (hk : k < 2) (X : CX RX2 cX2_bytes 2 (some .int) (KA D dA) p s m args meth c A) (hR : 2 ≤ R.frames ∧ 61 ≤ R.locals) {res : Int32} (S : Mem) {H : Heap} {locs : List Loc} {ls : Array Slot} (hP : Wd D clA (shC dA E) (exC E) A ad S H) (hS : va_S A s.heap H locs) (hl : lv_has ls 2 [(0, .ref (ad (H_o k)))]) (hf : f_X2_bytes k S = res) : W p l e R s m args below meth c H locs 0 0 (MQ below (QiR D (shC dA E) (exC E) A ad S res) args s 0 0 A) (F0 m 0 ls []) := by
  have hx := X.hx
  have hb := X.hb
  unfold f_X2_bytes at hf
  refine lv_aload_n hx hb dX2_bytes_0 rfl (lv_at hl 0 rfl) ?_
  refine rg_X2_271 X hP (ex_H_o hE hk) dX2_bytes_1 ?_
  refine lv_bipush (v := 8) hx hb dX2_bytes_4 (by decide) ?_
  refine gb_icmp_ne (tgt := 54) hx hb dX2_bytes_6 (by decide) hf (fun hf => ?_) (fun hf => ?_)
  · refine lv_iconst (v := 1) hx hb dX2_bytes_54 (by decide) ?_
    refine lv_aload_n hx hb dX2_bytes_55 rfl (lv_at hl 0 rfl) ?_
    refine rg_X2_274 X hP (ex_H_o hE hk) dX2_bytes_56 ?_
    obtain ⟨v1, hq, hf⟩ := gS_eq hf
    refine gc_i (gc_fixSN (S := S) X (mt_X1_sizeOf l D dA A ad E hE S (S.2 (H_o k) 19) hq) (lw_meth q818) ⟨rfl, rfl⟩ hd_X1_sizeOf.2 ⟨Nat.le_trans (Nat.le_of_ble_eq_true rfl) hR.1, Nat.le_trans (Nat.le_of_ble_eq_true rfl) hR.2⟩ (X.hK.2 _ (nw_in q816 rfl)) (X.hts _ q86) (X.hts _ q817) hP hS ⟨Nat.zero_le _, Nat.zero_le _⟩ rfl hl.1 rfl (Nat.le_of_ble_eq_true rfl) dX2_bytes_59) hS ?_
    rintro _ _ H locs ⟨rfl, rfl⟩ hP hS
    refine lv_iadd hx hb dX2_bytes_62 ?_
    refine lv_istore_n (lv' := [(1, .int (1 + v1)), (0, .ref (ad (H_o k)))]) hx hb dX2_bytes_63 rfl hl (by decide) rfl (fun ls hl => ?_)
    refine lv_aload_n hx hb dX2_bytes_64 rfl (lv_at hl 1 rfl) ?_
    refine rg_X2_271 X hP (ex_H_o hE hk) dX2_bytes_65 ?_
    refine lv_iconst (v := 4) hx hb dX2_bytes_68 (by decide) ?_
    refine gb_icmp_eq (tgt := 98) hx hb dX2_bytes_69 (by decide) hf (fun hf => ?_) (fun hf => ?_)
    · exact w_X2_bytes_98 E k hE hk X hR S (1 + v1) hP hS (lv_sub hl [1, 0] rfl) hf
    · refine lv_aload_n hx hb dX2_bytes_72 rfl (lv_at hl 1 rfl) ?_
      refine rg_X2_271 X hP (ex_H_o hE hk) dX2_bytes_73 ?_
      refine lv_iconst (v := 5) hx hb dX2_bytes_76 (by decide) ?_
      refine gb_icmp_eq (tgt := 98) hx hb dX2_bytes_77 (by decide) hf (fun hf => ?_) (fun hf => ?_)
      · exact w_X2_bytes_98 E k hE hk X hR S (1 + v1) hP hS (lv_sub hl [1, 0] rfl) hf
      · refine lv_aload_n hx hb dX2_bytes_80 rfl (lv_at hl 1 rfl) ?_
        refine rg_X2_271 X hP (ex_H_o hE hk) dX2_bytes_81 ?_
        refine lv_bipush (v := 17) hx hb dX2_bytes_84 (by decide) ?_
        refine gb_icmp_eq (tgt := 98) hx hb dX2_bytes_86 (by decide) hf (fun hf => ?_) (fun hf => ?_)
        · exact w_X2_bytes_98 E k hE hk X hR S (1 + v1) hP hS (lv_sub hl [1, 0] rfl) hf
        · refine lv_aload_n hx hb dX2_bytes_89 rfl (lv_at hl 1 rfl) ?_
          refine rg_X2_271 X hP (ex_H_o hE hk) dX2_bytes_90 ?_
          refine lv_bipush (v := 21) hx hb dX2_bytes_93 (by decide) ?_
          refine gb_icmp_ne (tgt := 108) hx hb dX2_bytes_95 (by decide) hf (fun hf => ?_) (fun hf => ?_)
          · exact w_X2_bytes_108 E k hE hk X hR S (1 + v1) hP hS (lv_sub hl [1, 0] rfl) hf
          · exact w_X2_bytes_98 E k hE hk X hR S (1 + v1) hP hS (lv_sub hl [1, 0] rfl) hf
  · refine lv_iconst (v := 1) hx hb dX2_bytes_9 (by decide) ?_
    refine lv_aload_n hx hb dX2_bytes_10 rfl (lv_at hl 0 rfl) ?_
    refine rg_X2_274 X hP (ex_H_o hE hk) dX2_bytes_11 ?_
    obtain ⟨v2, hq, hf⟩ := gS_eq hf
    refine gc_i (gc_fixSN (S := S) X (mt_X1_sizeOf l D dA A ad E hE S (S.2 (H_o k) 19) hq) (lw_meth q818) ⟨rfl, rfl⟩ hd_X1_sizeOf.2 ⟨Nat.le_trans (Nat.le_of_ble_eq_true rfl) hR.1, Nat.le_trans (Nat.le_of_ble_eq_true rfl) hR.2⟩ (X.hK.2 _ (nw_in q816 rfl)) (X.hts _ q86) (X.hts _ q817) hP hS ⟨Nat.zero_le _, Nat.zero_le _⟩ rfl hl.1 rfl (Nat.le_of_ble_eq_true rfl) dX2_bytes_14) hS ?_
    rintro _ _ H locs ⟨rfl, rfl⟩ hP hS
    refine lv_iadd hx hb dX2_bytes_17 ?_
    refine lv_aload_n hx hb dX2_bytes_18 rfl (lv_at hl 0 rfl) ?_
    refine rg_X2_277 X hP (ex_H_o hE hk) dX2_bytes_19 ?_
    refine lv_lconst (v := 0) hx hb dX2_bytes_22 (by decide) ?_
    refine gb_lcmp_ne (tgt := 31) hx hb dX2_bytes_23 dX2_bytes_24 (by decide) hf (fun hf => ?_) (fun hf => ?_)
    · refine lv_aload_n hx hb dX2_bytes_31 rfl (lv_at hl 0 rfl) ?_
      refine rg_X2_277 X hP (ex_H_o hE hk) dX2_bytes_32 ?_
      obtain ⟨v3, hq, hf⟩ := gS_eq hf
      refine gc_i (gc_fixSN (S := S) X (mt_X1_sizeOf l D dA A ad E hE S (S.2 (H_o k) 20) hq) (lw_meth q818) ⟨rfl, rfl⟩ hd_X1_sizeOf.2 ⟨Nat.le_trans (Nat.le_of_ble_eq_true rfl) hR.1, Nat.le_trans (Nat.le_of_ble_eq_true rfl) hR.2⟩ (X.hK.2 _ (nw_in q816 rfl)) (X.hts _ q86) (X.hts _ q817) hP hS ⟨Nat.zero_le _, Nat.zero_le _⟩ rfl hl.1 rfl (Nat.le_of_ble_eq_true rfl) dX2_bytes_35) hS ?_
      rintro _ _ H locs ⟨rfl, rfl⟩ hP hS
      exact w_X2_bytes_38 E k hE hk X hR S v3 (1 + v2) hP hS (lv_sub hl [0] rfl) hf
    · refine lv_iconst (v := 0) hx hb dX2_bytes_27 (by decide) ?_
      refine lv_goto (tgt := 38) hx hb dX2_bytes_28 (by decide) ?_
      exact w_X2_bytes_38 E k hE hk X hR S 0 (1 + v2) hP hS (lv_sub hl [0] rfl) hf
theorem hd_X2_bytes : yX2_bytes.cls = RX2 ∧ yX2_bytes.cls ≠ "java/lang/invoke/MethodHandle" ∧ yX2_bytes.cls ≠ "java/lang/invoke/VarHandle" ∧ (parseMethodDescriptor yX2_bytes.desc).map (fun d => d.parameters.length) = some 0 := by decide +kernel
set_option maxHeartbeats 4000000 in
theorem mt_X2_bytes (l : Launch) (D : va_G) (dA : Nat → ClassId) (A : Nat → Prop) (ad : L3 → Nat) (E : L3 → Bool) (k : Nat) (hE : EOK E) (hk : k < 2) (S : Mem) {res : Int32} (hq : f_X2_bytes k S = res) : Met l yX2_bytes (ws_ yX2_bytes cX2_bytes 2 (some .int)) ({ frames := 2, cells := 0, slots := 0, locals := 61 } : Room) (va_Pc [.ref (ad (H_o k))] (PreW D dA (shC dA E) (exC E) A ad S)) (QiR D (shC dA E) (exC E) A ad S res) 0 0 A :=
  gx_head (by decide) (Nat.le_of_ble_eq_true rfl) (fun p e s m below meth c ls X hP hl => w_X2_bytes (l := l) E k hE hk X ⟨Nat.le_of_ble_eq_true rfl, Nat.le_of_ble_eq_true rfl⟩ S hP va_S.rf (lv_sub (l := [(0, .ref (ad (H_o k)))]) hl [0] rfl) hq)
set_option maxHeartbeats 4000000 in
theorem w_X2_allowed_70 {p : Program} {l : Launch} {e : Env} {R : Room} {s : State} {m : MethodId} {args : Array Value} {below : List Frame} {meth : Method} {c : Code} {D : va_G} {dA : Nat → ClassId} {A : Nat → Prop} {ad : L3 → Nat} (E : L3 → Bool) (k : Nat) (hE : EOK E) (hk : k < 2) (X : CX RX2 cX2_allowed 6 (some .int) (KA D dA) p s m args meth c A) (hR : 3 ≤ R.frames ∧ 83 ≤ R.locals) {res : Int32} (S : Mem) {H : Heap} {locs : List Loc} {ls : Array Slot} (hP : Wd D clA (shC dA E) (exC E) A ad S H) (hS : va_S A s.heap H locs) (hl : lv_has ls 6 []) (hf : f_X2_allowed_70 k S = some res) : W p l e R s m args below meth c H locs 0 0 (MQ below (QiR D (shC dA E) (exC E) A ad S res) args s 0 0 A) (F0 m 70 ls []) := by
  have hx := X.hx
  have hb := X.hb
  unfold f_X2_allowed_70 at hf
  refine lv_iconst (v := 5) hx hb dX2_allowed_70 (by decide) ?_
  refine lv_goto (tgt := 105) hx hb dX2_allowed_71 (by decide) ?_
  exact gr_iR X hP hS (Option.some.inj hf) dX2_allowed_105
set_option maxHeartbeats 4000000 in
theorem w_X2_allowed_58 {p : Program} {l : Launch} {e : Env} {R : Room} {s : State} {m : MethodId} {args : Array Value} {below : List Frame} {meth : Method} {c : Code} {D : va_G} {dA : Nat → ClassId} {A : Nat → Prop} {ad : L3 → Nat} (E : L3 → Bool) (k : Nat) (hE : EOK E) (hk : k < 2) (X : CX RX2 cX2_allowed 6 (some .int) (KA D dA) p s m args meth c A) (hR : 3 ≤ R.frames ∧ 83 ≤ R.locals) {res : Int32} (S : Mem) (x1 : Int64) (x4 : Int32) (y0 : Int32) {H : Heap} {locs : List Loc} {ls : Array Slot} (hP : Wd D clA (shC dA E) (exC E) A ad S H) (hS : va_S A s.heap H locs) (hl : lv_has ls 6 [(0, .ref (ad (H_o k))), (1, .long x1), (4, .int x4)]) (hf : f_X2_allowed_58 k S x1 x4 y0 = some res) : W p l e R s m args below meth c H locs 0 0 (MQ below (QiR D (shC dA E) (exC E) A ad S res) args s 0 0 A) (F0 m 58 ls [.int y0]) := by
  have hx := X.hx
  have hb := X.hb
  unfold f_X2_allowed_58 at hf
  refine lv_istore (lv' := [(5, .int y0), (0, .ref (ad (H_o k))), (1, .long x1), (4, .int x4)]) hx hb dX2_allowed_58 hl (by decide) rfl (fun ls hl => ?_)
  refine lv_iload hx hb dX2_allowed_60 (lv_at hl 3 rfl) ?_
  refine gb_if_eq (tgt := 70) hx hb dX2_allowed_62 (by decide) hf (fun hf => ?_) (fun hf => ?_)
  · exact w_X2_allowed_70 E k hE hk X hR S hP hS (lv_sub hl [] rfl) hf
  · refine lv_iload hx hb dX2_allowed_65 (lv_at hl 0 rfl) ?_
    refine gb_if_ne (tgt := 74) hx hb dX2_allowed_67 (by decide) hf (fun hf => ?_) (fun hf => ?_)
    · refine lv_aload_n hx hb dX2_allowed_74 rfl (lv_at hl 1 rfl) ?_
      refine lv_lload_n hx hb dX2_allowed_75 rfl (lv_at hl 2 rfl) ?_
      obtain ⟨v1, hq, hf⟩ := gS_eq hf
      refine gc_i (gc_fixV (S := S) X (mt_X2_isOwn l D dA A ad E k hE hk S x1 hq) (lw_V q533 q535 qs4 q87 q536) ⟨rfl, rfl⟩ hd_X2_isOwn ⟨Nat.le_trans (Nat.le_of_ble_eq_true rfl) hR.1, Nat.le_trans (Nat.le_of_ble_eq_true rfl) hR.2⟩ (wd_recv (r := H_o k) (ci := 2) (q := (RX2, TX2, 23)) X.hK.1 hP (ex_H_o hE hk) rfl rfl) hP hS ⟨Nat.zero_le _, Nat.zero_le _⟩ rfl hl.1 rfl (Nat.le_of_ble_eq_true rfl) dX2_allowed_76) hS ?_
      rintro _ _ H locs ⟨rfl, rfl⟩ hP hS
      refine gb_if_ne (tgt := 104) hx hb dX2_allowed_79 (by decide) hf (fun hf => ?_) (fun hf => ?_)
      · refine lv_iconst (v := 0) hx hb dX2_allowed_104 (by decide) ?_
        exact gr_iR X hP hS (Option.some.inj hf) dX2_allowed_105
      · refine lv_lload_n hx hb dX2_allowed_82 rfl (lv_at hl 2 rfl) ?_
        refine lv_ldc2 hx hb X.hown (X.hts _ q910) dX2_allowed_83 ?_
        refine lv_ldiv hx hb dX2_allowed_86 (by decide) ?_
        refine lv_aload_n hx hb dX2_allowed_87 rfl (lv_at hl 1 rfl) ?_
        refine lv_lload_n hx hb dX2_allowed_88 rfl (lv_at hl 2 rfl) ?_
        obtain ⟨v2, hq, hf⟩ := gB_some hf
        refine gc_q (gc_fixV (S := S) X (mt_X2_way l D dA A ad E k hE hk S x1 hq) (lw_V q789 q791 qs14 q87 q792) ⟨rfl, rfl⟩ hd_X2_way ⟨Nat.le_trans (Nat.le_of_ble_eq_true rfl) hR.1, Nat.le_trans (Nat.le_of_ble_eq_true rfl) hR.2⟩ (wd_recv (r := H_o k) (ci := 2) (q := (RX2, TX2, 23)) X.hK.1 hP (ex_H_o hE hk) rfl rfl) hP hS ⟨Nat.zero_le _, Nat.zero_le _⟩ rfl hl.1 rfl (Nat.le_of_ble_eq_true rfl) dX2_allowed_89) hS ?_
        rintro _ _ H locs ⟨rfl, rfl, hv⟩ hP hS
        have hw3 := hv
        refine rg_X2_79 X hP (ex_W_o hE hk hw3) dX2_allowed_92 ?_
        refine lv_i2l hx hb dX2_allowed_95 rfl ?_
        refine gb_lcmp_lt (tgt := 104) hx hb dX2_allowed_96 dX2_allowed_97 (by decide) hf (fun hf => ?_) (fun hf => ?_)
        · refine lv_iconst (v := 0) hx hb dX2_allowed_104 (by decide) ?_
          exact gr_iR X hP hS (Option.some.inj hf) dX2_allowed_105
        · refine lv_iconst (v := 4) hx hb dX2_allowed_100 (by decide) ?_
          refine lv_goto (tgt := 105) hx hb dX2_allowed_101 (by decide) ?_
          exact gr_iR X hP hS (Option.some.inj hf) dX2_allowed_105
    · exact w_X2_allowed_70 E k hE hk X hR S hP hS (lv_sub hl [] rfl) hf
set_option maxHeartbeats 4000000 in
theorem w_X2_allowed_53 {p : Program} {l : Launch} {e : Env} {R : Room} {s : State} {m : MethodId} {args : Array Value} {below : List Frame} {meth : Method} {c : Code} {D : va_G} {dA : Nat → ClassId} {A : Nat → Prop} {ad : L3 → Nat} (E : L3 → Bool) (k : Nat) (hE : EOK E) (hk : k < 2) (X : CX RX2 cX2_allowed 6 (some .int) (KA D dA) p s m args meth c A) (hR : 3 ≤ R.frames ∧ 83 ≤ R.locals) {res : Int32} (S : Mem) (x1 : Int64) (x4 : Int32) {H : Heap} {locs : List Loc} {ls : Array Slot} (hP : Wd D clA (shC dA E) (exC E) A ad S H) (hS : va_S A s.heap H locs) (hl : lv_has ls 6 [(0, .ref (ad (H_o k))), (1, .long x1), (4, .int x4)]) (hf : f_X2_allowed_53 k S x1 x4 = some res) : W p l e R s m args below meth c H locs 0 0 (MQ below (QiR D (shC dA E) (exC E) A ad S res) args s 0 0 A) (F0 m 53 ls []) := by
  have hx := X.hx
  have hb := X.hb
  unfold f_X2_allowed_53 at hf
  refine lv_iconst (v := 1) hx hb dX2_allowed_53 (by decide) ?_
  refine lv_goto (tgt := 58) hx hb dX2_allowed_54 (by decide) ?_
  exact w_X2_allowed_58 E k hE hk X hR S x1 x4 1 hP hS (lv_sub hl [0, 1, 2] rfl) hf
set_option maxHeartbeats 4000000 in
theorem w_X2_allowed_35 {p : Program} {l : Launch} {e : Env} {R : Room} {s : State} {m : MethodId} {args : Array Value} {below : List Frame} {meth : Method} {c : Code} {D : va_G} {dA : Nat → ClassId} {A : Nat → Prop} {ad : L3 → Nat} (E : L3 → Bool) (k : Nat) (hE : EOK E) (hk : k < 2) (X : CX RX2 cX2_allowed 6 (some .int) (KA D dA) p s m args meth c A) (hR : 3 ≤ R.frames ∧ 83 ≤ R.locals) {res : Int32} (S : Mem) (x1 : Int64) (x3 : Int32) (y0 : Int32) {H : Heap} {locs : List Loc} {ls : Array Slot} (hP : Wd D clA (shC dA E) (exC E) A ad S H) (hS : va_S A s.heap H locs) (hl : lv_has ls 6 [(0, .ref (ad (H_o k))), (1, .long x1), (3, .int x3)]) (hf : f_X2_allowed_35 k S x1 x3 y0 = some res) : W p l e R s m args below meth c H locs 0 0 (MQ below (QiR D (shC dA E) (exC E) A ad S res) args s 0 0 A) (F0 m 35 ls [.int y0]) := by
  have hx := X.hx
  have hb := X.hb
  unfold f_X2_allowed_35 at hf
  refine lv_istore (lv' := [(4, .int y0), (0, .ref (ad (H_o k))), (1, .long x1), (3, .int x3)]) hx hb dX2_allowed_35 hl (by decide) rfl (fun ls hl => ?_)
  refine lv_lload_n hx hb dX2_allowed_37 rfl (lv_at hl 2 rfl) ?_
  obtain ⟨v1, hq, hf⟩ := gS_eq hf
  refine gc_i (gc_fixS (S := S) X (mt_X2_isOneWay l D dA A ad E hE S x1 hq) (lw_S q529 q530 q87 q531) ⟨rfl, rfl⟩ hd_X2_isOneWay.2 ⟨Nat.le_trans (Nat.le_of_ble_eq_true rfl) hR.1, Nat.le_trans (Nat.le_of_ble_eq_true rfl) hR.2⟩ hP hS ⟨Nat.zero_le _, Nat.zero_le _⟩ rfl hl.1 rfl (Nat.le_of_ble_eq_true rfl) dX2_allowed_38) hS ?_
  rintro _ _ H locs ⟨rfl, rfl⟩ hP hS
  refine gb_if_eq (tgt := 53) hx hb dX2_allowed_41 (by decide) hf (fun hf => ?_) (fun hf => ?_)
  · exact w_X2_allowed_53 E k hE hk X hR S x1 y0 hP hS (lv_sub hl [1, 2, 0] rfl) hf
  · refine lv_aload_n hx hb dX2_allowed_44 rfl (lv_at hl 1 rfl) ?_
    refine lv_lload_n hx hb dX2_allowed_45 rfl (lv_at hl 2 rfl) ?_
    obtain ⟨v2, hq, hf⟩ := gS_eq hf
    refine gc_i (gc_fixV (S := S) X (mt_X2_isOwn l D dA A ad E k hE hk S x1 hq) (lw_V q533 q535 qs4 q87 q536) ⟨rfl, rfl⟩ hd_X2_isOwn ⟨Nat.le_trans (Nat.le_of_ble_eq_true rfl) hR.1, Nat.le_trans (Nat.le_of_ble_eq_true rfl) hR.2⟩ (wd_recv (r := H_o k) (ci := 2) (q := (RX2, TX2, 23)) X.hK.1 hP (ex_H_o hE hk) rfl rfl) hP hS ⟨Nat.zero_le _, Nat.zero_le _⟩ rfl hl.1 rfl (Nat.le_of_ble_eq_true rfl) dX2_allowed_46) hS ?_
    rintro _ _ H locs ⟨rfl, rfl⟩ hP hS
    refine lv_iload_n hx hb dX2_allowed_49 rfl (lv_at hl 3 rfl) ?_
    refine gb_icmp_ne (tgt := 57) hx hb dX2_allowed_50 (by decide) hf (fun hf => ?_) (fun hf => ?_)
    · refine lv_iconst (v := 0) hx hb dX2_allowed_57 (by decide) ?_
      exact w_X2_allowed_58 E k hE hk X hR S x1 y0 0 hP hS (lv_sub hl [1, 2, 0] rfl) hf
    · exact w_X2_allowed_53 E k hE hk X hR S x1 y0 hP hS (lv_sub hl [1, 2, 0] rfl) hf
set_option maxHeartbeats 4000000 in
theorem w_X2_allowed {p : Program} {l : Launch} {e : Env} {R : Room} {s : State} {m : MethodId} {args : Array Value} {below : List Frame} {meth : Method} {c : Code} {D : va_G} {dA : Nat → ClassId} {A : Nat → Prop} {ad : L3 → Nat} (E : L3 → Bool) (k : Nat) (hE : EOK E) (hk : k < 2) (X : CX RX2 cX2_allowed 6 (some .int) (KA D dA) p s m args meth c A) (hR : 3 ≤ R.frames ∧ 83 ≤ R.locals) {res : Int32} (S : Mem) (x1 : Int64) (x3 : Int32) {H : Heap} {locs : List Loc} {ls : Array Slot} (hP : Wd D clA (shC dA E) (exC E) A ad S H) (hS : va_S A s.heap H locs) (hl : lv_has ls 6 [(0, .ref (ad (H_o k))), (1, .long x1), (3, .int x3)]) (hf : f_X2_allowed k S x1 x3 = some res) : W p l e R s m args below meth c H locs 0 0 (MQ below (QiR D (shC dA E) (exC E) A ad S res) args s 0 0 A) (F0 m 0 ls []) := by
  have hx := X.hx
  have hb := X.hb
  unfold f_X2_allowed at hf
  refine lv_aload_n hx hb dX2_allowed_0 rfl (lv_at hl 0 rfl) ?_
  refine lv_lload_n hx hb dX2_allowed_1 rfl (lv_at hl 1 rfl) ?_
  obtain ⟨v1, hq, hf⟩ := gS_eq hf
  refine gc_i (gc_fixV (S := S) X (mt_X2_isOwn l D dA A ad E k hE hk S x1 hq) (lw_V q533 q535 qs4 q87 q536) ⟨rfl, rfl⟩ hd_X2_isOwn ⟨Nat.le_trans (Nat.le_of_ble_eq_true rfl) hR.1, Nat.le_trans (Nat.le_of_ble_eq_true rfl) hR.2⟩ (wd_recv (r := H_o k) (ci := 2) (q := (RX2, TX2, 23)) X.hK.1 hP (ex_H_o hE hk) rfl rfl) hP hS ⟨Nat.zero_le _, Nat.zero_le _⟩ rfl hl.1 rfl (Nat.le_of_ble_eq_true rfl) dX2_allowed_2) hS ?_
  rintro _ _ H locs ⟨rfl, rfl⟩ hP hS
  refine gb_if_eq (tgt := 34) hx hb dX2_allowed_5 (by decide) hf (fun hf => ?_) (fun hf => ?_)
  · refine lv_iconst (v := 1) hx hb dX2_allowed_34 (by decide) ?_
    exact w_X2_allowed_35 E k hE hk X hR S x1 x3 1 hP hS (lv_sub hl [0, 1, 2] rfl) hf
  · refine lv_lload_n hx hb dX2_allowed_8 rfl (lv_at hl 1 rfl) ?_
    refine lv_ldc2 hx hb X.hown (X.hts _ q910) dX2_allowed_9 ?_
    refine lv_ldiv hx hb dX2_allowed_12 (by decide) ?_
    refine lv_aload_n hx hb dX2_allowed_13 rfl (lv_at hl 0 rfl) ?_
    refine lv_lload_n hx hb dX2_allowed_14 rfl (lv_at hl 1 rfl) ?_
    obtain ⟨v2, hq, hf⟩ := gB_some hf
    refine gc_q (gc_fixV (S := S) X (mt_X2_way l D dA A ad E k hE hk S x1 hq) (lw_V q789 q791 qs14 q87 q792) ⟨rfl, rfl⟩ hd_X2_way ⟨Nat.le_trans (Nat.le_of_ble_eq_true rfl) hR.1, Nat.le_trans (Nat.le_of_ble_eq_true rfl) hR.2⟩ (wd_recv (r := H_o k) (ci := 2) (q := (RX2, TX2, 23)) X.hK.1 hP (ex_H_o hE hk) rfl rfl) hP hS ⟨Nat.zero_le _, Nat.zero_le _⟩ rfl hl.1 rfl (Nat.le_of_ble_eq_true rfl) dX2_allowed_15) hS ?_
    rintro _ _ H locs ⟨rfl, rfl, hv⟩ hP hS
    have hw3 := hv
    refine rg_X2_115 X hP (ex_W_o hE hk hw3) dX2_allowed_18 ?_
    refine lv_i2l hx hb dX2_allowed_21 rfl ?_
    refine gb_lcmp_ge (tgt := 30) hx hb dX2_allowed_22 dX2_allowed_23 (by decide) hf (fun hf => ?_) (fun hf => ?_)
    · refine lv_iconst (v := 0) hx hb dX2_allowed_30 (by decide) ?_
      refine lv_goto (tgt := 35) hx hb dX2_allowed_31 (by decide) ?_
      exact w_X2_allowed_35 E k hE hk X hR S x1 x3 0 hP hS (lv_sub hl [0, 1, 2] rfl) hf
    · refine lv_iconst (v := 1) hx hb dX2_allowed_26 (by decide) ?_
      refine lv_goto (tgt := 35) hx hb dX2_allowed_27 (by decide) ?_
      exact w_X2_allowed_35 E k hE hk X hR S x1 x3 1 hP hS (lv_sub hl [0, 1, 2] rfl) hf
theorem hd_X2_allowed : yX2_allowed.cls = RX2 ∧ yX2_allowed.cls ≠ "java/lang/invoke/MethodHandle" ∧ yX2_allowed.cls ≠ "java/lang/invoke/VarHandle" ∧ (parseMethodDescriptor yX2_allowed.desc).map (fun d => d.parameters.length) = some 2 := by decide +kernel
set_option maxHeartbeats 4000000 in
theorem mt_X2_allowed (l : Launch) (D : va_G) (dA : Nat → ClassId) (A : Nat → Prop) (ad : L3 → Nat) (E : L3 → Bool) (k : Nat) (hE : EOK E) (hk : k < 2) (S : Mem) (x1 : Int64) (x3 : Int32) {res : Int32} (hq : f_X2_allowed k S x1 x3 = some res) : Met l yX2_allowed (ws_ yX2_allowed cX2_allowed 6 (some .int)) ({ frames := 3, cells := 0, slots := 0, locals := 83 } : Room) (va_Pc [.ref (ad (H_o k)), .long x1, .int x3] (PreW D dA (shC dA E) (exC E) A ad S)) (QiR D (shC dA E) (exC E) A ad S res) 0 0 A :=
  gx_head (by decide) (Nat.le_of_ble_eq_true rfl) (fun p e s m below meth c ls X hP hl => w_X2_allowed (l := l) E k hE hk X ⟨Nat.le_of_ble_eq_true rfl, Nat.le_of_ble_eq_true rfl⟩ S x1 x3 hP va_S.rf (lv_sub (l := [(0, .ref (ad (H_o k))), (1, .long x1), (3, .int x3)]) hl [0, 1, 2] rfl) hq)
set_option maxHeartbeats 4000000 in
theorem w_X2_fits_141 {p : Program} {l : Launch} {e : Env} {R : Room} {s : State} {m : MethodId} {args : Array Value} {below : List Frame} {meth : Method} {c : Code} {D : va_G} {dA : Nat → ClassId} {A : Nat → Prop} {ad : L3 → Nat} (E : L3 → Bool) (k : Nat) (hE : EOK E) (hk : k < 2) (X : CX RX2 cX2_fits 9 (some .int) (KA D dA) p s m args meth c A) (hR : 3 ≤ R.frames ∧ 85 ≤ R.locals) {res : Int32} (S : Mem) {H : Heap} {locs : List Loc} {ls : Array Slot} (hP : Wd D clA (shC dA E) (exC E) A ad S H) (hS : va_S A s.heap H locs) (hl : lv_has ls 9 []) (hf : f_X2_fits_141 E k S = some res) : W p l e R s m args below meth c H locs 0 0 (MQ below (QiR D (shC dA E) (exC E) A ad S res) args s 0 0 A) (F0 m 141 ls []) := by
  have hx := X.hx
  have hb := X.hb
  unfold f_X2_fits_141 at hf
  refine lv_iconst (v := 3) hx hb dX2_fits_141 (by decide) ?_
  refine lv_goto (tgt := 146) hx hb dX2_fits_142 (by decide) ?_
  exact gr_iR X hP hS (Option.some.inj hf) dX2_fits_146
set_option maxHeartbeats 4000000 in
theorem w_X2_fits_107 {p : Program} {l : Launch} {e : Env} {R : Room} {s : State} {m : MethodId} {args : Array Value} {below : List Frame} {meth : Method} {c : Code} {D : va_G} {dA : Nat → ClassId} {A : Nat → Prop} {ad : L3 → Nat} (E : L3 → Bool) (k : Nat) (hE : EOK E) (hk : k < 2) (X : CX RX2 cX2_fits 9 (some .int) (KA D dA) p s m args meth c A) (hR : 3 ≤ R.frames ∧ 85 ≤ R.locals) {res : Int32} (S : Mem) (x2 : Int64) (x6 : Int32) (y0 : Int32) {H : Heap} {locs : List Loc} {ls : Array Slot} (hP : Wd D clA (shC dA E) (exC E) A ad S H) (hS : va_S A s.heap H locs) (hl : lv_has ls 9 [(0, .ref (ad (H_o k))), (2, .long x2), (6, .int x6)]) (hf : f_X2_fits_107 E k S x2 x6 y0 = some res) : W p l e R s m args below meth c H locs 0 0 (MQ below (QiR D (shC dA E) (exC E) A ad S res) args s 0 0 A) (F0 m 107 ls [.int y0]) := by
  have hx := X.hx
  have hb := X.hb
  unfold f_X2_fits_107 at hf
  refine lv_istore (lv' := [(8, .int y0), (0, .ref (ad (H_o k))), (2, .long x2), (6, .int x6)]) hx hb dX2_fits_107 hl (by decide) rfl (fun ls hl => ?_)
  refine lv_lload_n hx hb dX2_fits_109 rfl (lv_at hl 2 rfl) ?_
  refine lv_iload hx hb dX2_fits_110 (lv_at hl 0 rfl) ?_
  refine lv_i2l hx hb dX2_fits_112 rfl ?_
  refine gb_lcmp_gt (tgt := 141) hx hb dX2_fits_113 dX2_fits_114 (by decide) hf (fun hf => ?_) (fun hf => ?_)
  · exact w_X2_fits_141 E k hE hk X hR S hP hS (lv_sub hl [] rfl) hf
  · refine lv_aload_n hx hb dX2_fits_117 rfl (lv_at hl 1 rfl) ?_
    refine rg_X2_226 X hP (ex_H_o hE hk) dX2_fits_118 ?_
    refine lv_i2l hx hb dX2_fits_121 rfl ?_
    refine lv_lload_n hx hb dX2_fits_122 rfl (lv_at hl 2 rfl) ?_
    refine lv_iload hx hb dX2_fits_123 (lv_at hl 3 rfl) ?_
    refine lv_i2l hx hb dX2_fits_125 rfl ?_
    refine lv_lsub hx hb dX2_fits_126 ?_
    refine lv_lconst (v := 0) hx hb dX2_fits_127 (by decide) ?_
    refine gm_mxJ X (X.hts _ q840) (X.hts _ q841) (X.hts _ q99) (X.hts _ q842) hl.1 ⟨Nat.zero_le _, Nat.zero_le _⟩ (Nat.le_trans (Nat.le_of_ble_eq_true rfl) hR.1) (Nat.le_trans (Nat.le_of_ble_eq_true rfl) hR.2) dX2_fits_128 ?_
    refine lv_ladd hx hb dX2_fits_131 ?_
    refine lv_aload_n hx hb dX2_fits_132 rfl (lv_at hl 1 rfl) ?_
    refine rg_X2_76 X hP (ex_H_o hE hk) dX2_fits_133 ?_
    refine lv_i2l hx hb dX2_fits_136 rfl ?_
    refine gb_lcmp_le (tgt := 145) hx hb dX2_fits_137 dX2_fits_138 (by decide) hf (fun hf => ?_) (fun hf => ?_)
    · refine lv_iconst (v := 0) hx hb dX2_fits_145 (by decide) ?_
      exact gr_iR X hP hS (Option.some.inj hf) dX2_fits_146
    · exact w_X2_fits_141 E k hE hk X hR S hP hS (lv_sub hl [] rfl) hf
set_option maxHeartbeats 4000000 in
theorem w_X2_fits_82 {p : Program} {l : Launch} {e : Env} {R : Room} {s : State} {m : MethodId} {args : Array Value} {below : List Frame} {meth : Method} {c : Code} {D : va_G} {dA : Nat → ClassId} {A : Nat → Prop} {ad : L3 → Nat} (E : L3 → Bool) (k : Nat) (hE : EOK E) (hk : k < 2) (X : CX RX2 cX2_fits 9 (some .int) (KA D dA) p s m args meth c A) (hR : 3 ≤ R.frames ∧ 85 ≤ R.locals) {res : Int32} (S : Mem) (x1 : Int32) (x2 : Int64) (x5 : Option Nat) (x6 : Int32) (hx5 : ∀ j, x5 = some j → E (R_o k j) = true) {H : Heap} {locs : List Loc} {ls : Array Slot} (hP : Wd D clA (shC dA E) (exC E) A ad S H) (hS : va_S A s.heap H locs) (hl : lv_has ls 9 [(0, .ref (ad (H_o k))), (1, .int x1), (2, .long x2), (5, va_rf (Option.map (fun j => ad (R_o k j)) x5)), (6, .int x6)]) (hf : f_X2_fits_82 E k S x1 x2 x5 x6 = some res) : W p l e R s m args below meth c H locs 0 0 (MQ below (QiR D (shC dA E) (exC E) A ad S res) args s 0 0 A) (F0 m 82 ls []) := by
  have hx := X.hx
  have hb := X.hb
  unfold f_X2_fits_82 at hf
  rcases x5 with _ | j5
  · replace hf := gM_none hf
    have hl : lv_has ls 9 [(0, .ref (ad (H_o k))), (1, .int x1), (2, .long x2), (5, .null), (6, .int x6)] := hl
    refine lv_aloadN hx hb dX2_fits_82 (lv_at hl 3 rfl) ?_
    refine lv_ifnonnullN hx hb dX2_fits_84 ?_
    refine lv_aload_n hx hb dX2_fits_87 rfl (lv_at hl 0 rfl) ?_
    refine rg_X2_30 X hP (ex_H_o hE hk) dX2_fits_88 ?_
    refine lv_aload_n hx hb dX2_fits_91 rfl (lv_at hl 0 rfl) ?_
    refine lv_iload_n hx hb dX2_fits_92 rfl (lv_at hl 1 rfl) ?_
    refine lv_i2l hx hb dX2_fits_93 rfl ?_
    refine lv_iconst (v := 0) hx hb dX2_fits_94 (by decide) ?_
    obtain ⟨v1, hq, hf⟩ := gS_eq hf
    refine gc_i (gc_fixV (S := S) X (mt_X2_rule l D dA A ad E k hE hk S (Int32.toInt64 x1) (0 : Int32) hq) (lw_V q538 q540 qs5 q87 q541) ⟨rfl, rfl⟩ hd_X2_rule ⟨Nat.le_trans (Nat.le_of_ble_eq_true rfl) hR.1, Nat.le_trans (Nat.le_of_ble_eq_true rfl) hR.2⟩ (wd_recv (r := H_o k) (ci := 2) (q := (RX2, TX2, 23)) X.hK.1 hP (ex_H_o hE hk) rfl rfl) hP hS ⟨Nat.zero_le _, Nat.zero_le _⟩ rfl hl.1 rfl (Nat.le_of_ble_eq_true rfl) dX2_fits_95) hS ?_
    rintro _ _ H locs ⟨rfl, rfl⟩ hP hS
    refine ra_H_grants_ld X hP (ex_H_grants hE hk) dX2_fits_98 hf (fun hf => ?_)
    refine lv_goto (tgt := 107) hx hb dX2_fits_99 (by decide) ?_
    exact w_X2_fits_107 E k hE hk X hR S x2 x6 (S.1 (H_grants k) (Int32.toNatClampNeg v1)) hP hS (lv_sub hl [0, 2, 4] rfl) hf
  · replace hf := gM_some hf
    have hj5 := hx5 j5 rfl
    have hl : lv_has ls 9 [(0, .ref (ad (H_o k))), (1, .int x1), (2, .long x2), (5, .ref (ad (R_o k j5))), (6, .int x6)] := hl
    refine lv_aload hx hb dX2_fits_82 (lv_at hl 3 rfl) ?_
    refine lv_ifnonnull (tgt := 102) hx hb dX2_fits_84 (by decide) ?_
    refine lv_aload hx hb dX2_fits_102 (lv_at hl 3 rfl) ?_
    refine rg_X2_214 X hP hj5 dX2_fits_104 ?_
    exact w_X2_fits_107 E k hE hk X hR S x2 x6 (S.1 (R_o k j5) 6) hP hS (lv_sub hl [0, 2, 4] rfl) hf
set_option maxHeartbeats 4000000 in
theorem w_X2_fits_66 {p : Program} {l : Launch} {e : Env} {R : Room} {s : State} {m : MethodId} {args : Array Value} {below : List Frame} {meth : Method} {c : Code} {D : va_G} {dA : Nat → ClassId} {A : Nat → Prop} {ad : L3 → Nat} (E : L3 → Bool) (k : Nat) (hE : EOK E) (hk : k < 2) (X : CX RX2 cX2_fits 9 (some .int) (KA D dA) p s m args meth c A) (hR : 3 ≤ R.frames ∧ 85 ≤ R.locals) {res : Int32} (S : Mem) (x1 : Int32) (x2 : Int64) (x4 : Int32) (x5 : Option Nat) (x6 : Int32) (hx5 : ∀ j, x5 = some j → E (R_o k j) = true) {H : Heap} {locs : List Loc} {ls : Array Slot} (hP : Wd D clA (shC dA E) (exC E) A ad S H) (hS : va_S A s.heap H locs) (hl : lv_has ls 9 [(0, .ref (ad (H_o k))), (1, .int x1), (2, .long x2), (4, .int x4), (5, va_rf (Option.map (fun j => ad (R_o k j)) x5)), (6, .int x6)]) (hf : f_X2_fits_66 E k S x1 x2 x4 x5 x6 = some res) : W p l e R s m args below meth c H locs 0 0 (MQ below (QiR D (shC dA E) (exC E) A ad S res) args s 0 0 A) (F0 m 66 ls []) := by
  have hx := X.hx
  have hb := X.hb
  unfold f_X2_fits_66 at hf
  rcases x5 with _ | j5
  · replace hf := gM_none hf
    have hl : lv_has ls 9 [(0, .ref (ad (H_o k))), (1, .int x1), (2, .long x2), (4, .int x4), (5, .null), (6, .int x6)] := hl
    refine lv_iload hx hb dX2_fits_66 (lv_at hl 3 rfl) ?_
    refine gb_if_eq (tgt := 82) hx hb dX2_fits_68 (by decide) hf (fun hf => ?_) (fun hf => ?_)
    · exact w_X2_fits_82 E k hE hk X hR S x1 x2 none x6 (fun _ h => by cases h) hP hS (lv_sub hl [0, 1, 2, 4, 5] rfl) hf
    · refine lv_lload_n hx hb dX2_fits_71 rfl (lv_at hl 2 rfl) ?_
      refine lv_iload hx hb dX2_fits_72 (lv_at hl 5 rfl) ?_
      refine lv_i2l hx hb dX2_fits_74 rfl ?_
      refine gb_lcmp_ge (tgt := 82) hx hb dX2_fits_75 dX2_fits_76 (by decide) hf (fun hf => ?_) (fun hf => ?_)
      · exact w_X2_fits_82 E k hE hk X hR S x1 x2 none x6 (fun _ h => by cases h) hP hS (lv_sub hl [0, 1, 2, 4, 5] rfl) hf
      · refine lv_bipush (v := 6) hx hb dX2_fits_79 (by decide) ?_
        exact gr_iR X hP hS (Option.some.inj hf) dX2_fits_81
  · replace hf := gM_some hf
    have hj5 := hx5 j5 rfl
    have hl : lv_has ls 9 [(0, .ref (ad (H_o k))), (1, .int x1), (2, .long x2), (4, .int x4), (5, .ref (ad (R_o k j5))), (6, .int x6)] := hl
    refine lv_iload hx hb dX2_fits_66 (lv_at hl 3 rfl) ?_
    refine gb_if_eq (tgt := 82) hx hb dX2_fits_68 (by decide) hf (fun hf => ?_) (fun hf => ?_)
    · exact w_X2_fits_82 E k hE hk X hR S x1 x2 (some j5) x6 (fun _ h => by cases h; exact hj5) hP hS (lv_sub hl [0, 1, 2, 4, 5] rfl) hf
    · refine lv_lload_n hx hb dX2_fits_71 rfl (lv_at hl 2 rfl) ?_
      refine lv_iload hx hb dX2_fits_72 (lv_at hl 5 rfl) ?_
      refine lv_i2l hx hb dX2_fits_74 rfl ?_
      refine gb_lcmp_ge (tgt := 82) hx hb dX2_fits_75 dX2_fits_76 (by decide) hf (fun hf => ?_) (fun hf => ?_)
      · exact w_X2_fits_82 E k hE hk X hR S x1 x2 (some j5) x6 (fun _ h => by cases h; exact hj5) hP hS (lv_sub hl [0, 1, 2, 4, 5] rfl) hf
      · refine lv_bipush (v := 6) hx hb dX2_fits_79 (by decide) ?_
        exact gr_iR X hP hS (Option.some.inj hf) dX2_fits_81
set_option maxHeartbeats 4000000 in
theorem w_X2_fits_38 {p : Program} {l : Launch} {e : Env} {R : Room} {s : State} {m : MethodId} {args : Array Value} {below : List Frame} {meth : Method} {c : Code} {D : va_G} {dA : Nat → ClassId} {A : Nat → Prop} {ad : L3 → Nat} (E : L3 → Bool) (k : Nat) (hE : EOK E) (hk : k < 2) (X : CX RX2 cX2_fits 9 (some .int) (KA D dA) p s m args meth c A) (hR : 3 ≤ R.frames ∧ 85 ≤ R.locals) {res : Int32} (S : Mem) (x1 : Int32) (x2 : Int64) (x4 : Int32) (x5 : Option Nat) (x6 : Int32) (y0 : Int32) (hx5 : ∀ j, x5 = some j → E (R_o k j) = true) {H : Heap} {locs : List Loc} {ls : Array Slot} (hP : Wd D clA (shC dA E) (exC E) A ad S H) (hS : va_S A s.heap H locs) (hl : lv_has ls 9 [(0, .ref (ad (H_o k))), (1, .int x1), (2, .long x2), (4, .int x4), (5, va_rf (Option.map (fun j => ad (R_o k j)) x5)), (6, .int x6)]) (hf : f_X2_fits_38 E k S x1 x2 x4 x5 x6 y0 = some res) : W p l e R s m args below meth c H locs 0 0 (MQ below (QiR D (shC dA E) (exC E) A ad S res) args s 0 0 A) (F0 m 38 ls [.int y0]) := by
  have hx := X.hx
  have hb := X.hb
  unfold f_X2_fits_38 at hf
  rcases x5 with _ | j5
  · replace hf := gM_none hf
    have hl : lv_has ls 9 [(0, .ref (ad (H_o k))), (1, .int x1), (2, .long x2), (4, .int x4), (5, .null), (6, .int x6)] := hl
    refine lv_istore (lv' := [(7, .int y0), (0, .ref (ad (H_o k))), (1, .int x1), (2, .long x2), (4, .int x4), (5, .null), (6, .int x6)]) hx hb dX2_fits_38 hl (by decide) rfl (fun ls hl => ?_)
    refine lv_iload hx hb dX2_fits_40 (lv_at hl 0 rfl) ?_
    refine gb_if_lt (tgt := 66) hx hb dX2_fits_42 (by decide) hf (fun hf => ?_) (fun hf => ?_)
    · exact w_X2_fits_66 E k hE hk X hR S x1 x2 x4 none x6 (fun _ h => by cases h) hP hS (lv_sub hl [1, 2, 3, 4, 5, 6] rfl) hf
    · refine lv_lload_n hx hb dX2_fits_45 rfl (lv_at hl 3 rfl) ?_
      refine lv_iload hx hb dX2_fits_46 (lv_at hl 0 rfl) ?_
      refine lv_i2l hx hb dX2_fits_48 rfl ?_
      refine gb_lcmp_gt (tgt := 79) hx hb dX2_fits_49 dX2_fits_50 (by decide) hf (fun hf => ?_) (fun hf => ?_)
      · refine lv_bipush (v := 6) hx hb dX2_fits_79 (by decide) ?_
        exact gr_iR X hP hS (Option.some.inj hf) dX2_fits_81
      · refine lv_iload hx hb dX2_fits_53 (lv_at hl 4 rfl) ?_
        refine gb_if_eq (tgt := 66) hx hb dX2_fits_55 (by decide) hf (fun hf => ?_) (fun hf => ?_)
        · exact w_X2_fits_66 E k hE hk X hR S x1 x2 x4 none x6 (fun _ h => by cases h) hP hS (lv_sub hl [1, 2, 3, 4, 5, 6] rfl) hf
        · refine lv_lload_n hx hb dX2_fits_58 rfl (lv_at hl 3 rfl) ?_
          refine lv_iload hx hb dX2_fits_59 (lv_at hl 0 rfl) ?_
          refine lv_i2l hx hb dX2_fits_61 rfl ?_
          refine gb_lcmp_ne (tgt := 79) hx hb dX2_fits_62 dX2_fits_63 (by decide) hf (fun hf => ?_) (fun hf => ?_)
          · refine lv_bipush (v := 6) hx hb dX2_fits_79 (by decide) ?_
            exact gr_iR X hP hS (Option.some.inj hf) dX2_fits_81
          · exact w_X2_fits_66 E k hE hk X hR S x1 x2 x4 none x6 (fun _ h => by cases h) hP hS (lv_sub hl [1, 2, 3, 4, 5, 6] rfl) hf
  · replace hf := gM_some hf
    have hj5 := hx5 j5 rfl
    have hl : lv_has ls 9 [(0, .ref (ad (H_o k))), (1, .int x1), (2, .long x2), (4, .int x4), (5, .ref (ad (R_o k j5))), (6, .int x6)] := hl
    refine lv_istore (lv' := [(7, .int y0), (0, .ref (ad (H_o k))), (1, .int x1), (2, .long x2), (4, .int x4), (5, .ref (ad (R_o k j5))), (6, .int x6)]) hx hb dX2_fits_38 hl (by decide) rfl (fun ls hl => ?_)
    refine lv_iload hx hb dX2_fits_40 (lv_at hl 0 rfl) ?_
    refine gb_if_lt (tgt := 66) hx hb dX2_fits_42 (by decide) hf (fun hf => ?_) (fun hf => ?_)
    · exact w_X2_fits_66 E k hE hk X hR S x1 x2 x4 (some j5) x6 (fun _ h => by cases h; exact hj5) hP hS (lv_sub hl [1, 2, 3, 4, 5, 6] rfl) hf
    · refine lv_lload_n hx hb dX2_fits_45 rfl (lv_at hl 3 rfl) ?_
      refine lv_iload hx hb dX2_fits_46 (lv_at hl 0 rfl) ?_
      refine lv_i2l hx hb dX2_fits_48 rfl ?_
      refine gb_lcmp_gt (tgt := 79) hx hb dX2_fits_49 dX2_fits_50 (by decide) hf (fun hf => ?_) (fun hf => ?_)
      · refine lv_bipush (v := 6) hx hb dX2_fits_79 (by decide) ?_
        exact gr_iR X hP hS (Option.some.inj hf) dX2_fits_81
      · refine lv_iload hx hb dX2_fits_53 (lv_at hl 4 rfl) ?_
        refine gb_if_eq (tgt := 66) hx hb dX2_fits_55 (by decide) hf (fun hf => ?_) (fun hf => ?_)
        · exact w_X2_fits_66 E k hE hk X hR S x1 x2 x4 (some j5) x6 (fun _ h => by cases h; exact hj5) hP hS (lv_sub hl [1, 2, 3, 4, 5, 6] rfl) hf
        · refine lv_lload_n hx hb dX2_fits_58 rfl (lv_at hl 3 rfl) ?_
          refine lv_iload hx hb dX2_fits_59 (lv_at hl 0 rfl) ?_
          refine lv_i2l hx hb dX2_fits_61 rfl ?_
          refine gb_lcmp_ne (tgt := 79) hx hb dX2_fits_62 dX2_fits_63 (by decide) hf (fun hf => ?_) (fun hf => ?_)
          · refine lv_bipush (v := 6) hx hb dX2_fits_79 (by decide) ?_
            exact gr_iR X hP hS (Option.some.inj hf) dX2_fits_81
          · exact w_X2_fits_66 E k hE hk X hR S x1 x2 x4 (some j5) x6 (fun _ h => by cases h; exact hj5) hP hS (lv_sub hl [1, 2, 3, 4, 5, 6] rfl) hf
set_option maxHeartbeats 4000000 in
theorem w_X2_fits_22 {p : Program} {l : Launch} {e : Env} {R : Room} {s : State} {m : MethodId} {args : Array Value} {below : List Frame} {meth : Method} {c : Code} {D : va_G} {dA : Nat → ClassId} {A : Nat → Prop} {ad : L3 → Nat} (E : L3 → Bool) (k : Nat) (hE : EOK E) (hk : k < 2) (X : CX RX2 cX2_fits 9 (some .int) (KA D dA) p s m args meth c A) (hR : 3 ≤ R.frames ∧ 85 ≤ R.locals) {res : Int32} (S : Mem) (x1 : Int32) (x2 : Int64) (x4 : Int32) (x5 : Option Nat) (y0 : Int32) (hx5 : ∀ j, x5 = some j → E (R_o k j) = true) {H : Heap} {locs : List Loc} {ls : Array Slot} (hP : Wd D clA (shC dA E) (exC E) A ad S H) (hS : va_S A s.heap H locs) (hl : lv_has ls 9 [(0, .ref (ad (H_o k))), (1, .int x1), (2, .long x2), (4, .int x4), (5, va_rf (Option.map (fun j => ad (R_o k j)) x5))]) (hf : f_X2_fits_22 E k S x1 x2 x4 x5 y0 = some res) : W p l e R s m args below meth c H locs 0 0 (MQ below (QiR D (shC dA E) (exC E) A ad S res) args s 0 0 A) (F0 m 22 ls [.int y0]) := by
  have hx := X.hx
  have hb := X.hb
  unfold f_X2_fits_22 at hf
  rcases x5 with _ | j5
  · replace hf := gM_none hf
    have hl : lv_has ls 9 [(0, .ref (ad (H_o k))), (1, .int x1), (2, .long x2), (4, .int x4), (5, .null)] := hl
    refine lv_istore (lv' := [(6, .int y0), (0, .ref (ad (H_o k))), (1, .int x1), (2, .long x2), (4, .int x4), (5, .null)]) hx hb dX2_fits_22 hl (by decide) rfl (fun ls hl => ?_)
    refine lv_aloadN hx hb dX2_fits_24 (lv_at hl 5 rfl) ?_
    refine lv_ifnonnullN hx hb dX2_fits_26 ?_
    refine lv_iconst (v := (-1)) hx hb dX2_fits_29 (by decide) ?_
    refine lv_goto (tgt := 38) hx hb dX2_fits_30 (by decide) ?_
    exact w_X2_fits_38 E k hE hk X hR S x1 x2 x4 none y0 (-1) (fun _ h => by cases h) hP hS (lv_sub hl [1, 2, 3, 4, 5, 0] rfl) hf
  · replace hf := gM_some hf
    have hj5 := hx5 j5 rfl
    have hl : lv_has ls 9 [(0, .ref (ad (H_o k))), (1, .int x1), (2, .long x2), (4, .int x4), (5, .ref (ad (R_o k j5)))] := hl
    refine lv_istore (lv' := [(6, .int y0), (0, .ref (ad (H_o k))), (1, .int x1), (2, .long x2), (4, .int x4), (5, .ref (ad (R_o k j5)))]) hx hb dX2_fits_22 hl (by decide) rfl (fun ls hl => ?_)
    refine lv_aload hx hb dX2_fits_24 (lv_at hl 5 rfl) ?_
    refine lv_ifnonnull (tgt := 33) hx hb dX2_fits_26 (by decide) ?_
    refine lv_aload hx hb dX2_fits_33 (lv_at hl 5 rfl) ?_
    refine rg_X2_223 X hP hj5 dX2_fits_35 ?_
    exact w_X2_fits_38 E k hE hk X hR S x1 x2 x4 (some j5) y0 (S.1 (R_o k j5) 5) (fun _ h => by cases h; exact hj5) hP hS (lv_sub hl [1, 2, 3, 4, 5, 0] rfl) hf
set_option maxHeartbeats 4000000 in
theorem w_X2_fits {p : Program} {l : Launch} {e : Env} {R : Room} {s : State} {m : MethodId} {args : Array Value} {below : List Frame} {meth : Method} {c : Code} {D : va_G} {dA : Nat → ClassId} {A : Nat → Prop} {ad : L3 → Nat} (E : L3 → Bool) (k : Nat) (hE : EOK E) (hk : k < 2) (X : CX RX2 cX2_fits 9 (some .int) (KA D dA) p s m args meth c A) (hR : 3 ≤ R.frames ∧ 85 ≤ R.locals) {res : Int32} (S : Mem) (x1 : Int32) (x2 : Int64) (x4 : Int32) {H : Heap} {locs : List Loc} {ls : Array Slot} (hP : Wd D clA (shC dA E) (exC E) A ad S H) (hS : va_S A s.heap H locs) (hl : lv_has ls 9 [(0, .ref (ad (H_o k))), (1, .int x1), (2, .long x2), (4, .int x4)]) (hf : f_X2_fits E k S x1 x2 x4 = some res) : W p l e R s m args below meth c H locs 0 0 (MQ below (QiR D (shC dA E) (exC E) A ad S res) args s 0 0 A) (F0 m 0 ls []) := by
  have hx := X.hx
  have hb := X.hb
  unfold f_X2_fits at hf
  refine lv_aload_n hx hb dX2_fits_0 rfl (lv_at hl 0 rfl) ?_
  refine rg_X2_19 X hP (ex_H_o hE hk) dX2_fits_1 ?_
  refine lv_iload_n hx hb dX2_fits_4 rfl (lv_at hl 1 rfl) ?_
  refine ra_H_receivings_ld X hP (ex_H_receivings hE hk) dX2_fits_5 hf (fun he1 hf => ?_) (fun hf => ?_)
  · refine lv_astore (lv' := [(5, .ref (ad (R_o k (Int32.toNatClampNeg x1)))), (0, .ref (ad (H_o k))), (1, .int x1), (2, .long x2), (4, .int x4)]) hx hb dX2_fits_6 hl (by decide) rfl (fun ls hl => ?_)
    refine lv_aload hx hb dX2_fits_8 (lv_at hl 0 rfl) ?_
    refine lv_ifnonnull (tgt := 17) hx hb dX2_fits_10 (by decide) ?_
    refine lv_aload hx hb dX2_fits_17 (lv_at hl 0 rfl) ?_
    refine rg_X2_220 X hP he1 dX2_fits_19 ?_
    exact w_X2_fits_22 E k hE hk X hR S x1 x2 x4 (some (Int32.toNatClampNeg x1)) (S.1 (R_o k (Int32.toNatClampNeg x1)) 4) (fun _ h => by cases h; exact he1) hP hS (lv_sub hl [1, 2, 3, 4, 0] rfl) hf
  · refine lv_astoreN (lv' := [(5, .null), (0, .ref (ad (H_o k))), (1, .int x1), (2, .long x2), (4, .int x4)]) hx hb dX2_fits_6 hl (by decide) rfl (fun ls hl => ?_)
    refine lv_aloadN hx hb dX2_fits_8 (lv_at hl 0 rfl) ?_
    refine lv_ifnonnullN hx hb dX2_fits_10 ?_
    refine lv_iconst (v := 0) hx hb dX2_fits_13 (by decide) ?_
    refine lv_goto (tgt := 22) hx hb dX2_fits_14 (by decide) ?_
    exact w_X2_fits_22 E k hE hk X hR S x1 x2 x4 none 0 (fun _ h => by cases h) hP hS (lv_sub hl [1, 2, 3, 4, 0] rfl) hf
theorem hd_X2_fits : yX2_fits.cls = RX2 ∧ yX2_fits.cls ≠ "java/lang/invoke/MethodHandle" ∧ yX2_fits.cls ≠ "java/lang/invoke/VarHandle" ∧ (parseMethodDescriptor yX2_fits.desc).map (fun d => d.parameters.length) = some 3 := by decide +kernel
set_option maxHeartbeats 4000000 in
theorem mt_X2_fits (l : Launch) (D : va_G) (dA : Nat → ClassId) (A : Nat → Prop) (ad : L3 → Nat) (E : L3 → Bool) (k : Nat) (hE : EOK E) (hk : k < 2) (S : Mem) (x1 : Int32) (x2 : Int64) (x4 : Int32) {res : Int32} (hq : f_X2_fits E k S x1 x2 x4 = some res) : Met l yX2_fits (ws_ yX2_fits cX2_fits 9 (some .int)) ({ frames := 3, cells := 0, slots := 0, locals := 85 } : Room) (va_Pc [.ref (ad (H_o k)), .int x1, .long x2, .int x4] (PreW D dA (shC dA E) (exC E) A ad S)) (QiR D (shC dA E) (exC E) A ad S res) 0 0 A :=
  gx_head (by decide) (Nat.le_of_ble_eq_true rfl) (fun p e s m below meth c ls X hP hl => w_X2_fits (l := l) E k hE hk X ⟨Nat.le_of_ble_eq_true rfl, Nat.le_of_ble_eq_true rfl⟩ S x1 x2 x4 hP va_S.rf (lv_sub (l := [(0, .ref (ad (H_o k))), (1, .int x1), (2, .long x2), (4, .int x4)]) hl [0, 1, 2, 3] rfl) hq)
set_option maxHeartbeats 4000000 in
theorem w_X2_reach {p : Program} {l : Launch} {e : Env} {R : Room} {s : State} {m : MethodId} {args : Array Value} {below : List Frame} {meth : Method} {c : Code} {D : va_G} {dA : Nat → ClassId} {A : Nat → Prop} {ad : L3 → Nat} (E : L3 → Bool) (k : Nat) (hE : EOK E) (hk : k < 2) (X : CX RX2 cX2_reach 3 none (KA D dA) p s m args meth c A) (hR : 1 ≤ R.frames ∧ 40 ≤ R.locals) {res : Mem} (S : Mem) (x1 : Nat) (x2 : Int32) (hx1 : E (R_o k x1) = true) {H : Heap} {locs : List Loc} {ls : Array Slot} (hP : Wd D clA (shC dA E) (exC E) A ad S H) (hS : va_S A s.heap H locs) (hl : lv_has ls 3 [(0, .ref (ad (H_o k))), (1, .ref (ad (R_o k x1))), (2, .int x2)]) (hf : f_X2_reach k S x1 x2 = res) : W p l e R s m args below meth c H locs 0 0 (MQ below (QvW D (shC dA E) (exC E) A ad res) args s 0 0 A) (F0 m 0 ls []) := by
  have hx := X.hx
  have hb := X.hb
  unfold f_X2_reach at hf
  refine lv_aload_n hx hb dX2_reach_0 rfl (lv_at hl 0 rfl) ?_
  refine lv_dup hx hb dX2_reach_1 rfl ?_
  refine rg_X2_226 X hP (ex_H_o hE hk) dX2_reach_2 ?_
  refine lv_iload_n hx hb dX2_reach_5 rfl (lv_at hl 2 rfl) ?_
  refine lv_aload_n hx hb dX2_reach_6 rfl (lv_at hl 1 rfl) ?_
  refine rg_X2_220 X hP hx1 dX2_reach_7 ?_
  refine lv_isub hx hb dX2_reach_10 ?_
  refine lv_iconst (v := 0) hx hb dX2_reach_11 (by decide) ?_
  refine gm_mxI X (X.hts _ q865) (X.hts _ q794) (X.hts _ q99) (X.hts _ q795) hl.1 ⟨Nat.zero_le _, Nat.zero_le _⟩ (Nat.le_trans (Nat.le_of_ble_eq_true rfl) hR.1) (Nat.le_trans (Nat.le_of_ble_eq_true rfl) hR.2) dX2_reach_12 ?_
  refine lv_iadd hx hb dX2_reach_15 ?_
  refine rp_X2_226 X hP hS (ex_H_o hE hk) dX2_reach_16 hf (fun S1 H locs hP hS hf => ?_)
  refine lv_aload_n hx hb dX2_reach_19 rfl (lv_at hl 1 rfl) ?_
  refine lv_aload_n hx hb dX2_reach_20 rfl (lv_at hl 1 rfl) ?_
  refine rg_X2_220 X hP hx1 dX2_reach_21 ?_
  refine lv_iload_n hx hb dX2_reach_24 rfl (lv_at hl 2 rfl) ?_
  refine gm_mxI X (X.hts _ q865) (X.hts _ q794) (X.hts _ q99) (X.hts _ q795) hl.1 ⟨Nat.zero_le _, Nat.zero_le _⟩ (Nat.le_trans (Nat.le_of_ble_eq_true rfl) hR.1) (Nat.le_trans (Nat.le_of_ble_eq_true rfl) hR.2) dX2_reach_25 ?_
  refine rp_X2_220 X hP hS hx1 dX2_reach_28 hf (fun S2 H locs hP hS hf => ?_)
  exact gr_vW X hP hS hf dX2_reach_31
theorem hd_X2_reach : yX2_reach.cls = RX2 ∧ yX2_reach.cls ≠ "java/lang/invoke/MethodHandle" ∧ yX2_reach.cls ≠ "java/lang/invoke/VarHandle" ∧ (parseMethodDescriptor yX2_reach.desc).map (fun d => d.parameters.length) = some 2 := by decide +kernel
set_option maxHeartbeats 4000000 in
theorem mt_X2_reach (l : Launch) (D : va_G) (dA : Nat → ClassId) (A : Nat → Prop) (ad : L3 → Nat) (E : L3 → Bool) (k : Nat) (hE : EOK E) (hk : k < 2) (S : Mem) (x1 : Nat) (x2 : Int32) (hx1 : E (R_o k x1) = true) {res : Mem} (hq : f_X2_reach k S x1 x2 = res) : Met l yX2_reach (ws_ yX2_reach cX2_reach 3 none) ({ frames := 1, cells := 0, slots := 0, locals := 40 } : Room) (va_Pc [.ref (ad (H_o k)), .ref (ad (R_o k x1)), .int x2] (PreW D dA (shC dA E) (exC E) A ad S)) (QvW D (shC dA E) (exC E) A ad res) 0 0 A :=
  gx_head (by decide) (Nat.le_of_ble_eq_true rfl) (fun p e s m below meth c ls X hP hl => w_X2_reach (l := l) E k hE hk X ⟨Nat.le_of_ble_eq_true rfl, Nat.le_of_ble_eq_true rfl⟩ S x1 x2 hx1 hP va_S.rf (lv_sub (l := [(0, .ref (ad (H_o k))), (1, .ref (ad (R_o k x1))), (2, .int x2)]) hl [0, 1, 2] rfl) hq)
set_option maxHeartbeats 4000000 in
theorem w_X6_make_118 {p : Program} {l : Launch} {e : Env} {R : Room} {s : State} {m : MethodId} {args : Array Value} {below : List Frame} {meth : Method} {c : Code} {D : va_G} {dA : Nat → ClassId} {A : Nat → Prop} {ad : L3 → Nat} (E : L3 → Bool) (k : Nat) (hE : EOK E) (hk : k < 2) (X : CX RX6 cX6_make 4 (some .int) (KA D dA) p s m args meth c A) (hR : 1 ≤ R.frames ∧ 40 ≤ R.locals) {res : Mem × Int32} (S : Mem) (x1 : Int32) (x2 : Int32) (x3 : Int32) {H : Heap} {locs : List Loc} {ls : Array Slot} (hP : Wd D clA (shC dA E) (exC E) A ad S H) (hS : va_S A s.heap H locs) (hl : lv_has ls 4 [(0, .ref (ad (B_o k))), (1, .int x1), (2, .int x2), (3, .int x3)]) (hf : f_X6_make_118 k S x1 x2 x3 = some res) : W p l e R s m args below meth c H locs 0 0 (MQ below (QiW D (shC dA E) (exC E) A ad res) args s 0 0 A) (F0 m 118 ls []) := by
  have hx := X.hx
  have hb := X.hb
  unfold f_X6_make_118 at hf
  refine lv_aload_n hx hb dX6_make_118 rfl (lv_at hl 0 rfl) ?_
  refine rg_X6_15 X hP (ex_B_o hE hk) dX6_make_119 ?_
  refine lv_iload_n hx hb dX6_make_122 rfl (lv_at hl 3 rfl) ?_
  refine lv_lconst (v := 0) hx hb dX6_make_123 (by decide) ?_
  refine ra_B_marks_st X hP hS (ex_B_marks hE hk) dX6_make_124 hf (fun S1 H locs hP hS hf => ?_)
  refine lv_aload_n hx hb dX6_make_125 rfl (lv_at hl 0 rfl) ?_
  refine rg_X6_19 X hP (ex_B_o hE hk) dX6_make_126 ?_
  refine lv_iload_n hx hb dX6_make_129 rfl (lv_at hl 3 rfl) ?_
  refine lv_iload_n hx hb dX6_make_130 rfl (lv_at hl 1 rfl) ?_
  refine ra_B_index_st X hP hS (ex_B_index hE hk) dX6_make_131 hf (fun S2 H locs hP hS hf => ?_)
  refine lv_aload_n hx hb dX6_make_132 rfl (lv_at hl 0 rfl) ?_
  refine rg_X6_23 X hP (ex_B_o hE hk) dX6_make_133 ?_
  refine lv_iload_n hx hb dX6_make_136 rfl (lv_at hl 3 rfl) ?_
  refine lv_iload_n hx hb dX6_make_137 rfl (lv_at hl 2 rfl) ?_
  refine ra_B_next_st X hP hS (ex_B_next hE hk) dX6_make_138 hf (fun S3 H locs hP hS hf => ?_)
  refine lv_iload_n hx hb dX6_make_139 rfl (lv_at hl 3 rfl) ?_
  exact gr_iW X hP hS (Option.some.inj hf) dX6_make_140
set_option maxHeartbeats 4000000 in
theorem w_X6_make_106 {p : Program} {l : Launch} {e : Env} {R : Room} {s : State} {m : MethodId} {args : Array Value} {below : List Frame} {meth : Method} {c : Code} {D : va_G} {dA : Nat → ClassId} {A : Nat → Prop} {ad : L3 → Nat} (E : L3 → Bool) (k : Nat) (hE : EOK E) (hk : k < 2) (X : CX RX6 cX6_make 4 (some .int) (KA D dA) p s m args meth c A) (hR : 1 ≤ R.frames ∧ 40 ≤ R.locals) {res : Mem × Int32} (S : Mem) (x1 : Int32) (x2 : Int32) {H : Heap} {locs : List Loc} {ls : Array Slot} (hP : Wd D clA (shC dA E) (exC E) A ad S H) (hS : va_S A s.heap H locs) (hl : lv_has ls 4 [(0, .ref (ad (B_o k))), (1, .int x1), (2, .int x2)]) (hf : f_X6_make_106 k S x1 x2 = some res) : W p l e R s m args below meth c H locs 0 0 (MQ below (QiW D (shC dA E) (exC E) A ad res) args s 0 0 A) (F0 m 106 ls []) := by
  have hx := X.hx
  have hb := X.hb
  unfold f_X6_make_106 at hf
  refine lv_aload_n hx hb dX6_make_106 rfl (lv_at hl 0 rfl) ?_
  refine lv_dup hx hb dX6_make_107 rfl ?_
  refine rg_X6_30 X hP (ex_B_o hE hk) dX6_make_108 ?_
  refine lv_dup_x1 hx hb dX6_make_111 rfl rfl ?_
  refine lv_iconst (v := 1) hx hb dX6_make_112 (by decide) ?_
  refine lv_iadd hx hb dX6_make_113 ?_
  refine rp_X6_30 X hP hS (ex_B_o hE hk) dX6_make_114 hf (fun S1 H locs hP hS hf => ?_)
  refine lv_istore_n (lv' := [(3, .int (S.1 (B_o k) 4)), (0, .ref (ad (B_o k))), (1, .int x1), (2, .int x2)]) hx hb dX6_make_117 rfl hl (by decide) rfl (fun ls hl => ?_)
  exact w_X6_make_118 E k hE hk X hR S1 x1 x2 (S.1 (B_o k) 4) hP hS (lv_sub hl [1, 2, 3, 0] rfl) hf
set_option maxHeartbeats 4000000 in
theorem w_X6_make {p : Program} {l : Launch} {e : Env} {R : Room} {s : State} {m : MethodId} {args : Array Value} {below : List Frame} {meth : Method} {c : Code} {D : va_G} {dA : Nat → ClassId} {A : Nat → Prop} {ad : L3 → Nat} (E : L3 → Bool) (k : Nat) (hE : EOK E) (hk : k < 2) (X : CX RX6 cX6_make 4 (some .int) (KA D dA) p s m args meth c A) (hR : 1 ≤ R.frames ∧ 40 ≤ R.locals) {res : Mem × Int32} (S : Mem) (x1 : Int32) (x2 : Int32) {H : Heap} {locs : List Loc} {ls : Array Slot} (hP : Wd D clA (shC dA E) (exC E) A ad S H) (hS : va_S A s.heap H locs) (hl : lv_has ls 4 [(0, .ref (ad (B_o k))), (1, .int x1), (2, .int x2)]) (hf : f_X6_make k S x1 x2 = some res) : W p l e R s m args below meth c H locs 0 0 (MQ below (QiW D (shC dA E) (exC E) A ad res) args s 0 0 A) (F0 m 0 ls []) := by
  have hx := X.hx
  have hb := X.hb
  unfold f_X6_make at hf
  refine lv_aload_n hx hb dX6_make_0 rfl (lv_at hl 0 rfl) ?_
  refine rg_X6_26 X hP (ex_B_o hE hk) dX6_make_1 ?_
  refine lv_istore_n (lv' := [(3, .int (S.1 (B_o k) 5)), (0, .ref (ad (B_o k))), (1, .int x1), (2, .int x2)]) hx hb dX6_make_4 rfl hl (by decide) rfl (fun ls hl => ?_)
  refine lv_iload_n hx hb dX6_make_5 rfl (lv_at hl 0 rfl) ?_
  refine lv_iconst (v := (-1)) hx hb dX6_make_6 (by decide) ?_
  refine gb_icmp_eq (tgt := 23) hx hb dX6_make_7 (by decide) hf (fun hf => ?_) (fun hf => ?_)
  · refine lv_aload_n hx hb dX6_make_23 rfl (lv_at hl 1 rfl) ?_
    refine rg_X6_30 X hP (ex_B_o hE hk) dX6_make_24 ?_
    refine lv_aload_n hx hb dX6_make_27 rfl (lv_at hl 1 rfl) ?_
    refine rg_X6_15 X hP (ex_B_o hE hk) dX6_make_28 ?_
    refine ra_B_marks_len X hP (ex_B_marks hE hk) dX6_make_31 ?_
    refine gb_icmp_ne (tgt := 106) hx hb dX6_make_32 (by decide) hf (fun hf => ?_) (fun hf => ?_)
    · exact w_X6_make_106 E k hE hk X hR S x1 x2 hP hS (lv_sub hl [1, 2, 3] rfl) hf
    · refine lv_aload_n hx hb dX6_make_35 rfl (lv_at hl 1 rfl) ?_
      refine lv_aload_n hx hb dX6_make_36 rfl (lv_at hl 1 rfl) ?_
      refine rg_X6_9 X hP (ex_B_o hE hk) dX6_make_37 ?_
      refine lv_iconst (v := 2) hx hb dX6_make_40 (by decide) ?_
      refine lv_aload_n hx hb dX6_make_41 rfl (lv_at hl 1 rfl) ?_
      refine rg_X6_30 X hP (ex_B_o hE hk) dX6_make_42 ?_
      refine lv_imul hx hb dX6_make_45 ?_
      refine lv_bipush (v := 64) hx hb dX6_make_46 (by decide) ?_
      refine lv_imul hx hb dX6_make_48 ?_
      cases hf
  · refine lv_aload_n hx hb dX6_make_10 rfl (lv_at hl 1 rfl) ?_
    refine lv_aload_n hx hb dX6_make_11 rfl (lv_at hl 1 rfl) ?_
    refine rg_X6_23 X hP (ex_B_o hE hk) dX6_make_12 ?_
    refine lv_iload_n hx hb dX6_make_15 rfl (lv_at hl 0 rfl) ?_
    refine ra_B_next_ld X hP (ex_B_next hE hk) dX6_make_16 hf (fun hf => ?_)
    refine rp_X6_26 X hP hS (ex_B_o hE hk) dX6_make_17 hf (fun S1 H locs hP hS hf => ?_)
    refine lv_goto (tgt := 118) hx hb dX6_make_20 (by decide) ?_
    exact w_X6_make_118 E k hE hk X hR S1 x1 x2 (S.1 (B_o k) 5) hP hS (lv_sub hl [1, 2, 3, 0] rfl) hf
theorem hd_X6_make : yX6_make.cls = RX6 ∧ yX6_make.cls ≠ "java/lang/invoke/MethodHandle" ∧ yX6_make.cls ≠ "java/lang/invoke/VarHandle" ∧ (parseMethodDescriptor yX6_make.desc).map (fun d => d.parameters.length) = some 2 := by decide +kernel
set_option maxHeartbeats 4000000 in
theorem mt_X6_make (l : Launch) (D : va_G) (dA : Nat → ClassId) (A : Nat → Prop) (ad : L3 → Nat) (E : L3 → Bool) (k : Nat) (hE : EOK E) (hk : k < 2) (S : Mem) (x1 : Int32) (x2 : Int32) {res : Mem × Int32} (hq : f_X6_make k S x1 x2 = some res) : Met l yX6_make (ws_ yX6_make cX6_make 4 (some .int)) ({ frames := 1, cells := 0, slots := 0, locals := 40 } : Room) (va_Pc [.ref (ad (B_o k)), .int x1, .int x2] (PreW D dA (shC dA E) (exC E) A ad S)) (QiW D (shC dA E) (exC E) A ad res) 0 0 A :=
  gx_head (by decide) (Nat.le_of_ble_eq_true rfl) (fun p e s m below meth c ls X hP hl => w_X6_make (l := l) E k hE hk X ⟨Nat.le_of_ble_eq_true rfl, Nat.le_of_ble_eq_true rfl⟩ S x1 x2 hP va_S.rf (lv_sub (l := [(0, .ref (ad (B_o k))), (1, .int x1), (2, .int x2)]) hl [0, 1, 2] rfl) hq)
set_option maxHeartbeats 4000000 in
theorem w_X6_block_60 {p : Program} {l : Launch} {e : Env} {R : Room} {s : State} {m : MethodId} {args : Array Value} {below : List Frame} {meth : Method} {c : Code} {D : va_G} {dA : Nat → ClassId} {A : Nat → Prop} {ad : L3 → Nat} (E : L3 → Bool) (k : Nat) (hE : EOK E) (hk : k < 2) (X : CX RX6 cX6_block 6 (some .int) (KA D dA) p s m args meth c A) (hR : 2 ≤ R.frames ∧ 63 ≤ R.locals) {res : Mem × Int32} (S : Mem) (x1 : Nat) (x2 : Int32) (x3 : Int32) (x4 : Int32) (hx1 : E (R_o k x1) = true) {H : Heap} {locs : List Loc} {ls : Array Slot} (hP : Wd D clA (shC dA E) (exC E) A ad S H) (hS : va_S A s.heap H locs) (hl : lv_has ls 6 [(0, .ref (ad (B_o k))), (1, .ref (ad (R_o k x1))), (2, .int x2), (3, .int x3), (4, .int x4)]) (hf : f_X6_block_60 k S x1 x2 x3 x4 = some res) : W p l e R s m args below meth c H locs 0 0 (MQ below (QiW D (shC dA E) (exC E) A ad res) args s 0 0 A) (F0 m 60 ls []) := by
  have hx := X.hx
  have hb := X.hb
  unfold f_X6_block_60 at hf
  refine lv_aload_n hx hb dX6_block_60 rfl (lv_at hl 0 rfl) ?_
  refine lv_iload_n hx hb dX6_block_61 rfl (lv_at hl 2 rfl) ?_
  refine lv_iload hx hb dX6_block_62 (lv_at hl 4 rfl) ?_
  obtain ⟨S1, v2, hq, hf⟩ := gB2_some hf
  refine gc_i (gc_fixV (S := S) X (mt_X6_make l D dA A ad E k hE hk S x2 x4 hq) (lw_V q936 q938 qs31 q91 q939) ⟨rfl, rfl⟩ hd_X6_make ⟨Nat.le_trans (Nat.le_of_ble_eq_true rfl) hR.1, Nat.le_trans (Nat.le_of_ble_eq_true rfl) hR.2⟩ (wd_recv (r := B_o k) (ci := 6) (q := (RX6, TX6, 6)) X.hK.1 hP (ex_B_o hE hk) rfl rfl) hP hS ⟨Nat.zero_le _, Nat.zero_le _⟩ rfl hl.1 rfl (Nat.le_of_ble_eq_true rfl) dX6_block_64) hS ?_
  rintro _ _ H locs ⟨⟩ hP hS
  refine lv_istore (lv' := [(5, .int v2), (0, .ref (ad (B_o k))), (1, .ref (ad (R_o k x1))), (2, .int x2), (3, .int x3), (4, .int x4)]) hx hb dX6_block_67 hl (by decide) rfl (fun ls hl => ?_)
  refine lv_iload_n hx hb dX6_block_69 rfl (lv_at hl 4 rfl) ?_
  refine lv_iconst (v := (-1)) hx hb dX6_block_70 (by decide) ?_
  refine gb_icmp_ne (tgt := 83) hx hb dX6_block_71 (by decide) hf (fun hf => ?_) (fun hf => ?_)
  · refine lv_aload_n hx hb dX6_block_83 rfl (lv_at hl 1 rfl) ?_
    refine rg_X6_23 X hP (ex_B_o hE hk) dX6_block_84 ?_
    refine lv_iload_n hx hb dX6_block_87 rfl (lv_at hl 4 rfl) ?_
    refine lv_iload hx hb dX6_block_88 (lv_at hl 0 rfl) ?_
    refine ra_B_next_st X hP hS (ex_B_next hE hk) dX6_block_90 hf (fun S3 H locs hP hS hf => ?_)
    refine lv_iload hx hb dX6_block_91 (lv_at hl 0 rfl) ?_
    exact gr_iW X hP hS (Option.some.inj hf) dX6_block_93
  · refine lv_aload_n hx hb dX6_block_74 rfl (lv_at hl 2 rfl) ?_
    refine lv_iload hx hb dX6_block_75 (lv_at hl 0 rfl) ?_
    refine rp_X6_45 X hP hS hx1 dX6_block_77 hf (fun S4 H locs hP hS hf => ?_)
    refine lv_goto (tgt := 91) hx hb dX6_block_80 (by decide) ?_
    refine lv_iload hx hb dX6_block_91 (lv_at hl 0 rfl) ?_
    exact gr_iW X hP hS (Option.some.inj hf) dX6_block_93
set_option maxHeartbeats 4000000 in
theorem w_X6_block_40 {p : Program} {l : Launch} {e : Env} {R : Room} {s : State} {m : MethodId} {args : Array Value} {below : List Frame} {meth : Method} {c : Code} {D : va_G} {dA : Nat → ClassId} {A : Nat → Prop} {ad : L3 → Nat} (E : L3 → Bool) (k : Nat) (hE : EOK E) (hk : k < 2) (X : CX RX6 cX6_block 6 (some .int) (KA D dA) p s m args meth c A) (hR : 2 ≤ R.frames ∧ 63 ≤ R.locals) {res : Mem × Int32} (S : Mem) (x1 : Nat) (x2 : Int32) (x3 : Int32) (x4 : Int32) (hx1 : E (R_o k x1) = true) {H : Heap} {locs : List Loc} {ls : Array Slot} (hP : Wd D clA (shC dA E) (exC E) A ad S H) (hS : va_S A s.heap H locs) (hl : lv_has ls 6 [(0, .ref (ad (B_o k))), (1, .ref (ad (R_o k x1))), (2, .int x2), (3, .int x3), (4, .int x4)]) (hf : f_X6_block_40 k S x1 x2 x3 x4 = some res) : W p l e R s m args below meth c H locs 0 0 (MQ below (QiW D (shC dA E) (exC E) A ad res) args s 0 0 A) (F0 m 40 ls []) := by
  have hx := X.hx
  have hb := X.hb
  unfold f_X6_block_40 at hf
  refine lv_iload hx hb dX6_block_40 (lv_at hl 4 rfl) ?_
  refine lv_iconst (v := (-1)) hx hb dX6_block_42 (by decide) ?_
  refine gb_icmp_eq (tgt := 60) hx hb dX6_block_43 (by decide) hf (fun hf => ?_) (fun hf => ?_)
  · exact w_X6_block_60 E k hE hk X hR S x1 x2 x3 x4 hx1 hP hS (lv_sub hl [0, 1, 2, 3, 4] rfl) hf
  · refine lv_aload_n hx hb dX6_block_46 rfl (lv_at hl 0 rfl) ?_
    refine rg_X6_19 X hP (ex_B_o hE hk) dX6_block_47 ?_
    refine lv_iload hx hb dX6_block_50 (lv_at hl 4 rfl) ?_
    refine ra_B_index_ld X hP (ex_B_index hE hk) dX6_block_52 hf (fun hf => ?_)
    refine lv_iload_n hx hb dX6_block_53 rfl (lv_at hl 2 rfl) ?_
    refine gb_icmp_ne (tgt := 60) hx hb dX6_block_54 (by decide) hf (fun hf => ?_) (fun hf => ?_)
    · exact w_X6_block_60 E k hE hk X hR S x1 x2 x3 x4 hx1 hP hS (lv_sub hl [0, 1, 2, 3, 4] rfl) hf
    · refine lv_iload hx hb dX6_block_57 (lv_at hl 4 rfl) ?_
      exact gr_iW X hP hS (Option.some.inj hf) dX6_block_59
set_option maxHeartbeats 4000000 in
theorem w_X6_block_8_b {p : Program} {l : Launch} {e : Env} {R : Room} {s : State} {m : MethodId} {args : Array Value} {below : List Frame} {meth : Method} {c : Code} {D : va_G} {dA : Nat → ClassId} {A : Nat → Prop} {ad : L3 → Nat} (E : L3 → Bool) (k : Nat) (hE : EOK E) (hk : k < 2) (X : CX RX6 cX6_block 6 (some .int) (KA D dA) p s m args meth c A) (hR : 2 ≤ R.frames ∧ 63 ≤ R.locals) {res : Mem × Int32} (k8 : Mem → Nat → Int32 → Int32 → Int32 → Option (Mem × Int32)) (hk8 : ∀ (S : Mem) (x1 : Nat) (x2 : Int32) (x3 : Int32) (x4 : Int32) (H : Heap) (locs : List Loc) (ls : Array Slot), (E (R_o k x1) = true) → Wd D clA (shC dA E) (exC E) A ad S H → va_S A s.heap H locs → lv_has ls 6 [(0, .ref (ad (B_o k))), (1, .ref (ad (R_o k x1))), (2, .int x2), (3, .int x3), (4, .int x4)] → k8 S x1 x2 x3 x4 = some res → W p l e R s m args below meth c H locs 0 0 (MQ below (QiW D (shC dA E) (exC E) A ad res) args s 0 0 A) (F0 m 8 ls [])) (S : Mem) (x1 : Nat) (x2 : Int32) (x3 : Int32) (x4 : Int32) (hx1 : E (R_o k x1) = true) {H : Heap} {locs : List Loc} {ls : Array Slot} (hP : Wd D clA (shC dA E) (exC E) A ad S H) (hS : va_S A s.heap H locs) (hl : lv_has ls 6 [(0, .ref (ad (B_o k))), (1, .ref (ad (R_o k x1))), (2, .int x2), (3, .int x3), (4, .int x4)]) (hf : f_X6_block_8_b k k8 S x1 x2 x3 x4 = some res) : W p l e R s m args below meth c H locs 0 0 (MQ below (QiW D (shC dA E) (exC E) A ad res) args s 0 0 A) (F0 m 8 ls []) := by
  have hx := X.hx
  have hb := X.hb
  unfold f_X6_block_8_b at hf
  refine lv_iload hx hb dX6_block_8 (lv_at hl 4 rfl) ?_
  refine lv_iconst (v := (-1)) hx hb dX6_block_10 (by decide) ?_
  refine gb_icmp_eq (tgt := 40) hx hb dX6_block_11 (by decide) hf (fun hf => ?_) (fun hf => ?_)
  · exact w_X6_block_40 E k hE hk X hR S x1 x2 x3 x4 hx1 hP hS (lv_sub hl [0, 1, 2, 3, 4] rfl) hf
  · refine lv_aload_n hx hb dX6_block_14 rfl (lv_at hl 0 rfl) ?_
    refine rg_X6_19 X hP (ex_B_o hE hk) dX6_block_15 ?_
    refine lv_iload hx hb dX6_block_18 (lv_at hl 4 rfl) ?_
    refine ra_B_index_ld X hP (ex_B_index hE hk) dX6_block_20 hf (fun hf => ?_)
    refine lv_iload_n hx hb dX6_block_21 rfl (lv_at hl 2 rfl) ?_
    refine gb_icmp_ge (tgt := 40) hx hb dX6_block_22 (by decide) hf (fun hf => ?_) (fun hf => ?_)
    · exact w_X6_block_40 E k hE hk X hR S x1 x2 x3 x4 hx1 hP hS (lv_sub hl [0, 1, 2, 3, 4] rfl) hf
    · refine lv_iload hx hb dX6_block_25 (lv_at hl 4 rfl) ?_
      refine lv_istore_n (lv' := [(3, .int x4), (0, .ref (ad (B_o k))), (1, .ref (ad (R_o k x1))), (2, .int x2), (4, .int x4)]) hx hb dX6_block_27 rfl hl (by decide) rfl (fun ls hl => ?_)
      refine lv_aload_n hx hb dX6_block_28 rfl (lv_at hl 1 rfl) ?_
      refine rg_X6_23 X hP (ex_B_o hE hk) dX6_block_29 ?_
      refine lv_iload hx hb dX6_block_32 (lv_at hl 4 rfl) ?_
      refine ra_B_next_ld X hP (ex_B_next hE hk) dX6_block_34 hf (fun hf => ?_)
      refine lv_istore (lv' := [(4, .int (S.1 (B_next k) (Int32.toNatClampNeg x4))), (3, .int x4), (0, .ref (ad (B_o k))), (1, .ref (ad (R_o k x1))), (2, .int x2)]) hx hb dX6_block_35 hl (by decide) rfl (fun ls hl => ?_)
      refine lv_goto (tgt := 8) hx hb dX6_block_37 (by decide) ?_
      exact hk8 S x1 x2 x4 (S.1 (B_next k) (Int32.toNatClampNeg x4)) _ _ _ hx1 hP hS (lv_sub hl [2, 3, 4, 1, 0] rfl) hf
set_option maxHeartbeats 4000000 in
theorem w_X6_block_8 {p : Program} {l : Launch} {e : Env} {R : Room} {s : State} {m : MethodId} {args : Array Value} {below : List Frame} {meth : Method} {c : Code} {D : va_G} {dA : Nat → ClassId} {A : Nat → Prop} {ad : L3 → Nat} (E : L3 → Bool) (k : Nat) (hE : EOK E) (hk : k < 2) (X : CX RX6 cX6_block 6 (some .int) (KA D dA) p s m args meth c A) (hR : 2 ≤ R.frames ∧ 63 ≤ R.locals) {res : Mem × Int32} (n : Nat) : ∀ (S : Mem) (x1 : Nat) (x2 : Int32) (x3 : Int32) (x4 : Int32) (H : Heap) (locs : List Loc) (ls : Array Slot), (E (R_o k x1) = true) → Wd D clA (shC dA E) (exC E) A ad S H → va_S A s.heap H locs → lv_has ls 6 [(0, .ref (ad (B_o k))), (1, .ref (ad (R_o k x1))), (2, .int x2), (3, .int x3), (4, .int x4)] → f_X6_block_8 k n S x1 x2 x3 x4 = some res → W p l e R s m args below meth c H locs 0 0 (MQ below (QiW D (shC dA E) (exC E) A ad res) args s 0 0 A) (F0 m 8 ls []) := by
  induction n with
  | zero =>
    intro S x1 x2 x3 x4 H locs ls hx1 hP hS hl hf
    exact absurd (show none = some res from hf) (fun h => by cases h)
  | succ n ih =>
    intro S x1 x2 x3 x4 H locs ls hx1 hP hS hl hf
    exact w_X6_block_8_b E k hE hk X hR (f_X6_block_8 k n) ih S x1 x2 x3 x4 hx1 hP hS hl hf
set_option maxHeartbeats 4000000 in
theorem w_X6_block {p : Program} {l : Launch} {e : Env} {R : Room} {s : State} {m : MethodId} {args : Array Value} {below : List Frame} {meth : Method} {c : Code} {D : va_G} {dA : Nat → ClassId} {A : Nat → Prop} {ad : L3 → Nat} (E : L3 → Bool) (k : Nat) (hE : EOK E) (hk : k < 2) (X : CX RX6 cX6_block 6 (some .int) (KA D dA) p s m args meth c A) (hR : 2 ≤ R.frames ∧ 63 ≤ R.locals) {res : Mem × Int32} (S : Mem) (x1 : Nat) (x2 : Int32) (hx1 : E (R_o k x1) = true) {H : Heap} {locs : List Loc} {ls : Array Slot} (hP : Wd D clA (shC dA E) (exC E) A ad S H) (hS : va_S A s.heap H locs) (hl : lv_has ls 6 [(0, .ref (ad (B_o k))), (1, .ref (ad (R_o k x1))), (2, .int x2)]) (hf : f_X6_block k S x1 x2 = some res) : W p l e R s m args below meth c H locs 0 0 (MQ below (QiW D (shC dA E) (exC E) A ad res) args s 0 0 A) (F0 m 0 ls []) := by
  have hx := X.hx
  have hb := X.hb
  unfold f_X6_block at hf
  refine lv_iconst (v := (-1)) hx hb dX6_block_0 (by decide) ?_
  refine lv_istore_n (lv' := [(3, .int (-1)), (0, .ref (ad (B_o k))), (1, .ref (ad (R_o k x1))), (2, .int x2)]) hx hb dX6_block_1 rfl hl (by decide) rfl (fun ls hl => ?_)
  refine lv_aload_n hx hb dX6_block_2 rfl (lv_at hl 2 rfl) ?_
  refine rg_X6_45 X hP hx1 dX6_block_3 ?_
  refine lv_istore (lv' := [(4, .int (S.1 (R_o k x1) 7)), (3, .int (-1)), (0, .ref (ad (B_o k))), (1, .ref (ad (R_o k x1))), (2, .int x2)]) hx hb dX6_block_6 hl (by decide) rfl (fun ls hl => ?_)
  exact w_X6_block_8 E k hE hk X hR FU S x1 x2 (-1) (S.1 (R_o k x1) 7) _ _ _ hx1 hP hS (lv_sub hl [2, 3, 4, 1, 0] rfl) hf
theorem hd_X6_block : yX6_block.cls = RX6 ∧ yX6_block.cls ≠ "java/lang/invoke/MethodHandle" ∧ yX6_block.cls ≠ "java/lang/invoke/VarHandle" ∧ (parseMethodDescriptor yX6_block.desc).map (fun d => d.parameters.length) = some 2 := by decide +kernel
set_option maxHeartbeats 4000000 in
theorem mt_X6_block (l : Launch) (D : va_G) (dA : Nat → ClassId) (A : Nat → Prop) (ad : L3 → Nat) (E : L3 → Bool) (k : Nat) (hE : EOK E) (hk : k < 2) (S : Mem) (x1 : Nat) (x2 : Int32) (hx1 : E (R_o k x1) = true) {res : Mem × Int32} (hq : f_X6_block k S x1 x2 = some res) : Met l yX6_block (ws_ yX6_block cX6_block 6 (some .int)) ({ frames := 2, cells := 0, slots := 0, locals := 63 } : Room) (va_Pc [.ref (ad (B_o k)), .ref (ad (R_o k x1)), .int x2] (PreW D dA (shC dA E) (exC E) A ad S)) (QiW D (shC dA E) (exC E) A ad res) 0 0 A :=
  gx_head (by decide) (Nat.le_of_ble_eq_true rfl) (fun p e s m below meth c ls X hP hl => w_X6_block (l := l) E k hE hk X ⟨Nat.le_of_ble_eq_true rfl, Nat.le_of_ble_eq_true rfl⟩ S x1 x2 hx1 hP va_S.rf (lv_sub (l := [(0, .ref (ad (B_o k))), (1, .ref (ad (R_o k x1))), (2, .int x2)]) hl [0, 1, 2] rfl) hq)
set_option maxHeartbeats 4000000 in
theorem w_X6_put_124 {p : Program} {l : Launch} {e : Env} {R : Room} {s : State} {m : MethodId} {args : Array Value} {below : List Frame} {meth : Method} {c : Code} {D : va_G} {dA : Nat → ClassId} {A : Nat → Prop} {ad : L3 → Nat} (E : L3 → Bool) (k : Nat) (hE : EOK E) (hk : k < 2) (X : CX RX6 cX6_put 9 none (KA D dA) p s m args meth c A) (hR : 3 ≤ R.frames ∧ 88 ≤ R.locals) {res : Mem} (k15 : Mem → Nat → Int32 → L3 → Int32 → Int32 → Int32 → Int32 → Option (Mem)) (hk15 : ∀ (S : Mem) (x1 : Nat) (x2 : Int32) (x3 : L3) (x4 : Int32) (x5 : Int32) (x6 : Int32) (x7 : Int32) (H : Heap) (locs : List Loc) (ls : Array Slot), (E (R_o k x1) = true) → (BS x3) → Wd D clA (shC dA E) (exC E) A ad S H → va_S A s.heap H locs → lv_has ls 9 [(0, .ref (ad (B_o k))), (1, .ref (ad (R_o k x1))), (2, .int x2), (3, .ref (ad x3)), (4, .int x4), (5, .int x5), (6, .int x6), (7, .int x7)] → k15 S x1 x2 x3 x4 x5 x6 x7 = some res → W p l e R s m args below meth c H locs 0 0 (MQ below (QvW D (shC dA E) (exC E) A ad res) args s 0 0 A) (F0 m 15 ls [])) (S : Mem) (x1 : Nat) (x2 : Int32) (x3 : L3) (x4 : Int32) (x5 : Int32) (x6 : Int32) (x7 : Int32) (hx1 : E (R_o k x1) = true) (hx3 : BS x3) {H : Heap} {locs : List Loc} {ls : Array Slot} (hP : Wd D clA (shC dA E) (exC E) A ad S H) (hS : va_S A s.heap H locs) (hl : lv_has ls 9 [(0, .ref (ad (B_o k))), (1, .ref (ad (R_o k x1))), (2, .int x2), (3, .ref (ad x3)), (4, .int x4), (5, .int x5), (6, .int x6), (7, .int x7)]) (hf : f_X6_put_124 k k15 S x1 x2 x3 x4 x5 x6 x7 = some res) : W p l e R s m args below meth c H locs 0 0 (MQ below (QvW D (shC dA E) (exC E) A ad res) args s 0 0 A) (F0 m 124 ls []) := by
  have hx := X.hx
  have hb := X.hb
  unfold f_X6_put_124 at hf
  refine lv_iinc (v := (x7 + 1)) (lv' := [(7, .int (x7 + 1)), (0, .ref (ad (B_o k))), (1, .ref (ad (R_o k x1))), (2, .int x2), (3, .ref (ad x3)), (4, .int x4), (5, .int x5), (6, .int x6)]) hx hb dX6_put_124 hl (k := 7) rfl rfl (by decide) rfl (fun ls hl => ?_)
  refine lv_goto (tgt := 15) hx hb dX6_put_127 (by decide) ?_
  exact hk15 S x1 x2 x3 x4 x5 x6 (x7 + 1) _ _ _ hx1 hx3 hP hS (lv_sub hl [1, 2, 3, 4, 5, 6, 7, 0] rfl) hf
set_option maxHeartbeats 4000000 in
theorem w_X6_put_61 {p : Program} {l : Launch} {e : Env} {R : Room} {s : State} {m : MethodId} {args : Array Value} {below : List Frame} {meth : Method} {c : Code} {D : va_G} {dA : Nat → ClassId} {A : Nat → Prop} {ad : L3 → Nat} (E : L3 → Bool) (k : Nat) (hE : EOK E) (hk : k < 2) (X : CX RX6 cX6_put 9 none (KA D dA) p s m args meth c A) (hR : 3 ≤ R.frames ∧ 88 ≤ R.locals) {res : Mem} (k15 : Mem → Nat → Int32 → L3 → Int32 → Int32 → Int32 → Int32 → Option (Mem)) (hk15 : ∀ (S : Mem) (x1 : Nat) (x2 : Int32) (x3 : L3) (x4 : Int32) (x5 : Int32) (x6 : Int32) (x7 : Int32) (H : Heap) (locs : List Loc) (ls : Array Slot), (E (R_o k x1) = true) → (BS x3) → Wd D clA (shC dA E) (exC E) A ad S H → va_S A s.heap H locs → lv_has ls 9 [(0, .ref (ad (B_o k))), (1, .ref (ad (R_o k x1))), (2, .int x2), (3, .ref (ad x3)), (4, .int x4), (5, .int x5), (6, .int x6), (7, .int x7)] → k15 S x1 x2 x3 x4 x5 x6 x7 = some res → W p l e R s m args below meth c H locs 0 0 (MQ below (QvW D (shC dA E) (exC E) A ad res) args s 0 0 A) (F0 m 15 ls [])) (S : Mem) (x1 : Nat) (x2 : Int32) (x3 : L3) (x4 : Int32) (x5 : Int32) (x6 : Int32) (x7 : Int32) (x8 : Int32) (hx1 : E (R_o k x1) = true) (hx3 : BS x3) {H : Heap} {locs : List Loc} {ls : Array Slot} (hP : Wd D clA (shC dA E) (exC E) A ad S H) (hS : va_S A s.heap H locs) (hl : lv_has ls 9 [(0, .ref (ad (B_o k))), (1, .ref (ad (R_o k x1))), (2, .int x2), (3, .ref (ad x3)), (4, .int x4), (5, .int x5), (6, .int x6), (7, .int x7), (8, .int x8)]) (hf : f_X6_put_61 k k15 S x1 x2 x3 x4 x5 x6 x7 x8 = some res) : W p l e R s m args below meth c H locs 0 0 (MQ below (QvW D (shC dA E) (exC E) A ad res) args s 0 0 A) (F0 m 61 ls []) := by
  have hx := X.hx
  have hb := X.hb
  unfold f_X6_put_61 at hf
  refine lv_aload_n hx hb dX6_put_61 rfl (lv_at hl 0 rfl) ?_
  refine rg_X6_15 X hP (ex_B_o hE hk) dX6_put_62 ?_
  refine lv_iload hx hb dX6_put_65 (lv_at hl 6 rfl) ?_
  refine ra_B_marks_ld X hP (ex_B_marks hE hk) dX6_put_67 hf (fun hf => ?_)
  refine lv_iload hx hb dX6_put_68 (lv_at hl 8 rfl) ?_
  refine lv_bipush (v := 64) hx hb dX6_put_70 (by decide) ?_
  refine lv_irem hx hb dX6_put_72 (by decide) ?_
  refine lv_lshr hx hb dX6_put_73 rfl ?_
  refine lv_lconst (v := 1) hx hb dX6_put_74 (by decide) ?_
  refine lv_land hx hb dX6_put_75 ?_
  refine lv_lconst (v := 1) hx hb dX6_put_76 (by decide) ?_
  refine gb_lcmp_ne (tgt := 84) hx hb dX6_put_77 dX6_put_78 (by decide) hf (fun hf => ?_) (fun hf => ?_)
  · refine lv_aload_n hx hb dX6_put_84 rfl (lv_at hl 0 rfl) ?_
    refine rg_X6_9 X hP (ex_B_o hE hk) dX6_put_85 ?_
    refine lv_iload hx hb dX6_put_88 (lv_at hl 6 rfl) ?_
    refine lv_bipush (v := 64) hx hb dX6_put_90 (by decide) ?_
    refine lv_imul hx hb dX6_put_92 ?_
    refine lv_iload hx hb dX6_put_93 (lv_at hl 8 rfl) ?_
    refine lv_bipush (v := 64) hx hb dX6_put_95 (by decide) ?_
    refine lv_irem hx hb dX6_put_97 (by decide) ?_
    refine lv_iadd hx hb dX6_put_98 ?_
    refine lv_aload_n hx hb dX6_put_99 rfl (lv_at hl 3 rfl) ?_
    refine lv_iload hx hb dX6_put_100 (lv_at hl 4 rfl) ?_
    refine lv_iload hx hb dX6_put_102 (lv_at hl 7 rfl) ?_
    refine lv_iadd hx hb dX6_put_104 ?_
    refine ra_Y_ld hE X hP hx3 dX6_put_105 hf (fun hf => ?_)
    refine ra_B_bytes_st X hP hS (ex_B_bytes hE hk) dX6_put_106 hf (fun S1 H locs hP hS hf => ?_)
    refine lv_aload_n hx hb dX6_put_107 rfl (lv_at hl 0 rfl) ?_
    refine rg_X6_15 X hP (ex_B_o hE hk) dX6_put_108 ?_
    refine lv_iload hx hb dX6_put_111 (lv_at hl 6 rfl) ?_
    refine lv_dup2_11 hx hb dX6_put_113 rfl rfl ?_
    refine ra_B_marks_ld X hP (ex_B_marks hE hk) dX6_put_114 hf (fun hf => ?_)
    refine lv_lconst (v := 1) hx hb dX6_put_115 (by decide) ?_
    refine lv_iload hx hb dX6_put_116 (lv_at hl 8 rfl) ?_
    refine lv_bipush (v := 64) hx hb dX6_put_118 (by decide) ?_
    refine lv_irem hx hb dX6_put_120 (by decide) ?_
    refine lv_lshl hx hb dX6_put_121 rfl ?_
    refine lv_lor hx hb dX6_put_122 ?_
    refine ra_B_marks_st X hP hS (ex_B_marks hE hk) dX6_put_123 hf (fun S2 H locs hP hS hf => ?_)
    exact w_X6_put_124 E k hE hk X hR k15 hk15 S2 x1 x2 x3 x4 x5 x6 x7 hx1 hx3 hP hS (lv_sub hl [0, 1, 2, 3, 4, 5, 6, 7] rfl) hf
  · refine lv_goto (tgt := 124) hx hb dX6_put_81 (by decide) ?_
    exact w_X6_put_124 E k hE hk X hR k15 hk15 S x1 x2 x3 x4 x5 x6 x7 hx1 hx3 hP hS (lv_sub hl [0, 1, 2, 3, 4, 5, 6, 7] rfl) hf
set_option maxHeartbeats 4000000 in
theorem w_X6_put_49 {p : Program} {l : Launch} {e : Env} {R : Room} {s : State} {m : MethodId} {args : Array Value} {below : List Frame} {meth : Method} {c : Code} {D : va_G} {dA : Nat → ClassId} {A : Nat → Prop} {ad : L3 → Nat} (E : L3 → Bool) (k : Nat) (hE : EOK E) (hk : k < 2) (X : CX RX6 cX6_put 9 none (KA D dA) p s m args meth c A) (hR : 3 ≤ R.frames ∧ 88 ≤ R.locals) {res : Mem} (k15 : Mem → Nat → Int32 → L3 → Int32 → Int32 → Int32 → Int32 → Option (Mem)) (hk15 : ∀ (S : Mem) (x1 : Nat) (x2 : Int32) (x3 : L3) (x4 : Int32) (x5 : Int32) (x6 : Int32) (x7 : Int32) (H : Heap) (locs : List Loc) (ls : Array Slot), (E (R_o k x1) = true) → (BS x3) → Wd D clA (shC dA E) (exC E) A ad S H → va_S A s.heap H locs → lv_has ls 9 [(0, .ref (ad (B_o k))), (1, .ref (ad (R_o k x1))), (2, .int x2), (3, .ref (ad x3)), (4, .int x4), (5, .int x5), (6, .int x6), (7, .int x7)] → k15 S x1 x2 x3 x4 x5 x6 x7 = some res → W p l e R s m args below meth c H locs 0 0 (MQ below (QvW D (shC dA E) (exC E) A ad res) args s 0 0 A) (F0 m 15 ls [])) (S : Mem) (x1 : Nat) (x2 : Int32) (x3 : L3) (x4 : Int32) (x5 : Int32) (x7 : Int32) (x8 : Int32) (hx1 : E (R_o k x1) = true) (hx3 : BS x3) {H : Heap} {locs : List Loc} {ls : Array Slot} (hP : Wd D clA (shC dA E) (exC E) A ad S H) (hS : va_S A s.heap H locs) (hl : lv_has ls 9 [(0, .ref (ad (B_o k))), (1, .ref (ad (R_o k x1))), (2, .int x2), (3, .ref (ad x3)), (4, .int x4), (5, .int x5), (7, .int x7), (8, .int x8)]) (hf : f_X6_put_49 k k15 S x1 x2 x3 x4 x5 x7 x8 = some res) : W p l e R s m args below meth c H locs 0 0 (MQ below (QvW D (shC dA E) (exC E) A ad res) args s 0 0 A) (F0 m 49 ls []) := by
  have hx := X.hx
  have hb := X.hb
  unfold f_X6_put_49 at hf
  refine lv_aload_n hx hb dX6_put_49 rfl (lv_at hl 0 rfl) ?_
  refine lv_aload_n hx hb dX6_put_50 rfl (lv_at hl 1 rfl) ?_
  refine lv_iload hx hb dX6_put_51 (lv_at hl 7 rfl) ?_
  refine lv_bipush (v := 64) hx hb dX6_put_53 (by decide) ?_
  refine lv_idiv hx hb dX6_put_55 (by decide) ?_
  obtain ⟨S1, v2, hq, hf⟩ := gB2_some hf
  refine gc_i (gc_fixV (S := S) X (mt_X6_block l D dA A ad E k hE hk S x1 (x8 / 64) hx1 hq) (lw_V q932 q934 qs30 q91 q935) ⟨rfl, rfl⟩ hd_X6_block ⟨Nat.le_trans (Nat.le_of_ble_eq_true rfl) hR.1, Nat.le_trans (Nat.le_of_ble_eq_true rfl) hR.2⟩ (wd_recv (r := B_o k) (ci := 6) (q := (RX6, TX6, 6)) X.hK.1 hP (ex_B_o hE hk) rfl rfl) hP hS ⟨Nat.zero_le _, Nat.zero_le _⟩ rfl hl.1 rfl (Nat.le_of_ble_eq_true rfl) dX6_put_56) hS ?_
  rintro _ _ H locs ⟨⟩ hP hS
  refine lv_istore (lv' := [(6, .int v2), (0, .ref (ad (B_o k))), (1, .ref (ad (R_o k x1))), (2, .int x2), (3, .ref (ad x3)), (4, .int x4), (5, .int x5), (7, .int x7), (8, .int x8)]) hx hb dX6_put_59 hl (by decide) rfl (fun ls hl => ?_)
  exact w_X6_put_61 E k hE hk X hR k15 hk15 S1 x1 x2 x3 x4 x5 v2 x7 x8 hx1 hx3 hP hS (lv_sub hl [1, 2, 3, 4, 5, 6, 0, 7, 8] rfl) hf
set_option maxHeartbeats 4000000 in
theorem w_X6_put_222 {p : Program} {l : Launch} {e : Env} {R : Room} {s : State} {m : MethodId} {args : Array Value} {below : List Frame} {meth : Method} {c : Code} {D : va_G} {dA : Nat → ClassId} {A : Nat → Prop} {ad : L3 → Nat} (E : L3 → Bool) (k : Nat) (hE : EOK E) (hk : k < 2) (X : CX RX6 cX6_put 9 none (KA D dA) p s m args meth c A) (hR : 3 ≤ R.frames ∧ 88 ≤ R.locals) {res : Mem} (k136 : Mem → Nat → Int32 → Option (Mem)) (hk136 : ∀ (S : Mem) (x1 : Nat) (x6 : Int32) (H : Heap) (locs : List Loc) (ls : Array Slot), (E (R_o k x1) = true) → Wd D clA (shC dA E) (exC E) A ad S H → va_S A s.heap H locs → lv_has ls 9 [(0, .ref (ad (B_o k))), (1, .ref (ad (R_o k x1))), (6, .int x6)] → k136 S x1 x6 = some res → W p l e R s m args below meth c H locs 0 0 (MQ below (QvW D (shC dA E) (exC E) A ad res) args s 0 0 A) (F0 m 136 ls [])) (S : Mem) (x1 : Nat) (y0 : Int32) (hx1 : E (R_o k x1) = true) {H : Heap} {locs : List Loc} {ls : Array Slot} (hP : Wd D clA (shC dA E) (exC E) A ad S H) (hS : va_S A s.heap H locs) (hl : lv_has ls 9 [(0, .ref (ad (B_o k))), (1, .ref (ad (R_o k x1)))]) (hf : f_X6_put_222 k k136 S x1 y0 = some res) : W p l e R s m args below meth c H locs 0 0 (MQ below (QvW D (shC dA E) (exC E) A ad res) args s 0 0 A) (F0 m 222 ls [.int y0]) := by
  have hx := X.hx
  have hb := X.hb
  unfold f_X6_put_222 at hf
  refine lv_istore (lv' := [(6, .int y0), (0, .ref (ad (B_o k))), (1, .ref (ad (R_o k x1)))]) hx hb dX6_put_222 hl (by decide) rfl (fun ls hl => ?_)
  refine lv_goto (tgt := 136) hx hb dX6_put_224 (by decide) ?_
  exact hk136 S x1 y0 _ _ _ hx1 hP hS (lv_sub hl [1, 2, 0] rfl) hf
set_option maxHeartbeats 4000000 in
theorem w_X6_put_194 {p : Program} {l : Launch} {e : Env} {R : Room} {s : State} {m : MethodId} {args : Array Value} {below : List Frame} {meth : Method} {c : Code} {D : va_G} {dA : Nat → ClassId} {A : Nat → Prop} {ad : L3 → Nat} (E : L3 → Bool) (k : Nat) (hE : EOK E) (hk : k < 2) (X : CX RX6 cX6_put 9 none (KA D dA) p s m args meth c A) (hR : 3 ≤ R.frames ∧ 88 ≤ R.locals) {res : Mem} (k136 : Mem → Nat → Int32 → Option (Mem)) (hk136 : ∀ (S : Mem) (x1 : Nat) (x6 : Int32) (H : Heap) (locs : List Loc) (ls : Array Slot), (E (R_o k x1) = true) → Wd D clA (shC dA E) (exC E) A ad S H → va_S A s.heap H locs → lv_has ls 9 [(0, .ref (ad (B_o k))), (1, .ref (ad (R_o k x1))), (6, .int x6)] → k136 S x1 x6 = some res → W p l e R s m args below meth c H locs 0 0 (MQ below (QvW D (shC dA E) (exC E) A ad res) args s 0 0 A) (F0 m 136 ls [])) (S : Mem) (x1 : Nat) (x6 : Int32) (hx1 : E (R_o k x1) = true) {H : Heap} {locs : List Loc} {ls : Array Slot} (hP : Wd D clA (shC dA E) (exC E) A ad S H) (hS : va_S A s.heap H locs) (hl : lv_has ls 9 [(0, .ref (ad (B_o k))), (1, .ref (ad (R_o k x1))), (6, .int x6)]) (hf : f_X6_put_194 k k136 S x1 x6 = some res) : W p l e R s m args below meth c H locs 0 0 (MQ below (QvW D (shC dA E) (exC E) A ad res) args s 0 0 A) (F0 m 194 ls []) := by
  have hx := X.hx
  have hb := X.hb
  unfold f_X6_put_194 at hf
  refine lv_aload_n hx hb dX6_put_194 rfl (lv_at hl 0 rfl) ?_
  refine rg_X6_19 X hP (ex_B_o hE hk) dX6_put_195 ?_
  refine lv_iload hx hb dX6_put_198 (lv_at hl 2 rfl) ?_
  refine ra_B_index_ld X hP (ex_B_index hE hk) dX6_put_200 hf (fun hf => ?_)
  refine lv_aload_n hx hb dX6_put_201 rfl (lv_at hl 1 rfl) ?_
  refine rg_X6_54 X hP hx1 dX6_put_202 ?_
  refine lv_bipush (v := 64) hx hb dX6_put_205 (by decide) ?_
  refine lv_idiv hx hb dX6_put_207 (by decide) ?_
  refine gb_icmp_ge (tgt := 221) hx hb dX6_put_208 (by decide) hf (fun hf => ?_) (fun hf => ?_)
  · refine lv_iconst (v := (-1)) hx hb dX6_put_221 (by decide) ?_
    exact w_X6_put_222 E k hE hk X hR k136 hk136 S x1 (-1) hx1 hP hS (lv_sub hl [0, 1] rfl) hf
  · refine lv_aload_n hx hb dX6_put_211 rfl (lv_at hl 0 rfl) ?_
    refine rg_X6_23 X hP (ex_B_o hE hk) dX6_put_212 ?_
    refine lv_iload hx hb dX6_put_215 (lv_at hl 2 rfl) ?_
    refine ra_B_next_ld X hP (ex_B_next hE hk) dX6_put_217 hf (fun hf => ?_)
    refine lv_goto (tgt := 222) hx hb dX6_put_218 (by decide) ?_
    exact w_X6_put_222 E k hE hk X hR k136 hk136 S x1 (S.1 (B_next k) (Int32.toNatClampNeg x6)) hx1 hP hS (lv_sub hl [0, 1] rfl) hf
set_option maxHeartbeats 4000000 in
theorem w_X6_put_142_b {p : Program} {l : Launch} {e : Env} {R : Room} {s : State} {m : MethodId} {args : Array Value} {below : List Frame} {meth : Method} {c : Code} {D : va_G} {dA : Nat → ClassId} {A : Nat → Prop} {ad : L3 → Nat} (E : L3 → Bool) (k : Nat) (hE : EOK E) (hk : k < 2) (X : CX RX6 cX6_put 9 none (KA D dA) p s m args meth c A) (hR : 3 ≤ R.frames ∧ 88 ≤ R.locals) {res : Mem} (k136 : Mem → Nat → Int32 → Option (Mem)) (hk136 : ∀ (S : Mem) (x1 : Nat) (x6 : Int32) (H : Heap) (locs : List Loc) (ls : Array Slot), (E (R_o k x1) = true) → Wd D clA (shC dA E) (exC E) A ad S H → va_S A s.heap H locs → lv_has ls 9 [(0, .ref (ad (B_o k))), (1, .ref (ad (R_o k x1))), (6, .int x6)] → k136 S x1 x6 = some res → W p l e R s m args below meth c H locs 0 0 (MQ below (QvW D (shC dA E) (exC E) A ad res) args s 0 0 A) (F0 m 136 ls [])) (k142 : Mem → Nat → Int32 → Option (Mem)) (hk142 : ∀ (S : Mem) (x1 : Nat) (x6 : Int32) (H : Heap) (locs : List Loc) (ls : Array Slot), (E (R_o k x1) = true) → Wd D clA (shC dA E) (exC E) A ad S H → va_S A s.heap H locs → lv_has ls 9 [(0, .ref (ad (B_o k))), (1, .ref (ad (R_o k x1))), (6, .int x6)] → k142 S x1 x6 = some res → W p l e R s m args below meth c H locs 0 0 (MQ below (QvW D (shC dA E) (exC E) A ad res) args s 0 0 A) (F0 m 142 ls [])) (S : Mem) (x1 : Nat) (x6 : Int32) (hx1 : E (R_o k x1) = true) {H : Heap} {locs : List Loc} {ls : Array Slot} (hP : Wd D clA (shC dA E) (exC E) A ad S H) (hS : va_S A s.heap H locs) (hl : lv_has ls 9 [(0, .ref (ad (B_o k))), (1, .ref (ad (R_o k x1))), (6, .int x6)]) (hf : f_X6_put_142_b k k136 k142 S x1 x6 = some res) : W p l e R s m args below meth c H locs 0 0 (MQ below (QvW D (shC dA E) (exC E) A ad res) args s 0 0 A) (F0 m 142 ls []) := by
  have hx := X.hx
  have hb := X.hb
  unfold f_X6_put_142_b at hf
  refine lv_aload_n hx hb dX6_put_142 rfl (lv_at hl 0 rfl) ?_
  refine rg_X6_19 X hP (ex_B_o hE hk) dX6_put_143 ?_
  refine lv_iload hx hb dX6_put_146 (lv_at hl 2 rfl) ?_
  refine ra_B_index_ld X hP (ex_B_index hE hk) dX6_put_148 hf (fun hf => ?_)
  refine lv_aload_n hx hb dX6_put_149 rfl (lv_at hl 1 rfl) ?_
  refine rg_X6_54 X hP hx1 dX6_put_150 ?_
  refine lv_bipush (v := 64) hx hb dX6_put_153 (by decide) ?_
  refine lv_idiv hx hb dX6_put_155 (by decide) ?_
  refine gb_icmp_ne (tgt := 194) hx hb dX6_put_156 (by decide) hf (fun hf => ?_) (fun hf => ?_)
  · exact w_X6_put_194 E k hE hk X hR k136 hk136 S x1 x6 hx1 hP hS (lv_sub hl [0, 1, 2] rfl) hf
  · refine lv_aload_n hx hb dX6_put_159 rfl (lv_at hl 0 rfl) ?_
    refine rg_X6_15 X hP (ex_B_o hE hk) dX6_put_160 ?_
    refine lv_iload hx hb dX6_put_163 (lv_at hl 2 rfl) ?_
    refine ra_B_marks_ld X hP (ex_B_marks hE hk) dX6_put_165 hf (fun hf => ?_)
    refine lv_aload_n hx hb dX6_put_166 rfl (lv_at hl 1 rfl) ?_
    refine rg_X6_54 X hP hx1 dX6_put_167 ?_
    refine lv_bipush (v := 64) hx hb dX6_put_170 (by decide) ?_
    refine lv_irem hx hb dX6_put_172 (by decide) ?_
    refine lv_lshr hx hb dX6_put_173 rfl ?_
    refine lv_lconst (v := 1) hx hb dX6_put_174 (by decide) ?_
    refine lv_land hx hb dX6_put_175 ?_
    refine lv_lconst (v := 1) hx hb dX6_put_176 (by decide) ?_
    refine gb_lcmp_ne (tgt := 194) hx hb dX6_put_177 dX6_put_178 (by decide) hf (fun hf => ?_) (fun hf => ?_)
    · exact w_X6_put_194 E k hE hk X hR k136 hk136 S x1 x6 hx1 hP hS (lv_sub hl [0, 1, 2] rfl) hf
    · refine lv_aload_n hx hb dX6_put_181 rfl (lv_at hl 1 rfl) ?_
      refine lv_dup hx hb dX6_put_182 rfl ?_
      refine rg_X6_54 X hP hx1 dX6_put_183 ?_
      refine lv_iconst (v := 1) hx hb dX6_put_186 (by decide) ?_
      refine lv_iadd hx hb dX6_put_187 ?_
      refine rp_X6_54 X hP hS hx1 dX6_put_188 hf (fun S1 H locs hP hS hf => ?_)
      refine lv_goto (tgt := 142) hx hb dX6_put_191 (by decide) ?_
      exact hk142 S1 x1 x6 _ _ _ hx1 hP hS (lv_sub hl [0, 1, 2] rfl) hf
set_option maxHeartbeats 4000000 in
theorem w_X6_put_142 {p : Program} {l : Launch} {e : Env} {R : Room} {s : State} {m : MethodId} {args : Array Value} {below : List Frame} {meth : Method} {c : Code} {D : va_G} {dA : Nat → ClassId} {A : Nat → Prop} {ad : L3 → Nat} (E : L3 → Bool) (k : Nat) (hE : EOK E) (hk : k < 2) (X : CX RX6 cX6_put 9 none (KA D dA) p s m args meth c A) (hR : 3 ≤ R.frames ∧ 88 ≤ R.locals) {res : Mem} (k136 : Mem → Nat → Int32 → Option (Mem)) (hk136 : ∀ (S : Mem) (x1 : Nat) (x6 : Int32) (H : Heap) (locs : List Loc) (ls : Array Slot), (E (R_o k x1) = true) → Wd D clA (shC dA E) (exC E) A ad S H → va_S A s.heap H locs → lv_has ls 9 [(0, .ref (ad (B_o k))), (1, .ref (ad (R_o k x1))), (6, .int x6)] → k136 S x1 x6 = some res → W p l e R s m args below meth c H locs 0 0 (MQ below (QvW D (shC dA E) (exC E) A ad res) args s 0 0 A) (F0 m 136 ls [])) (n : Nat) : ∀ (S : Mem) (x1 : Nat) (x6 : Int32) (H : Heap) (locs : List Loc) (ls : Array Slot), (E (R_o k x1) = true) → Wd D clA (shC dA E) (exC E) A ad S H → va_S A s.heap H locs → lv_has ls 9 [(0, .ref (ad (B_o k))), (1, .ref (ad (R_o k x1))), (6, .int x6)] → f_X6_put_142 k k136 n S x1 x6 = some res → W p l e R s m args below meth c H locs 0 0 (MQ below (QvW D (shC dA E) (exC E) A ad res) args s 0 0 A) (F0 m 142 ls []) := by
  induction n with
  | zero =>
    intro S x1 x6 H locs ls hx1 hP hS hl hf
    exact absurd (show none = some res from hf) (fun h => by cases h)
  | succ n ih =>
    intro S x1 x6 H locs ls hx1 hP hS hl hf
    exact w_X6_put_142_b E k hE hk X hR k136 hk136 (f_X6_put_142 k k136 n) ih S x1 x6 hx1 hP hS hl hf
set_option maxHeartbeats 4000000 in
theorem w_X6_put_136_b {p : Program} {l : Launch} {e : Env} {R : Room} {s : State} {m : MethodId} {args : Array Value} {below : List Frame} {meth : Method} {c : Code} {D : va_G} {dA : Nat → ClassId} {A : Nat → Prop} {ad : L3 → Nat} (E : L3 → Bool) (k : Nat) (hE : EOK E) (hk : k < 2) (X : CX RX6 cX6_put 9 none (KA D dA) p s m args meth c A) (hR : 3 ≤ R.frames ∧ 88 ≤ R.locals) {res : Mem} (k136 : Mem → Nat → Int32 → Option (Mem)) (hk136 : ∀ (S : Mem) (x1 : Nat) (x6 : Int32) (H : Heap) (locs : List Loc) (ls : Array Slot), (E (R_o k x1) = true) → Wd D clA (shC dA E) (exC E) A ad S H → va_S A s.heap H locs → lv_has ls 9 [(0, .ref (ad (B_o k))), (1, .ref (ad (R_o k x1))), (6, .int x6)] → k136 S x1 x6 = some res → W p l e R s m args below meth c H locs 0 0 (MQ below (QvW D (shC dA E) (exC E) A ad res) args s 0 0 A) (F0 m 136 ls [])) (S : Mem) (x1 : Nat) (x6 : Int32) (hx1 : E (R_o k x1) = true) {H : Heap} {locs : List Loc} {ls : Array Slot} (hP : Wd D clA (shC dA E) (exC E) A ad S H) (hS : va_S A s.heap H locs) (hl : lv_has ls 9 [(0, .ref (ad (B_o k))), (1, .ref (ad (R_o k x1))), (6, .int x6)]) (hf : f_X6_put_136_b k k136 S x1 x6 = some res) : W p l e R s m args below meth c H locs 0 0 (MQ below (QvW D (shC dA E) (exC E) A ad res) args s 0 0 A) (F0 m 136 ls []) := by
  have hx := X.hx
  have hb := X.hb
  unfold f_X6_put_136_b at hf
  refine lv_iload hx hb dX6_put_136 (lv_at hl 2 rfl) ?_
  refine lv_iconst (v := (-1)) hx hb dX6_put_138 (by decide) ?_
  refine gb_icmp_eq (tgt := 227) hx hb dX6_put_139 (by decide) hf (fun hf => ?_) (fun hf => ?_)
  · exact gr_vW X hP hS (Option.some.inj hf) dX6_put_227
  · exact w_X6_put_142 E k hE hk X hR k136 hk136 FU S x1 x6 _ _ _ hx1 hP hS (lv_sub hl [0, 1, 2] rfl) hf
set_option maxHeartbeats 4000000 in
theorem w_X6_put_136 {p : Program} {l : Launch} {e : Env} {R : Room} {s : State} {m : MethodId} {args : Array Value} {below : List Frame} {meth : Method} {c : Code} {D : va_G} {dA : Nat → ClassId} {A : Nat → Prop} {ad : L3 → Nat} (E : L3 → Bool) (k : Nat) (hE : EOK E) (hk : k < 2) (X : CX RX6 cX6_put 9 none (KA D dA) p s m args meth c A) (hR : 3 ≤ R.frames ∧ 88 ≤ R.locals) {res : Mem} (n : Nat) : ∀ (S : Mem) (x1 : Nat) (x6 : Int32) (H : Heap) (locs : List Loc) (ls : Array Slot), (E (R_o k x1) = true) → Wd D clA (shC dA E) (exC E) A ad S H → va_S A s.heap H locs → lv_has ls 9 [(0, .ref (ad (B_o k))), (1, .ref (ad (R_o k x1))), (6, .int x6)] → f_X6_put_136 k n S x1 x6 = some res → W p l e R s m args below meth c H locs 0 0 (MQ below (QvW D (shC dA E) (exC E) A ad res) args s 0 0 A) (F0 m 136 ls []) := by
  induction n with
  | zero =>
    intro S x1 x6 H locs ls hx1 hP hS hl hf
    exact absurd (show none = some res from hf) (fun h => by cases h)
  | succ n ih =>
    intro S x1 x6 H locs ls hx1 hP hS hl hf
    exact w_X6_put_136_b E k hE hk X hR (f_X6_put_136 k n) ih S x1 x6 hx1 hP hS hl hf
set_option maxHeartbeats 4000000 in
theorem w_X6_put_15_b {p : Program} {l : Launch} {e : Env} {R : Room} {s : State} {m : MethodId} {args : Array Value} {below : List Frame} {meth : Method} {c : Code} {D : va_G} {dA : Nat → ClassId} {A : Nat → Prop} {ad : L3 → Nat} (E : L3 → Bool) (k : Nat) (hE : EOK E) (hk : k < 2) (X : CX RX6 cX6_put 9 none (KA D dA) p s m args meth c A) (hR : 3 ≤ R.frames ∧ 88 ≤ R.locals) {res : Mem} (k15 : Mem → Nat → Int32 → L3 → Int32 → Int32 → Int32 → Int32 → Option (Mem)) (hk15 : ∀ (S : Mem) (x1 : Nat) (x2 : Int32) (x3 : L3) (x4 : Int32) (x5 : Int32) (x6 : Int32) (x7 : Int32) (H : Heap) (locs : List Loc) (ls : Array Slot), (E (R_o k x1) = true) → (BS x3) → Wd D clA (shC dA E) (exC E) A ad S H → va_S A s.heap H locs → lv_has ls 9 [(0, .ref (ad (B_o k))), (1, .ref (ad (R_o k x1))), (2, .int x2), (3, .ref (ad x3)), (4, .int x4), (5, .int x5), (6, .int x6), (7, .int x7)] → k15 S x1 x2 x3 x4 x5 x6 x7 = some res → W p l e R s m args below meth c H locs 0 0 (MQ below (QvW D (shC dA E) (exC E) A ad res) args s 0 0 A) (F0 m 15 ls [])) (S : Mem) (x1 : Nat) (x2 : Int32) (x3 : L3) (x4 : Int32) (x5 : Int32) (x6 : Int32) (x7 : Int32) (hx1 : E (R_o k x1) = true) (hx3 : BS x3) {H : Heap} {locs : List Loc} {ls : Array Slot} (hP : Wd D clA (shC dA E) (exC E) A ad S H) (hS : va_S A s.heap H locs) (hl : lv_has ls 9 [(0, .ref (ad (B_o k))), (1, .ref (ad (R_o k x1))), (2, .int x2), (3, .ref (ad x3)), (4, .int x4), (5, .int x5), (6, .int x6), (7, .int x7)]) (hf : f_X6_put_15_b k k15 S x1 x2 x3 x4 x5 x6 x7 = some res) : W p l e R s m args below meth c H locs 0 0 (MQ below (QvW D (shC dA E) (exC E) A ad res) args s 0 0 A) (F0 m 15 ls []) := by
  have hx := X.hx
  have hb := X.hb
  unfold f_X6_put_15_b at hf
  refine lv_iload hx hb dX6_put_15 (lv_at hl 7 rfl) ?_
  refine lv_iload hx hb dX6_put_17 (lv_at hl 5 rfl) ?_
  refine gb_icmp_ge (tgt := 130) hx hb dX6_put_19 (by decide) hf (fun hf => ?_) (fun hf => ?_)
  · refine lv_aload_n hx hb dX6_put_130 rfl (lv_at hl 1 rfl) ?_
    refine rg_X6_45 X hP hx1 dX6_put_131 ?_
    refine lv_istore (lv' := [(6, .int (S.1 (R_o k x1) 7)), (0, .ref (ad (B_o k))), (1, .ref (ad (R_o k x1))), (2, .int x2), (3, .ref (ad x3)), (4, .int x4), (5, .int x5), (7, .int x7)]) hx hb dX6_put_134 hl (by decide) rfl (fun ls hl => ?_)
    exact w_X6_put_136 E k hE hk X hR FU S x1 (S.1 (R_o k x1) 7) _ _ _ hx1 hP hS (lv_sub hl [1, 2, 0] rfl) hf
  · refine lv_iload_n hx hb dX6_put_22 rfl (lv_at hl 2 rfl) ?_
    refine lv_iload hx hb dX6_put_23 (lv_at hl 7 rfl) ?_
    refine lv_iadd hx hb dX6_put_25 ?_
    refine lv_istore (lv' := [(8, .int (x2 + x7)), (0, .ref (ad (B_o k))), (1, .ref (ad (R_o k x1))), (2, .int x2), (3, .ref (ad x3)), (4, .int x4), (5, .int x5), (6, .int x6), (7, .int x7)]) hx hb dX6_put_26 hl (by decide) rfl (fun ls hl => ?_)
    refine lv_iload hx hb dX6_put_28 (lv_at hl 7 rfl) ?_
    refine lv_iconst (v := (-1)) hx hb dX6_put_30 (by decide) ?_
    refine gb_icmp_eq (tgt := 49) hx hb dX6_put_31 (by decide) hf (fun hf => ?_) (fun hf => ?_)
    · exact w_X6_put_49 E k hE hk X hR k15 hk15 S x1 x2 x3 x4 x5 x7 (x2 + x7) hx1 hx3 hP hS (lv_sub hl [1, 2, 3, 4, 5, 6, 8, 0] rfl) hf
    · refine lv_aload_n hx hb dX6_put_34 rfl (lv_at hl 1 rfl) ?_
      refine rg_X6_19 X hP (ex_B_o hE hk) dX6_put_35 ?_
      refine lv_iload hx hb dX6_put_38 (lv_at hl 7 rfl) ?_
      refine ra_B_index_ld X hP (ex_B_index hE hk) dX6_put_40 hf (fun hf => ?_)
      refine lv_iload hx hb dX6_put_41 (lv_at hl 0 rfl) ?_
      refine lv_bipush (v := 64) hx hb dX6_put_43 (by decide) ?_
      refine lv_idiv hx hb dX6_put_45 (by decide) ?_
      refine gb_icmp_eq (tgt := 61) hx hb dX6_put_46 (by decide) hf (fun hf => ?_) (fun hf => ?_)
      · exact w_X6_put_61 E k hE hk X hR k15 hk15 S x1 x2 x3 x4 x5 x6 x7 (x2 + x7) hx1 hx3 hP hS (lv_sub hl [1, 2, 3, 4, 5, 6, 7, 8, 0] rfl) hf
      · exact w_X6_put_49 E k hE hk X hR k15 hk15 S x1 x2 x3 x4 x5 x7 (x2 + x7) hx1 hx3 hP hS (lv_sub hl [1, 2, 3, 4, 5, 6, 8, 0] rfl) hf
set_option maxHeartbeats 4000000 in
theorem w_X6_put_15 {p : Program} {l : Launch} {e : Env} {R : Room} {s : State} {m : MethodId} {args : Array Value} {below : List Frame} {meth : Method} {c : Code} {D : va_G} {dA : Nat → ClassId} {A : Nat → Prop} {ad : L3 → Nat} (E : L3 → Bool) (k : Nat) (hE : EOK E) (hk : k < 2) (X : CX RX6 cX6_put 9 none (KA D dA) p s m args meth c A) (hR : 3 ≤ R.frames ∧ 88 ≤ R.locals) {res : Mem} (n : Nat) : ∀ (S : Mem) (x1 : Nat) (x2 : Int32) (x3 : L3) (x4 : Int32) (x5 : Int32) (x6 : Int32) (x7 : Int32) (H : Heap) (locs : List Loc) (ls : Array Slot), (E (R_o k x1) = true) → (BS x3) → Wd D clA (shC dA E) (exC E) A ad S H → va_S A s.heap H locs → lv_has ls 9 [(0, .ref (ad (B_o k))), (1, .ref (ad (R_o k x1))), (2, .int x2), (3, .ref (ad x3)), (4, .int x4), (5, .int x5), (6, .int x6), (7, .int x7)] → f_X6_put_15 k n S x1 x2 x3 x4 x5 x6 x7 = some res → W p l e R s m args below meth c H locs 0 0 (MQ below (QvW D (shC dA E) (exC E) A ad res) args s 0 0 A) (F0 m 15 ls []) := by
  induction n with
  | zero =>
    intro S x1 x2 x3 x4 x5 x6 x7 H locs ls hx1 hx3 hP hS hl hf
    exact absurd (show none = some res from hf) (fun h => by cases h)
  | succ n ih =>
    intro S x1 x2 x3 x4 x5 x6 x7 H locs ls hx1 hx3 hP hS hl hf
    exact w_X6_put_15_b E k hE hk X hR (f_X6_put_15 k n) ih S x1 x2 x3 x4 x5 x6 x7 hx1 hx3 hP hS hl hf
set_option maxHeartbeats 4000000 in
theorem w_X6_put {p : Program} {l : Launch} {e : Env} {R : Room} {s : State} {m : MethodId} {args : Array Value} {below : List Frame} {meth : Method} {c : Code} {D : va_G} {dA : Nat → ClassId} {A : Nat → Prop} {ad : L3 → Nat} (E : L3 → Bool) (k : Nat) (hE : EOK E) (hk : k < 2) (X : CX RX6 cX6_put 9 none (KA D dA) p s m args meth c A) (hR : 3 ≤ R.frames ∧ 88 ≤ R.locals) {res : Mem} (S : Mem) (x1 : Nat) (x2 : Int32) (x3 : L3) (x4 : Int32) (x5 : Int32) (hx1 : E (R_o k x1) = true) (hx3 : BS x3) {H : Heap} {locs : List Loc} {ls : Array Slot} (hP : Wd D clA (shC dA E) (exC E) A ad S H) (hS : va_S A s.heap H locs) (hl : lv_has ls 9 [(0, .ref (ad (B_o k))), (1, .ref (ad (R_o k x1))), (2, .int x2), (3, .ref (ad x3)), (4, .int x4), (5, .int x5)]) (hf : f_X6_put k S x1 x2 x3 x4 x5 = some res) : W p l e R s m args below meth c H locs 0 0 (MQ below (QvW D (shC dA E) (exC E) A ad res) args s 0 0 A) (F0 m 0 ls []) := by
  have hx := X.hx
  have hb := X.hb
  unfold f_X6_put at hf
  refine lv_iconst (v := (-1)) hx hb dX6_put_0 (by decide) ?_
  refine lv_istore (lv' := [(6, .int (-1)), (0, .ref (ad (B_o k))), (1, .ref (ad (R_o k x1))), (2, .int x2), (3, .ref (ad x3)), (4, .int x4), (5, .int x5)]) hx hb dX6_put_1 hl (by decide) rfl (fun ls hl => ?_)
  refine lv_aload_n hx hb dX6_put_3 rfl (lv_at hl 2 rfl) ?_
  refine rg_X6_54 X hP hx1 dX6_put_4 ?_
  refine lv_iload_n hx hb dX6_put_7 rfl (lv_at hl 3 rfl) ?_
  refine lv_isub hx hb dX6_put_8 ?_
  refine lv_iconst (v := 0) hx hb dX6_put_9 (by decide) ?_
  refine gm_mxI X (X.hts _ q931) (X.hts _ q794) (X.hts _ q99) (X.hts _ q795) hl.1 ⟨Nat.zero_le _, Nat.zero_le _⟩ (Nat.le_trans (Nat.le_of_ble_eq_true rfl) hR.1) (Nat.le_trans (Nat.le_of_ble_eq_true rfl) hR.2) dX6_put_10 ?_
  refine lv_istore (lv' := [(7, .int (mxI ((S.1 (R_o k x1) 3) - x2) (0 : Int32))), (6, .int (-1)), (0, .ref (ad (B_o k))), (1, .ref (ad (R_o k x1))), (2, .int x2), (3, .ref (ad x3)), (4, .int x4), (5, .int x5)]) hx hb dX6_put_13 hl (by decide) rfl (fun ls hl => ?_)
  exact w_X6_put_15 E k hE hk X hR FU S x1 x2 x3 x4 x5 (-1) (mxI ((S.1 (R_o k x1) 3) - x2) (0 : Int32)) _ _ _ hx1 hx3 hP hS (lv_sub hl [2, 3, 4, 5, 6, 7, 1, 0] rfl) hf
theorem hd_X6_put : yX6_put.cls = RX6 ∧ yX6_put.cls ≠ "java/lang/invoke/MethodHandle" ∧ yX6_put.cls ≠ "java/lang/invoke/VarHandle" ∧ (parseMethodDescriptor yX6_put.desc).map (fun d => d.parameters.length) = some 5 := by decide +kernel
set_option maxHeartbeats 4000000 in
theorem mt_X6_put (l : Launch) (D : va_G) (dA : Nat → ClassId) (A : Nat → Prop) (ad : L3 → Nat) (E : L3 → Bool) (k : Nat) (hE : EOK E) (hk : k < 2) (S : Mem) (x1 : Nat) (x2 : Int32) (x3 : L3) (x4 : Int32) (x5 : Int32) (hx1 : E (R_o k x1) = true) (hx3 : BS x3) {res : Mem} (hq : f_X6_put k S x1 x2 x3 x4 x5 = some res) : Met l yX6_put (ws_ yX6_put cX6_put 9 none) ({ frames := 3, cells := 0, slots := 0, locals := 88 } : Room) (va_Pc [.ref (ad (B_o k)), .ref (ad (R_o k x1)), .int x2, .ref (ad x3), .int x4, .int x5] (PreW D dA (shC dA E) (exC E) A ad S)) (QvW D (shC dA E) (exC E) A ad res) 0 0 A :=
  gx_head (by decide) (Nat.le_of_ble_eq_true rfl) (fun p e s m below meth c ls X hP hl => w_X6_put (l := l) E k hE hk X ⟨Nat.le_of_ble_eq_true rfl, Nat.le_of_ble_eq_true rfl⟩ S x1 x2 x3 x4 x5 hx1 hx3 hP va_S.rf (lv_sub (l := [(0, .ref (ad (B_o k))), (1, .ref (ad (R_o k x1))), (2, .int x2), (3, .ref (ad x3)), (4, .int x4), (5, .int x5)]) hl [0, 1, 2, 3, 4, 5] rfl) hq)
set_option maxHeartbeats 4000000 in
theorem w_X2_comes_21 {p : Program} {l : Launch} {e : Env} {R : Room} {s : State} {m : MethodId} {args : Array Value} {below : List Frame} {meth : Method} {c : Code} {D : va_G} {dA : Nat → ClassId} {A : Nat → Prop} {ad : L3 → Nat} (E : L3 → Bool) (k : Nat) (hE : EOK E) (hk : k < 2) (X : CX RX2 cX2_comes 7 none (KA D dA) p s m args meth c A) (hR : 4 ≤ R.frames ∧ 116 ≤ R.locals) {res : Mem} (S : Mem) (x1 : Nat) (x2 : Int32) (x4 : L3) (x5 : Int32) (x6 : Int32) (hx1 : E (R_o k x1) = true) (hx4 : BS x4) {H : Heap} {locs : List Loc} {ls : Array Slot} (hP : Wd D clA (shC dA E) (exC E) A ad S H) (hS : va_S A s.heap H locs) (hl : lv_has ls 7 [(0, .ref (ad (H_o k))), (1, .ref (ad (R_o k x1))), (2, .int x2), (4, .ref (ad x4)), (5, .int x5), (6, .int x6)]) (hf : f_X2_comes_21 k S x1 x2 x4 x5 x6 = some res) : W p l e R s m args below meth c H locs 0 0 (MQ below (QvW D (shC dA E) (exC E) A ad res) args s 0 0 A) (F0 m 21 ls []) := by
  have hx := X.hx
  have hb := X.hb
  unfold f_X2_comes_21 at hf
  refine lv_aload_n hx hb dX2_comes_21 rfl (lv_at hl 1 rfl) ?_
  obtain ⟨v1, hq, hf⟩ := gS_eq hf
  refine gc_i (gc_fixV (S := S) X (mt_X10_isLive l D dA A ad E k x1 hE hk hx1 S hq) (lw_V q735 q736 q737 q101 q738) ⟨rfl, rfl⟩ hd_X10_isLive ⟨Nat.le_trans (Nat.le_of_ble_eq_true rfl) hR.1, Nat.le_trans (Nat.le_of_ble_eq_true rfl) hR.2⟩ (wd_recv (r := R_o k x1) (ci := 9) (q := (RX10, TX10, 13)) X.hK.1 hP hx1 rfl rfl) hP hS ⟨Nat.zero_le _, Nat.zero_le _⟩ rfl hl.1 rfl (Nat.le_of_ble_eq_true rfl) dX2_comes_22) hS ?_
  rintro _ _ H locs ⟨rfl, rfl⟩ hP hS
  refine gb_if_ne (tgt := 29) hx hb dX2_comes_25 (by decide) hf (fun hf => ?_) (fun hf => ?_)
  · refine lv_aload_n hx hb dX2_comes_29 rfl (lv_at hl 0 rfl) ?_
    refine rg_X2_55 X hP (ex_H_o hE hk) dX2_comes_30 ?_
    refine lv_aload_n hx hb dX2_comes_33 rfl (lv_at hl 1 rfl) ?_
    refine lv_iload_n hx hb dX2_comes_34 rfl (lv_at hl 2 rfl) ?_
    refine lv_aload hx hb dX2_comes_35 (lv_at hl 3 rfl) ?_
    refine lv_iload hx hb dX2_comes_37 (lv_at hl 4 rfl) ?_
    refine lv_iload hx hb dX2_comes_39 (lv_at hl 5 rfl) ?_
    obtain ⟨S2, hq, hf⟩ := gB_some hf
    refine gc_v (gc_fixV (S := S) X (mt_X6_put l D dA A ad E k hE hk S x1 x2 x4 x5 x6 hx1 hx4 hq) (lw_V q927 q928 q929 q91 q930) ⟨rfl, rfl⟩ hd_X6_put ⟨Nat.le_trans (Nat.le_of_ble_eq_true rfl) hR.1, Nat.le_trans (Nat.le_of_ble_eq_true rfl) hR.2⟩ (wd_recv (r := B_o k) (ci := 6) (q := (RX6, TX6, 6)) X.hK.1 hP (ex_B_o hE hk) rfl rfl) hP hS ⟨Nat.zero_le _, Nat.zero_le _⟩ rfl hl.1 rfl (Nat.le_of_ble_eq_true rfl) dX2_comes_41) hS ?_
    rintro _ H locs rfl hP hS
    refine lv_aload_n hx hb dX2_comes_44 rfl (lv_at hl 1 rfl) ?_
    obtain ⟨S3, hq, hf⟩ := gS_eq hf
    refine gc_v (gc_fixV (S := S2) X (mt_X10_settle l D dA A ad E k x1 hE hk hx1 S2 hq) (lw_V q781 q782 q783 q101 q784) ⟨rfl, rfl⟩ hd_X10_settle ⟨Nat.le_trans (Nat.le_of_ble_eq_true rfl) hR.1, Nat.le_trans (Nat.le_of_ble_eq_true rfl) hR.2⟩ (wd_recv (r := R_o k x1) (ci := 9) (q := (RX10, TX10, 13)) X.hK.1 hP hx1 rfl rfl) hP hS ⟨Nat.zero_le _, Nat.zero_le _⟩ rfl hl.1 rfl (Nat.le_of_ble_eq_true rfl) dX2_comes_45) hS ?_
    rintro _ H locs rfl hP hS
    exact gr_vW X hP hS (Option.some.inj hf) dX2_comes_48
  · exact gr_vW X hP hS (Option.some.inj hf) dX2_comes_28
set_option maxHeartbeats 4000000 in
theorem w_X2_comes {p : Program} {l : Launch} {e : Env} {R : Room} {s : State} {m : MethodId} {args : Array Value} {below : List Frame} {meth : Method} {c : Code} {D : va_G} {dA : Nat → ClassId} {A : Nat → Prop} {ad : L3 → Nat} (E : L3 → Bool) (k : Nat) (hE : EOK E) (hk : k < 2) (X : CX RX2 cX2_comes 7 none (KA D dA) p s m args meth c A) (hR : 4 ≤ R.frames ∧ 116 ≤ R.locals) {res : Mem} (S : Mem) (x1 : Nat) (x2 : Int32) (x3 : Int32) (x4 : L3) (x5 : Int32) (x6 : Int32) (hx1 : E (R_o k x1) = true) (hx4 : BS x4) {H : Heap} {locs : List Loc} {ls : Array Slot} (hP : Wd D clA (shC dA E) (exC E) A ad S H) (hS : va_S A s.heap H locs) (hl : lv_has ls 7 [(0, .ref (ad (H_o k))), (1, .ref (ad (R_o k x1))), (2, .int x2), (3, .int x3), (4, .ref (ad x4)), (5, .int x5), (6, .int x6)]) (hf : f_X2_comes k S x1 x2 x3 x4 x5 x6 = some res) : W p l e R s m args below meth c H locs 0 0 (MQ below (QvW D (shC dA E) (exC E) A ad res) args s 0 0 A) (F0 m 0 ls []) := by
  have hx := X.hx
  have hb := X.hb
  unfold f_X2_comes at hf
  refine lv_aload_n hx hb dX2_comes_0 rfl (lv_at hl 0 rfl) ?_
  refine lv_aload_n hx hb dX2_comes_1 rfl (lv_at hl 1 rfl) ?_
  refine lv_iload_n hx hb dX2_comes_2 rfl (lv_at hl 2 rfl) ?_
  refine lv_iload hx hb dX2_comes_3 (lv_at hl 6 rfl) ?_
  refine lv_iadd hx hb dX2_comes_5 ?_
  obtain ⟨S1, hq, hf⟩ := gS_eq hf
  refine gc_v (gc_fixV (S := S) X (mt_X2_reach l D dA A ad E k hE hk S x1 (x2 + x6) hx1 hq) (lw_V q923 q925 qs29 q87 q926) ⟨rfl, rfl⟩ hd_X2_reach ⟨Nat.le_trans (Nat.le_of_ble_eq_true rfl) hR.1, Nat.le_trans (Nat.le_of_ble_eq_true rfl) hR.2⟩ (wd_recv (r := H_o k) (ci := 2) (q := (RX2, TX2, 23)) X.hK.1 hP (ex_H_o hE hk) rfl rfl) hP hS ⟨Nat.zero_le _, Nat.zero_le _⟩ rfl hl.1 rfl (Nat.le_of_ble_eq_true rfl) dX2_comes_6) hS ?_
  rintro _ H locs rfl hP hS
  refine lv_iload_n hx hb dX2_comes_9 rfl (lv_at hl 3 rfl) ?_
  refine gb_if_eq (tgt := 21) hx hb dX2_comes_10 (by decide) hf (fun hf => ?_) (fun hf => ?_)
  · exact w_X2_comes_21 E k hE hk X hR S1 x1 x2 x4 x5 x6 hx1 hx4 hP hS (lv_sub hl [0, 1, 2, 4, 5, 6] rfl) hf
  · refine lv_aload_n hx hb dX2_comes_13 rfl (lv_at hl 1 rfl) ?_
    refine lv_iload_n hx hb dX2_comes_14 rfl (lv_at hl 2 rfl) ?_
    refine lv_iload hx hb dX2_comes_15 (lv_at hl 6 rfl) ?_
    refine lv_iadd hx hb dX2_comes_17 ?_
    refine rp_X2_223 X hP hS hx1 dX2_comes_18 hf (fun S2 H locs hP hS hf => ?_)
    exact w_X2_comes_21 E k hE hk X hR S2 x1 x2 x4 x5 x6 hx1 hx4 hP hS (lv_sub hl [0, 1, 2, 4, 5, 6] rfl) hf
theorem hd_X2_comes : yX2_comes.cls = RX2 ∧ yX2_comes.cls ≠ "java/lang/invoke/MethodHandle" ∧ yX2_comes.cls ≠ "java/lang/invoke/VarHandle" ∧ (parseMethodDescriptor yX2_comes.desc).map (fun d => d.parameters.length) = some 6 := by decide +kernel
set_option maxHeartbeats 4000000 in
theorem mt_X2_comes (l : Launch) (D : va_G) (dA : Nat → ClassId) (A : Nat → Prop) (ad : L3 → Nat) (E : L3 → Bool) (k : Nat) (hE : EOK E) (hk : k < 2) (S : Mem) (x1 : Nat) (x2 : Int32) (x3 : Int32) (x4 : L3) (x5 : Int32) (x6 : Int32) (hx1 : E (R_o k x1) = true) (hx4 : BS x4) {res : Mem} (hq : f_X2_comes k S x1 x2 x3 x4 x5 x6 = some res) : Met l yX2_comes (ws_ yX2_comes cX2_comes 7 none) ({ frames := 4, cells := 0, slots := 0, locals := 116 } : Room) (va_Pc [.ref (ad (H_o k)), .ref (ad (R_o k x1)), .int x2, .int x3, .ref (ad x4), .int x5, .int x6] (PreW D dA (shC dA E) (exC E) A ad S)) (QvW D (shC dA E) (exC E) A ad res) 0 0 A :=
  gx_head (by decide) (Nat.le_of_ble_eq_true rfl) (fun p e s m below meth c ls X hP hl => w_X2_comes (l := l) E k hE hk X ⟨Nat.le_of_ble_eq_true rfl, Nat.le_of_ble_eq_true rfl⟩ S x1 x2 x3 x4 x5 x6 hx1 hx4 hP va_S.rf (lv_sub (l := [(0, .ref (ad (H_o k))), (1, .ref (ad (R_o k x1))), (2, .int x2), (3, .int x3), (4, .ref (ad x4)), (5, .int x5), (6, .int x6)]) hl [0, 1, 2, 3, 4, 5, 6] rfl) hq)
set_option maxHeartbeats 4000000 in
theorem w_X6_clear_l0_b {p : Program} {l : Launch} {e : Env} {R : Room} {s : State} {m : MethodId} {args : Array Value} {below : List Frame} {meth : Method} {c : Code} {D : va_G} {dA : Nat → ClassId} {A : Nat → Prop} {ad : L3 → Nat} (E : L3 → Bool) (k : Nat) (hE : EOK E) (hk : k < 2) (X : CX RX6 cX6_clear 2 none (KA D dA) p s m args meth c A) (hR : 2 ≤ R.frames ∧ 62 ≤ R.locals) {res : Mem} (k0 : Mem → Nat → Option (Mem)) (hk0 : ∀ (S : Mem) (x1 : Nat) (H : Heap) (locs : List Loc) (ls : Array Slot), (E (R_o k x1) = true) → Wd D clA (shC dA E) (exC E) A ad S H → va_S A s.heap H locs → lv_has ls 2 [(0, .ref (ad (B_o k))), (1, .ref (ad (R_o k x1)))] → k0 S x1 = some res → W p l e R s m args below meth c H locs 0 0 (MQ below (QvW D (shC dA E) (exC E) A ad res) args s 0 0 A) (F0 m 0 ls [])) (S : Mem) (x1 : Nat) (hx1 : E (R_o k x1) = true) {H : Heap} {locs : List Loc} {ls : Array Slot} (hP : Wd D clA (shC dA E) (exC E) A ad S H) (hS : va_S A s.heap H locs) (hl : lv_has ls 2 [(0, .ref (ad (B_o k))), (1, .ref (ad (R_o k x1)))]) (hf : f_X6_clear_l0_b k k0 S x1 = some res) : W p l e R s m args below meth c H locs 0 0 (MQ below (QvW D (shC dA E) (exC E) A ad res) args s 0 0 A) (F0 m 0 ls []) := by
  have hx := X.hx
  have hb := X.hb
  unfold f_X6_clear_l0_b at hf
  refine lv_aload_n hx hb dX6_clear_0 rfl (lv_at hl 1 rfl) ?_
  refine rg_X6_45 X hP hx1 dX6_clear_1 ?_
  refine lv_iconst (v := (-1)) hx hb dX6_clear_4 (by decide) ?_
  refine gb_icmp_eq (tgt := 16) hx hb dX6_clear_5 (by decide) hf (fun hf => ?_) (fun hf => ?_)
  · exact gr_vW X hP hS (Option.some.inj hf) dX6_clear_16
  · refine lv_aload_n hx hb dX6_clear_8 rfl (lv_at hl 0 rfl) ?_
    refine lv_aload_n hx hb dX6_clear_9 rfl (lv_at hl 1 rfl) ?_
    obtain ⟨S1, hq, hf⟩ := gB_some hf
    refine gc_v (gc_fixV (S := S) X (mt_X6_drop l D dA A ad E k hE hk S x1 hx1 hq) (lw_V q756 q758 qs9 q91 q759) ⟨rfl, rfl⟩ hd_X6_drop ⟨Nat.le_trans (Nat.le_of_ble_eq_true rfl) hR.1, Nat.le_trans (Nat.le_of_ble_eq_true rfl) hR.2⟩ (wd_recv (r := B_o k) (ci := 6) (q := (RX6, TX6, 6)) X.hK.1 hP (ex_B_o hE hk) rfl rfl) hP hS ⟨Nat.zero_le _, Nat.zero_le _⟩ rfl hl.1 rfl (Nat.le_of_ble_eq_true rfl) dX6_clear_10) hS ?_
    rintro _ H locs rfl hP hS
    refine lv_goto (tgt := 0) hx hb dX6_clear_13 (by decide) ?_
    exact hk0 S1 x1 _ _ _ hx1 hP hS (lv_sub hl [0, 1] rfl) hf
set_option maxHeartbeats 4000000 in
theorem w_X6_clear_l0 {p : Program} {l : Launch} {e : Env} {R : Room} {s : State} {m : MethodId} {args : Array Value} {below : List Frame} {meth : Method} {c : Code} {D : va_G} {dA : Nat → ClassId} {A : Nat → Prop} {ad : L3 → Nat} (E : L3 → Bool) (k : Nat) (hE : EOK E) (hk : k < 2) (X : CX RX6 cX6_clear 2 none (KA D dA) p s m args meth c A) (hR : 2 ≤ R.frames ∧ 62 ≤ R.locals) {res : Mem} (n : Nat) : ∀ (S : Mem) (x1 : Nat) (H : Heap) (locs : List Loc) (ls : Array Slot), (E (R_o k x1) = true) → Wd D clA (shC dA E) (exC E) A ad S H → va_S A s.heap H locs → lv_has ls 2 [(0, .ref (ad (B_o k))), (1, .ref (ad (R_o k x1)))] → f_X6_clear_l0 k n S x1 = some res → W p l e R s m args below meth c H locs 0 0 (MQ below (QvW D (shC dA E) (exC E) A ad res) args s 0 0 A) (F0 m 0 ls []) := by
  induction n with
  | zero =>
    intro S x1 H locs ls hx1 hP hS hl hf
    exact absurd (show none = some res from hf) (fun h => by cases h)
  | succ n ih =>
    intro S x1 H locs ls hx1 hP hS hl hf
    exact w_X6_clear_l0_b E k hE hk X hR (f_X6_clear_l0 k n) ih S x1 hx1 hP hS hl hf
theorem hd_X6_clear : yX6_clear.cls = RX6 ∧ yX6_clear.cls ≠ "java/lang/invoke/MethodHandle" ∧ yX6_clear.cls ≠ "java/lang/invoke/VarHandle" ∧ (parseMethodDescriptor yX6_clear.desc).map (fun d => d.parameters.length) = some 1 := by decide +kernel
set_option maxHeartbeats 4000000 in
theorem mt_X6_clear (l : Launch) (D : va_G) (dA : Nat → ClassId) (A : Nat → Prop) (ad : L3 → Nat) (E : L3 → Bool) (k : Nat) (hE : EOK E) (hk : k < 2) (S : Mem) (x1 : Nat) (hx1 : E (R_o k x1) = true) {res : Mem} (hq : f_X6_clear k S x1 = some res) : Met l yX6_clear (ws_ yX6_clear cX6_clear 2 none) ({ frames := 2, cells := 0, slots := 0, locals := 62 } : Room) (va_Pc [.ref (ad (B_o k)), .ref (ad (R_o k x1))] (PreW D dA (shC dA E) (exC E) A ad S)) (QvW D (shC dA E) (exC E) A ad res) 0 0 A :=
  gx_head (by decide) (Nat.le_of_ble_eq_true rfl) (fun p e s m below meth c ls X hP hl => w_X6_clear_l0 (l := l) E k hE hk X ⟨Nat.le_of_ble_eq_true rfl, Nat.le_of_ble_eq_true rfl⟩ FU S x1 _ _ _ hx1 hP va_S.rf (lv_sub (l := [(0, .ref (ad (B_o k))), (1, .ref (ad (R_o k x1)))]) hl [0, 1] rfl) hq)
set_option maxHeartbeats 4000000 in
theorem w_X2_isReset {p : Program} {l : Launch} {e : Env} {R : Room} {s : State} {m : MethodId} {args : Array Value} {below : List Frame} {meth : Method} {c : Code} {D : va_G} {dA : Nat → ClassId} {A : Nat → Prop} {ad : L3 → Nat} (E : L3 → Bool) (k : Nat) (hE : EOK E) (hk : k < 2) (X : CX RX2 cX2_isReset 5 none (KA D dA) p s m args meth c A) (hR : 3 ≤ R.frames ∧ 83 ≤ R.locals) {res : Mem} (S : Mem) (x1 : Nat) (x2 : Int64) (x4 : Int32) (hx1 : E (R_o k x1) = true) {H : Heap} {locs : List Loc} {ls : Array Slot} (hP : Wd D clA (shC dA E) (exC E) A ad S H) (hS : va_S A s.heap H locs) (hl : lv_has ls 5 [(0, .ref (ad (H_o k))), (1, .ref (ad (R_o k x1))), (2, .long x2), (4, .int x4)]) (hf : f_X2_isReset k S x1 x2 x4 = some res) : W p l e R s m args below meth c H locs 0 0 (MQ below (QvW D (shC dA E) (exC E) A ad res) args s 0 0 A) (F0 m 0 ls []) := by
  have hx := X.hx
  have hb := X.hb
  unfold f_X2_isReset at hf
  refine lv_aload_n hx hb dX2_isReset_0 rfl (lv_at hl 0 rfl) ?_
  refine lv_aload_n hx hb dX2_isReset_1 rfl (lv_at hl 1 rfl) ?_
  refine lv_iload hx hb dX2_isReset_2 (lv_at hl 3 rfl) ?_
  obtain ⟨S1, hq, hf⟩ := gS_eq hf
  refine gc_v (gc_fixV (S := S) X (mt_X2_reach l D dA A ad E k hE hk S x1 x4 hx1 hq) (lw_V q923 q925 qs29 q87 q926) ⟨rfl, rfl⟩ hd_X2_reach ⟨Nat.le_trans (Nat.le_of_ble_eq_true rfl) hR.1, Nat.le_trans (Nat.le_of_ble_eq_true rfl) hR.2⟩ (wd_recv (r := H_o k) (ci := 2) (q := (RX2, TX2, 23)) X.hK.1 hP (ex_H_o hE hk) rfl rfl) hP hS ⟨Nat.zero_le _, Nat.zero_le _⟩ rfl hl.1 rfl (Nat.le_of_ble_eq_true rfl) dX2_isReset_4) hS ?_
  rintro _ H locs rfl hP hS
  refine lv_aload_n hx hb dX2_isReset_7 rfl (lv_at hl 1 rfl) ?_
  obtain ⟨v2, hq, hf⟩ := gS_eq hf
  refine gc_i (gc_fixV (S := S1) X (mt_X10_isLive l D dA A ad E k x1 hE hk hx1 S1 hq) (lw_V q735 q736 q737 q101 q738) ⟨rfl, rfl⟩ hd_X10_isLive ⟨Nat.le_trans (Nat.le_of_ble_eq_true rfl) hR.1, Nat.le_trans (Nat.le_of_ble_eq_true rfl) hR.2⟩ (wd_recv (r := R_o k x1) (ci := 9) (q := (RX10, TX10, 13)) X.hK.1 hP hx1 rfl rfl) hP hS ⟨Nat.zero_le _, Nat.zero_le _⟩ rfl hl.1 rfl (Nat.le_of_ble_eq_true rfl) dX2_isReset_8) hS ?_
  rintro _ _ H locs ⟨rfl, rfl⟩ hP hS
  refine gb_if_ne (tgt := 15) hx hb dX2_isReset_11 (by decide) hf (fun hf => ?_) (fun hf => ?_)
  · refine lv_aload_n hx hb dX2_isReset_15 rfl (lv_at hl 1 rfl) ?_
    refine lv_iconst (v := 4) hx hb dX2_isReset_16 (by decide) ?_
    refine rp_X2_180 X hP hS hx1 dX2_isReset_17 hf (fun S3 H locs hP hS hf => ?_)
    refine lv_aload_n hx hb dX2_isReset_20 rfl (lv_at hl 1 rfl) ?_
    refine lv_lload_n hx hb dX2_isReset_21 rfl (lv_at hl 2 rfl) ?_
    refine rp_X2_261 X hP hS hx1 dX2_isReset_22 hf (fun S4 H locs hP hS hf => ?_)
    refine lv_aload_n hx hb dX2_isReset_25 rfl (lv_at hl 1 rfl) ?_
    refine lv_iload hx hb dX2_isReset_26 (lv_at hl 3 rfl) ?_
    refine rp_X2_223 X hP hS hx1 dX2_isReset_28 hf (fun S5 H locs hP hS hf => ?_)
    refine lv_aload_n hx hb dX2_isReset_31 rfl (lv_at hl 0 rfl) ?_
    refine lv_dup hx hb dX2_isReset_32 rfl ?_
    refine rg_X2_191 X hP (ex_H_o hE hk) dX2_isReset_33 ?_
    refine lv_iload hx hb dX2_isReset_36 (lv_at hl 3 rfl) ?_
    refine lv_aload_n hx hb dX2_isReset_38 rfl (lv_at hl 1 rfl) ?_
    refine rg_X2_184 X hP hx1 dX2_isReset_39 ?_
    refine lv_isub hx hb dX2_isReset_42 ?_
    refine lv_iadd hx hb dX2_isReset_43 ?_
    refine rp_X2_191 X hP hS (ex_H_o hE hk) dX2_isReset_44 hf (fun S6 H locs hP hS hf => ?_)
    refine lv_aload_n hx hb dX2_isReset_47 rfl (lv_at hl 0 rfl) ?_
    refine rg_X2_55 X hP (ex_H_o hE hk) dX2_isReset_48 ?_
    refine lv_aload_n hx hb dX2_isReset_51 rfl (lv_at hl 1 rfl) ?_
    obtain ⟨S7, hq, hf⟩ := gB_some hf
    refine gc_v (gc_fixV (S := S6) X (mt_X6_clear l D dA A ad E k hE hk S6 x1 hx1 hq) (lw_V q961 q962 q963 q91 q964) ⟨rfl, rfl⟩ hd_X6_clear ⟨Nat.le_trans (Nat.le_of_ble_eq_true rfl) hR.1, Nat.le_trans (Nat.le_of_ble_eq_true rfl) hR.2⟩ (wd_recv (r := B_o k) (ci := 6) (q := (RX6, TX6, 6)) X.hK.1 hP (ex_B_o hE hk) rfl rfl) hP hS ⟨Nat.zero_le _, Nat.zero_le _⟩ rfl hl.1 rfl (Nat.le_of_ble_eq_true rfl) dX2_isReset_52) hS ?_
    rintro _ H locs rfl hP hS
    refine lv_aload_n hx hb dX2_isReset_55 rfl (lv_at hl 0 rfl) ?_
    obtain ⟨S8, hq, hf⟩ := gB_some hf
    refine gc_v (gc_fixV (S := S7) X (mt_X2_grow l D dA A ad E k hE hk S7 hq) (lw_V q760 q762 qs10 q87 q763) ⟨rfl, rfl⟩ hd_X2_grow ⟨Nat.le_trans (Nat.le_of_ble_eq_true rfl) hR.1, Nat.le_trans (Nat.le_of_ble_eq_true rfl) hR.2⟩ (wd_recv (r := H_o k) (ci := 2) (q := (RX2, TX2, 23)) X.hK.1 hP (ex_H_o hE hk) rfl rfl) hP hS ⟨Nat.zero_le _, Nat.zero_le _⟩ rfl hl.1 rfl (Nat.le_of_ble_eq_true rfl) dX2_isReset_56) hS ?_
    rintro _ H locs rfl hP hS
    exact gr_vW X hP hS (Option.some.inj hf) dX2_isReset_59
  · exact gr_vW X hP hS (Option.some.inj hf) dX2_isReset_14
theorem hd_X2_isReset : yX2_isReset.cls = RX2 ∧ yX2_isReset.cls ≠ "java/lang/invoke/MethodHandle" ∧ yX2_isReset.cls ≠ "java/lang/invoke/VarHandle" ∧ (parseMethodDescriptor yX2_isReset.desc).map (fun d => d.parameters.length) = some 3 := by decide +kernel
set_option maxHeartbeats 4000000 in
theorem mt_X2_isReset (l : Launch) (D : va_G) (dA : Nat → ClassId) (A : Nat → Prop) (ad : L3 → Nat) (E : L3 → Bool) (k : Nat) (hE : EOK E) (hk : k < 2) (S : Mem) (x1 : Nat) (x2 : Int64) (x4 : Int32) (hx1 : E (R_o k x1) = true) {res : Mem} (hq : f_X2_isReset k S x1 x2 x4 = some res) : Met l yX2_isReset (ws_ yX2_isReset cX2_isReset 5 none) ({ frames := 3, cells := 0, slots := 0, locals := 83 } : Room) (va_Pc [.ref (ad (H_o k)), .ref (ad (R_o k x1)), .long x2, .int x4] (PreW D dA (shC dA E) (exC E) A ad S)) (QvW D (shC dA E) (exC E) A ad res) 0 0 A :=
  gx_head (by decide) (Nat.le_of_ble_eq_true rfl) (fun p e s m below meth c ls X hP hl => w_X2_isReset (l := l) E k hE hk X ⟨Nat.le_of_ble_eq_true rfl, Nat.le_of_ble_eq_true rfl⟩ S x1 x2 x4 hx1 hP va_S.rf (lv_sub (l := [(0, .ref (ad (H_o k))), (1, .ref (ad (R_o k x1))), (2, .long x2), (4, .int x4)]) hl [0, 1, 2, 3] rfl) hq)
set_option maxHeartbeats 4000000 in
theorem w_X4_add_113 {p : Program} {l : Launch} {e : Env} {R : Room} {s : State} {m : MethodId} {args : Array Value} {below : List Frame} {meth : Method} {c : Code} {D : va_G} {dA : Nat → ClassId} {A : Nat → Prop} {ad : L3 → Nat} (E : L3 → Bool) (k : Nat) (hE : EOK E) (hk : k < 2) (X : CX RX4 cX4_add 9 (some .int) (KA D dA) p s m args meth c A) (hR : 2 ≤ R.frames ∧ 64 ≤ R.locals) {res : Mem × Int32} (S : Mem) (x1 : Int32) (x4 : Int32) (x5 : Int32) (x6 : Int32) (x7 : Int32) {H : Heap} {locs : List Loc} {ls : Array Slot} (hP : Wd D clA (shC dA E) (exC E) A ad S H) (hS : va_S A s.heap H locs) (hl : lv_has ls 9 [(0, .ref (ad (P_o k))), (1, .int x1), (4, .int x4), (5, .int x5), (6, .int x6), (7, .int x7)]) (hf : f_X4_add_113 k S x1 x4 x5 x6 x7 = some res) : W p l e R s m args below meth c H locs 0 0 (MQ below (QiW D (shC dA E) (exC E) A ad res) args s 0 0 A) (F0 m 113 ls []) := by
  have hx := X.hx
  have hb := X.hb
  unfold f_X4_add_113 at hf
  refine lv_aload_n hx hb dX4_add_113 rfl (lv_at hl 0 rfl) ?_
  refine lv_iload hx hb dX4_add_114 (lv_at hl 4 rfl) ?_
  refine lv_iload hx hb dX4_add_116 (lv_at hl 5 rfl) ?_
  refine lv_iload hx hb dX4_add_118 (lv_at hl 3 rfl) ?_
  obtain ⟨S1, v2, hq, hf⟩ := gB2_some hf
  refine gc_i (gc_fixV (S := S) X (mt_X4_make l D dA A ad E k hE hk S x6 x7 x5 hq) (lw_V q860 q862 qs23 q89 q863) ⟨rfl, rfl⟩ hd_X4_make ⟨Nat.le_trans (Nat.le_of_ble_eq_true rfl) hR.1, Nat.le_trans (Nat.le_of_ble_eq_true rfl) hR.2⟩ (wd_recv (r := P_o k) (ci := 4) (q := (RX4, TX4, 5)) X.hK.1 hP (ex_P_o hE hk) rfl rfl) hP hS ⟨Nat.zero_le _, Nat.zero_le _⟩ rfl hl.1 rfl (Nat.le_of_ble_eq_true rfl) dX4_add_120) hS ?_
  rintro _ _ H locs ⟨⟩ hP hS
  refine lv_istore (lv' := [(8, .int v2), (0, .ref (ad (P_o k))), (1, .int x1), (4, .int x4), (5, .int x5), (6, .int x6), (7, .int x7)]) hx hb dX4_add_123 hl (by decide) rfl (fun ls hl => ?_)
  refine lv_iload hx hb dX4_add_125 (lv_at hl 3 rfl) ?_
  refine lv_iconst (v := (-1)) hx hb dX4_add_127 (by decide) ?_
  refine gb_icmp_ne (tgt := 134) hx hb dX4_add_128 (by decide) hf (fun hf => ?_) (fun hf => ?_)
  · refine lv_aload_n hx hb dX4_add_134 rfl (lv_at hl 1 rfl) ?_
    refine rg_X4_18 X hP (ex_P_o hE hk) dX4_add_135 ?_
    refine lv_iload hx hb dX4_add_138 (lv_at hl 3 rfl) ?_
    refine lv_iload hx hb dX4_add_140 (lv_at hl 0 rfl) ?_
    refine ra_P_next_st X hP hS (ex_P_next hE hk) dX4_add_142 hf (fun S3 H locs hP hS hf => ?_)
    refine lv_iload_n hx hb dX4_add_143 rfl (lv_at hl 2 rfl) ?_
    exact gr_iW X hP hS (Option.some.inj hf) dX4_add_144
  · refine lv_iload hx hb dX4_add_131 (lv_at hl 0 rfl) ?_
    exact gr_iW X hP hS (Option.some.inj hf) dX4_add_133
set_option maxHeartbeats 4000000 in
theorem w_X4_add_45_b {p : Program} {l : Launch} {e : Env} {R : Room} {s : State} {m : MethodId} {args : Array Value} {below : List Frame} {meth : Method} {c : Code} {D : va_G} {dA : Nat → ClassId} {A : Nat → Prop} {ad : L3 → Nat} (E : L3 → Bool) (k : Nat) (hE : EOK E) (hk : k < 2) (X : CX RX4 cX4_add 9 (some .int) (KA D dA) p s m args meth c A) (hR : 2 ≤ R.frames ∧ 64 ≤ R.locals) {res : Mem × Int32} (k45 : Mem → Int32 → Int32 → Int32 → Int32 → Int32 → Option (Mem × Int32)) (hk45 : ∀ (S : Mem) (x1 : Int32) (x4 : Int32) (x5 : Int32) (x6 : Int32) (x7 : Int32) (H : Heap) (locs : List Loc) (ls : Array Slot), Wd D clA (shC dA E) (exC E) A ad S H → va_S A s.heap H locs → lv_has ls 9 [(0, .ref (ad (P_o k))), (1, .int x1), (4, .int x4), (5, .int x5), (6, .int x6), (7, .int x7)] → k45 S x1 x4 x5 x6 x7 = some res → W p l e R s m args below meth c H locs 0 0 (MQ below (QiW D (shC dA E) (exC E) A ad res) args s 0 0 A) (F0 m 45 ls [])) (S : Mem) (x1 : Int32) (x4 : Int32) (x5 : Int32) (x6 : Int32) (x7 : Int32) {H : Heap} {locs : List Loc} {ls : Array Slot} (hP : Wd D clA (shC dA E) (exC E) A ad S H) (hS : va_S A s.heap H locs) (hl : lv_has ls 9 [(0, .ref (ad (P_o k))), (1, .int x1), (4, .int x4), (5, .int x5), (6, .int x6), (7, .int x7)]) (hf : f_X4_add_45_b k k45 S x1 x4 x5 x6 x7 = some res) : W p l e R s m args below meth c H locs 0 0 (MQ below (QiW D (shC dA E) (exC E) A ad res) args s 0 0 A) (F0 m 45 ls []) := by
  have hx := X.hx
  have hb := X.hb
  unfold f_X4_add_45_b at hf
  refine lv_iload hx hb dX4_add_45 (lv_at hl 3 rfl) ?_
  refine lv_iconst (v := (-1)) hx hb dX4_add_47 (by decide) ?_
  refine gb_icmp_eq (tgt := 113) hx hb dX4_add_48 (by decide) hf (fun hf => ?_) (fun hf => ?_)
  · exact w_X4_add_113 E k hE hk X hR S x1 x4 x5 x6 x7 hP hS (lv_sub hl [0, 1, 2, 3, 4, 5] rfl) hf
  · refine lv_aload_n hx hb dX4_add_51 rfl (lv_at hl 0 rfl) ?_
    refine rg_X4_9 X hP (ex_P_o hE hk) dX4_add_52 ?_
    refine lv_iload hx hb dX4_add_55 (lv_at hl 3 rfl) ?_
    refine ra_P_from_ld X hP (ex_P_from hE hk) dX4_add_57 hf (fun hf => ?_)
    refine lv_iload hx hb dX4_add_58 (lv_at hl 5 rfl) ?_
    refine gb_icmp_gt (tgt := 113) hx hb dX4_add_60 (by decide) hf (fun hf => ?_) (fun hf => ?_)
    · exact w_X4_add_113 E k hE hk X hR S x1 x4 x5 x6 x7 hP hS (lv_sub hl [0, 1, 2, 3, 4, 5] rfl) hf
    · refine lv_iload hx hb dX4_add_63 (lv_at hl 4 rfl) ?_
      refine lv_aload_n hx hb dX4_add_65 rfl (lv_at hl 0 rfl) ?_
      refine rg_X4_9 X hP (ex_P_o hE hk) dX4_add_66 ?_
      refine lv_iload hx hb dX4_add_69 (lv_at hl 3 rfl) ?_
      refine ra_P_from_ld X hP (ex_P_from hE hk) dX4_add_71 hf (fun hf => ?_)
      refine gm_mnI X (X.hts _ q985) (X.hts _ q668) (X.hts _ q99) (X.hts _ q669) hl.1 ⟨Nat.zero_le _, Nat.zero_le _⟩ (Nat.le_trans (Nat.le_of_ble_eq_true rfl) hR.1) (Nat.le_trans (Nat.le_of_ble_eq_true rfl) hR.2) dX4_add_72 ?_
      refine lv_istore (lv' := [(6, .int (mnI x6 (S.1 (P_from k) (Int32.toNatClampNeg x5)))), (0, .ref (ad (P_o k))), (1, .int x1), (4, .int x4), (5, .int x5), (7, .int x7)]) hx hb dX4_add_75 hl (by decide) rfl (fun ls hl => ?_)
      refine lv_iload hx hb dX4_add_77 (lv_at hl 5 rfl) ?_
      refine lv_aload_n hx hb dX4_add_79 rfl (lv_at hl 1 rfl) ?_
      refine rg_X4_15 X hP (ex_P_o hE hk) dX4_add_80 ?_
      refine lv_iload hx hb dX4_add_83 (lv_at hl 4 rfl) ?_
      refine ra_P_to_ld X hP (ex_P_to hE hk) dX4_add_85 hf (fun hf => ?_)
      refine gm_mxI X (X.hts _ q986) (X.hts _ q794) (X.hts _ q99) (X.hts _ q795) hl.1 ⟨Nat.zero_le _, Nat.zero_le _⟩ (Nat.le_trans (Nat.le_of_ble_eq_true rfl) hR.1) (Nat.le_trans (Nat.le_of_ble_eq_true rfl) hR.2) dX4_add_86 ?_
      refine lv_istore (lv' := [(7, .int (mxI x7 (S.1 (P_to k) (Int32.toNatClampNeg x5)))), (6, .int (mnI x6 (S.1 (P_from k) (Int32.toNatClampNeg x5)))), (0, .ref (ad (P_o k))), (1, .int x1), (4, .int x4), (5, .int x5)]) hx hb dX4_add_89 hl (by decide) rfl (fun ls hl => ?_)
      refine lv_aload_n hx hb dX4_add_91 rfl (lv_at hl 2 rfl) ?_
      refine rg_X4_18 X hP (ex_P_o hE hk) dX4_add_92 ?_
      refine lv_iload hx hb dX4_add_95 (lv_at hl 5 rfl) ?_
      refine ra_P_next_ld X hP (ex_P_next hE hk) dX4_add_97 hf (fun hf => ?_)
      refine lv_istore (lv' := [(8, .int (S.1 (P_next k) (Int32.toNatClampNeg x5))), (7, .int (mxI x7 (S.1 (P_to k) (Int32.toNatClampNeg x5)))), (6, .int (mnI x6 (S.1 (P_from k) (Int32.toNatClampNeg x5)))), (0, .ref (ad (P_o k))), (1, .int x1), (4, .int x4), (5, .int x5)]) hx hb dX4_add_98 hl (by decide) rfl (fun ls hl => ?_)
      refine lv_aload_n hx hb dX4_add_100 rfl (lv_at hl 3 rfl) ?_
      refine lv_iload hx hb dX4_add_101 (lv_at hl 6 rfl) ?_
      obtain ⟨S1, hq, hf⟩ := gB_some hf
      refine gc_v (gc_fixV (S := S) X (mt_X4_release l D dA A ad E k hE hk S x5 hq) (lw_V q852 q854 qs21 q89 q855) ⟨rfl, rfl⟩ hd_X4_release ⟨Nat.le_trans (Nat.le_of_ble_eq_true rfl) hR.1, Nat.le_trans (Nat.le_of_ble_eq_true rfl) hR.2⟩ (wd_recv (r := P_o k) (ci := 4) (q := (RX4, TX4, 5)) X.hK.1 hP (ex_P_o hE hk) rfl rfl) hP hS ⟨Nat.zero_le _, Nat.zero_le _⟩ rfl hl.1 rfl (Nat.le_of_ble_eq_true rfl) dX4_add_103) hS ?_
      rintro _ H locs rfl hP hS
      refine lv_iload hx hb dX4_add_106 (lv_at hl 0 rfl) ?_
      refine lv_istore (lv' := [(5, .int (S.1 (P_next k) (Int32.toNatClampNeg x5))), (8, .int (S.1 (P_next k) (Int32.toNatClampNeg x5))), (7, .int (mxI x7 (S.1 (P_to k) (Int32.toNatClampNeg x5)))), (6, .int (mnI x6 (S.1 (P_from k) (Int32.toNatClampNeg x5)))), (0, .ref (ad (P_o k))), (1, .int x1), (4, .int x4)]) hx hb dX4_add_108 hl (by decide) rfl (fun ls hl => ?_)
      refine lv_goto (tgt := 45) hx hb dX4_add_110 (by decide) ?_
      exact hk45 S1 x1 x4 (S.1 (P_next k) (Int32.toNatClampNeg x5)) (mnI x6 (S.1 (P_from k) (Int32.toNatClampNeg x5))) (mxI x7 (S.1 (P_to k) (Int32.toNatClampNeg x5))) _ _ _ hP hS (lv_sub hl [4, 5, 6, 0, 3, 2] rfl) hf
set_option maxHeartbeats 4000000 in
theorem w_X4_add_45 {p : Program} {l : Launch} {e : Env} {R : Room} {s : State} {m : MethodId} {args : Array Value} {below : List Frame} {meth : Method} {c : Code} {D : va_G} {dA : Nat → ClassId} {A : Nat → Prop} {ad : L3 → Nat} (E : L3 → Bool) (k : Nat) (hE : EOK E) (hk : k < 2) (X : CX RX4 cX4_add 9 (some .int) (KA D dA) p s m args meth c A) (hR : 2 ≤ R.frames ∧ 64 ≤ R.locals) {res : Mem × Int32} (n : Nat) : ∀ (S : Mem) (x1 : Int32) (x4 : Int32) (x5 : Int32) (x6 : Int32) (x7 : Int32) (H : Heap) (locs : List Loc) (ls : Array Slot), Wd D clA (shC dA E) (exC E) A ad S H → va_S A s.heap H locs → lv_has ls 9 [(0, .ref (ad (P_o k))), (1, .int x1), (4, .int x4), (5, .int x5), (6, .int x6), (7, .int x7)] → f_X4_add_45 k n S x1 x4 x5 x6 x7 = some res → W p l e R s m args below meth c H locs 0 0 (MQ below (QiW D (shC dA E) (exC E) A ad res) args s 0 0 A) (F0 m 45 ls []) := by
  induction n with
  | zero =>
    intro S x1 x4 x5 x6 x7 H locs ls hP hS hl hf
    exact absurd (show none = some res from hf) (fun h => by cases h)
  | succ n ih =>
    intro S x1 x4 x5 x6 x7 H locs ls hP hS hl hf
    exact w_X4_add_45_b E k hE hk X hR (f_X4_add_45 k n) ih S x1 x4 x5 x6 x7 hP hS hl hf
set_option maxHeartbeats 4000000 in
theorem w_X4_add_12_b {p : Program} {l : Launch} {e : Env} {R : Room} {s : State} {m : MethodId} {args : Array Value} {below : List Frame} {meth : Method} {c : Code} {D : va_G} {dA : Nat → ClassId} {A : Nat → Prop} {ad : L3 → Nat} (E : L3 → Bool) (k : Nat) (hE : EOK E) (hk : k < 2) (X : CX RX4 cX4_add 9 (some .int) (KA D dA) p s m args meth c A) (hR : 2 ≤ R.frames ∧ 64 ≤ R.locals) {res : Mem × Int32} (k12 : Mem → Int32 → Int32 → Int32 → Int32 → Int32 → Int32 → Option (Mem × Int32)) (hk12 : ∀ (S : Mem) (x1 : Int32) (x2 : Int32) (x4 : Int32) (x5 : Int32) (x6 : Int32) (x7 : Int32) (H : Heap) (locs : List Loc) (ls : Array Slot), Wd D clA (shC dA E) (exC E) A ad S H → va_S A s.heap H locs → lv_has ls 9 [(0, .ref (ad (P_o k))), (1, .int x1), (2, .int x2), (4, .int x4), (5, .int x5), (6, .int x6), (7, .int x7)] → k12 S x1 x2 x4 x5 x6 x7 = some res → W p l e R s m args below meth c H locs 0 0 (MQ below (QiW D (shC dA E) (exC E) A ad res) args s 0 0 A) (F0 m 12 ls [])) (S : Mem) (x1 : Int32) (x2 : Int32) (x4 : Int32) (x5 : Int32) (x6 : Int32) (x7 : Int32) {H : Heap} {locs : List Loc} {ls : Array Slot} (hP : Wd D clA (shC dA E) (exC E) A ad S H) (hS : va_S A s.heap H locs) (hl : lv_has ls 9 [(0, .ref (ad (P_o k))), (1, .int x1), (2, .int x2), (4, .int x4), (5, .int x5), (6, .int x6), (7, .int x7)]) (hf : f_X4_add_12_b k k12 S x1 x2 x4 x5 x6 x7 = some res) : W p l e R s m args below meth c H locs 0 0 (MQ below (QiW D (shC dA E) (exC E) A ad res) args s 0 0 A) (F0 m 12 ls []) := by
  have hx := X.hx
  have hb := X.hb
  unfold f_X4_add_12_b at hf
  refine lv_iload hx hb dX4_add_12 (lv_at hl 4 rfl) ?_
  refine lv_iconst (v := (-1)) hx hb dX4_add_14 (by decide) ?_
  refine gb_icmp_eq (tgt := 45) hx hb dX4_add_15 (by decide) hf (fun hf => ?_) (fun hf => ?_)
  · exact w_X4_add_45 E k hE hk X hR FU S x1 x4 x5 x6 x7 _ _ _ hP hS (lv_sub hl [0, 1, 3, 4, 5, 6] rfl) hf
  · refine lv_aload_n hx hb dX4_add_18 rfl (lv_at hl 0 rfl) ?_
    refine rg_X4_15 X hP (ex_P_o hE hk) dX4_add_19 ?_
    refine lv_iload hx hb dX4_add_22 (lv_at hl 4 rfl) ?_
    refine ra_P_to_ld X hP (ex_P_to hE hk) dX4_add_24 hf (fun hf => ?_)
    refine lv_iload_n hx hb dX4_add_25 rfl (lv_at hl 2 rfl) ?_
    refine gb_icmp_ge (tgt := 45) hx hb dX4_add_26 (by decide) hf (fun hf => ?_) (fun hf => ?_)
    · exact w_X4_add_45 E k hE hk X hR FU S x1 x4 x5 x6 x7 _ _ _ hP hS (lv_sub hl [0, 1, 3, 4, 5, 6] rfl) hf
    · refine lv_iload hx hb dX4_add_29 (lv_at hl 4 rfl) ?_
      refine lv_istore (lv' := [(4, .int x5), (0, .ref (ad (P_o k))), (1, .int x1), (2, .int x2), (5, .int x5), (6, .int x6), (7, .int x7)]) hx hb dX4_add_31 hl (by decide) rfl (fun ls hl => ?_)
      refine lv_aload_n hx hb dX4_add_33 rfl (lv_at hl 1 rfl) ?_
      refine rg_X4_18 X hP (ex_P_o hE hk) dX4_add_34 ?_
      refine lv_iload hx hb dX4_add_37 (lv_at hl 4 rfl) ?_
      refine ra_P_next_ld X hP (ex_P_next hE hk) dX4_add_39 hf (fun hf => ?_)
      refine lv_istore (lv' := [(5, .int (S.1 (P_next k) (Int32.toNatClampNeg x5))), (4, .int x5), (0, .ref (ad (P_o k))), (1, .int x1), (2, .int x2), (6, .int x6), (7, .int x7)]) hx hb dX4_add_40 hl (by decide) rfl (fun ls hl => ?_)
      refine lv_goto (tgt := 12) hx hb dX4_add_42 (by decide) ?_
      exact hk12 S x1 x2 x5 (S.1 (P_next k) (Int32.toNatClampNeg x5)) x6 x7 _ _ _ hP hS (lv_sub hl [2, 3, 4, 1, 0, 5, 6] rfl) hf
set_option maxHeartbeats 4000000 in
theorem w_X4_add_12 {p : Program} {l : Launch} {e : Env} {R : Room} {s : State} {m : MethodId} {args : Array Value} {below : List Frame} {meth : Method} {c : Code} {D : va_G} {dA : Nat → ClassId} {A : Nat → Prop} {ad : L3 → Nat} (E : L3 → Bool) (k : Nat) (hE : EOK E) (hk : k < 2) (X : CX RX4 cX4_add 9 (some .int) (KA D dA) p s m args meth c A) (hR : 2 ≤ R.frames ∧ 64 ≤ R.locals) {res : Mem × Int32} (n : Nat) : ∀ (S : Mem) (x1 : Int32) (x2 : Int32) (x4 : Int32) (x5 : Int32) (x6 : Int32) (x7 : Int32) (H : Heap) (locs : List Loc) (ls : Array Slot), Wd D clA (shC dA E) (exC E) A ad S H → va_S A s.heap H locs → lv_has ls 9 [(0, .ref (ad (P_o k))), (1, .int x1), (2, .int x2), (4, .int x4), (5, .int x5), (6, .int x6), (7, .int x7)] → f_X4_add_12 k n S x1 x2 x4 x5 x6 x7 = some res → W p l e R s m args below meth c H locs 0 0 (MQ below (QiW D (shC dA E) (exC E) A ad res) args s 0 0 A) (F0 m 12 ls []) := by
  induction n with
  | zero =>
    intro S x1 x2 x4 x5 x6 x7 H locs ls hP hS hl hf
    exact absurd (show none = some res from hf) (fun h => by cases h)
  | succ n ih =>
    intro S x1 x2 x4 x5 x6 x7 H locs ls hP hS hl hf
    exact w_X4_add_12_b E k hE hk X hR (f_X4_add_12 k n) ih S x1 x2 x4 x5 x6 x7 hP hS hl hf
set_option maxHeartbeats 4000000 in
theorem w_X4_add {p : Program} {l : Launch} {e : Env} {R : Room} {s : State} {m : MethodId} {args : Array Value} {below : List Frame} {meth : Method} {c : Code} {D : va_G} {dA : Nat → ClassId} {A : Nat → Prop} {ad : L3 → Nat} (E : L3 → Bool) (k : Nat) (hE : EOK E) (hk : k < 2) (X : CX RX4 cX4_add 9 (some .int) (KA D dA) p s m args meth c A) (hR : 2 ≤ R.frames ∧ 64 ≤ R.locals) {res : Mem × Int32} (S : Mem) (x1 : Int32) (x2 : Int32) (x3 : Int32) {H : Heap} {locs : List Loc} {ls : Array Slot} (hP : Wd D clA (shC dA E) (exC E) A ad S H) (hS : va_S A s.heap H locs) (hl : lv_has ls 9 [(0, .ref (ad (P_o k))), (1, .int x1), (2, .int x2), (3, .int x3)]) (hf : f_X4_add k S x1 x2 x3 = some res) : W p l e R s m args below meth c H locs 0 0 (MQ below (QiW D (shC dA E) (exC E) A ad res) args s 0 0 A) (F0 m 0 ls []) := by
  have hx := X.hx
  have hb := X.hb
  unfold f_X4_add at hf
  refine lv_iconst (v := (-1)) hx hb dX4_add_0 (by decide) ?_
  refine lv_istore (lv' := [(4, .int (-1)), (0, .ref (ad (P_o k))), (1, .int x1), (2, .int x2), (3, .int x3)]) hx hb dX4_add_1 hl (by decide) rfl (fun ls hl => ?_)
  refine lv_iload_n hx hb dX4_add_3 rfl (lv_at hl 2 rfl) ?_
  refine lv_istore (lv' := [(5, .int x1), (4, .int (-1)), (0, .ref (ad (P_o k))), (1, .int x1), (2, .int x2), (3, .int x3)]) hx hb dX4_add_4 hl (by decide) rfl (fun ls hl => ?_)
  refine lv_iload_n hx hb dX4_add_6 rfl (lv_at hl 4 rfl) ?_
  refine lv_istore (lv' := [(6, .int x2), (5, .int x1), (4, .int (-1)), (0, .ref (ad (P_o k))), (1, .int x1), (2, .int x2), (3, .int x3)]) hx hb dX4_add_7 hl (by decide) rfl (fun ls hl => ?_)
  refine lv_iload_n hx hb dX4_add_9 rfl (lv_at hl 6 rfl) ?_
  refine lv_istore (lv' := [(7, .int x3), (6, .int x2), (5, .int x1), (4, .int (-1)), (0, .ref (ad (P_o k))), (1, .int x1), (2, .int x2), (3, .int x3)]) hx hb dX4_add_10 hl (by decide) rfl (fun ls hl => ?_)
  exact w_X4_add_12 E k hE hk X hR FU S x1 x2 (-1) x1 x2 x3 _ _ _ hP hS (lv_sub hl [4, 5, 6, 3, 2, 1, 0] rfl) hf
theorem hd_X4_add : yX4_add.cls = RX4 ∧ yX4_add.cls ≠ "java/lang/invoke/MethodHandle" ∧ yX4_add.cls ≠ "java/lang/invoke/VarHandle" ∧ (parseMethodDescriptor yX4_add.desc).map (fun d => d.parameters.length) = some 3 := by decide +kernel
set_option maxHeartbeats 4000000 in
theorem mt_X4_add (l : Launch) (D : va_G) (dA : Nat → ClassId) (A : Nat → Prop) (ad : L3 → Nat) (E : L3 → Bool) (k : Nat) (hE : EOK E) (hk : k < 2) (S : Mem) (x1 : Int32) (x2 : Int32) (x3 : Int32) {res : Mem × Int32} (hq : f_X4_add k S x1 x2 x3 = some res) : Met l yX4_add (ws_ yX4_add cX4_add 9 (some .int)) ({ frames := 2, cells := 0, slots := 0, locals := 64 } : Room) (va_Pc [.ref (ad (P_o k)), .int x1, .int x2, .int x3] (PreW D dA (shC dA E) (exC E) A ad S)) (QiW D (shC dA E) (exC E) A ad res) 0 0 A :=
  gx_head (by decide) (Nat.le_of_ble_eq_true rfl) (fun p e s m below meth c ls X hP hl => w_X4_add (l := l) E k hE hk X ⟨Nat.le_of_ble_eq_true rfl, Nat.le_of_ble_eq_true rfl⟩ S x1 x2 x3 hP va_S.rf (lv_sub (l := [(0, .ref (ad (P_o k))), (1, .int x1), (2, .int x2), (3, .int x3)]) hl [0, 1, 2, 3] rfl) hq)
set_option maxHeartbeats 4000000 in
theorem w_X4_count_4_b {p : Program} {l : Launch} {e : Env} {R : Room} {s : State} {m : MethodId} {args : Array Value} {below : List Frame} {meth : Method} {c : Code} {D : va_G} {dA : Nat → ClassId} {A : Nat → Prop} {ad : L3 → Nat} (E : L3 → Bool) (k : Nat) (hE : EOK E) (hk : k < 2) (X : CX RX4 cX4_count 4 (some .int) (KA D dA) p s m args meth c A) (hR : 1 ≤ R.frames ∧ 40 ≤ R.locals) {res : Int32} (S : Mem) (k4 : Int32 → Int32 → Option (Int32)) (hk4 : ∀ (x2 : Int32) (x3 : Int32) (H : Heap) (locs : List Loc) (ls : Array Slot), Wd D clA (shC dA E) (exC E) A ad S H → va_S A s.heap H locs → lv_has ls 4 [(0, .ref (ad (P_o k))), (2, .int x2), (3, .int x3)] → k4 x2 x3 = some res → W p l e R s m args below meth c H locs 0 0 (MQ below (QiR D (shC dA E) (exC E) A ad S res) args s 0 0 A) (F0 m 4 ls [])) (x2 : Int32) (x3 : Int32) {H : Heap} {locs : List Loc} {ls : Array Slot} (hP : Wd D clA (shC dA E) (exC E) A ad S H) (hS : va_S A s.heap H locs) (hl : lv_has ls 4 [(0, .ref (ad (P_o k))), (2, .int x2), (3, .int x3)]) (hf : f_X4_count_4_b k S k4 x2 x3 = some res) : W p l e R s m args below meth c H locs 0 0 (MQ below (QiR D (shC dA E) (exC E) A ad S res) args s 0 0 A) (F0 m 4 ls []) := by
  have hx := X.hx
  have hb := X.hb
  unfold f_X4_count_4_b at hf
  refine lv_iload_n hx hb dX4_count_4 rfl (lv_at hl 2 rfl) ?_
  refine lv_iconst (v := (-1)) hx hb dX4_count_5 (by decide) ?_
  refine gb_icmp_eq (tgt := 35) hx hb dX4_count_6 (by decide) hf (fun hf => ?_) (fun hf => ?_)
  · refine lv_iload_n hx hb dX4_count_35 rfl (lv_at hl 1 rfl) ?_
    exact gr_iR X hP hS (Option.some.inj hf) dX4_count_36
  · refine lv_iload_n hx hb dX4_count_9 rfl (lv_at hl 1 rfl) ?_
    refine lv_aload_n hx hb dX4_count_10 rfl (lv_at hl 0 rfl) ?_
    refine rg_X4_15 X hP (ex_P_o hE hk) dX4_count_11 ?_
    refine lv_iload_n hx hb dX4_count_14 rfl (lv_at hl 2 rfl) ?_
    refine ra_P_to_ld X hP (ex_P_to hE hk) dX4_count_15 hf (fun hf => ?_)
    refine lv_aload_n hx hb dX4_count_16 rfl (lv_at hl 0 rfl) ?_
    refine rg_X4_9 X hP (ex_P_o hE hk) dX4_count_17 ?_
    refine lv_iload_n hx hb dX4_count_20 rfl (lv_at hl 2 rfl) ?_
    refine ra_P_from_ld X hP (ex_P_from hE hk) dX4_count_21 hf (fun hf => ?_)
    refine lv_isub hx hb dX4_count_22 ?_
    refine lv_iadd hx hb dX4_count_23 ?_
    refine lv_istore_n (lv' := [(2, .int (x2 + ((S.1 (P_to k) (Int32.toNatClampNeg x3)) - (S.1 (P_from k) (Int32.toNatClampNeg x3))))), (0, .ref (ad (P_o k))), (3, .int x3)]) hx hb dX4_count_24 rfl hl (by decide) rfl (fun ls hl => ?_)
    refine lv_aload_n hx hb dX4_count_25 rfl (lv_at hl 1 rfl) ?_
    refine rg_X4_18 X hP (ex_P_o hE hk) dX4_count_26 ?_
    refine lv_iload_n hx hb dX4_count_29 rfl (lv_at hl 2 rfl) ?_
    refine ra_P_next_ld X hP (ex_P_next hE hk) dX4_count_30 hf (fun hf => ?_)
    refine lv_istore_n (lv' := [(3, .int (S.1 (P_next k) (Int32.toNatClampNeg x3))), (2, .int (x2 + ((S.1 (P_to k) (Int32.toNatClampNeg x3)) - (S.1 (P_from k) (Int32.toNatClampNeg x3))))), (0, .ref (ad (P_o k)))]) hx hb dX4_count_31 rfl hl (by decide) rfl (fun ls hl => ?_)
    refine lv_goto (tgt := 4) hx hb dX4_count_32 (by decide) ?_
    exact hk4 (x2 + ((S.1 (P_to k) (Int32.toNatClampNeg x3)) - (S.1 (P_from k) (Int32.toNatClampNeg x3)))) (S.1 (P_next k) (Int32.toNatClampNeg x3)) _ _ _ hP hS (lv_sub hl [2, 1, 0] rfl) hf
set_option maxHeartbeats 4000000 in
theorem w_X4_count_4 {p : Program} {l : Launch} {e : Env} {R : Room} {s : State} {m : MethodId} {args : Array Value} {below : List Frame} {meth : Method} {c : Code} {D : va_G} {dA : Nat → ClassId} {A : Nat → Prop} {ad : L3 → Nat} (E : L3 → Bool) (k : Nat) (hE : EOK E) (hk : k < 2) (X : CX RX4 cX4_count 4 (some .int) (KA D dA) p s m args meth c A) (hR : 1 ≤ R.frames ∧ 40 ≤ R.locals) {res : Int32} (S : Mem) (n : Nat) : ∀ (x2 : Int32) (x3 : Int32) (H : Heap) (locs : List Loc) (ls : Array Slot), Wd D clA (shC dA E) (exC E) A ad S H → va_S A s.heap H locs → lv_has ls 4 [(0, .ref (ad (P_o k))), (2, .int x2), (3, .int x3)] → f_X4_count_4 k S n x2 x3 = some res → W p l e R s m args below meth c H locs 0 0 (MQ below (QiR D (shC dA E) (exC E) A ad S res) args s 0 0 A) (F0 m 4 ls []) := by
  induction n with
  | zero =>
    intro x2 x3 H locs ls hP hS hl hf
    exact absurd (show none = some res from hf) (fun h => by cases h)
  | succ n ih =>
    intro x2 x3 H locs ls hP hS hl hf
    exact w_X4_count_4_b E k hE hk X hR S (f_X4_count_4 k S n) ih x2 x3 hP hS hl hf
set_option maxHeartbeats 4000000 in
theorem w_X4_count {p : Program} {l : Launch} {e : Env} {R : Room} {s : State} {m : MethodId} {args : Array Value} {below : List Frame} {meth : Method} {c : Code} {D : va_G} {dA : Nat → ClassId} {A : Nat → Prop} {ad : L3 → Nat} (E : L3 → Bool) (k : Nat) (hE : EOK E) (hk : k < 2) (X : CX RX4 cX4_count 4 (some .int) (KA D dA) p s m args meth c A) (hR : 1 ≤ R.frames ∧ 40 ≤ R.locals) {res : Int32} (S : Mem) (x1 : Int32) {H : Heap} {locs : List Loc} {ls : Array Slot} (hP : Wd D clA (shC dA E) (exC E) A ad S H) (hS : va_S A s.heap H locs) (hl : lv_has ls 4 [(0, .ref (ad (P_o k))), (1, .int x1)]) (hf : f_X4_count k S x1 = some res) : W p l e R s m args below meth c H locs 0 0 (MQ below (QiR D (shC dA E) (exC E) A ad S res) args s 0 0 A) (F0 m 0 ls []) := by
  have hx := X.hx
  have hb := X.hb
  unfold f_X4_count at hf
  refine lv_iconst (v := 0) hx hb dX4_count_0 (by decide) ?_
  refine lv_istore_n (lv' := [(2, .int 0), (0, .ref (ad (P_o k))), (1, .int x1)]) hx hb dX4_count_1 rfl hl (by decide) rfl (fun ls hl => ?_)
  refine lv_iload_n hx hb dX4_count_2 rfl (lv_at hl 2 rfl) ?_
  refine lv_istore_n (lv' := [(3, .int x1), (2, .int 0), (0, .ref (ad (P_o k))), (1, .int x1)]) hx hb dX4_count_3 rfl hl (by decide) rfl (fun ls hl => ?_)
  exact w_X4_count_4 E k hE hk X hR S FU 0 x1 _ _ _ hP hS (lv_sub hl [2, 1, 0] rfl) hf
theorem hd_X4_count : yX4_count.cls = RX4 ∧ yX4_count.cls ≠ "java/lang/invoke/MethodHandle" ∧ yX4_count.cls ≠ "java/lang/invoke/VarHandle" ∧ (parseMethodDescriptor yX4_count.desc).map (fun d => d.parameters.length) = some 1 := by decide +kernel
set_option maxHeartbeats 4000000 in
theorem mt_X4_count (l : Launch) (D : va_G) (dA : Nat → ClassId) (A : Nat → Prop) (ad : L3 → Nat) (E : L3 → Bool) (k : Nat) (hE : EOK E) (hk : k < 2) (S : Mem) (x1 : Int32) {res : Int32} (hq : f_X4_count k S x1 = some res) : Met l yX4_count (ws_ yX4_count cX4_count 4 (some .int)) ({ frames := 1, cells := 0, slots := 0, locals := 40 } : Room) (va_Pc [.ref (ad (P_o k)), .int x1] (PreW D dA (shC dA E) (exC E) A ad S)) (QiR D (shC dA E) (exC E) A ad S res) 0 0 A :=
  gx_head (by decide) (Nat.le_of_ble_eq_true rfl) (fun p e s m below meth c ls X hP hl => w_X4_count (l := l) E k hE hk X ⟨Nat.le_of_ble_eq_true rfl, Nat.le_of_ble_eq_true rfl⟩ S x1 hP va_S.rf (lv_sub (l := [(0, .ref (ad (P_o k))), (1, .int x1)]) hl [0, 1] rfl) hq)
set_option maxHeartbeats 4000000 in
theorem w_X2_isGone_57 {p : Program} {l : Launch} {e : Env} {R : Room} {s : State} {m : MethodId} {args : Array Value} {below : List Frame} {meth : Method} {c : Code} {D : va_G} {dA : Nat → ClassId} {A : Nat → Prop} {ad : L3 → Nat} (E : L3 → Bool) (k : Nat) (hE : EOK E) (hk : k < 2) (X : CX RX2 cX2_isGone 7 none (KA D dA) p s m args meth c A) (hR : 4 ≤ R.frames ∧ 116 ≤ R.locals) {res : Mem} (S : Mem) (x1 : Nat) (hx1 : E (S_o k x1) = true) {H : Heap} {locs : List Loc} {ls : Array Slot} (hP : Wd D clA (shC dA E) (exC E) A ad S H) (hS : va_S A s.heap H locs) (hl : lv_has ls 7 [(0, .ref (ad (H_o k))), (1, .ref (ad (S_o k x1)))]) (hf : f_X2_isGone_57 k S x1 = some res) : W p l e R s m args below meth c H locs 0 0 (MQ below (QvW D (shC dA E) (exC E) A ad res) args s 0 0 A) (F0 m 57 ls []) := by
  have hx := X.hx
  have hb := X.hb
  unfold f_X2_isGone_57 at hf
  refine lv_aload_n hx hb dX2_isGone_57 rfl (lv_at hl 1 rfl) ?_
  refine rg_X2_150 X hP hx1 dX2_isGone_58 ?_
  refine lv_iconst (v := 1) hx hb dX2_isGone_61 (by decide) ?_
  refine gb_icmp_ne (tgt := 96) hx hb dX2_isGone_62 (by decide) hf (fun hf => ?_) (fun hf => ?_)
  · exact gr_vW X hP hS (Option.some.inj hf) dX2_isGone_96
  · refine lv_aload_n hx hb dX2_isGone_65 rfl (lv_at hl 1 rfl) ?_
    refine rg_X2_157 X hP hx1 dX2_isGone_66 ?_
    refine lv_iconst (v := 4) hx hb dX2_isGone_69 (by decide) ?_
    refine gb_icmp_ne (tgt := 96) hx hb dX2_isGone_70 (by decide) hf (fun hf => ?_) (fun hf => ?_)
    · exact gr_vW X hP hS (Option.some.inj hf) dX2_isGone_96
    · refine lv_aload_n hx hb dX2_isGone_73 rfl (lv_at hl 0 rfl) ?_
      refine rg_X2_41 X hP (ex_H_o hE hk) dX2_isGone_74 ?_
      refine lv_aload_n hx hb dX2_isGone_77 rfl (lv_at hl 1 rfl) ?_
      refine rg_X2_352 X hP hx1 dX2_isGone_78 ?_
      obtain ⟨v1, hq, hf⟩ := gB_some hf
      refine gc_i (gc_fixV (S := S) X (mt_X4_count l D dA A ad E k hE hk S (S.1 (S_o k x1) 7) hq) (lw_V q987 q988 q989 q89 q990) ⟨rfl, rfl⟩ hd_X4_count ⟨Nat.le_trans (Nat.le_of_ble_eq_true rfl) hR.1, Nat.le_trans (Nat.le_of_ble_eq_true rfl) hR.2⟩ (wd_recv (r := P_o k) (ci := 4) (q := (RX4, TX4, 5)) X.hK.1 hP (ex_P_o hE hk) rfl rfl) hP hS ⟨Nat.zero_le _, Nat.zero_le _⟩ rfl hl.1 rfl (Nat.le_of_ble_eq_true rfl) dX2_isGone_81) hS ?_
      rintro _ _ H locs ⟨rfl, rfl⟩ hP hS
      refine lv_aload_n hx hb dX2_isGone_84 rfl (lv_at hl 1 rfl) ?_
      refine rg_X2_307 X hP hx1 dX2_isGone_85 ?_
      refine gb_icmp_ne (tgt := 96) hx hb dX2_isGone_88 (by decide) hf (fun hf => ?_) (fun hf => ?_)
      · exact gr_vW X hP hS (Option.some.inj hf) dX2_isGone_96
      · refine lv_aload_n hx hb dX2_isGone_91 rfl (lv_at hl 1 rfl) ?_
        refine lv_iconst (v := 2) hx hb dX2_isGone_92 (by decide) ?_
        refine rp_X2_150 X hP hS hx1 dX2_isGone_93 hf (fun S2 H locs hP hS hf => ?_)
        exact gr_vW X hP hS (Option.some.inj hf) dX2_isGone_96
set_option maxHeartbeats 4000000 in
theorem w_X2_isGone_47 {p : Program} {l : Launch} {e : Env} {R : Room} {s : State} {m : MethodId} {args : Array Value} {below : List Frame} {meth : Method} {c : Code} {D : va_G} {dA : Nat → ClassId} {A : Nat → Prop} {ad : L3 → Nat} (E : L3 → Bool) (k : Nat) (hE : EOK E) (hk : k < 2) (X : CX RX2 cX2_isGone 7 none (KA D dA) p s m args meth c A) (hR : 4 ≤ R.frames ∧ 116 ≤ R.locals) {res : Mem} (S : Mem) (x1 : Nat) (x4 : Int32) (hx1 : E (S_o k x1) = true) {H : Heap} {locs : List Loc} {ls : Array Slot} (hP : Wd D clA (shC dA E) (exC E) A ad S H) (hS : va_S A s.heap H locs) (hl : lv_has ls 7 [(0, .ref (ad (H_o k))), (1, .ref (ad (S_o k x1))), (4, .int x4)]) (hf : f_X2_isGone_47 k S x1 x4 = some res) : W p l e R s m args below meth c H locs 0 0 (MQ below (QvW D (shC dA E) (exC E) A ad res) args s 0 0 A) (F0 m 47 ls []) := by
  have hx := X.hx
  have hb := X.hb
  unfold f_X2_isGone_47 at hf
  refine lv_iload hx hb dX2_isGone_47 (lv_at hl 2 rfl) ?_
  refine gb_if_eq (tgt := 57) hx hb dX2_isGone_49 (by decide) hf (fun hf => ?_) (fun hf => ?_)
  · exact w_X2_isGone_57 E k hE hk X hR S x1 hx1 hP hS (lv_sub hl [0, 1] rfl) hf
  · refine lv_aload_n hx hb dX2_isGone_52 rfl (lv_at hl 1 rfl) ?_
    refine lv_iconst (v := 4) hx hb dX2_isGone_53 (by decide) ?_
    refine rp_X2_157 X hP hS hx1 dX2_isGone_54 hf (fun S1 H locs hP hS hf => ?_)
    exact w_X2_isGone_57 E k hE hk X hR S1 x1 hx1 hP hS (lv_sub hl [0, 1] rfl) hf
set_option maxHeartbeats 4000000 in
theorem w_X2_isGone_186 {p : Program} {l : Launch} {e : Env} {R : Room} {s : State} {m : MethodId} {args : Array Value} {below : List Frame} {meth : Method} {c : Code} {D : va_G} {dA : Nat → ClassId} {A : Nat → Prop} {ad : L3 → Nat} (E : L3 → Bool) (k : Nat) (hE : EOK E) (hk : k < 2) (X : CX RX2 cX2_isGone 7 none (KA D dA) p s m args meth c A) (hR : 4 ≤ R.frames ∧ 116 ≤ R.locals) {res : Mem} (S : Mem) (x1 : Nat) (x4 : Int32) (hx1 : E (S_o k x1) = true) {H : Heap} {locs : List Loc} {ls : Array Slot} (hP : Wd D clA (shC dA E) (exC E) A ad S H) (hS : va_S A s.heap H locs) (hl : lv_has ls 7 [(1, .ref (ad (S_o k x1))), (4, .int x4)]) (hf : f_X2_isGone_186 k S x1 x4 = some res) : W p l e R s m args below meth c H locs 0 0 (MQ below (QvW D (shC dA E) (exC E) A ad res) args s 0 0 A) (F0 m 186 ls []) := by
  have hx := X.hx
  have hb := X.hb
  unfold f_X2_isGone_186 at hf
  refine lv_iload hx hb dX2_isGone_186 (lv_at hl 1 rfl) ?_
  refine gb_if_eq (tgt := 204) hx hb dX2_isGone_188 (by decide) hf (fun hf => ?_) (fun hf => ?_)
  · exact gr_vW X hP hS (Option.some.inj hf) dX2_isGone_204
  · refine lv_aload_n hx hb dX2_isGone_191 rfl (lv_at hl 0 rfl) ?_
    refine rg_X2_157 X hP hx1 dX2_isGone_192 ?_
    refine lv_iconst (v := 4) hx hb dX2_isGone_195 (by decide) ?_
    refine gb_icmp_eq (tgt := 204) hx hb dX2_isGone_196 (by decide) hf (fun hf => ?_) (fun hf => ?_)
    · exact gr_vW X hP hS (Option.some.inj hf) dX2_isGone_204
    · refine lv_aload_n hx hb dX2_isGone_199 rfl (lv_at hl 0 rfl) ?_
      refine lv_iconst (v := 3) hx hb dX2_isGone_200 (by decide) ?_
      refine rp_X2_157 X hP hS hx1 dX2_isGone_201 hf (fun S1 H locs hP hS hf => ?_)
      exact gr_vW X hP hS (Option.some.inj hf) dX2_isGone_204
set_option maxHeartbeats 4000000 in
theorem w_X2_isGone_126_b {p : Program} {l : Launch} {e : Env} {R : Room} {s : State} {m : MethodId} {args : Array Value} {below : List Frame} {meth : Method} {c : Code} {D : va_G} {dA : Nat → ClassId} {A : Nat → Prop} {ad : L3 → Nat} (E : L3 → Bool) (k : Nat) (hE : EOK E) (hk : k < 2) (X : CX RX2 cX2_isGone 7 none (KA D dA) p s m args meth c A) (hR : 4 ≤ R.frames ∧ 116 ≤ R.locals) {res : Mem} (k126 : Mem → Nat → Int32 → Int32 → Int32 → Option (Mem)) (hk126 : ∀ (S : Mem) (x1 : Nat) (x3 : Int32) (x4 : Int32) (x6 : Int32) (H : Heap) (locs : List Loc) (ls : Array Slot), (E (S_o k x1) = true) → Wd D clA (shC dA E) (exC E) A ad S H → va_S A s.heap H locs → lv_has ls 7 [(0, .ref (ad (H_o k))), (1, .ref (ad (S_o k x1))), (3, .int x3), (4, .int x4), (6, .int x6)] → k126 S x1 x3 x4 x6 = some res → W p l e R s m args below meth c H locs 0 0 (MQ below (QvW D (shC dA E) (exC E) A ad res) args s 0 0 A) (F0 m 126 ls [])) (S : Mem) (x1 : Nat) (x3 : Int32) (x4 : Int32) (x6 : Int32) (hx1 : E (S_o k x1) = true) {H : Heap} {locs : List Loc} {ls : Array Slot} (hP : Wd D clA (shC dA E) (exC E) A ad S H) (hS : va_S A s.heap H locs) (hl : lv_has ls 7 [(0, .ref (ad (H_o k))), (1, .ref (ad (S_o k x1))), (3, .int x3), (4, .int x4), (6, .int x6)]) (hf : f_X2_isGone_126_b k k126 S x1 x3 x4 x6 = some res) : W p l e R s m args below meth c H locs 0 0 (MQ below (QvW D (shC dA E) (exC E) A ad res) args s 0 0 A) (F0 m 126 ls []) := by
  have hx := X.hx
  have hb := X.hb
  unfold f_X2_isGone_126_b at hf
  refine lv_iload hx hb dX2_isGone_126 (lv_at hl 4 rfl) ?_
  refine lv_iconst (v := (-1)) hx hb dX2_isGone_128 (by decide) ?_
  refine gb_icmp_eq (tgt := 186) hx hb dX2_isGone_129 (by decide) hf (fun hf => ?_) (fun hf => ?_)
  · exact w_X2_isGone_186 E k hE hk X hR S x1 x4 hx1 hP hS (lv_sub hl [1, 3] rfl) hf
  · refine lv_iload_n hx hb dX2_isGone_132 rfl (lv_at hl 2 rfl) ?_
    refine gb_if_le (tgt := 186) hx hb dX2_isGone_133 (by decide) hf (fun hf => ?_) (fun hf => ?_)
    · exact w_X2_isGone_186 E k hE hk X hR S x1 x4 hx1 hP hS (lv_sub hl [1, 3] rfl) hf
    · refine lv_aload_n hx hb dX2_isGone_136 rfl (lv_at hl 1 rfl) ?_
      refine lv_aload_n hx hb dX2_isGone_137 rfl (lv_at hl 0 rfl) ?_
      refine rg_X2_41 X hP (ex_H_o hE hk) dX2_isGone_138 ?_
      refine lv_aload_n hx hb dX2_isGone_141 rfl (lv_at hl 1 rfl) ?_
      refine rg_X2_325 X hP hx1 dX2_isGone_142 ?_
      refine lv_aload_n hx hb dX2_isGone_145 rfl (lv_at hl 0 rfl) ?_
      refine rg_X2_41 X hP (ex_H_o hE hk) dX2_isGone_146 ?_
      refine rg_X2_328 X hP (ex_P_o hE hk) dX2_isGone_149 ?_
      refine lv_iload hx hb dX2_isGone_152 (lv_at hl 4 rfl) ?_
      refine ra_P_from_ld X hP (ex_P_from hE hk) dX2_isGone_154 hf (fun hf => ?_)
      refine lv_aload_n hx hb dX2_isGone_155 rfl (lv_at hl 0 rfl) ?_
      refine rg_X2_41 X hP (ex_H_o hE hk) dX2_isGone_156 ?_
      refine rg_X2_331 X hP (ex_P_o hE hk) dX2_isGone_159 ?_
      refine lv_iload hx hb dX2_isGone_162 (lv_at hl 4 rfl) ?_
      refine ra_P_to_ld X hP (ex_P_to hE hk) dX2_isGone_164 hf (fun hf => ?_)
      obtain ⟨S1, v2, hq, hf⟩ := gB2_some hf
      refine gc_i (gc_fixV (S := S) X (mt_X4_cut l D dA A ad E k hE hk S (S.1 (S_o k x1) 6) (S.1 (P_from k) (Int32.toNatClampNeg x6)) (S.1 (P_to k) (Int32.toNatClampNeg x6)) hq) (lw_V q848 q849 q850 q89 q851) ⟨rfl, rfl⟩ hd_X4_cut ⟨Nat.le_trans (Nat.le_of_ble_eq_true rfl) hR.1, Nat.le_trans (Nat.le_of_ble_eq_true rfl) hR.2⟩ (wd_recv (r := P_o k) (ci := 4) (q := (RX4, TX4, 5)) X.hK.1 hP (ex_P_o hE hk) rfl rfl) hP hS ⟨Nat.zero_le _, Nat.zero_le _⟩ rfl hl.1 rfl (Nat.le_of_ble_eq_true rfl) dX2_isGone_165) hS ?_
      rintro _ _ H locs ⟨⟩ hP hS
      refine rp_X2_325 X hP hS hx1 dX2_isGone_168 hf (fun S3 H locs hP hS hf => ?_)
      refine lv_aload_n hx hb dX2_isGone_171 rfl (lv_at hl 0 rfl) ?_
      refine rg_X2_41 X hP (ex_H_o hE hk) dX2_isGone_172 ?_
      refine rg_X2_361 X hP (ex_P_o hE hk) dX2_isGone_175 ?_
      refine lv_iload hx hb dX2_isGone_178 (lv_at hl 4 rfl) ?_
      refine ra_P_next_ld X hP (ex_P_next hE hk) dX2_isGone_180 hf (fun hf => ?_)
      refine lv_istore (lv' := [(6, .int (S3.1 (P_next k) (Int32.toNatClampNeg x6))), (0, .ref (ad (H_o k))), (1, .ref (ad (S_o k x1))), (3, .int x3), (4, .int x4)]) hx hb dX2_isGone_181 hl (by decide) rfl (fun ls hl => ?_)
      refine lv_goto (tgt := 126) hx hb dX2_isGone_183 (by decide) ?_
      exact hk126 S3 x1 x3 x4 (S3.1 (P_next k) (Int32.toNatClampNeg x6)) _ _ _ hx1 hP hS (lv_sub hl [1, 2, 3, 4, 0] rfl) hf
set_option maxHeartbeats 4000000 in
theorem w_X2_isGone_126 {p : Program} {l : Launch} {e : Env} {R : Room} {s : State} {m : MethodId} {args : Array Value} {below : List Frame} {meth : Method} {c : Code} {D : va_G} {dA : Nat → ClassId} {A : Nat → Prop} {ad : L3 → Nat} (E : L3 → Bool) (k : Nat) (hE : EOK E) (hk : k < 2) (X : CX RX2 cX2_isGone 7 none (KA D dA) p s m args meth c A) (hR : 4 ≤ R.frames ∧ 116 ≤ R.locals) {res : Mem} (n : Nat) : ∀ (S : Mem) (x1 : Nat) (x3 : Int32) (x4 : Int32) (x6 : Int32) (H : Heap) (locs : List Loc) (ls : Array Slot), (E (S_o k x1) = true) → Wd D clA (shC dA E) (exC E) A ad S H → va_S A s.heap H locs → lv_has ls 7 [(0, .ref (ad (H_o k))), (1, .ref (ad (S_o k x1))), (3, .int x3), (4, .int x4), (6, .int x6)] → f_X2_isGone_126 k n S x1 x3 x4 x6 = some res → W p l e R s m args below meth c H locs 0 0 (MQ below (QvW D (shC dA E) (exC E) A ad res) args s 0 0 A) (F0 m 126 ls []) := by
  induction n with
  | zero =>
    intro S x1 x3 x4 x6 H locs ls hx1 hP hS hl hf
    exact absurd (show none = some res from hf) (fun h => by cases h)
  | succ n ih =>
    intro S x1 x3 x4 x6 H locs ls hx1 hP hS hl hf
    exact w_X2_isGone_126_b E k hE hk X hR (f_X2_isGone_126 k n) ih S x1 x3 x4 x6 hx1 hP hS hl hf
set_option maxHeartbeats 4000000 in
theorem w_X2_isGone_120 {p : Program} {l : Launch} {e : Env} {R : Room} {s : State} {m : MethodId} {args : Array Value} {below : List Frame} {meth : Method} {c : Code} {D : va_G} {dA : Nat → ClassId} {A : Nat → Prop} {ad : L3 → Nat} (E : L3 → Bool) (k : Nat) (hE : EOK E) (hk : k < 2) (X : CX RX2 cX2_isGone 7 none (KA D dA) p s m args meth c A) (hR : 4 ≤ R.frames ∧ 116 ≤ R.locals) {res : Mem} (S : Mem) (x1 : Nat) (x3 : Int32) (x4 : Int32) (hx1 : E (S_o k x1) = true) {H : Heap} {locs : List Loc} {ls : Array Slot} (hP : Wd D clA (shC dA E) (exC E) A ad S H) (hS : va_S A s.heap H locs) (hl : lv_has ls 7 [(0, .ref (ad (H_o k))), (1, .ref (ad (S_o k x1))), (3, .int x3), (4, .int x4)]) (hf : f_X2_isGone_120 k S x1 x3 x4 = some res) : W p l e R s m args below meth c H locs 0 0 (MQ below (QvW D (shC dA E) (exC E) A ad res) args s 0 0 A) (F0 m 120 ls []) := by
  have hx := X.hx
  have hb := X.hb
  unfold f_X2_isGone_120 at hf
  refine lv_aload_n hx hb dX2_isGone_120 rfl (lv_at hl 1 rfl) ?_
  refine rg_X2_352 X hP hx1 dX2_isGone_121 ?_
  refine lv_istore (lv' := [(6, .int (S.1 (S_o k x1) 7)), (0, .ref (ad (H_o k))), (1, .ref (ad (S_o k x1))), (3, .int x3), (4, .int x4)]) hx hb dX2_isGone_124 hl (by decide) rfl (fun ls hl => ?_)
  exact w_X2_isGone_126 E k hE hk X hR FU S x1 x3 x4 (S.1 (S_o k x1) 7) _ _ _ hx1 hP hS (lv_sub hl [1, 2, 3, 4, 0] rfl) hf
set_option maxHeartbeats 4000000 in
theorem w_X2_isGone {p : Program} {l : Launch} {e : Env} {R : Room} {s : State} {m : MethodId} {args : Array Value} {below : List Frame} {meth : Method} {c : Code} {D : va_G} {dA : Nat → ClassId} {A : Nat → Prop} {ad : L3 → Nat} (E : L3 → Bool) (k : Nat) (hE : EOK E) (hk : k < 2) (X : CX RX2 cX2_isGone 7 none (KA D dA) p s m args meth c A) (hR : 4 ≤ R.frames ∧ 116 ≤ R.locals) {res : Mem} (S : Mem) (x1 : Nat) (x2 : Int32) (x3 : Int32) (x4 : Int32) (x5 : Int32) (hx1 : E (S_o k x1) = true) {H : Heap} {locs : List Loc} {ls : Array Slot} (hP : Wd D clA (shC dA E) (exC E) A ad S H) (hS : va_S A s.heap H locs) (hl : lv_has ls 7 [(0, .ref (ad (H_o k))), (1, .ref (ad (S_o k x1))), (2, .int x2), (3, .int x3), (4, .int x4), (5, .int x5)]) (hf : f_X2_isGone k S x1 x2 x3 x4 x5 = some res) : W p l e R s m args below meth c H locs 0 0 (MQ below (QvW D (shC dA E) (exC E) A ad res) args s 0 0 A) (F0 m 0 ls []) := by
  have hx := X.hx
  have hb := X.hb
  unfold f_X2_isGone at hf
  refine lv_iload hx hb dX2_isGone_0 (lv_at hl 5 rfl) ?_
  refine gb_if_eq (tgt := 97) hx hb dX2_isGone_2 (by decide) hf (fun hf => ?_) (fun hf => ?_)
  · refine lv_iload_n hx hb dX2_isGone_97 rfl (lv_at hl 3 rfl) ?_
    refine gb_if_le (tgt := 120) hx hb dX2_isGone_98 (by decide) hf (fun hf => ?_) (fun hf => ?_)
    · exact w_X2_isGone_120 E k hE hk X hR S x1 x3 x4 hx1 hP hS (lv_sub hl [0, 1, 3, 4] rfl) hf
    · refine lv_aload_n hx hb dX2_isGone_101 rfl (lv_at hl 1 rfl) ?_
      refine lv_aload_n hx hb dX2_isGone_102 rfl (lv_at hl 0 rfl) ?_
      refine rg_X2_41 X hP (ex_H_o hE hk) dX2_isGone_103 ?_
      refine lv_aload_n hx hb dX2_isGone_106 rfl (lv_at hl 1 rfl) ?_
      refine rg_X2_325 X hP hx1 dX2_isGone_107 ?_
      refine lv_iload_n hx hb dX2_isGone_110 rfl (lv_at hl 2 rfl) ?_
      refine lv_iload_n hx hb dX2_isGone_111 rfl (lv_at hl 2 rfl) ?_
      refine lv_iload_n hx hb dX2_isGone_112 rfl (lv_at hl 3 rfl) ?_
      refine lv_iadd hx hb dX2_isGone_113 ?_
      obtain ⟨S1, v2, hq, hf⟩ := gB2_some hf
      refine gc_i (gc_fixV (S := S) X (mt_X4_add l D dA A ad E k hE hk S (S.1 (S_o k x1) 6) x2 (x2 + x3) hq) (lw_V q981 q982 q983 q89 q984) ⟨rfl, rfl⟩ hd_X4_add ⟨Nat.le_trans (Nat.le_of_ble_eq_true rfl) hR.1, Nat.le_trans (Nat.le_of_ble_eq_true rfl) hR.2⟩ (wd_recv (r := P_o k) (ci := 4) (q := (RX4, TX4, 5)) X.hK.1 hP (ex_P_o hE hk) rfl rfl) hP hS ⟨Nat.zero_le _, Nat.zero_le _⟩ rfl hl.1 rfl (Nat.le_of_ble_eq_true rfl) dX2_isGone_114) hS ?_
      rintro _ _ H locs ⟨⟩ hP hS
      refine rp_X2_325 X hP hS hx1 dX2_isGone_117 hf (fun S3 H locs hP hS hf => ?_)
      exact w_X2_isGone_120 E k hE hk X hR S3 x1 x3 x4 hx1 hP hS (lv_sub hl [0, 1, 3, 4] rfl) hf
  · refine lv_iload_n hx hb dX2_isGone_5 rfl (lv_at hl 3 rfl) ?_
    refine gb_if_le (tgt := 47) hx hb dX2_isGone_6 (by decide) hf (fun hf => ?_) (fun hf => ?_)
    · exact w_X2_isGone_47 E k hE hk X hR S x1 x4 hx1 hP hS (lv_sub hl [0, 1, 4] rfl) hf
    · refine lv_aload_n hx hb dX2_isGone_9 rfl (lv_at hl 1 rfl) ?_
      refine lv_aload_n hx hb dX2_isGone_10 rfl (lv_at hl 0 rfl) ?_
      refine rg_X2_41 X hP (ex_H_o hE hk) dX2_isGone_11 ?_
      refine lv_aload_n hx hb dX2_isGone_14 rfl (lv_at hl 1 rfl) ?_
      refine rg_X2_352 X hP hx1 dX2_isGone_15 ?_
      refine lv_iload_n hx hb dX2_isGone_18 rfl (lv_at hl 2 rfl) ?_
      refine lv_iload_n hx hb dX2_isGone_19 rfl (lv_at hl 2 rfl) ?_
      refine lv_iload_n hx hb dX2_isGone_20 rfl (lv_at hl 3 rfl) ?_
      refine lv_iadd hx hb dX2_isGone_21 ?_
      obtain ⟨S4, v5, hq, hf⟩ := gB2_some hf
      refine gc_i (gc_fixV (S := S) X (mt_X4_add l D dA A ad E k hE hk S (S.1 (S_o k x1) 7) x2 (x2 + x3) hq) (lw_V q981 q982 q983 q89 q984) ⟨rfl, rfl⟩ hd_X4_add ⟨Nat.le_trans (Nat.le_of_ble_eq_true rfl) hR.1, Nat.le_trans (Nat.le_of_ble_eq_true rfl) hR.2⟩ (wd_recv (r := P_o k) (ci := 4) (q := (RX4, TX4, 5)) X.hK.1 hP (ex_P_o hE hk) rfl rfl) hP hS ⟨Nat.zero_le _, Nat.zero_le _⟩ rfl hl.1 rfl (Nat.le_of_ble_eq_true rfl) dX2_isGone_22) hS ?_
      rintro _ _ H locs ⟨⟩ hP hS
      refine rp_X2_352 X hP hS hx1 dX2_isGone_25 hf (fun S6 H locs hP hS hf => ?_)
      refine lv_aload_n hx hb dX2_isGone_28 rfl (lv_at hl 1 rfl) ?_
      refine lv_aload_n hx hb dX2_isGone_29 rfl (lv_at hl 0 rfl) ?_
      refine rg_X2_41 X hP (ex_H_o hE hk) dX2_isGone_30 ?_
      refine lv_aload_n hx hb dX2_isGone_33 rfl (lv_at hl 1 rfl) ?_
      refine rg_X2_325 X hP hx1 dX2_isGone_34 ?_
      refine lv_iload_n hx hb dX2_isGone_37 rfl (lv_at hl 2 rfl) ?_
      refine lv_iload_n hx hb dX2_isGone_38 rfl (lv_at hl 2 rfl) ?_
      refine lv_iload_n hx hb dX2_isGone_39 rfl (lv_at hl 3 rfl) ?_
      refine lv_iadd hx hb dX2_isGone_40 ?_
      obtain ⟨S7, v8, hq, hf⟩ := gB2_some hf
      refine gc_i (gc_fixV (S := S6) X (mt_X4_cut l D dA A ad E k hE hk S6 (S6.1 (S_o k x1) 6) x2 (x2 + x3) hq) (lw_V q848 q849 q850 q89 q851) ⟨rfl, rfl⟩ hd_X4_cut ⟨Nat.le_trans (Nat.le_of_ble_eq_true rfl) hR.1, Nat.le_trans (Nat.le_of_ble_eq_true rfl) hR.2⟩ (wd_recv (r := P_o k) (ci := 4) (q := (RX4, TX4, 5)) X.hK.1 hP (ex_P_o hE hk) rfl rfl) hP hS ⟨Nat.zero_le _, Nat.zero_le _⟩ rfl hl.1 rfl (Nat.le_of_ble_eq_true rfl) dX2_isGone_41) hS ?_
      rintro _ _ H locs ⟨⟩ hP hS
      refine rp_X2_325 X hP hS hx1 dX2_isGone_44 hf (fun S9 H locs hP hS hf => ?_)
      exact w_X2_isGone_47 E k hE hk X hR S9 x1 x4 hx1 hP hS (lv_sub hl [0, 1, 4] rfl) hf
theorem hd_X2_isGone : yX2_isGone.cls = RX2 ∧ yX2_isGone.cls ≠ "java/lang/invoke/MethodHandle" ∧ yX2_isGone.cls ≠ "java/lang/invoke/VarHandle" ∧ (parseMethodDescriptor yX2_isGone.desc).map (fun d => d.parameters.length) = some 5 := by decide +kernel
set_option maxHeartbeats 4000000 in
theorem mt_X2_isGone (l : Launch) (D : va_G) (dA : Nat → ClassId) (A : Nat → Prop) (ad : L3 → Nat) (E : L3 → Bool) (k : Nat) (hE : EOK E) (hk : k < 2) (S : Mem) (x1 : Nat) (x2 : Int32) (x3 : Int32) (x4 : Int32) (x5 : Int32) (hx1 : E (S_o k x1) = true) {res : Mem} (hq : f_X2_isGone k S x1 x2 x3 x4 x5 = some res) : Met l yX2_isGone (ws_ yX2_isGone cX2_isGone 7 none) ({ frames := 4, cells := 0, slots := 0, locals := 116 } : Room) (va_Pc [.ref (ad (H_o k)), .ref (ad (S_o k x1)), .int x2, .int x3, .int x4, .int x5] (PreW D dA (shC dA E) (exC E) A ad S)) (QvW D (shC dA E) (exC E) A ad res) 0 0 A :=
  gx_head (by decide) (Nat.le_of_ble_eq_true rfl) (fun p e s m below meth c ls X hP hl => w_X2_isGone (l := l) E k hE hk X ⟨Nat.le_of_ble_eq_true rfl, Nat.le_of_ble_eq_true rfl⟩ S x1 x2 x3 x4 x5 hx1 hP va_S.rf (lv_sub (l := [(0, .ref (ad (H_o k))), (1, .ref (ad (S_o k x1))), (2, .int x2), (3, .int x3), (4, .int x4), (5, .int x5)]) hl [0, 1, 2, 3, 4, 5] rfl) hq)
set_option maxHeartbeats 4000000 in
theorem w_X2_isLost_222 {p : Program} {l : Launch} {e : Env} {R : Room} {s : State} {m : MethodId} {args : Array Value} {below : List Frame} {meth : Method} {c : Code} {D : va_G} {dA : Nat → ClassId} {A : Nat → Prop} {ad : L3 → Nat} (E : L3 → Bool) (k : Nat) (hE : EOK E) (hk : k < 2) (X : CX RX2 cX2_isLost 7 none (KA D dA) p s m args meth c A) (hR : 1 ≤ R.frames ∧ 40 ≤ R.locals) {res : Mem} (S : Mem) (y0 : Int64) (y1 : Nat) (hy1 : y1 < 2) {H : Heap} {locs : List Loc} {ls : Array Slot} (hP : Wd D clA (shC dA E) (exC E) A ad S H) (hS : va_S A s.heap H locs) (hl : lv_has ls 7 []) (hf : f_X2_isLost_222 E k S y0 y1 = some res) : W p l e R s m args below meth c H locs 0 0 (MQ below (QvW D (shC dA E) (exC E) A ad res) args s 0 0 A) (F0 m 222 ls [.long y0, .ref (ad (W_o k y1))]) := by
  have hx := X.hx
  have hb := X.hb
  unfold f_X2_isLost_222 at hf
  refine rp_X2_318 X hP hS (ex_W_o hE hk hy1) dX2_isLost_222 hf (fun S1 H locs hP hS hf => ?_)
  exact gr_vW X hP hS (Option.some.inj hf) dX2_isLost_225
set_option maxHeartbeats 4000000 in
theorem w_X2_isLost_178 {p : Program} {l : Launch} {e : Env} {R : Room} {s : State} {m : MethodId} {args : Array Value} {below : List Frame} {meth : Method} {c : Code} {D : va_G} {dA : Nat → ClassId} {A : Nat → Prop} {ad : L3 → Nat} (E : L3 → Bool) (k : Nat) (hE : EOK E) (hk : k < 2) (X : CX RX2 cX2_isLost 7 none (KA D dA) p s m args meth c A) (hR : 1 ≤ R.frames ∧ 40 ≤ R.locals) {res : Mem} (S : Mem) (x1 : Int32) (x3 : Int64) {H : Heap} {locs : List Loc} {ls : Array Slot} (hP : Wd D clA (shC dA E) (exC E) A ad S H) (hS : va_S A s.heap H locs) (hl : lv_has ls 7 [(0, .ref (ad (H_o k))), (1, .int x1), (3, .long x3)]) (hf : f_X2_isLost_178 E k S x1 x3 = some res) : W p l e R s m args below meth c H locs 0 0 (MQ below (QvW D (shC dA E) (exC E) A ad res) args s 0 0 A) (F0 m 178 ls []) := by
  have hx := X.hx
  have hb := X.hb
  unfold f_X2_isLost_178 at hf
  refine lv_aload_n hx hb dX2_isLost_178 rfl (lv_at hl 0 rfl) ?_
  refine rg_X2_26 X hP (ex_H_o hE hk) dX2_isLost_179 ?_
  refine lv_iload_n hx hb dX2_isLost_182 rfl (lv_at hl 1 rfl) ?_
  refine lv_bipush (v := 22) hx hb dX2_isLost_183 (by decide) ?_
  refine lv_isub hx hb dX2_isLost_185 ?_
  refine ra_H_ways_ld X hP (ex_H_ways hE hk) dX2_isLost_186 hf (fun hi1 hf => ?_)
  refine lv_lload_n hx hb dX2_isLost_187 rfl (lv_at hl 2 rfl) ?_
  refine lv_aload_n hx hb dX2_isLost_188 rfl (lv_at hl 0 rfl) ?_
  refine rg_X2_26 X hP (ex_H_o hE hk) dX2_isLost_189 ?_
  refine lv_iload_n hx hb dX2_isLost_192 rfl (lv_at hl 1 rfl) ?_
  refine lv_bipush (v := 22) hx hb dX2_isLost_193 (by decide) ?_
  refine lv_isub hx hb dX2_isLost_195 ?_
  refine ra_H_ways_ld X hP (ex_H_ways hE hk) dX2_isLost_196 hf (fun hi2 hf => ?_)
  refine rg_X2_318 X hP (ex_W_o hE hk hi2) dX2_isLost_197 ?_
  refine gb_lcmp_ne (tgt := 210) hx hb dX2_isLost_200 dX2_isLost_201 (by decide) hf (fun hf => ?_) (fun hf => ?_)
  · refine lv_aload_n hx hb dX2_isLost_210 rfl (lv_at hl 0 rfl) ?_
    refine rg_X2_26 X hP (ex_H_o hE hk) dX2_isLost_211 ?_
    refine lv_iload_n hx hb dX2_isLost_214 rfl (lv_at hl 1 rfl) ?_
    refine lv_bipush (v := 22) hx hb dX2_isLost_215 (by decide) ?_
    refine lv_isub hx hb dX2_isLost_217 ?_
    refine ra_H_ways_ld X hP (ex_H_ways hE hk) dX2_isLost_218 hf (fun hi3 hf => ?_)
    refine rg_X2_318 X hP (ex_W_o hE hk hi3) dX2_isLost_219 ?_
    exact w_X2_isLost_222 E k hE hk X hR S (S.2 (W_o k (Int32.toNatClampNeg (x1 - 22))) 5) (Int32.toNatClampNeg (x1 - 22)) hi1 hP hS (lv_sub hl [] rfl) hf
  · refine lv_ldc2 hx hb X.hown (X.hts _ q236) dX2_isLost_204 ?_
    refine lv_goto (tgt := 222) hx hb dX2_isLost_207 (by decide) ?_
    exact w_X2_isLost_222 E k hE hk X hR S (-1) (Int32.toNatClampNeg (x1 - 22)) hi1 hP hS (lv_sub hl [] rfl) hf
set_option maxHeartbeats 4000000 in
theorem w_X2_isLost_166 {p : Program} {l : Launch} {e : Env} {R : Room} {s : State} {m : MethodId} {args : Array Value} {below : List Frame} {meth : Method} {c : Code} {D : va_G} {dA : Nat → ClassId} {A : Nat → Prop} {ad : L3 → Nat} (E : L3 → Bool) (k : Nat) (hE : EOK E) (hk : k < 2) (X : CX RX2 cX2_isLost 7 none (KA D dA) p s m args meth c A) (hR : 1 ≤ R.frames ∧ 40 ≤ R.locals) {res : Mem} (S : Mem) (x1 : Int32) (x3 : Int64) {H : Heap} {locs : List Loc} {ls : Array Slot} (hP : Wd D clA (shC dA E) (exC E) A ad S H) (hS : va_S A s.heap H locs) (hl : lv_has ls 7 [(0, .ref (ad (H_o k))), (1, .int x1), (3, .long x3)]) (hf : f_X2_isLost_166 E k S x1 x3 = some res) : W p l e R s m args below meth c H locs 0 0 (MQ below (QvW D (shC dA E) (exC E) A ad res) args s 0 0 A) (F0 m 166 ls []) := by
  have hx := X.hx
  have hb := X.hb
  unfold f_X2_isLost_166 at hf
  refine lv_iload_n hx hb dX2_isLost_166 rfl (lv_at hl 1 rfl) ?_
  refine lv_bipush (v := 22) hx hb dX2_isLost_167 (by decide) ?_
  refine gb_icmp_eq (tgt := 178) hx hb dX2_isLost_169 (by decide) hf (fun hf => ?_) (fun hf => ?_)
  · exact w_X2_isLost_178 E k hE hk X hR S x1 x3 hP hS (lv_sub hl [0, 1, 2] rfl) hf
  · refine lv_iload_n hx hb dX2_isLost_172 rfl (lv_at hl 1 rfl) ?_
    refine lv_bipush (v := 23) hx hb dX2_isLost_173 (by decide) ?_
    refine gb_icmp_ne (tgt := 225) hx hb dX2_isLost_175 (by decide) hf (fun hf => ?_) (fun hf => ?_)
    · exact gr_vW X hP hS (Option.some.inj hf) dX2_isLost_225
    · exact w_X2_isLost_178 E k hE hk X hR S x1 x3 hP hS (lv_sub hl [0, 1, 2] rfl) hf
set_option maxHeartbeats 4000000 in
theorem w_X2_isLost_133 {p : Program} {l : Launch} {e : Env} {R : Room} {s : State} {m : MethodId} {args : Array Value} {below : List Frame} {meth : Method} {c : Code} {D : va_G} {dA : Nat → ClassId} {A : Nat → Prop} {ad : L3 → Nat} (E : L3 → Bool) (k : Nat) (hE : EOK E) (hk : k < 2) (X : CX RX2 cX2_isLost 7 none (KA D dA) p s m args meth c A) (hR : 1 ≤ R.frames ∧ 40 ≤ R.locals) {res : Mem} (S : Mem) (x1 : Int32) (x2 : Int32) (x3 : Int64) (x5 : Int64) {H : Heap} {locs : List Loc} {ls : Array Slot} (hP : Wd D clA (shC dA E) (exC E) A ad S H) (hS : va_S A s.heap H locs) (hl : lv_has ls 7 [(0, .ref (ad (H_o k))), (1, .int x1), (2, .int x2), (3, .long x3), (5, .long x5)]) (hf : f_X2_isLost_133 E k S x1 x2 x3 x5 = some res) : W p l e R s m args below meth c H locs 0 0 (MQ below (QvW D (shC dA E) (exC E) A ad res) args s 0 0 A) (F0 m 133 ls []) := by
  have hx := X.hx
  have hb := X.hb
  unfold f_X2_isLost_133 at hf
  refine lv_iload_n hx hb dX2_isLost_133 rfl (lv_at hl 1 rfl) ?_
  refine lv_bipush (v := 21) hx hb dX2_isLost_134 (by decide) ?_
  refine gb_icmp_ne (tgt := 166) hx hb dX2_isLost_136 (by decide) hf (fun hf => ?_) (fun hf => ?_)
  · exact w_X2_isLost_166 E k hE hk X hR S x1 x3 hP hS (lv_sub hl [0, 1, 3] rfl) hf
  · refine lv_lload hx hb dX2_isLost_139 (lv_at hl 4 rfl) ?_
    refine lv_aload_n hx hb dX2_isLost_141 rfl (lv_at hl 0 rfl) ?_
    refine rg_X2_11 X hP (ex_H_o hE hk) dX2_isLost_142 ?_
    refine lv_iload_n hx hb dX2_isLost_145 rfl (lv_at hl 2 rfl) ?_
    refine ra_H_sendings_ld X hP (ex_H_sendings hE hk) dX2_isLost_146 hf (fun he1 hf => ?_) (fun hf => ?_)
    · refine rg_X2_317 X hP he1 dX2_isLost_147 ?_
      refine gb_lcmp_ne (tgt := 166) hx hb dX2_isLost_150 dX2_isLost_151 (by decide) hf (fun hf => ?_) (fun hf => ?_)
      · exact w_X2_isLost_166 E k hE hk X hR S x1 x3 hP hS (lv_sub hl [0, 1, 3] rfl) hf
      · refine lv_aload_n hx hb dX2_isLost_154 rfl (lv_at hl 0 rfl) ?_
        refine rg_X2_11 X hP (ex_H_o hE hk) dX2_isLost_155 ?_
        refine lv_iload_n hx hb dX2_isLost_158 rfl (lv_at hl 2 rfl) ?_
        refine ra_H_sendings_ld X hP (ex_H_sendings hE hk) dX2_isLost_159 hf (fun he2 hf => ?_) (fun hf => ?_)
        · refine lv_ldc2 hx hb X.hown (X.hts _ q236) dX2_isLost_160 ?_
          refine rp_X2_317 X hP hS he2 dX2_isLost_163 hf (fun S3 H locs hP hS hf => ?_)
          exact w_X2_isLost_166 E k hE hk X hR S3 x1 x3 hP hS (lv_sub hl [0, 1, 3] rfl) hf
        · refine lv_ldc2 hx hb X.hown (X.hts _ q236) dX2_isLost_160 ?_
          cases hf
    · cases hf
set_option maxHeartbeats 4000000 in
theorem w_X2_isLost_111 {p : Program} {l : Launch} {e : Env} {R : Room} {s : State} {m : MethodId} {args : Array Value} {below : List Frame} {meth : Method} {c : Code} {D : va_G} {dA : Nat → ClassId} {A : Nat → Prop} {ad : L3 → Nat} (E : L3 → Bool) (k : Nat) (hE : EOK E) (hk : k < 2) (X : CX RX2 cX2_isLost 7 none (KA D dA) p s m args meth c A) (hR : 1 ≤ R.frames ∧ 40 ≤ R.locals) {res : Mem} (S : Mem) (x1 : Int32) (x2 : Int32) (x3 : Int64) (x5 : Int64) {H : Heap} {locs : List Loc} {ls : Array Slot} (hP : Wd D clA (shC dA E) (exC E) A ad S H) (hS : va_S A s.heap H locs) (hl : lv_has ls 7 [(0, .ref (ad (H_o k))), (1, .int x1), (2, .int x2), (3, .long x3), (5, .long x5)]) (hf : f_X2_isLost_111 E k S x1 x2 x3 x5 = some res) : W p l e R s m args below meth c H locs 0 0 (MQ below (QvW D (shC dA E) (exC E) A ad res) args s 0 0 A) (F0 m 111 ls []) := by
  have hx := X.hx
  have hb := X.hb
  unfold f_X2_isLost_111 at hf
  refine lv_iload_n hx hb dX2_isLost_111 rfl (lv_at hl 1 rfl) ?_
  refine lv_bipush (v := 20) hx hb dX2_isLost_112 (by decide) ?_
  refine gb_icmp_ne (tgt := 133) hx hb dX2_isLost_114 (by decide) hf (fun hf => ?_) (fun hf => ?_)
  · exact w_X2_isLost_133 E k hE hk X hR S x1 x2 x3 x5 hP hS (lv_sub hl [0, 1, 2, 3, 4] rfl) hf
  · refine lv_lload_n hx hb dX2_isLost_117 rfl (lv_at hl 3 rfl) ?_
    refine lv_aload_n hx hb dX2_isLost_118 rfl (lv_at hl 0 rfl) ?_
    refine rg_X2_61 X hP (ex_H_o hE hk) dX2_isLost_119 ?_
    refine gb_lcmp_ne (tgt := 133) hx hb dX2_isLost_122 dX2_isLost_123 (by decide) hf (fun hf => ?_) (fun hf => ?_)
    · exact w_X2_isLost_133 E k hE hk X hR S x1 x2 x3 x5 hP hS (lv_sub hl [0, 1, 2, 3, 4] rfl) hf
    · refine lv_aload_n hx hb dX2_isLost_126 rfl (lv_at hl 0 rfl) ?_
      refine lv_ldc2 hx hb X.hown (X.hts _ q236) dX2_isLost_127 ?_
      refine rp_X2_61 X hP hS (ex_H_o hE hk) dX2_isLost_130 hf (fun S1 H locs hP hS hf => ?_)
      exact w_X2_isLost_133 E k hE hk X hR S1 x1 x2 x3 x5 hP hS (lv_sub hl [0, 1, 2, 3, 4] rfl) hf
set_option maxHeartbeats 4000000 in
theorem w_X2_isLost_80 {p : Program} {l : Launch} {e : Env} {R : Room} {s : State} {m : MethodId} {args : Array Value} {below : List Frame} {meth : Method} {c : Code} {D : va_G} {dA : Nat → ClassId} {A : Nat → Prop} {ad : L3 → Nat} (E : L3 → Bool) (k : Nat) (hE : EOK E) (hk : k < 2) (X : CX RX2 cX2_isLost 7 none (KA D dA) p s m args meth c A) (hR : 1 ≤ R.frames ∧ 40 ≤ R.locals) {res : Mem} (S : Mem) (x1 : Int32) (x2 : Int32) (x3 : Int64) (x5 : Int64) {H : Heap} {locs : List Loc} {ls : Array Slot} (hP : Wd D clA (shC dA E) (exC E) A ad S H) (hS : va_S A s.heap H locs) (hl : lv_has ls 7 [(0, .ref (ad (H_o k))), (1, .int x1), (2, .int x2), (3, .long x3), (5, .long x5)]) (hf : f_X2_isLost_80 E k S x1 x2 x3 x5 = some res) : W p l e R s m args below meth c H locs 0 0 (MQ below (QvW D (shC dA E) (exC E) A ad res) args s 0 0 A) (F0 m 80 ls []) := by
  have hx := X.hx
  have hb := X.hb
  unfold f_X2_isLost_80 at hf
  refine lv_lload_n hx hb dX2_isLost_80 rfl (lv_at hl 3 rfl) ?_
  refine lv_aload_n hx hb dX2_isLost_81 rfl (lv_at hl 0 rfl) ?_
  refine rg_X2_26 X hP (ex_H_o hE hk) dX2_isLost_82 ?_
  refine lv_iload_n hx hb dX2_isLost_85 rfl (lv_at hl 1 rfl) ?_
  refine lv_bipush (v := 18) hx hb dX2_isLost_86 (by decide) ?_
  refine lv_isub hx hb dX2_isLost_88 ?_
  refine ra_H_ways_ld X hP (ex_H_ways hE hk) dX2_isLost_89 hf (fun hi1 hf => ?_)
  refine rg_X2_79 X hP (ex_W_o hE hk hi1) dX2_isLost_90 ?_
  refine lv_i2l hx hb dX2_isLost_93 rfl ?_
  refine gb_lcmp_ne (tgt := 111) hx hb dX2_isLost_94 dX2_isLost_95 (by decide) hf (fun hf => ?_) (fun hf => ?_)
  · exact w_X2_isLost_111 E k hE hk X hR S x1 x2 x3 x5 hP hS (lv_sub hl [0, 1, 2, 3, 4] rfl) hf
  · refine lv_aload_n hx hb dX2_isLost_98 rfl (lv_at hl 0 rfl) ?_
    refine rg_X2_26 X hP (ex_H_o hE hk) dX2_isLost_99 ?_
    refine lv_iload_n hx hb dX2_isLost_102 rfl (lv_at hl 1 rfl) ?_
    refine lv_bipush (v := 18) hx hb dX2_isLost_103 (by decide) ?_
    refine lv_isub hx hb dX2_isLost_105 ?_
    refine ra_H_ways_ld X hP (ex_H_ways hE hk) dX2_isLost_106 hf (fun hi2 hf => ?_)
    refine lv_iconst (v := 1) hx hb dX2_isLost_107 (by decide) ?_
    refine rp_X2_135 X hP hS (ex_W_o hE hk hi2) (by decide) dX2_isLost_108 hf (fun S3 H locs hP hS hf => ?_)
    exact w_X2_isLost_111 E k hE hk X hR S3 x1 x2 x3 x5 hP hS (lv_sub hl [0, 1, 2, 3, 4] rfl) hf
set_option maxHeartbeats 4000000 in
theorem w_X2_isLost_68 {p : Program} {l : Launch} {e : Env} {R : Room} {s : State} {m : MethodId} {args : Array Value} {below : List Frame} {meth : Method} {c : Code} {D : va_G} {dA : Nat → ClassId} {A : Nat → Prop} {ad : L3 → Nat} (E : L3 → Bool) (k : Nat) (hE : EOK E) (hk : k < 2) (X : CX RX2 cX2_isLost 7 none (KA D dA) p s m args meth c A) (hR : 1 ≤ R.frames ∧ 40 ≤ R.locals) {res : Mem} (S : Mem) (x1 : Int32) (x2 : Int32) (x3 : Int64) (x5 : Int64) {H : Heap} {locs : List Loc} {ls : Array Slot} (hP : Wd D clA (shC dA E) (exC E) A ad S H) (hS : va_S A s.heap H locs) (hl : lv_has ls 7 [(0, .ref (ad (H_o k))), (1, .int x1), (2, .int x2), (3, .long x3), (5, .long x5)]) (hf : f_X2_isLost_68 E k S x1 x2 x3 x5 = some res) : W p l e R s m args below meth c H locs 0 0 (MQ below (QvW D (shC dA E) (exC E) A ad res) args s 0 0 A) (F0 m 68 ls []) := by
  have hx := X.hx
  have hb := X.hb
  unfold f_X2_isLost_68 at hf
  refine lv_iload_n hx hb dX2_isLost_68 rfl (lv_at hl 1 rfl) ?_
  refine lv_bipush (v := 18) hx hb dX2_isLost_69 (by decide) ?_
  refine gb_icmp_eq (tgt := 80) hx hb dX2_isLost_71 (by decide) hf (fun hf => ?_) (fun hf => ?_)
  · exact w_X2_isLost_80 E k hE hk X hR S x1 x2 x3 x5 hP hS (lv_sub hl [0, 1, 2, 3, 4] rfl) hf
  · refine lv_iload_n hx hb dX2_isLost_74 rfl (lv_at hl 1 rfl) ?_
    refine lv_bipush (v := 19) hx hb dX2_isLost_75 (by decide) ?_
    refine gb_icmp_ne (tgt := 111) hx hb dX2_isLost_77 (by decide) hf (fun hf => ?_) (fun hf => ?_)
    · exact w_X2_isLost_111 E k hE hk X hR S x1 x2 x3 x5 hP hS (lv_sub hl [0, 1, 2, 3, 4] rfl) hf
    · exact w_X2_isLost_80 E k hE hk X hR S x1 x2 x3 x5 hP hS (lv_sub hl [0, 1, 2, 3, 4] rfl) hf
set_option maxHeartbeats 4000000 in
theorem w_X2_isLost_36 {p : Program} {l : Launch} {e : Env} {R : Room} {s : State} {m : MethodId} {args : Array Value} {below : List Frame} {meth : Method} {c : Code} {D : va_G} {dA : Nat → ClassId} {A : Nat → Prop} {ad : L3 → Nat} (E : L3 → Bool) (k : Nat) (hE : EOK E) (hk : k < 2) (X : CX RX2 cX2_isLost 7 none (KA D dA) p s m args meth c A) (hR : 1 ≤ R.frames ∧ 40 ≤ R.locals) {res : Mem} (S : Mem) (x1 : Int32) (x2 : Int32) (x3 : Int64) (x5 : Int64) {H : Heap} {locs : List Loc} {ls : Array Slot} (hP : Wd D clA (shC dA E) (exC E) A ad S H) (hS : va_S A s.heap H locs) (hl : lv_has ls 7 [(0, .ref (ad (H_o k))), (1, .int x1), (2, .int x2), (3, .long x3), (5, .long x5)]) (hf : f_X2_isLost_36 E k S x1 x2 x3 x5 = some res) : W p l e R s m args below meth c H locs 0 0 (MQ below (QvW D (shC dA E) (exC E) A ad res) args s 0 0 A) (F0 m 36 ls []) := by
  have hx := X.hx
  have hb := X.hb
  unfold f_X2_isLost_36 at hf
  refine lv_iload_n hx hb dX2_isLost_36 rfl (lv_at hl 1 rfl) ?_
  refine lv_bipush (v := 17) hx hb dX2_isLost_37 (by decide) ?_
  refine gb_icmp_ne (tgt := 68) hx hb dX2_isLost_39 (by decide) hf (fun hf => ?_) (fun hf => ?_)
  · exact w_X2_isLost_68 E k hE hk X hR S x1 x2 x3 x5 hP hS (lv_sub hl [0, 1, 2, 3, 4] rfl) hf
  · refine lv_lload hx hb dX2_isLost_42 (lv_at hl 4 rfl) ?_
    refine lv_aload_n hx hb dX2_isLost_44 rfl (lv_at hl 0 rfl) ?_
    refine rg_X2_19 X hP (ex_H_o hE hk) dX2_isLost_45 ?_
    refine lv_iload_n hx hb dX2_isLost_48 rfl (lv_at hl 2 rfl) ?_
    refine ra_H_receivings_ld X hP (ex_H_receivings hE hk) dX2_isLost_49 hf (fun he1 hf => ?_) (fun hf => ?_)
    · refine rg_X2_214 X hP he1 dX2_isLost_50 ?_
      refine lv_i2l hx hb dX2_isLost_53 rfl ?_
      refine gb_lcmp_ne (tgt := 68) hx hb dX2_isLost_54 dX2_isLost_55 (by decide) hf (fun hf => ?_) (fun hf => ?_)
      · exact w_X2_isLost_68 E k hE hk X hR S x1 x2 x3 x5 hP hS (lv_sub hl [0, 1, 2, 3, 4] rfl) hf
      · refine lv_aload_n hx hb dX2_isLost_58 rfl (lv_at hl 0 rfl) ?_
        refine rg_X2_19 X hP (ex_H_o hE hk) dX2_isLost_59 ?_
        refine lv_iload_n hx hb dX2_isLost_62 rfl (lv_at hl 2 rfl) ?_
        refine ra_H_receivings_ld X hP (ex_H_receivings hE hk) dX2_isLost_63 hf (fun he2 hf => ?_) (fun hf => ?_)
        · refine lv_iconst (v := 1) hx hb dX2_isLost_64 (by decide) ?_
          refine rp_X2_217 X hP hS he2 (by decide) dX2_isLost_65 hf (fun S3 H locs hP hS hf => ?_)
          exact w_X2_isLost_68 E k hE hk X hR S3 x1 x2 x3 x5 hP hS (lv_sub hl [0, 1, 2, 3, 4] rfl) hf
        · refine lv_iconst (v := 1) hx hb dX2_isLost_64 (by decide) ?_
          cases hf
    · cases hf
set_option maxHeartbeats 4000000 in
theorem w_X2_isLost_15 {p : Program} {l : Launch} {e : Env} {R : Room} {s : State} {m : MethodId} {args : Array Value} {below : List Frame} {meth : Method} {c : Code} {D : va_G} {dA : Nat → ClassId} {A : Nat → Prop} {ad : L3 → Nat} (E : L3 → Bool) (k : Nat) (hE : EOK E) (hk : k < 2) (X : CX RX2 cX2_isLost 7 none (KA D dA) p s m args meth c A) (hR : 1 ≤ R.frames ∧ 40 ≤ R.locals) {res : Mem} (S : Mem) (x1 : Int32) (x2 : Int32) (x3 : Int64) (x5 : Int64) {H : Heap} {locs : List Loc} {ls : Array Slot} (hP : Wd D clA (shC dA E) (exC E) A ad S H) (hS : va_S A s.heap H locs) (hl : lv_has ls 7 [(0, .ref (ad (H_o k))), (1, .int x1), (2, .int x2), (3, .long x3), (5, .long x5)]) (hf : f_X2_isLost_15 E k S x1 x2 x3 x5 = some res) : W p l e R s m args below meth c H locs 0 0 (MQ below (QvW D (shC dA E) (exC E) A ad res) args s 0 0 A) (F0 m 15 ls []) := by
  have hx := X.hx
  have hb := X.hb
  unfold f_X2_isLost_15 at hf
  refine lv_iload_n hx hb dX2_isLost_15 rfl (lv_at hl 1 rfl) ?_
  refine lv_bipush (v := 16) hx hb dX2_isLost_16 (by decide) ?_
  refine gb_icmp_ne (tgt := 36) hx hb dX2_isLost_18 (by decide) hf (fun hf => ?_) (fun hf => ?_)
  · exact w_X2_isLost_36 E k hE hk X hR S x1 x2 x3 x5 hP hS (lv_sub hl [0, 1, 2, 3, 4] rfl) hf
  · refine lv_lload_n hx hb dX2_isLost_21 rfl (lv_at hl 3 rfl) ?_
    refine lv_aload_n hx hb dX2_isLost_22 rfl (lv_at hl 0 rfl) ?_
    refine rg_X2_76 X hP (ex_H_o hE hk) dX2_isLost_23 ?_
    refine lv_i2l hx hb dX2_isLost_26 rfl ?_
    refine gb_lcmp_ne (tgt := 36) hx hb dX2_isLost_27 dX2_isLost_28 (by decide) hf (fun hf => ?_) (fun hf => ?_)
    · exact w_X2_isLost_36 E k hE hk X hR S x1 x2 x3 x5 hP hS (lv_sub hl [0, 1, 2, 3, 4] rfl) hf
    · refine lv_aload_n hx hb dX2_isLost_31 rfl (lv_at hl 0 rfl) ?_
      refine lv_iconst (v := 1) hx hb dX2_isLost_32 (by decide) ?_
      refine rp_X2_208 X hP hS (ex_H_o hE hk) (by decide) dX2_isLost_33 hf (fun S1 H locs hP hS hf => ?_)
      exact w_X2_isLost_36 E k hE hk X hR S1 x1 x2 x3 x5 hP hS (lv_sub hl [0, 1, 2, 3, 4] rfl) hf
set_option maxHeartbeats 4000000 in
theorem w_X2_isLost {p : Program} {l : Launch} {e : Env} {R : Room} {s : State} {m : MethodId} {args : Array Value} {below : List Frame} {meth : Method} {c : Code} {D : va_G} {dA : Nat → ClassId} {A : Nat → Prop} {ad : L3 → Nat} (E : L3 → Bool) (k : Nat) (hE : EOK E) (hk : k < 2) (X : CX RX2 cX2_isLost 7 none (KA D dA) p s m args meth c A) (hR : 1 ≤ R.frames ∧ 40 ≤ R.locals) {res : Mem} (S : Mem) (x1 : Int32) (x2 : Int32) (x3 : Int64) (x5 : Int64) {H : Heap} {locs : List Loc} {ls : Array Slot} (hP : Wd D clA (shC dA E) (exC E) A ad S H) (hS : va_S A s.heap H locs) (hl : lv_has ls 7 [(0, .ref (ad (H_o k))), (1, .int x1), (2, .int x2), (3, .long x3), (5, .long x5)]) (hf : f_X2_isLost E k S x1 x2 x3 x5 = some res) : W p l e R s m args below meth c H locs 0 0 (MQ below (QvW D (shC dA E) (exC E) A ad res) args s 0 0 A) (F0 m 0 ls []) := by
  have hx := X.hx
  have hb := X.hb
  unfold f_X2_isLost at hf
  refine lv_iload_n hx hb dX2_isLost_0 rfl (lv_at hl 1 rfl) ?_
  refine lv_iconst (v := 5) hx hb dX2_isLost_1 (by decide) ?_
  refine gb_icmp_ne (tgt := 15) hx hb dX2_isLost_2 (by decide) hf (fun hf => ?_) (fun hf => ?_)
  · exact w_X2_isLost_15 E k hE hk X hR S x1 x2 x3 x5 hP hS (lv_sub hl [0, 1, 2, 3, 4] rfl) hf
  · refine lv_aload_n hx hb dX2_isLost_5 rfl (lv_at hl 0 rfl) ?_
    refine rg_X2_19 X hP (ex_H_o hE hk) dX2_isLost_6 ?_
    refine lv_iload_n hx hb dX2_isLost_9 rfl (lv_at hl 2 rfl) ?_
    refine ra_H_receivings_ld X hP (ex_H_receivings hE hk) dX2_isLost_10 hf (fun he1 hf => ?_) (fun hf => ?_)
    · refine lv_iconst (v := 1) hx hb dX2_isLost_11 (by decide) ?_
      refine rp_X2_174 X hP hS he1 (by decide) dX2_isLost_12 hf (fun S2 H locs hP hS hf => ?_)
      exact w_X2_isLost_15 E k hE hk X hR S2 x1 x2 x3 x5 hP hS (lv_sub hl [0, 1, 2, 3, 4] rfl) hf
    · refine lv_iconst (v := 1) hx hb dX2_isLost_11 (by decide) ?_
      cases hf
theorem hd_X2_isLost : yX2_isLost.cls = RX2 ∧ yX2_isLost.cls ≠ "java/lang/invoke/MethodHandle" ∧ yX2_isLost.cls ≠ "java/lang/invoke/VarHandle" ∧ (parseMethodDescriptor yX2_isLost.desc).map (fun d => d.parameters.length) = some 4 := by decide +kernel
set_option maxHeartbeats 4000000 in
theorem mt_X2_isLost (l : Launch) (D : va_G) (dA : Nat → ClassId) (A : Nat → Prop) (ad : L3 → Nat) (E : L3 → Bool) (k : Nat) (hE : EOK E) (hk : k < 2) (S : Mem) (x1 : Int32) (x2 : Int32) (x3 : Int64) (x5 : Int64) {res : Mem} (hq : f_X2_isLost E k S x1 x2 x3 x5 = some res) : Met l yX2_isLost (ws_ yX2_isLost cX2_isLost 7 none) ({ frames := 1, cells := 0, slots := 0, locals := 40 } : Room) (va_Pc [.ref (ad (H_o k)), .int x1, .int x2, .long x3, .long x5] (PreW D dA (shC dA E) (exC E) A ad S)) (QvW D (shC dA E) (exC E) A ad res) 0 0 A :=
  gx_head (by decide) (Nat.le_of_ble_eq_true rfl) (fun p e s m below meth c ls X hP hl => w_X2_isLost (l := l) E k hE hk X ⟨Nat.le_of_ble_eq_true rfl, Nat.le_of_ble_eq_true rfl⟩ S x1 x2 x3 x5 hP va_S.rf (lv_sub (l := [(0, .ref (ad (H_o k))), (1, .int x1), (2, .int x2), (3, .long x3), (5, .long x5)]) hl [0, 1, 2, 3, 4] rfl) hq)
