set_option maxRecDepth 100000
set_option maxHeartbeats 4000000 in
theorem w_X2_fillsEnds_65 {p : Program} {l : Launch} {e : Env} {R : Room} {s : State} {m : MethodId} {args : Array Value} {below : List Frame} {meth : Method} {c : Code} {D : va_G} {dA : Nat → ClassId} {A : Nat → Prop} {ad : L3 → Nat} (E : L3 → Bool) (k : Nat) (hE : EOK E) (hk : k < 2) (X : CX RX2 cX2_fillsEnds 4 (some .boolean) (KA D dA) p s m args meth c A) (hR : 3 ≤ R.frames ∧ 91 ≤ R.locals) {res : Mem × Int32} (k2 : Mem → Int32 → Int32 → Option (Mem × Int32)) (hk2 : ∀ (S : Mem) (x1 : Int32) (x2 : Int32) (H : Heap) (locs : List Loc) (ls : Array Slot), Wd D clA (shC dA E) (exC E) A ad S H → va_S A s.heap H locs → lv_has ls 4 [(0, .ref (ad (H_o k))), (1, .int x1), (2, .int x2)] → k2 S x1 x2 = some res → W p l e R s m args below meth c H locs 0 0 (MQ below (QiW D (shC dA E) (exC E) A ad res) args s 0 0 A) (F0 m 2 ls [])) (S : Mem) (x1 : Int32) (x2 : Int32) {H : Heap} {locs : List Loc} {ls : Array Slot} (hP : Wd D clA (shC dA E) (exC E) A ad S H) (hS : va_S A s.heap H locs) (hl : lv_has ls 4 [(0, .ref (ad (H_o k))), (1, .int x1), (2, .int x2)]) (hf : f_X2_fillsEnds_65 E k k2 S x1 x2 = some res) : W p l e R s m args below meth c H locs 0 0 (MQ below (QiW D (shC dA E) (exC E) A ad res) args s 0 0 A) (F0 m 65 ls []) := by
  have hx := X.hx
  have hb := X.hb
  unfold f_X2_fillsEnds_65 at hf
  refine lv_iinc (v := (x2 + 1)) (lv' := [(2, .int (x2 + 1)), (0, .ref (ad (H_o k))), (1, .int x1)]) hx hb dX2_fillsEnds_65 hl (k := 2) rfl rfl (by decide) rfl (fun ls hl => ?_)
  refine lv_goto (tgt := 2) hx hb dX2_fillsEnds_68 (by decide) ?_
  exact hk2 S x1 (x2 + 1) _ _ _ hP hS (lv_sub hl [1, 2, 0] rfl) hf
set_option maxHeartbeats 4000000 in
theorem w_X2_fillsEnds_131 {p : Program} {l : Launch} {e : Env} {R : Room} {s : State} {m : MethodId} {args : Array Value} {below : List Frame} {meth : Method} {c : Code} {D : va_G} {dA : Nat → ClassId} {A : Nat → Prop} {ad : L3 → Nat} (E : L3 → Bool) (k : Nat) (hE : EOK E) (hk : k < 2) (X : CX RX2 cX2_fillsEnds 4 (some .boolean) (KA D dA) p s m args meth c A) (hR : 3 ≤ R.frames ∧ 91 ≤ R.locals) {res : Mem × Int32} (k73 : Mem → Int32 → Int32 → Option (Mem × Int32)) (hk73 : ∀ (S : Mem) (x1 : Int32) (x2 : Int32) (H : Heap) (locs : List Loc) (ls : Array Slot), Wd D clA (shC dA E) (exC E) A ad S H → va_S A s.heap H locs → lv_has ls 4 [(0, .ref (ad (H_o k))), (1, .int x1), (2, .int x2)] → k73 S x1 x2 = some res → W p l e R s m args below meth c H locs 0 0 (MQ below (QiW D (shC dA E) (exC E) A ad res) args s 0 0 A) (F0 m 73 ls [])) (S : Mem) (x1 : Int32) (x2 : Int32) {H : Heap} {locs : List Loc} {ls : Array Slot} (hP : Wd D clA (shC dA E) (exC E) A ad S H) (hS : va_S A s.heap H locs) (hl : lv_has ls 4 [(0, .ref (ad (H_o k))), (1, .int x1), (2, .int x2)]) (hf : f_X2_fillsEnds_131 E k k73 S x1 x2 = some res) : W p l e R s m args below meth c H locs 0 0 (MQ below (QiW D (shC dA E) (exC E) A ad res) args s 0 0 A) (F0 m 131 ls []) := by
  have hx := X.hx
  have hb := X.hb
  unfold f_X2_fillsEnds_131 at hf
  refine lv_iinc (v := (x2 + 1)) (lv' := [(2, .int (x2 + 1)), (0, .ref (ad (H_o k))), (1, .int x1)]) hx hb dX2_fillsEnds_131 hl (k := 2) rfl rfl (by decide) rfl (fun ls hl => ?_)
  refine lv_goto (tgt := 73) hx hb dX2_fillsEnds_134 (by decide) ?_
  exact hk73 S x1 (x2 + 1) _ _ _ hP hS (lv_sub hl [1, 2, 0] rfl) hf
set_option maxHeartbeats 4000000 in
theorem w_X2_fillsEnds_73_b {p : Program} {l : Launch} {e : Env} {R : Room} {s : State} {m : MethodId} {args : Array Value} {below : List Frame} {meth : Method} {c : Code} {D : va_G} {dA : Nat → ClassId} {A : Nat → Prop} {ad : L3 → Nat} (E : L3 → Bool) (k : Nat) (hE : EOK E) (hk : k < 2) (X : CX RX2 cX2_fillsEnds 4 (some .boolean) (KA D dA) p s m args meth c A) (hR : 3 ≤ R.frames ∧ 91 ≤ R.locals) {res : Mem × Int32} (k73 : Mem → Int32 → Int32 → Option (Mem × Int32)) (hk73 : ∀ (S : Mem) (x1 : Int32) (x2 : Int32) (H : Heap) (locs : List Loc) (ls : Array Slot), Wd D clA (shC dA E) (exC E) A ad S H → va_S A s.heap H locs → lv_has ls 4 [(0, .ref (ad (H_o k))), (1, .int x1), (2, .int x2)] → k73 S x1 x2 = some res → W p l e R s m args below meth c H locs 0 0 (MQ below (QiW D (shC dA E) (exC E) A ad res) args s 0 0 A) (F0 m 73 ls [])) (S : Mem) (x1 : Int32) (x2 : Int32) {H : Heap} {locs : List Loc} {ls : Array Slot} (hP : Wd D clA (shC dA E) (exC E) A ad S H) (hS : va_S A s.heap H locs) (hl : lv_has ls 4 [(0, .ref (ad (H_o k))), (1, .int x1), (2, .int x2)]) (hf : f_X2_fillsEnds_73_b E k k73 S x1 x2 = some res) : W p l e R s m args below meth c H locs 0 0 (MQ below (QiW D (shC dA E) (exC E) A ad res) args s 0 0 A) (F0 m 73 ls []) := by
  have hx := X.hx
  have hb := X.hb
  unfold f_X2_fillsEnds_73_b at hf
  refine lv_iload_n hx hb dX2_fillsEnds_73 rfl (lv_at hl 2 rfl) ?_
  refine lv_sipush (v := 256) hx hb dX2_fillsEnds_74 (by decide) ?_
  refine gb_icmp_ge (tgt := 137) hx hb dX2_fillsEnds_77 (by decide) hf (fun hf => ?_) (fun hf => ?_)
  · refine lv_iconst (v := 0) hx hb dX2_fillsEnds_137 (by decide) ?_
    exact gr_zW X hP hS (Option.some.inj hf) (by decide) dX2_fillsEnds_138
  · refine lv_aload_n hx hb dX2_fillsEnds_80 rfl (lv_at hl 0 rfl) ?_
    refine rg_X2_19 X hP (ex_H_o hE hk) dX2_fillsEnds_81 ?_
    refine lv_iload_n hx hb dX2_fillsEnds_84 rfl (lv_at hl 2 rfl) ?_
    refine ra_H_receivings_ld X hP (ex_H_receivings hE hk) dX2_fillsEnds_85 hf (fun he1 hf => ?_) (fun hf => ?_)
    · refine lv_astore_n (lv' := [(3, .ref (ad (R_o k (Int32.toNatClampNeg x2)))), (0, .ref (ad (H_o k))), (1, .int x1), (2, .int x2)]) hx hb dX2_fillsEnds_86 rfl hl (by decide) rfl (fun ls hl => ?_)
      refine lv_aload_n hx hb dX2_fillsEnds_87 rfl (lv_at hl 0 rfl) ?_
      refine lv_ifnull hx hb dX2_fillsEnds_88 ?_
      refine lv_aload_n hx hb dX2_fillsEnds_91 rfl (lv_at hl 0 rfl) ?_
      obtain ⟨v2, hq, hf⟩ := gS_eq hf
      refine gc_i (gc_fixV (S := S) X (mt_X10_isLive l D dA A ad E k (Int32.toNatClampNeg x2) hE hk he1 S hq) (lw_V q735 q736 q737 q101 q738) ⟨rfl, rfl⟩ hd_X10_isLive ⟨Nat.le_trans (Nat.le_of_ble_eq_true rfl) hR.1, Nat.le_trans (Nat.le_of_ble_eq_true rfl) hR.2⟩ (wd_recv (r := R_o k (Int32.toNatClampNeg x2)) (ci := 9) (q := (RX10, TX10, 13)) X.hK.1 hP he1 rfl rfl) hP hS ⟨Nat.zero_le _, Nat.zero_le _⟩ rfl hl.1 rfl (Nat.le_of_ble_eq_true rfl) dX2_fillsEnds_92) hS ?_
      rintro _ _ H locs ⟨rfl, rfl⟩ hP hS
      refine gb_if_eq (tgt := 131) hx hb dX2_fillsEnds_95 (by decide) hf (fun hf => ?_) (fun hf => ?_)
      · exact w_X2_fillsEnds_131 E k hE hk X hR k73 hk73 S x1 x2 hP hS (lv_sub hl [1, 2, 3] rfl) hf
      · refine lv_aload_n hx hb dX2_fillsEnds_98 rfl (lv_at hl 0 rfl) ?_
        refine rg_X2_174 X hP he1 dX2_fillsEnds_99 ?_
        refine gb_if_eq (tgt := 131) hx hb dX2_fillsEnds_102 (by decide) hf (fun hf => ?_) (fun hf => ?_)
        · exact w_X2_fillsEnds_131 E k hE hk X hR k73 hk73 S x1 x2 hP hS (lv_sub hl [1, 2, 3] rfl) hf
        · refine lv_aload_n hx hb dX2_fillsEnds_105 rfl (lv_at hl 1 rfl) ?_
          refine lv_iconst (v := 5) hx hb dX2_fillsEnds_106 (by decide) ?_
          refine lv_iload_n hx hb dX2_fillsEnds_107 rfl (lv_at hl 3 rfl) ?_
          refine lv_i2l hx hb dX2_fillsEnds_108 rfl ?_
          refine lv_aload_n hx hb dX2_fillsEnds_109 rfl (lv_at hl 0 rfl) ?_
          refine rg_X2_177 X hP he1 dX2_fillsEnds_110 ?_
          refine lv_lconst (v := 0) hx hb dX2_fillsEnds_113 (by decide) ?_
          refine lv_iload_n hx hb dX2_fillsEnds_114 rfl (lv_at hl 2 rfl) ?_
          obtain ⟨S3, v4, hq, hf⟩ := gS2_eq hf
          refine gc_i (gc_fixV (S := S) X (mt_X2_frame l D dA A ad E k hE hk S (5 : Int32) (Int32.toInt64 x2) (S.2 (R_o k (Int32.toNatClampNeg x2)) 9) (0 : Int64) x1 hq) (lw_V q812 q814 qs16 q87 q815) ⟨rfl, rfl⟩ hd_X2_frame ⟨Nat.le_trans (Nat.le_of_ble_eq_true rfl) hR.1, Nat.le_trans (Nat.le_of_ble_eq_true rfl) hR.2⟩ (wd_recv (r := H_o k) (ci := 2) (q := (RX2, TX2, 23)) X.hK.1 hP (ex_H_o hE hk) rfl rfl) hP hS ⟨Nat.zero_le _, Nat.zero_le _⟩ rfl hl.1 rfl (Nat.le_of_ble_eq_true rfl) dX2_fillsEnds_115) hS ?_
          rintro _ _ H locs ⟨⟩ hP hS
          refine gb_if_ne (tgt := 124) hx hb dX2_fillsEnds_118 (by decide) hf (fun hf => ?_) (fun hf => ?_)
          · refine lv_aload_n hx hb dX2_fillsEnds_124 rfl (lv_at hl 0 rfl) ?_
            refine lv_iconst (v := 0) hx hb dX2_fillsEnds_125 (by decide) ?_
            refine rp_X2_174 X hP hS he1 (by decide) dX2_fillsEnds_126 hf (fun S5 H locs hP hS hf => ?_)
            refine lv_iconst (v := 1) hx hb dX2_fillsEnds_129 (by decide) ?_
            exact gr_zW X hP hS (Option.some.inj hf) (by decide) dX2_fillsEnds_130
          · refine lv_goto (tgt := 131) hx hb dX2_fillsEnds_121 (by decide) ?_
            exact w_X2_fillsEnds_131 E k hE hk X hR k73 hk73 S3 x1 x2 hP hS (lv_sub hl [1, 2, 3] rfl) hf
    · refine lv_astore_nN (lv' := [(3, .null), (0, .ref (ad (H_o k))), (1, .int x1), (2, .int x2)]) hx hb dX2_fillsEnds_86 rfl hl (by decide) rfl (fun ls hl => ?_)
      refine lv_aload_nN hx hb dX2_fillsEnds_87 rfl (lv_at hl 0 rfl) ?_
      refine lv_ifnullN (tgt := 131) hx hb dX2_fillsEnds_88 (by decide) ?_
      exact w_X2_fillsEnds_131 E k hE hk X hR k73 hk73 S x1 x2 hP hS (lv_sub hl [1, 2, 3] rfl) hf
set_option maxHeartbeats 4000000 in
theorem w_X2_fillsEnds_73 {p : Program} {l : Launch} {e : Env} {R : Room} {s : State} {m : MethodId} {args : Array Value} {below : List Frame} {meth : Method} {c : Code} {D : va_G} {dA : Nat → ClassId} {A : Nat → Prop} {ad : L3 → Nat} (E : L3 → Bool) (k : Nat) (hE : EOK E) (hk : k < 2) (X : CX RX2 cX2_fillsEnds 4 (some .boolean) (KA D dA) p s m args meth c A) (hR : 3 ≤ R.frames ∧ 91 ≤ R.locals) {res : Mem × Int32} (n : Nat) : ∀ (S : Mem) (x1 : Int32) (x2 : Int32) (H : Heap) (locs : List Loc) (ls : Array Slot), Wd D clA (shC dA E) (exC E) A ad S H → va_S A s.heap H locs → lv_has ls 4 [(0, .ref (ad (H_o k))), (1, .int x1), (2, .int x2)] → f_X2_fillsEnds_73 E k n S x1 x2 = some res → W p l e R s m args below meth c H locs 0 0 (MQ below (QiW D (shC dA E) (exC E) A ad res) args s 0 0 A) (F0 m 73 ls []) := by
  induction n with
  | zero =>
    intro S x1 x2 H locs ls hP hS hl hf
    exact absurd (show none = some res from hf) (fun h => by cases h)
  | succ n ih =>
    intro S x1 x2 H locs ls hP hS hl hf
    exact w_X2_fillsEnds_73_b E k hE hk X hR (f_X2_fillsEnds_73 E k n) ih S x1 x2 hP hS hl hf
set_option maxHeartbeats 4000000 in
theorem w_X2_fillsEnds_2_b {p : Program} {l : Launch} {e : Env} {R : Room} {s : State} {m : MethodId} {args : Array Value} {below : List Frame} {meth : Method} {c : Code} {D : va_G} {dA : Nat → ClassId} {A : Nat → Prop} {ad : L3 → Nat} (E : L3 → Bool) (k : Nat) (hE : EOK E) (hk : k < 2) (X : CX RX2 cX2_fillsEnds 4 (some .boolean) (KA D dA) p s m args meth c A) (hR : 3 ≤ R.frames ∧ 91 ≤ R.locals) {res : Mem × Int32} (k2 : Mem → Int32 → Int32 → Option (Mem × Int32)) (hk2 : ∀ (S : Mem) (x1 : Int32) (x2 : Int32) (H : Heap) (locs : List Loc) (ls : Array Slot), Wd D clA (shC dA E) (exC E) A ad S H → va_S A s.heap H locs → lv_has ls 4 [(0, .ref (ad (H_o k))), (1, .int x1), (2, .int x2)] → k2 S x1 x2 = some res → W p l e R s m args below meth c H locs 0 0 (MQ below (QiW D (shC dA E) (exC E) A ad res) args s 0 0 A) (F0 m 2 ls [])) (S : Mem) (x1 : Int32) (x2 : Int32) {H : Heap} {locs : List Loc} {ls : Array Slot} (hP : Wd D clA (shC dA E) (exC E) A ad S H) (hS : va_S A s.heap H locs) (hl : lv_has ls 4 [(0, .ref (ad (H_o k))), (1, .int x1), (2, .int x2)]) (hf : f_X2_fillsEnds_2_b E k k2 S x1 x2 = some res) : W p l e R s m args below meth c H locs 0 0 (MQ below (QiW D (shC dA E) (exC E) A ad res) args s 0 0 A) (F0 m 2 ls []) := by
  have hx := X.hx
  have hb := X.hb
  unfold f_X2_fillsEnds_2_b at hf
  refine lv_iload_n hx hb dX2_fillsEnds_2 rfl (lv_at hl 2 rfl) ?_
  refine lv_sipush (v := 256) hx hb dX2_fillsEnds_3 (by decide) ?_
  refine gb_icmp_ge (tgt := 71) hx hb dX2_fillsEnds_6 (by decide) hf (fun hf => ?_) (fun hf => ?_)
  · refine lv_iconst (v := 0) hx hb dX2_fillsEnds_71 (by decide) ?_
    refine lv_istore_n (lv' := [(2, .int 0), (0, .ref (ad (H_o k))), (1, .int x1)]) hx hb dX2_fillsEnds_72 rfl hl (by decide) rfl (fun ls hl => ?_)
    exact w_X2_fillsEnds_73 E k hE hk X hR FU S x1 0 _ _ _ hP hS (lv_sub hl [1, 2, 0] rfl) hf
  · refine lv_aload_n hx hb dX2_fillsEnds_9 rfl (lv_at hl 0 rfl) ?_
    refine rg_X2_11 X hP (ex_H_o hE hk) dX2_fillsEnds_10 ?_
    refine lv_iload_n hx hb dX2_fillsEnds_13 rfl (lv_at hl 2 rfl) ?_
    refine ra_H_sendings_ld X hP (ex_H_sendings hE hk) dX2_fillsEnds_14 hf (fun he1 hf => ?_) (fun hf => ?_)
    · refine lv_astore_n (lv' := [(3, .ref (ad (S_o k (Int32.toNatClampNeg x2)))), (0, .ref (ad (H_o k))), (1, .int x1), (2, .int x2)]) hx hb dX2_fillsEnds_15 rfl hl (by decide) rfl (fun ls hl => ?_)
      refine lv_aload_n hx hb dX2_fillsEnds_16 rfl (lv_at hl 0 rfl) ?_
      refine lv_ifnull hx hb dX2_fillsEnds_17 ?_
      refine lv_aload_n hx hb dX2_fillsEnds_20 rfl (lv_at hl 0 rfl) ?_
      refine rg_X2_150 X hP he1 dX2_fillsEnds_21 ?_
      refine lv_iconst (v := 3) hx hb dX2_fillsEnds_24 (by decide) ?_
      refine gb_icmp_ne (tgt := 65) hx hb dX2_fillsEnds_25 (by decide) hf (fun hf => ?_) (fun hf => ?_)
      · exact w_X2_fillsEnds_65 E k hE hk X hR k2 hk2 S x1 x2 hP hS (lv_sub hl [1, 2, 3] rfl) hf
      · refine lv_aload_n hx hb dX2_fillsEnds_28 rfl (lv_at hl 0 rfl) ?_
        refine rg_X2_296 X hP he1 dX2_fillsEnds_29 ?_
        refine gb_if_eq (tgt := 65) hx hb dX2_fillsEnds_32 (by decide) hf (fun hf => ?_) (fun hf => ?_)
        · exact w_X2_fillsEnds_65 E k hE hk X hR k2 hk2 S x1 x2 hP hS (lv_sub hl [1, 2, 3] rfl) hf
        · refine lv_aload_n hx hb dX2_fillsEnds_35 rfl (lv_at hl 1 rfl) ?_
          refine lv_iconst (v := 4) hx hb dX2_fillsEnds_36 (by decide) ?_
          refine lv_iload_n hx hb dX2_fillsEnds_37 rfl (lv_at hl 3 rfl) ?_
          refine lv_i2l hx hb dX2_fillsEnds_38 rfl ?_
          refine lv_aload_n hx hb dX2_fillsEnds_39 rfl (lv_at hl 0 rfl) ?_
          refine rg_X2_299 X hP he1 dX2_fillsEnds_40 ?_
          refine lv_aload_n hx hb dX2_fillsEnds_43 rfl (lv_at hl 0 rfl) ?_
          refine rg_X2_300 X hP he1 dX2_fillsEnds_44 ?_
          refine lv_i2l hx hb dX2_fillsEnds_47 rfl ?_
          refine lv_iload_n hx hb dX2_fillsEnds_48 rfl (lv_at hl 2 rfl) ?_
          obtain ⟨S2, v3, hq, hf⟩ := gS2_eq hf
          refine gc_i (gc_fixV (S := S) X (mt_X2_frame l D dA A ad E k hE hk S (4 : Int32) (Int32.toInt64 x2) (S.2 (S_o k (Int32.toNatClampNeg x2)) 9) (Int32.toInt64 (S.1 (S_o k (Int32.toNatClampNeg x2)) 2)) x1 hq) (lw_V q812 q814 qs16 q87 q815) ⟨rfl, rfl⟩ hd_X2_frame ⟨Nat.le_trans (Nat.le_of_ble_eq_true rfl) hR.1, Nat.le_trans (Nat.le_of_ble_eq_true rfl) hR.2⟩ (wd_recv (r := H_o k) (ci := 2) (q := (RX2, TX2, 23)) X.hK.1 hP (ex_H_o hE hk) rfl rfl) hP hS ⟨Nat.zero_le _, Nat.zero_le _⟩ rfl hl.1 rfl (Nat.le_of_ble_eq_true rfl) dX2_fillsEnds_49) hS ?_
          rintro _ _ H locs ⟨⟩ hP hS
          refine gb_if_ne (tgt := 58) hx hb dX2_fillsEnds_52 (by decide) hf (fun hf => ?_) (fun hf => ?_)
          · refine lv_aload_n hx hb dX2_fillsEnds_58 rfl (lv_at hl 0 rfl) ?_
            refine lv_iconst (v := 0) hx hb dX2_fillsEnds_59 (by decide) ?_
            refine rp_X2_296 X hP hS he1 (by decide) dX2_fillsEnds_60 hf (fun S4 H locs hP hS hf => ?_)
            refine lv_iconst (v := 1) hx hb dX2_fillsEnds_63 (by decide) ?_
            exact gr_zW X hP hS (Option.some.inj hf) (by decide) dX2_fillsEnds_64
          · refine lv_goto (tgt := 65) hx hb dX2_fillsEnds_55 (by decide) ?_
            exact w_X2_fillsEnds_65 E k hE hk X hR k2 hk2 S2 x1 x2 hP hS (lv_sub hl [1, 2, 3] rfl) hf
    · refine lv_astore_nN (lv' := [(3, .null), (0, .ref (ad (H_o k))), (1, .int x1), (2, .int x2)]) hx hb dX2_fillsEnds_15 rfl hl (by decide) rfl (fun ls hl => ?_)
      refine lv_aload_nN hx hb dX2_fillsEnds_16 rfl (lv_at hl 0 rfl) ?_
      refine lv_ifnullN (tgt := 65) hx hb dX2_fillsEnds_17 (by decide) ?_
      exact w_X2_fillsEnds_65 E k hE hk X hR k2 hk2 S x1 x2 hP hS (lv_sub hl [1, 2, 3] rfl) hf
set_option maxHeartbeats 4000000 in
theorem w_X2_fillsEnds_2 {p : Program} {l : Launch} {e : Env} {R : Room} {s : State} {m : MethodId} {args : Array Value} {below : List Frame} {meth : Method} {c : Code} {D : va_G} {dA : Nat → ClassId} {A : Nat → Prop} {ad : L3 → Nat} (E : L3 → Bool) (k : Nat) (hE : EOK E) (hk : k < 2) (X : CX RX2 cX2_fillsEnds 4 (some .boolean) (KA D dA) p s m args meth c A) (hR : 3 ≤ R.frames ∧ 91 ≤ R.locals) {res : Mem × Int32} (n : Nat) : ∀ (S : Mem) (x1 : Int32) (x2 : Int32) (H : Heap) (locs : List Loc) (ls : Array Slot), Wd D clA (shC dA E) (exC E) A ad S H → va_S A s.heap H locs → lv_has ls 4 [(0, .ref (ad (H_o k))), (1, .int x1), (2, .int x2)] → f_X2_fillsEnds_2 E k n S x1 x2 = some res → W p l e R s m args below meth c H locs 0 0 (MQ below (QiW D (shC dA E) (exC E) A ad res) args s 0 0 A) (F0 m 2 ls []) := by
  induction n with
  | zero =>
    intro S x1 x2 H locs ls hP hS hl hf
    exact absurd (show none = some res from hf) (fun h => by cases h)
  | succ n ih =>
    intro S x1 x2 H locs ls hP hS hl hf
    exact w_X2_fillsEnds_2_b E k hE hk X hR (f_X2_fillsEnds_2 E k n) ih S x1 x2 hP hS hl hf
set_option maxHeartbeats 4000000 in
theorem w_X2_fillsEnds {p : Program} {l : Launch} {e : Env} {R : Room} {s : State} {m : MethodId} {args : Array Value} {below : List Frame} {meth : Method} {c : Code} {D : va_G} {dA : Nat → ClassId} {A : Nat → Prop} {ad : L3 → Nat} (E : L3 → Bool) (k : Nat) (hE : EOK E) (hk : k < 2) (X : CX RX2 cX2_fillsEnds 4 (some .boolean) (KA D dA) p s m args meth c A) (hR : 3 ≤ R.frames ∧ 91 ≤ R.locals) {res : Mem × Int32} (S : Mem) (x1 : Int32) {H : Heap} {locs : List Loc} {ls : Array Slot} (hP : Wd D clA (shC dA E) (exC E) A ad S H) (hS : va_S A s.heap H locs) (hl : lv_has ls 4 [(0, .ref (ad (H_o k))), (1, .int x1)]) (hf : f_X2_fillsEnds E k S x1 = some res) : W p l e R s m args below meth c H locs 0 0 (MQ below (QiW D (shC dA E) (exC E) A ad res) args s 0 0 A) (F0 m 0 ls []) := by
  have hx := X.hx
  have hb := X.hb
  unfold f_X2_fillsEnds at hf
  refine lv_iconst (v := 0) hx hb dX2_fillsEnds_0 (by decide) ?_
  refine lv_istore_n (lv' := [(2, .int 0), (0, .ref (ad (H_o k))), (1, .int x1)]) hx hb dX2_fillsEnds_1 rfl hl (by decide) rfl (fun ls hl => ?_)
  exact w_X2_fillsEnds_2 E k hE hk X hR FU S x1 0 _ _ _ hP hS (lv_sub hl [1, 2, 0] rfl) hf
theorem hd_X2_fillsEnds : yX2_fillsEnds.cls = RX2 ∧ yX2_fillsEnds.cls ≠ "java/lang/invoke/MethodHandle" ∧ yX2_fillsEnds.cls ≠ "java/lang/invoke/VarHandle" ∧ (parseMethodDescriptor yX2_fillsEnds.desc).map (fun d => d.parameters.length) = some 1 := by decide +kernel
set_option maxHeartbeats 4000000 in
theorem mt_X2_fillsEnds (l : Launch) (D : va_G) (dA : Nat → ClassId) (A : Nat → Prop) (ad : L3 → Nat) (E : L3 → Bool) (k : Nat) (hE : EOK E) (hk : k < 2) (S : Mem) (x1 : Int32) {res : Mem × Int32} (hq : f_X2_fillsEnds E k S x1 = some res) : Met l yX2_fillsEnds (ws_ yX2_fillsEnds cX2_fillsEnds 4 (some .boolean)) ({ frames := 3, cells := 0, slots := 0, locals := 91 } : Room) (va_Pc [.ref (ad (H_o k)), .int x1] (PreW D dA (shC dA E) (exC E) A ad S)) (QiW D (shC dA E) (exC E) A ad res) 0 0 A :=
  gx_head (by decide) (Nat.le_of_ble_eq_true rfl) (fun p e s m below meth c ls X hP hl => w_X2_fillsEnds (l := l) E k hE hk X ⟨Nat.le_of_ble_eq_true rfl, Nat.le_of_ble_eq_true rfl⟩ S x1 hP va_S.rf (lv_sub (l := [(0, .ref (ad (H_o k))), (1, .int x1)]) hl [0, 1] rfl) hq)
set_option maxHeartbeats 4000000 in
theorem w_X2_fillsGrants_93 {p : Program} {l : Launch} {e : Env} {R : Room} {s : State} {m : MethodId} {args : Array Value} {below : List Frame} {meth : Method} {c : Code} {D : va_G} {dA : Nat → ClassId} {A : Nat → Prop} {ad : L3 → Nat} (E : L3 → Bool) (k : Nat) (hE : EOK E) (hk : k < 2) (X : CX RX2 cX2_fillsGrants 4 (some .boolean) (KA D dA) p s m args meth c A) (hR : 3 ≤ R.frames ∧ 91 ≤ R.locals) {res : Mem × Int32} (k33 : Mem → Int32 → Int32 → Option (Mem × Int32)) (hk33 : ∀ (S : Mem) (x1 : Int32) (x2 : Int32) (H : Heap) (locs : List Loc) (ls : Array Slot), Wd D clA (shC dA E) (exC E) A ad S H → va_S A s.heap H locs → lv_has ls 4 [(0, .ref (ad (H_o k))), (1, .int x1), (2, .int x2)] → k33 S x1 x2 = some res → W p l e R s m args below meth c H locs 0 0 (MQ below (QiW D (shC dA E) (exC E) A ad res) args s 0 0 A) (F0 m 33 ls [])) (S : Mem) (x1 : Int32) (x2 : Int32) {H : Heap} {locs : List Loc} {ls : Array Slot} (hP : Wd D clA (shC dA E) (exC E) A ad S H) (hS : va_S A s.heap H locs) (hl : lv_has ls 4 [(0, .ref (ad (H_o k))), (1, .int x1), (2, .int x2)]) (hf : f_X2_fillsGrants_93 E k k33 S x1 x2 = some res) : W p l e R s m args below meth c H locs 0 0 (MQ below (QiW D (shC dA E) (exC E) A ad res) args s 0 0 A) (F0 m 93 ls []) := by
  have hx := X.hx
  have hb := X.hb
  unfold f_X2_fillsGrants_93 at hf
  refine lv_iinc (v := (x2 + 1)) (lv' := [(2, .int (x2 + 1)), (0, .ref (ad (H_o k))), (1, .int x1)]) hx hb dX2_fillsGrants_93 hl (k := 2) rfl rfl (by decide) rfl (fun ls hl => ?_)
  refine lv_goto (tgt := 33) hx hb dX2_fillsGrants_96 (by decide) ?_
  exact hk33 S x1 (x2 + 1) _ _ _ hP hS (lv_sub hl [1, 2, 0] rfl) hf
set_option maxHeartbeats 4000000 in
theorem w_X2_fillsGrants_157 {p : Program} {l : Launch} {e : Env} {R : Room} {s : State} {m : MethodId} {args : Array Value} {below : List Frame} {meth : Method} {c : Code} {D : va_G} {dA : Nat → ClassId} {A : Nat → Prop} {ad : L3 → Nat} (E : L3 → Bool) (k : Nat) (hE : EOK E) (hk : k < 2) (X : CX RX2 cX2_fillsGrants 4 (some .boolean) (KA D dA) p s m args meth c A) (hR : 3 ≤ R.frames ∧ 91 ≤ R.locals) {res : Mem × Int32} (k101 : Mem → Int32 → Int32 → Option (Mem × Int32)) (hk101 : ∀ (S : Mem) (x1 : Int32) (x2 : Int32) (H : Heap) (locs : List Loc) (ls : Array Slot), Wd D clA (shC dA E) (exC E) A ad S H → va_S A s.heap H locs → lv_has ls 4 [(0, .ref (ad (H_o k))), (1, .int x1), (2, .int x2)] → k101 S x1 x2 = some res → W p l e R s m args below meth c H locs 0 0 (MQ below (QiW D (shC dA E) (exC E) A ad res) args s 0 0 A) (F0 m 101 ls [])) (S : Mem) (x1 : Int32) (x2 : Int32) {H : Heap} {locs : List Loc} {ls : Array Slot} (hP : Wd D clA (shC dA E) (exC E) A ad S H) (hS : va_S A s.heap H locs) (hl : lv_has ls 4 [(0, .ref (ad (H_o k))), (1, .int x1), (2, .int x2)]) (hf : f_X2_fillsGrants_157 E k k101 S x1 x2 = some res) : W p l e R s m args below meth c H locs 0 0 (MQ below (QiW D (shC dA E) (exC E) A ad res) args s 0 0 A) (F0 m 157 ls []) := by
  have hx := X.hx
  have hb := X.hb
  unfold f_X2_fillsGrants_157 at hf
  refine lv_iinc (v := (x2 + 1)) (lv' := [(2, .int (x2 + 1)), (0, .ref (ad (H_o k))), (1, .int x1)]) hx hb dX2_fillsGrants_157 hl (k := 2) rfl rfl (by decide) rfl (fun ls hl => ?_)
  refine lv_goto (tgt := 101) hx hb dX2_fillsGrants_160 (by decide) ?_
  exact hk101 S x1 (x2 + 1) _ _ _ hP hS (lv_sub hl [1, 2, 0] rfl) hf
set_option maxHeartbeats 4000000 in
theorem w_X2_fillsGrants_101_b {p : Program} {l : Launch} {e : Env} {R : Room} {s : State} {m : MethodId} {args : Array Value} {below : List Frame} {meth : Method} {c : Code} {D : va_G} {dA : Nat → ClassId} {A : Nat → Prop} {ad : L3 → Nat} (E : L3 → Bool) (k : Nat) (hE : EOK E) (hk : k < 2) (X : CX RX2 cX2_fillsGrants 4 (some .boolean) (KA D dA) p s m args meth c A) (hR : 3 ≤ R.frames ∧ 91 ≤ R.locals) {res : Mem × Int32} (k101 : Mem → Int32 → Int32 → Option (Mem × Int32)) (hk101 : ∀ (S : Mem) (x1 : Int32) (x2 : Int32) (H : Heap) (locs : List Loc) (ls : Array Slot), Wd D clA (shC dA E) (exC E) A ad S H → va_S A s.heap H locs → lv_has ls 4 [(0, .ref (ad (H_o k))), (1, .int x1), (2, .int x2)] → k101 S x1 x2 = some res → W p l e R s m args below meth c H locs 0 0 (MQ below (QiW D (shC dA E) (exC E) A ad res) args s 0 0 A) (F0 m 101 ls [])) (S : Mem) (x1 : Int32) (x2 : Int32) {H : Heap} {locs : List Loc} {ls : Array Slot} (hP : Wd D clA (shC dA E) (exC E) A ad S H) (hS : va_S A s.heap H locs) (hl : lv_has ls 4 [(0, .ref (ad (H_o k))), (1, .int x1), (2, .int x2)]) (hf : f_X2_fillsGrants_101_b E k k101 S x1 x2 = some res) : W p l e R s m args below meth c H locs 0 0 (MQ below (QiW D (shC dA E) (exC E) A ad res) args s 0 0 A) (F0 m 101 ls []) := by
  have hx := X.hx
  have hb := X.hb
  unfold f_X2_fillsGrants_101_b at hf
  refine lv_iload_n hx hb dX2_fillsGrants_101 rfl (lv_at hl 2 rfl) ?_
  refine lv_iconst (v := 2) hx hb dX2_fillsGrants_102 (by decide) ?_
  refine gb_icmp_ge (tgt := 163) hx hb dX2_fillsGrants_103 (by decide) hf (fun hf => ?_) (fun hf => ?_)
  · refine lv_iconst (v := 0) hx hb dX2_fillsGrants_163 (by decide) ?_
    exact gr_zW X hP hS (Option.some.inj hf) (by decide) dX2_fillsGrants_164
  · refine lv_aload_n hx hb dX2_fillsGrants_106 rfl (lv_at hl 0 rfl) ?_
    refine rg_X2_26 X hP (ex_H_o hE hk) dX2_fillsGrants_107 ?_
    refine lv_iload_n hx hb dX2_fillsGrants_110 rfl (lv_at hl 2 rfl) ?_
    refine ra_H_ways_ld X hP (ex_H_ways hE hk) dX2_fillsGrants_111 hf (fun hi1 hf => ?_)
    refine rg_X2_135 X hP (ex_W_o hE hk hi1) dX2_fillsGrants_112 ?_
    refine gb_if_eq (tgt := 157) hx hb dX2_fillsGrants_115 (by decide) hf (fun hf => ?_) (fun hf => ?_)
    · exact w_X2_fillsGrants_157 E k hE hk X hR k101 hk101 S x1 x2 hP hS (lv_sub hl [0, 1, 2] rfl) hf
    · refine lv_aload_n hx hb dX2_fillsGrants_118 rfl (lv_at hl 0 rfl) ?_
      refine lv_bipush (v := 18) hx hb dX2_fillsGrants_119 (by decide) ?_
      refine lv_iload_n hx hb dX2_fillsGrants_121 rfl (lv_at hl 2 rfl) ?_
      refine lv_iadd hx hb dX2_fillsGrants_122 ?_
      refine lv_aload_n hx hb dX2_fillsGrants_123 rfl (lv_at hl 0 rfl) ?_
      refine rg_X2_26 X hP (ex_H_o hE hk) dX2_fillsGrants_124 ?_
      refine lv_iload_n hx hb dX2_fillsGrants_127 rfl (lv_at hl 2 rfl) ?_
      refine ra_H_ways_ld X hP (ex_H_ways hE hk) dX2_fillsGrants_128 hf (fun hi2 hf => ?_)
      refine rg_X2_79 X hP (ex_W_o hE hk hi2) dX2_fillsGrants_129 ?_
      refine lv_i2l hx hb dX2_fillsGrants_132 rfl ?_
      refine lv_lconst (v := 0) hx hb dX2_fillsGrants_133 (by decide) ?_
      refine lv_lconst (v := 0) hx hb dX2_fillsGrants_134 (by decide) ?_
      refine lv_iload_n hx hb dX2_fillsGrants_135 rfl (lv_at hl 1 rfl) ?_
      obtain ⟨S3, v4, hq, hf⟩ := gS2_eq hf
      refine gc_i (gc_fixV (S := S) X (mt_X2_frame l D dA A ad E k hE hk S (18 + x2) (Int32.toInt64 (S.1 (W_o k (Int32.toNatClampNeg x2)) 2)) (0 : Int64) (0 : Int64) x1 hq) (lw_V q812 q814 qs16 q87 q815) ⟨rfl, rfl⟩ hd_X2_frame ⟨Nat.le_trans (Nat.le_of_ble_eq_true rfl) hR.1, Nat.le_trans (Nat.le_of_ble_eq_true rfl) hR.2⟩ (wd_recv (r := H_o k) (ci := 2) (q := (RX2, TX2, 23)) X.hK.1 hP (ex_H_o hE hk) rfl rfl) hP hS ⟨Nat.zero_le _, Nat.zero_le _⟩ rfl hl.1 rfl (Nat.le_of_ble_eq_true rfl) dX2_fillsGrants_136) hS ?_
      rintro _ _ H locs ⟨⟩ hP hS
      refine gb_if_ne (tgt := 145) hx hb dX2_fillsGrants_139 (by decide) hf (fun hf => ?_) (fun hf => ?_)
      · refine lv_aload_n hx hb dX2_fillsGrants_145 rfl (lv_at hl 0 rfl) ?_
        refine rg_X2_26 X hP (ex_H_o hE hk) dX2_fillsGrants_146 ?_
        refine lv_iload_n hx hb dX2_fillsGrants_149 rfl (lv_at hl 2 rfl) ?_
        refine ra_H_ways_ld X hP (ex_H_ways hE hk) dX2_fillsGrants_150 hf (fun hi5 hf => ?_)
        refine lv_iconst (v := 0) hx hb dX2_fillsGrants_151 (by decide) ?_
        refine rp_X2_135 X hP hS (ex_W_o hE hk hi5) (by decide) dX2_fillsGrants_152 hf (fun S6 H locs hP hS hf => ?_)
        refine lv_iconst (v := 1) hx hb dX2_fillsGrants_155 (by decide) ?_
        exact gr_zW X hP hS (Option.some.inj hf) (by decide) dX2_fillsGrants_156
      · refine lv_goto (tgt := 157) hx hb dX2_fillsGrants_142 (by decide) ?_
        exact w_X2_fillsGrants_157 E k hE hk X hR k101 hk101 S3 x1 x2 hP hS (lv_sub hl [0, 1, 2] rfl) hf
set_option maxHeartbeats 4000000 in
theorem w_X2_fillsGrants_101 {p : Program} {l : Launch} {e : Env} {R : Room} {s : State} {m : MethodId} {args : Array Value} {below : List Frame} {meth : Method} {c : Code} {D : va_G} {dA : Nat → ClassId} {A : Nat → Prop} {ad : L3 → Nat} (E : L3 → Bool) (k : Nat) (hE : EOK E) (hk : k < 2) (X : CX RX2 cX2_fillsGrants 4 (some .boolean) (KA D dA) p s m args meth c A) (hR : 3 ≤ R.frames ∧ 91 ≤ R.locals) {res : Mem × Int32} (n : Nat) : ∀ (S : Mem) (x1 : Int32) (x2 : Int32) (H : Heap) (locs : List Loc) (ls : Array Slot), Wd D clA (shC dA E) (exC E) A ad S H → va_S A s.heap H locs → lv_has ls 4 [(0, .ref (ad (H_o k))), (1, .int x1), (2, .int x2)] → f_X2_fillsGrants_101 E k n S x1 x2 = some res → W p l e R s m args below meth c H locs 0 0 (MQ below (QiW D (shC dA E) (exC E) A ad res) args s 0 0 A) (F0 m 101 ls []) := by
  induction n with
  | zero =>
    intro S x1 x2 H locs ls hP hS hl hf
    exact absurd (show none = some res from hf) (fun h => by cases h)
  | succ n ih =>
    intro S x1 x2 H locs ls hP hS hl hf
    exact w_X2_fillsGrants_101_b E k hE hk X hR (f_X2_fillsGrants_101 E k n) ih S x1 x2 hP hS hl hf
set_option maxHeartbeats 4000000 in
theorem w_X2_fillsGrants_33_b {p : Program} {l : Launch} {e : Env} {R : Room} {s : State} {m : MethodId} {args : Array Value} {below : List Frame} {meth : Method} {c : Code} {D : va_G} {dA : Nat → ClassId} {A : Nat → Prop} {ad : L3 → Nat} (E : L3 → Bool) (k : Nat) (hE : EOK E) (hk : k < 2) (X : CX RX2 cX2_fillsGrants 4 (some .boolean) (KA D dA) p s m args meth c A) (hR : 3 ≤ R.frames ∧ 91 ≤ R.locals) {res : Mem × Int32} (k33 : Mem → Int32 → Int32 → Option (Mem × Int32)) (hk33 : ∀ (S : Mem) (x1 : Int32) (x2 : Int32) (H : Heap) (locs : List Loc) (ls : Array Slot), Wd D clA (shC dA E) (exC E) A ad S H → va_S A s.heap H locs → lv_has ls 4 [(0, .ref (ad (H_o k))), (1, .int x1), (2, .int x2)] → k33 S x1 x2 = some res → W p l e R s m args below meth c H locs 0 0 (MQ below (QiW D (shC dA E) (exC E) A ad res) args s 0 0 A) (F0 m 33 ls [])) (S : Mem) (x1 : Int32) (x2 : Int32) {H : Heap} {locs : List Loc} {ls : Array Slot} (hP : Wd D clA (shC dA E) (exC E) A ad S H) (hS : va_S A s.heap H locs) (hl : lv_has ls 4 [(0, .ref (ad (H_o k))), (1, .int x1), (2, .int x2)]) (hf : f_X2_fillsGrants_33_b E k k33 S x1 x2 = some res) : W p l e R s m args below meth c H locs 0 0 (MQ below (QiW D (shC dA E) (exC E) A ad res) args s 0 0 A) (F0 m 33 ls []) := by
  have hx := X.hx
  have hb := X.hb
  unfold f_X2_fillsGrants_33_b at hf
  refine lv_iload_n hx hb dX2_fillsGrants_33 rfl (lv_at hl 2 rfl) ?_
  refine lv_sipush (v := 256) hx hb dX2_fillsGrants_34 (by decide) ?_
  refine gb_icmp_ge (tgt := 99) hx hb dX2_fillsGrants_37 (by decide) hf (fun hf => ?_) (fun hf => ?_)
  · refine lv_iconst (v := 0) hx hb dX2_fillsGrants_99 (by decide) ?_
    refine lv_istore_n (lv' := [(2, .int 0), (0, .ref (ad (H_o k))), (1, .int x1)]) hx hb dX2_fillsGrants_100 rfl hl (by decide) rfl (fun ls hl => ?_)
    exact w_X2_fillsGrants_101 E k hE hk X hR FU S x1 0 _ _ _ hP hS (lv_sub hl [1, 2, 0] rfl) hf
  · refine lv_aload_n hx hb dX2_fillsGrants_40 rfl (lv_at hl 0 rfl) ?_
    refine rg_X2_19 X hP (ex_H_o hE hk) dX2_fillsGrants_41 ?_
    refine lv_iload_n hx hb dX2_fillsGrants_44 rfl (lv_at hl 2 rfl) ?_
    refine ra_H_receivings_ld X hP (ex_H_receivings hE hk) dX2_fillsGrants_45 hf (fun he1 hf => ?_) (fun hf => ?_)
    · refine lv_astore_n (lv' := [(3, .ref (ad (R_o k (Int32.toNatClampNeg x2)))), (0, .ref (ad (H_o k))), (1, .int x1), (2, .int x2)]) hx hb dX2_fillsGrants_46 rfl hl (by decide) rfl (fun ls hl => ?_)
      refine lv_aload_n hx hb dX2_fillsGrants_47 rfl (lv_at hl 0 rfl) ?_
      refine lv_ifnull hx hb dX2_fillsGrants_48 ?_
      refine lv_aload_n hx hb dX2_fillsGrants_51 rfl (lv_at hl 0 rfl) ?_
      refine rg_X2_180 X hP he1 dX2_fillsGrants_52 ?_
      refine gb_if_ne (tgt := 93) hx hb dX2_fillsGrants_55 (by decide) hf (fun hf => ?_) (fun hf => ?_)
      · exact w_X2_fillsGrants_93 E k hE hk X hR k33 hk33 S x1 x2 hP hS (lv_sub hl [1, 2, 3] rfl) hf
      · refine lv_aload_n hx hb dX2_fillsGrants_58 rfl (lv_at hl 0 rfl) ?_
        refine rg_X2_217 X hP he1 dX2_fillsGrants_59 ?_
        refine gb_if_eq (tgt := 93) hx hb dX2_fillsGrants_62 (by decide) hf (fun hf => ?_) (fun hf => ?_)
        · exact w_X2_fillsGrants_93 E k hE hk X hR k33 hk33 S x1 x2 hP hS (lv_sub hl [1, 2, 3] rfl) hf
        · refine lv_aload_n hx hb dX2_fillsGrants_65 rfl (lv_at hl 1 rfl) ?_
          refine lv_bipush (v := 17) hx hb dX2_fillsGrants_66 (by decide) ?_
          refine lv_iload_n hx hb dX2_fillsGrants_68 rfl (lv_at hl 3 rfl) ?_
          refine lv_i2l hx hb dX2_fillsGrants_69 rfl ?_
          refine lv_aload_n hx hb dX2_fillsGrants_70 rfl (lv_at hl 0 rfl) ?_
          refine rg_X2_214 X hP he1 dX2_fillsGrants_71 ?_
          refine lv_i2l hx hb dX2_fillsGrants_74 rfl ?_
          refine lv_lconst (v := 0) hx hb dX2_fillsGrants_75 (by decide) ?_
          refine lv_iload_n hx hb dX2_fillsGrants_76 rfl (lv_at hl 2 rfl) ?_
          obtain ⟨S2, v3, hq, hf⟩ := gS2_eq hf
          refine gc_i (gc_fixV (S := S) X (mt_X2_frame l D dA A ad E k hE hk S (17 : Int32) (Int32.toInt64 x2) (Int32.toInt64 (S.1 (R_o k (Int32.toNatClampNeg x2)) 6)) (0 : Int64) x1 hq) (lw_V q812 q814 qs16 q87 q815) ⟨rfl, rfl⟩ hd_X2_frame ⟨Nat.le_trans (Nat.le_of_ble_eq_true rfl) hR.1, Nat.le_trans (Nat.le_of_ble_eq_true rfl) hR.2⟩ (wd_recv (r := H_o k) (ci := 2) (q := (RX2, TX2, 23)) X.hK.1 hP (ex_H_o hE hk) rfl rfl) hP hS ⟨Nat.zero_le _, Nat.zero_le _⟩ rfl hl.1 rfl (Nat.le_of_ble_eq_true rfl) dX2_fillsGrants_77) hS ?_
          rintro _ _ H locs ⟨⟩ hP hS
          refine gb_if_ne (tgt := 86) hx hb dX2_fillsGrants_80 (by decide) hf (fun hf => ?_) (fun hf => ?_)
          · refine lv_aload_n hx hb dX2_fillsGrants_86 rfl (lv_at hl 0 rfl) ?_
            refine lv_iconst (v := 0) hx hb dX2_fillsGrants_87 (by decide) ?_
            refine rp_X2_217 X hP hS he1 (by decide) dX2_fillsGrants_88 hf (fun S4 H locs hP hS hf => ?_)
            refine lv_iconst (v := 1) hx hb dX2_fillsGrants_91 (by decide) ?_
            exact gr_zW X hP hS (Option.some.inj hf) (by decide) dX2_fillsGrants_92
          · refine lv_goto (tgt := 93) hx hb dX2_fillsGrants_83 (by decide) ?_
            exact w_X2_fillsGrants_93 E k hE hk X hR k33 hk33 S2 x1 x2 hP hS (lv_sub hl [1, 2, 3] rfl) hf
    · refine lv_astore_nN (lv' := [(3, .null), (0, .ref (ad (H_o k))), (1, .int x1), (2, .int x2)]) hx hb dX2_fillsGrants_46 rfl hl (by decide) rfl (fun ls hl => ?_)
      refine lv_aload_nN hx hb dX2_fillsGrants_47 rfl (lv_at hl 0 rfl) ?_
      refine lv_ifnullN (tgt := 93) hx hb dX2_fillsGrants_48 (by decide) ?_
      exact w_X2_fillsGrants_93 E k hE hk X hR k33 hk33 S x1 x2 hP hS (lv_sub hl [1, 2, 3] rfl) hf
set_option maxHeartbeats 4000000 in
theorem w_X2_fillsGrants_33 {p : Program} {l : Launch} {e : Env} {R : Room} {s : State} {m : MethodId} {args : Array Value} {below : List Frame} {meth : Method} {c : Code} {D : va_G} {dA : Nat → ClassId} {A : Nat → Prop} {ad : L3 → Nat} (E : L3 → Bool) (k : Nat) (hE : EOK E) (hk : k < 2) (X : CX RX2 cX2_fillsGrants 4 (some .boolean) (KA D dA) p s m args meth c A) (hR : 3 ≤ R.frames ∧ 91 ≤ R.locals) {res : Mem × Int32} (n : Nat) : ∀ (S : Mem) (x1 : Int32) (x2 : Int32) (H : Heap) (locs : List Loc) (ls : Array Slot), Wd D clA (shC dA E) (exC E) A ad S H → va_S A s.heap H locs → lv_has ls 4 [(0, .ref (ad (H_o k))), (1, .int x1), (2, .int x2)] → f_X2_fillsGrants_33 E k n S x1 x2 = some res → W p l e R s m args below meth c H locs 0 0 (MQ below (QiW D (shC dA E) (exC E) A ad res) args s 0 0 A) (F0 m 33 ls []) := by
  induction n with
  | zero =>
    intro S x1 x2 H locs ls hP hS hl hf
    exact absurd (show none = some res from hf) (fun h => by cases h)
  | succ n ih =>
    intro S x1 x2 H locs ls hP hS hl hf
    exact w_X2_fillsGrants_33_b E k hE hk X hR (f_X2_fillsGrants_33 E k n) ih S x1 x2 hP hS hl hf
set_option maxHeartbeats 4000000 in
theorem w_X2_fillsGrants_31 {p : Program} {l : Launch} {e : Env} {R : Room} {s : State} {m : MethodId} {args : Array Value} {below : List Frame} {meth : Method} {c : Code} {D : va_G} {dA : Nat → ClassId} {A : Nat → Prop} {ad : L3 → Nat} (E : L3 → Bool) (k : Nat) (hE : EOK E) (hk : k < 2) (X : CX RX2 cX2_fillsGrants 4 (some .boolean) (KA D dA) p s m args meth c A) (hR : 3 ≤ R.frames ∧ 91 ≤ R.locals) {res : Mem × Int32} (S : Mem) (x1 : Int32) {H : Heap} {locs : List Loc} {ls : Array Slot} (hP : Wd D clA (shC dA E) (exC E) A ad S H) (hS : va_S A s.heap H locs) (hl : lv_has ls 4 [(0, .ref (ad (H_o k))), (1, .int x1)]) (hf : f_X2_fillsGrants_31 E k S x1 = some res) : W p l e R s m args below meth c H locs 0 0 (MQ below (QiW D (shC dA E) (exC E) A ad res) args s 0 0 A) (F0 m 31 ls []) := by
  have hx := X.hx
  have hb := X.hb
  unfold f_X2_fillsGrants_31 at hf
  refine lv_iconst (v := 0) hx hb dX2_fillsGrants_31 (by decide) ?_
  refine lv_istore_n (lv' := [(2, .int 0), (0, .ref (ad (H_o k))), (1, .int x1)]) hx hb dX2_fillsGrants_32 rfl hl (by decide) rfl (fun ls hl => ?_)
  exact w_X2_fillsGrants_33 E k hE hk X hR FU S x1 0 _ _ _ hP hS (lv_sub hl [1, 2, 0] rfl) hf
set_option maxHeartbeats 4000000 in
theorem w_X2_fillsGrants {p : Program} {l : Launch} {e : Env} {R : Room} {s : State} {m : MethodId} {args : Array Value} {below : List Frame} {meth : Method} {c : Code} {D : va_G} {dA : Nat → ClassId} {A : Nat → Prop} {ad : L3 → Nat} (E : L3 → Bool) (k : Nat) (hE : EOK E) (hk : k < 2) (X : CX RX2 cX2_fillsGrants 4 (some .boolean) (KA D dA) p s m args meth c A) (hR : 3 ≤ R.frames ∧ 91 ≤ R.locals) {res : Mem × Int32} (S : Mem) (x1 : Int32) {H : Heap} {locs : List Loc} {ls : Array Slot} (hP : Wd D clA (shC dA E) (exC E) A ad S H) (hS : va_S A s.heap H locs) (hl : lv_has ls 4 [(0, .ref (ad (H_o k))), (1, .int x1)]) (hf : f_X2_fillsGrants E k S x1 = some res) : W p l e R s m args below meth c H locs 0 0 (MQ below (QiW D (shC dA E) (exC E) A ad res) args s 0 0 A) (F0 m 0 ls []) := by
  have hx := X.hx
  have hb := X.hb
  unfold f_X2_fillsGrants at hf
  refine lv_aload_n hx hb dX2_fillsGrants_0 rfl (lv_at hl 0 rfl) ?_
  refine rg_X2_208 X hP (ex_H_o hE hk) dX2_fillsGrants_1 ?_
  refine gb_if_eq (tgt := 31) hx hb dX2_fillsGrants_4 (by decide) hf (fun hf => ?_) (fun hf => ?_)
  · exact w_X2_fillsGrants_31 E k hE hk X hR S x1 hP hS (lv_sub hl [0, 1] rfl) hf
  · refine lv_aload_n hx hb dX2_fillsGrants_7 rfl (lv_at hl 0 rfl) ?_
    refine lv_bipush (v := 16) hx hb dX2_fillsGrants_8 (by decide) ?_
    refine lv_aload_n hx hb dX2_fillsGrants_10 rfl (lv_at hl 0 rfl) ?_
    refine rg_X2_76 X hP (ex_H_o hE hk) dX2_fillsGrants_11 ?_
    refine lv_i2l hx hb dX2_fillsGrants_14 rfl ?_
    refine lv_lconst (v := 0) hx hb dX2_fillsGrants_15 (by decide) ?_
    refine lv_lconst (v := 0) hx hb dX2_fillsGrants_16 (by decide) ?_
    refine lv_iload_n hx hb dX2_fillsGrants_17 rfl (lv_at hl 1 rfl) ?_
    obtain ⟨S1, v2, hq, hf⟩ := gS2_eq hf
    refine gc_i (gc_fixV (S := S) X (mt_X2_frame l D dA A ad E k hE hk S (16 : Int32) (Int32.toInt64 (S.1 (H_o k) 14)) (0 : Int64) (0 : Int64) x1 hq) (lw_V q812 q814 qs16 q87 q815) ⟨rfl, rfl⟩ hd_X2_frame ⟨Nat.le_trans (Nat.le_of_ble_eq_true rfl) hR.1, Nat.le_trans (Nat.le_of_ble_eq_true rfl) hR.2⟩ (wd_recv (r := H_o k) (ci := 2) (q := (RX2, TX2, 23)) X.hK.1 hP (ex_H_o hE hk) rfl rfl) hP hS ⟨Nat.zero_le _, Nat.zero_le _⟩ rfl hl.1 rfl (Nat.le_of_ble_eq_true rfl) dX2_fillsGrants_18) hS ?_
    rintro _ _ H locs ⟨⟩ hP hS
    refine gb_if_eq (tgt := 31) hx hb dX2_fillsGrants_21 (by decide) hf (fun hf => ?_) (fun hf => ?_)
    · exact w_X2_fillsGrants_31 E k hE hk X hR S1 x1 hP hS (lv_sub hl [0, 1] rfl) hf
    · refine lv_aload_n hx hb dX2_fillsGrants_24 rfl (lv_at hl 0 rfl) ?_
      refine lv_iconst (v := 0) hx hb dX2_fillsGrants_25 (by decide) ?_
      refine rp_X2_208 X hP hS (ex_H_o hE hk) (by decide) dX2_fillsGrants_26 hf (fun S3 H locs hP hS hf => ?_)
      refine lv_iconst (v := 1) hx hb dX2_fillsGrants_29 (by decide) ?_
      exact gr_zW X hP hS (Option.some.inj hf) (by decide) dX2_fillsGrants_30
theorem hd_X2_fillsGrants : yX2_fillsGrants.cls = RX2 ∧ yX2_fillsGrants.cls ≠ "java/lang/invoke/MethodHandle" ∧ yX2_fillsGrants.cls ≠ "java/lang/invoke/VarHandle" ∧ (parseMethodDescriptor yX2_fillsGrants.desc).map (fun d => d.parameters.length) = some 1 := by decide +kernel
set_option maxHeartbeats 4000000 in
theorem mt_X2_fillsGrants (l : Launch) (D : va_G) (dA : Nat → ClassId) (A : Nat → Prop) (ad : L3 → Nat) (E : L3 → Bool) (k : Nat) (hE : EOK E) (hk : k < 2) (S : Mem) (x1 : Int32) {res : Mem × Int32} (hq : f_X2_fillsGrants E k S x1 = some res) : Met l yX2_fillsGrants (ws_ yX2_fillsGrants cX2_fillsGrants 4 (some .boolean)) ({ frames := 3, cells := 0, slots := 0, locals := 91 } : Room) (va_Pc [.ref (ad (H_o k)), .int x1] (PreW D dA (shC dA E) (exC E) A ad S)) (QiW D (shC dA E) (exC E) A ad res) 0 0 A :=
  gx_head (by decide) (Nat.le_of_ble_eq_true rfl) (fun p e s m below meth c ls X hP hl => w_X2_fillsGrants (l := l) E k hE hk X ⟨Nat.le_of_ble_eq_true rfl, Nat.le_of_ble_eq_true rfl⟩ S x1 hP va_S.rf (lv_sub (l := [(0, .ref (ad (H_o k))), (1, .int x1)]) hl [0, 1] rfl) hq)
set_option maxHeartbeats 4000000 in
theorem w_X2_waits {p : Program} {l : Launch} {e : Env} {R : Room} {s : State} {m : MethodId} {args : Array Value} {below : List Frame} {meth : Method} {c : Code} {D : va_G} {dA : Nat → ClassId} {A : Nat → Prop} {ad : L3 → Nat} (E : L3 → Bool) (k : Nat) (hE : EOK E) (hk : k < 2) (X : CX RX2 cX2_waits 1 (some .boolean) (KA D dA) p s m args meth c A) (hR : 2 ≤ R.frames ∧ 60 ≤ R.locals) {res : Int32} (S : Mem) (x0 : Option Nat) (hx0 : ∀ j, x0 = some j → E (S_o k j) = true) {H : Heap} {locs : List Loc} {ls : Array Slot} (hP : Wd D clA (shC dA E) (exC E) A ad S H) (hS : va_S A s.heap H locs) (hl : lv_has ls 1 [(0, va_rf (Option.map (fun j => ad (S_o k j)) x0))]) (hf : f_X2_waits k S x0 = res) : W p l e R s m args below meth c H locs 0 0 (MQ below (QiR D (shC dA E) (exC E) A ad S res) args s 0 0 A) (F0 m 0 ls []) := by
  have hx := X.hx
  have hb := X.hb
  unfold f_X2_waits at hf
  rcases x0 with _ | j0
  · replace hf := gM_none hf
    have hl : lv_has ls 1 [(0, .null)] := hl
    refine lv_aload_nN hx hb dX2_waits_0 rfl (lv_at hl 0 rfl) ?_
    refine lv_ifnullN (tgt := 26) hx hb dX2_waits_1 (by decide) ?_
    refine lv_iconst (v := 0) hx hb dX2_waits_26 (by decide) ?_
    exact gr_zR X hP hS hf (by decide) dX2_waits_27
  · replace hf := gM_some hf
    have hj0 := hx0 j0 rfl
    have hl : lv_has ls 1 [(0, .ref (ad (S_o k j0)))] := hl
    refine lv_aload_n hx hb dX2_waits_0 rfl (lv_at hl 0 rfl) ?_
    refine lv_ifnull hx hb dX2_waits_1 ?_
    refine lv_aload_n hx hb dX2_waits_4 rfl (lv_at hl 0 rfl) ?_
    obtain ⟨v1, hq, hf⟩ := gS_eq hf
    refine gc_i (gc_fixV (S := S) X (mt_X9_isLive l D dA A ad E k j0 hE hk hj0 S hq) (lw_V q712 q713 q714 q100 q715) ⟨rfl, rfl⟩ hd_X9_isLive ⟨Nat.le_trans (Nat.le_of_ble_eq_true rfl) hR.1, Nat.le_trans (Nat.le_of_ble_eq_true rfl) hR.2⟩ (wd_recv (r := S_o k j0) (ci := 8) (q := (RX9, TX9, 12)) X.hK.1 hP hj0 rfl rfl) hP hS ⟨Nat.zero_le _, Nat.zero_le _⟩ rfl hl.1 rfl (Nat.le_of_ble_eq_true rfl) dX2_waits_5) hS ?_
    rintro _ _ H locs ⟨rfl, rfl⟩ hP hS
    refine gb_if_eq (tgt := 26) hx hb dX2_waits_8 (by decide) hf (fun hf => ?_) (fun hf => ?_)
    · refine lv_iconst (v := 0) hx hb dX2_waits_26 (by decide) ?_
      exact gr_zR X hP hS hf (by decide) dX2_waits_27
    · refine lv_aload_n hx hb dX2_waits_11 rfl (lv_at hl 0 rfl) ?_
      refine rg_X2_307 X hP hj0 dX2_waits_12 ?_
      refine lv_aload_n hx hb dX2_waits_15 rfl (lv_at hl 0 rfl) ?_
      refine rg_X2_300 X hP hj0 dX2_waits_16 ?_
      refine gb_icmp_le (tgt := 26) hx hb dX2_waits_19 (by decide) hf (fun hf => ?_) (fun hf => ?_)
      · refine lv_iconst (v := 0) hx hb dX2_waits_26 (by decide) ?_
        exact gr_zR X hP hS hf (by decide) dX2_waits_27
      · refine lv_iconst (v := 1) hx hb dX2_waits_22 (by decide) ?_
        refine lv_goto (tgt := 27) hx hb dX2_waits_23 (by decide) ?_
        exact gr_zR X hP hS hf (by decide) dX2_waits_27
theorem hd_X2_waits : yX2_waits.cls = RX2 ∧ yX2_waits.cls ≠ "java/lang/invoke/MethodHandle" ∧ yX2_waits.cls ≠ "java/lang/invoke/VarHandle" ∧ (parseMethodDescriptor yX2_waits.desc).map (fun d => d.parameters.length) = some 1 := by decide +kernel
set_option maxHeartbeats 4000000 in
theorem mt_X2_waits (l : Launch) (D : va_G) (dA : Nat → ClassId) (A : Nat → Prop) (ad : L3 → Nat) (E : L3 → Bool) (k : Nat) (hE : EOK E) (hk : k < 2) (S : Mem) (x0 : Option Nat) (hx0 : ∀ j, x0 = some j → E (S_o k j) = true) {res : Int32} (hq : f_X2_waits k S x0 = res) : Met l yX2_waits (ws_ yX2_waits cX2_waits 1 (some .boolean)) ({ frames := 2, cells := 0, slots := 0, locals := 60 } : Room) (va_Pc [va_rf (Option.map (fun j => ad (S_o k j)) x0)] (PreW D dA (shC dA E) (exC E) A ad S)) (QiR D (shC dA E) (exC E) A ad S res) 0 0 A :=
  by
  cases x0 with
  | none => exact (gx_head (by decide) (Nat.le_of_ble_eq_true rfl) (fun p e s m below meth c ls X hP hl => w_X2_waits (l := l) E k hE hk X ⟨Nat.le_of_ble_eq_true rfl, Nat.le_of_ble_eq_true rfl⟩ S none hx0 hP va_S.rf (lv_sub (l := [(0, va_rf (Option.map (fun j => ad (S_o k j)) none))]) hl [0] rfl) hq))
  | some jj => exact (gx_head (by decide) (Nat.le_of_ble_eq_true rfl) (fun p e s m below meth c ls X hP hl => w_X2_waits (l := l) E k hE hk X ⟨Nat.le_of_ble_eq_true rfl, Nat.le_of_ble_eq_true rfl⟩ S (some jj) hx0 hP va_S.rf (lv_sub (l := [(0, va_rf (Option.map (fun j => ad (S_o k j)) (some jj)))]) hl [0] rfl) hq))
set_option maxHeartbeats 4000000 in
theorem w_X2_fillsBlocked_45 {p : Program} {l : Launch} {e : Env} {R : Room} {s : State} {m : MethodId} {args : Array Value} {below : List Frame} {meth : Method} {c : Code} {D : va_G} {dA : Nat → ClassId} {A : Nat → Prop} {ad : L3 → Nat} (E : L3 → Bool) (k : Nat) (hE : EOK E) (hk : k < 2) (X : CX RX2 cX2_fillsBlocked 5 (some .boolean) (KA D dA) p s m args meth c A) (hR : 3 ≤ R.frames ∧ 91 ≤ R.locals) {res : Mem × Int32} (k4 : Mem → Int32 → Int32 → Int32 → Option (Mem × Int32)) (hk4 : ∀ (S : Mem) (x1 : Int32) (x2 : Int32) (x3 : Int32) (H : Heap) (locs : List Loc) (ls : Array Slot), Wd D clA (shC dA E) (exC E) A ad S H → va_S A s.heap H locs → lv_has ls 5 [(0, .ref (ad (H_o k))), (1, .int x1), (2, .int x2), (3, .int x3)] → k4 S x1 x2 x3 = some res → W p l e R s m args below meth c H locs 0 0 (MQ below (QiW D (shC dA E) (exC E) A ad res) args s 0 0 A) (F0 m 4 ls [])) (S : Mem) (x1 : Int32) (x3 : Int32) (y0 : Int32) {H : Heap} {locs : List Loc} {ls : Array Slot} (hP : Wd D clA (shC dA E) (exC E) A ad S H) (hS : va_S A s.heap H locs) (hl : lv_has ls 5 [(0, .ref (ad (H_o k))), (1, .int x1), (3, .int x3)]) (hf : f_X2_fillsBlocked_45 E k k4 S x1 x3 y0 = some res) : W p l e R s m args below meth c H locs 0 0 (MQ below (QiW D (shC dA E) (exC E) A ad res) args s 0 0 A) (F0 m 45 ls [.int y0]) := by
  have hx := X.hx
  have hb := X.hb
  unfold f_X2_fillsBlocked_45 at hf
  refine lv_istore_n (lv' := [(2, .int y0), (0, .ref (ad (H_o k))), (1, .int x1), (3, .int x3)]) hx hb dX2_fillsBlocked_45 rfl hl (by decide) rfl (fun ls hl => ?_)
  refine lv_iinc (v := (x3 + 1)) (lv' := [(3, .int (x3 + 1)), (2, .int y0), (0, .ref (ad (H_o k))), (1, .int x1)]) hx hb dX2_fillsBlocked_46 hl (k := 3) rfl rfl (by decide) rfl (fun ls hl => ?_)
  refine lv_goto (tgt := 4) hx hb dX2_fillsBlocked_49 (by decide) ?_
  exact hk4 S x1 y0 (x3 + 1) _ _ _ hP hS (lv_sub hl [2, 3, 1, 0] rfl) hf
set_option maxHeartbeats 4000000 in
theorem w_X2_fillsBlocked_40 {p : Program} {l : Launch} {e : Env} {R : Room} {s : State} {m : MethodId} {args : Array Value} {below : List Frame} {meth : Method} {c : Code} {D : va_G} {dA : Nat → ClassId} {A : Nat → Prop} {ad : L3 → Nat} (E : L3 → Bool) (k : Nat) (hE : EOK E) (hk : k < 2) (X : CX RX2 cX2_fillsBlocked 5 (some .boolean) (KA D dA) p s m args meth c A) (hR : 3 ≤ R.frames ∧ 91 ≤ R.locals) {res : Mem × Int32} (k4 : Mem → Int32 → Int32 → Int32 → Option (Mem × Int32)) (hk4 : ∀ (S : Mem) (x1 : Int32) (x2 : Int32) (x3 : Int32) (H : Heap) (locs : List Loc) (ls : Array Slot), Wd D clA (shC dA E) (exC E) A ad S H → va_S A s.heap H locs → lv_has ls 5 [(0, .ref (ad (H_o k))), (1, .int x1), (2, .int x2), (3, .int x3)] → k4 S x1 x2 x3 = some res → W p l e R s m args below meth c H locs 0 0 (MQ below (QiW D (shC dA E) (exC E) A ad res) args s 0 0 A) (F0 m 4 ls [])) (S : Mem) (x1 : Int32) (x3 : Int32) {H : Heap} {locs : List Loc} {ls : Array Slot} (hP : Wd D clA (shC dA E) (exC E) A ad S H) (hS : va_S A s.heap H locs) (hl : lv_has ls 5 [(0, .ref (ad (H_o k))), (1, .int x1), (3, .int x3)]) (hf : f_X2_fillsBlocked_40 E k k4 S x1 x3 = some res) : W p l e R s m args below meth c H locs 0 0 (MQ below (QiW D (shC dA E) (exC E) A ad res) args s 0 0 A) (F0 m 40 ls []) := by
  have hx := X.hx
  have hb := X.hb
  unfold f_X2_fillsBlocked_40 at hf
  refine lv_iconst (v := 1) hx hb dX2_fillsBlocked_40 (by decide) ?_
  refine lv_goto (tgt := 45) hx hb dX2_fillsBlocked_41 (by decide) ?_
  exact w_X2_fillsBlocked_45 E k hE hk X hR k4 hk4 S x1 x3 1 hP hS (lv_sub hl [0, 1, 2] rfl) hf
set_option maxHeartbeats 4000000 in
theorem w_X2_fillsBlocked_181 {p : Program} {l : Launch} {e : Env} {R : Room} {s : State} {m : MethodId} {args : Array Value} {below : List Frame} {meth : Method} {c : Code} {D : va_G} {dA : Nat → ClassId} {A : Nat → Prop} {ad : L3 → Nat} (E : L3 → Bool) (k : Nat) (hE : EOK E) (hk : k < 2) (X : CX RX2 cX2_fillsBlocked 5 (some .boolean) (KA D dA) p s m args meth c A) (hR : 3 ≤ R.frames ∧ 91 ≤ R.locals) {res : Mem × Int32} (k96 : Mem → Int32 → Int32 → Option (Mem × Int32)) (hk96 : ∀ (S : Mem) (x1 : Int32) (x3 : Int32) (H : Heap) (locs : List Loc) (ls : Array Slot), Wd D clA (shC dA E) (exC E) A ad S H → va_S A s.heap H locs → lv_has ls 5 [(0, .ref (ad (H_o k))), (1, .int x1), (3, .int x3)] → k96 S x1 x3 = some res → W p l e R s m args below meth c H locs 0 0 (MQ below (QiW D (shC dA E) (exC E) A ad res) args s 0 0 A) (F0 m 96 ls [])) (S : Mem) (x1 : Int32) (x3 : Int32) {H : Heap} {locs : List Loc} {ls : Array Slot} (hP : Wd D clA (shC dA E) (exC E) A ad S H) (hS : va_S A s.heap H locs) (hl : lv_has ls 5 [(0, .ref (ad (H_o k))), (1, .int x1), (3, .int x3)]) (hf : f_X2_fillsBlocked_181 E k k96 S x1 x3 = some res) : W p l e R s m args below meth c H locs 0 0 (MQ below (QiW D (shC dA E) (exC E) A ad res) args s 0 0 A) (F0 m 181 ls []) := by
  have hx := X.hx
  have hb := X.hb
  unfold f_X2_fillsBlocked_181 at hf
  refine lv_iinc (v := (x3 + 1)) (lv' := [(3, .int (x3 + 1)), (0, .ref (ad (H_o k))), (1, .int x1)]) hx hb dX2_fillsBlocked_181 hl (k := 2) rfl rfl (by decide) rfl (fun ls hl => ?_)
  refine lv_goto (tgt := 96) hx hb dX2_fillsBlocked_184 (by decide) ?_
  exact hk96 S x1 (x3 + 1) _ _ _ hP hS (lv_sub hl [1, 2, 0] rfl) hf
set_option maxHeartbeats 4000000 in
theorem w_X2_fillsBlocked_264 {p : Program} {l : Launch} {e : Env} {R : Room} {s : State} {m : MethodId} {args : Array Value} {below : List Frame} {meth : Method} {c : Code} {D : va_G} {dA : Nat → ClassId} {A : Nat → Prop} {ad : L3 → Nat} (E : L3 → Bool) (k : Nat) (hE : EOK E) (hk : k < 2) (X : CX RX2 cX2_fillsBlocked 5 (some .boolean) (KA D dA) p s m args meth c A) (hR : 3 ≤ R.frames ∧ 91 ≤ R.locals) {res : Mem × Int32} (k189 : Mem → Int32 → Int32 → Option (Mem × Int32)) (hk189 : ∀ (S : Mem) (x1 : Int32) (x3 : Int32) (H : Heap) (locs : List Loc) (ls : Array Slot), Wd D clA (shC dA E) (exC E) A ad S H → va_S A s.heap H locs → lv_has ls 5 [(0, .ref (ad (H_o k))), (1, .int x1), (3, .int x3)] → k189 S x1 x3 = some res → W p l e R s m args below meth c H locs 0 0 (MQ below (QiW D (shC dA E) (exC E) A ad res) args s 0 0 A) (F0 m 189 ls [])) (S : Mem) (x1 : Int32) (x3 : Int32) {H : Heap} {locs : List Loc} {ls : Array Slot} (hP : Wd D clA (shC dA E) (exC E) A ad S H) (hS : va_S A s.heap H locs) (hl : lv_has ls 5 [(0, .ref (ad (H_o k))), (1, .int x1), (3, .int x3)]) (hf : f_X2_fillsBlocked_264 E k k189 S x1 x3 = some res) : W p l e R s m args below meth c H locs 0 0 (MQ below (QiW D (shC dA E) (exC E) A ad res) args s 0 0 A) (F0 m 264 ls []) := by
  have hx := X.hx
  have hb := X.hb
  unfold f_X2_fillsBlocked_264 at hf
  refine lv_iinc (v := (x3 + 1)) (lv' := [(3, .int (x3 + 1)), (0, .ref (ad (H_o k))), (1, .int x1)]) hx hb dX2_fillsBlocked_264 hl (k := 2) rfl rfl (by decide) rfl (fun ls hl => ?_)
  refine lv_goto (tgt := 189) hx hb dX2_fillsBlocked_267 (by decide) ?_
  exact hk189 S x1 (x3 + 1) _ _ _ hP hS (lv_sub hl [1, 2, 0] rfl) hf
set_option maxHeartbeats 4000000 in
theorem w_X2_fillsBlocked_189_b {p : Program} {l : Launch} {e : Env} {R : Room} {s : State} {m : MethodId} {args : Array Value} {below : List Frame} {meth : Method} {c : Code} {D : va_G} {dA : Nat → ClassId} {A : Nat → Prop} {ad : L3 → Nat} (E : L3 → Bool) (k : Nat) (hE : EOK E) (hk : k < 2) (X : CX RX2 cX2_fillsBlocked 5 (some .boolean) (KA D dA) p s m args meth c A) (hR : 3 ≤ R.frames ∧ 91 ≤ R.locals) {res : Mem × Int32} (k189 : Mem → Int32 → Int32 → Option (Mem × Int32)) (hk189 : ∀ (S : Mem) (x1 : Int32) (x3 : Int32) (H : Heap) (locs : List Loc) (ls : Array Slot), Wd D clA (shC dA E) (exC E) A ad S H → va_S A s.heap H locs → lv_has ls 5 [(0, .ref (ad (H_o k))), (1, .int x1), (3, .int x3)] → k189 S x1 x3 = some res → W p l e R s m args below meth c H locs 0 0 (MQ below (QiW D (shC dA E) (exC E) A ad res) args s 0 0 A) (F0 m 189 ls [])) (S : Mem) (x1 : Int32) (x3 : Int32) {H : Heap} {locs : List Loc} {ls : Array Slot} (hP : Wd D clA (shC dA E) (exC E) A ad S H) (hS : va_S A s.heap H locs) (hl : lv_has ls 5 [(0, .ref (ad (H_o k))), (1, .int x1), (3, .int x3)]) (hf : f_X2_fillsBlocked_189_b E k k189 S x1 x3 = some res) : W p l e R s m args below meth c H locs 0 0 (MQ below (QiW D (shC dA E) (exC E) A ad res) args s 0 0 A) (F0 m 189 ls []) := by
  have hx := X.hx
  have hb := X.hb
  unfold f_X2_fillsBlocked_189_b at hf
  refine lv_iload_n hx hb dX2_fillsBlocked_189 rfl (lv_at hl 2 rfl) ?_
  refine lv_iconst (v := 2) hx hb dX2_fillsBlocked_190 (by decide) ?_
  refine gb_icmp_ge (tgt := 270) hx hb dX2_fillsBlocked_191 (by decide) hf (fun hf => ?_) (fun hf => ?_)
  · refine lv_iconst (v := 0) hx hb dX2_fillsBlocked_270 (by decide) ?_
    exact gr_zW X hP hS (Option.some.inj hf) (by decide) dX2_fillsBlocked_271
  · refine lv_aload_n hx hb dX2_fillsBlocked_194 rfl (lv_at hl 0 rfl) ?_
    refine rg_X2_26 X hP (ex_H_o hE hk) dX2_fillsBlocked_195 ?_
    refine lv_iload_n hx hb dX2_fillsBlocked_198 rfl (lv_at hl 2 rfl) ?_
    refine ra_H_ways_ld X hP (ex_H_ways hE hk) dX2_fillsBlocked_199 hf (fun hi1 hf => ?_)
    refine lv_astore (lv' := [(4, .ref (ad (W_o k (Int32.toNatClampNeg x3)))), (0, .ref (ad (H_o k))), (1, .int x1), (3, .int x3)]) hx hb dX2_fillsBlocked_200 hl (by decide) rfl (fun ls hl => ?_)
    refine lv_aload hx hb dX2_fillsBlocked_202 (lv_at hl 0 rfl) ?_
    refine rg_X2_118 X hP (ex_W_o hE hk hi1) dX2_fillsBlocked_204 ?_
    refine lv_aload hx hb dX2_fillsBlocked_207 (lv_at hl 0 rfl) ?_
    refine rg_X2_93 X hP (ex_W_o hE hk hi1) dX2_fillsBlocked_209 ?_
    refine gb_lcmp_ne (tgt := 264) hx hb dX2_fillsBlocked_212 dX2_fillsBlocked_213 (by decide) hf (fun hf => ?_) (fun hf => ?_)
    · exact w_X2_fillsBlocked_264 E k hE hk X hR k189 hk189 S x1 x3 hP hS (lv_sub hl [1, 2, 3] rfl) hf
    · refine lv_aload hx hb dX2_fillsBlocked_216 (lv_at hl 0 rfl) ?_
      refine rg_X2_318 X hP (ex_W_o hE hk hi1) dX2_fillsBlocked_218 ?_
      refine lv_aload hx hb dX2_fillsBlocked_221 (lv_at hl 0 rfl) ?_
      refine rg_X2_93 X hP (ex_W_o hE hk hi1) dX2_fillsBlocked_223 ?_
      refine gb_lcmp_eq (tgt := 264) hx hb dX2_fillsBlocked_226 dX2_fillsBlocked_227 (by decide) hf (fun hf => ?_) (fun hf => ?_)
      · exact w_X2_fillsBlocked_264 E k hE hk X hR k189 hk189 S x1 x3 hP hS (lv_sub hl [1, 2, 3] rfl) hf
      · refine lv_aload_n hx hb dX2_fillsBlocked_230 rfl (lv_at hl 1 rfl) ?_
        refine lv_bipush (v := 22) hx hb dX2_fillsBlocked_231 (by decide) ?_
        refine lv_iload_n hx hb dX2_fillsBlocked_233 rfl (lv_at hl 3 rfl) ?_
        refine lv_iadd hx hb dX2_fillsBlocked_234 ?_
        refine lv_aload hx hb dX2_fillsBlocked_235 (lv_at hl 0 rfl) ?_
        refine rg_X2_93 X hP (ex_W_o hE hk hi1) dX2_fillsBlocked_237 ?_
        refine lv_lconst (v := 0) hx hb dX2_fillsBlocked_240 (by decide) ?_
        refine lv_lconst (v := 0) hx hb dX2_fillsBlocked_241 (by decide) ?_
        refine lv_iload_n hx hb dX2_fillsBlocked_242 rfl (lv_at hl 2 rfl) ?_
        obtain ⟨S2, v3, hq, hf⟩ := gS2_eq hf
        refine gc_i (gc_fixV (S := S) X (mt_X2_frame l D dA A ad E k hE hk S (22 + x3) (S.2 (W_o k (Int32.toNatClampNeg x3)) 3) (0 : Int64) (0 : Int64) x1 hq) (lw_V q812 q814 qs16 q87 q815) ⟨rfl, rfl⟩ hd_X2_frame ⟨Nat.le_trans (Nat.le_of_ble_eq_true rfl) hR.1, Nat.le_trans (Nat.le_of_ble_eq_true rfl) hR.2⟩ (wd_recv (r := H_o k) (ci := 2) (q := (RX2, TX2, 23)) X.hK.1 hP (ex_H_o hE hk) rfl rfl) hP hS ⟨Nat.zero_le _, Nat.zero_le _⟩ rfl hl.1 rfl (Nat.le_of_ble_eq_true rfl) dX2_fillsBlocked_243) hS ?_
        rintro _ _ H locs ⟨⟩ hP hS
        refine gb_if_ne (tgt := 252) hx hb dX2_fillsBlocked_246 (by decide) hf (fun hf => ?_) (fun hf => ?_)
        · refine lv_aload hx hb dX2_fillsBlocked_252 (lv_at hl 0 rfl) ?_
          refine lv_aload hx hb dX2_fillsBlocked_254 (lv_at hl 0 rfl) ?_
          refine rg_X2_93 X hP (ex_W_o hE hk hi1) dX2_fillsBlocked_256 ?_
          refine rp_X2_318 X hP hS (ex_W_o hE hk hi1) dX2_fillsBlocked_259 hf (fun S4 H locs hP hS hf => ?_)
          refine lv_iconst (v := 1) hx hb dX2_fillsBlocked_262 (by decide) ?_
          exact gr_zW X hP hS (Option.some.inj hf) (by decide) dX2_fillsBlocked_263
        · refine lv_goto (tgt := 264) hx hb dX2_fillsBlocked_249 (by decide) ?_
          exact w_X2_fillsBlocked_264 E k hE hk X hR k189 hk189 S2 x1 x3 hP hS (lv_sub hl [1, 2, 3] rfl) hf
set_option maxHeartbeats 4000000 in
theorem w_X2_fillsBlocked_189 {p : Program} {l : Launch} {e : Env} {R : Room} {s : State} {m : MethodId} {args : Array Value} {below : List Frame} {meth : Method} {c : Code} {D : va_G} {dA : Nat → ClassId} {A : Nat → Prop} {ad : L3 → Nat} (E : L3 → Bool) (k : Nat) (hE : EOK E) (hk : k < 2) (X : CX RX2 cX2_fillsBlocked 5 (some .boolean) (KA D dA) p s m args meth c A) (hR : 3 ≤ R.frames ∧ 91 ≤ R.locals) {res : Mem × Int32} (n : Nat) : ∀ (S : Mem) (x1 : Int32) (x3 : Int32) (H : Heap) (locs : List Loc) (ls : Array Slot), Wd D clA (shC dA E) (exC E) A ad S H → va_S A s.heap H locs → lv_has ls 5 [(0, .ref (ad (H_o k))), (1, .int x1), (3, .int x3)] → f_X2_fillsBlocked_189 E k n S x1 x3 = some res → W p l e R s m args below meth c H locs 0 0 (MQ below (QiW D (shC dA E) (exC E) A ad res) args s 0 0 A) (F0 m 189 ls []) := by
  induction n with
  | zero =>
    intro S x1 x3 H locs ls hP hS hl hf
    exact absurd (show none = some res from hf) (fun h => by cases h)
  | succ n ih =>
    intro S x1 x3 H locs ls hP hS hl hf
    exact w_X2_fillsBlocked_189_b E k hE hk X hR (f_X2_fillsBlocked_189 E k n) ih S x1 x3 hP hS hl hf
set_option maxHeartbeats 4000000 in
theorem w_X2_fillsBlocked_96_b {p : Program} {l : Launch} {e : Env} {R : Room} {s : State} {m : MethodId} {args : Array Value} {below : List Frame} {meth : Method} {c : Code} {D : va_G} {dA : Nat → ClassId} {A : Nat → Prop} {ad : L3 → Nat} (E : L3 → Bool) (k : Nat) (hE : EOK E) (hk : k < 2) (X : CX RX2 cX2_fillsBlocked 5 (some .boolean) (KA D dA) p s m args meth c A) (hR : 3 ≤ R.frames ∧ 91 ≤ R.locals) {res : Mem × Int32} (k96 : Mem → Int32 → Int32 → Option (Mem × Int32)) (hk96 : ∀ (S : Mem) (x1 : Int32) (x3 : Int32) (H : Heap) (locs : List Loc) (ls : Array Slot), Wd D clA (shC dA E) (exC E) A ad S H → va_S A s.heap H locs → lv_has ls 5 [(0, .ref (ad (H_o k))), (1, .int x1), (3, .int x3)] → k96 S x1 x3 = some res → W p l e R s m args below meth c H locs 0 0 (MQ below (QiW D (shC dA E) (exC E) A ad res) args s 0 0 A) (F0 m 96 ls [])) (S : Mem) (x1 : Int32) (x3 : Int32) {H : Heap} {locs : List Loc} {ls : Array Slot} (hP : Wd D clA (shC dA E) (exC E) A ad S H) (hS : va_S A s.heap H locs) (hl : lv_has ls 5 [(0, .ref (ad (H_o k))), (1, .int x1), (3, .int x3)]) (hf : f_X2_fillsBlocked_96_b E k k96 S x1 x3 = some res) : W p l e R s m args below meth c H locs 0 0 (MQ below (QiW D (shC dA E) (exC E) A ad res) args s 0 0 A) (F0 m 96 ls []) := by
  have hx := X.hx
  have hb := X.hb
  unfold f_X2_fillsBlocked_96_b at hf
  refine lv_iload_n hx hb dX2_fillsBlocked_96 rfl (lv_at hl 2 rfl) ?_
  refine lv_sipush (v := 256) hx hb dX2_fillsBlocked_97 (by decide) ?_
  refine gb_icmp_ge (tgt := 187) hx hb dX2_fillsBlocked_100 (by decide) hf (fun hf => ?_) (fun hf => ?_)
  · refine lv_iconst (v := 0) hx hb dX2_fillsBlocked_187 (by decide) ?_
    refine lv_istore_n (lv' := [(3, .int 0), (0, .ref (ad (H_o k))), (1, .int x1)]) hx hb dX2_fillsBlocked_188 rfl hl (by decide) rfl (fun ls hl => ?_)
    exact w_X2_fillsBlocked_189 E k hE hk X hR FU S x1 0 _ _ _ hP hS (lv_sub hl [1, 2, 0] rfl) hf
  · refine lv_aload_n hx hb dX2_fillsBlocked_103 rfl (lv_at hl 0 rfl) ?_
    refine rg_X2_11 X hP (ex_H_o hE hk) dX2_fillsBlocked_104 ?_
    refine lv_iload_n hx hb dX2_fillsBlocked_107 rfl (lv_at hl 2 rfl) ?_
    refine ra_H_sendings_ld X hP (ex_H_sendings hE hk) dX2_fillsBlocked_108 hf (fun he1 hf => ?_) (fun hf => ?_)
    · refine lv_astore (lv' := [(4, .ref (ad (S_o k (Int32.toNatClampNeg x3)))), (0, .ref (ad (H_o k))), (1, .int x1), (3, .int x3)]) hx hb dX2_fillsBlocked_109 hl (by decide) rfl (fun ls hl => ?_)
      refine lv_aload hx hb dX2_fillsBlocked_111 (lv_at hl 0 rfl) ?_
      obtain ⟨v2, hq, hf⟩ := gS_eq hf
      refine gc_i (gc_fixS (S := S) X (mt_X2_waits l D dA A ad E k hE hk S (some (Int32.toNatClampNeg x3)) (fun _ h => by cases h; exact he1) hq) (lw_S q829 q830 q87 q831) ⟨rfl, rfl⟩ hd_X2_waits.2 ⟨Nat.le_trans (Nat.le_of_ble_eq_true rfl) hR.1, Nat.le_trans (Nat.le_of_ble_eq_true rfl) hR.2⟩ hP hS ⟨Nat.zero_le _, Nat.zero_le _⟩ rfl hl.1 rfl (Nat.le_of_ble_eq_true rfl) dX2_fillsBlocked_113) hS ?_
      rintro _ _ H locs ⟨rfl, rfl⟩ hP hS
      refine gb_if_eq (tgt := 181) hx hb dX2_fillsBlocked_116 (by decide) hf (fun hf => ?_) (fun hf => ?_)
      · exact w_X2_fillsBlocked_181 E k hE hk X hR k96 hk96 S x1 x3 hP hS (lv_sub hl [1, 2, 3] rfl) hf
      · refine lv_aload hx hb dX2_fillsBlocked_119 (lv_at hl 0 rfl) ?_
        refine rg_X2_300 X hP he1 dX2_fillsBlocked_121 ?_
        refine lv_i2l hx hb dX2_fillsBlocked_124 rfl ?_
        refine lv_aload hx hb dX2_fillsBlocked_125 (lv_at hl 0 rfl) ?_
        refine rg_X2_244 X hP he1 dX2_fillsBlocked_127 ?_
        refine gb_lcmp_ne (tgt := 181) hx hb dX2_fillsBlocked_130 dX2_fillsBlocked_131 (by decide) hf (fun hf => ?_) (fun hf => ?_)
        · exact w_X2_fillsBlocked_181 E k hE hk X hR k96 hk96 S x1 x3 hP hS (lv_sub hl [1, 2, 3] rfl) hf
        · refine lv_aload hx hb dX2_fillsBlocked_134 (lv_at hl 0 rfl) ?_
          refine rg_X2_317 X hP he1 dX2_fillsBlocked_136 ?_
          refine lv_aload hx hb dX2_fillsBlocked_139 (lv_at hl 0 rfl) ?_
          refine rg_X2_244 X hP he1 dX2_fillsBlocked_141 ?_
          refine gb_lcmp_eq (tgt := 181) hx hb dX2_fillsBlocked_144 dX2_fillsBlocked_145 (by decide) hf (fun hf => ?_) (fun hf => ?_)
          · exact w_X2_fillsBlocked_181 E k hE hk X hR k96 hk96 S x1 x3 hP hS (lv_sub hl [1, 2, 3] rfl) hf
          · refine lv_aload_n hx hb dX2_fillsBlocked_148 rfl (lv_at hl 1 rfl) ?_
            refine lv_bipush (v := 21) hx hb dX2_fillsBlocked_149 (by decide) ?_
            refine lv_iload_n hx hb dX2_fillsBlocked_151 rfl (lv_at hl 3 rfl) ?_
            refine lv_i2l hx hb dX2_fillsBlocked_152 rfl ?_
            refine lv_aload hx hb dX2_fillsBlocked_153 (lv_at hl 0 rfl) ?_
            refine rg_X2_244 X hP he1 dX2_fillsBlocked_155 ?_
            refine lv_lconst (v := 0) hx hb dX2_fillsBlocked_158 (by decide) ?_
            refine lv_iload_n hx hb dX2_fillsBlocked_159 rfl (lv_at hl 2 rfl) ?_
            obtain ⟨S3, v4, hq, hf⟩ := gS2_eq hf
            refine gc_i (gc_fixV (S := S) X (mt_X2_frame l D dA A ad E k hE hk S (21 : Int32) (Int32.toInt64 x3) (S.2 (S_o k (Int32.toNatClampNeg x3)) 8) (0 : Int64) x1 hq) (lw_V q812 q814 qs16 q87 q815) ⟨rfl, rfl⟩ hd_X2_frame ⟨Nat.le_trans (Nat.le_of_ble_eq_true rfl) hR.1, Nat.le_trans (Nat.le_of_ble_eq_true rfl) hR.2⟩ (wd_recv (r := H_o k) (ci := 2) (q := (RX2, TX2, 23)) X.hK.1 hP (ex_H_o hE hk) rfl rfl) hP hS ⟨Nat.zero_le _, Nat.zero_le _⟩ rfl hl.1 rfl (Nat.le_of_ble_eq_true rfl) dX2_fillsBlocked_160) hS ?_
            rintro _ _ H locs ⟨⟩ hP hS
            refine gb_if_ne (tgt := 169) hx hb dX2_fillsBlocked_163 (by decide) hf (fun hf => ?_) (fun hf => ?_)
            · refine lv_aload hx hb dX2_fillsBlocked_169 (lv_at hl 0 rfl) ?_
              refine lv_aload hx hb dX2_fillsBlocked_171 (lv_at hl 0 rfl) ?_
              refine rg_X2_244 X hP he1 dX2_fillsBlocked_173 ?_
              refine rp_X2_317 X hP hS he1 dX2_fillsBlocked_176 hf (fun S5 H locs hP hS hf => ?_)
              refine lv_iconst (v := 1) hx hb dX2_fillsBlocked_179 (by decide) ?_
              exact gr_zW X hP hS (Option.some.inj hf) (by decide) dX2_fillsBlocked_180
            · refine lv_goto (tgt := 181) hx hb dX2_fillsBlocked_166 (by decide) ?_
              exact w_X2_fillsBlocked_181 E k hE hk X hR k96 hk96 S3 x1 x3 hP hS (lv_sub hl [1, 2, 3] rfl) hf
    · refine lv_astoreN (lv' := [(4, .null), (0, .ref (ad (H_o k))), (1, .int x1), (3, .int x3)]) hx hb dX2_fillsBlocked_109 hl (by decide) rfl (fun ls hl => ?_)
      refine lv_aloadN hx hb dX2_fillsBlocked_111 (lv_at hl 0 rfl) ?_
      obtain ⟨v6, hq, hf⟩ := gS_eq hf
      refine gc_i (gc_fixS (S := S) X (mt_X2_waits l D dA A ad E k hE hk S none (fun _ h => by cases h) hq) (lw_S q829 q830 q87 q831) ⟨rfl, rfl⟩ hd_X2_waits.2 ⟨Nat.le_trans (Nat.le_of_ble_eq_true rfl) hR.1, Nat.le_trans (Nat.le_of_ble_eq_true rfl) hR.2⟩ hP hS ⟨Nat.zero_le _, Nat.zero_le _⟩ rfl hl.1 rfl (Nat.le_of_ble_eq_true rfl) dX2_fillsBlocked_113) hS ?_
      rintro _ _ H locs ⟨rfl, rfl⟩ hP hS
      refine gb_if_eq (tgt := 181) hx hb dX2_fillsBlocked_116 (by decide) hf (fun hf => ?_) (fun hf => ?_)
      · exact w_X2_fillsBlocked_181 E k hE hk X hR k96 hk96 S x1 x3 hP hS (lv_sub hl [1, 2, 3] rfl) hf
      · refine lv_aloadN hx hb dX2_fillsBlocked_119 (lv_at hl 0 rfl) ?_
        cases hf
set_option maxHeartbeats 4000000 in
theorem w_X2_fillsBlocked_96 {p : Program} {l : Launch} {e : Env} {R : Room} {s : State} {m : MethodId} {args : Array Value} {below : List Frame} {meth : Method} {c : Code} {D : va_G} {dA : Nat → ClassId} {A : Nat → Prop} {ad : L3 → Nat} (E : L3 → Bool) (k : Nat) (hE : EOK E) (hk : k < 2) (X : CX RX2 cX2_fillsBlocked 5 (some .boolean) (KA D dA) p s m args meth c A) (hR : 3 ≤ R.frames ∧ 91 ≤ R.locals) {res : Mem × Int32} (n : Nat) : ∀ (S : Mem) (x1 : Int32) (x3 : Int32) (H : Heap) (locs : List Loc) (ls : Array Slot), Wd D clA (shC dA E) (exC E) A ad S H → va_S A s.heap H locs → lv_has ls 5 [(0, .ref (ad (H_o k))), (1, .int x1), (3, .int x3)] → f_X2_fillsBlocked_96 E k n S x1 x3 = some res → W p l e R s m args below meth c H locs 0 0 (MQ below (QiW D (shC dA E) (exC E) A ad res) args s 0 0 A) (F0 m 96 ls []) := by
  induction n with
  | zero =>
    intro S x1 x3 H locs ls hP hS hl hf
    exact absurd (show none = some res from hf) (fun h => by cases h)
  | succ n ih =>
    intro S x1 x3 H locs ls hP hS hl hf
    exact w_X2_fillsBlocked_96_b E k hE hk X hR (f_X2_fillsBlocked_96 E k n) ih S x1 x3 hP hS hl hf
set_option maxHeartbeats 4000000 in
theorem w_X2_fillsBlocked_94 {p : Program} {l : Launch} {e : Env} {R : Room} {s : State} {m : MethodId} {args : Array Value} {below : List Frame} {meth : Method} {c : Code} {D : va_G} {dA : Nat → ClassId} {A : Nat → Prop} {ad : L3 → Nat} (E : L3 → Bool) (k : Nat) (hE : EOK E) (hk : k < 2) (X : CX RX2 cX2_fillsBlocked 5 (some .boolean) (KA D dA) p s m args meth c A) (hR : 3 ≤ R.frames ∧ 91 ≤ R.locals) {res : Mem × Int32} (S : Mem) (x1 : Int32) {H : Heap} {locs : List Loc} {ls : Array Slot} (hP : Wd D clA (shC dA E) (exC E) A ad S H) (hS : va_S A s.heap H locs) (hl : lv_has ls 5 [(0, .ref (ad (H_o k))), (1, .int x1)]) (hf : f_X2_fillsBlocked_94 E k S x1 = some res) : W p l e R s m args below meth c H locs 0 0 (MQ below (QiW D (shC dA E) (exC E) A ad res) args s 0 0 A) (F0 m 94 ls []) := by
  have hx := X.hx
  have hb := X.hb
  unfold f_X2_fillsBlocked_94 at hf
  refine lv_iconst (v := 0) hx hb dX2_fillsBlocked_94 (by decide) ?_
  refine lv_istore_n (lv' := [(3, .int 0), (0, .ref (ad (H_o k))), (1, .int x1)]) hx hb dX2_fillsBlocked_95 rfl hl (by decide) rfl (fun ls hl => ?_)
  exact w_X2_fillsBlocked_96 E k hE hk X hR FU S x1 0 _ _ _ hP hS (lv_sub hl [1, 2, 0] rfl) hf
set_option maxHeartbeats 4000000 in
theorem w_X2_fillsBlocked_52 {p : Program} {l : Launch} {e : Env} {R : Room} {s : State} {m : MethodId} {args : Array Value} {below : List Frame} {meth : Method} {c : Code} {D : va_G} {dA : Nat → ClassId} {A : Nat → Prop} {ad : L3 → Nat} (E : L3 → Bool) (k : Nat) (hE : EOK E) (hk : k < 2) (X : CX RX2 cX2_fillsBlocked 5 (some .boolean) (KA D dA) p s m args meth c A) (hR : 3 ≤ R.frames ∧ 91 ≤ R.locals) {res : Mem × Int32} (S : Mem) (x1 : Int32) (x2 : Int32) {H : Heap} {locs : List Loc} {ls : Array Slot} (hP : Wd D clA (shC dA E) (exC E) A ad S H) (hS : va_S A s.heap H locs) (hl : lv_has ls 5 [(0, .ref (ad (H_o k))), (1, .int x1), (2, .int x2)]) (hf : f_X2_fillsBlocked_52 E k S x1 x2 = some res) : W p l e R s m args below meth c H locs 0 0 (MQ below (QiW D (shC dA E) (exC E) A ad res) args s 0 0 A) (F0 m 52 ls []) := by
  have hx := X.hx
  have hb := X.hb
  unfold f_X2_fillsBlocked_52 at hf
  refine lv_iload_n hx hb dX2_fillsBlocked_52 rfl (lv_at hl 2 rfl) ?_
  refine gb_if_eq (tgt := 94) hx hb dX2_fillsBlocked_53 (by decide) hf (fun hf => ?_) (fun hf => ?_)
  · exact w_X2_fillsBlocked_94 E k hE hk X hR S x1 hP hS (lv_sub hl [0, 1] rfl) hf
  · refine lv_aload_n hx hb dX2_fillsBlocked_56 rfl (lv_at hl 0 rfl) ?_
    refine rg_X2_61 X hP (ex_H_o hE hk) dX2_fillsBlocked_57 ?_
    refine lv_aload_n hx hb dX2_fillsBlocked_60 rfl (lv_at hl 0 rfl) ?_
    refine rg_X2_82 X hP (ex_H_o hE hk) dX2_fillsBlocked_61 ?_
    refine gb_lcmp_eq (tgt := 94) hx hb dX2_fillsBlocked_64 dX2_fillsBlocked_65 (by decide) hf (fun hf => ?_) (fun hf => ?_)
    · exact w_X2_fillsBlocked_94 E k hE hk X hR S x1 hP hS (lv_sub hl [0, 1] rfl) hf
    · refine lv_aload_n hx hb dX2_fillsBlocked_68 rfl (lv_at hl 0 rfl) ?_
      refine lv_bipush (v := 20) hx hb dX2_fillsBlocked_69 (by decide) ?_
      refine lv_aload_n hx hb dX2_fillsBlocked_71 rfl (lv_at hl 0 rfl) ?_
      refine rg_X2_82 X hP (ex_H_o hE hk) dX2_fillsBlocked_72 ?_
      refine lv_lconst (v := 0) hx hb dX2_fillsBlocked_75 (by decide) ?_
      refine lv_lconst (v := 0) hx hb dX2_fillsBlocked_76 (by decide) ?_
      refine lv_iload_n hx hb dX2_fillsBlocked_77 rfl (lv_at hl 1 rfl) ?_
      obtain ⟨S1, v2, hq, hf⟩ := gS2_eq hf
      refine gc_i (gc_fixV (S := S) X (mt_X2_frame l D dA A ad E k hE hk S (20 : Int32) (S.2 (H_o k) 9) (0 : Int64) (0 : Int64) x1 hq) (lw_V q812 q814 qs16 q87 q815) ⟨rfl, rfl⟩ hd_X2_frame ⟨Nat.le_trans (Nat.le_of_ble_eq_true rfl) hR.1, Nat.le_trans (Nat.le_of_ble_eq_true rfl) hR.2⟩ (wd_recv (r := H_o k) (ci := 2) (q := (RX2, TX2, 23)) X.hK.1 hP (ex_H_o hE hk) rfl rfl) hP hS ⟨Nat.zero_le _, Nat.zero_le _⟩ rfl hl.1 rfl (Nat.le_of_ble_eq_true rfl) dX2_fillsBlocked_78) hS ?_
      rintro _ _ H locs ⟨⟩ hP hS
      refine gb_if_eq (tgt := 94) hx hb dX2_fillsBlocked_81 (by decide) hf (fun hf => ?_) (fun hf => ?_)
      · exact w_X2_fillsBlocked_94 E k hE hk X hR S1 x1 hP hS (lv_sub hl [0, 1] rfl) hf
      · refine lv_aload_n hx hb dX2_fillsBlocked_84 rfl (lv_at hl 0 rfl) ?_
        refine lv_aload_n hx hb dX2_fillsBlocked_85 rfl (lv_at hl 0 rfl) ?_
        refine rg_X2_82 X hP (ex_H_o hE hk) dX2_fillsBlocked_86 ?_
        refine rp_X2_61 X hP hS (ex_H_o hE hk) dX2_fillsBlocked_89 hf (fun S3 H locs hP hS hf => ?_)
        refine lv_iconst (v := 1) hx hb dX2_fillsBlocked_92 (by decide) ?_
        exact gr_zW X hP hS (Option.some.inj hf) (by decide) dX2_fillsBlocked_93
set_option maxHeartbeats 4000000 in
theorem w_X2_fillsBlocked_4_b {p : Program} {l : Launch} {e : Env} {R : Room} {s : State} {m : MethodId} {args : Array Value} {below : List Frame} {meth : Method} {c : Code} {D : va_G} {dA : Nat → ClassId} {A : Nat → Prop} {ad : L3 → Nat} (E : L3 → Bool) (k : Nat) (hE : EOK E) (hk : k < 2) (X : CX RX2 cX2_fillsBlocked 5 (some .boolean) (KA D dA) p s m args meth c A) (hR : 3 ≤ R.frames ∧ 91 ≤ R.locals) {res : Mem × Int32} (k4 : Mem → Int32 → Int32 → Int32 → Option (Mem × Int32)) (hk4 : ∀ (S : Mem) (x1 : Int32) (x2 : Int32) (x3 : Int32) (H : Heap) (locs : List Loc) (ls : Array Slot), Wd D clA (shC dA E) (exC E) A ad S H → va_S A s.heap H locs → lv_has ls 5 [(0, .ref (ad (H_o k))), (1, .int x1), (2, .int x2), (3, .int x3)] → k4 S x1 x2 x3 = some res → W p l e R s m args below meth c H locs 0 0 (MQ below (QiW D (shC dA E) (exC E) A ad res) args s 0 0 A) (F0 m 4 ls [])) (S : Mem) (x1 : Int32) (x2 : Int32) (x3 : Int32) {H : Heap} {locs : List Loc} {ls : Array Slot} (hP : Wd D clA (shC dA E) (exC E) A ad S H) (hS : va_S A s.heap H locs) (hl : lv_has ls 5 [(0, .ref (ad (H_o k))), (1, .int x1), (2, .int x2), (3, .int x3)]) (hf : f_X2_fillsBlocked_4_b E k k4 S x1 x2 x3 = some res) : W p l e R s m args below meth c H locs 0 0 (MQ below (QiW D (shC dA E) (exC E) A ad res) args s 0 0 A) (F0 m 4 ls []) := by
  have hx := X.hx
  have hb := X.hb
  unfold f_X2_fillsBlocked_4_b at hf
  refine lv_iload_n hx hb dX2_fillsBlocked_4 rfl (lv_at hl 3 rfl) ?_
  refine lv_sipush (v := 256) hx hb dX2_fillsBlocked_5 (by decide) ?_
  refine gb_icmp_ge (tgt := 52) hx hb dX2_fillsBlocked_8 (by decide) hf (fun hf => ?_) (fun hf => ?_)
  · exact w_X2_fillsBlocked_52 E k hE hk X hR S x1 x2 hP hS (lv_sub hl [0, 1, 2] rfl) hf
  · refine lv_aload_n hx hb dX2_fillsBlocked_11 rfl (lv_at hl 0 rfl) ?_
    refine rg_X2_310 X hP (ex_H_o hE hk) dX2_fillsBlocked_12 ?_
    refine lv_i2l hx hb dX2_fillsBlocked_15 rfl ?_
    refine lv_aload_n hx hb dX2_fillsBlocked_16 rfl (lv_at hl 0 rfl) ?_
    refine rg_X2_82 X hP (ex_H_o hE hk) dX2_fillsBlocked_17 ?_
    refine gb_lcmp_ne (tgt := 52) hx hb dX2_fillsBlocked_20 dX2_fillsBlocked_21 (by decide) hf (fun hf => ?_) (fun hf => ?_)
    · exact w_X2_fillsBlocked_52 E k hE hk X hR S x1 x2 hP hS (lv_sub hl [0, 1, 2] rfl) hf
    · refine lv_iload_n hx hb dX2_fillsBlocked_24 rfl (lv_at hl 2 rfl) ?_
      refine gb_if_ne (tgt := 40) hx hb dX2_fillsBlocked_25 (by decide) hf (fun hf => ?_) (fun hf => ?_)
      · exact w_X2_fillsBlocked_40 E k hE hk X hR k4 hk4 S x1 x3 hP hS (lv_sub hl [0, 1, 3] rfl) hf
      · refine lv_aload_n hx hb dX2_fillsBlocked_28 rfl (lv_at hl 0 rfl) ?_
        refine rg_X2_11 X hP (ex_H_o hE hk) dX2_fillsBlocked_29 ?_
        refine lv_iload_n hx hb dX2_fillsBlocked_32 rfl (lv_at hl 3 rfl) ?_
        refine ra_H_sendings_ld X hP (ex_H_sendings hE hk) dX2_fillsBlocked_33 hf (fun he1 hf => ?_) (fun hf => ?_)
        · obtain ⟨v2, hq, hf⟩ := gS_eq hf
          refine gc_i (gc_fixS (S := S) X (mt_X2_waits l D dA A ad E k hE hk S (some (Int32.toNatClampNeg x3)) (fun _ h => by cases h; exact he1) hq) (lw_S q829 q830 q87 q831) ⟨rfl, rfl⟩ hd_X2_waits.2 ⟨Nat.le_trans (Nat.le_of_ble_eq_true rfl) hR.1, Nat.le_trans (Nat.le_of_ble_eq_true rfl) hR.2⟩ hP hS ⟨Nat.zero_le _, Nat.zero_le _⟩ rfl hl.1 rfl (Nat.le_of_ble_eq_true rfl) dX2_fillsBlocked_34) hS ?_
          rintro _ _ H locs ⟨rfl, rfl⟩ hP hS
          refine gb_if_eq (tgt := 44) hx hb dX2_fillsBlocked_37 (by decide) hf (fun hf => ?_) (fun hf => ?_)
          · refine lv_iconst (v := 0) hx hb dX2_fillsBlocked_44 (by decide) ?_
            exact w_X2_fillsBlocked_45 E k hE hk X hR k4 hk4 S x1 x3 0 hP hS (lv_sub hl [0, 1, 3] rfl) hf
          · exact w_X2_fillsBlocked_40 E k hE hk X hR k4 hk4 S x1 x3 hP hS (lv_sub hl [0, 1, 3] rfl) hf
        · obtain ⟨v3, hq, hf⟩ := gS_eq hf
          refine gc_i (gc_fixS (S := S) X (mt_X2_waits l D dA A ad E k hE hk S none (fun _ h => by cases h) hq) (lw_S q829 q830 q87 q831) ⟨rfl, rfl⟩ hd_X2_waits.2 ⟨Nat.le_trans (Nat.le_of_ble_eq_true rfl) hR.1, Nat.le_trans (Nat.le_of_ble_eq_true rfl) hR.2⟩ hP hS ⟨Nat.zero_le _, Nat.zero_le _⟩ rfl hl.1 rfl (Nat.le_of_ble_eq_true rfl) dX2_fillsBlocked_34) hS ?_
          rintro _ _ H locs ⟨rfl, rfl⟩ hP hS
          refine gb_if_eq (tgt := 44) hx hb dX2_fillsBlocked_37 (by decide) hf (fun hf => ?_) (fun hf => ?_)
          · refine lv_iconst (v := 0) hx hb dX2_fillsBlocked_44 (by decide) ?_
            exact w_X2_fillsBlocked_45 E k hE hk X hR k4 hk4 S x1 x3 0 hP hS (lv_sub hl [0, 1, 3] rfl) hf
          · exact w_X2_fillsBlocked_40 E k hE hk X hR k4 hk4 S x1 x3 hP hS (lv_sub hl [0, 1, 3] rfl) hf
set_option maxHeartbeats 4000000 in
theorem w_X2_fillsBlocked_4 {p : Program} {l : Launch} {e : Env} {R : Room} {s : State} {m : MethodId} {args : Array Value} {below : List Frame} {meth : Method} {c : Code} {D : va_G} {dA : Nat → ClassId} {A : Nat → Prop} {ad : L3 → Nat} (E : L3 → Bool) (k : Nat) (hE : EOK E) (hk : k < 2) (X : CX RX2 cX2_fillsBlocked 5 (some .boolean) (KA D dA) p s m args meth c A) (hR : 3 ≤ R.frames ∧ 91 ≤ R.locals) {res : Mem × Int32} (n : Nat) : ∀ (S : Mem) (x1 : Int32) (x2 : Int32) (x3 : Int32) (H : Heap) (locs : List Loc) (ls : Array Slot), Wd D clA (shC dA E) (exC E) A ad S H → va_S A s.heap H locs → lv_has ls 5 [(0, .ref (ad (H_o k))), (1, .int x1), (2, .int x2), (3, .int x3)] → f_X2_fillsBlocked_4 E k n S x1 x2 x3 = some res → W p l e R s m args below meth c H locs 0 0 (MQ below (QiW D (shC dA E) (exC E) A ad res) args s 0 0 A) (F0 m 4 ls []) := by
  induction n with
  | zero =>
    intro S x1 x2 x3 H locs ls hP hS hl hf
    exact absurd (show none = some res from hf) (fun h => by cases h)
  | succ n ih =>
    intro S x1 x2 x3 H locs ls hP hS hl hf
    exact w_X2_fillsBlocked_4_b E k hE hk X hR (f_X2_fillsBlocked_4 E k n) ih S x1 x2 x3 hP hS hl hf
set_option maxHeartbeats 4000000 in
theorem w_X2_fillsBlocked {p : Program} {l : Launch} {e : Env} {R : Room} {s : State} {m : MethodId} {args : Array Value} {below : List Frame} {meth : Method} {c : Code} {D : va_G} {dA : Nat → ClassId} {A : Nat → Prop} {ad : L3 → Nat} (E : L3 → Bool) (k : Nat) (hE : EOK E) (hk : k < 2) (X : CX RX2 cX2_fillsBlocked 5 (some .boolean) (KA D dA) p s m args meth c A) (hR : 3 ≤ R.frames ∧ 91 ≤ R.locals) {res : Mem × Int32} (S : Mem) (x1 : Int32) {H : Heap} {locs : List Loc} {ls : Array Slot} (hP : Wd D clA (shC dA E) (exC E) A ad S H) (hS : va_S A s.heap H locs) (hl : lv_has ls 5 [(0, .ref (ad (H_o k))), (1, .int x1)]) (hf : f_X2_fillsBlocked E k S x1 = some res) : W p l e R s m args below meth c H locs 0 0 (MQ below (QiW D (shC dA E) (exC E) A ad res) args s 0 0 A) (F0 m 0 ls []) := by
  have hx := X.hx
  have hb := X.hb
  unfold f_X2_fillsBlocked at hf
  refine lv_iconst (v := 0) hx hb dX2_fillsBlocked_0 (by decide) ?_
  refine lv_istore_n (lv' := [(2, .int 0), (0, .ref (ad (H_o k))), (1, .int x1)]) hx hb dX2_fillsBlocked_1 rfl hl (by decide) rfl (fun ls hl => ?_)
  refine lv_iconst (v := 0) hx hb dX2_fillsBlocked_2 (by decide) ?_
  refine lv_istore_n (lv' := [(3, .int 0), (2, .int 0), (0, .ref (ad (H_o k))), (1, .int x1)]) hx hb dX2_fillsBlocked_3 rfl hl (by decide) rfl (fun ls hl => ?_)
  exact w_X2_fillsBlocked_4 E k hE hk X hR FU S x1 0 0 _ _ _ hP hS (lv_sub hl [2, 3, 1, 0] rfl) hf
theorem hd_X2_fillsBlocked : yX2_fillsBlocked.cls = RX2 ∧ yX2_fillsBlocked.cls ≠ "java/lang/invoke/MethodHandle" ∧ yX2_fillsBlocked.cls ≠ "java/lang/invoke/VarHandle" ∧ (parseMethodDescriptor yX2_fillsBlocked.desc).map (fun d => d.parameters.length) = some 1 := by decide +kernel
set_option maxHeartbeats 4000000 in
theorem mt_X2_fillsBlocked (l : Launch) (D : va_G) (dA : Nat → ClassId) (A : Nat → Prop) (ad : L3 → Nat) (E : L3 → Bool) (k : Nat) (hE : EOK E) (hk : k < 2) (S : Mem) (x1 : Int32) {res : Mem × Int32} (hq : f_X2_fillsBlocked E k S x1 = some res) : Met l yX2_fillsBlocked (ws_ yX2_fillsBlocked cX2_fillsBlocked 5 (some .boolean)) ({ frames := 3, cells := 0, slots := 0, locals := 91 } : Room) (va_Pc [.ref (ad (H_o k)), .int x1] (PreW D dA (shC dA E) (exC E) A ad S)) (QiW D (shC dA E) (exC E) A ad res) 0 0 A :=
  gx_head (by decide) (Nat.le_of_ble_eq_true rfl) (fun p e s m below meth c ls X hP hl => w_X2_fillsBlocked (l := l) E k hE hk X ⟨Nat.le_of_ble_eq_true rfl, Nat.le_of_ble_eq_true rfl⟩ S x1 hP va_S.rf (lv_sub (l := [(0, .ref (ad (H_o k))), (1, .int x1)]) hl [0, 1] rfl) hq)
set_option maxHeartbeats 4000000 in
theorem w_X5_copy_92 {p : Program} {l : Launch} {e : Env} {R : Room} {s : State} {m : MethodId} {args : Array Value} {below : List Frame} {meth : Method} {c : Code} {D : va_G} {dA : Nat → ClassId} {A : Nat → Prop} {ad : L3 → Nat} (E : L3 → Bool) (k : Nat) (hE : EOK E) (hk : k < 2) (X : CX RX5 cX5_copy 10 none (KA D dA) p s m args meth c A) (hR : 1 ≤ R.frames ∧ 40 ≤ R.locals) {res : Mem} (k12 : Mem → Int32 → Int32 → Int32 → Int32 → Int32 → Option (Mem)) (hk12 : ∀ (S : Mem) (x2 : Int32) (x4 : Int32) (x5 : Int32) (x6 : Int32) (x7 : Int32) (H : Heap) (locs : List Loc) (ls : Array Slot), Wd D clA (shC dA E) (exC E) A ad S H → va_S A s.heap H locs → lv_has ls 10 [(0, .ref (ad (T_o k))), (2, .int x2), (3, .ref (ad (H_row k))), (4, .int x4), (5, .int x5), (6, .int x6), (7, .int x7)] → k12 S x2 x4 x5 x6 x7 = some res → W p l e R s m args below meth c H locs 0 0 (MQ below (QvW D (shC dA E) (exC E) A ad res) args s 0 0 A) (F0 m 12 ls [])) (S : Mem) (x2 : Int32) (x4 : Int32) (x5 : Int32) (x6 : Int32) (x7 : Int32) {H : Heap} {locs : List Loc} {ls : Array Slot} (hP : Wd D clA (shC dA E) (exC E) A ad S H) (hS : va_S A s.heap H locs) (hl : lv_has ls 10 [(0, .ref (ad (T_o k))), (2, .int x2), (3, .ref (ad (H_row k))), (4, .int x4), (5, .int x5), (6, .int x6), (7, .int x7)]) (hf : f_X5_copy_92 k k12 S x2 x4 x5 x6 x7 = some res) : W p l e R s m args below meth c H locs 0 0 (MQ below (QvW D (shC dA E) (exC E) A ad res) args s 0 0 A) (F0 m 92 ls []) := by
  have hx := X.hx
  have hb := X.hb
  unfold f_X5_copy_92 at hf
  refine lv_iload hx hb dX5_copy_92 (lv_at hl 5 rfl) ?_
  refine lv_aload_n hx hb dX5_copy_94 rfl (lv_at hl 0 rfl) ?_
  refine rg_X5_20 X hP (ex_T_o hE hk) dX5_copy_95 ?_
  refine lv_iload hx hb dX5_copy_98 (lv_at hl 4 rfl) ?_
  refine ra_T_size_ld X hP (ex_T_size hE hk) dX5_copy_100 hf (fun hf => ?_)
  refine lv_iadd hx hb dX5_copy_101 ?_
  refine lv_istore (lv' := [(6, .int (x6 + (S.1 (T_size k) (Int32.toNatClampNeg x5)))), (0, .ref (ad (T_o k))), (2, .int x2), (3, .ref (ad (H_row k))), (4, .int x4), (5, .int x5), (7, .int x7)]) hx hb dX5_copy_102 hl (by decide) rfl (fun ls hl => ?_)
  refine lv_aload_n hx hb dX5_copy_104 rfl (lv_at hl 1 rfl) ?_
  refine rg_X5_23 X hP (ex_T_o hE hk) dX5_copy_105 ?_
  refine lv_iload hx hb dX5_copy_108 (lv_at hl 5 rfl) ?_
  refine ra_T_next_ld X hP (ex_T_next hE hk) dX5_copy_110 hf (fun hf => ?_)
  refine lv_istore (lv' := [(5, .int (S.1 (T_next k) (Int32.toNatClampNeg x5))), (6, .int (x6 + (S.1 (T_size k) (Int32.toNatClampNeg x5)))), (0, .ref (ad (T_o k))), (2, .int x2), (3, .ref (ad (H_row k))), (4, .int x4), (7, .int x7)]) hx hb dX5_copy_111 hl (by decide) rfl (fun ls hl => ?_)
  refine lv_goto (tgt := 12) hx hb dX5_copy_113 (by decide) ?_
  exact hk12 S x2 x4 (S.1 (T_next k) (Int32.toNatClampNeg x5)) (x6 + (S.1 (T_size k) (Int32.toNatClampNeg x5))) x7 _ _ _ hP hS (lv_sub hl [2, 3, 4, 5, 0, 1, 6] rfl) hf
set_option maxHeartbeats 4000000 in
theorem w_X5_copy_12_b {p : Program} {l : Launch} {e : Env} {R : Room} {s : State} {m : MethodId} {args : Array Value} {below : List Frame} {meth : Method} {c : Code} {D : va_G} {dA : Nat → ClassId} {A : Nat → Prop} {ad : L3 → Nat} (E : L3 → Bool) (k : Nat) (hE : EOK E) (hk : k < 2) (X : CX RX5 cX5_copy 10 none (KA D dA) p s m args meth c A) (hR : 1 ≤ R.frames ∧ 40 ≤ R.locals) {res : Mem} (k12 : Mem → Int32 → Int32 → Int32 → Int32 → Int32 → Option (Mem)) (hk12 : ∀ (S : Mem) (x2 : Int32) (x4 : Int32) (x5 : Int32) (x6 : Int32) (x7 : Int32) (H : Heap) (locs : List Loc) (ls : Array Slot), Wd D clA (shC dA E) (exC E) A ad S H → va_S A s.heap H locs → lv_has ls 10 [(0, .ref (ad (T_o k))), (2, .int x2), (3, .ref (ad (H_row k))), (4, .int x4), (5, .int x5), (6, .int x6), (7, .int x7)] → k12 S x2 x4 x5 x6 x7 = some res → W p l e R s m args below meth c H locs 0 0 (MQ below (QvW D (shC dA E) (exC E) A ad res) args s 0 0 A) (F0 m 12 ls [])) (S : Mem) (x2 : Int32) (x4 : Int32) (x5 : Int32) (x6 : Int32) (x7 : Int32) {H : Heap} {locs : List Loc} {ls : Array Slot} (hP : Wd D clA (shC dA E) (exC E) A ad S H) (hS : va_S A s.heap H locs) (hl : lv_has ls 10 [(0, .ref (ad (T_o k))), (2, .int x2), (3, .ref (ad (H_row k))), (4, .int x4), (5, .int x5), (6, .int x6), (7, .int x7)]) (hf : f_X5_copy_12_b k k12 S x2 x4 x5 x6 x7 = some res) : W p l e R s m args below meth c H locs 0 0 (MQ below (QvW D (shC dA E) (exC E) A ad res) args s 0 0 A) (F0 m 12 ls []) := by
  have hx := X.hx
  have hb := X.hb
  unfold f_X5_copy_12_b at hf
  refine lv_iload hx hb dX5_copy_12 (lv_at hl 4 rfl) ?_
  refine lv_iconst (v := (-1)) hx hb dX5_copy_14 (by decide) ?_
  refine gb_icmp_eq (tgt := 116) hx hb dX5_copy_15 (by decide) hf (fun hf => ?_) (fun hf => ?_)
  · exact gr_vW X hP hS (Option.some.inj hf) dX5_copy_116
  · refine lv_iload hx hb dX5_copy_18 (lv_at hl 6 rfl) ?_
    refine lv_iload hx hb dX5_copy_20 (lv_at hl 3 rfl) ?_
    refine gb_icmp_ge (tgt := 116) hx hb dX5_copy_22 (by decide) hf (fun hf => ?_) (fun hf => ?_)
    · exact gr_vW X hP hS (Option.some.inj hf) dX5_copy_116
    · refine lv_iload_n hx hb dX5_copy_25 rfl (lv_at hl 1 rfl) ?_
      refine lv_iload hx hb dX5_copy_26 (lv_at hl 6 rfl) ?_
      refine lv_iadd hx hb dX5_copy_28 ?_
      refine lv_iload hx hb dX5_copy_29 (lv_at hl 5 rfl) ?_
      refine lv_isub hx hb dX5_copy_31 ?_
      refine lv_iconst (v := 0) hx hb dX5_copy_32 (by decide) ?_
      refine gm_mxI X (X.hts _ q847) (X.hts _ q794) (X.hts _ q99) (X.hts _ q795) hl.1 ⟨Nat.zero_le _, Nat.zero_le _⟩ (Nat.le_trans (Nat.le_of_ble_eq_true rfl) hR.1) (Nat.le_trans (Nat.le_of_ble_eq_true rfl) hR.2) dX5_copy_33 ?_
      refine lv_istore (lv' := [(8, .int (mxI ((x2 + x7) - x6) (0 : Int32))), (0, .ref (ad (T_o k))), (2, .int x2), (3, .ref (ad (H_row k))), (4, .int x4), (5, .int x5), (6, .int x6), (7, .int x7)]) hx hb dX5_copy_36 hl (by decide) rfl (fun ls hl => ?_)
      refine lv_aload_n hx hb dX5_copy_38 rfl (lv_at hl 1 rfl) ?_
      refine rg_X5_20 X hP (ex_T_o hE hk) dX5_copy_39 ?_
      refine lv_iload hx hb dX5_copy_42 (lv_at hl 5 rfl) ?_
      refine ra_T_size_ld X hP (ex_T_size hE hk) dX5_copy_44 hf (fun hf => ?_)
      refine lv_iload hx hb dX5_copy_45 (lv_at hl 0 rfl) ?_
      refine lv_isub hx hb dX5_copy_47 ?_
      refine lv_iload hx hb dX5_copy_48 (lv_at hl 4 rfl) ?_
      refine lv_iload hx hb dX5_copy_50 (lv_at hl 7 rfl) ?_
      refine lv_isub hx hb dX5_copy_52 ?_
      refine gm_mnI X (X.hts _ q667) (X.hts _ q668) (X.hts _ q99) (X.hts _ q669) hl.1 ⟨Nat.zero_le _, Nat.zero_le _⟩ (Nat.le_trans (Nat.le_of_ble_eq_true rfl) hR.1) (Nat.le_trans (Nat.le_of_ble_eq_true rfl) hR.2) dX5_copy_53 ?_
      refine lv_istore (lv' := [(9, .int (mnI ((S.1 (T_size k) (Int32.toNatClampNeg x5)) - (mxI ((x2 + x7) - x6) (0 : Int32))) (x4 - x7))), (8, .int (mxI ((x2 + x7) - x6) (0 : Int32))), (0, .ref (ad (T_o k))), (2, .int x2), (3, .ref (ad (H_row k))), (4, .int x4), (5, .int x5), (6, .int x6), (7, .int x7)]) hx hb dX5_copy_56 hl (by decide) rfl (fun ls hl => ?_)
      refine lv_iload hx hb dX5_copy_58 (lv_at hl 0 rfl) ?_
      refine gb_if_le (tgt := 92) hx hb dX5_copy_60 (by decide) hf (fun hf => ?_) (fun hf => ?_)
      · exact w_X5_copy_92 E k hE hk X hR k12 hk12 S x2 x4 x5 x6 x7 hP hS (lv_sub hl [2, 3, 4, 5, 6, 7, 8] rfl) hf
      · refine lv_aload_n hx hb dX5_copy_63 rfl (lv_at hl 2 rfl) ?_
        refine rg_X5_10 X hP (ex_T_o hE hk) dX5_copy_64 ?_
        refine lv_aload_n hx hb dX5_copy_67 rfl (lv_at hl 2 rfl) ?_
        refine rg_X5_16 X hP (ex_T_o hE hk) dX5_copy_68 ?_
        refine lv_iload hx hb dX5_copy_71 (lv_at hl 6 rfl) ?_
        refine ra_T_at_ld X hP (ex_T_at hE hk) dX5_copy_73 hf (fun hf => ?_)
        refine lv_iload hx hb dX5_copy_74 (lv_at hl 1 rfl) ?_
        refine lv_iadd hx hb dX5_copy_76 ?_
        refine lv_aload_n hx hb dX5_copy_77 rfl (lv_at hl 4 rfl) ?_
        refine lv_iload hx hb dX5_copy_78 (lv_at hl 8 rfl) ?_
        refine lv_iload hx hb dX5_copy_80 (lv_at hl 0 rfl) ?_
        refine gc_copy X hP hS (src := T_bytes k) (dst := H_row k) (ex_T_bytes hE hk) (ex_H_row hE hk) (fun _ _ => rfl) (fun _ _ => rfl) (fun _ _ h => h) (X.hts _ q688) (X.hts _ q687) (X.hts _ q686) (X.hts _ q103) hl.1 (Nat.le_trans (Nat.le_of_ble_eq_true rfl) hR.1) (Nat.le_trans (Nat.le_of_ble_eq_true rfl) hR.2) dX5_copy_82 hf (fun S1 H locs hP hS hf => ?_)
        refine lv_iload hx hb dX5_copy_85 (lv_at hl 8 rfl) ?_
        refine lv_iload hx hb dX5_copy_87 (lv_at hl 0 rfl) ?_
        refine lv_iadd hx hb dX5_copy_89 ?_
        refine lv_istore (lv' := [(7, .int (x7 + (mnI ((S.1 (T_size k) (Int32.toNatClampNeg x5)) - (mxI ((x2 + x7) - x6) (0 : Int32))) (x4 - x7)))), (9, .int (mnI ((S.1 (T_size k) (Int32.toNatClampNeg x5)) - (mxI ((x2 + x7) - x6) (0 : Int32))) (x4 - x7))), (8, .int (mxI ((x2 + x7) - x6) (0 : Int32))), (0, .ref (ad (T_o k))), (2, .int x2), (3, .ref (ad (H_row k))), (4, .int x4), (5, .int x5), (6, .int x6)]) hx hb dX5_copy_90 hl (by decide) rfl (fun ls hl => ?_)
        exact w_X5_copy_92 E k hE hk X hR k12 hk12 S1 x2 x4 x5 x6 (x7 + (mnI ((S.1 (T_size k) (Int32.toNatClampNeg x5)) - (mxI ((x2 + x7) - x6) (0 : Int32))) (x4 - x7))) hP hS (lv_sub hl [3, 4, 5, 6, 7, 8, 0] rfl) hf
set_option maxHeartbeats 4000000 in
theorem w_X5_copy_12 {p : Program} {l : Launch} {e : Env} {R : Room} {s : State} {m : MethodId} {args : Array Value} {below : List Frame} {meth : Method} {c : Code} {D : va_G} {dA : Nat → ClassId} {A : Nat → Prop} {ad : L3 → Nat} (E : L3 → Bool) (k : Nat) (hE : EOK E) (hk : k < 2) (X : CX RX5 cX5_copy 10 none (KA D dA) p s m args meth c A) (hR : 1 ≤ R.frames ∧ 40 ≤ R.locals) {res : Mem} (n : Nat) : ∀ (S : Mem) (x2 : Int32) (x4 : Int32) (x5 : Int32) (x6 : Int32) (x7 : Int32) (H : Heap) (locs : List Loc) (ls : Array Slot), Wd D clA (shC dA E) (exC E) A ad S H → va_S A s.heap H locs → lv_has ls 10 [(0, .ref (ad (T_o k))), (2, .int x2), (3, .ref (ad (H_row k))), (4, .int x4), (5, .int x5), (6, .int x6), (7, .int x7)] → f_X5_copy_12 k n S x2 x4 x5 x6 x7 = some res → W p l e R s m args below meth c H locs 0 0 (MQ below (QvW D (shC dA E) (exC E) A ad res) args s 0 0 A) (F0 m 12 ls []) := by
  induction n with
  | zero =>
    intro S x2 x4 x5 x6 x7 H locs ls hP hS hl hf
    exact absurd (show none = some res from hf) (fun h => by cases h)
  | succ n ih =>
    intro S x2 x4 x5 x6 x7 H locs ls hP hS hl hf
    exact w_X5_copy_12_b E k hE hk X hR (f_X5_copy_12 k n) ih S x2 x4 x5 x6 x7 hP hS hl hf
set_option maxHeartbeats 4000000 in
theorem w_X5_copy {p : Program} {l : Launch} {e : Env} {R : Room} {s : State} {m : MethodId} {args : Array Value} {below : List Frame} {meth : Method} {c : Code} {D : va_G} {dA : Nat → ClassId} {A : Nat → Prop} {ad : L3 → Nat} (E : L3 → Bool) (k : Nat) (hE : EOK E) (hk : k < 2) (X : CX RX5 cX5_copy 10 none (KA D dA) p s m args meth c A) (hR : 1 ≤ R.frames ∧ 40 ≤ R.locals) {res : Mem} (S : Mem) (x1 : Nat) (x2 : Int32) (x4 : Int32) (hx1 : E (S_o k x1) = true) {H : Heap} {locs : List Loc} {ls : Array Slot} (hP : Wd D clA (shC dA E) (exC E) A ad S H) (hS : va_S A s.heap H locs) (hl : lv_has ls 10 [(0, .ref (ad (T_o k))), (1, .ref (ad (S_o k x1))), (2, .int x2), (3, .ref (ad (H_row k))), (4, .int x4)]) (hf : f_X5_copy k S x1 x2 x4 = some res) : W p l e R s m args below meth c H locs 0 0 (MQ below (QvW D (shC dA E) (exC E) A ad res) args s 0 0 A) (F0 m 0 ls []) := by
  have hx := X.hx
  have hb := X.hb
  unfold f_X5_copy at hf
  refine lv_aload_n hx hb dX5_copy_0 rfl (lv_at hl 1 rfl) ?_
  refine rg_X5_54 X hP hx1 dX5_copy_1 ?_
  refine lv_istore (lv' := [(5, .int (S.1 (S_o k x1) 4)), (0, .ref (ad (T_o k))), (1, .ref (ad (S_o k x1))), (2, .int x2), (3, .ref (ad (H_row k))), (4, .int x4)]) hx hb dX5_copy_4 hl (by decide) rfl (fun ls hl => ?_)
  refine lv_iconst (v := 0) hx hb dX5_copy_6 (by decide) ?_
  refine lv_istore (lv' := [(6, .int 0), (5, .int (S.1 (S_o k x1) 4)), (0, .ref (ad (T_o k))), (1, .ref (ad (S_o k x1))), (2, .int x2), (3, .ref (ad (H_row k))), (4, .int x4)]) hx hb dX5_copy_7 hl (by decide) rfl (fun ls hl => ?_)
  refine lv_iconst (v := 0) hx hb dX5_copy_9 (by decide) ?_
  refine lv_istore (lv' := [(7, .int 0), (6, .int 0), (5, .int (S.1 (S_o k x1) 4)), (0, .ref (ad (T_o k))), (1, .ref (ad (S_o k x1))), (2, .int x2), (3, .ref (ad (H_row k))), (4, .int x4)]) hx hb dX5_copy_10 hl (by decide) rfl (fun ls hl => ?_)
  exact w_X5_copy_12 E k hE hk X hR FU S x2 x4 (S.1 (S_o k x1) 4) 0 0 _ _ _ hP hS (lv_sub hl [3, 5, 6, 7, 2, 1, 0] rfl) hf
theorem hd_X5_copy : yX5_copy.cls = RX5 ∧ yX5_copy.cls ≠ "java/lang/invoke/MethodHandle" ∧ yX5_copy.cls ≠ "java/lang/invoke/VarHandle" ∧ (parseMethodDescriptor yX5_copy.desc).map (fun d => d.parameters.length) = some 4 := by decide +kernel
set_option maxHeartbeats 4000000 in
theorem mt_X5_copy (l : Launch) (D : va_G) (dA : Nat → ClassId) (A : Nat → Prop) (ad : L3 → Nat) (E : L3 → Bool) (k : Nat) (hE : EOK E) (hk : k < 2) (S : Mem) (x1 : Nat) (x2 : Int32) (x4 : Int32) (hx1 : E (S_o k x1) = true) {res : Mem} (hq : f_X5_copy k S x1 x2 x4 = some res) : Met l yX5_copy (ws_ yX5_copy cX5_copy 10 none) ({ frames := 1, cells := 0, slots := 0, locals := 40 } : Room) (va_Pc [.ref (ad (T_o k)), .ref (ad (S_o k x1)), .int x2, .ref (ad (H_row k)), .int x4] (PreW D dA (shC dA E) (exC E) A ad S)) (QvW D (shC dA E) (exC E) A ad res) 0 0 A :=
  gx_head (by decide) (Nat.le_of_ble_eq_true rfl) (fun p e s m below meth c ls X hP hl => w_X5_copy (l := l) E k hE hk X ⟨Nat.le_of_ble_eq_true rfl, Nat.le_of_ble_eq_true rfl⟩ S x1 x2 x4 hx1 hP va_S.rf (lv_sub (l := [(0, .ref (ad (T_o k))), (1, .ref (ad (S_o k x1))), (2, .int x2), (3, .ref (ad (H_row k))), (4, .int x4)]) hl [0, 1, 2, 3, 4] rfl) hq)
set_option maxHeartbeats 4000000 in
theorem w_X4_release {p : Program} {l : Launch} {e : Env} {R : Room} {s : State} {m : MethodId} {args : Array Value} {below : List Frame} {meth : Method} {c : Code} {D : va_G} {dA : Nat → ClassId} {A : Nat → Prop} {ad : L3 → Nat} (E : L3 → Bool) (k : Nat) (hE : EOK E) (hk : k < 2) (X : CX RX4 cX4_release 2 none (KA D dA) p s m args meth c A) (hR : 1 ≤ R.frames ∧ 40 ≤ R.locals) {res : Mem} (S : Mem) (x1 : Int32) {H : Heap} {locs : List Loc} {ls : Array Slot} (hP : Wd D clA (shC dA E) (exC E) A ad S H) (hS : va_S A s.heap H locs) (hl : lv_has ls 2 [(0, .ref (ad (P_o k))), (1, .int x1)]) (hf : f_X4_release k S x1 = some res) : W p l e R s m args below meth c H locs 0 0 (MQ below (QvW D (shC dA E) (exC E) A ad res) args s 0 0 A) (F0 m 0 ls []) := by
  have hx := X.hx
  have hb := X.hb
  unfold f_X4_release at hf
  refine lv_aload_n hx hb dX4_release_0 rfl (lv_at hl 0 rfl) ?_
  refine rg_X4_18 X hP (ex_P_o hE hk) dX4_release_1 ?_
  refine lv_iload_n hx hb dX4_release_4 rfl (lv_at hl 1 rfl) ?_
  refine lv_aload_n hx hb dX4_release_5 rfl (lv_at hl 0 rfl) ?_
  refine rg_X4_21 X hP (ex_P_o hE hk) dX4_release_6 ?_
  refine ra_P_next_st X hP hS (ex_P_next hE hk) dX4_release_9 hf (fun S1 H locs hP hS hf => ?_)
  refine lv_aload_n hx hb dX4_release_10 rfl (lv_at hl 0 rfl) ?_
  refine lv_iload_n hx hb dX4_release_11 rfl (lv_at hl 1 rfl) ?_
  refine rp_X4_21 X hP hS (ex_P_o hE hk) dX4_release_12 hf (fun S2 H locs hP hS hf => ?_)
  exact gr_vW X hP hS (Option.some.inj hf) dX4_release_15
theorem hd_X4_release : yX4_release.cls = RX4 ∧ yX4_release.cls ≠ "java/lang/invoke/MethodHandle" ∧ yX4_release.cls ≠ "java/lang/invoke/VarHandle" ∧ (parseMethodDescriptor yX4_release.desc).map (fun d => d.parameters.length) = some 1 := by decide +kernel
set_option maxHeartbeats 4000000 in
theorem mt_X4_release (l : Launch) (D : va_G) (dA : Nat → ClassId) (A : Nat → Prop) (ad : L3 → Nat) (E : L3 → Bool) (k : Nat) (hE : EOK E) (hk : k < 2) (S : Mem) (x1 : Int32) {res : Mem} (hq : f_X4_release k S x1 = some res) : Met l yX4_release (ws_ yX4_release cX4_release 2 none) ({ frames := 1, cells := 0, slots := 0, locals := 40 } : Room) (va_Pc [.ref (ad (P_o k)), .int x1] (PreW D dA (shC dA E) (exC E) A ad S)) (QvW D (shC dA E) (exC E) A ad res) 0 0 A :=
  gx_head (by decide) (Nat.le_of_ble_eq_true rfl) (fun p e s m below meth c ls X hP hl => w_X4_release (l := l) E k hE hk X ⟨Nat.le_of_ble_eq_true rfl, Nat.le_of_ble_eq_true rfl⟩ S x1 hP va_S.rf (lv_sub (l := [(0, .ref (ad (P_o k))), (1, .int x1)]) hl [0, 1] rfl) hq)
set_option maxHeartbeats 4000000 in
theorem w_X4_make_102 {p : Program} {l : Launch} {e : Env} {R : Room} {s : State} {m : MethodId} {args : Array Value} {below : List Frame} {meth : Method} {c : Code} {D : va_G} {dA : Nat → ClassId} {A : Nat → Prop} {ad : L3 → Nat} (E : L3 → Bool) (k : Nat) (hE : EOK E) (hk : k < 2) (X : CX RX4 cX4_make 5 (some .int) (KA D dA) p s m args meth c A) (hR : 1 ≤ R.frames ∧ 40 ≤ R.locals) {res : Mem × Int32} (S : Mem) (x1 : Int32) (x2 : Int32) (x3 : Int32) (x4 : Int32) {H : Heap} {locs : List Loc} {ls : Array Slot} (hP : Wd D clA (shC dA E) (exC E) A ad S H) (hS : va_S A s.heap H locs) (hl : lv_has ls 5 [(0, .ref (ad (P_o k))), (1, .int x1), (2, .int x2), (3, .int x3), (4, .int x4)]) (hf : f_X4_make_102 k S x1 x2 x3 x4 = some res) : W p l e R s m args below meth c H locs 0 0 (MQ below (QiW D (shC dA E) (exC E) A ad res) args s 0 0 A) (F0 m 102 ls []) := by
  have hx := X.hx
  have hb := X.hb
  unfold f_X4_make_102 at hf
  refine lv_aload_n hx hb dX4_make_102 rfl (lv_at hl 0 rfl) ?_
  refine rg_X4_9 X hP (ex_P_o hE hk) dX4_make_103 ?_
  refine lv_iload hx hb dX4_make_106 (lv_at hl 4 rfl) ?_
  refine lv_iload_n hx hb dX4_make_108 rfl (lv_at hl 1 rfl) ?_
  refine ra_P_from_st X hP hS (ex_P_from hE hk) dX4_make_109 hf (fun S1 H locs hP hS hf => ?_)
  refine lv_aload_n hx hb dX4_make_110 rfl (lv_at hl 0 rfl) ?_
  refine rg_X4_15 X hP (ex_P_o hE hk) dX4_make_111 ?_
  refine lv_iload hx hb dX4_make_114 (lv_at hl 4 rfl) ?_
  refine lv_iload_n hx hb dX4_make_116 rfl (lv_at hl 2 rfl) ?_
  refine ra_P_to_st X hP hS (ex_P_to hE hk) dX4_make_117 hf (fun S2 H locs hP hS hf => ?_)
  refine lv_aload_n hx hb dX4_make_118 rfl (lv_at hl 0 rfl) ?_
  refine rg_X4_18 X hP (ex_P_o hE hk) dX4_make_119 ?_
  refine lv_iload hx hb dX4_make_122 (lv_at hl 4 rfl) ?_
  refine lv_iload_n hx hb dX4_make_124 rfl (lv_at hl 3 rfl) ?_
  refine ra_P_next_st X hP hS (ex_P_next hE hk) dX4_make_125 hf (fun S3 H locs hP hS hf => ?_)
  refine lv_iload hx hb dX4_make_126 (lv_at hl 4 rfl) ?_
  exact gr_iW X hP hS (Option.some.inj hf) dX4_make_128
set_option maxHeartbeats 4000000 in
theorem w_X4_make_89 {p : Program} {l : Launch} {e : Env} {R : Room} {s : State} {m : MethodId} {args : Array Value} {below : List Frame} {meth : Method} {c : Code} {D : va_G} {dA : Nat → ClassId} {A : Nat → Prop} {ad : L3 → Nat} (E : L3 → Bool) (k : Nat) (hE : EOK E) (hk : k < 2) (X : CX RX4 cX4_make 5 (some .int) (KA D dA) p s m args meth c A) (hR : 1 ≤ R.frames ∧ 40 ≤ R.locals) {res : Mem × Int32} (S : Mem) (x1 : Int32) (x2 : Int32) (x3 : Int32) {H : Heap} {locs : List Loc} {ls : Array Slot} (hP : Wd D clA (shC dA E) (exC E) A ad S H) (hS : va_S A s.heap H locs) (hl : lv_has ls 5 [(0, .ref (ad (P_o k))), (1, .int x1), (2, .int x2), (3, .int x3)]) (hf : f_X4_make_89 k S x1 x2 x3 = some res) : W p l e R s m args below meth c H locs 0 0 (MQ below (QiW D (shC dA E) (exC E) A ad res) args s 0 0 A) (F0 m 89 ls []) := by
  have hx := X.hx
  have hb := X.hb
  unfold f_X4_make_89 at hf
  refine lv_aload_n hx hb dX4_make_89 rfl (lv_at hl 0 rfl) ?_
  refine lv_dup hx hb dX4_make_90 rfl ?_
  refine rg_X4_25 X hP (ex_P_o hE hk) dX4_make_91 ?_
  refine lv_dup_x1 hx hb dX4_make_94 rfl rfl ?_
  refine lv_iconst (v := 1) hx hb dX4_make_95 (by decide) ?_
  refine lv_iadd hx hb dX4_make_96 ?_
  refine rp_X4_25 X hP hS (ex_P_o hE hk) dX4_make_97 hf (fun S1 H locs hP hS hf => ?_)
  refine lv_istore (lv' := [(4, .int (S.1 (P_o k) 3)), (0, .ref (ad (P_o k))), (1, .int x1), (2, .int x2), (3, .int x3)]) hx hb dX4_make_100 hl (by decide) rfl (fun ls hl => ?_)
  exact w_X4_make_102 E k hE hk X hR S1 x1 x2 x3 (S.1 (P_o k) 3) hP hS (lv_sub hl [1, 2, 3, 4, 0] rfl) hf
set_option maxHeartbeats 4000000 in
theorem w_X4_make {p : Program} {l : Launch} {e : Env} {R : Room} {s : State} {m : MethodId} {args : Array Value} {below : List Frame} {meth : Method} {c : Code} {D : va_G} {dA : Nat → ClassId} {A : Nat → Prop} {ad : L3 → Nat} (E : L3 → Bool) (k : Nat) (hE : EOK E) (hk : k < 2) (X : CX RX4 cX4_make 5 (some .int) (KA D dA) p s m args meth c A) (hR : 1 ≤ R.frames ∧ 40 ≤ R.locals) {res : Mem × Int32} (S : Mem) (x1 : Int32) (x2 : Int32) (x3 : Int32) {H : Heap} {locs : List Loc} {ls : Array Slot} (hP : Wd D clA (shC dA E) (exC E) A ad S H) (hS : va_S A s.heap H locs) (hl : lv_has ls 5 [(0, .ref (ad (P_o k))), (1, .int x1), (2, .int x2), (3, .int x3)]) (hf : f_X4_make k S x1 x2 x3 = some res) : W p l e R s m args below meth c H locs 0 0 (MQ below (QiW D (shC dA E) (exC E) A ad res) args s 0 0 A) (F0 m 0 ls []) := by
  have hx := X.hx
  have hb := X.hb
  unfold f_X4_make at hf
  refine lv_aload_n hx hb dX4_make_0 rfl (lv_at hl 0 rfl) ?_
  refine rg_X4_21 X hP (ex_P_o hE hk) dX4_make_1 ?_
  refine lv_istore (lv' := [(4, .int (S.1 (P_o k) 4)), (0, .ref (ad (P_o k))), (1, .int x1), (2, .int x2), (3, .int x3)]) hx hb dX4_make_4 hl (by decide) rfl (fun ls hl => ?_)
  refine lv_iload hx hb dX4_make_6 (lv_at hl 0 rfl) ?_
  refine lv_iconst (v := (-1)) hx hb dX4_make_8 (by decide) ?_
  refine gb_icmp_eq (tgt := 26) hx hb dX4_make_9 (by decide) hf (fun hf => ?_) (fun hf => ?_)
  · refine lv_aload_n hx hb dX4_make_26 rfl (lv_at hl 1 rfl) ?_
    refine rg_X4_25 X hP (ex_P_o hE hk) dX4_make_27 ?_
    refine lv_aload_n hx hb dX4_make_30 rfl (lv_at hl 1 rfl) ?_
    refine rg_X4_9 X hP (ex_P_o hE hk) dX4_make_31 ?_
    refine ra_P_from_len X hP (ex_P_from hE hk) dX4_make_34 ?_
    refine gb_icmp_ne (tgt := 89) hx hb dX4_make_35 (by decide) hf (fun hf => ?_) (fun hf => ?_)
    · exact w_X4_make_89 E k hE hk X hR S x1 x2 x3 hP hS (lv_sub hl [1, 2, 3, 4] rfl) hf
    · refine lv_aload_n hx hb dX4_make_38 rfl (lv_at hl 1 rfl) ?_
      refine lv_aload_n hx hb dX4_make_39 rfl (lv_at hl 1 rfl) ?_
      refine rg_X4_9 X hP (ex_P_o hE hk) dX4_make_40 ?_
      refine lv_iconst (v := 2) hx hb dX4_make_43 (by decide) ?_
      refine lv_aload_n hx hb dX4_make_44 rfl (lv_at hl 1 rfl) ?_
      refine rg_X4_25 X hP (ex_P_o hE hk) dX4_make_45 ?_
      refine lv_imul hx hb dX4_make_48 ?_
      cases hf
  · refine lv_aload_n hx hb dX4_make_12 rfl (lv_at hl 1 rfl) ?_
    refine lv_aload_n hx hb dX4_make_13 rfl (lv_at hl 1 rfl) ?_
    refine rg_X4_18 X hP (ex_P_o hE hk) dX4_make_14 ?_
    refine lv_iload hx hb dX4_make_17 (lv_at hl 0 rfl) ?_
    refine ra_P_next_ld X hP (ex_P_next hE hk) dX4_make_19 hf (fun hf => ?_)
    refine rp_X4_21 X hP hS (ex_P_o hE hk) dX4_make_20 hf (fun S1 H locs hP hS hf => ?_)
    refine lv_goto (tgt := 102) hx hb dX4_make_23 (by decide) ?_
    exact w_X4_make_102 E k hE hk X hR S1 x1 x2 x3 (S.1 (P_o k) 4) hP hS (lv_sub hl [1, 2, 3, 4, 0] rfl) hf
theorem hd_X4_make : yX4_make.cls = RX4 ∧ yX4_make.cls ≠ "java/lang/invoke/MethodHandle" ∧ yX4_make.cls ≠ "java/lang/invoke/VarHandle" ∧ (parseMethodDescriptor yX4_make.desc).map (fun d => d.parameters.length) = some 3 := by decide +kernel
set_option maxHeartbeats 4000000 in
theorem mt_X4_make (l : Launch) (D : va_G) (dA : Nat → ClassId) (A : Nat → Prop) (ad : L3 → Nat) (E : L3 → Bool) (k : Nat) (hE : EOK E) (hk : k < 2) (S : Mem) (x1 : Int32) (x2 : Int32) (x3 : Int32) {res : Mem × Int32} (hq : f_X4_make k S x1 x2 x3 = some res) : Met l yX4_make (ws_ yX4_make cX4_make 5 (some .int)) ({ frames := 1, cells := 0, slots := 0, locals := 40 } : Room) (va_Pc [.ref (ad (P_o k)), .int x1, .int x2, .int x3] (PreW D dA (shC dA E) (exC E) A ad S)) (QiW D (shC dA E) (exC E) A ad res) 0 0 A :=
  gx_head (by decide) (Nat.le_of_ble_eq_true rfl) (fun p e s m below meth c ls X hP hl => w_X4_make (l := l) E k hE hk X ⟨Nat.le_of_ble_eq_true rfl, Nat.le_of_ble_eq_true rfl⟩ S x1 x2 x3 hP va_S.rf (lv_sub (l := [(0, .ref (ad (P_o k))), (1, .int x1), (2, .int x2), (3, .int x3)]) hl [0, 1, 2, 3] rfl) hq)
set_option maxHeartbeats 4000000 in
theorem w_X4_trim_55 {p : Program} {l : Launch} {e : Env} {R : Room} {s : State} {m : MethodId} {args : Array Value} {below : List Frame} {meth : Method} {c : Code} {D : va_G} {dA : Nat → ClassId} {A : Nat → Prop} {ad : L3 → Nat} (E : L3 → Bool) (k : Nat) (hE : EOK E) (hk : k < 2) (X : CX RX4 cX4_trim 5 none (KA D dA) p s m args meth c A) (hR : 2 ≤ R.frames ∧ 64 ≤ R.locals) {res : Mem} (S : Mem) (x1 : Int32) (x2 : Int32) {H : Heap} {locs : List Loc} {ls : Array Slot} (hP : Wd D clA (shC dA E) (exC E) A ad S H) (hS : va_S A s.heap H locs) (hl : lv_has ls 5 [(0, .ref (ad (P_o k))), (1, .int x1), (2, .int x2)]) (hf : f_X4_trim_55 k S x1 x2 = some res) : W p l e R s m args below meth c H locs 0 0 (MQ below (QvW D (shC dA E) (exC E) A ad res) args s 0 0 A) (F0 m 55 ls []) := by
  have hx := X.hx
  have hb := X.hb
  unfold f_X4_trim_55 at hf
  refine lv_aload_n hx hb dX4_trim_55 rfl (lv_at hl 0 rfl) ?_
  refine rg_X4_15 X hP (ex_P_o hE hk) dX4_trim_56 ?_
  refine lv_iload_n hx hb dX4_trim_59 rfl (lv_at hl 1 rfl) ?_
  refine lv_iload_n hx hb dX4_trim_60 rfl (lv_at hl 2 rfl) ?_
  refine ra_P_to_st X hP hS (ex_P_to hE hk) dX4_trim_61 hf (fun S1 H locs hP hS hf => ?_)
  exact gr_vW X hP hS (Option.some.inj hf) dX4_trim_62
set_option maxHeartbeats 4000000 in
theorem w_X4_trim {p : Program} {l : Launch} {e : Env} {R : Room} {s : State} {m : MethodId} {args : Array Value} {below : List Frame} {meth : Method} {c : Code} {D : va_G} {dA : Nat → ClassId} {A : Nat → Prop} {ad : L3 → Nat} (E : L3 → Bool) (k : Nat) (hE : EOK E) (hk : k < 2) (X : CX RX4 cX4_trim 5 none (KA D dA) p s m args meth c A) (hR : 2 ≤ R.frames ∧ 64 ≤ R.locals) {res : Mem} (S : Mem) (x1 : Int32) (x2 : Int32) (x3 : Int32) {H : Heap} {locs : List Loc} {ls : Array Slot} (hP : Wd D clA (shC dA E) (exC E) A ad S H) (hS : va_S A s.heap H locs) (hl : lv_has ls 5 [(0, .ref (ad (P_o k))), (1, .int x1), (2, .int x2), (3, .int x3)]) (hf : f_X4_trim k S x1 x2 x3 = some res) : W p l e R s m args below meth c H locs 0 0 (MQ below (QvW D (shC dA E) (exC E) A ad res) args s 0 0 A) (F0 m 0 ls []) := by
  have hx := X.hx
  have hb := X.hb
  unfold f_X4_trim at hf
  refine lv_aload_n hx hb dX4_trim_0 rfl (lv_at hl 0 rfl) ?_
  refine rg_X4_9 X hP (ex_P_o hE hk) dX4_trim_1 ?_
  refine lv_iload_n hx hb dX4_trim_4 rfl (lv_at hl 1 rfl) ?_
  refine ra_P_from_ld X hP (ex_P_from hE hk) dX4_trim_5 hf (fun hf => ?_)
  refine lv_iload_n hx hb dX4_trim_6 rfl (lv_at hl 2 rfl) ?_
  refine gb_icmp_lt (tgt := 18) hx hb dX4_trim_7 (by decide) hf (fun hf => ?_) (fun hf => ?_)
  · refine lv_aload_n hx hb dX4_trim_18 rfl (lv_at hl 0 rfl) ?_
    refine rg_X4_15 X hP (ex_P_o hE hk) dX4_trim_19 ?_
    refine lv_iload_n hx hb dX4_trim_22 rfl (lv_at hl 1 rfl) ?_
    refine ra_P_to_ld X hP (ex_P_to hE hk) dX4_trim_23 hf (fun hf => ?_)
    refine lv_iload_n hx hb dX4_trim_24 rfl (lv_at hl 3 rfl) ?_
    refine gb_icmp_le (tgt := 55) hx hb dX4_trim_25 (by decide) hf (fun hf => ?_) (fun hf => ?_)
    · exact w_X4_trim_55 E k hE hk X hR S x1 x2 hP hS (lv_sub hl [0, 1, 2] rfl) hf
    · refine lv_aload_n hx hb dX4_trim_28 rfl (lv_at hl 0 rfl) ?_
      refine lv_iload_n hx hb dX4_trim_29 rfl (lv_at hl 3 rfl) ?_
      refine lv_aload_n hx hb dX4_trim_30 rfl (lv_at hl 0 rfl) ?_
      refine rg_X4_15 X hP (ex_P_o hE hk) dX4_trim_31 ?_
      refine lv_iload_n hx hb dX4_trim_34 rfl (lv_at hl 1 rfl) ?_
      refine ra_P_to_ld X hP (ex_P_to hE hk) dX4_trim_35 hf (fun hf => ?_)
      refine lv_aload_n hx hb dX4_trim_36 rfl (lv_at hl 0 rfl) ?_
      refine rg_X4_18 X hP (ex_P_o hE hk) dX4_trim_37 ?_
      refine lv_iload_n hx hb dX4_trim_40 rfl (lv_at hl 1 rfl) ?_
      refine ra_P_next_ld X hP (ex_P_next hE hk) dX4_trim_41 hf (fun hf => ?_)
      obtain ⟨S1, v2, hq, hf⟩ := gB2_some hf
      refine gc_i (gc_fixV (S := S) X (mt_X4_make l D dA A ad E k hE hk S x3 (S.1 (P_to k) (Int32.toNatClampNeg x1)) (S.1 (P_next k) (Int32.toNatClampNeg x1)) hq) (lw_V q860 q862 qs23 q89 q863) ⟨rfl, rfl⟩ hd_X4_make ⟨Nat.le_trans (Nat.le_of_ble_eq_true rfl) hR.1, Nat.le_trans (Nat.le_of_ble_eq_true rfl) hR.2⟩ (wd_recv (r := P_o k) (ci := 4) (q := (RX4, TX4, 5)) X.hK.1 hP (ex_P_o hE hk) rfl rfl) hP hS ⟨Nat.zero_le _, Nat.zero_le _⟩ rfl hl.1 rfl (Nat.le_of_ble_eq_true rfl) dX4_trim_42) hS ?_
      rintro _ _ H locs ⟨⟩ hP hS
      refine lv_istore (lv' := [(4, .int v2), (0, .ref (ad (P_o k))), (1, .int x1), (2, .int x2), (3, .int x3)]) hx hb dX4_trim_45 hl (by decide) rfl (fun ls hl => ?_)
      refine lv_aload_n hx hb dX4_trim_47 rfl (lv_at hl 1 rfl) ?_
      refine rg_X4_18 X hP (ex_P_o hE hk) dX4_trim_48 ?_
      refine lv_iload_n hx hb dX4_trim_51 rfl (lv_at hl 2 rfl) ?_
      refine lv_iload hx hb dX4_trim_52 (lv_at hl 0 rfl) ?_
      refine ra_P_next_st X hP hS (ex_P_next hE hk) dX4_trim_54 hf (fun S3 H locs hP hS hf => ?_)
      exact w_X4_trim_55 E k hE hk X hR S3 x1 x2 hP hS (lv_sub hl [1, 2, 3] rfl) hf
  · refine lv_aload_n hx hb dX4_trim_10 rfl (lv_at hl 0 rfl) ?_
    refine rg_X4_9 X hP (ex_P_o hE hk) dX4_trim_11 ?_
    refine lv_iload_n hx hb dX4_trim_14 rfl (lv_at hl 1 rfl) ?_
    refine lv_iload_n hx hb dX4_trim_15 rfl (lv_at hl 3 rfl) ?_
    refine ra_P_from_st X hP hS (ex_P_from hE hk) dX4_trim_16 hf (fun S4 H locs hP hS hf => ?_)
    exact gr_vW X hP hS (Option.some.inj hf) dX4_trim_17
theorem hd_X4_trim : yX4_trim.cls = RX4 ∧ yX4_trim.cls ≠ "java/lang/invoke/MethodHandle" ∧ yX4_trim.cls ≠ "java/lang/invoke/VarHandle" ∧ (parseMethodDescriptor yX4_trim.desc).map (fun d => d.parameters.length) = some 3 := by decide +kernel
set_option maxHeartbeats 4000000 in
theorem mt_X4_trim (l : Launch) (D : va_G) (dA : Nat → ClassId) (A : Nat → Prop) (ad : L3 → Nat) (E : L3 → Bool) (k : Nat) (hE : EOK E) (hk : k < 2) (S : Mem) (x1 : Int32) (x2 : Int32) (x3 : Int32) {res : Mem} (hq : f_X4_trim k S x1 x2 x3 = some res) : Met l yX4_trim (ws_ yX4_trim cX4_trim 5 none) ({ frames := 2, cells := 0, slots := 0, locals := 64 } : Room) (va_Pc [.ref (ad (P_o k)), .int x1, .int x2, .int x3] (PreW D dA (shC dA E) (exC E) A ad S)) (QvW D (shC dA E) (exC E) A ad res) 0 0 A :=
  gx_head (by decide) (Nat.le_of_ble_eq_true rfl) (fun p e s m below meth c ls X hP hl => w_X4_trim (l := l) E k hE hk X ⟨Nat.le_of_ble_eq_true rfl, Nat.le_of_ble_eq_true rfl⟩ S x1 x2 x3 hP va_S.rf (lv_sub (l := [(0, .ref (ad (P_o k))), (1, .int x1), (2, .int x2), (3, .int x3)]) hl [0, 1, 2, 3] rfl) hq)
set_option maxHeartbeats 4000000 in
theorem w_X4_cut_123 {p : Program} {l : Launch} {e : Env} {R : Room} {s : State} {m : MethodId} {args : Array Value} {below : List Frame} {meth : Method} {c : Code} {D : va_G} {dA : Nat → ClassId} {A : Nat → Prop} {ad : L3 → Nat} (E : L3 → Bool) (k : Nat) (hE : EOK E) (hk : k < 2) (X : CX RX4 cX4_cut 9 (some .int) (KA D dA) p s m args meth c A) (hR : 3 ≤ R.frames ∧ 88 ≤ R.locals) {res : Mem × Int32} (k9 : Mem → Int32 → Int32 → Int32 → Int32 → Int32 → Option (Mem × Int32)) (hk9 : ∀ (S : Mem) (x2 : Int32) (x3 : Int32) (x4 : Int32) (x5 : Int32) (x6 : Int32) (H : Heap) (locs : List Loc) (ls : Array Slot), Wd D clA (shC dA E) (exC E) A ad S H → va_S A s.heap H locs → lv_has ls 9 [(0, .ref (ad (P_o k))), (2, .int x2), (3, .int x3), (4, .int x4), (5, .int x5), (6, .int x6)] → k9 S x2 x3 x4 x5 x6 = some res → W p l e R s m args below meth c H locs 0 0 (MQ below (QiW D (shC dA E) (exC E) A ad res) args s 0 0 A) (F0 m 9 ls [])) (S : Mem) (x2 : Int32) (x3 : Int32) (x4 : Int32) (x5 : Int32) (x7 : Int32) {H : Heap} {locs : List Loc} {ls : Array Slot} (hP : Wd D clA (shC dA E) (exC E) A ad S H) (hS : va_S A s.heap H locs) (hl : lv_has ls 9 [(0, .ref (ad (P_o k))), (2, .int x2), (3, .int x3), (4, .int x4), (5, .int x5), (7, .int x7)]) (hf : f_X4_cut_123 k k9 S x2 x3 x4 x5 x7 = some res) : W p l e R s m args below meth c H locs 0 0 (MQ below (QiW D (shC dA E) (exC E) A ad res) args s 0 0 A) (F0 m 123 ls []) := by
  have hx := X.hx
  have hb := X.hb
  unfold f_X4_cut_123 at hf
  refine lv_iload hx hb dX4_cut_123 (lv_at hl 5 rfl) ?_
  refine lv_istore (lv' := [(6, .int x7), (0, .ref (ad (P_o k))), (2, .int x2), (3, .int x3), (4, .int x4), (5, .int x5), (7, .int x7)]) hx hb dX4_cut_125 hl (by decide) rfl (fun ls hl => ?_)
  refine lv_goto (tgt := 9) hx hb dX4_cut_127 (by decide) ?_
  exact hk9 S x2 x3 x4 x5 x7 _ _ _ hP hS (lv_sub hl [1, 2, 3, 4, 5, 0] rfl) hf
set_option maxHeartbeats 4000000 in
theorem w_X4_cut_119 {p : Program} {l : Launch} {e : Env} {R : Room} {s : State} {m : MethodId} {args : Array Value} {below : List Frame} {meth : Method} {c : Code} {D : va_G} {dA : Nat → ClassId} {A : Nat → Prop} {ad : L3 → Nat} (E : L3 → Bool) (k : Nat) (hE : EOK E) (hk : k < 2) (X : CX RX4 cX4_cut 9 (some .int) (KA D dA) p s m args meth c A) (hR : 3 ≤ R.frames ∧ 88 ≤ R.locals) {res : Mem × Int32} (k9 : Mem → Int32 → Int32 → Int32 → Int32 → Int32 → Option (Mem × Int32)) (hk9 : ∀ (S : Mem) (x2 : Int32) (x3 : Int32) (x4 : Int32) (x5 : Int32) (x6 : Int32) (H : Heap) (locs : List Loc) (ls : Array Slot), Wd D clA (shC dA E) (exC E) A ad S H → va_S A s.heap H locs → lv_has ls 9 [(0, .ref (ad (P_o k))), (2, .int x2), (3, .int x3), (4, .int x4), (5, .int x5), (6, .int x6)] → k9 S x2 x3 x4 x5 x6 = some res → W p l e R s m args below meth c H locs 0 0 (MQ below (QiW D (shC dA E) (exC E) A ad res) args s 0 0 A) (F0 m 9 ls [])) (S : Mem) (x2 : Int32) (x3 : Int32) (x4 : Int32) (x6 : Int32) (x7 : Int32) {H : Heap} {locs : List Loc} {ls : Array Slot} (hP : Wd D clA (shC dA E) (exC E) A ad S H) (hS : va_S A s.heap H locs) (hl : lv_has ls 9 [(0, .ref (ad (P_o k))), (2, .int x2), (3, .int x3), (4, .int x4), (6, .int x6), (7, .int x7)]) (hf : f_X4_cut_119 k k9 S x2 x3 x4 x6 x7 = some res) : W p l e R s m args below meth c H locs 0 0 (MQ below (QiW D (shC dA E) (exC E) A ad res) args s 0 0 A) (F0 m 119 ls []) := by
  have hx := X.hx
  have hb := X.hb
  unfold f_X4_cut_119 at hf
  refine lv_iload hx hb dX4_cut_119 (lv_at hl 4 rfl) ?_
  refine lv_istore (lv' := [(5, .int x6), (0, .ref (ad (P_o k))), (2, .int x2), (3, .int x3), (4, .int x4), (6, .int x6), (7, .int x7)]) hx hb dX4_cut_121 hl (by decide) rfl (fun ls hl => ?_)
  exact w_X4_cut_123 E k hE hk X hR k9 hk9 S x2 x3 x4 x6 x7 hP hS (lv_sub hl [1, 2, 3, 4, 0, 6] rfl) hf
set_option maxHeartbeats 4000000 in
theorem w_X4_cut_62 {p : Program} {l : Launch} {e : Env} {R : Room} {s : State} {m : MethodId} {args : Array Value} {below : List Frame} {meth : Method} {c : Code} {D : va_G} {dA : Nat → ClassId} {A : Nat → Prop} {ad : L3 → Nat} (E : L3 → Bool) (k : Nat) (hE : EOK E) (hk : k < 2) (X : CX RX4 cX4_cut 9 (some .int) (KA D dA) p s m args meth c A) (hR : 3 ≤ R.frames ∧ 88 ≤ R.locals) {res : Mem × Int32} (k9 : Mem → Int32 → Int32 → Int32 → Int32 → Int32 → Option (Mem × Int32)) (hk9 : ∀ (S : Mem) (x2 : Int32) (x3 : Int32) (x4 : Int32) (x5 : Int32) (x6 : Int32) (H : Heap) (locs : List Loc) (ls : Array Slot), Wd D clA (shC dA E) (exC E) A ad S H → va_S A s.heap H locs → lv_has ls 9 [(0, .ref (ad (P_o k))), (2, .int x2), (3, .int x3), (4, .int x4), (5, .int x5), (6, .int x6)] → k9 S x2 x3 x4 x5 x6 = some res → W p l e R s m args below meth c H locs 0 0 (MQ below (QiW D (shC dA E) (exC E) A ad res) args s 0 0 A) (F0 m 9 ls [])) (S : Mem) (x2 : Int32) (x3 : Int32) (x4 : Int32) (x5 : Int32) (x6 : Int32) (x7 : Int32) (y0 : Int32) {H : Heap} {locs : List Loc} {ls : Array Slot} (hP : Wd D clA (shC dA E) (exC E) A ad S H) (hS : va_S A s.heap H locs) (hl : lv_has ls 9 [(0, .ref (ad (P_o k))), (2, .int x2), (3, .int x3), (4, .int x4), (5, .int x5), (6, .int x6), (7, .int x7)]) (hf : f_X4_cut_62 k k9 S x2 x3 x4 x5 x6 x7 y0 = some res) : W p l e R s m args below meth c H locs 0 0 (MQ below (QiW D (shC dA E) (exC E) A ad res) args s 0 0 A) (F0 m 62 ls [.int y0]) := by
  have hx := X.hx
  have hb := X.hb
  unfold f_X4_cut_62 at hf
  refine lv_istore (lv' := [(8, .int y0), (0, .ref (ad (P_o k))), (2, .int x2), (3, .int x3), (4, .int x4), (5, .int x5), (6, .int x6), (7, .int x7)]) hx hb dX4_cut_62 hl (by decide) rfl (fun ls hl => ?_)
  refine lv_iload hx hb dX4_cut_64 (lv_at hl 0 rfl) ?_
  refine gb_if_eq (tgt := 100) hx hb dX4_cut_66 (by decide) hf (fun hf => ?_) (fun hf => ?_)
  · refine lv_aload_n hx hb dX4_cut_100 rfl (lv_at hl 1 rfl) ?_
    refine rg_X4_15 X hP (ex_P_o hE hk) dX4_cut_101 ?_
    refine lv_iload hx hb dX4_cut_104 (lv_at hl 6 rfl) ?_
    refine ra_P_to_ld X hP (ex_P_to hE hk) dX4_cut_106 hf (fun hf => ?_)
    refine lv_iload_n hx hb dX4_cut_107 rfl (lv_at hl 2 rfl) ?_
    refine gb_icmp_le (tgt := 119) hx hb dX4_cut_108 (by decide) hf (fun hf => ?_) (fun hf => ?_)
    · exact w_X4_cut_119 E k hE hk X hR k9 hk9 S x2 x3 x4 x6 x7 hP hS (lv_sub hl [1, 2, 3, 4, 6, 7] rfl) hf
    · refine lv_aload_n hx hb dX4_cut_111 rfl (lv_at hl 1 rfl) ?_
      refine lv_iload hx hb dX4_cut_112 (lv_at hl 6 rfl) ?_
      refine lv_iload_n hx hb dX4_cut_114 rfl (lv_at hl 2 rfl) ?_
      refine lv_iload_n hx hb dX4_cut_115 rfl (lv_at hl 3 rfl) ?_
      obtain ⟨S1, hq, hf⟩ := gB_some hf
      refine gc_v (gc_fixV (S := S) X (mt_X4_trim l D dA A ad E k hE hk S x6 x2 x3 hq) (lw_V q856 q858 qs22 q89 q859) ⟨rfl, rfl⟩ hd_X4_trim ⟨Nat.le_trans (Nat.le_of_ble_eq_true rfl) hR.1, Nat.le_trans (Nat.le_of_ble_eq_true rfl) hR.2⟩ (wd_recv (r := P_o k) (ci := 4) (q := (RX4, TX4, 5)) X.hK.1 hP (ex_P_o hE hk) rfl rfl) hP hS ⟨Nat.zero_le _, Nat.zero_le _⟩ rfl hl.1 rfl (Nat.le_of_ble_eq_true rfl) dX4_cut_116) hS ?_
      rintro _ H locs rfl hP hS
      exact w_X4_cut_119 E k hE hk X hR k9 hk9 S1 x2 x3 x4 x6 x7 hP hS (lv_sub hl [1, 2, 3, 4, 6, 7] rfl) hf
  · refine lv_aload_n hx hb dX4_cut_69 rfl (lv_at hl 1 rfl) ?_
    refine lv_iload hx hb dX4_cut_70 (lv_at hl 6 rfl) ?_
    obtain ⟨S2, hq, hf⟩ := gB_some hf
    refine gc_v (gc_fixV (S := S) X (mt_X4_release l D dA A ad E k hE hk S x6 hq) (lw_V q852 q854 qs21 q89 q855) ⟨rfl, rfl⟩ hd_X4_release ⟨Nat.le_trans (Nat.le_of_ble_eq_true rfl) hR.1, Nat.le_trans (Nat.le_of_ble_eq_true rfl) hR.2⟩ (wd_recv (r := P_o k) (ci := 4) (q := (RX4, TX4, 5)) X.hK.1 hP (ex_P_o hE hk) rfl rfl) hP hS ⟨Nat.zero_le _, Nat.zero_le _⟩ rfl hl.1 rfl (Nat.le_of_ble_eq_true rfl) dX4_cut_72) hS ?_
    rintro _ H locs rfl hP hS
    refine lv_iload hx hb dX4_cut_75 (lv_at hl 5 rfl) ?_
    refine lv_iconst (v := (-1)) hx hb dX4_cut_77 (by decide) ?_
    refine gb_icmp_ne (tgt := 88) hx hb dX4_cut_78 (by decide) hf (fun hf => ?_) (fun hf => ?_)
    · refine lv_aload_n hx hb dX4_cut_88 rfl (lv_at hl 1 rfl) ?_
      refine rg_X4_18 X hP (ex_P_o hE hk) dX4_cut_89 ?_
      refine lv_iload hx hb dX4_cut_92 (lv_at hl 5 rfl) ?_
      refine lv_iload hx hb dX4_cut_94 (lv_at hl 7 rfl) ?_
      refine ra_P_next_st X hP hS (ex_P_next hE hk) dX4_cut_96 hf (fun S3 H locs hP hS hf => ?_)
      refine lv_goto (tgt := 123) hx hb dX4_cut_97 (by decide) ?_
      exact w_X4_cut_123 E k hE hk X hR k9 hk9 S3 x2 x3 x4 x5 x7 hP hS (lv_sub hl [1, 2, 3, 4, 5, 7] rfl) hf
    · refine lv_iload hx hb dX4_cut_81 (lv_at hl 7 rfl) ?_
      refine lv_istore (lv' := [(4, .int x7), (8, .int y0), (0, .ref (ad (P_o k))), (2, .int x2), (3, .int x3), (5, .int x5), (6, .int x6), (7, .int x7)]) hx hb dX4_cut_83 hl (by decide) rfl (fun ls hl => ?_)
      refine lv_goto (tgt := 123) hx hb dX4_cut_85 (by decide) ?_
      exact w_X4_cut_123 E k hE hk X hR k9 hk9 S2 x2 x3 x7 x5 x7 hP hS (lv_sub hl [2, 3, 4, 0, 5, 7] rfl) hf
set_option maxHeartbeats 4000000 in
theorem w_X4_cut_61 {p : Program} {l : Launch} {e : Env} {R : Room} {s : State} {m : MethodId} {args : Array Value} {below : List Frame} {meth : Method} {c : Code} {D : va_G} {dA : Nat → ClassId} {A : Nat → Prop} {ad : L3 → Nat} (E : L3 → Bool) (k : Nat) (hE : EOK E) (hk : k < 2) (X : CX RX4 cX4_cut 9 (some .int) (KA D dA) p s m args meth c A) (hR : 3 ≤ R.frames ∧ 88 ≤ R.locals) {res : Mem × Int32} (k9 : Mem → Int32 → Int32 → Int32 → Int32 → Int32 → Option (Mem × Int32)) (hk9 : ∀ (S : Mem) (x2 : Int32) (x3 : Int32) (x4 : Int32) (x5 : Int32) (x6 : Int32) (H : Heap) (locs : List Loc) (ls : Array Slot), Wd D clA (shC dA E) (exC E) A ad S H → va_S A s.heap H locs → lv_has ls 9 [(0, .ref (ad (P_o k))), (2, .int x2), (3, .int x3), (4, .int x4), (5, .int x5), (6, .int x6)] → k9 S x2 x3 x4 x5 x6 = some res → W p l e R s m args below meth c H locs 0 0 (MQ below (QiW D (shC dA E) (exC E) A ad res) args s 0 0 A) (F0 m 9 ls [])) (S : Mem) (x2 : Int32) (x3 : Int32) (x4 : Int32) (x5 : Int32) (x6 : Int32) (x7 : Int32) {H : Heap} {locs : List Loc} {ls : Array Slot} (hP : Wd D clA (shC dA E) (exC E) A ad S H) (hS : va_S A s.heap H locs) (hl : lv_has ls 9 [(0, .ref (ad (P_o k))), (2, .int x2), (3, .int x3), (4, .int x4), (5, .int x5), (6, .int x6), (7, .int x7)]) (hf : f_X4_cut_61 k k9 S x2 x3 x4 x5 x6 x7 = some res) : W p l e R s m args below meth c H locs 0 0 (MQ below (QiW D (shC dA E) (exC E) A ad res) args s 0 0 A) (F0 m 61 ls []) := by
  have hx := X.hx
  have hb := X.hb
  unfold f_X4_cut_61 at hf
  refine lv_iconst (v := 0) hx hb dX4_cut_61 (by decide) ?_
  exact w_X4_cut_62 E k hE hk X hR k9 hk9 S x2 x3 x4 x5 x6 x7 0 hP hS (lv_sub hl [0, 1, 2, 3, 4, 5, 6] rfl) hf
set_option maxHeartbeats 4000000 in
theorem w_X4_cut_9_b {p : Program} {l : Launch} {e : Env} {R : Room} {s : State} {m : MethodId} {args : Array Value} {below : List Frame} {meth : Method} {c : Code} {D : va_G} {dA : Nat → ClassId} {A : Nat → Prop} {ad : L3 → Nat} (E : L3 → Bool) (k : Nat) (hE : EOK E) (hk : k < 2) (X : CX RX4 cX4_cut 9 (some .int) (KA D dA) p s m args meth c A) (hR : 3 ≤ R.frames ∧ 88 ≤ R.locals) {res : Mem × Int32} (k9 : Mem → Int32 → Int32 → Int32 → Int32 → Int32 → Option (Mem × Int32)) (hk9 : ∀ (S : Mem) (x2 : Int32) (x3 : Int32) (x4 : Int32) (x5 : Int32) (x6 : Int32) (H : Heap) (locs : List Loc) (ls : Array Slot), Wd D clA (shC dA E) (exC E) A ad S H → va_S A s.heap H locs → lv_has ls 9 [(0, .ref (ad (P_o k))), (2, .int x2), (3, .int x3), (4, .int x4), (5, .int x5), (6, .int x6)] → k9 S x2 x3 x4 x5 x6 = some res → W p l e R s m args below meth c H locs 0 0 (MQ below (QiW D (shC dA E) (exC E) A ad res) args s 0 0 A) (F0 m 9 ls [])) (S : Mem) (x2 : Int32) (x3 : Int32) (x4 : Int32) (x5 : Int32) (x6 : Int32) {H : Heap} {locs : List Loc} {ls : Array Slot} (hP : Wd D clA (shC dA E) (exC E) A ad S H) (hS : va_S A s.heap H locs) (hl : lv_has ls 9 [(0, .ref (ad (P_o k))), (2, .int x2), (3, .int x3), (4, .int x4), (5, .int x5), (6, .int x6)]) (hf : f_X4_cut_9_b k k9 S x2 x3 x4 x5 x6 = some res) : W p l e R s m args below meth c H locs 0 0 (MQ below (QiW D (shC dA E) (exC E) A ad res) args s 0 0 A) (F0 m 9 ls []) := by
  have hx := X.hx
  have hb := X.hb
  unfold f_X4_cut_9_b at hf
  refine lv_iload hx hb dX4_cut_9 (lv_at hl 5 rfl) ?_
  refine lv_iconst (v := (-1)) hx hb dX4_cut_11 (by decide) ?_
  refine gb_icmp_eq (tgt := 130) hx hb dX4_cut_12 (by decide) hf (fun hf => ?_) (fun hf => ?_)
  · refine lv_iload hx hb dX4_cut_130 (lv_at hl 3 rfl) ?_
    exact gr_iW X hP hS (Option.some.inj hf) dX4_cut_132
  · refine lv_aload_n hx hb dX4_cut_15 rfl (lv_at hl 0 rfl) ?_
    refine rg_X4_9 X hP (ex_P_o hE hk) dX4_cut_16 ?_
    refine lv_iload hx hb dX4_cut_19 (lv_at hl 5 rfl) ?_
    refine ra_P_from_ld X hP (ex_P_from hE hk) dX4_cut_21 hf (fun hf => ?_)
    refine lv_iload_n hx hb dX4_cut_22 rfl (lv_at hl 2 rfl) ?_
    refine gb_icmp_ge (tgt := 130) hx hb dX4_cut_23 (by decide) hf (fun hf => ?_) (fun hf => ?_)
    · refine lv_iload hx hb dX4_cut_130 (lv_at hl 3 rfl) ?_
      exact gr_iW X hP hS (Option.some.inj hf) dX4_cut_132
    · refine lv_aload_n hx hb dX4_cut_26 rfl (lv_at hl 0 rfl) ?_
      refine rg_X4_18 X hP (ex_P_o hE hk) dX4_cut_27 ?_
      refine lv_iload hx hb dX4_cut_30 (lv_at hl 5 rfl) ?_
      refine ra_P_next_ld X hP (ex_P_next hE hk) dX4_cut_32 hf (fun hf => ?_)
      refine lv_istore (lv' := [(7, .int (S.1 (P_next k) (Int32.toNatClampNeg x6))), (0, .ref (ad (P_o k))), (2, .int x2), (3, .int x3), (4, .int x4), (5, .int x5), (6, .int x6)]) hx hb dX4_cut_33 hl (by decide) rfl (fun ls hl => ?_)
      refine lv_aload_n hx hb dX4_cut_35 rfl (lv_at hl 1 rfl) ?_
      refine rg_X4_9 X hP (ex_P_o hE hk) dX4_cut_36 ?_
      refine lv_iload hx hb dX4_cut_39 (lv_at hl 6 rfl) ?_
      refine ra_P_from_ld X hP (ex_P_from hE hk) dX4_cut_41 hf (fun hf => ?_)
      refine lv_iload_n hx hb dX4_cut_42 rfl (lv_at hl 2 rfl) ?_
      refine gb_icmp_lt (tgt := 61) hx hb dX4_cut_43 (by decide) hf (fun hf => ?_) (fun hf => ?_)
      · exact w_X4_cut_61 E k hE hk X hR k9 hk9 S x2 x3 x4 x5 x6 (S.1 (P_next k) (Int32.toNatClampNeg x6)) hP hS (lv_sub hl [1, 2, 3, 4, 5, 6, 0] rfl) hf
      · refine lv_aload_n hx hb dX4_cut_46 rfl (lv_at hl 1 rfl) ?_
        refine rg_X4_15 X hP (ex_P_o hE hk) dX4_cut_47 ?_
        refine lv_iload hx hb dX4_cut_50 (lv_at hl 6 rfl) ?_
        refine ra_P_to_ld X hP (ex_P_to hE hk) dX4_cut_52 hf (fun hf => ?_)
        refine lv_iload_n hx hb dX4_cut_53 rfl (lv_at hl 3 rfl) ?_
        refine gb_icmp_gt (tgt := 61) hx hb dX4_cut_54 (by decide) hf (fun hf => ?_) (fun hf => ?_)
        · exact w_X4_cut_61 E k hE hk X hR k9 hk9 S x2 x3 x4 x5 x6 (S.1 (P_next k) (Int32.toNatClampNeg x6)) hP hS (lv_sub hl [1, 2, 3, 4, 5, 6, 0] rfl) hf
        · refine lv_iconst (v := 1) hx hb dX4_cut_57 (by decide) ?_
          refine lv_goto (tgt := 62) hx hb dX4_cut_58 (by decide) ?_
          exact w_X4_cut_62 E k hE hk X hR k9 hk9 S x2 x3 x4 x5 x6 (S.1 (P_next k) (Int32.toNatClampNeg x6)) 1 hP hS (lv_sub hl [1, 2, 3, 4, 5, 6, 0] rfl) hf
set_option maxHeartbeats 4000000 in
theorem w_X4_cut_9 {p : Program} {l : Launch} {e : Env} {R : Room} {s : State} {m : MethodId} {args : Array Value} {below : List Frame} {meth : Method} {c : Code} {D : va_G} {dA : Nat → ClassId} {A : Nat → Prop} {ad : L3 → Nat} (E : L3 → Bool) (k : Nat) (hE : EOK E) (hk : k < 2) (X : CX RX4 cX4_cut 9 (some .int) (KA D dA) p s m args meth c A) (hR : 3 ≤ R.frames ∧ 88 ≤ R.locals) {res : Mem × Int32} (n : Nat) : ∀ (S : Mem) (x2 : Int32) (x3 : Int32) (x4 : Int32) (x5 : Int32) (x6 : Int32) (H : Heap) (locs : List Loc) (ls : Array Slot), Wd D clA (shC dA E) (exC E) A ad S H → va_S A s.heap H locs → lv_has ls 9 [(0, .ref (ad (P_o k))), (2, .int x2), (3, .int x3), (4, .int x4), (5, .int x5), (6, .int x6)] → f_X4_cut_9 k n S x2 x3 x4 x5 x6 = some res → W p l e R s m args below meth c H locs 0 0 (MQ below (QiW D (shC dA E) (exC E) A ad res) args s 0 0 A) (F0 m 9 ls []) := by
  induction n with
  | zero =>
    intro S x2 x3 x4 x5 x6 H locs ls hP hS hl hf
    exact absurd (show none = some res from hf) (fun h => by cases h)
  | succ n ih =>
    intro S x2 x3 x4 x5 x6 H locs ls hP hS hl hf
    exact w_X4_cut_9_b E k hE hk X hR (f_X4_cut_9 k n) ih S x2 x3 x4 x5 x6 hP hS hl hf
set_option maxHeartbeats 4000000 in
theorem w_X4_cut {p : Program} {l : Launch} {e : Env} {R : Room} {s : State} {m : MethodId} {args : Array Value} {below : List Frame} {meth : Method} {c : Code} {D : va_G} {dA : Nat → ClassId} {A : Nat → Prop} {ad : L3 → Nat} (E : L3 → Bool) (k : Nat) (hE : EOK E) (hk : k < 2) (X : CX RX4 cX4_cut 9 (some .int) (KA D dA) p s m args meth c A) (hR : 3 ≤ R.frames ∧ 88 ≤ R.locals) {res : Mem × Int32} (S : Mem) (x1 : Int32) (x2 : Int32) (x3 : Int32) {H : Heap} {locs : List Loc} {ls : Array Slot} (hP : Wd D clA (shC dA E) (exC E) A ad S H) (hS : va_S A s.heap H locs) (hl : lv_has ls 9 [(0, .ref (ad (P_o k))), (1, .int x1), (2, .int x2), (3, .int x3)]) (hf : f_X4_cut k S x1 x2 x3 = some res) : W p l e R s m args below meth c H locs 0 0 (MQ below (QiW D (shC dA E) (exC E) A ad res) args s 0 0 A) (F0 m 0 ls []) := by
  have hx := X.hx
  have hb := X.hb
  unfold f_X4_cut at hf
  refine lv_iload_n hx hb dX4_cut_0 rfl (lv_at hl 1 rfl) ?_
  refine lv_istore (lv' := [(4, .int x1), (0, .ref (ad (P_o k))), (1, .int x1), (2, .int x2), (3, .int x3)]) hx hb dX4_cut_1 hl (by decide) rfl (fun ls hl => ?_)
  refine lv_iconst (v := (-1)) hx hb dX4_cut_3 (by decide) ?_
  refine lv_istore (lv' := [(5, .int (-1)), (4, .int x1), (0, .ref (ad (P_o k))), (1, .int x1), (2, .int x2), (3, .int x3)]) hx hb dX4_cut_4 hl (by decide) rfl (fun ls hl => ?_)
  refine lv_iload_n hx hb dX4_cut_6 rfl (lv_at hl 3 rfl) ?_
  refine lv_istore (lv' := [(6, .int x1), (5, .int (-1)), (4, .int x1), (0, .ref (ad (P_o k))), (1, .int x1), (2, .int x2), (3, .int x3)]) hx hb dX4_cut_7 hl (by decide) rfl (fun ls hl => ?_)
  exact w_X4_cut_9 E k hE hk X hR FU S x2 x3 x1 (-1) x1 _ _ _ hP hS (lv_sub hl [3, 5, 6, 2, 1, 0] rfl) hf
theorem hd_X4_cut : yX4_cut.cls = RX4 ∧ yX4_cut.cls ≠ "java/lang/invoke/MethodHandle" ∧ yX4_cut.cls ≠ "java/lang/invoke/VarHandle" ∧ (parseMethodDescriptor yX4_cut.desc).map (fun d => d.parameters.length) = some 3 := by decide +kernel
set_option maxHeartbeats 4000000 in
theorem mt_X4_cut (l : Launch) (D : va_G) (dA : Nat → ClassId) (A : Nat → Prop) (ad : L3 → Nat) (E : L3 → Bool) (k : Nat) (hE : EOK E) (hk : k < 2) (S : Mem) (x1 : Int32) (x2 : Int32) (x3 : Int32) {res : Mem × Int32} (hq : f_X4_cut k S x1 x2 x3 = some res) : Met l yX4_cut (ws_ yX4_cut cX4_cut 9 (some .int)) ({ frames := 3, cells := 0, slots := 0, locals := 88 } : Room) (va_Pc [.ref (ad (P_o k)), .int x1, .int x2, .int x3] (PreW D dA (shC dA E) (exC E) A ad S)) (QiW D (shC dA E) (exC E) A ad res) 0 0 A :=
  gx_head (by decide) (Nat.le_of_ble_eq_true rfl) (fun p e s m below meth c ls X hP hl => w_X4_cut (l := l) E k hE hk X ⟨Nat.le_of_ble_eq_true rfl, Nat.le_of_ble_eq_true rfl⟩ S x1 x2 x3 hP va_S.rf (lv_sub (l := [(0, .ref (ad (P_o k))), (1, .int x1), (2, .int x2), (3, .int x3)]) hl [0, 1, 2, 3] rfl) hq)
set_option maxHeartbeats 4000000 in
theorem w_X2_fills_337 {p : Program} {l : Launch} {e : Env} {R : Room} {s : State} {m : MethodId} {args : Array Value} {below : List Frame} {meth : Method} {c : Code} {D : va_G} {dA : Nat → ClassId} {A : Nat → Prop} {ad : L3 → Nat} (E : L3 → Bool) (k : Nat) (hE : EOK E) (hk : k < 2) (X : CX RX2 cX2_fills 13 (some .boolean) (KA D dA) p s m args meth c A) (hR : 4 ≤ R.frames ∧ 116 ≤ R.locals) {res : Mem × Int32} (S : Mem) (x2 : Nat) (x12 : Int32) (hx2 : E (S_o k x2) = true) {H : Heap} {locs : List Loc} {ls : Array Slot} (hP : Wd D clA (shC dA E) (exC E) A ad S H) (hS : va_S A s.heap H locs) (hl : lv_has ls 13 [(0, .ref (ad (H_o k))), (2, .ref (ad (S_o k x2))), (12, .int x12)]) (hf : f_X2_fills_337 k S x2 x12 = some res) : W p l e R s m args below meth c H locs 0 0 (MQ below (QiW D (shC dA E) (exC E) A ad res) args s 0 0 A) (F0 m 337 ls []) := by
  have hx := X.hx
  have hb := X.hb
  unfold f_X2_fills_337 at hf
  refine lv_aload_n hx hb dX2_fills_337 rfl (lv_at hl 0 rfl) ?_
  refine lv_dup hx hb dX2_fills_338 rfl ?_
  refine rg_X2_310 X hP (ex_H_o hE hk) dX2_fills_339 ?_
  refine lv_iload hx hb dX2_fills_342 (lv_at hl 2 rfl) ?_
  refine lv_aload_n hx hb dX2_fills_344 rfl (lv_at hl 1 rfl) ?_
  refine rg_X2_300 X hP hx2 dX2_fills_345 ?_
  refine lv_isub hx hb dX2_fills_348 ?_
  refine lv_iconst (v := 0) hx hb dX2_fills_349 (by decide) ?_
  refine gm_mxI X (X.hts _ q865) (X.hts _ q794) (X.hts _ q99) (X.hts _ q795) hl.1 ⟨Nat.zero_le _, Nat.zero_le _⟩ (Nat.le_trans (Nat.le_of_ble_eq_true rfl) hR.1) (Nat.le_trans (Nat.le_of_ble_eq_true rfl) hR.2) dX2_fills_350 ?_
  refine lv_iadd hx hb dX2_fills_353 ?_
  refine rp_X2_310 X hP hS (ex_H_o hE hk) dX2_fills_354 hf (fun S1 H locs hP hS hf => ?_)
  refine lv_aload_n hx hb dX2_fills_357 rfl (lv_at hl 1 rfl) ?_
  refine lv_aload_n hx hb dX2_fills_358 rfl (lv_at hl 1 rfl) ?_
  refine rg_X2_300 X hP hx2 dX2_fills_359 ?_
  refine lv_iload hx hb dX2_fills_362 (lv_at hl 2 rfl) ?_
  refine gm_mxI X (X.hts _ q865) (X.hts _ q794) (X.hts _ q99) (X.hts _ q795) hl.1 ⟨Nat.zero_le _, Nat.zero_le _⟩ (Nat.le_trans (Nat.le_of_ble_eq_true rfl) hR.1) (Nat.le_trans (Nat.le_of_ble_eq_true rfl) hR.2) dX2_fills_364 ?_
  refine rp_X2_300 X hP hS hx2 dX2_fills_367 hf (fun S2 H locs hP hS hf => ?_)
  refine lv_aload_n hx hb dX2_fills_370 rfl (lv_at hl 0 rfl) ?_
  refine rg_X2_280 X hP (ex_H_o hE hk) dX2_fills_371 ?_
  refine lv_lconst (v := 1) hx hb dX2_fills_374 (by decide) ?_
  refine gb_lcmp_ne (tgt := 392) hx hb dX2_fills_375 dX2_fills_376 (by decide) hf (fun hf => ?_) (fun hf => ?_)
  · refine lv_iconst (v := 1) hx hb dX2_fills_392 (by decide) ?_
    exact gr_zW X hP hS (Option.some.inj hf) (by decide) dX2_fills_393
  · refine lv_aload_n hx hb dX2_fills_379 rfl (lv_at hl 1 rfl) ?_
    refine rg_X2_157 X hP hx2 dX2_fills_380 ?_
    refine lv_iconst (v := 4) hx hb dX2_fills_383 (by decide) ?_
    refine gb_icmp_eq (tgt := 392) hx hb dX2_fills_384 (by decide) hf (fun hf => ?_) (fun hf => ?_)
    · refine lv_iconst (v := 1) hx hb dX2_fills_392 (by decide) ?_
      exact gr_zW X hP hS (Option.some.inj hf) (by decide) dX2_fills_393
    · refine lv_aload_n hx hb dX2_fills_387 rfl (lv_at hl 1 rfl) ?_
      refine lv_iconst (v := 2) hx hb dX2_fills_388 (by decide) ?_
      refine rp_X2_157 X hP hS hx2 dX2_fills_389 hf (fun S3 H locs hP hS hf => ?_)
      refine lv_iconst (v := 1) hx hb dX2_fills_392 (by decide) ?_
      exact gr_zW X hP hS (Option.some.inj hf) (by decide) dX2_fills_393
set_option maxHeartbeats 4000000 in
theorem w_X2_fills_310 {p : Program} {l : Launch} {e : Env} {R : Room} {s : State} {m : MethodId} {args : Array Value} {below : List Frame} {meth : Method} {c : Code} {D : va_G} {dA : Nat → ClassId} {A : Nat → Prop} {ad : L3 → Nat} (E : L3 → Bool) (k : Nat) (hE : EOK E) (hk : k < 2) (X : CX RX2 cX2_fills 13 (some .boolean) (KA D dA) p s m args meth c A) (hR : 4 ≤ R.frames ∧ 116 ≤ R.locals) {res : Mem × Int32} (S : Mem) (x2 : Nat) (x4 : Int32) (x5 : Int32) (x12 : Int32) (y0 : Int64) (hx2 : E (S_o k x2) = true) {H : Heap} {locs : List Loc} {ls : Array Slot} (hP : Wd D clA (shC dA E) (exC E) A ad S H) (hS : va_S A s.heap H locs) (hl : lv_has ls 13 [(0, .ref (ad (H_o k))), (2, .ref (ad (S_o k x2))), (4, .int x4), (5, .int x5), (12, .int x12)]) (hf : f_X2_fills_310 k S x2 x4 x5 x12 y0 = some res) : W p l e R s m args below meth c H locs 0 0 (MQ below (QiW D (shC dA E) (exC E) A ad res) args s 0 0 A) (F0 m 310 ls [.long y0, .ref (ad (H_o k))]) := by
  have hx := X.hx
  have hb := X.hb
  unfold f_X2_fills_310 at hf
  refine rp_X2_280 X hP hS (ex_H_o hE hk) dX2_fills_310 hf (fun S1 H locs hP hS hf => ?_)
  refine lv_iload hx hb dX2_fills_313 (lv_at hl 2 rfl) ?_
  refine gb_if_eq (tgt := 337) hx hb dX2_fills_315 (by decide) hf (fun hf => ?_) (fun hf => ?_)
  · exact w_X2_fills_337 E k hE hk X hR S1 x2 x12 hx2 hP hS (lv_sub hl [0, 1, 4] rfl) hf
  · refine lv_aload_n hx hb dX2_fills_318 rfl (lv_at hl 1 rfl) ?_
    refine lv_aload_n hx hb dX2_fills_319 rfl (lv_at hl 0 rfl) ?_
    refine rg_X2_41 X hP (ex_H_o hE hk) dX2_fills_320 ?_
    refine lv_aload_n hx hb dX2_fills_323 rfl (lv_at hl 1 rfl) ?_
    refine rg_X2_325 X hP hx2 dX2_fills_324 ?_
    refine lv_iload hx hb dX2_fills_327 (lv_at hl 3 rfl) ?_
    refine lv_iload hx hb dX2_fills_329 (lv_at hl 4 rfl) ?_
    obtain ⟨S2, v3, hq, hf⟩ := gB2_some hf
    refine gc_i (gc_fixV (S := S1) X (mt_X4_cut l D dA A ad E k hE hk S1 (S1.1 (S_o k x2) 6) x5 x12 hq) (lw_V q848 q849 q850 q89 q851) ⟨rfl, rfl⟩ hd_X4_cut ⟨Nat.le_trans (Nat.le_of_ble_eq_true rfl) hR.1, Nat.le_trans (Nat.le_of_ble_eq_true rfl) hR.2⟩ (wd_recv (r := P_o k) (ci := 4) (q := (RX4, TX4, 5)) X.hK.1 hP (ex_P_o hE hk) rfl rfl) hP hS ⟨Nat.zero_le _, Nat.zero_le _⟩ rfl hl.1 rfl (Nat.le_of_ble_eq_true rfl) dX2_fills_331) hS ?_
    rintro _ _ H locs ⟨⟩ hP hS
    refine rp_X2_325 X hP hS hx2 dX2_fills_334 hf (fun S4 H locs hP hS hf => ?_)
    exact w_X2_fills_337 E k hE hk X hR S4 x2 x12 hx2 hP hS (lv_sub hl [0, 1, 4] rfl) hf
set_option maxHeartbeats 4000000 in
theorem w_X2_fills_309 {p : Program} {l : Launch} {e : Env} {R : Room} {s : State} {m : MethodId} {args : Array Value} {below : List Frame} {meth : Method} {c : Code} {D : va_G} {dA : Nat → ClassId} {A : Nat → Prop} {ad : L3 → Nat} (E : L3 → Bool) (k : Nat) (hE : EOK E) (hk : k < 2) (X : CX RX2 cX2_fills 13 (some .boolean) (KA D dA) p s m args meth c A) (hR : 4 ≤ R.frames ∧ 116 ≤ R.locals) {res : Mem × Int32} (S : Mem) (x2 : Nat) (x4 : Int32) (x5 : Int32) (x12 : Int32) (hx2 : E (S_o k x2) = true) {H : Heap} {locs : List Loc} {ls : Array Slot} (hP : Wd D clA (shC dA E) (exC E) A ad S H) (hS : va_S A s.heap H locs) (hl : lv_has ls 13 [(0, .ref (ad (H_o k))), (2, .ref (ad (S_o k x2))), (4, .int x4), (5, .int x5), (12, .int x12)]) (hf : f_X2_fills_309 k S x2 x4 x5 x12 = some res) : W p l e R s m args below meth c H locs 0 0 (MQ below (QiW D (shC dA E) (exC E) A ad res) args s 0 0 A) (F0 m 309 ls [.ref (ad (H_o k))]) := by
  have hx := X.hx
  have hb := X.hb
  unfold f_X2_fills_309 at hf
  refine lv_lconst (v := 0) hx hb dX2_fills_309 (by decide) ?_
  exact w_X2_fills_310 E k hE hk X hR S x2 x4 x5 x12 0 hx2 hP hS (lv_sub hl [0, 1, 2, 3, 4] rfl) hf
set_option maxHeartbeats 4000000 in
theorem w_X2_fills_230 {p : Program} {l : Launch} {e : Env} {R : Room} {s : State} {m : MethodId} {args : Array Value} {below : List Frame} {meth : Method} {c : Code} {D : va_G} {dA : Nat → ClassId} {A : Nat → Prop} {ad : L3 → Nat} (E : L3 → Bool) (k : Nat) (hE : EOK E) (hk : k < 2) (X : CX RX2 cX2_fills 13 (some .boolean) (KA D dA) p s m args meth c A) (hR : 4 ≤ R.frames ∧ 116 ≤ R.locals) {res : Mem × Int32} (S : Mem) (x1 : Int32) (x2 : Nat) (x4 : Int32) (x5 : Int32) (x8 : Int32) (x11 : Int32) (hx2 : E (S_o k x2) = true) {H : Heap} {locs : List Loc} {ls : Array Slot} (hP : Wd D clA (shC dA E) (exC E) A ad S H) (hS : va_S A s.heap H locs) (hl : lv_has ls 13 [(0, .ref (ad (H_o k))), (1, .int x1), (2, .ref (ad (S_o k x2))), (4, .int x4), (5, .int x5), (8, .int x8), (11, .int x11)]) (hf : f_X2_fills_230 k S x1 x2 x4 x5 x8 x11 = some res) : W p l e R s m args below meth c H locs 0 0 (MQ below (QiW D (shC dA E) (exC E) A ad res) args s 0 0 A) (F0 m 230 ls []) := by
  have hx := X.hx
  have hb := X.hb
  unfold f_X2_fills_230 at hf
  refine lv_aload_n hx hb dX2_fills_230 rfl (lv_at hl 0 rfl) ?_
  refine lv_bipush (v := 8) hx hb dX2_fills_231 (by decide) ?_
  refine rp_X2_271 X hP hS (ex_H_o hE hk) dX2_fills_233 hf (fun S1 H locs hP hS hf => ?_)
  refine lv_aload_n hx hb dX2_fills_236 rfl (lv_at hl 0 rfl) ?_
  refine lv_iload_n hx hb dX2_fills_237 rfl (lv_at hl 1 rfl) ?_
  refine lv_i2l hx hb dX2_fills_238 rfl ?_
  refine rp_X2_274 X hP hS (ex_H_o hE hk) dX2_fills_239 hf (fun S2 H locs hP hS hf => ?_)
  refine lv_aload_n hx hb dX2_fills_242 rfl (lv_at hl 0 rfl) ?_
  refine lv_iload hx hb dX2_fills_243 (lv_at hl 4 rfl) ?_
  refine lv_i2l hx hb dX2_fills_245 rfl ?_
  refine rp_X2_277 X hP hS (ex_H_o hE hk) dX2_fills_246 hf (fun S3 H locs hP hS hf => ?_)
  refine lv_aload_n hx hb dX2_fills_249 rfl (lv_at hl 0 rfl) ?_
  refine lv_iload hx hb dX2_fills_250 (lv_at hl 5 rfl) ?_
  refine lv_iload hx hb dX2_fills_252 (lv_at hl 6 rfl) ?_
  refine gm_mnI X (X.hts _ q751) (X.hts _ q668) (X.hts _ q99) (X.hts _ q669) hl.1 ⟨Nat.zero_le _, Nat.zero_le _⟩ (Nat.le_trans (Nat.le_of_ble_eq_true rfl) hR.1) (Nat.le_trans (Nat.le_of_ble_eq_true rfl) hR.2) dX2_fills_254 ?_
  refine rp_X2_283 X hP hS (ex_H_o hE hk) dX2_fills_257 hf (fun S4 H locs hP hS hf => ?_)
  refine lv_aload_n hx hb dX2_fills_260 rfl (lv_at hl 0 rfl) ?_
  refine rg_X2_48 X hP (ex_H_o hE hk) dX2_fills_261 ?_
  refine lv_aload_n hx hb dX2_fills_264 rfl (lv_at hl 2 rfl) ?_
  refine lv_iload hx hb dX2_fills_265 (lv_at hl 4 rfl) ?_
  refine lv_aload_n hx hb dX2_fills_267 rfl (lv_at hl 0 rfl) ?_
  refine rg_X2_69 X hP (ex_H_o hE hk) dX2_fills_268 ?_
  refine lv_aload_n hx hb dX2_fills_271 rfl (lv_at hl 0 rfl) ?_
  refine rg_X2_283 X hP (ex_H_o hE hk) dX2_fills_272 ?_
  obtain ⟨S5, hq, hf⟩ := gB_some hf
  refine gc_v (gc_fixV (S := S4) X (mt_X5_copy l D dA A ad E k hE hk S4 x2 x5 (S4.1 (H_o k) 18) hx2 hq) (lw_V q843 q844 q845 q90 q846) ⟨rfl, rfl⟩ hd_X5_copy ⟨Nat.le_trans (Nat.le_of_ble_eq_true rfl) hR.1, Nat.le_trans (Nat.le_of_ble_eq_true rfl) hR.2⟩ (wd_recv (r := T_o k) (ci := 5) (q := (RX5, TX5, 6)) X.hK.1 hP (ex_T_o hE hk) rfl rfl) hP hS ⟨Nat.zero_le _, Nat.zero_le _⟩ rfl hl.1 rfl (Nat.le_of_ble_eq_true rfl) dX2_fills_275) hS ?_
  rintro _ H locs rfl hP hS
  refine lv_iload hx hb dX2_fills_278 (lv_at hl 4 rfl) ?_
  refine lv_aload_n hx hb dX2_fills_280 rfl (lv_at hl 0 rfl) ?_
  refine rg_X2_283 X hP (ex_H_o hE hk) dX2_fills_281 ?_
  refine lv_iadd hx hb dX2_fills_284 ?_
  refine lv_istore (lv' := [(12, .int (x5 + (S5.1 (H_o k) 18))), (0, .ref (ad (H_o k))), (1, .int x1), (2, .ref (ad (S_o k x2))), (4, .int x4), (5, .int x5), (8, .int x8), (11, .int x11)]) hx hb dX2_fills_285 hl (by decide) rfl (fun ls hl => ?_)
  refine lv_aload_n hx hb dX2_fills_287 rfl (lv_at hl 1 rfl) ?_
  refine lv_aload_n hx hb dX2_fills_288 rfl (lv_at hl 3 rfl) ?_
  refine rg_X2_150 X hP hx2 dX2_fills_289 ?_
  refine lv_iconst (v := 1) hx hb dX2_fills_292 (by decide) ?_
  refine gb_icmp_ne (tgt := 309) hx hb dX2_fills_293 (by decide) hf (fun hf => ?_) (fun hf => ?_)
  · exact w_X2_fills_309 E k hE hk X hR S5 x2 x4 x5 (x5 + (S5.1 (H_o k) 18)) hx2 hP hS (lv_sub hl [1, 3, 4, 5, 0] rfl) hf
  · refine lv_iload hx hb dX2_fills_296 (lv_at hl 0 rfl) ?_
    refine lv_aload_n hx hb dX2_fills_298 rfl (lv_at hl 3 rfl) ?_
    refine rg_X2_307 X hP hx2 dX2_fills_299 ?_
    refine gb_icmp_ne (tgt := 309) hx hb dX2_fills_302 (by decide) hf (fun hf => ?_) (fun hf => ?_)
    · exact w_X2_fills_309 E k hE hk X hR S5 x2 x4 x5 (x5 + (S5.1 (H_o k) 18)) hx2 hP hS (lv_sub hl [1, 3, 4, 5, 0] rfl) hf
    · refine lv_lconst (v := 1) hx hb dX2_fills_305 (by decide) ?_
      refine lv_goto (tgt := 310) hx hb dX2_fills_306 (by decide) ?_
      exact w_X2_fills_310 E k hE hk X hR S5 x2 x4 x5 (x5 + (S5.1 (H_o k) 18)) 1 hx2 hP hS (lv_sub hl [1, 3, 4, 5, 0] rfl) hf
set_option maxHeartbeats 4000000 in
theorem w_X2_fills_215 {p : Program} {l : Launch} {e : Env} {R : Room} {s : State} {m : MethodId} {args : Array Value} {below : List Frame} {meth : Method} {c : Code} {D : va_G} {dA : Nat → ClassId} {A : Nat → Prop} {ad : L3 → Nat} (E : L3 → Bool) (k : Nat) (hE : EOK E) (hk : k < 2) (X : CX RX2 cX2_fills 13 (some .boolean) (KA D dA) p s m args meth c A) (hR : 4 ≤ R.frames ∧ 116 ≤ R.locals) {res : Mem × Int32} (S : Mem) (x1 : Int32) (x2 : Nat) (x4 : Int32) (x5 : Int32) (x8 : Int32) (x9 : Int32) (x11 : Int32) (y0 : Int32) (y1 : Int32) (hx2 : E (S_o k x2) = true) {H : Heap} {locs : List Loc} {ls : Array Slot} (hP : Wd D clA (shC dA E) (exC E) A ad S H) (hS : va_S A s.heap H locs) (hl : lv_has ls 13 [(0, .ref (ad (H_o k))), (1, .int x1), (2, .ref (ad (S_o k x2))), (4, .int x4), (5, .int x5), (8, .int x8), (9, .int x9), (11, .int x11)]) (hf : f_X2_fills_215 k S x1 x2 x4 x5 x8 x9 x11 y0 y1 = some res) : W p l e R s m args below meth c H locs 0 0 (MQ below (QiW D (shC dA E) (exC E) A ad res) args s 0 0 A) (F0 m 215 ls [.int y0, .int y1]) := by
  have hx := X.hx
  have hb := X.hb
  unfold f_X2_fills_215 at hf
  refine gb_icmp_lt (tgt := 228) hx hb dX2_fills_215 (by decide) hf (fun hf => ?_) (fun hf => ?_)
  · refine lv_iconst (v := 0) hx hb dX2_fills_228 (by decide) ?_
    exact gr_zW X hP hS (Option.some.inj hf) (by decide) dX2_fills_229
  · refine lv_iload hx hb dX2_fills_218 (lv_at hl 5 rfl) ?_
    refine gb_if_ne (tgt := 230) hx hb dX2_fills_220 (by decide) hf (fun hf => ?_) (fun hf => ?_)
    · exact w_X2_fills_230 E k hE hk X hR S x1 x2 x4 x5 x8 x11 hx2 hP hS (lv_sub hl [0, 1, 2, 3, 4, 5, 7] rfl) hf
    · refine lv_iload hx hb dX2_fills_223 (lv_at hl 6 rfl) ?_
      refine gb_if_ne (tgt := 230) hx hb dX2_fills_225 (by decide) hf (fun hf => ?_) (fun hf => ?_)
      · exact w_X2_fills_230 E k hE hk X hR S x1 x2 x4 x5 x8 x11 hx2 hP hS (lv_sub hl [0, 1, 2, 3, 4, 5, 7] rfl) hf
      · refine lv_iconst (v := 0) hx hb dX2_fills_228 (by decide) ?_
        exact gr_zW X hP hS (Option.some.inj hf) (by decide) dX2_fills_229
set_option maxHeartbeats 4000000 in
theorem w_X2_fills_201 {p : Program} {l : Launch} {e : Env} {R : Room} {s : State} {m : MethodId} {args : Array Value} {below : List Frame} {meth : Method} {c : Code} {D : va_G} {dA : Nat → ClassId} {A : Nat → Prop} {ad : L3 → Nat} (E : L3 → Bool) (k : Nat) (hE : EOK E) (hk : k < 2) (X : CX RX2 cX2_fills 13 (some .boolean) (KA D dA) p s m args meth c A) (hR : 4 ≤ R.frames ∧ 116 ≤ R.locals) {res : Mem × Int32} (S : Mem) (x1 : Int32) (x2 : Nat) (x4 : Int32) (x5 : Int32) (x8 : Int32) (x9 : Int32) (y0 : Int32) (hx2 : E (S_o k x2) = true) {H : Heap} {locs : List Loc} {ls : Array Slot} (hP : Wd D clA (shC dA E) (exC E) A ad S H) (hS : va_S A s.heap H locs) (hl : lv_has ls 13 [(0, .ref (ad (H_o k))), (1, .int x1), (2, .ref (ad (S_o k x2))), (4, .int x4), (5, .int x5), (8, .int x8), (9, .int x9)]) (hf : f_X2_fills_201 k S x1 x2 x4 x5 x8 x9 y0 = some res) : W p l e R s m args below meth c H locs 0 0 (MQ below (QiW D (shC dA E) (exC E) A ad res) args s 0 0 A) (F0 m 201 ls [.int y0]) := by
  have hx := X.hx
  have hb := X.hb
  unfold f_X2_fills_201 at hf
  refine lv_istore (lv' := [(11, .int y0), (0, .ref (ad (H_o k))), (1, .int x1), (2, .ref (ad (S_o k x2))), (4, .int x4), (5, .int x5), (8, .int x8), (9, .int x9)]) hx hb dX2_fills_201 hl (by decide) rfl (fun ls hl => ?_)
  refine lv_iload hx hb dX2_fills_203 (lv_at hl 0 rfl) ?_
  refine lv_iload hx hb dX2_fills_205 (lv_at hl 7 rfl) ?_
  refine gb_if_eq (tgt := 214) hx hb dX2_fills_207 (by decide) hf (fun hf => ?_) (fun hf => ?_)
  · refine lv_iconst (v := 1) hx hb dX2_fills_214 (by decide) ?_
    exact w_X2_fills_215 E k hE hk X hR S x1 x2 x4 x5 x8 x9 y0 1 y0 hx2 hP hS (lv_sub hl [1, 2, 3, 4, 5, 6, 7, 0] rfl) hf
  · refine lv_iconst (v := 0) hx hb dX2_fills_210 (by decide) ?_
    refine lv_goto (tgt := 215) hx hb dX2_fills_211 (by decide) ?_
    exact w_X2_fills_215 E k hE hk X hR S x1 x2 x4 x5 x8 x9 y0 0 y0 hx2 hP hS (lv_sub hl [1, 2, 3, 4, 5, 6, 7, 0] rfl) hf
set_option maxHeartbeats 4000000 in
theorem w_X2_fills_175 {p : Program} {l : Launch} {e : Env} {R : Room} {s : State} {m : MethodId} {args : Array Value} {below : List Frame} {meth : Method} {c : Code} {D : va_G} {dA : Nat → ClassId} {A : Nat → Prop} {ad : L3 → Nat} (E : L3 → Bool) (k : Nat) (hE : EOK E) (hk : k < 2) (X : CX RX2 cX2_fills 13 (some .boolean) (KA D dA) p s m args meth c A) (hR : 4 ≤ R.frames ∧ 116 ≤ R.locals) {res : Mem × Int32} (S : Mem) (x1 : Int32) (x2 : Nat) (x4 : Int32) (x5 : Int32) (x8 : Int32) (x9 : Int32) (y0 : Int32) (y1 : Int32) (hx2 : E (S_o k x2) = true) {H : Heap} {locs : List Loc} {ls : Array Slot} (hP : Wd D clA (shC dA E) (exC E) A ad S H) (hS : va_S A s.heap H locs) (hl : lv_has ls 13 [(0, .ref (ad (H_o k))), (1, .int x1), (2, .ref (ad (S_o k x2))), (4, .int x4), (5, .int x5), (8, .int x8), (9, .int x9)]) (hf : f_X2_fills_175 k S x1 x2 x4 x5 x8 x9 y0 y1 = some res) : W p l e R s m args below meth c H locs 0 0 (MQ below (QiW D (shC dA E) (exC E) A ad res) args s 0 0 A) (F0 m 175 ls [.int y0, .int y1]) := by
  have hx := X.hx
  have hb := X.hb
  unfold f_X2_fills_175 at hf
  refine lv_isub hx hb dX2_fills_175 ?_
  refine lv_istore (lv' := [(10, .int (y1 - y0)), (0, .ref (ad (H_o k))), (1, .int x1), (2, .ref (ad (S_o k x2))), (4, .int x4), (5, .int x5), (8, .int x8), (9, .int x9)]) hx hb dX2_fills_176 hl (by decide) rfl (fun ls hl => ?_)
  refine lv_iload hx hb dX2_fills_178 (lv_at hl 0 rfl) ?_
  refine lv_bipush (v := 66) hx hb dX2_fills_180 (by decide) ?_
  refine gb_icmp_ge (tgt := 197) hx hb dX2_fills_182 (by decide) hf (fun hf => ?_) (fun hf => ?_)
  · refine lv_iload hx hb dX2_fills_197 (lv_at hl 0 rfl) ?_
    refine lv_iconst (v := 2) hx hb dX2_fills_199 (by decide) ?_
    refine lv_isub hx hb dX2_fills_200 ?_
    exact w_X2_fills_201 E k hE hk X hR S x1 x2 x4 x5 x8 x9 ((y1 - y0) - 2) hx2 hP hS (lv_sub hl [1, 2, 3, 4, 5, 6, 7] rfl) hf
  · refine lv_iload hx hb dX2_fills_185 (lv_at hl 0 rfl) ?_
    refine lv_iconst (v := 1) hx hb dX2_fills_187 (by decide) ?_
    refine lv_isub hx hb dX2_fills_188 ?_
    refine lv_bipush (v := 63) hx hb dX2_fills_189 (by decide) ?_
    refine gm_mnI X (X.hts _ q751) (X.hts _ q668) (X.hts _ q99) (X.hts _ q669) hl.1 ⟨Nat.zero_le _, Nat.zero_le _⟩ (Nat.le_trans (Nat.le_of_ble_eq_true rfl) hR.1) (Nat.le_trans (Nat.le_of_ble_eq_true rfl) hR.2) dX2_fills_191 ?_
    refine lv_goto (tgt := 201) hx hb dX2_fills_194 (by decide) ?_
    exact w_X2_fills_201 E k hE hk X hR S x1 x2 x4 x5 x8 x9 (mnI ((y1 - y0) - 1) (63 : Int32)) hx2 hP hS (lv_sub hl [1, 2, 3, 4, 5, 6, 7] rfl) hf
set_option maxHeartbeats 4000000 in
theorem w_X2_fills_149 {p : Program} {l : Launch} {e : Env} {R : Room} {s : State} {m : MethodId} {args : Array Value} {below : List Frame} {meth : Method} {c : Code} {D : va_G} {dA : Nat → ClassId} {A : Nat → Prop} {ad : L3 → Nat} (E : L3 → Bool) (k : Nat) (hE : EOK E) (hk : k < 2) (X : CX RX2 cX2_fills 13 (some .boolean) (KA D dA) p s m args meth c A) (hR : 4 ≤ R.frames ∧ 116 ≤ R.locals) {res : Mem × Int32} (S : Mem) (x1 : Int32) (x2 : Nat) (x3 : Int32) (x4 : Int32) (x5 : Int32) (x8 : Int32) (y0 : Int32) (hx2 : E (S_o k x2) = true) {H : Heap} {locs : List Loc} {ls : Array Slot} (hP : Wd D clA (shC dA E) (exC E) A ad S H) (hS : va_S A s.heap H locs) (hl : lv_has ls 13 [(0, .ref (ad (H_o k))), (1, .int x1), (2, .ref (ad (S_o k x2))), (3, .int x3), (4, .int x4), (5, .int x5), (8, .int x8)]) (hf : f_X2_fills_149 k S x1 x2 x3 x4 x5 x8 y0 = some res) : W p l e R s m args below meth c H locs 0 0 (MQ below (QiW D (shC dA E) (exC E) A ad res) args s 0 0 A) (F0 m 149 ls [.int y0]) := by
  have hx := X.hx
  have hb := X.hb
  unfold f_X2_fills_149 at hf
  refine lv_istore (lv' := [(9, .int y0), (0, .ref (ad (H_o k))), (1, .int x1), (2, .ref (ad (S_o k x2))), (3, .int x3), (4, .int x4), (5, .int x5), (8, .int x8)]) hx hb dX2_fills_149 hl (by decide) rfl (fun ls hl => ?_)
  refine lv_iload_n hx hb dX2_fills_151 rfl (lv_at hl 4 rfl) ?_
  refine lv_iconst (v := 1) hx hb dX2_fills_152 (by decide) ?_
  refine lv_isub hx hb dX2_fills_153 ?_
  refine lv_iload_n hx hb dX2_fills_154 rfl (lv_at hl 2 rfl) ?_
  refine lv_i2l hx hb dX2_fills_155 rfl ?_
  obtain ⟨v1, hq, hf⟩ := gS_eq hf
  refine gc_i (gc_fixSN (S := S) X (mt_X1_sizeOf l D dA A ad E hE S (Int32.toInt64 x1) hq) (lw_meth q818) ⟨rfl, rfl⟩ hd_X1_sizeOf.2 ⟨Nat.le_trans (Nat.le_of_ble_eq_true rfl) hR.1, Nat.le_trans (Nat.le_of_ble_eq_true rfl) hR.2⟩ (X.hK.2 _ (nw_in q816 rfl)) (X.hts _ q86) (X.hts _ q817) hP hS ⟨Nat.zero_le _, Nat.zero_le _⟩ rfl hl.1 rfl (Nat.le_of_ble_eq_true rfl) dX2_fills_156) hS ?_
  rintro _ _ H locs ⟨rfl, rfl⟩ hP hS
  refine lv_isub hx hb dX2_fills_159 ?_
  refine lv_iload hx hb dX2_fills_160 (lv_at hl 6 rfl) ?_
  refine gb_if_ne (tgt := 169) hx hb dX2_fills_162 (by decide) hf (fun hf => ?_) (fun hf => ?_)
  · refine lv_iload hx hb dX2_fills_169 (lv_at hl 6 rfl) ?_
    refine lv_i2l hx hb dX2_fills_171 rfl ?_
    obtain ⟨v2, hq, hf⟩ := gS_eq hf
    refine gc_i (gc_fixSN (S := S) X (mt_X1_sizeOf l D dA A ad E hE S (Int32.toInt64 x5) hq) (lw_meth q818) ⟨rfl, rfl⟩ hd_X1_sizeOf.2 ⟨Nat.le_trans (Nat.le_of_ble_eq_true rfl) hR.1, Nat.le_trans (Nat.le_of_ble_eq_true rfl) hR.2⟩ (X.hK.2 _ (nw_in q816 rfl)) (X.hts _ q86) (X.hts _ q817) hP hS ⟨Nat.zero_le _, Nat.zero_le _⟩ rfl hl.1 rfl (Nat.le_of_ble_eq_true rfl) dX2_fills_172) hS ?_
    rintro _ _ H locs ⟨rfl, rfl⟩ hP hS
    exact w_X2_fills_175 E k hE hk X hR S x1 x2 x4 x5 x8 y0 v2 ((x3 - 1) - v1) hx2 hP hS (lv_sub hl [1, 2, 3, 5, 6, 7, 0] rfl) hf
  · refine lv_iconst (v := 0) hx hb dX2_fills_165 (by decide) ?_
    refine lv_goto (tgt := 175) hx hb dX2_fills_166 (by decide) ?_
    exact w_X2_fills_175 E k hE hk X hR S x1 x2 x4 x5 x8 y0 0 ((x3 - 1) - v1) hx2 hP hS (lv_sub hl [1, 2, 3, 5, 6, 7, 0] rfl) hf
set_option maxHeartbeats 4000000 in
theorem w_X2_fills_144 {p : Program} {l : Launch} {e : Env} {R : Room} {s : State} {m : MethodId} {args : Array Value} {below : List Frame} {meth : Method} {c : Code} {D : va_G} {dA : Nat → ClassId} {A : Nat → Prop} {ad : L3 → Nat} (E : L3 → Bool) (k : Nat) (hE : EOK E) (hk : k < 2) (X : CX RX2 cX2_fills 13 (some .boolean) (KA D dA) p s m args meth c A) (hR : 4 ≤ R.frames ∧ 116 ≤ R.locals) {res : Mem × Int32} (S : Mem) (x1 : Int32) (x2 : Nat) (x3 : Int32) (x4 : Int32) (x5 : Int32) (x8 : Int32) (hx2 : E (S_o k x2) = true) {H : Heap} {locs : List Loc} {ls : Array Slot} (hP : Wd D clA (shC dA E) (exC E) A ad S H) (hS : va_S A s.heap H locs) (hl : lv_has ls 13 [(0, .ref (ad (H_o k))), (1, .int x1), (2, .ref (ad (S_o k x2))), (3, .int x3), (4, .int x4), (5, .int x5), (8, .int x8)]) (hf : f_X2_fills_144 k S x1 x2 x3 x4 x5 x8 = some res) : W p l e R s m args below meth c H locs 0 0 (MQ below (QiW D (shC dA E) (exC E) A ad res) args s 0 0 A) (F0 m 144 ls []) := by
  have hx := X.hx
  have hb := X.hb
  unfold f_X2_fills_144 at hf
  refine lv_iconst (v := 1) hx hb dX2_fills_144 (by decide) ?_
  refine lv_goto (tgt := 149) hx hb dX2_fills_145 (by decide) ?_
  exact w_X2_fills_149 E k hE hk X hR S x1 x2 x3 x4 x5 x8 1 hx2 hP hS (lv_sub hl [0, 1, 2, 3, 4, 5, 6] rfl) hf
set_option maxHeartbeats 4000000 in
theorem w_X2_fills_148 {p : Program} {l : Launch} {e : Env} {R : Room} {s : State} {m : MethodId} {args : Array Value} {below : List Frame} {meth : Method} {c : Code} {D : va_G} {dA : Nat → ClassId} {A : Nat → Prop} {ad : L3 → Nat} (E : L3 → Bool) (k : Nat) (hE : EOK E) (hk : k < 2) (X : CX RX2 cX2_fills 13 (some .boolean) (KA D dA) p s m args meth c A) (hR : 4 ≤ R.frames ∧ 116 ≤ R.locals) {res : Mem × Int32} (S : Mem) (x1 : Int32) (x2 : Nat) (x3 : Int32) (x4 : Int32) (x5 : Int32) (x8 : Int32) (hx2 : E (S_o k x2) = true) {H : Heap} {locs : List Loc} {ls : Array Slot} (hP : Wd D clA (shC dA E) (exC E) A ad S H) (hS : va_S A s.heap H locs) (hl : lv_has ls 13 [(0, .ref (ad (H_o k))), (1, .int x1), (2, .ref (ad (S_o k x2))), (3, .int x3), (4, .int x4), (5, .int x5), (8, .int x8)]) (hf : f_X2_fills_148 k S x1 x2 x3 x4 x5 x8 = some res) : W p l e R s m args below meth c H locs 0 0 (MQ below (QiW D (shC dA E) (exC E) A ad res) args s 0 0 A) (F0 m 148 ls []) := by
  have hx := X.hx
  have hb := X.hb
  unfold f_X2_fills_148 at hf
  refine lv_iconst (v := 0) hx hb dX2_fills_148 (by decide) ?_
  exact w_X2_fills_149 E k hE hk X hR S x1 x2 x3 x4 x5 x8 0 hx2 hP hS (lv_sub hl [0, 1, 2, 3, 4, 5, 6] rfl) hf
set_option maxHeartbeats 4000000 in
theorem w_X2_fills_110 {p : Program} {l : Launch} {e : Env} {R : Room} {s : State} {m : MethodId} {args : Array Value} {below : List Frame} {meth : Method} {c : Code} {D : va_G} {dA : Nat → ClassId} {A : Nat → Prop} {ad : L3 → Nat} (E : L3 → Bool) (k : Nat) (hE : EOK E) (hk : k < 2) (X : CX RX2 cX2_fills 13 (some .boolean) (KA D dA) p s m args meth c A) (hR : 4 ≤ R.frames ∧ 116 ≤ R.locals) {res : Mem × Int32} (S : Mem) (x1 : Int32) (x2 : Nat) (x3 : Int32) (x4 : Int32) (x5 : Int32) (y0 : Int32) (hx2 : E (S_o k x2) = true) {H : Heap} {locs : List Loc} {ls : Array Slot} (hP : Wd D clA (shC dA E) (exC E) A ad S H) (hS : va_S A s.heap H locs) (hl : lv_has ls 13 [(0, .ref (ad (H_o k))), (1, .int x1), (2, .ref (ad (S_o k x2))), (3, .int x3), (4, .int x4), (5, .int x5)]) (hf : f_X2_fills_110 k S x1 x2 x3 x4 x5 y0 = some res) : W p l e R s m args below meth c H locs 0 0 (MQ below (QiW D (shC dA E) (exC E) A ad res) args s 0 0 A) (F0 m 110 ls [.int y0]) := by
  have hx := X.hx
  have hb := X.hb
  unfold f_X2_fills_110 at hf
  refine lv_istore (lv' := [(8, .int y0), (0, .ref (ad (H_o k))), (1, .int x1), (2, .ref (ad (S_o k x2))), (3, .int x3), (4, .int x4), (5, .int x5)]) hx hb dX2_fills_110 hl (by decide) rfl (fun ls hl => ?_)
  refine lv_iload hx hb dX2_fills_112 (lv_at hl 0 rfl) ?_
  refine gb_if_ne (tgt := 148) hx hb dX2_fills_114 (by decide) hf (fun hf => ?_) (fun hf => ?_)
  · exact w_X2_fills_148 E k hE hk X hR S x1 x2 x3 x4 x5 y0 hx2 hP hS (lv_sub hl [1, 2, 3, 4, 5, 6, 0] rfl) hf
  · refine lv_aload_n hx hb dX2_fills_117 rfl (lv_at hl 3 rfl) ?_
    refine rg_X2_300 X hP hx2 dX2_fills_118 ?_
    refine lv_aload_n hx hb dX2_fills_121 rfl (lv_at hl 3 rfl) ?_
    refine rg_X2_307 X hP hx2 dX2_fills_122 ?_
    refine gb_icmp_ne (tgt := 148) hx hb dX2_fills_125 (by decide) hf (fun hf => ?_) (fun hf => ?_)
    · exact w_X2_fills_148 E k hE hk X hR S x1 x2 x3 x4 x5 y0 hx2 hP hS (lv_sub hl [1, 2, 3, 4, 5, 6, 0] rfl) hf
    · refine lv_aload_n hx hb dX2_fills_128 rfl (lv_at hl 3 rfl) ?_
      refine rg_X2_157 X hP hx2 dX2_fills_129 ?_
      refine lv_iconst (v := 1) hx hb dX2_fills_132 (by decide) ?_
      refine gb_icmp_eq (tgt := 144) hx hb dX2_fills_133 (by decide) hf (fun hf => ?_) (fun hf => ?_)
      · exact w_X2_fills_144 E k hE hk X hR S x1 x2 x3 x4 x5 y0 hx2 hP hS (lv_sub hl [1, 2, 3, 4, 5, 6, 0] rfl) hf
      · refine lv_aload_n hx hb dX2_fills_136 rfl (lv_at hl 3 rfl) ?_
        refine rg_X2_157 X hP hx2 dX2_fills_137 ?_
        refine lv_iconst (v := 3) hx hb dX2_fills_140 (by decide) ?_
        refine gb_icmp_ne (tgt := 148) hx hb dX2_fills_141 (by decide) hf (fun hf => ?_) (fun hf => ?_)
        · exact w_X2_fills_148 E k hE hk X hR S x1 x2 x3 x4 x5 y0 hx2 hP hS (lv_sub hl [1, 2, 3, 4, 5, 6, 0] rfl) hf
        · exact w_X2_fills_144 E k hE hk X hR S x1 x2 x3 x4 x5 y0 hx2 hP hS (lv_sub hl [1, 2, 3, 4, 5, 6, 0] rfl) hf
set_option maxHeartbeats 4000000 in
theorem w_X2_fills_39 {p : Program} {l : Launch} {e : Env} {R : Room} {s : State} {m : MethodId} {args : Array Value} {below : List Frame} {meth : Method} {c : Code} {D : va_G} {dA : Nat → ClassId} {A : Nat → Prop} {ad : L3 → Nat} (E : L3 → Bool) (k : Nat) (hE : EOK E) (hk : k < 2) (X : CX RX2 cX2_fills 13 (some .boolean) (KA D dA) p s m args meth c A) (hR : 4 ≤ R.frames ∧ 116 ≤ R.locals) {res : Mem × Int32} (S : Mem) (x1 : Int32) (x2 : Nat) (x3 : Int32) (x4 : Int32) (y0 : Int32) (hx2 : E (S_o k x2) = true) {H : Heap} {locs : List Loc} {ls : Array Slot} (hP : Wd D clA (shC dA E) (exC E) A ad S H) (hS : va_S A s.heap H locs) (hl : lv_has ls 13 [(0, .ref (ad (H_o k))), (1, .int x1), (2, .ref (ad (S_o k x2))), (3, .int x3), (4, .int x4)]) (hf : f_X2_fills_39 k S x1 x2 x3 x4 y0 = some res) : W p l e R s m args below meth c H locs 0 0 (MQ below (QiW D (shC dA E) (exC E) A ad res) args s 0 0 A) (F0 m 39 ls [.int y0]) := by
  have hx := X.hx
  have hb := X.hb
  unfold f_X2_fills_39 at hf
  refine lv_istore (lv' := [(5, .int y0), (0, .ref (ad (H_o k))), (1, .int x1), (2, .ref (ad (S_o k x2))), (3, .int x3), (4, .int x4)]) hx hb dX2_fills_39 hl (by decide) rfl (fun ls hl => ?_)
  refine lv_aload_n hx hb dX2_fills_41 rfl (lv_at hl 3 rfl) ?_
  refine rg_X2_307 X hP hx2 dX2_fills_42 ?_
  refine lv_i2l hx hb dX2_fills_45 rfl ?_
  refine lv_aload_n hx hb dX2_fills_46 rfl (lv_at hl 3 rfl) ?_
  refine rg_X2_244 X hP hx2 dX2_fills_47 ?_
  refine lv_aload_n hx hb dX2_fills_50 rfl (lv_at hl 3 rfl) ?_
  refine rg_X2_300 X hP hx2 dX2_fills_51 ?_
  refine lv_i2l hx hb dX2_fills_54 rfl ?_
  refine lv_aload_n hx hb dX2_fills_55 rfl (lv_at hl 1 rfl) ?_
  refine rg_X2_82 X hP (ex_H_o hE hk) dX2_fills_56 ?_
  refine lv_ladd hx hb dX2_fills_59 ?_
  refine lv_aload_n hx hb dX2_fills_60 rfl (lv_at hl 1 rfl) ?_
  refine rg_X2_310 X hP (ex_H_o hE hk) dX2_fills_61 ?_
  refine lv_i2l hx hb dX2_fills_64 rfl ?_
  refine lv_lsub hx hb dX2_fills_65 ?_
  refine gm_mnJ X (X.hts _ q499) (X.hts _ q500) (X.hts _ q99) (X.hts _ q501) hl.1 ⟨Nat.zero_le _, Nat.zero_le _⟩ (Nat.le_trans (Nat.le_of_ble_eq_true rfl) hR.1) (Nat.le_trans (Nat.le_of_ble_eq_true rfl) hR.2) dX2_fills_66 ?_
  refine gm_mnJ X (X.hts _ q499) (X.hts _ q500) (X.hts _ q99) (X.hts _ q501) hl.1 ⟨Nat.zero_le _, Nat.zero_le _⟩ (Nat.le_trans (Nat.le_of_ble_eq_true rfl) hR.1) (Nat.le_trans (Nat.le_of_ble_eq_true rfl) hR.2) dX2_fills_69 ?_
  refine lv_lstore (lv' := [(6, .long (mnJ (Int32.toInt64 (S.1 (S_o k x2) 1)) (mnJ (S.2 (S_o k x2) 8) (((Int32.toInt64 (S.1 (S_o k x2) 2)) + (S.2 (H_o k) 9)) - (Int32.toInt64 (S.1 (H_o k) 11)))))), (5, .int y0), (0, .ref (ad (H_o k))), (1, .int x1), (2, .ref (ad (S_o k x2))), (3, .int x3), (4, .int x4)]) hx hb dX2_fills_72 hl (by decide) rfl (fun ls hl => ?_)
  refine lv_iload hx hb dX2_fills_74 (lv_at hl 6 rfl) ?_
  refine gb_if_eq (tgt := 97) hx hb dX2_fills_76 (by decide) hf (fun hf => ?_) (fun hf => ?_)
  · refine lv_lload hx hb dX2_fills_97 (lv_at hl 0 rfl) ?_
    refine lv_aload_n hx hb dX2_fills_99 rfl (lv_at hl 4 rfl) ?_
    refine rg_X2_300 X hP hx2 dX2_fills_100 ?_
    refine lv_i2l hx hb dX2_fills_103 rfl ?_
    refine lv_lsub hx hb dX2_fills_104 ?_
    refine lv_lconst (v := 0) hx hb dX2_fills_105 (by decide) ?_
    refine gm_mxJ X (X.hts _ q840) (X.hts _ q841) (X.hts _ q99) (X.hts _ q842) hl.1 ⟨Nat.zero_le _, Nat.zero_le _⟩ (Nat.le_trans (Nat.le_of_ble_eq_true rfl) hR.1) (Nat.le_trans (Nat.le_of_ble_eq_true rfl) hR.2) dX2_fills_106 ?_
    refine lv_l2i hx hb dX2_fills_109 rfl ?_
    exact w_X2_fills_110 E k hE hk X hR S x1 x2 x3 x4 y0 (Int64.toInt32 (mxJ ((mnJ (Int32.toInt64 (S.1 (S_o k x2) 1)) (mnJ (S.2 (S_o k x2) 8) (((Int32.toInt64 (S.1 (S_o k x2) 2)) + (S.2 (H_o k) 9)) - (Int32.toInt64 (S.1 (H_o k) 11))))) - (Int32.toInt64 (S.1 (S_o k x2) 2))) (0 : Int64))) hx2 hP hS (lv_sub hl [2, 3, 4, 5, 6, 1] rfl) hf
  · refine lv_aload_n hx hb dX2_fills_79 rfl (lv_at hl 2 rfl) ?_
    refine rg_X2_41 X hP (ex_H_o hE hk) dX2_fills_80 ?_
    refine rg_X2_331 X hP (ex_P_o hE hk) dX2_fills_83 ?_
    refine lv_aload_n hx hb dX2_fills_86 rfl (lv_at hl 4 rfl) ?_
    refine rg_X2_325 X hP hx2 dX2_fills_87 ?_
    refine ra_P_to_ld X hP (ex_P_to hE hk) dX2_fills_90 hf (fun hf => ?_)
    refine lv_iload hx hb dX2_fills_91 (lv_at hl 1 rfl) ?_
    refine lv_isub hx hb dX2_fills_93 ?_
    refine lv_goto (tgt := 110) hx hb dX2_fills_94 (by decide) ?_
    exact w_X2_fills_110 E k hE hk X hR S x1 x2 x3 x4 y0 ((S.1 (P_to k) (Int32.toNatClampNeg (S.1 (S_o k x2) 6))) - y0) hx2 hP hS (lv_sub hl [2, 3, 4, 5, 6, 1] rfl) hf
set_option maxHeartbeats 4000000 in
theorem w_X2_fills_13 {p : Program} {l : Launch} {e : Env} {R : Room} {s : State} {m : MethodId} {args : Array Value} {below : List Frame} {meth : Method} {c : Code} {D : va_G} {dA : Nat → ClassId} {A : Nat → Prop} {ad : L3 → Nat} (E : L3 → Bool) (k : Nat) (hE : EOK E) (hk : k < 2) (X : CX RX2 cX2_fills 13 (some .boolean) (KA D dA) p s m args meth c A) (hR : 4 ≤ R.frames ∧ 116 ≤ R.locals) {res : Mem × Int32} (S : Mem) (x1 : Int32) (x2 : Nat) (x3 : Int32) (y0 : Int32) (hx2 : E (S_o k x2) = true) {H : Heap} {locs : List Loc} {ls : Array Slot} (hP : Wd D clA (shC dA E) (exC E) A ad S H) (hS : va_S A s.heap H locs) (hl : lv_has ls 13 [(0, .ref (ad (H_o k))), (1, .int x1), (2, .ref (ad (S_o k x2))), (3, .int x3)]) (hf : f_X2_fills_13 k S x1 x2 x3 y0 = some res) : W p l e R s m args below meth c H locs 0 0 (MQ below (QiW D (shC dA E) (exC E) A ad res) args s 0 0 A) (F0 m 13 ls [.int y0]) := by
  have hx := X.hx
  have hb := X.hb
  unfold f_X2_fills_13 at hf
  refine lv_istore (lv' := [(4, .int y0), (0, .ref (ad (H_o k))), (1, .int x1), (2, .ref (ad (S_o k x2))), (3, .int x3)]) hx hb dX2_fills_13 hl (by decide) rfl (fun ls hl => ?_)
  refine lv_iload hx hb dX2_fills_15 (lv_at hl 0 rfl) ?_
  refine gb_if_eq (tgt := 35) hx hb dX2_fills_17 (by decide) hf (fun hf => ?_) (fun hf => ?_)
  · refine lv_aload_n hx hb dX2_fills_35 rfl (lv_at hl 3 rfl) ?_
    refine rg_X2_300 X hP hx2 dX2_fills_36 ?_
    exact w_X2_fills_39 E k hE hk X hR S x1 x2 x3 y0 (S.1 (S_o k x2) 2) hx2 hP hS (lv_sub hl [1, 2, 3, 4, 0] rfl) hf
  · refine lv_aload_n hx hb dX2_fills_20 rfl (lv_at hl 1 rfl) ?_
    refine rg_X2_41 X hP (ex_H_o hE hk) dX2_fills_21 ?_
    refine rg_X2_328 X hP (ex_P_o hE hk) dX2_fills_24 ?_
    refine lv_aload_n hx hb dX2_fills_27 rfl (lv_at hl 3 rfl) ?_
    refine rg_X2_325 X hP hx2 dX2_fills_28 ?_
    refine ra_P_from_ld X hP (ex_P_from hE hk) dX2_fills_31 hf (fun hf => ?_)
    refine lv_goto (tgt := 39) hx hb dX2_fills_32 (by decide) ?_
    exact w_X2_fills_39 E k hE hk X hR S x1 x2 x3 y0 (S.1 (P_from k) (Int32.toNatClampNeg (S.1 (S_o k x2) 6))) hx2 hP hS (lv_sub hl [1, 2, 3, 4, 0] rfl) hf
set_option maxHeartbeats 4000000 in
theorem w_X2_fills {p : Program} {l : Launch} {e : Env} {R : Room} {s : State} {m : MethodId} {args : Array Value} {below : List Frame} {meth : Method} {c : Code} {D : va_G} {dA : Nat → ClassId} {A : Nat → Prop} {ad : L3 → Nat} (E : L3 → Bool) (k : Nat) (hE : EOK E) (hk : k < 2) (X : CX RX2 cX2_fills 13 (some .boolean) (KA D dA) p s m args meth c A) (hR : 4 ≤ R.frames ∧ 116 ≤ R.locals) {res : Mem × Int32} (S : Mem) (x1 : Int32) (x2 : Nat) (x3 : Int32) (hx2 : E (S_o k x2) = true) {H : Heap} {locs : List Loc} {ls : Array Slot} (hP : Wd D clA (shC dA E) (exC E) A ad S H) (hS : va_S A s.heap H locs) (hl : lv_has ls 13 [(0, .ref (ad (H_o k))), (1, .int x1), (2, .ref (ad (S_o k x2))), (3, .int x3)]) (hf : f_X2_fills k S x1 x2 x3 = some res) : W p l e R s m args below meth c H locs 0 0 (MQ below (QiW D (shC dA E) (exC E) A ad res) args s 0 0 A) (F0 m 0 ls []) := by
  have hx := X.hx
  have hb := X.hb
  unfold f_X2_fills at hf
  refine lv_aload_n hx hb dX2_fills_0 rfl (lv_at hl 2 rfl) ?_
  refine rg_X2_325 X hP hx2 dX2_fills_1 ?_
  refine lv_iconst (v := (-1)) hx hb dX2_fills_4 (by decide) ?_
  refine gb_icmp_eq (tgt := 12) hx hb dX2_fills_5 (by decide) hf (fun hf => ?_) (fun hf => ?_)
  · refine lv_iconst (v := 0) hx hb dX2_fills_12 (by decide) ?_
    exact w_X2_fills_13 E k hE hk X hR S x1 x2 x3 0 hx2 hP hS (lv_sub hl [0, 1, 2, 3] rfl) hf
  · refine lv_iconst (v := 1) hx hb dX2_fills_8 (by decide) ?_
    refine lv_goto (tgt := 13) hx hb dX2_fills_9 (by decide) ?_
    exact w_X2_fills_13 E k hE hk X hR S x1 x2 x3 1 hx2 hP hS (lv_sub hl [0, 1, 2, 3] rfl) hf
theorem hd_X2_fills : yX2_fills.cls = RX2 ∧ yX2_fills.cls ≠ "java/lang/invoke/MethodHandle" ∧ yX2_fills.cls ≠ "java/lang/invoke/VarHandle" ∧ (parseMethodDescriptor yX2_fills.desc).map (fun d => d.parameters.length) = some 3 := by decide +kernel
set_option maxHeartbeats 4000000 in
theorem mt_X2_fills (l : Launch) (D : va_G) (dA : Nat → ClassId) (A : Nat → Prop) (ad : L3 → Nat) (E : L3 → Bool) (k : Nat) (hE : EOK E) (hk : k < 2) (S : Mem) (x1 : Int32) (x2 : Nat) (x3 : Int32) (hx2 : E (S_o k x2) = true) {res : Mem × Int32} (hq : f_X2_fills k S x1 x2 x3 = some res) : Met l yX2_fills (ws_ yX2_fills cX2_fills 13 (some .boolean)) ({ frames := 4, cells := 0, slots := 0, locals := 116 } : Room) (va_Pc [.ref (ad (H_o k)), .int x1, .ref (ad (S_o k x2)), .int x3] (PreW D dA (shC dA E) (exC E) A ad S)) (QiW D (shC dA E) (exC E) A ad res) 0 0 A :=
  gx_head (by decide) (Nat.le_of_ble_eq_true rfl) (fun p e s m below meth c ls X hP hl => w_X2_fills (l := l) E k hE hk X ⟨Nat.le_of_ble_eq_true rfl, Nat.le_of_ble_eq_true rfl⟩ S x1 x2 x3 hx2 hP va_S.rf (lv_sub (l := [(0, .ref (ad (H_o k))), (1, .int x1), (2, .ref (ad (S_o k x2))), (3, .int x3)]) hl [0, 1, 2, 3] rfl) hq)
set_option maxHeartbeats 4000000 in
theorem w_X2_fillsStream_62 {p : Program} {l : Launch} {e : Env} {R : Room} {s : State} {m : MethodId} {args : Array Value} {below : List Frame} {meth : Method} {c : Code} {D : va_G} {dA : Nat → ClassId} {A : Nat → Prop} {ad : L3 → Nat} (E : L3 → Bool) (k : Nat) (hE : EOK E) (hk : k < 2) (X : CX RX2 cX2_fillsStream 5 (some .boolean) (KA D dA) p s m args meth c A) (hR : 5 ≤ R.frames ∧ 148 ≤ R.locals) {res : Mem × Int32} (k2 : Mem → Int32 → Int32 → Option (Mem × Int32)) (hk2 : ∀ (S : Mem) (x1 : Int32) (x2 : Int32) (H : Heap) (locs : List Loc) (ls : Array Slot), Wd D clA (shC dA E) (exC E) A ad S H → va_S A s.heap H locs → lv_has ls 5 [(0, .ref (ad (H_o k))), (1, .int x1), (2, .int x2)] → k2 S x1 x2 = some res → W p l e R s m args below meth c H locs 0 0 (MQ below (QiW D (shC dA E) (exC E) A ad res) args s 0 0 A) (F0 m 2 ls [])) (S : Mem) (x1 : Int32) (x2 : Int32) {H : Heap} {locs : List Loc} {ls : Array Slot} (hP : Wd D clA (shC dA E) (exC E) A ad S H) (hS : va_S A s.heap H locs) (hl : lv_has ls 5 [(0, .ref (ad (H_o k))), (1, .int x1), (2, .int x2)]) (hf : f_X2_fillsStream_62 E k k2 S x1 x2 = some res) : W p l e R s m args below meth c H locs 0 0 (MQ below (QiW D (shC dA E) (exC E) A ad res) args s 0 0 A) (F0 m 62 ls []) := by
  have hx := X.hx
  have hb := X.hb
  unfold f_X2_fillsStream_62 at hf
  refine lv_iinc (v := (x2 + 1)) (lv' := [(2, .int (x2 + 1)), (0, .ref (ad (H_o k))), (1, .int x1)]) hx hb dX2_fillsStream_62 hl (k := 2) rfl rfl (by decide) rfl (fun ls hl => ?_)
  refine lv_goto (tgt := 2) hx hb dX2_fillsStream_65 (by decide) ?_
  exact hk2 S x1 (x2 + 1) _ _ _ hP hS (lv_sub hl [1, 2, 0] rfl) hf
set_option maxHeartbeats 4000000 in
theorem w_X2_fillsStream_2_b {p : Program} {l : Launch} {e : Env} {R : Room} {s : State} {m : MethodId} {args : Array Value} {below : List Frame} {meth : Method} {c : Code} {D : va_G} {dA : Nat → ClassId} {A : Nat → Prop} {ad : L3 → Nat} (E : L3 → Bool) (k : Nat) (hE : EOK E) (hk : k < 2) (X : CX RX2 cX2_fillsStream 5 (some .boolean) (KA D dA) p s m args meth c A) (hR : 5 ≤ R.frames ∧ 148 ≤ R.locals) {res : Mem × Int32} (k2 : Mem → Int32 → Int32 → Option (Mem × Int32)) (hk2 : ∀ (S : Mem) (x1 : Int32) (x2 : Int32) (H : Heap) (locs : List Loc) (ls : Array Slot), Wd D clA (shC dA E) (exC E) A ad S H → va_S A s.heap H locs → lv_has ls 5 [(0, .ref (ad (H_o k))), (1, .int x1), (2, .int x2)] → k2 S x1 x2 = some res → W p l e R s m args below meth c H locs 0 0 (MQ below (QiW D (shC dA E) (exC E) A ad res) args s 0 0 A) (F0 m 2 ls [])) (S : Mem) (x1 : Int32) (x2 : Int32) {H : Heap} {locs : List Loc} {ls : Array Slot} (hP : Wd D clA (shC dA E) (exC E) A ad S H) (hS : va_S A s.heap H locs) (hl : lv_has ls 5 [(0, .ref (ad (H_o k))), (1, .int x1), (2, .int x2)]) (hf : f_X2_fillsStream_2_b E k k2 S x1 x2 = some res) : W p l e R s m args below meth c H locs 0 0 (MQ below (QiW D (shC dA E) (exC E) A ad res) args s 0 0 A) (F0 m 2 ls []) := by
  have hx := X.hx
  have hb := X.hb
  unfold f_X2_fillsStream_2_b at hf
  refine lv_iload_n hx hb dX2_fillsStream_2 rfl (lv_at hl 2 rfl) ?_
  refine lv_sipush (v := 256) hx hb dX2_fillsStream_3 (by decide) ?_
  refine gb_icmp_gt (tgt := 68) hx hb dX2_fillsStream_6 (by decide) hf (fun hf => ?_) (fun hf => ?_)
  · refine lv_iconst (v := 0) hx hb dX2_fillsStream_68 (by decide) ?_
    exact gr_zW X hP hS (Option.some.inj hf) (by decide) dX2_fillsStream_69
  · refine lv_aload_n hx hb dX2_fillsStream_9 rfl (lv_at hl 0 rfl) ?_
    refine rg_X2_65 X hP (ex_H_o hE hk) dX2_fillsStream_10 ?_
    refine lv_iload_n hx hb dX2_fillsStream_13 rfl (lv_at hl 2 rfl) ?_
    refine lv_iadd hx hb dX2_fillsStream_14 ?_
    refine lv_sipush (v := 256) hx hb dX2_fillsStream_15 (by decide) ?_
    refine lv_irem hx hb dX2_fillsStream_18 (by decide) ?_
    refine lv_istore_n (lv' := [(3, .int (((S.1 (H_o k) 15) + x2) - ((S.1 (H_o k) 15) + x2) / 256 * 256)), (0, .ref (ad (H_o k))), (1, .int x1), (2, .int x2)]) hx hb dX2_fillsStream_19 rfl hl (by decide) rfl (fun ls hl => ?_)
    refine lv_aload_n hx hb dX2_fillsStream_20 rfl (lv_at hl 1 rfl) ?_
    refine rg_X2_11 X hP (ex_H_o hE hk) dX2_fillsStream_21 ?_
    refine lv_iload_n hx hb dX2_fillsStream_24 rfl (lv_at hl 0 rfl) ?_
    refine ra_H_sendings_ld X hP (ex_H_sendings hE hk) dX2_fillsStream_25 hf (fun he1 hf => ?_) (fun hf => ?_)
    · refine lv_astore (lv' := [(4, .ref (ad (S_o k (Int32.toNatClampNeg (((S.1 (H_o k) 15) + x2) - ((S.1 (H_o k) 15) + x2) / 256 * 256))))), (3, .int (((S.1 (H_o k) 15) + x2) - ((S.1 (H_o k) 15) + x2) / 256 * 256)), (0, .ref (ad (H_o k))), (1, .int x1), (2, .int x2)]) hx hb dX2_fillsStream_26 hl (by decide) rfl (fun ls hl => ?_)
      refine lv_aload hx hb dX2_fillsStream_28 (lv_at hl 0 rfl) ?_
      refine lv_ifnull hx hb dX2_fillsStream_30 ?_
      refine lv_aload hx hb dX2_fillsStream_33 (lv_at hl 0 rfl) ?_
      obtain ⟨v2, hq, hf⟩ := gS_eq hf
      refine gc_i (gc_fixV (S := S) X (mt_X9_isLive l D dA A ad E k (Int32.toNatClampNeg (((S.1 (H_o k) 15) + x2) - ((S.1 (H_o k) 15) + x2) / 256 * 256)) hE hk he1 S hq) (lw_V q712 q713 q714 q100 q715) ⟨rfl, rfl⟩ hd_X9_isLive ⟨Nat.le_trans (Nat.le_of_ble_eq_true rfl) hR.1, Nat.le_trans (Nat.le_of_ble_eq_true rfl) hR.2⟩ (wd_recv (r := S_o k (Int32.toNatClampNeg (((S.1 (H_o k) 15) + x2) - ((S.1 (H_o k) 15) + x2) / 256 * 256))) (ci := 8) (q := (RX9, TX9, 12)) X.hK.1 hP he1 rfl rfl) hP hS ⟨Nat.zero_le _, Nat.zero_le _⟩ rfl hl.1 rfl (Nat.le_of_ble_eq_true rfl) dX2_fillsStream_35) hS ?_
      rintro _ _ H locs ⟨rfl, rfl⟩ hP hS
      refine gb_if_eq (tgt := 62) hx hb dX2_fillsStream_38 (by decide) hf (fun hf => ?_) (fun hf => ?_)
      · exact w_X2_fillsStream_62 E k hE hk X hR k2 hk2 S x1 x2 hP hS (lv_sub hl [2, 3, 4] rfl) hf
      · refine lv_aload_n hx hb dX2_fillsStream_41 rfl (lv_at hl 2 rfl) ?_
        refine lv_iload_n hx hb dX2_fillsStream_42 rfl (lv_at hl 1 rfl) ?_
        refine lv_aload hx hb dX2_fillsStream_43 (lv_at hl 0 rfl) ?_
        refine lv_iload_n hx hb dX2_fillsStream_45 rfl (lv_at hl 3 rfl) ?_
        obtain ⟨S3, v4, hq, hf⟩ := gB2_some hf
        refine gc_i (gc_fixV (S := S) X (mt_X2_fills l D dA A ad E k hE hk S (((S.1 (H_o k) 15) + x2) - ((S.1 (H_o k) 15) + x2) / 256 * 256) (Int32.toNatClampNeg (((S.1 (H_o k) 15) + x2) - ((S.1 (H_o k) 15) + x2) / 256 * 256)) x1 he1 hq) (lw_V q836 q838 qs20 q87 q839) ⟨rfl, rfl⟩ hd_X2_fills ⟨Nat.le_trans (Nat.le_of_ble_eq_true rfl) hR.1, Nat.le_trans (Nat.le_of_ble_eq_true rfl) hR.2⟩ (wd_recv (r := H_o k) (ci := 2) (q := (RX2, TX2, 23)) X.hK.1 hP (ex_H_o hE hk) rfl rfl) hP hS ⟨Nat.zero_le _, Nat.zero_le _⟩ rfl hl.1 rfl (Nat.le_of_ble_eq_true rfl) dX2_fillsStream_46) hS ?_
        rintro _ _ H locs ⟨⟩ hP hS
        refine gb_if_ne (tgt := 55) hx hb dX2_fillsStream_49 (by decide) hf (fun hf => ?_) (fun hf => ?_)
        · refine lv_aload_n hx hb dX2_fillsStream_55 rfl (lv_at hl 2 rfl) ?_
          refine lv_iload_n hx hb dX2_fillsStream_56 rfl (lv_at hl 1 rfl) ?_
          refine rp_X2_65 X hP hS (ex_H_o hE hk) dX2_fillsStream_57 hf (fun S5 H locs hP hS hf => ?_)
          refine lv_iconst (v := 1) hx hb dX2_fillsStream_60 (by decide) ?_
          exact gr_zW X hP hS (Option.some.inj hf) (by decide) dX2_fillsStream_61
        · refine lv_goto (tgt := 62) hx hb dX2_fillsStream_52 (by decide) ?_
          exact w_X2_fillsStream_62 E k hE hk X hR k2 hk2 S3 x1 x2 hP hS (lv_sub hl [2, 3, 4] rfl) hf
    · refine lv_astoreN (lv' := [(4, .null), (3, .int (((S.1 (H_o k) 15) + x2) - ((S.1 (H_o k) 15) + x2) / 256 * 256)), (0, .ref (ad (H_o k))), (1, .int x1), (2, .int x2)]) hx hb dX2_fillsStream_26 hl (by decide) rfl (fun ls hl => ?_)
      refine lv_aloadN hx hb dX2_fillsStream_28 (lv_at hl 0 rfl) ?_
      refine lv_ifnullN (tgt := 62) hx hb dX2_fillsStream_30 (by decide) ?_
      exact w_X2_fillsStream_62 E k hE hk X hR k2 hk2 S x1 x2 hP hS (lv_sub hl [2, 3, 4] rfl) hf
set_option maxHeartbeats 4000000 in
theorem w_X2_fillsStream_2 {p : Program} {l : Launch} {e : Env} {R : Room} {s : State} {m : MethodId} {args : Array Value} {below : List Frame} {meth : Method} {c : Code} {D : va_G} {dA : Nat → ClassId} {A : Nat → Prop} {ad : L3 → Nat} (E : L3 → Bool) (k : Nat) (hE : EOK E) (hk : k < 2) (X : CX RX2 cX2_fillsStream 5 (some .boolean) (KA D dA) p s m args meth c A) (hR : 5 ≤ R.frames ∧ 148 ≤ R.locals) {res : Mem × Int32} (n : Nat) : ∀ (S : Mem) (x1 : Int32) (x2 : Int32) (H : Heap) (locs : List Loc) (ls : Array Slot), Wd D clA (shC dA E) (exC E) A ad S H → va_S A s.heap H locs → lv_has ls 5 [(0, .ref (ad (H_o k))), (1, .int x1), (2, .int x2)] → f_X2_fillsStream_2 E k n S x1 x2 = some res → W p l e R s m args below meth c H locs 0 0 (MQ below (QiW D (shC dA E) (exC E) A ad res) args s 0 0 A) (F0 m 2 ls []) := by
  induction n with
  | zero =>
    intro S x1 x2 H locs ls hP hS hl hf
    exact absurd (show none = some res from hf) (fun h => by cases h)
  | succ n ih =>
    intro S x1 x2 H locs ls hP hS hl hf
    exact w_X2_fillsStream_2_b E k hE hk X hR (f_X2_fillsStream_2 E k n) ih S x1 x2 hP hS hl hf
set_option maxHeartbeats 4000000 in
theorem w_X2_fillsStream {p : Program} {l : Launch} {e : Env} {R : Room} {s : State} {m : MethodId} {args : Array Value} {below : List Frame} {meth : Method} {c : Code} {D : va_G} {dA : Nat → ClassId} {A : Nat → Prop} {ad : L3 → Nat} (E : L3 → Bool) (k : Nat) (hE : EOK E) (hk : k < 2) (X : CX RX2 cX2_fillsStream 5 (some .boolean) (KA D dA) p s m args meth c A) (hR : 5 ≤ R.frames ∧ 148 ≤ R.locals) {res : Mem × Int32} (S : Mem) (x1 : Int32) {H : Heap} {locs : List Loc} {ls : Array Slot} (hP : Wd D clA (shC dA E) (exC E) A ad S H) (hS : va_S A s.heap H locs) (hl : lv_has ls 5 [(0, .ref (ad (H_o k))), (1, .int x1)]) (hf : f_X2_fillsStream E k S x1 = some res) : W p l e R s m args below meth c H locs 0 0 (MQ below (QiW D (shC dA E) (exC E) A ad res) args s 0 0 A) (F0 m 0 ls []) := by
  have hx := X.hx
  have hb := X.hb
  unfold f_X2_fillsStream at hf
  refine lv_iconst (v := 1) hx hb dX2_fillsStream_0 (by decide) ?_
  refine lv_istore_n (lv' := [(2, .int 1), (0, .ref (ad (H_o k))), (1, .int x1)]) hx hb dX2_fillsStream_1 rfl hl (by decide) rfl (fun ls hl => ?_)
  exact w_X2_fillsStream_2 E k hE hk X hR FU S x1 1 _ _ _ hP hS (lv_sub hl [1, 2, 0] rfl) hf
theorem hd_X2_fillsStream : yX2_fillsStream.cls = RX2 ∧ yX2_fillsStream.cls ≠ "java/lang/invoke/MethodHandle" ∧ yX2_fillsStream.cls ≠ "java/lang/invoke/VarHandle" ∧ (parseMethodDescriptor yX2_fillsStream.desc).map (fun d => d.parameters.length) = some 1 := by decide +kernel
set_option maxHeartbeats 4000000 in
theorem mt_X2_fillsStream (l : Launch) (D : va_G) (dA : Nat → ClassId) (A : Nat → Prop) (ad : L3 → Nat) (E : L3 → Bool) (k : Nat) (hE : EOK E) (hk : k < 2) (S : Mem) (x1 : Int32) {res : Mem × Int32} (hq : f_X2_fillsStream E k S x1 = some res) : Met l yX2_fillsStream (ws_ yX2_fillsStream cX2_fillsStream 5 (some .boolean)) ({ frames := 5, cells := 0, slots := 0, locals := 148 } : Room) (va_Pc [.ref (ad (H_o k)), .int x1] (PreW D dA (shC dA E) (exC E) A ad S)) (QiW D (shC dA E) (exC E) A ad res) 0 0 A :=
  gx_head (by decide) (Nat.le_of_ble_eq_true rfl) (fun p e s m below meth c ls X hP hl => w_X2_fillsStream (l := l) E k hE hk X ⟨Nat.le_of_ble_eq_true rfl, Nat.le_of_ble_eq_true rfl⟩ S x1 hP va_S.rf (lv_sub (l := [(0, .ref (ad (H_o k))), (1, .int x1)]) hl [0, 1] rfl) hq)
set_option maxHeartbeats 4000000 in
theorem w_X2_fill_32 {p : Program} {l : Launch} {e : Env} {R : Room} {s : State} {m : MethodId} {args : Array Value} {below : List Frame} {meth : Method} {c : Code} {D : va_G} {dA : Nat → ClassId} {A : Nat → Prop} {ad : L3 → Nat} (E : L3 → Bool) (k : Nat) (hE : EOK E) (hk : k < 2) (X : CX RX2 cX2_fill 2 (some .boolean) (KA D dA) p s m args meth c A) (hR : 6 ≤ R.frames ∧ 172 ≤ R.locals) {res : Mem × Int32} (S : Mem) {H : Heap} {locs : List Loc} {ls : Array Slot} (hP : Wd D clA (shC dA E) (exC E) A ad S H) (hS : va_S A s.heap H locs) (hl : lv_has ls 2 []) (hf : f_X2_fill_32 E k S = some res) : W p l e R s m args below meth c H locs 0 0 (MQ below (QiW D (shC dA E) (exC E) A ad res) args s 0 0 A) (F0 m 32 ls []) := by
  have hx := X.hx
  have hb := X.hb
  unfold f_X2_fill_32 at hf
  refine lv_iconst (v := 1) hx hb dX2_fill_32 (by decide) ?_
  refine lv_goto (tgt := 37) hx hb dX2_fill_33 (by decide) ?_
  exact gr_zW X hP hS (Option.some.inj hf) (by decide) dX2_fill_37
set_option maxHeartbeats 4000000 in
theorem w_X2_fill {p : Program} {l : Launch} {e : Env} {R : Room} {s : State} {m : MethodId} {args : Array Value} {below : List Frame} {meth : Method} {c : Code} {D : va_G} {dA : Nat → ClassId} {A : Nat → Prop} {ad : L3 → Nat} (E : L3 → Bool) (k : Nat) (hE : EOK E) (hk : k < 2) (X : CX RX2 cX2_fill 2 (some .boolean) (KA D dA) p s m args meth c A) (hR : 6 ≤ R.frames ∧ 172 ≤ R.locals) {res : Mem × Int32} (S : Mem) (x1 : Int32) {H : Heap} {locs : List Loc} {ls : Array Slot} (hP : Wd D clA (shC dA E) (exC E) A ad S H) (hS : va_S A s.heap H locs) (hl : lv_has ls 2 [(0, .ref (ad (H_o k))), (1, .int x1)]) (hf : f_X2_fill E k S x1 = some res) : W p l e R s m args below meth c H locs 0 0 (MQ below (QiW D (shC dA E) (exC E) A ad res) args s 0 0 A) (F0 m 0 ls []) := by
  have hx := X.hx
  have hb := X.hb
  unfold f_X2_fill at hf
  refine lv_aload_n hx hb dX2_fill_0 rfl (lv_at hl 0 rfl) ?_
  refine lv_iload_n hx hb dX2_fill_1 rfl (lv_at hl 1 rfl) ?_
  obtain ⟨S1, v2, hq, hf⟩ := gB2_some hf
  refine gc_i (gc_fixV (S := S) X (mt_X2_fillsEnds l D dA A ad E k hE hk S x1 hq) (lw_V q808 q810 qs15 q87 q811) ⟨rfl, rfl⟩ hd_X2_fillsEnds ⟨Nat.le_trans (Nat.le_of_ble_eq_true rfl) hR.1, Nat.le_trans (Nat.le_of_ble_eq_true rfl) hR.2⟩ (wd_recv (r := H_o k) (ci := 2) (q := (RX2, TX2, 23)) X.hK.1 hP (ex_H_o hE hk) rfl rfl) hP hS ⟨Nat.zero_le _, Nat.zero_le _⟩ rfl hl.1 rfl (Nat.le_of_ble_eq_true rfl) dX2_fill_2) hS ?_
  rintro _ _ H locs ⟨⟩ hP hS
  refine gb_if_ne (tgt := 32) hx hb dX2_fill_5 (by decide) hf (fun hf => ?_) (fun hf => ?_)
  · exact w_X2_fill_32 E k hE hk X hR S1 hP hS (lv_sub hl [] rfl) hf
  · refine lv_aload_n hx hb dX2_fill_8 rfl (lv_at hl 0 rfl) ?_
    refine lv_iload_n hx hb dX2_fill_9 rfl (lv_at hl 1 rfl) ?_
    obtain ⟨S3, v4, hq, hf⟩ := gB2_some hf
    refine gc_i (gc_fixV (S := S1) X (mt_X2_fillsGrants l D dA A ad E k hE hk S1 x1 hq) (lw_V q821 q823 qs17 q87 q824) ⟨rfl, rfl⟩ hd_X2_fillsGrants ⟨Nat.le_trans (Nat.le_of_ble_eq_true rfl) hR.1, Nat.le_trans (Nat.le_of_ble_eq_true rfl) hR.2⟩ (wd_recv (r := H_o k) (ci := 2) (q := (RX2, TX2, 23)) X.hK.1 hP (ex_H_o hE hk) rfl rfl) hP hS ⟨Nat.zero_le _, Nat.zero_le _⟩ rfl hl.1 rfl (Nat.le_of_ble_eq_true rfl) dX2_fill_10) hS ?_
    rintro _ _ H locs ⟨⟩ hP hS
    refine gb_if_ne (tgt := 32) hx hb dX2_fill_13 (by decide) hf (fun hf => ?_) (fun hf => ?_)
    · exact w_X2_fill_32 E k hE hk X hR S3 hP hS (lv_sub hl [] rfl) hf
    · refine lv_aload_n hx hb dX2_fill_16 rfl (lv_at hl 0 rfl) ?_
      refine lv_iload_n hx hb dX2_fill_17 rfl (lv_at hl 1 rfl) ?_
      obtain ⟨S5, v6, hq, hf⟩ := gB2_some hf
      refine gc_i (gc_fixV (S := S3) X (mt_X2_fillsBlocked l D dA A ad E k hE hk S3 x1 hq) (lw_V q825 q827 qs18 q87 q828) ⟨rfl, rfl⟩ hd_X2_fillsBlocked ⟨Nat.le_trans (Nat.le_of_ble_eq_true rfl) hR.1, Nat.le_trans (Nat.le_of_ble_eq_true rfl) hR.2⟩ (wd_recv (r := H_o k) (ci := 2) (q := (RX2, TX2, 23)) X.hK.1 hP (ex_H_o hE hk) rfl rfl) hP hS ⟨Nat.zero_le _, Nat.zero_le _⟩ rfl hl.1 rfl (Nat.le_of_ble_eq_true rfl) dX2_fill_18) hS ?_
      rintro _ _ H locs ⟨⟩ hP hS
      refine gb_if_ne (tgt := 32) hx hb dX2_fill_21 (by decide) hf (fun hf => ?_) (fun hf => ?_)
      · exact w_X2_fill_32 E k hE hk X hR S5 hP hS (lv_sub hl [] rfl) hf
      · refine lv_aload_n hx hb dX2_fill_24 rfl (lv_at hl 0 rfl) ?_
        refine lv_iload_n hx hb dX2_fill_25 rfl (lv_at hl 1 rfl) ?_
        obtain ⟨S7, v8, hq, hf⟩ := gB2_some hf
        refine gc_i (gc_fixV (S := S5) X (mt_X2_fillsStream l D dA A ad E k hE hk S5 x1 hq) (lw_V q832 q834 qs19 q87 q835) ⟨rfl, rfl⟩ hd_X2_fillsStream ⟨Nat.le_trans (Nat.le_of_ble_eq_true rfl) hR.1, Nat.le_trans (Nat.le_of_ble_eq_true rfl) hR.2⟩ (wd_recv (r := H_o k) (ci := 2) (q := (RX2, TX2, 23)) X.hK.1 hP (ex_H_o hE hk) rfl rfl) hP hS ⟨Nat.zero_le _, Nat.zero_le _⟩ rfl hl.1 rfl (Nat.le_of_ble_eq_true rfl) dX2_fill_26) hS ?_
        rintro _ _ H locs ⟨⟩ hP hS
        refine gb_if_eq (tgt := 36) hx hb dX2_fill_29 (by decide) hf (fun hf => ?_) (fun hf => ?_)
        · refine lv_iconst (v := 0) hx hb dX2_fill_36 (by decide) ?_
          exact gr_zW X hP hS (Option.some.inj hf) (by decide) dX2_fill_37
        · exact w_X2_fill_32 E k hE hk X hR S7 hP hS (lv_sub hl [] rfl) hf
theorem hd_X2_fill : yX2_fill.cls = RX2 ∧ yX2_fill.cls ≠ "java/lang/invoke/MethodHandle" ∧ yX2_fill.cls ≠ "java/lang/invoke/VarHandle" ∧ (parseMethodDescriptor yX2_fill.desc).map (fun d => d.parameters.length) = some 1 := by decide +kernel
set_option maxHeartbeats 4000000 in
theorem mt_X2_fill (l : Launch) (D : va_G) (dA : Nat → ClassId) (A : Nat → Prop) (ad : L3 → Nat) (E : L3 → Bool) (k : Nat) (hE : EOK E) (hk : k < 2) (S : Mem) (x1 : Int32) {res : Mem × Int32} (hq : f_X2_fill E k S x1 = some res) : Met l yX2_fill (ws_ yX2_fill cX2_fill 2 (some .boolean)) ({ frames := 6, cells := 0, slots := 0, locals := 172 } : Room) (va_Pc [.ref (ad (H_o k)), .int x1] (PreW D dA (shC dA E) (exC E) A ad S)) (QiW D (shC dA E) (exC E) A ad res) 0 0 A :=
  gx_head (by decide) (Nat.le_of_ble_eq_true rfl) (fun p e s m below meth c ls X hP hl => w_X2_fill (l := l) E k hE hk X ⟨Nat.le_of_ble_eq_true rfl, Nat.le_of_ble_eq_true rfl⟩ S x1 hP va_S.rf (lv_sub (l := [(0, .ref (ad (H_o k))), (1, .int x1)]) hl [0, 1] rfl) hq)
