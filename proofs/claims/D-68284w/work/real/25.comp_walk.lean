set_option maxRecDepth 100000
set_option maxHeartbeats 4000000 in
theorem w_X2_gone_55 {p : Program} {l : Launch} {e : Env} {R : Room} {s : State} {m : MethodId} {args : Array Value} {below : List Frame} {meth : Method} {c : Code} {D : va_G} {dA : Nat → ClassId} {A : Nat → Prop} {ad : L3 → Nat} (E : L3 → Bool) (k : Nat) (hE : EOK E) (hk : k < 2) (X : CX RX2 cX2_gone 12 none (KA D dA) p s m args meth c A) (hR : 5 ≤ R.frames ∧ 142 ≤ R.locals) {res : Mem} (S : Mem) (x9 : Int32) (x10 : Int32) (x11 : Int32) (y0 : Int32) (y1 : Int32) (y2 : Int32) (y3 : Option Nat) (hy3 : ∀ j, y3 = some j → E (S_o k j) = true) {H : Heap} {locs : List Loc} {ls : Array Slot} (hP : Wd D clA (shC dA E) (exC E) A ad S H) (hS : va_S A s.heap H locs) (hl : lv_has ls 12 [(0, .ref (ad (H_o k))), (9, .int x9), (10, .int x10), (11, .int x11)]) (hf : f_X2_gone_55 E k S x9 x10 x11 y0 y1 y2 y3 = some res) : W p l e R s m args below meth c H locs 0 0 (MQ below (QvW D (shC dA E) (exC E) A ad res) args s 0 0 A) (F0 m 55 ls [.int y0, .int y1, .int y2, va_rf (Option.map (fun j => ad (S_o k j)) y3), .ref (ad (H_o k))]) := by
  have hx := X.hx
  have hb := X.hb
  unfold f_X2_gone_55 at hf
  rcases y3 with _ | js3
  · replace hf := gM_none hf
    show W p l e R s m args below meth c H locs 0 0 (MQ below (QvW D (shC dA E) (exC E) A ad res) args s 0 0 A) (F0 m 55 ls [.int y0, .int y1, .int y2, .null, .ref (ad (H_o k))])
    refine lv_iload hx hb dX2_gone_55 (lv_at hl 1 rfl) ?_
    cases hf
  · replace hf := gM_some hf
    have hjs3 := hy3 js3 rfl
    show W p l e R s m args below meth c H locs 0 0 (MQ below (QvW D (shC dA E) (exC E) A ad res) args s 0 0 A) (F0 m 55 ls [.int y0, .int y1, .int y2, .ref (ad (S_o k js3)), .ref (ad (H_o k))])
    refine lv_iload hx hb dX2_gone_55 (lv_at hl 1 rfl) ?_
    obtain ⟨S1, hq, hf⟩ := gB_some hf
    refine gc_v (gc_fixV (S := S) X (mt_X2_isGone l D dA A ad E k hE hk S js3 y2 y1 y0 x9 hjs3 hq) (lw_V q977 q979 qs33 q87 q980) ⟨rfl, rfl⟩ hd_X2_isGone ⟨Nat.le_trans (Nat.le_of_ble_eq_true rfl) hR.1, Nat.le_trans (Nat.le_of_ble_eq_true rfl) hR.2⟩ (wd_recv (r := H_o k) (ci := 2) (q := (RX2, TX2, 23)) X.hK.1 hP (ex_H_o hE hk) rfl rfl) hP hS ⟨Nat.zero_le _, Nat.zero_le _⟩ rfl hl.1 rfl (Nat.le_of_ble_eq_true rfl) dX2_gone_57) hS ?_
    rintro _ H locs rfl hP hS
    refine lv_aload_n hx hb dX2_gone_60 rfl (lv_at hl 0 rfl) ?_
    refine lv_iload hx hb dX2_gone_61 (lv_at hl 2 rfl) ?_
    refine lv_iload hx hb dX2_gone_63 (lv_at hl 3 rfl) ?_
    obtain ⟨S2, hq, hf⟩ := gB_some hf
    refine gc_v (gc_fixV (S := S1) X (mt_X2_mayBeOver l D dA A ad E k hE hk S1 x10 x11 hq) (lw_V q785 q787 qs13 q87 q788) ⟨rfl, rfl⟩ hd_X2_mayBeOver ⟨Nat.le_trans (Nat.le_of_ble_eq_true rfl) hR.1, Nat.le_trans (Nat.le_of_ble_eq_true rfl) hR.2⟩ (wd_recv (r := H_o k) (ci := 2) (q := (RX2, TX2, 23)) X.hK.1 hP (ex_H_o hE hk) rfl rfl) hP hS ⟨Nat.zero_le _, Nat.zero_le _⟩ rfl hl.1 rfl (Nat.le_of_ble_eq_true rfl) dX2_gone_65) hS ?_
    rintro _ H locs rfl hP hS
    refine lv_goto (tgt := 140) hx hb dX2_gone_68 (by decide) ?_
    exact gr_vW X hP hS (Option.some.inj hf) dX2_gone_140
set_option maxHeartbeats 4000000 in
theorem w_X2_gone_114 {p : Program} {l : Launch} {e : Env} {R : Room} {s : State} {m : MethodId} {args : Array Value} {below : List Frame} {meth : Method} {c : Code} {D : va_G} {dA : Nat → ClassId} {A : Nat → Prop} {ad : L3 → Nat} (E : L3 → Bool) (k : Nat) (hE : EOK E) (hk : k < 2) (X : CX RX2 cX2_gone 12 none (KA D dA) p s m args meth c A) (hR : 5 ≤ R.frames ∧ 142 ≤ R.locals) {res : Mem} (S : Mem) (x10 : Int32) (x11 : Int32) {H : Heap} {locs : List Loc} {ls : Array Slot} (hP : Wd D clA (shC dA E) (exC E) A ad S H) (hS : va_S A s.heap H locs) (hl : lv_has ls 12 [(0, .ref (ad (H_o k))), (10, .int x10), (11, .int x11)]) (hf : f_X2_gone_114 E k S x10 x11 = some res) : W p l e R s m args below meth c H locs 0 0 (MQ below (QvW D (shC dA E) (exC E) A ad res) args s 0 0 A) (F0 m 114 ls []) := by
  have hx := X.hx
  have hb := X.hb
  unfold f_X2_gone_114 at hf
  refine lv_aload_n hx hb dX2_gone_114 rfl (lv_at hl 0 rfl) ?_
  refine lv_iload hx hb dX2_gone_115 (lv_at hl 1 rfl) ?_
  refine lv_iload hx hb dX2_gone_117 (lv_at hl 2 rfl) ?_
  obtain ⟨S1, hq, hf⟩ := gB_some hf
  refine gc_v (gc_fixV (S := S) X (mt_X2_mayBeOver l D dA A ad E k hE hk S x10 x11 hq) (lw_V q785 q787 qs13 q87 q788) ⟨rfl, rfl⟩ hd_X2_mayBeOver ⟨Nat.le_trans (Nat.le_of_ble_eq_true rfl) hR.1, Nat.le_trans (Nat.le_of_ble_eq_true rfl) hR.2⟩ (wd_recv (r := H_o k) (ci := 2) (q := (RX2, TX2, 23)) X.hK.1 hP (ex_H_o hE hk) rfl rfl) hP hS ⟨Nat.zero_le _, Nat.zero_le _⟩ rfl hl.1 rfl (Nat.le_of_ble_eq_true rfl) dX2_gone_119) hS ?_
  rintro _ H locs rfl hP hS
  refine lv_goto (tgt := 140) hx hb dX2_gone_122 (by decide) ?_
  exact gr_vW X hP hS (Option.some.inj hf) dX2_gone_140
set_option maxHeartbeats 4000000 in
theorem w_X2_gone_14 {p : Program} {l : Launch} {e : Env} {R : Room} {s : State} {m : MethodId} {args : Array Value} {below : List Frame} {meth : Method} {c : Code} {D : va_G} {dA : Nat → ClassId} {A : Nat → Prop} {ad : L3 → Nat} (E : L3 → Bool) (k : Nat) (hE : EOK E) (hk : k < 2) (X : CX RX2 cX2_gone 12 none (KA D dA) p s m args meth c A) (hR : 5 ≤ R.frames ∧ 142 ≤ R.locals) {res : Mem} (S : Mem) (x1 : Int32) (x2 : Int64) (x4 : Int64) (x6 : Int32) (x7 : Int64) (x9 : Int32) (y0 : Int32) {H : Heap} {locs : List Loc} {ls : Array Slot} (hP : Wd D clA (shC dA E) (exC E) A ad S H) (hS : va_S A s.heap H locs) (hl : lv_has ls 12 [(0, .ref (ad (H_o k))), (1, .int x1), (2, .long x2), (4, .long x4), (6, .int x6), (7, .long x7), (9, .int x9)]) (hf : f_X2_gone_14 E k S x1 x2 x4 x6 x7 x9 y0 = some res) : W p l e R s m args below meth c H locs 0 0 (MQ below (QvW D (shC dA E) (exC E) A ad res) args s 0 0 A) (F0 m 14 ls [.int y0]) := by
  have hx := X.hx
  have hb := X.hb
  unfold f_X2_gone_14 at hf
  refine lv_istore (lv' := [(10, .int y0), (0, .ref (ad (H_o k))), (1, .int x1), (2, .long x2), (4, .long x4), (6, .int x6), (7, .long x7), (9, .int x9)]) hx hb dX2_gone_14 hl (by decide) rfl (fun ls hl => ?_)
  refine lv_iload_n hx hb dX2_gone_16 rfl (lv_at hl 2 rfl) ?_
  refine lv_bipush (v := 8) hx hb dX2_gone_17 (by decide) ?_
  refine gb_icmp_ne (tgt := 71) hx hb dX2_gone_19 (by decide) hf (fun hf => ?_) (fun hf => ?_)
  · refine lv_iload_n hx hb dX2_gone_71 rfl (lv_at hl 2 rfl) ?_
    refine lv_iconst (v := 4) hx hb dX2_gone_72 (by decide) ?_
    refine gb_icmp_ne (tgt := 125) hx hb dX2_gone_73 (by decide) hf (fun hf => ?_) (fun hf => ?_)
    · refine lv_iload hx hb dX2_gone_125 (lv_at hl 7 rfl) ?_
      refine gb_if_ne (tgt := 140) hx hb dX2_gone_127 (by decide) hf (fun hf => ?_) (fun hf => ?_)
      · exact gr_vW X hP hS (Option.some.inj hf) dX2_gone_140
      · refine lv_aload_n hx hb dX2_gone_130 rfl (lv_at hl 1 rfl) ?_
        refine lv_iload_n hx hb dX2_gone_131 rfl (lv_at hl 2 rfl) ?_
        refine lv_iload hx hb dX2_gone_132 (lv_at hl 0 rfl) ?_
        refine lv_lload_n hx hb dX2_gone_134 rfl (lv_at hl 3 rfl) ?_
        refine lv_lload hx hb dX2_gone_135 (lv_at hl 4 rfl) ?_
        obtain ⟨S1, hq, hf⟩ := gB_some hf
        refine gc_v (gc_fixV (S := S) X (mt_X2_isLost l D dA A ad E k hE hk S x1 y0 x2 x4 hq) (lw_V q991 q993 qs34 q87 q994) ⟨rfl, rfl⟩ hd_X2_isLost ⟨Nat.le_trans (Nat.le_of_ble_eq_true rfl) hR.1, Nat.le_trans (Nat.le_of_ble_eq_true rfl) hR.2⟩ (wd_recv (r := H_o k) (ci := 2) (q := (RX2, TX2, 23)) X.hK.1 hP (ex_H_o hE hk) rfl rfl) hP hS ⟨Nat.zero_le _, Nat.zero_le _⟩ rfl hl.1 rfl (Nat.le_of_ble_eq_true rfl) dX2_gone_137) hS ?_
        rintro _ H locs rfl hP hS
        exact gr_vW X hP hS (Option.some.inj hf) dX2_gone_140
    · refine lv_aload_n hx hb dX2_gone_76 rfl (lv_at hl 1 rfl) ?_
      refine lv_iload hx hb dX2_gone_77 (lv_at hl 0 rfl) ?_
      obtain ⟨v2, hq, hf⟩ := gB_some hf
      refine gc_i (gc_fixV (S := S) X (mt_X2_isOver l D dA A ad E k hE hk S y0 hq) (lw_V q769 q771 qs12 q87 q772) ⟨rfl, rfl⟩ hd_X2_isOver ⟨Nat.le_trans (Nat.le_of_ble_eq_true rfl) hR.1, Nat.le_trans (Nat.le_of_ble_eq_true rfl) hR.2⟩ (wd_recv (r := H_o k) (ci := 2) (q := (RX2, TX2, 23)) X.hK.1 hP (ex_H_o hE hk) rfl rfl) hP hS ⟨Nat.zero_le _, Nat.zero_le _⟩ rfl hl.1 rfl (Nat.le_of_ble_eq_true rfl) dX2_gone_79) hS ?_
      rintro _ _ H locs ⟨rfl, rfl⟩ hP hS
      refine lv_istore (lv' := [(11, .int v2), (10, .int y0), (0, .ref (ad (H_o k))), (1, .int x1), (2, .long x2), (4, .long x4), (6, .int x6), (7, .long x7), (9, .int x9)]) hx hb dX2_gone_82 hl (by decide) rfl (fun ls hl => ?_)
      refine lv_iload hx hb dX2_gone_84 (lv_at hl 8 rfl) ?_
      refine gb_if_eq (tgt := 103) hx hb dX2_gone_86 (by decide) hf (fun hf => ?_) (fun hf => ?_)
      · refine lv_aload_n hx hb dX2_gone_103 rfl (lv_at hl 2 rfl) ?_
        refine rg_X2_11 X hP (ex_H_o hE hk) dX2_gone_104 ?_
        refine lv_iload hx hb dX2_gone_107 (lv_at hl 1 rfl) ?_
        refine ra_H_sendings_ld X hP (ex_H_sendings hE hk) dX2_gone_109 hf (fun he3 hf => ?_) (fun hf => ?_)
        · refine lv_iconst (v := 1) hx hb dX2_gone_110 (by decide) ?_
          refine rp_X2_296 X hP hS he3 (by decide) dX2_gone_111 hf (fun S4 H locs hP hS hf => ?_)
          exact w_X2_gone_114 E k hE hk X hR S4 y0 v2 hP hS (lv_sub hl [2, 1, 0] rfl) hf
        · refine lv_iconst (v := 1) hx hb dX2_gone_110 (by decide) ?_
          cases hf
      · refine lv_aload_n hx hb dX2_gone_89 rfl (lv_at hl 2 rfl) ?_
        refine rg_X2_11 X hP (ex_H_o hE hk) dX2_gone_90 ?_
        refine lv_iload hx hb dX2_gone_93 (lv_at hl 1 rfl) ?_
        refine ra_H_sendings_ld X hP (ex_H_sendings hE hk) dX2_gone_95 hf (fun he5 hf => ?_) (fun hf => ?_)
        · refine lv_iconst (v := 4) hx hb dX2_gone_96 (by decide) ?_
          refine rp_X2_150 X hP hS he5 dX2_gone_97 hf (fun S6 H locs hP hS hf => ?_)
          refine lv_goto (tgt := 114) hx hb dX2_gone_100 (by decide) ?_
          exact w_X2_gone_114 E k hE hk X hR S6 y0 v2 hP hS (lv_sub hl [2, 1, 0] rfl) hf
        · refine lv_iconst (v := 4) hx hb dX2_gone_96 (by decide) ?_
          cases hf
  · refine lv_aload_n hx hb dX2_gone_22 rfl (lv_at hl 1 rfl) ?_
    refine lv_iload hx hb dX2_gone_23 (lv_at hl 0 rfl) ?_
    obtain ⟨v7, hq, hf⟩ := gB_some hf
    refine gc_i (gc_fixV (S := S) X (mt_X2_isOver l D dA A ad E k hE hk S y0 hq) (lw_V q769 q771 qs12 q87 q772) ⟨rfl, rfl⟩ hd_X2_isOver ⟨Nat.le_trans (Nat.le_of_ble_eq_true rfl) hR.1, Nat.le_trans (Nat.le_of_ble_eq_true rfl) hR.2⟩ (wd_recv (r := H_o k) (ci := 2) (q := (RX2, TX2, 23)) X.hK.1 hP (ex_H_o hE hk) rfl rfl) hP hS ⟨Nat.zero_le _, Nat.zero_le _⟩ rfl hl.1 rfl (Nat.le_of_ble_eq_true rfl) dX2_gone_25) hS ?_
    rintro _ _ H locs ⟨rfl, rfl⟩ hP hS
    refine lv_istore (lv' := [(11, .int v7), (10, .int y0), (0, .ref (ad (H_o k))), (1, .int x1), (2, .long x2), (4, .long x4), (6, .int x6), (7, .long x7), (9, .int x9)]) hx hb dX2_gone_28 hl (by decide) rfl (fun ls hl => ?_)
    refine lv_aload_n hx hb dX2_gone_30 rfl (lv_at hl 2 rfl) ?_
    refine lv_aload_n hx hb dX2_gone_31 rfl (lv_at hl 2 rfl) ?_
    refine rg_X2_11 X hP (ex_H_o hE hk) dX2_gone_32 ?_
    refine lv_iload hx hb dX2_gone_35 (lv_at hl 1 rfl) ?_
    refine ra_H_sendings_ld X hP (ex_H_sendings hE hk) dX2_gone_37 hf (fun he8 hf => ?_) (fun hf => ?_)
    · refine lv_lload hx hb dX2_gone_38 (lv_at hl 5 rfl) ?_
      refine lv_l2i hx hb dX2_gone_40 rfl ?_
      refine lv_iload hx hb dX2_gone_41 (lv_at hl 6 rfl) ?_
      refine lv_lload hx hb dX2_gone_43 (lv_at hl 7 rfl) ?_
      refine lv_lconst (v := 1) hx hb dX2_gone_45 (by decide) ?_
      refine gb_lcmp_ne (tgt := 54) hx hb dX2_gone_46 dX2_gone_47 (by decide) hf (fun hf => ?_) (fun hf => ?_)
      · refine lv_iconst (v := 0) hx hb dX2_gone_54 (by decide) ?_
        exact w_X2_gone_55 E k hE hk X hR S x9 y0 v7 0 x6 (Int64.toInt32 x4) (some (Int32.toNatClampNeg y0)) (fun _ h => by cases h; exact he8) hP hS (lv_sub hl [2, 8, 1, 0] rfl) hf
      · refine lv_iconst (v := 1) hx hb dX2_gone_50 (by decide) ?_
        refine lv_goto (tgt := 55) hx hb dX2_gone_51 (by decide) ?_
        exact w_X2_gone_55 E k hE hk X hR S x9 y0 v7 1 x6 (Int64.toInt32 x4) (some (Int32.toNatClampNeg y0)) (fun _ h => by cases h; exact he8) hP hS (lv_sub hl [2, 8, 1, 0] rfl) hf
    · refine lv_lload hx hb dX2_gone_38 (lv_at hl 5 rfl) ?_
      refine lv_l2i hx hb dX2_gone_40 rfl ?_
      refine lv_iload hx hb dX2_gone_41 (lv_at hl 6 rfl) ?_
      refine lv_lload hx hb dX2_gone_43 (lv_at hl 7 rfl) ?_
      refine lv_lconst (v := 1) hx hb dX2_gone_45 (by decide) ?_
      refine gb_lcmp_ne (tgt := 54) hx hb dX2_gone_46 dX2_gone_47 (by decide) hf (fun hf => ?_) (fun hf => ?_)
      · refine lv_iconst (v := 0) hx hb dX2_gone_54 (by decide) ?_
        exact w_X2_gone_55 E k hE hk X hR S x9 y0 v7 0 x6 (Int64.toInt32 x4) none (fun _ h => by cases h) hP hS (lv_sub hl [2, 8, 1, 0] rfl) hf
      · refine lv_iconst (v := 1) hx hb dX2_gone_50 (by decide) ?_
        refine lv_goto (tgt := 55) hx hb dX2_gone_51 (by decide) ?_
        exact w_X2_gone_55 E k hE hk X hR S x9 y0 v7 1 x6 (Int64.toInt32 x4) none (fun _ h => by cases h) hP hS (lv_sub hl [2, 8, 1, 0] rfl) hf
set_option maxHeartbeats 4000000 in
theorem w_X2_gone {p : Program} {l : Launch} {e : Env} {R : Room} {s : State} {m : MethodId} {args : Array Value} {below : List Frame} {meth : Method} {c : Code} {D : va_G} {dA : Nat → ClassId} {A : Nat → Prop} {ad : L3 → Nat} (E : L3 → Bool) (k : Nat) (hE : EOK E) (hk : k < 2) (X : CX RX2 cX2_gone 12 none (KA D dA) p s m args meth c A) (hR : 5 ≤ R.frames ∧ 142 ≤ R.locals) {res : Mem} (S : Mem) (x1 : Int32) (x2 : Int64) (x4 : Int64) (x6 : Int32) (x7 : Int64) (x9 : Int32) {H : Heap} {locs : List Loc} {ls : Array Slot} (hP : Wd D clA (shC dA E) (exC E) A ad S H) (hS : va_S A s.heap H locs) (hl : lv_has ls 12 [(0, .ref (ad (H_o k))), (1, .int x1), (2, .long x2), (4, .long x4), (6, .int x6), (7, .long x7), (9, .int x9)]) (hf : f_X2_gone E k S x1 x2 x4 x6 x7 x9 = some res) : W p l e R s m args below meth c H locs 0 0 (MQ below (QvW D (shC dA E) (exC E) A ad res) args s 0 0 A) (F0 m 0 ls []) := by
  have hx := X.hx
  have hb := X.hb
  unfold f_X2_gone at hf
  refine lv_lload_n hx hb dX2_gone_0 rfl (lv_at hl 2 rfl) ?_
  refine lv_ldc2 hx hb X.hown (X.hts _ q976) dX2_gone_1 ?_
  refine gb_lcmp_ge (tgt := 13) hx hb dX2_gone_4 dX2_gone_5 (by decide) hf (fun hf => ?_) (fun hf => ?_)
  · refine lv_iconst (v := 0) hx hb dX2_gone_13 (by decide) ?_
    exact w_X2_gone_14 E k hE hk X hR S x1 x2 x4 x6 x7 x9 0 hP hS (lv_sub hl [0, 1, 2, 3, 4, 5, 6] rfl) hf
  · refine lv_lload_n hx hb dX2_gone_8 rfl (lv_at hl 2 rfl) ?_
    refine lv_l2i hx hb dX2_gone_9 rfl ?_
    refine lv_goto (tgt := 14) hx hb dX2_gone_10 (by decide) ?_
    exact w_X2_gone_14 E k hE hk X hR S x1 x2 x4 x6 x7 x9 (Int64.toInt32 x2) hP hS (lv_sub hl [0, 1, 2, 3, 4, 5, 6] rfl) hf
theorem hd_X2_gone : yX2_gone.cls = RX2 ∧ yX2_gone.cls ≠ "java/lang/invoke/MethodHandle" ∧ yX2_gone.cls ≠ "java/lang/invoke/VarHandle" ∧ (parseMethodDescriptor yX2_gone.desc).map (fun d => d.parameters.length) = some 6 := by decide +kernel
set_option maxHeartbeats 4000000 in
theorem mt_X2_gone (l : Launch) (D : va_G) (dA : Nat → ClassId) (A : Nat → Prop) (ad : L3 → Nat) (E : L3 → Bool) (k : Nat) (hE : EOK E) (hk : k < 2) (S : Mem) (x1 : Int32) (x2 : Int64) (x4 : Int64) (x6 : Int32) (x7 : Int64) (x9 : Int32) {res : Mem} (hq : f_X2_gone E k S x1 x2 x4 x6 x7 x9 = some res) : Met l yX2_gone (ws_ yX2_gone cX2_gone 12 none) ({ frames := 5, cells := 0, slots := 0, locals := 142 } : Room) (va_Pc [.ref (ad (H_o k)), .int x1, .long x2, .long x4, .int x6, .long x7, .int x9] (PreW D dA (shC dA E) (exC E) A ad S)) (QvW D (shC dA E) (exC E) A ad res) 0 0 A :=
  gx_head (by decide) (Nat.le_of_ble_eq_true rfl) (fun p e s m below meth c ls X hP hl => w_X2_gone (l := l) E k hE hk X ⟨Nat.le_of_ble_eq_true rfl, Nat.le_of_ble_eq_true rfl⟩ S x1 x2 x4 x6 x7 x9 hP va_S.rf (lv_sub (l := [(0, .ref (ad (H_o k))), (1, .int x1), (2, .long x2), (4, .long x4), (6, .int x6), (7, .long x7), (9, .int x9)]) hl [0, 1, 2, 3, 4, 5, 6] rfl) hq)
set_option maxHeartbeats 4000000 in
theorem w_X2_look_31 {p : Program} {l : Launch} {e : Env} {R : Room} {s : State} {m : MethodId} {args : Array Value} {below : List Frame} {meth : Method} {c : Code} {D : va_G} {dA : Nat → ClassId} {A : Nat → Prop} {ad : L3 → Nat} (E : L3 → Bool) (k : Nat) (hE : EOK E) (hk : k < 2) (X : CX RX2 cX2_look 5 (some .long) (KA D dA) p s m args meth c A) (hR : 2 ≤ R.frames ∧ 63 ≤ R.locals) {res : Int64} (S : Mem) {H : Heap} {locs : List Loc} {ls : Array Slot} (hP : Wd D clA (shC dA E) (exC E) A ad S H) (hS : va_S A s.heap H locs) (hl : lv_has ls 5 []) (hf : f_X2_look_31 E k S = some res) : W p l e R s m args below meth c H locs 0 0 (MQ below (QjR D (shC dA E) (exC E) A ad S res) args s 0 0 A) (F0 m 31 ls []) := by
  have hx := X.hx
  have hb := X.hb
  unfold f_X2_look_31 at hf
  refine lv_ldc2 hx hb X.hown (X.hts _ q236) dX2_look_31 ?_
  exact gr_lR X hP hS (Option.some.inj hf) dX2_look_34
set_option maxHeartbeats 4000000 in
theorem w_X2_look_35 {p : Program} {l : Launch} {e : Env} {R : Room} {s : State} {m : MethodId} {args : Array Value} {below : List Frame} {meth : Method} {c : Code} {D : va_G} {dA : Nat → ClassId} {A : Nat → Prop} {ad : L3 → Nat} (E : L3 → Bool) (k : Nat) (hE : EOK E) (hk : k < 2) (X : CX RX2 cX2_look 5 (some .long) (KA D dA) p s m args meth c A) (hR : 2 ≤ R.frames ∧ 63 ≤ R.locals) {res : Int64} (S : Mem) (x2 : Int32) (x3 : Option Nat) (x4 : Option Nat) (hx3 : ∀ j, x3 = some j → E (S_o k j) = true) (hx4 : ∀ j, x4 = some j → E (R_o k j) = true) {H : Heap} {locs : List Loc} {ls : Array Slot} (hP : Wd D clA (shC dA E) (exC E) A ad S H) (hS : va_S A s.heap H locs) (hl : lv_has ls 5 [(0, .ref (ad (H_o k))), (2, .int x2), (3, va_rf (Option.map (fun j => ad (S_o k j)) x3)), (4, va_rf (Option.map (fun j => ad (R_o k j)) x4))]) (hf : f_X2_look_35 E k S x2 x3 x4 = some res) : W p l e R s m args below meth c H locs 0 0 (MQ below (QjR D (shC dA E) (exC E) A ad S res) args s 0 0 A) (F0 m 35 ls []) := by
  have hx := X.hx
  have hb := X.hb
  unfold f_X2_look_35 at hf
  rcases x3 with _ | j3
  · replace hf := gM_none hf
    have hl : lv_has ls 5 [(0, .ref (ad (H_o k))), (2, .int x2), (3, .null), (4, va_rf (Option.map (fun j => ad (R_o k j)) x4))] := hl
    rcases x4 with _ | j4
    · replace hf := gM_none hf
      have hl : lv_has ls 5 [(0, .ref (ad (H_o k))), (2, .int x2), (3, .null), (4, .null)] := hl
      refine lv_iload_n hx hb dX2_look_35 rfl (lv_at hl 1 rfl) ?_
      by_cases h36_0 : x2 = (0 : Int32)
      · rw [if_pos h36_0] at hf
        refine lv_tableIn (tgt := 108) hx hb dX2_look_36 (by rw [h36_0]; decide) (by rw [h36_0]; decide) (by rw [h36_0]; rfl) (by decide) ?_
        refine lv_aload_nN hx hb dX2_look_108 rfl (lv_at hl 2 rfl) ?_
        cases hf
      rw [if_neg h36_0] at hf
      by_cases h36_1 : x2 = (1 : Int32)
      · rw [if_pos h36_1] at hf
        refine lv_tableIn (tgt := 114) hx hb dX2_look_36 (by rw [h36_1]; decide) (by rw [h36_1]; decide) (by rw [h36_1]; rfl) (by decide) ?_
        refine lv_aload_nN hx hb dX2_look_114 rfl (lv_at hl 2 rfl) ?_
        cases hf
      rw [if_neg h36_1] at hf
      by_cases h36_2 : x2 = (2 : Int32)
      · rw [if_pos h36_2] at hf
        refine lv_tableIn (tgt := 120) hx hb dX2_look_36 (by rw [h36_2]; decide) (by rw [h36_2]; decide) (by rw [h36_2]; rfl) (by decide) ?_
        refine lv_aload_nN hx hb dX2_look_120 rfl (lv_at hl 2 rfl) ?_
        cases hf
      rw [if_neg h36_2] at hf
      by_cases h36_3 : x2 = (3 : Int32)
      · rw [if_pos h36_3] at hf
        refine lv_tableIn (tgt := 126) hx hb dX2_look_36 (by rw [h36_3]; decide) (by rw [h36_3]; decide) (by rw [h36_3]; rfl) (by decide) ?_
        refine lv_aload_nN hx hb dX2_look_126 rfl (lv_at hl 2 rfl) ?_
        cases hf
      rw [if_neg h36_3] at hf
      by_cases h36_4 : x2 = (4 : Int32)
      · rw [if_pos h36_4] at hf
        refine lv_tableIn (tgt := 131) hx hb dX2_look_36 (by rw [h36_4]; decide) (by rw [h36_4]; decide) (by rw [h36_4]; rfl) (by decide) ?_
        refine lv_aload_nN hx hb dX2_look_131 rfl (lv_at hl 2 rfl) ?_
        cases hf
      rw [if_neg h36_4] at hf
      by_cases h36_5 : x2 = (5 : Int32)
      · rw [if_pos h36_5] at hf
        refine lv_tableIn (tgt := 136) hx hb dX2_look_36 (by rw [h36_5]; decide) (by rw [h36_5]; decide) (by rw [h36_5]; rfl) (by decide) ?_
        refine lv_aload_n hx hb dX2_look_136 rfl (lv_at hl 0 rfl) ?_
        refine rg_X2_41 X hP (ex_H_o hE hk) dX2_look_137 ?_
        refine lv_aload_nN hx hb dX2_look_140 rfl (lv_at hl 2 rfl) ?_
        cases hf
      rw [if_neg h36_5] at hf
      by_cases h36_6 : x2 = (6 : Int32)
      · rw [if_pos h36_6] at hf
        refine lv_tableIn (tgt := 149) hx hb dX2_look_36 (by rw [h36_6]; decide) (by rw [h36_6]; decide) (by rw [h36_6]; rfl) (by decide) ?_
        refine lv_aload_n hx hb dX2_look_149 rfl (lv_at hl 0 rfl) ?_
        refine rg_X2_41 X hP (ex_H_o hE hk) dX2_look_150 ?_
        refine lv_aload_nN hx hb dX2_look_153 rfl (lv_at hl 2 rfl) ?_
        cases hf
      rw [if_neg h36_6] at hf
      by_cases h36_7 : x2 = (7 : Int32)
      · rw [if_pos h36_7] at hf
        refine lv_tableIn (tgt := 162) hx hb dX2_look_36 (by rw [h36_7]; decide) (by rw [h36_7]; decide) (by rw [h36_7]; rfl) (by decide) ?_
        refine lv_aload_nN hx hb dX2_look_162 rfl (lv_at hl 2 rfl) ?_
        cases hf
      rw [if_neg h36_7] at hf
      by_cases h36_8 : x2 = (8 : Int32)
      · rw [if_pos h36_8] at hf
        refine lv_tableIn (tgt := 168) hx hb dX2_look_36 (by rw [h36_8]; decide) (by rw [h36_8]; decide) (by rw [h36_8]; rfl) (by decide) ?_
        refine lv_aloadN hx hb dX2_look_168 (lv_at hl 3 rfl) ?_
        cases hf
      rw [if_neg h36_8] at hf
      by_cases h36_9 : x2 = (9 : Int32)
      · rw [if_pos h36_9] at hf
        refine lv_tableIn (tgt := 175) hx hb dX2_look_36 (by rw [h36_9]; decide) (by rw [h36_9]; decide) (by rw [h36_9]; rfl) (by decide) ?_
        refine lv_aloadN hx hb dX2_look_175 (lv_at hl 3 rfl) ?_
        cases hf
      rw [if_neg h36_9] at hf
      by_cases h36_10 : x2 = (10 : Int32)
      · rw [if_pos h36_10] at hf
        refine lv_tableIn (tgt := 182) hx hb dX2_look_36 (by rw [h36_10]; decide) (by rw [h36_10]; decide) (by rw [h36_10]; rfl) (by decide) ?_
        refine lv_aloadN hx hb dX2_look_182 (lv_at hl 3 rfl) ?_
        cases hf
      rw [if_neg h36_10] at hf
      by_cases h36_11 : x2 = (11 : Int32)
      · rw [if_pos h36_11] at hf
        refine lv_tableIn (tgt := 189) hx hb dX2_look_36 (by rw [h36_11]; decide) (by rw [h36_11]; decide) (by rw [h36_11]; rfl) (by decide) ?_
        refine lv_aloadN hx hb dX2_look_189 (lv_at hl 3 rfl) ?_
        cases hf
      rw [if_neg h36_11] at hf
      by_cases h36_12 : x2 = (12 : Int32)
      · rw [if_pos h36_12] at hf
        refine lv_tableIn (tgt := 196) hx hb dX2_look_36 (by rw [h36_12]; decide) (by rw [h36_12]; decide) (by rw [h36_12]; rfl) (by decide) ?_
        refine lv_aloadN hx hb dX2_look_196 (lv_at hl 3 rfl) ?_
        cases hf
      rw [if_neg h36_12] at hf
      by_cases h36_13 : x2 = (13 : Int32)
      · rw [if_pos h36_13] at hf
        refine lv_tableIn (tgt := 203) hx hb dX2_look_36 (by rw [h36_13]; decide) (by rw [h36_13]; decide) (by rw [h36_13]; rfl) (by decide) ?_
        refine lv_aloadN hx hb dX2_look_203 (lv_at hl 3 rfl) ?_
        cases hf
      rw [if_neg h36_13] at hf
      suffices hd36 : W p l e R s m args below meth c H locs 0 0 (MQ below (QjR D (shC dA E) (exC E) A ad S res) args s 0 0 A) (F0 m 210 ls []) by
        have n0 := lv_neT h36_0 (show (0 : Int32).toInt = 0 by decide)
        have n1 := lv_neT h36_1 (show (1 : Int32).toInt = 1 by decide)
        have n2 := lv_neT h36_2 (show (2 : Int32).toInt = 2 by decide)
        have n3 := lv_neT h36_3 (show (3 : Int32).toInt = 3 by decide)
        have n4 := lv_neT h36_4 (show (4 : Int32).toInt = 4 by decide)
        have n5 := lv_neT h36_5 (show (5 : Int32).toInt = 5 by decide)
        have n6 := lv_neT h36_6 (show (6 : Int32).toInt = 6 by decide)
        have n7 := lv_neT h36_7 (show (7 : Int32).toInt = 7 by decide)
        have n8 := lv_neT h36_8 (show (8 : Int32).toInt = 8 by decide)
        have n9 := lv_neT h36_9 (show (9 : Int32).toInt = 9 by decide)
        have n10 := lv_neT h36_10 (show (10 : Int32).toInt = 10 by decide)
        have n11 := lv_neT h36_11 (show (11 : Int32).toInt = 11 by decide)
        have n12 := lv_neT h36_12 (show (12 : Int32).toInt = 12 by decide)
        have n13 := lv_neT h36_13 (show (13 : Int32).toInt = 13 by decide)
        exact lv_tableOut (tgt := 210) hx hb dX2_look_36 (by omega) (by decide) hd36
      refine lv_aloadN hx hb dX2_look_210 (lv_at hl 3 rfl) ?_
      cases hf
    · replace hf := gM_some hf
      have hj4 := hx4 j4 rfl
      have hl : lv_has ls 5 [(0, .ref (ad (H_o k))), (2, .int x2), (3, .null), (4, .ref (ad (R_o k j4)))] := hl
      refine lv_iload_n hx hb dX2_look_35 rfl (lv_at hl 1 rfl) ?_
      by_cases h36_0 : x2 = (0 : Int32)
      · rw [if_pos h36_0] at hf
        refine lv_tableIn (tgt := 108) hx hb dX2_look_36 (by rw [h36_0]; decide) (by rw [h36_0]; decide) (by rw [h36_0]; rfl) (by decide) ?_
        refine lv_aload_nN hx hb dX2_look_108 rfl (lv_at hl 2 rfl) ?_
        cases hf
      rw [if_neg h36_0] at hf
      by_cases h36_1 : x2 = (1 : Int32)
      · rw [if_pos h36_1] at hf
        refine lv_tableIn (tgt := 114) hx hb dX2_look_36 (by rw [h36_1]; decide) (by rw [h36_1]; decide) (by rw [h36_1]; rfl) (by decide) ?_
        refine lv_aload_nN hx hb dX2_look_114 rfl (lv_at hl 2 rfl) ?_
        cases hf
      rw [if_neg h36_1] at hf
      by_cases h36_2 : x2 = (2 : Int32)
      · rw [if_pos h36_2] at hf
        refine lv_tableIn (tgt := 120) hx hb dX2_look_36 (by rw [h36_2]; decide) (by rw [h36_2]; decide) (by rw [h36_2]; rfl) (by decide) ?_
        refine lv_aload_nN hx hb dX2_look_120 rfl (lv_at hl 2 rfl) ?_
        cases hf
      rw [if_neg h36_2] at hf
      by_cases h36_3 : x2 = (3 : Int32)
      · rw [if_pos h36_3] at hf
        refine lv_tableIn (tgt := 126) hx hb dX2_look_36 (by rw [h36_3]; decide) (by rw [h36_3]; decide) (by rw [h36_3]; rfl) (by decide) ?_
        refine lv_aload_nN hx hb dX2_look_126 rfl (lv_at hl 2 rfl) ?_
        cases hf
      rw [if_neg h36_3] at hf
      by_cases h36_4 : x2 = (4 : Int32)
      · rw [if_pos h36_4] at hf
        refine lv_tableIn (tgt := 131) hx hb dX2_look_36 (by rw [h36_4]; decide) (by rw [h36_4]; decide) (by rw [h36_4]; rfl) (by decide) ?_
        refine lv_aload_nN hx hb dX2_look_131 rfl (lv_at hl 2 rfl) ?_
        cases hf
      rw [if_neg h36_4] at hf
      by_cases h36_5 : x2 = (5 : Int32)
      · rw [if_pos h36_5] at hf
        refine lv_tableIn (tgt := 136) hx hb dX2_look_36 (by rw [h36_5]; decide) (by rw [h36_5]; decide) (by rw [h36_5]; rfl) (by decide) ?_
        refine lv_aload_n hx hb dX2_look_136 rfl (lv_at hl 0 rfl) ?_
        refine rg_X2_41 X hP (ex_H_o hE hk) dX2_look_137 ?_
        refine lv_aload_nN hx hb dX2_look_140 rfl (lv_at hl 2 rfl) ?_
        cases hf
      rw [if_neg h36_5] at hf
      by_cases h36_6 : x2 = (6 : Int32)
      · rw [if_pos h36_6] at hf
        refine lv_tableIn (tgt := 149) hx hb dX2_look_36 (by rw [h36_6]; decide) (by rw [h36_6]; decide) (by rw [h36_6]; rfl) (by decide) ?_
        refine lv_aload_n hx hb dX2_look_149 rfl (lv_at hl 0 rfl) ?_
        refine rg_X2_41 X hP (ex_H_o hE hk) dX2_look_150 ?_
        refine lv_aload_nN hx hb dX2_look_153 rfl (lv_at hl 2 rfl) ?_
        cases hf
      rw [if_neg h36_6] at hf
      by_cases h36_7 : x2 = (7 : Int32)
      · rw [if_pos h36_7] at hf
        refine lv_tableIn (tgt := 162) hx hb dX2_look_36 (by rw [h36_7]; decide) (by rw [h36_7]; decide) (by rw [h36_7]; rfl) (by decide) ?_
        refine lv_aload_nN hx hb dX2_look_162 rfl (lv_at hl 2 rfl) ?_
        cases hf
      rw [if_neg h36_7] at hf
      by_cases h36_8 : x2 = (8 : Int32)
      · rw [if_pos h36_8] at hf
        refine lv_tableIn (tgt := 168) hx hb dX2_look_36 (by rw [h36_8]; decide) (by rw [h36_8]; decide) (by rw [h36_8]; rfl) (by decide) ?_
        refine lv_aload hx hb dX2_look_168 (lv_at hl 3 rfl) ?_
        refine rg_X2_180 X hP hj4 dX2_look_170 ?_
        refine lv_i2l hx hb dX2_look_173 rfl ?_
        exact gr_lR X hP hS (Option.some.inj hf) dX2_look_174
      rw [if_neg h36_8] at hf
      by_cases h36_9 : x2 = (9 : Int32)
      · rw [if_pos h36_9] at hf
        refine lv_tableIn (tgt := 175) hx hb dX2_look_36 (by rw [h36_9]; decide) (by rw [h36_9]; decide) (by rw [h36_9]; rfl) (by decide) ?_
        refine lv_aload hx hb dX2_look_175 (lv_at hl 3 rfl) ?_
        refine rg_X2_184 X hP hj4 dX2_look_177 ?_
        refine lv_i2l hx hb dX2_look_180 rfl ?_
        exact gr_lR X hP hS (Option.some.inj hf) dX2_look_181
      rw [if_neg h36_9] at hf
      by_cases h36_10 : x2 = (10 : Int32)
      · rw [if_pos h36_10] at hf
        refine lv_tableIn (tgt := 182) hx hb dX2_look_36 (by rw [h36_10]; decide) (by rw [h36_10]; decide) (by rw [h36_10]; rfl) (by decide) ?_
        refine lv_aload hx hb dX2_look_182 (lv_at hl 3 rfl) ?_
        refine rg_X2_181 X hP hj4 dX2_look_184 ?_
        refine lv_i2l hx hb dX2_look_187 rfl ?_
        exact gr_lR X hP hS (Option.some.inj hf) dX2_look_188
      rw [if_neg h36_10] at hf
      by_cases h36_11 : x2 = (11 : Int32)
      · rw [if_pos h36_11] at hf
        refine lv_tableIn (tgt := 189) hx hb dX2_look_36 (by rw [h36_11]; decide) (by rw [h36_11]; decide) (by rw [h36_11]; rfl) (by decide) ?_
        refine lv_aload hx hb dX2_look_189 (lv_at hl 3 rfl) ?_
        refine rg_X2_220 X hP hj4 dX2_look_191 ?_
        refine lv_i2l hx hb dX2_look_194 rfl ?_
        exact gr_lR X hP hS (Option.some.inj hf) dX2_look_195
      rw [if_neg h36_11] at hf
      by_cases h36_12 : x2 = (12 : Int32)
      · rw [if_pos h36_12] at hf
        refine lv_tableIn (tgt := 196) hx hb dX2_look_36 (by rw [h36_12]; decide) (by rw [h36_12]; decide) (by rw [h36_12]; rfl) (by decide) ?_
        refine lv_aload hx hb dX2_look_196 (lv_at hl 3 rfl) ?_
        refine rg_X2_223 X hP hj4 dX2_look_198 ?_
        refine lv_i2l hx hb dX2_look_201 rfl ?_
        exact gr_lR X hP hS (Option.some.inj hf) dX2_look_202
      rw [if_neg h36_12] at hf
      by_cases h36_13 : x2 = (13 : Int32)
      · rw [if_pos h36_13] at hf
        refine lv_tableIn (tgt := 203) hx hb dX2_look_36 (by rw [h36_13]; decide) (by rw [h36_13]; decide) (by rw [h36_13]; rfl) (by decide) ?_
        refine lv_aload hx hb dX2_look_203 (lv_at hl 3 rfl) ?_
        refine rg_X2_214 X hP hj4 dX2_look_205 ?_
        refine lv_i2l hx hb dX2_look_208 rfl ?_
        exact gr_lR X hP hS (Option.some.inj hf) dX2_look_209
      rw [if_neg h36_13] at hf
      suffices hd36 : W p l e R s m args below meth c H locs 0 0 (MQ below (QjR D (shC dA E) (exC E) A ad S res) args s 0 0 A) (F0 m 210 ls []) by
        have n0 := lv_neT h36_0 (show (0 : Int32).toInt = 0 by decide)
        have n1 := lv_neT h36_1 (show (1 : Int32).toInt = 1 by decide)
        have n2 := lv_neT h36_2 (show (2 : Int32).toInt = 2 by decide)
        have n3 := lv_neT h36_3 (show (3 : Int32).toInt = 3 by decide)
        have n4 := lv_neT h36_4 (show (4 : Int32).toInt = 4 by decide)
        have n5 := lv_neT h36_5 (show (5 : Int32).toInt = 5 by decide)
        have n6 := lv_neT h36_6 (show (6 : Int32).toInt = 6 by decide)
        have n7 := lv_neT h36_7 (show (7 : Int32).toInt = 7 by decide)
        have n8 := lv_neT h36_8 (show (8 : Int32).toInt = 8 by decide)
        have n9 := lv_neT h36_9 (show (9 : Int32).toInt = 9 by decide)
        have n10 := lv_neT h36_10 (show (10 : Int32).toInt = 10 by decide)
        have n11 := lv_neT h36_11 (show (11 : Int32).toInt = 11 by decide)
        have n12 := lv_neT h36_12 (show (12 : Int32).toInt = 12 by decide)
        have n13 := lv_neT h36_13 (show (13 : Int32).toInt = 13 by decide)
        exact lv_tableOut (tgt := 210) hx hb dX2_look_36 (by omega) (by decide) hd36
      refine lv_aload hx hb dX2_look_210 (lv_at hl 3 rfl) ?_
      refine rg_X2_261 X hP hj4 dX2_look_212 ?_
      exact gr_lR X hP hS (Option.some.inj hf) dX2_look_215
  · replace hf := gM_some hf
    have hj3 := hx3 j3 rfl
    have hl : lv_has ls 5 [(0, .ref (ad (H_o k))), (2, .int x2), (3, .ref (ad (S_o k j3))), (4, va_rf (Option.map (fun j => ad (R_o k j)) x4))] := hl
    rcases x4 with _ | j4
    · replace hf := gM_none hf
      have hl : lv_has ls 5 [(0, .ref (ad (H_o k))), (2, .int x2), (3, .ref (ad (S_o k j3))), (4, .null)] := hl
      refine lv_iload_n hx hb dX2_look_35 rfl (lv_at hl 1 rfl) ?_
      by_cases h36_0 : x2 = (0 : Int32)
      · rw [if_pos h36_0] at hf
        refine lv_tableIn (tgt := 108) hx hb dX2_look_36 (by rw [h36_0]; decide) (by rw [h36_0]; decide) (by rw [h36_0]; rfl) (by decide) ?_
        refine lv_aload_n hx hb dX2_look_108 rfl (lv_at hl 2 rfl) ?_
        refine rg_X2_150 X hP hj3 dX2_look_109 ?_
        refine lv_i2l hx hb dX2_look_112 rfl ?_
        exact gr_lR X hP hS (Option.some.inj hf) dX2_look_113
      rw [if_neg h36_0] at hf
      by_cases h36_1 : x2 = (1 : Int32)
      · rw [if_pos h36_1] at hf
        refine lv_tableIn (tgt := 114) hx hb dX2_look_36 (by rw [h36_1]; decide) (by rw [h36_1]; decide) (by rw [h36_1]; rfl) (by decide) ?_
        refine lv_aload_n hx hb dX2_look_114 rfl (lv_at hl 2 rfl) ?_
        refine rg_X2_307 X hP hj3 dX2_look_115 ?_
        refine lv_i2l hx hb dX2_look_118 rfl ?_
        exact gr_lR X hP hS (Option.some.inj hf) dX2_look_119
      rw [if_neg h36_1] at hf
      by_cases h36_2 : x2 = (2 : Int32)
      · rw [if_pos h36_2] at hf
        refine lv_tableIn (tgt := 120) hx hb dX2_look_36 (by rw [h36_2]; decide) (by rw [h36_2]; decide) (by rw [h36_2]; rfl) (by decide) ?_
        refine lv_aload_n hx hb dX2_look_120 rfl (lv_at hl 2 rfl) ?_
        refine rg_X2_300 X hP hj3 dX2_look_121 ?_
        refine lv_i2l hx hb dX2_look_124 rfl ?_
        exact gr_lR X hP hS (Option.some.inj hf) dX2_look_125
      rw [if_neg h36_2] at hf
      by_cases h36_3 : x2 = (3 : Int32)
      · rw [if_pos h36_3] at hf
        refine lv_tableIn (tgt := 126) hx hb dX2_look_36 (by rw [h36_3]; decide) (by rw [h36_3]; decide) (by rw [h36_3]; rfl) (by decide) ?_
        refine lv_aload_n hx hb dX2_look_126 rfl (lv_at hl 2 rfl) ?_
        refine rg_X2_244 X hP hj3 dX2_look_127 ?_
        exact gr_lR X hP hS (Option.some.inj hf) dX2_look_130
      rw [if_neg h36_3] at hf
      by_cases h36_4 : x2 = (4 : Int32)
      · rw [if_pos h36_4] at hf
        refine lv_tableIn (tgt := 131) hx hb dX2_look_36 (by rw [h36_4]; decide) (by rw [h36_4]; decide) (by rw [h36_4]; rfl) (by decide) ?_
        refine lv_aload_n hx hb dX2_look_131 rfl (lv_at hl 2 rfl) ?_
        refine rg_X2_299 X hP hj3 dX2_look_132 ?_
        exact gr_lR X hP hS (Option.some.inj hf) dX2_look_135
      rw [if_neg h36_4] at hf
      by_cases h36_5 : x2 = (5 : Int32)
      · rw [if_pos h36_5] at hf
        refine lv_tableIn (tgt := 136) hx hb dX2_look_36 (by rw [h36_5]; decide) (by rw [h36_5]; decide) (by rw [h36_5]; rfl) (by decide) ?_
        refine lv_aload_n hx hb dX2_look_136 rfl (lv_at hl 0 rfl) ?_
        refine rg_X2_41 X hP (ex_H_o hE hk) dX2_look_137 ?_
        refine lv_aload_n hx hb dX2_look_140 rfl (lv_at hl 2 rfl) ?_
        refine rg_X2_325 X hP hj3 dX2_look_141 ?_
        obtain ⟨v1, hq, hf⟩ := gB_some hf
        refine gc_i (gc_fixV (S := S) X (mt_X4_count l D dA A ad E k hE hk S (S.1 (S_o k j3) 6) hq) (lw_V q987 q988 q989 q89 q990) ⟨rfl, rfl⟩ hd_X4_count ⟨Nat.le_trans (Nat.le_of_ble_eq_true rfl) hR.1, Nat.le_trans (Nat.le_of_ble_eq_true rfl) hR.2⟩ (wd_recv (r := P_o k) (ci := 4) (q := (RX4, TX4, 5)) X.hK.1 hP (ex_P_o hE hk) rfl rfl) hP hS ⟨Nat.zero_le _, Nat.zero_le _⟩ rfl hl.1 rfl (Nat.le_of_ble_eq_true rfl) dX2_look_144) hS ?_
        rintro _ _ H locs ⟨rfl, rfl⟩ hP hS
        refine lv_i2l hx hb dX2_look_147 rfl ?_
        exact gr_lR X hP hS (Option.some.inj hf) dX2_look_148
      rw [if_neg h36_5] at hf
      by_cases h36_6 : x2 = (6 : Int32)
      · rw [if_pos h36_6] at hf
        refine lv_tableIn (tgt := 149) hx hb dX2_look_36 (by rw [h36_6]; decide) (by rw [h36_6]; decide) (by rw [h36_6]; rfl) (by decide) ?_
        refine lv_aload_n hx hb dX2_look_149 rfl (lv_at hl 0 rfl) ?_
        refine rg_X2_41 X hP (ex_H_o hE hk) dX2_look_150 ?_
        refine lv_aload_n hx hb dX2_look_153 rfl (lv_at hl 2 rfl) ?_
        refine rg_X2_352 X hP hj3 dX2_look_154 ?_
        obtain ⟨v2, hq, hf⟩ := gB_some hf
        refine gc_i (gc_fixV (S := S) X (mt_X4_count l D dA A ad E k hE hk S (S.1 (S_o k j3) 7) hq) (lw_V q987 q988 q989 q89 q990) ⟨rfl, rfl⟩ hd_X4_count ⟨Nat.le_trans (Nat.le_of_ble_eq_true rfl) hR.1, Nat.le_trans (Nat.le_of_ble_eq_true rfl) hR.2⟩ (wd_recv (r := P_o k) (ci := 4) (q := (RX4, TX4, 5)) X.hK.1 hP (ex_P_o hE hk) rfl rfl) hP hS ⟨Nat.zero_le _, Nat.zero_le _⟩ rfl hl.1 rfl (Nat.le_of_ble_eq_true rfl) dX2_look_157) hS ?_
        rintro _ _ H locs ⟨rfl, rfl⟩ hP hS
        refine lv_i2l hx hb dX2_look_160 rfl ?_
        exact gr_lR X hP hS (Option.some.inj hf) dX2_look_161
      rw [if_neg h36_6] at hf
      by_cases h36_7 : x2 = (7 : Int32)
      · rw [if_pos h36_7] at hf
        refine lv_tableIn (tgt := 162) hx hb dX2_look_36 (by rw [h36_7]; decide) (by rw [h36_7]; decide) (by rw [h36_7]; rfl) (by decide) ?_
        refine lv_aload_n hx hb dX2_look_162 rfl (lv_at hl 2 rfl) ?_
        refine rg_X2_157 X hP hj3 dX2_look_163 ?_
        refine lv_i2l hx hb dX2_look_166 rfl ?_
        exact gr_lR X hP hS (Option.some.inj hf) dX2_look_167
      rw [if_neg h36_7] at hf
      by_cases h36_8 : x2 = (8 : Int32)
      · rw [if_pos h36_8] at hf
        refine lv_tableIn (tgt := 168) hx hb dX2_look_36 (by rw [h36_8]; decide) (by rw [h36_8]; decide) (by rw [h36_8]; rfl) (by decide) ?_
        refine lv_aloadN hx hb dX2_look_168 (lv_at hl 3 rfl) ?_
        cases hf
      rw [if_neg h36_8] at hf
      by_cases h36_9 : x2 = (9 : Int32)
      · rw [if_pos h36_9] at hf
        refine lv_tableIn (tgt := 175) hx hb dX2_look_36 (by rw [h36_9]; decide) (by rw [h36_9]; decide) (by rw [h36_9]; rfl) (by decide) ?_
        refine lv_aloadN hx hb dX2_look_175 (lv_at hl 3 rfl) ?_
        cases hf
      rw [if_neg h36_9] at hf
      by_cases h36_10 : x2 = (10 : Int32)
      · rw [if_pos h36_10] at hf
        refine lv_tableIn (tgt := 182) hx hb dX2_look_36 (by rw [h36_10]; decide) (by rw [h36_10]; decide) (by rw [h36_10]; rfl) (by decide) ?_
        refine lv_aloadN hx hb dX2_look_182 (lv_at hl 3 rfl) ?_
        cases hf
      rw [if_neg h36_10] at hf
      by_cases h36_11 : x2 = (11 : Int32)
      · rw [if_pos h36_11] at hf
        refine lv_tableIn (tgt := 189) hx hb dX2_look_36 (by rw [h36_11]; decide) (by rw [h36_11]; decide) (by rw [h36_11]; rfl) (by decide) ?_
        refine lv_aloadN hx hb dX2_look_189 (lv_at hl 3 rfl) ?_
        cases hf
      rw [if_neg h36_11] at hf
      by_cases h36_12 : x2 = (12 : Int32)
      · rw [if_pos h36_12] at hf
        refine lv_tableIn (tgt := 196) hx hb dX2_look_36 (by rw [h36_12]; decide) (by rw [h36_12]; decide) (by rw [h36_12]; rfl) (by decide) ?_
        refine lv_aloadN hx hb dX2_look_196 (lv_at hl 3 rfl) ?_
        cases hf
      rw [if_neg h36_12] at hf
      by_cases h36_13 : x2 = (13 : Int32)
      · rw [if_pos h36_13] at hf
        refine lv_tableIn (tgt := 203) hx hb dX2_look_36 (by rw [h36_13]; decide) (by rw [h36_13]; decide) (by rw [h36_13]; rfl) (by decide) ?_
        refine lv_aloadN hx hb dX2_look_203 (lv_at hl 3 rfl) ?_
        cases hf
      rw [if_neg h36_13] at hf
      suffices hd36 : W p l e R s m args below meth c H locs 0 0 (MQ below (QjR D (shC dA E) (exC E) A ad S res) args s 0 0 A) (F0 m 210 ls []) by
        have n0 := lv_neT h36_0 (show (0 : Int32).toInt = 0 by decide)
        have n1 := lv_neT h36_1 (show (1 : Int32).toInt = 1 by decide)
        have n2 := lv_neT h36_2 (show (2 : Int32).toInt = 2 by decide)
        have n3 := lv_neT h36_3 (show (3 : Int32).toInt = 3 by decide)
        have n4 := lv_neT h36_4 (show (4 : Int32).toInt = 4 by decide)
        have n5 := lv_neT h36_5 (show (5 : Int32).toInt = 5 by decide)
        have n6 := lv_neT h36_6 (show (6 : Int32).toInt = 6 by decide)
        have n7 := lv_neT h36_7 (show (7 : Int32).toInt = 7 by decide)
        have n8 := lv_neT h36_8 (show (8 : Int32).toInt = 8 by decide)
        have n9 := lv_neT h36_9 (show (9 : Int32).toInt = 9 by decide)
        have n10 := lv_neT h36_10 (show (10 : Int32).toInt = 10 by decide)
        have n11 := lv_neT h36_11 (show (11 : Int32).toInt = 11 by decide)
        have n12 := lv_neT h36_12 (show (12 : Int32).toInt = 12 by decide)
        have n13 := lv_neT h36_13 (show (13 : Int32).toInt = 13 by decide)
        exact lv_tableOut (tgt := 210) hx hb dX2_look_36 (by omega) (by decide) hd36
      refine lv_aloadN hx hb dX2_look_210 (lv_at hl 3 rfl) ?_
      cases hf
    · replace hf := gM_some hf
      have hj4 := hx4 j4 rfl
      have hl : lv_has ls 5 [(0, .ref (ad (H_o k))), (2, .int x2), (3, .ref (ad (S_o k j3))), (4, .ref (ad (R_o k j4)))] := hl
      refine lv_iload_n hx hb dX2_look_35 rfl (lv_at hl 1 rfl) ?_
      by_cases h36_0 : x2 = (0 : Int32)
      · rw [if_pos h36_0] at hf
        refine lv_tableIn (tgt := 108) hx hb dX2_look_36 (by rw [h36_0]; decide) (by rw [h36_0]; decide) (by rw [h36_0]; rfl) (by decide) ?_
        refine lv_aload_n hx hb dX2_look_108 rfl (lv_at hl 2 rfl) ?_
        refine rg_X2_150 X hP hj3 dX2_look_109 ?_
        refine lv_i2l hx hb dX2_look_112 rfl ?_
        exact gr_lR X hP hS (Option.some.inj hf) dX2_look_113
      rw [if_neg h36_0] at hf
      by_cases h36_1 : x2 = (1 : Int32)
      · rw [if_pos h36_1] at hf
        refine lv_tableIn (tgt := 114) hx hb dX2_look_36 (by rw [h36_1]; decide) (by rw [h36_1]; decide) (by rw [h36_1]; rfl) (by decide) ?_
        refine lv_aload_n hx hb dX2_look_114 rfl (lv_at hl 2 rfl) ?_
        refine rg_X2_307 X hP hj3 dX2_look_115 ?_
        refine lv_i2l hx hb dX2_look_118 rfl ?_
        exact gr_lR X hP hS (Option.some.inj hf) dX2_look_119
      rw [if_neg h36_1] at hf
      by_cases h36_2 : x2 = (2 : Int32)
      · rw [if_pos h36_2] at hf
        refine lv_tableIn (tgt := 120) hx hb dX2_look_36 (by rw [h36_2]; decide) (by rw [h36_2]; decide) (by rw [h36_2]; rfl) (by decide) ?_
        refine lv_aload_n hx hb dX2_look_120 rfl (lv_at hl 2 rfl) ?_
        refine rg_X2_300 X hP hj3 dX2_look_121 ?_
        refine lv_i2l hx hb dX2_look_124 rfl ?_
        exact gr_lR X hP hS (Option.some.inj hf) dX2_look_125
      rw [if_neg h36_2] at hf
      by_cases h36_3 : x2 = (3 : Int32)
      · rw [if_pos h36_3] at hf
        refine lv_tableIn (tgt := 126) hx hb dX2_look_36 (by rw [h36_3]; decide) (by rw [h36_3]; decide) (by rw [h36_3]; rfl) (by decide) ?_
        refine lv_aload_n hx hb dX2_look_126 rfl (lv_at hl 2 rfl) ?_
        refine rg_X2_244 X hP hj3 dX2_look_127 ?_
        exact gr_lR X hP hS (Option.some.inj hf) dX2_look_130
      rw [if_neg h36_3] at hf
      by_cases h36_4 : x2 = (4 : Int32)
      · rw [if_pos h36_4] at hf
        refine lv_tableIn (tgt := 131) hx hb dX2_look_36 (by rw [h36_4]; decide) (by rw [h36_4]; decide) (by rw [h36_4]; rfl) (by decide) ?_
        refine lv_aload_n hx hb dX2_look_131 rfl (lv_at hl 2 rfl) ?_
        refine rg_X2_299 X hP hj3 dX2_look_132 ?_
        exact gr_lR X hP hS (Option.some.inj hf) dX2_look_135
      rw [if_neg h36_4] at hf
      by_cases h36_5 : x2 = (5 : Int32)
      · rw [if_pos h36_5] at hf
        refine lv_tableIn (tgt := 136) hx hb dX2_look_36 (by rw [h36_5]; decide) (by rw [h36_5]; decide) (by rw [h36_5]; rfl) (by decide) ?_
        refine lv_aload_n hx hb dX2_look_136 rfl (lv_at hl 0 rfl) ?_
        refine rg_X2_41 X hP (ex_H_o hE hk) dX2_look_137 ?_
        refine lv_aload_n hx hb dX2_look_140 rfl (lv_at hl 2 rfl) ?_
        refine rg_X2_325 X hP hj3 dX2_look_141 ?_
        obtain ⟨v3, hq, hf⟩ := gB_some hf
        refine gc_i (gc_fixV (S := S) X (mt_X4_count l D dA A ad E k hE hk S (S.1 (S_o k j3) 6) hq) (lw_V q987 q988 q989 q89 q990) ⟨rfl, rfl⟩ hd_X4_count ⟨Nat.le_trans (Nat.le_of_ble_eq_true rfl) hR.1, Nat.le_trans (Nat.le_of_ble_eq_true rfl) hR.2⟩ (wd_recv (r := P_o k) (ci := 4) (q := (RX4, TX4, 5)) X.hK.1 hP (ex_P_o hE hk) rfl rfl) hP hS ⟨Nat.zero_le _, Nat.zero_le _⟩ rfl hl.1 rfl (Nat.le_of_ble_eq_true rfl) dX2_look_144) hS ?_
        rintro _ _ H locs ⟨rfl, rfl⟩ hP hS
        refine lv_i2l hx hb dX2_look_147 rfl ?_
        exact gr_lR X hP hS (Option.some.inj hf) dX2_look_148
      rw [if_neg h36_5] at hf
      by_cases h36_6 : x2 = (6 : Int32)
      · rw [if_pos h36_6] at hf
        refine lv_tableIn (tgt := 149) hx hb dX2_look_36 (by rw [h36_6]; decide) (by rw [h36_6]; decide) (by rw [h36_6]; rfl) (by decide) ?_
        refine lv_aload_n hx hb dX2_look_149 rfl (lv_at hl 0 rfl) ?_
        refine rg_X2_41 X hP (ex_H_o hE hk) dX2_look_150 ?_
        refine lv_aload_n hx hb dX2_look_153 rfl (lv_at hl 2 rfl) ?_
        refine rg_X2_352 X hP hj3 dX2_look_154 ?_
        obtain ⟨v4, hq, hf⟩ := gB_some hf
        refine gc_i (gc_fixV (S := S) X (mt_X4_count l D dA A ad E k hE hk S (S.1 (S_o k j3) 7) hq) (lw_V q987 q988 q989 q89 q990) ⟨rfl, rfl⟩ hd_X4_count ⟨Nat.le_trans (Nat.le_of_ble_eq_true rfl) hR.1, Nat.le_trans (Nat.le_of_ble_eq_true rfl) hR.2⟩ (wd_recv (r := P_o k) (ci := 4) (q := (RX4, TX4, 5)) X.hK.1 hP (ex_P_o hE hk) rfl rfl) hP hS ⟨Nat.zero_le _, Nat.zero_le _⟩ rfl hl.1 rfl (Nat.le_of_ble_eq_true rfl) dX2_look_157) hS ?_
        rintro _ _ H locs ⟨rfl, rfl⟩ hP hS
        refine lv_i2l hx hb dX2_look_160 rfl ?_
        exact gr_lR X hP hS (Option.some.inj hf) dX2_look_161
      rw [if_neg h36_6] at hf
      by_cases h36_7 : x2 = (7 : Int32)
      · rw [if_pos h36_7] at hf
        refine lv_tableIn (tgt := 162) hx hb dX2_look_36 (by rw [h36_7]; decide) (by rw [h36_7]; decide) (by rw [h36_7]; rfl) (by decide) ?_
        refine lv_aload_n hx hb dX2_look_162 rfl (lv_at hl 2 rfl) ?_
        refine rg_X2_157 X hP hj3 dX2_look_163 ?_
        refine lv_i2l hx hb dX2_look_166 rfl ?_
        exact gr_lR X hP hS (Option.some.inj hf) dX2_look_167
      rw [if_neg h36_7] at hf
      by_cases h36_8 : x2 = (8 : Int32)
      · rw [if_pos h36_8] at hf
        refine lv_tableIn (tgt := 168) hx hb dX2_look_36 (by rw [h36_8]; decide) (by rw [h36_8]; decide) (by rw [h36_8]; rfl) (by decide) ?_
        refine lv_aload hx hb dX2_look_168 (lv_at hl 3 rfl) ?_
        refine rg_X2_180 X hP hj4 dX2_look_170 ?_
        refine lv_i2l hx hb dX2_look_173 rfl ?_
        exact gr_lR X hP hS (Option.some.inj hf) dX2_look_174
      rw [if_neg h36_8] at hf
      by_cases h36_9 : x2 = (9 : Int32)
      · rw [if_pos h36_9] at hf
        refine lv_tableIn (tgt := 175) hx hb dX2_look_36 (by rw [h36_9]; decide) (by rw [h36_9]; decide) (by rw [h36_9]; rfl) (by decide) ?_
        refine lv_aload hx hb dX2_look_175 (lv_at hl 3 rfl) ?_
        refine rg_X2_184 X hP hj4 dX2_look_177 ?_
        refine lv_i2l hx hb dX2_look_180 rfl ?_
        exact gr_lR X hP hS (Option.some.inj hf) dX2_look_181
      rw [if_neg h36_9] at hf
      by_cases h36_10 : x2 = (10 : Int32)
      · rw [if_pos h36_10] at hf
        refine lv_tableIn (tgt := 182) hx hb dX2_look_36 (by rw [h36_10]; decide) (by rw [h36_10]; decide) (by rw [h36_10]; rfl) (by decide) ?_
        refine lv_aload hx hb dX2_look_182 (lv_at hl 3 rfl) ?_
        refine rg_X2_181 X hP hj4 dX2_look_184 ?_
        refine lv_i2l hx hb dX2_look_187 rfl ?_
        exact gr_lR X hP hS (Option.some.inj hf) dX2_look_188
      rw [if_neg h36_10] at hf
      by_cases h36_11 : x2 = (11 : Int32)
      · rw [if_pos h36_11] at hf
        refine lv_tableIn (tgt := 189) hx hb dX2_look_36 (by rw [h36_11]; decide) (by rw [h36_11]; decide) (by rw [h36_11]; rfl) (by decide) ?_
        refine lv_aload hx hb dX2_look_189 (lv_at hl 3 rfl) ?_
        refine rg_X2_220 X hP hj4 dX2_look_191 ?_
        refine lv_i2l hx hb dX2_look_194 rfl ?_
        exact gr_lR X hP hS (Option.some.inj hf) dX2_look_195
      rw [if_neg h36_11] at hf
      by_cases h36_12 : x2 = (12 : Int32)
      · rw [if_pos h36_12] at hf
        refine lv_tableIn (tgt := 196) hx hb dX2_look_36 (by rw [h36_12]; decide) (by rw [h36_12]; decide) (by rw [h36_12]; rfl) (by decide) ?_
        refine lv_aload hx hb dX2_look_196 (lv_at hl 3 rfl) ?_
        refine rg_X2_223 X hP hj4 dX2_look_198 ?_
        refine lv_i2l hx hb dX2_look_201 rfl ?_
        exact gr_lR X hP hS (Option.some.inj hf) dX2_look_202
      rw [if_neg h36_12] at hf
      by_cases h36_13 : x2 = (13 : Int32)
      · rw [if_pos h36_13] at hf
        refine lv_tableIn (tgt := 203) hx hb dX2_look_36 (by rw [h36_13]; decide) (by rw [h36_13]; decide) (by rw [h36_13]; rfl) (by decide) ?_
        refine lv_aload hx hb dX2_look_203 (lv_at hl 3 rfl) ?_
        refine rg_X2_214 X hP hj4 dX2_look_205 ?_
        refine lv_i2l hx hb dX2_look_208 rfl ?_
        exact gr_lR X hP hS (Option.some.inj hf) dX2_look_209
      rw [if_neg h36_13] at hf
      suffices hd36 : W p l e R s m args below meth c H locs 0 0 (MQ below (QjR D (shC dA E) (exC E) A ad S res) args s 0 0 A) (F0 m 210 ls []) by
        have n0 := lv_neT h36_0 (show (0 : Int32).toInt = 0 by decide)
        have n1 := lv_neT h36_1 (show (1 : Int32).toInt = 1 by decide)
        have n2 := lv_neT h36_2 (show (2 : Int32).toInt = 2 by decide)
        have n3 := lv_neT h36_3 (show (3 : Int32).toInt = 3 by decide)
        have n4 := lv_neT h36_4 (show (4 : Int32).toInt = 4 by decide)
        have n5 := lv_neT h36_5 (show (5 : Int32).toInt = 5 by decide)
        have n6 := lv_neT h36_6 (show (6 : Int32).toInt = 6 by decide)
        have n7 := lv_neT h36_7 (show (7 : Int32).toInt = 7 by decide)
        have n8 := lv_neT h36_8 (show (8 : Int32).toInt = 8 by decide)
        have n9 := lv_neT h36_9 (show (9 : Int32).toInt = 9 by decide)
        have n10 := lv_neT h36_10 (show (10 : Int32).toInt = 10 by decide)
        have n11 := lv_neT h36_11 (show (11 : Int32).toInt = 11 by decide)
        have n12 := lv_neT h36_12 (show (12 : Int32).toInt = 12 by decide)
        have n13 := lv_neT h36_13 (show (13 : Int32).toInt = 13 by decide)
        exact lv_tableOut (tgt := 210) hx hb dX2_look_36 (by omega) (by decide) hd36
      refine lv_aload hx hb dX2_look_210 (lv_at hl 3 rfl) ?_
      refine rg_X2_261 X hP hj4 dX2_look_212 ?_
      exact gr_lR X hP hS (Option.some.inj hf) dX2_look_215
set_option maxHeartbeats 4000000 in
theorem w_X2_look {p : Program} {l : Launch} {e : Env} {R : Room} {s : State} {m : MethodId} {args : Array Value} {below : List Frame} {meth : Method} {c : Code} {D : va_G} {dA : Nat → ClassId} {A : Nat → Prop} {ad : L3 → Nat} (E : L3 → Bool) (k : Nat) (hE : EOK E) (hk : k < 2) (X : CX RX2 cX2_look 5 (some .long) (KA D dA) p s m args meth c A) (hR : 2 ≤ R.frames ∧ 63 ≤ R.locals) {res : Int64} (S : Mem) (x1 : Int32) (x2 : Int32) {H : Heap} {locs : List Loc} {ls : Array Slot} (hP : Wd D clA (shC dA E) (exC E) A ad S H) (hS : va_S A s.heap H locs) (hl : lv_has ls 5 [(0, .ref (ad (H_o k))), (1, .int x1), (2, .int x2)]) (hf : f_X2_look E k S x1 x2 = some res) : W p l e R s m args below meth c H locs 0 0 (MQ below (QjR D (shC dA E) (exC E) A ad S res) args s 0 0 A) (F0 m 0 ls []) := by
  have hx := X.hx
  have hb := X.hb
  unfold f_X2_look at hf
  refine lv_aload_n hx hb dX2_look_0 rfl (lv_at hl 0 rfl) ?_
  refine lv_iload_n hx hb dX2_look_1 rfl (lv_at hl 1 rfl) ?_
  obtain ⟨v1, hq, hf⟩ := gB_some hf
  refine gc_q (gc_fixV (S := S) X (mt_X2_sending l D dA A ad E k hE hk S x1 hq) (lw_V q659 q661 qs6 q87 q662) ⟨rfl, rfl⟩ hd_X2_sending ⟨Nat.le_trans (Nat.le_of_ble_eq_true rfl) hR.1, Nat.le_trans (Nat.le_of_ble_eq_true rfl) hR.2⟩ (wd_recv (r := H_o k) (ci := 2) (q := (RX2, TX2, 23)) X.hK.1 hP (ex_H_o hE hk) rfl rfl) hP hS ⟨Nat.zero_le _, Nat.zero_le _⟩ rfl hl.1 rfl (Nat.le_of_ble_eq_true rfl) dX2_look_2) hS ?_
  rintro _ _ H locs ⟨rfl, rfl, hv⟩ hP hS
  rcases v1 with _ | j2
  · replace hf := gM_none hf
    refine lv_astore_nN (lv' := [(3, .null), (0, .ref (ad (H_o k))), (1, .int x1), (2, .int x2)]) hx hb dX2_look_5 rfl hl (by decide) rfl (fun ls hl => ?_)
    refine lv_aload_n hx hb dX2_look_6 rfl (lv_at hl 1 rfl) ?_
    refine lv_iload_n hx hb dX2_look_7 rfl (lv_at hl 2 rfl) ?_
    obtain ⟨v4, hq, hf⟩ := gB_some hf
    refine gc_q (gc_fixV (S := S) X (mt_X2_receiving l D dA A ad E k hE hk S x1 hq) (lw_V q731 q733 qs8 q87 q734) ⟨rfl, rfl⟩ hd_X2_receiving ⟨Nat.le_trans (Nat.le_of_ble_eq_true rfl) hR.1, Nat.le_trans (Nat.le_of_ble_eq_true rfl) hR.2⟩ (wd_recv (r := H_o k) (ci := 2) (q := (RX2, TX2, 23)) X.hK.1 hP (ex_H_o hE hk) rfl rfl) hP hS ⟨Nat.zero_le _, Nat.zero_le _⟩ rfl hl.1 rfl (Nat.le_of_ble_eq_true rfl) dX2_look_8) hS ?_
    rintro _ _ H locs ⟨rfl, rfl, hv⟩ hP hS
    rcases v4 with _ | j5
    · replace hf := gM_none hf
      refine lv_astoreN (lv' := [(4, .null), (3, .null), (0, .ref (ad (H_o k))), (1, .int x1), (2, .int x2)]) hx hb dX2_look_11 hl (by decide) rfl (fun ls hl => ?_)
      refine lv_iload_n hx hb dX2_look_13 rfl (lv_at hl 4 rfl) ?_
      refine lv_bipush (v := 8) hx hb dX2_look_14 (by decide) ?_
      refine gb_icmp_ge (tgt := 26) hx hb dX2_look_16 (by decide) hf (fun hf => ?_) (fun hf => ?_)
      · refine lv_aloadN hx hb dX2_look_26 (lv_at hl 0 rfl) ?_
        refine lv_ifnonnullN hx hb dX2_look_28 ?_
        exact w_X2_look_31 E k hE hk X hR S hP hS (lv_sub hl [] rfl) hf
      · refine lv_aload_nN hx hb dX2_look_19 rfl (lv_at hl 1 rfl) ?_
        refine lv_ifnonnullN hx hb dX2_look_20 ?_
        refine lv_goto (tgt := 31) hx hb dX2_look_23 (by decide) ?_
        exact w_X2_look_31 E k hE hk X hR S hP hS (lv_sub hl [] rfl) hf
    · replace hf := gM_some hf
      have he6 := hv j5 rfl
      refine lv_astore (lv' := [(4, .ref (ad (R_o k j5))), (3, .null), (0, .ref (ad (H_o k))), (1, .int x1), (2, .int x2)]) hx hb dX2_look_11 hl (by decide) rfl (fun ls hl => ?_)
      refine lv_iload_n hx hb dX2_look_13 rfl (lv_at hl 4 rfl) ?_
      refine lv_bipush (v := 8) hx hb dX2_look_14 (by decide) ?_
      refine gb_icmp_ge (tgt := 26) hx hb dX2_look_16 (by decide) hf (fun hf => ?_) (fun hf => ?_)
      · refine lv_aload hx hb dX2_look_26 (lv_at hl 0 rfl) ?_
        refine lv_ifnonnull (tgt := 35) hx hb dX2_look_28 (by decide) ?_
        exact w_X2_look_35 E k hE hk X hR S x2 none (some j5) (fun _ h => by cases h) (fun _ h => by cases h; exact he6) hP hS (lv_sub hl [2, 4, 1, 0] rfl) hf
      · refine lv_aload_nN hx hb dX2_look_19 rfl (lv_at hl 1 rfl) ?_
        refine lv_ifnonnullN hx hb dX2_look_20 ?_
        refine lv_goto (tgt := 31) hx hb dX2_look_23 (by decide) ?_
        exact w_X2_look_31 E k hE hk X hR S hP hS (lv_sub hl [] rfl) hf
  · replace hf := gM_some hf
    have he3 := hv j2 rfl
    refine lv_astore_n (lv' := [(3, .ref (ad (S_o k j2))), (0, .ref (ad (H_o k))), (1, .int x1), (2, .int x2)]) hx hb dX2_look_5 rfl hl (by decide) rfl (fun ls hl => ?_)
    refine lv_aload_n hx hb dX2_look_6 rfl (lv_at hl 1 rfl) ?_
    refine lv_iload_n hx hb dX2_look_7 rfl (lv_at hl 2 rfl) ?_
    obtain ⟨v7, hq, hf⟩ := gB_some hf
    refine gc_q (gc_fixV (S := S) X (mt_X2_receiving l D dA A ad E k hE hk S x1 hq) (lw_V q731 q733 qs8 q87 q734) ⟨rfl, rfl⟩ hd_X2_receiving ⟨Nat.le_trans (Nat.le_of_ble_eq_true rfl) hR.1, Nat.le_trans (Nat.le_of_ble_eq_true rfl) hR.2⟩ (wd_recv (r := H_o k) (ci := 2) (q := (RX2, TX2, 23)) X.hK.1 hP (ex_H_o hE hk) rfl rfl) hP hS ⟨Nat.zero_le _, Nat.zero_le _⟩ rfl hl.1 rfl (Nat.le_of_ble_eq_true rfl) dX2_look_8) hS ?_
    rintro _ _ H locs ⟨rfl, rfl, hv⟩ hP hS
    rcases v7 with _ | j8
    · replace hf := gM_none hf
      refine lv_astoreN (lv' := [(4, .null), (3, .ref (ad (S_o k j2))), (0, .ref (ad (H_o k))), (1, .int x1), (2, .int x2)]) hx hb dX2_look_11 hl (by decide) rfl (fun ls hl => ?_)
      refine lv_iload_n hx hb dX2_look_13 rfl (lv_at hl 4 rfl) ?_
      refine lv_bipush (v := 8) hx hb dX2_look_14 (by decide) ?_
      refine gb_icmp_ge (tgt := 26) hx hb dX2_look_16 (by decide) hf (fun hf => ?_) (fun hf => ?_)
      · refine lv_aloadN hx hb dX2_look_26 (lv_at hl 0 rfl) ?_
        refine lv_ifnonnullN hx hb dX2_look_28 ?_
        exact w_X2_look_31 E k hE hk X hR S hP hS (lv_sub hl [] rfl) hf
      · refine lv_aload_n hx hb dX2_look_19 rfl (lv_at hl 1 rfl) ?_
        refine lv_ifnonnull (tgt := 35) hx hb dX2_look_20 (by decide) ?_
        exact w_X2_look_35 E k hE hk X hR S x2 (some j2) none (fun _ h => by cases h; exact he3) (fun _ h => by cases h) hP hS (lv_sub hl [2, 4, 1, 0] rfl) hf
    · replace hf := gM_some hf
      have he9 := hv j8 rfl
      refine lv_astore (lv' := [(4, .ref (ad (R_o k j8))), (3, .ref (ad (S_o k j2))), (0, .ref (ad (H_o k))), (1, .int x1), (2, .int x2)]) hx hb dX2_look_11 hl (by decide) rfl (fun ls hl => ?_)
      refine lv_iload_n hx hb dX2_look_13 rfl (lv_at hl 4 rfl) ?_
      refine lv_bipush (v := 8) hx hb dX2_look_14 (by decide) ?_
      refine gb_icmp_ge (tgt := 26) hx hb dX2_look_16 (by decide) hf (fun hf => ?_) (fun hf => ?_)
      · refine lv_aload hx hb dX2_look_26 (lv_at hl 0 rfl) ?_
        refine lv_ifnonnull (tgt := 35) hx hb dX2_look_28 (by decide) ?_
        exact w_X2_look_35 E k hE hk X hR S x2 (some j2) (some j8) (fun _ h => by cases h; exact he3) (fun _ h => by cases h; exact he9) hP hS (lv_sub hl [2, 4, 1, 0] rfl) hf
      · refine lv_aload_n hx hb dX2_look_19 rfl (lv_at hl 1 rfl) ?_
        refine lv_ifnonnull (tgt := 35) hx hb dX2_look_20 (by decide) ?_
        exact w_X2_look_35 E k hE hk X hR S x2 (some j2) (some j8) (fun _ h => by cases h; exact he3) (fun _ h => by cases h; exact he9) hP hS (lv_sub hl [2, 4, 1, 0] rfl) hf
theorem hd_X2_look : yX2_look.cls = RX2 ∧ yX2_look.cls ≠ "java/lang/invoke/MethodHandle" ∧ yX2_look.cls ≠ "java/lang/invoke/VarHandle" ∧ (parseMethodDescriptor yX2_look.desc).map (fun d => d.parameters.length) = some 2 := by decide +kernel
set_option maxHeartbeats 4000000 in
theorem mt_X2_look (l : Launch) (D : va_G) (dA : Nat → ClassId) (A : Nat → Prop) (ad : L3 → Nat) (E : L3 → Bool) (k : Nat) (hE : EOK E) (hk : k < 2) (S : Mem) (x1 : Int32) (x2 : Int32) {res : Int64} (hq : f_X2_look E k S x1 x2 = some res) : Met l yX2_look (ws_ yX2_look cX2_look 5 (some .long)) ({ frames := 2, cells := 0, slots := 0, locals := 63 } : Room) (va_Pc [.ref (ad (H_o k)), .int x1, .int x2] (PreW D dA (shC dA E) (exC E) A ad S)) (QjR D (shC dA E) (exC E) A ad S res) 0 0 A :=
  gx_head (by decide) (Nat.le_of_ble_eq_true rfl) (fun p e s m below meth c ls X hP hl => w_X2_look (l := l) E k hE hk X ⟨Nat.le_of_ble_eq_true rfl, Nat.le_of_ble_eq_true rfl⟩ S x1 x2 hP va_S.rf (lv_sub (l := [(0, .ref (ad (H_o k))), (1, .int x1), (2, .int x2)]) hl [0, 1, 2] rfl) hq)
set_option maxHeartbeats 4000000 in
theorem w_X2_look_2 {p : Program} {l : Launch} {e : Env} {R : Room} {s : State} {m : MethodId} {args : Array Value} {below : List Frame} {meth : Method} {c : Code} {D : va_G} {dA : Nat → ClassId} {A : Nat → Prop} {ad : L3 → Nat} (E : L3 → Bool) (k : Nat) (hE : EOK E) (hk : k < 2) (X : CX RX2 cX2_look_2 3 (some .long) (KA D dA) p s m args meth c A) (hR : 1 ≤ R.frames ∧ 40 ≤ R.locals) {res : Int64} (S : Mem) (x1 : Int32) {H : Heap} {locs : List Loc} {ls : Array Slot} (hP : Wd D clA (shC dA E) (exC E) A ad S H) (hS : va_S A s.heap H locs) (hl : lv_has ls 3 [(0, .ref (ad (H_o k))), (1, .int x1)]) (hf : f_X2_look_2 k S x1 = some res) : W p l e R s m args below meth c H locs 0 0 (MQ below (QjR D (shC dA E) (exC E) A ad S res) args s 0 0 A) (F0 m 0 ls []) := by
  have hx := X.hx
  have hb := X.hb
  unfold f_X2_look_2 at hf
  refine lv_iload_n hx hb dX2_look_2_0 rfl (lv_at hl 1 rfl) ?_
  by_cases h1_0 : x1 = (0 : Int32)
  · rw [if_pos h1_0] at hf
    refine lv_tableIn (tgt := 72) hx hb dX2_look_2_1 (by rw [h1_0]; decide) (by rw [h1_0]; decide) (by rw [h1_0]; rfl) (by decide) ?_
    refine lv_aload_n hx hb dX2_look_2_72 rfl (lv_at hl 0 rfl) ?_
    refine rg_X2_310 X hP (ex_H_o hE hk) dX2_look_2_73 ?_
    refine lv_i2l hx hb dX2_look_2_76 rfl ?_
    exact gr_lR X hP hS (Option.some.inj hf) dX2_look_2_77
  rw [if_neg h1_0] at hf
  by_cases h1_1 : x1 = (1 : Int32)
  · rw [if_pos h1_1] at hf
    refine lv_tableIn (tgt := 78) hx hb dX2_look_2_1 (by rw [h1_1]; decide) (by rw [h1_1]; decide) (by rw [h1_1]; rfl) (by decide) ?_
    refine lv_aload_n hx hb dX2_look_2_78 rfl (lv_at hl 0 rfl) ?_
    refine rg_X2_82 X hP (ex_H_o hE hk) dX2_look_2_79 ?_
    exact gr_lR X hP hS (Option.some.inj hf) dX2_look_2_82
  rw [if_neg h1_1] at hf
  by_cases h1_2 : x1 = (2 : Int32)
  · rw [if_pos h1_2] at hf
    refine lv_tableIn (tgt := 83) hx hb dX2_look_2_1 (by rw [h1_2]; decide) (by rw [h1_2]; decide) (by rw [h1_2]; rfl) (by decide) ?_
    refine lv_aload_n hx hb dX2_look_2_83 rfl (lv_at hl 0 rfl) ?_
    refine rg_X2_226 X hP (ex_H_o hE hk) dX2_look_2_84 ?_
    refine lv_i2l hx hb dX2_look_2_87 rfl ?_
    exact gr_lR X hP hS (Option.some.inj hf) dX2_look_2_88
  rw [if_neg h1_2] at hf
  by_cases h1_3 : x1 = (3 : Int32)
  · rw [if_pos h1_3] at hf
    refine lv_tableIn (tgt := 89) hx hb dX2_look_2_1 (by rw [h1_3]; decide) (by rw [h1_3]; decide) (by rw [h1_3]; rfl) (by decide) ?_
    refine lv_aload_n hx hb dX2_look_2_89 rfl (lv_at hl 0 rfl) ?_
    refine rg_X2_191 X hP (ex_H_o hE hk) dX2_look_2_90 ?_
    refine lv_i2l hx hb dX2_look_2_93 rfl ?_
    exact gr_lR X hP hS (Option.some.inj hf) dX2_look_2_94
  rw [if_neg h1_3] at hf
  by_cases h1_4 : x1 = (4 : Int32)
  · rw [if_pos h1_4] at hf
    refine lv_tableIn (tgt := 95) hx hb dX2_look_2_1 (by rw [h1_4]; decide) (by rw [h1_4]; decide) (by rw [h1_4]; rfl) (by decide) ?_
    refine lv_aload_n hx hb dX2_look_2_95 rfl (lv_at hl 0 rfl) ?_
    refine rg_X2_76 X hP (ex_H_o hE hk) dX2_look_2_96 ?_
    refine lv_i2l hx hb dX2_look_2_99 rfl ?_
    exact gr_lR X hP hS (Option.some.inj hf) dX2_look_2_100
  rw [if_neg h1_4] at hf
  by_cases h1_13 : x1 = (13 : Int32)
  · rw [if_pos h1_13] at hf
    refine lv_tableIn (tgt := 101) hx hb dX2_look_2_1 (by rw [h1_13]; decide) (by rw [h1_13]; decide) (by rw [h1_13]; rfl) (by decide) ?_
    refine lv_aload_n hx hb dX2_look_2_101 rfl (lv_at hl 0 rfl) ?_
    refine rg_X2_48 X hP (ex_H_o hE hk) dX2_look_2_102 ?_
    refine rg_X2_364 X hP (ex_T_o hE hk) dX2_look_2_105 ?_
    refine lv_i2l hx hb dX2_look_2_108 rfl ?_
    exact gr_lR X hP hS (Option.some.inj hf) dX2_look_2_109
  rw [if_neg h1_13] at hf
  suffices hd1 : W p l e R s m args below meth c H locs 0 0 (MQ below (QjR D (shC dA E) (exC E) A ad S res) args s 0 0 A) (F0 m 110 ls []) by
    by_cases z5 : x1 = (5 : Int32)
    · exact lv_tableIn (tgt := 110) hx hb dX2_look_2_1 (by rw [z5]; decide) (by rw [z5]; decide) (by rw [z5]; rfl) (by decide) hd1
    by_cases z6 : x1 = (6 : Int32)
    · exact lv_tableIn (tgt := 110) hx hb dX2_look_2_1 (by rw [z6]; decide) (by rw [z6]; decide) (by rw [z6]; rfl) (by decide) hd1
    by_cases z7 : x1 = (7 : Int32)
    · exact lv_tableIn (tgt := 110) hx hb dX2_look_2_1 (by rw [z7]; decide) (by rw [z7]; decide) (by rw [z7]; rfl) (by decide) hd1
    by_cases z8 : x1 = (8 : Int32)
    · exact lv_tableIn (tgt := 110) hx hb dX2_look_2_1 (by rw [z8]; decide) (by rw [z8]; decide) (by rw [z8]; rfl) (by decide) hd1
    by_cases z9 : x1 = (9 : Int32)
    · exact lv_tableIn (tgt := 110) hx hb dX2_look_2_1 (by rw [z9]; decide) (by rw [z9]; decide) (by rw [z9]; rfl) (by decide) hd1
    by_cases z10 : x1 = (10 : Int32)
    · exact lv_tableIn (tgt := 110) hx hb dX2_look_2_1 (by rw [z10]; decide) (by rw [z10]; decide) (by rw [z10]; rfl) (by decide) hd1
    by_cases z11 : x1 = (11 : Int32)
    · exact lv_tableIn (tgt := 110) hx hb dX2_look_2_1 (by rw [z11]; decide) (by rw [z11]; decide) (by rw [z11]; rfl) (by decide) hd1
    by_cases z12 : x1 = (12 : Int32)
    · exact lv_tableIn (tgt := 110) hx hb dX2_look_2_1 (by rw [z12]; decide) (by rw [z12]; decide) (by rw [z12]; rfl) (by decide) hd1
    have n0 := lv_neT h1_0 (show (0 : Int32).toInt = 0 by decide)
    have n1 := lv_neT h1_1 (show (1 : Int32).toInt = 1 by decide)
    have n2 := lv_neT h1_2 (show (2 : Int32).toInt = 2 by decide)
    have n3 := lv_neT h1_3 (show (3 : Int32).toInt = 3 by decide)
    have n4 := lv_neT h1_4 (show (4 : Int32).toInt = 4 by decide)
    have n13 := lv_neT h1_13 (show (13 : Int32).toInt = 13 by decide)
    have n5 := lv_neT z5 (show (5 : Int32).toInt = 5 by decide)
    have n6 := lv_neT z6 (show (6 : Int32).toInt = 6 by decide)
    have n7 := lv_neT z7 (show (7 : Int32).toInt = 7 by decide)
    have n8 := lv_neT z8 (show (8 : Int32).toInt = 8 by decide)
    have n9 := lv_neT z9 (show (9 : Int32).toInt = 9 by decide)
    have n10 := lv_neT z10 (show (10 : Int32).toInt = 10 by decide)
    have n11 := lv_neT z11 (show (11 : Int32).toInt = 11 by decide)
    have n12 := lv_neT z12 (show (12 : Int32).toInt = 12 by decide)
    exact lv_tableOut (tgt := 110) hx hb dX2_look_2_1 (by omega) (by decide) hd1
  refine lv_aload_n hx hb dX2_look_2_110 rfl (lv_at hl 0 rfl) ?_
  refine rg_X2_26 X hP (ex_H_o hE hk) dX2_look_2_111 ?_
  refine lv_iload_n hx hb dX2_look_2_114 rfl (lv_at hl 1 rfl) ?_
  refine lv_iconst (v := 5) hx hb dX2_look_2_115 (by decide) ?_
  refine lv_isub hx hb dX2_look_2_116 ?_
  refine lv_iconst (v := 2) hx hb dX2_look_2_117 (by decide) ?_
  refine lv_irem hx hb dX2_look_2_118 (by decide) ?_
  refine ra_H_ways_ld X hP (ex_H_ways hE hk) dX2_look_2_119 hf (fun hi1 hf => ?_)
  refine lv_astore_n (lv' := [(2, .ref (ad (W_o k (Int32.toNatClampNeg ((x1 - 5) - (x1 - 5) / 2 * 2))))), (0, .ref (ad (H_o k))), (1, .int x1)]) hx hb dX2_look_2_120 rfl hl (by decide) rfl (fun ls hl => ?_)
  refine lv_iload_n hx hb dX2_look_2_121 rfl (lv_at hl 2 rfl) ?_
  refine lv_bipush (v := 7) hx hb dX2_look_2_122 (by decide) ?_
  refine gb_icmp_ge (tgt := 135) hx hb dX2_look_2_124 (by decide) hf (fun hf => ?_) (fun hf => ?_)
  · refine lv_iload_n hx hb dX2_look_2_135 rfl (lv_at hl 2 rfl) ?_
    refine lv_bipush (v := 9) hx hb dX2_look_2_136 (by decide) ?_
    refine gb_icmp_ge (tgt := 148) hx hb dX2_look_2_138 (by decide) hf (fun hf => ?_) (fun hf => ?_)
    · refine lv_iload_n hx hb dX2_look_2_148 rfl (lv_at hl 2 rfl) ?_
      refine lv_bipush (v := 11) hx hb dX2_look_2_149 (by decide) ?_
      refine gb_icmp_ge (tgt := 162) hx hb dX2_look_2_151 (by decide) hf (fun hf => ?_) (fun hf => ?_)
      · refine lv_aload_n hx hb dX2_look_2_162 rfl (lv_at hl 0 rfl) ?_
        refine rg_X2_79 X hP (ex_W_o hE hk hi1) dX2_look_2_163 ?_
        refine lv_i2l hx hb dX2_look_2_166 rfl ?_
        exact gr_lR X hP hS (Option.some.inj hf) dX2_look_2_167
      · refine lv_aload_n hx hb dX2_look_2_154 rfl (lv_at hl 0 rfl) ?_
        refine rg_X2_128 X hP (ex_W_o hE hk hi1) dX2_look_2_155 ?_
        refine lv_i2l hx hb dX2_look_2_158 rfl ?_
        refine lv_goto (tgt := 167) hx hb dX2_look_2_159 (by decide) ?_
        exact gr_lR X hP hS (Option.some.inj hf) dX2_look_2_167
    · refine lv_aload_n hx hb dX2_look_2_141 rfl (lv_at hl 0 rfl) ?_
      refine rg_X2_93 X hP (ex_W_o hE hk hi1) dX2_look_2_142 ?_
      refine lv_goto (tgt := 167) hx hb dX2_look_2_145 (by decide) ?_
      exact gr_lR X hP hS (Option.some.inj hf) dX2_look_2_167
  · refine lv_aload_n hx hb dX2_look_2_127 rfl (lv_at hl 0 rfl) ?_
    refine rg_X2_115 X hP (ex_W_o hE hk hi1) dX2_look_2_128 ?_
    refine lv_i2l hx hb dX2_look_2_131 rfl ?_
    refine lv_goto (tgt := 167) hx hb dX2_look_2_132 (by decide) ?_
    exact gr_lR X hP hS (Option.some.inj hf) dX2_look_2_167
theorem hd_X2_look_2 : yX2_look_2.cls = RX2 ∧ yX2_look_2.cls ≠ "java/lang/invoke/MethodHandle" ∧ yX2_look_2.cls ≠ "java/lang/invoke/VarHandle" ∧ (parseMethodDescriptor yX2_look_2.desc).map (fun d => d.parameters.length) = some 1 := by decide +kernel
set_option maxHeartbeats 4000000 in
theorem mt_X2_look_2 (l : Launch) (D : va_G) (dA : Nat → ClassId) (A : Nat → Prop) (ad : L3 → Nat) (E : L3 → Bool) (k : Nat) (hE : EOK E) (hk : k < 2) (S : Mem) (x1 : Int32) {res : Int64} (hq : f_X2_look_2 k S x1 = some res) : Met l yX2_look_2 (ws_ yX2_look_2 cX2_look_2 3 (some .long)) ({ frames := 1, cells := 0, slots := 0, locals := 40 } : Room) (va_Pc [.ref (ad (H_o k)), .int x1] (PreW D dA (shC dA E) (exC E) A ad S)) (QjR D (shC dA E) (exC E) A ad S res) 0 0 A :=
  gx_head (by decide) (Nat.le_of_ble_eq_true rfl) (fun p e s m below meth c ls X hP hl => w_X2_look_2 (l := l) E k hE hk X ⟨Nat.le_of_ble_eq_true rfl, Nat.le_of_ble_eq_true rfl⟩ S x1 hP va_S.rf (lv_sub (l := [(0, .ref (ad (H_o k))), (1, .int x1)]) hl [0, 1] rfl) hq)
