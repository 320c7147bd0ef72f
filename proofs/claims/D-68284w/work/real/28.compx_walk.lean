set_option maxRecDepth 100000
theorem hd_X1_need : yX1_need.cls = RX1 ∧ yX1_need.cls ≠ "java/lang/invoke/MethodHandle" ∧ yX1_need.cls ≠ "java/lang/invoke/VarHandle" ∧ (parseMethodDescriptor yX1_need.desc).map (fun d => d.parameters.length) = some 1 := by decide +kernel
theorem mt_X1_need (l : Launch) (D : va_G) (dA : Nat → ClassId) (A : Nat → Prop) (ad : L3 → Nat) (E : L3 → Bool) (hE : EOK E) (hfl : l.flags = flags0) (S : Mem) (x0 : Int32) {res : Nat ⊕ Unit} (hq : f_X1_need x0 = res) : MetX l yX1_need (ws_ yX1_need cX1_need 1 none) ({ frames := 6, cells := 1, slots := 6, locals := 90 } : Room) (va_Pc [.int x0] (PreX D dA (shC dA E) (exC E) A ad S)) (QX D (shC dA E) (exC E) A ad (fun v u => ∃ r : Unit, v = none ∧ res = .inr r ∧ S = u) (fun cd u => res = .inl cd ∧ S = u)) 1 6 A := by
  refine gx_headX (by decide) (Nat.le_of_ble_eq_true rfl) (fun p e s m below meth c ls X hex hZ hP hl => ?_)
  have hl : lv_has ls 1 [(0, .int x0)] := hl
  have hS : va_S A s.heap s.heap [] := va_S.rf
  unfold f_X1_need at hq
  refine lv_iload_n X.hx X.hb dX1_need_0 rfl (lv_at hl 0 rfl) ?_
  refine gb_if_ne (tgt := 12) X.hx X.hb dX1_need_1 (by decide) hq (fun hq => ?_) (fun hq => ?_)
  · exact xr_v X hP hS ⟨(), rfl, hq.symm, rfl⟩ (Nat.zero_le _) (Nat.zero_le _) dX1_need_12
  · refine wx_throw0 (cd := 1) X hfl hex (cls := "java/lang/IllegalArgumentException") (ic := 52) (inew := 50) rfl (by decide +kernel) (at_1 X.hts X.hK.2 hZ) (X.hts _ q406) (X.hts _ q407) (X.hts _ q97) hl.1 (Nat.le_of_ble_eq_true rfl) (Nat.le_of_ble_eq_true rfl) (Nat.le_of_ble_eq_true rfl) (Nat.le_of_ble_eq_true rfl) dX1_need_4 dX1_need_7 dX1_need_8 dX1_need_11 (fun t x hk hle hw hE => ?_)
    refine ⟨Or.inr ⟨x, 1, S, rfl, ⟨hq.symm, rfl⟩, hP.kept (fun r hr => hk _ (hP.1 r hr).1.lt), hE⟩, hle, fun q h1 _ => hk q h1⟩
theorem hd_X1_ready : yX1_ready.cls = RX1 ∧ yX1_ready.cls ≠ "java/lang/invoke/MethodHandle" ∧ yX1_ready.cls ≠ "java/lang/invoke/VarHandle" ∧ (parseMethodDescriptor yX1_ready.desc).map (fun d => d.parameters.length) = some 1 := by decide +kernel
theorem mt_X1_ready (l : Launch) (D : va_G) (dA : Nat → ClassId) (A : Nat → Prop) (ad : L3 → Nat) (E : L3 → Bool) (hE : EOK E) (hfl : l.flags = flags0) (S : Mem) (x0 : Int32) {res : Nat ⊕ Unit} (hq : f_X1_ready x0 = res) : MetX l yX1_ready (ws_ yX1_ready cX1_ready 1 none) ({ frames := 6, cells := 1, slots := 6, locals := 90 } : Room) (va_Pc [.int x0] (PreX D dA (shC dA E) (exC E) A ad S)) (QX D (shC dA E) (exC E) A ad (fun v u => ∃ r : Unit, v = none ∧ res = .inr r ∧ S = u) (fun cd u => res = .inl cd ∧ S = u)) 1 6 A := by
  refine gx_headX (by decide) (Nat.le_of_ble_eq_true rfl) (fun p e s m below meth c ls X hex hZ hP hl => ?_)
  have hl : lv_has ls 1 [(0, .int x0)] := hl
  have hS : va_S A s.heap s.heap [] := va_S.rf
  unfold f_X1_ready at hq
  refine lv_iload_n X.hx X.hb dX1_ready_0 rfl (lv_at hl 0 rfl) ?_
  refine gb_if_ne (tgt := 12) X.hx X.hb dX1_ready_1 (by decide) hq (fun hq => ?_) (fun hq => ?_)
  · exact xr_v X hP hS ⟨(), rfl, hq.symm, rfl⟩ (Nat.zero_le _) (Nat.zero_le _) dX1_ready_12
  · refine wx_throw0 (cd := 2) X hfl hex (cls := "java/lang/IllegalStateException") (ic := 55) (inew := 53) rfl (by decide +kernel) (at_2 X.hts X.hK.2 hZ) (X.hts _ q472) (X.hts _ q473) (X.hts _ q98) hl.1 (Nat.le_of_ble_eq_true rfl) (Nat.le_of_ble_eq_true rfl) (Nat.le_of_ble_eq_true rfl) (Nat.le_of_ble_eq_true rfl) dX1_ready_4 dX1_ready_7 dX1_ready_8 dX1_ready_11 (fun t x hk hle hw hE => ?_)
    refine ⟨Or.inr ⟨x, 2, S, rfl, ⟨hq.symm, rfl⟩, hP.kept (fun r hr => hk _ (hP.1 r hr).1.lt), hE⟩, hle, fun q h1 _ => hk q h1⟩
theorem hd_X1_there : yX1_there.cls = RX1 ∧ yX1_there.cls ≠ "java/lang/invoke/MethodHandle" ∧ yX1_there.cls ≠ "java/lang/invoke/VarHandle" ∧ (parseMethodDescriptor yX1_there.desc).map (fun d => d.parameters.length) = some 1 := by decide +kernel
theorem mt_X1_there (l : Launch) (D : va_G) (dA : Nat → ClassId) (A : Nat → Prop) (ad : L3 → Nat) (E : L3 → Bool) (hE : EOK E) (hfl : l.flags = flags0) (S : Mem) (x0 : Int32) {res : Nat ⊕ Unit} (hq : f_X1_there x0 = res) : MetX l yX1_there (ws_ yX1_there cX1_there 1 none) ({ frames := 6, cells := 1, slots := 6, locals := 90 } : Room) (va_Pc [.int x0] (PreX D dA (shC dA E) (exC E) A ad S)) (QX D (shC dA E) (exC E) A ad (fun v u => ∃ r : Unit, v = none ∧ res = .inr r ∧ S = u) (fun cd u => res = .inl cd ∧ S = u)) 1 6 A := by
  refine gx_headX (by decide) (Nat.le_of_ble_eq_true rfl) (fun p e s m below meth c ls X hex hZ hP hl => ?_)
  have hl : lv_has ls 1 [(0, .int x0)] := hl
  have hS : va_S A s.heap s.heap [] := va_S.rf
  unfold f_X1_there at hq
  refine lv_iload_n X.hx X.hb dX1_there_0 rfl (lv_at hl 0 rfl) ?_
  refine gb_if_ne (tgt := 12) X.hx X.hb dX1_there_1 (by decide) hq (fun hq => ?_) (fun hq => ?_)
  · exact xr_v X hP hS ⟨(), rfl, hq.symm, rfl⟩ (Nat.zero_le _) (Nat.zero_le _) dX1_there_12
  · refine wx_throw0 (cd := 3) X hfl hex (cls := "java/util/NoSuchElementException") (ic := 58) (inew := 56) rfl (by decide +kernel) (at_3 X.hts X.hK.2 hZ) (X.hts _ q887) (X.hts _ q888) (X.hts _ q104) hl.1 (Nat.le_of_ble_eq_true rfl) (Nat.le_of_ble_eq_true rfl) (Nat.le_of_ble_eq_true rfl) (Nat.le_of_ble_eq_true rfl) dX1_there_4 dX1_there_7 dX1_there_8 dX1_there_11 (fun t x hk hle hw hE => ?_)
    refine ⟨Or.inr ⟨x, 3, S, rfl, ⟨hq.symm, rfl⟩, hP.kept (fun r hr => hk _ (hP.1 r hr).1.lt), hE⟩, hle, fun q h1 _ => hk q h1⟩
set_option maxHeartbeats 4000000 in
theorem w_X1_hall {p : Program} {l : Launch} {e : Env} {R : Room} {s : State} {m : MethodId} {args : Array Value} {below : List Frame} {meth : Method} {c : Code} {D : va_G} {dA : Nat → ClassId} {A : Nat → Prop} {ad : L3 → Nat} (E : L3 → Bool) (hE : EOK E) (X : CX RX1 cX1_hall 2 (some (.object "StreamHall$Hall")) (KA D dA) p s m args meth c A) (hR : 7 ≤ R.frames ∧ 110 ≤ R.locals) (hC : 1 ≤ R.cells ∧ 6 ≤ R.slots) (hex : c.exceptionTable.isEmpty = true) (hZ : ZT A s s.heap) (hfl : l.flags = flags0) {res : Nat ⊕ Nat} (S : Mem) (x1 : Int32) {H : Heap} {locs : List Loc} {ls : Array Slot} (hP : Wd D clA (shC dA E) (exC E) A ad S H) (hS : va_S A s.heap H locs) (hl : lv_has ls 2 [(0, .ref (ad C_o)), (1, .int x1)]) (hf : f_X1_hall S x1 = some res) : W p l e R s m args below meth c H locs 0 0 (MQX below (QX D (shC dA E) (exC E) A ad (fun v u => ∃ r : Nat, v = some (.ref (ad (H_o r))) ∧ res = .inr r ∧ S = u ∧ r < 2) (fun cd u => res = .inl cd ∧ S = u)) args s 1 6 A) (F0 m 0 ls []) := by
  have hx := X.hx
  have hb := X.hb
  unfold f_X1_hall at hf
  refine lv_iload_n hx hb dX1_hall_0 rfl (lv_at hl 1 rfl) ?_
  refine lv_i2l hx hb dX1_hall_1 rfl ?_
  refine lv_lconst (v := 0) hx hb dX1_hall_2 (by decide) ?_
  refine lv_lconst (v := 1) hx hb dX1_hall_3 (by decide) ?_
  obtain ⟨v1, hq, hf⟩ := gS_eq hf
  refine gc_i (gc_fixS (S := S) X (mt_X1_in l D dA A ad E hE S (Int32.toInt64 x1) (0 : Int64) (1 : Int64) hq) (lw_S q396 q397 q86 q398) ⟨rfl, rfl⟩ hd_X1_in.2 ⟨Nat.le_trans (Nat.le_of_ble_eq_true rfl) hR.1, Nat.le_trans (Nat.le_of_ble_eq_true rfl) hR.2⟩ hP hS ⟨Nat.le_trans (Nat.le_of_ble_eq_true rfl) hC.1, Nat.le_trans (Nat.le_of_ble_eq_true rfl) hC.2⟩ rfl hl.1 rfl (Nat.le_of_ble_eq_true rfl) dX1_hall_4) hS ?_
  rintro _ _ H locs ⟨rfl, rfl⟩ hP hS
  obtain ⟨q2, hq⟩ : ∃ q, q = f_X1_need v1 := ⟨_, rfl⟩
  rw [← hq] at hf
  refine xc_S (S := S) X hZ (mt_X1_need l D dA A ad E hE hfl S v1 hq.symm) (lw_S q403 q404 q86 q405) ⟨rfl, rfl⟩ hd_X1_need.2 ⟨Nat.le_trans (Nat.le_of_ble_eq_true rfl) hR.1, Nat.le_trans (Nat.le_of_ble_eq_true rfl) hR.2⟩ hP hS ⟨Nat.le_trans (Nat.le_of_ble_eq_true rfl) hC.1, Nat.le_trans (Nat.le_of_ble_eq_true rfl) hC.2⟩ rfl hl.1 rfl (Nat.le_of_ble_eq_true rfl) dX1_hall_7 (kr := fun v u H locs hok hP hS => ?_) (kt := fun x cd u t H locs hbad ht hw hP hE hS => by obtain ⟨rfl, rfl⟩ := hbad; exact xt_leave X hex ht hw hP hE hS (⟨gX_inl hf, rfl⟩) (Nat.le_of_ble_eq_true rfl) (Nat.le_of_ble_eq_true rfl))
  obtain ⟨_, rfl, rfl, rfl⟩ := hok
  replace hf := gX_inr hf
  refine W.eq (g2 := F0 m 10 ls []) rfl ?_
  refine lv_aload_n hx hb dX1_hall_10 rfl (lv_at hl 0 rfl) ?_
  refine rg_X1_18 X hP (ex_C_o hE) dX1_hall_11 ?_
  refine lv_iload_n hx hb dX1_hall_14 rfl (lv_at hl 1 rfl) ?_
  refine ra_C_halls_ld X hP (ex_C_halls hE) dX1_hall_15 hf (fun hi3 hf => ?_)
  exact xr_q X hP hS ⟨(Int32.toNatClampNeg x1), rfl, (Option.some.inj hf).symm, rfl, hi3⟩ (Nat.le_of_ble_eq_true rfl) (Nat.le_of_ble_eq_true rfl) dX1_hall_16
theorem hd_X1_hall : yX1_hall.cls = RX1 ∧ yX1_hall.cls ≠ "java/lang/invoke/MethodHandle" ∧ yX1_hall.cls ≠ "java/lang/invoke/VarHandle" ∧ (parseMethodDescriptor yX1_hall.desc).map (fun d => d.parameters.length) = some 1 := by decide +kernel
set_option maxHeartbeats 4000000 in
theorem mt_X1_hall (l : Launch) (D : va_G) (dA : Nat → ClassId) (A : Nat → Prop) (ad : L3 → Nat) (E : L3 → Bool) (hE : EOK E) (hfl : l.flags = flags0) (S : Mem) (x1 : Int32) {res : Nat ⊕ Nat} (hq : f_X1_hall S x1 = some res) : MetX l yX1_hall (ws_ yX1_hall cX1_hall 2 (some (.object "StreamHall$Hall"))) ({ frames := 7, cells := 1, slots := 6, locals := 110 } : Room) (va_Pc [.ref (ad C_o), .int x1] (PreX D dA (shC dA E) (exC E) A ad S)) (QX D (shC dA E) (exC E) A ad (fun v u => ∃ r : Nat, v = some (.ref (ad (H_o r))) ∧ res = .inr r ∧ S = u ∧ r < 2) (fun cd u => res = .inl cd ∧ S = u)) 1 6 A :=
  gx_headX (by decide) (Nat.le_of_ble_eq_true rfl) (fun p e s m below meth c ls X hex hZ hP hl => w_X1_hall (l := l) E hE X ⟨Nat.le_of_ble_eq_true rfl, Nat.le_of_ble_eq_true rfl⟩ ⟨Nat.le_of_ble_eq_true rfl, Nat.le_of_ble_eq_true rfl⟩ hex hZ hfl S x1 hP va_S.rf (lv_sub (l := [(0, .ref (ad C_o)), (1, .int x1)]) hl [0, 1] rfl) hq)
set_option maxHeartbeats 4000000 in
theorem w_X1_at_29 {p : Program} {l : Launch} {e : Env} {R : Room} {s : State} {m : MethodId} {args : Array Value} {below : List Frame} {meth : Method} {c : Code} {D : va_G} {dA : Nat → ClassId} {A : Nat → Prop} {ad : L3 → Nat} (E : L3 → Bool) (hE : EOK E) (X : CX RX1 cX1_at 2 (some (.object "StreamHall$Place")) (KA D dA) p s m args meth c A) (hR : 7 ≤ R.frames ∧ 110 ≤ R.locals) (hC : 1 ≤ R.cells ∧ 6 ≤ R.slots) (hex : c.exceptionTable.isEmpty = true) (hZ : ZT A s s.heap) (hfl : l.flags = flags0) {res : Nat ⊕ Nat} (S : Mem) (x1 : Int32) (y0 : Int32) {H : Heap} {locs : List Loc} {ls : Array Slot} (hP : Wd D clA (shC dA E) (exC E) A ad S H) (hS : va_S A s.heap H locs) (hl : lv_has ls 2 [(0, .ref (ad C_o)), (1, .int x1)]) (hf : f_X1_at_29 S x1 y0 = some res) : W p l e R s m args below meth c H locs 0 0 (MQX below (QX D (shC dA E) (exC E) A ad (fun v u => ∃ r : Nat, v = some (.ref (ad (L_o r))) ∧ res = .inr r ∧ S = u ∧ r < 64) (fun cd u => res = .inl cd ∧ S = u)) args s 1 6 A) (F0 m 29 ls [.int y0]) := by
  have hx := X.hx
  have hb := X.hb
  unfold f_X1_at_29 at hf
  obtain ⟨q1, hq⟩ : ∃ q, q = f_X1_there y0 := ⟨_, rfl⟩
  rw [← hq] at hf
  refine xc_S (S := S) X hZ (mt_X1_there l D dA A ad E hE hfl S y0 hq.symm) (lw_S q884 q885 q86 q886) ⟨rfl, rfl⟩ hd_X1_there.2 ⟨Nat.le_trans (Nat.le_of_ble_eq_true rfl) hR.1, Nat.le_trans (Nat.le_of_ble_eq_true rfl) hR.2⟩ hP hS ⟨Nat.le_trans (Nat.le_of_ble_eq_true rfl) hC.1, Nat.le_trans (Nat.le_of_ble_eq_true rfl) hC.2⟩ rfl hl.1 rfl (Nat.le_of_ble_eq_true rfl) dX1_at_29 (kr := fun v u H locs hok hP hS => ?_) (kt := fun x cd u t H locs hbad ht hw hP hE hS => by obtain ⟨rfl, rfl⟩ := hbad; exact xt_leave X hex ht hw hP hE hS (⟨gX_inl hf, rfl⟩) (Nat.le_of_ble_eq_true rfl) (Nat.le_of_ble_eq_true rfl))
  obtain ⟨_, rfl, rfl, rfl⟩ := hok
  replace hf := gX_inr hf
  refine W.eq (g2 := F0 m 32 ls []) rfl ?_
  refine lv_aload_n hx hb dX1_at_32 rfl (lv_at hl 0 rfl) ?_
  refine rg_X1_32 X hP (ex_C_o hE) dX1_at_33 ?_
  refine lv_iload_n hx hb dX1_at_36 rfl (lv_at hl 1 rfl) ?_
  refine ra_C_line_ld X hP (ex_C_line hE) dX1_at_37 hf (fun hi2 hf => ?_)
  exact xr_q X hP hS ⟨(Int32.toNatClampNeg x1), rfl, (Option.some.inj hf).symm, rfl, hi2⟩ (Nat.le_of_ble_eq_true rfl) (Nat.le_of_ble_eq_true rfl) dX1_at_38
set_option maxHeartbeats 4000000 in
theorem w_X1_at_28 {p : Program} {l : Launch} {e : Env} {R : Room} {s : State} {m : MethodId} {args : Array Value} {below : List Frame} {meth : Method} {c : Code} {D : va_G} {dA : Nat → ClassId} {A : Nat → Prop} {ad : L3 → Nat} (E : L3 → Bool) (hE : EOK E) (X : CX RX1 cX1_at 2 (some (.object "StreamHall$Place")) (KA D dA) p s m args meth c A) (hR : 7 ≤ R.frames ∧ 110 ≤ R.locals) (hC : 1 ≤ R.cells ∧ 6 ≤ R.slots) (hex : c.exceptionTable.isEmpty = true) (hZ : ZT A s s.heap) (hfl : l.flags = flags0) {res : Nat ⊕ Nat} (S : Mem) (x1 : Int32) {H : Heap} {locs : List Loc} {ls : Array Slot} (hP : Wd D clA (shC dA E) (exC E) A ad S H) (hS : va_S A s.heap H locs) (hl : lv_has ls 2 [(0, .ref (ad C_o)), (1, .int x1)]) (hf : f_X1_at_28 S x1 = some res) : W p l e R s m args below meth c H locs 0 0 (MQX below (QX D (shC dA E) (exC E) A ad (fun v u => ∃ r : Nat, v = some (.ref (ad (L_o r))) ∧ res = .inr r ∧ S = u ∧ r < 64) (fun cd u => res = .inl cd ∧ S = u)) args s 1 6 A) (F0 m 28 ls []) := by
  have hx := X.hx
  have hb := X.hb
  unfold f_X1_at_28 at hf
  refine lv_iconst (v := 0) hx hb dX1_at_28 (by decide) ?_
  exact w_X1_at_29 E hE X hR hC hex hZ hfl S x1 0 hP hS (lv_sub hl [0, 1] rfl) hf
set_option maxHeartbeats 4000000 in
theorem w_X1_at {p : Program} {l : Launch} {e : Env} {R : Room} {s : State} {m : MethodId} {args : Array Value} {below : List Frame} {meth : Method} {c : Code} {D : va_G} {dA : Nat → ClassId} {A : Nat → Prop} {ad : L3 → Nat} (E : L3 → Bool) (hE : EOK E) (X : CX RX1 cX1_at 2 (some (.object "StreamHall$Place")) (KA D dA) p s m args meth c A) (hR : 7 ≤ R.frames ∧ 110 ≤ R.locals) (hC : 1 ≤ R.cells ∧ 6 ≤ R.slots) (hex : c.exceptionTable.isEmpty = true) (hZ : ZT A s s.heap) (hfl : l.flags = flags0) {res : Nat ⊕ Nat} (S : Mem) (x1 : Int32) {H : Heap} {locs : List Loc} {ls : Array Slot} (hP : Wd D clA (shC dA E) (exC E) A ad S H) (hS : va_S A s.heap H locs) (hl : lv_has ls 2 [(0, .ref (ad C_o)), (1, .int x1)]) (hf : f_X1_at S x1 = some res) : W p l e R s m args below meth c H locs 0 0 (MQX below (QX D (shC dA E) (exC E) A ad (fun v u => ∃ r : Nat, v = some (.ref (ad (L_o r))) ∧ res = .inr r ∧ S = u ∧ r < 64) (fun cd u => res = .inl cd ∧ S = u)) args s 1 6 A) (F0 m 0 ls []) := by
  have hx := X.hx
  have hb := X.hb
  unfold f_X1_at at hf
  refine lv_iload_n hx hb dX1_at_0 rfl (lv_at hl 1 rfl) ?_
  refine lv_i2l hx hb dX1_at_1 rfl ?_
  refine lv_lconst (v := 0) hx hb dX1_at_2 (by decide) ?_
  refine lv_ldc2 hx hb X.hown (X.hts _ q883) dX1_at_3 ?_
  obtain ⟨v1, hq, hf⟩ := gS_eq hf
  refine gc_i (gc_fixS (S := S) X (mt_X1_in l D dA A ad E hE S (Int32.toInt64 x1) (0 : Int64) (63 : Int64) hq) (lw_S q396 q397 q86 q398) ⟨rfl, rfl⟩ hd_X1_in.2 ⟨Nat.le_trans (Nat.le_of_ble_eq_true rfl) hR.1, Nat.le_trans (Nat.le_of_ble_eq_true rfl) hR.2⟩ hP hS ⟨Nat.le_trans (Nat.le_of_ble_eq_true rfl) hC.1, Nat.le_trans (Nat.le_of_ble_eq_true rfl) hC.2⟩ rfl hl.1 rfl (Nat.le_of_ble_eq_true rfl) dX1_at_6) hS ?_
  rintro _ _ H locs ⟨rfl, rfl⟩ hP hS
  refine gb_if_eq (tgt := 28) hx hb dX1_at_9 (by decide) hf (fun hf => ?_) (fun hf => ?_)
  · exact w_X1_at_28 E hE X hR hC hex hZ hfl S x1 hP hS (lv_sub hl [0, 1] rfl) hf
  · refine lv_aload_n hx hb dX1_at_12 rfl (lv_at hl 0 rfl) ?_
    refine rg_X1_32 X hP (ex_C_o hE) dX1_at_13 ?_
    refine lv_iload_n hx hb dX1_at_16 rfl (lv_at hl 1 rfl) ?_
    refine ra_C_line_ld X hP (ex_C_line hE) dX1_at_17 hf (fun hi2 hf => ?_)
    refine rg_X1_69 X hP (ex_L_o hE hi2) dX1_at_18 ?_
    refine gb_if_eq (tgt := 28) hx hb dX1_at_21 (by decide) hf (fun hf => ?_) (fun hf => ?_)
    · exact w_X1_at_28 E hE X hR hC hex hZ hfl S x1 hP hS (lv_sub hl [0, 1] rfl) hf
    · refine lv_iconst (v := 1) hx hb dX1_at_24 (by decide) ?_
      refine lv_goto (tgt := 29) hx hb dX1_at_25 (by decide) ?_
      exact w_X1_at_29 E hE X hR hC hex hZ hfl S x1 1 hP hS (lv_sub hl [0, 1] rfl) hf
theorem hd_X1_at : yX1_at.cls = RX1 ∧ yX1_at.cls ≠ "java/lang/invoke/MethodHandle" ∧ yX1_at.cls ≠ "java/lang/invoke/VarHandle" ∧ (parseMethodDescriptor yX1_at.desc).map (fun d => d.parameters.length) = some 1 := by decide +kernel
set_option maxHeartbeats 4000000 in
theorem mt_X1_at (l : Launch) (D : va_G) (dA : Nat → ClassId) (A : Nat → Prop) (ad : L3 → Nat) (E : L3 → Bool) (hE : EOK E) (hfl : l.flags = flags0) (S : Mem) (x1 : Int32) {res : Nat ⊕ Nat} (hq : f_X1_at S x1 = some res) : MetX l yX1_at (ws_ yX1_at cX1_at 2 (some (.object "StreamHall$Place"))) ({ frames := 7, cells := 1, slots := 6, locals := 110 } : Room) (va_Pc [.ref (ad C_o), .int x1] (PreX D dA (shC dA E) (exC E) A ad S)) (QX D (shC dA E) (exC E) A ad (fun v u => ∃ r : Nat, v = some (.ref (ad (L_o r))) ∧ res = .inr r ∧ S = u ∧ r < 64) (fun cd u => res = .inl cd ∧ S = u)) 1 6 A :=
  gx_headX (by decide) (Nat.le_of_ble_eq_true rfl) (fun p e s m below meth c ls X hex hZ hP hl => w_X1_at (l := l) E hE X ⟨Nat.le_of_ble_eq_true rfl, Nat.le_of_ble_eq_true rfl⟩ ⟨Nat.le_of_ble_eq_true rfl, Nat.le_of_ble_eq_true rfl⟩ hex hZ hfl S x1 hP va_S.rf (lv_sub (l := [(0, .ref (ad C_o)), (1, .int x1)]) hl [0, 1] rfl) hq)
set_option maxHeartbeats 4000000 in
theorem w_X1_grant_68 {p : Program} {l : Launch} {e : Env} {R : Room} {s : State} {m : MethodId} {args : Array Value} {below : List Frame} {meth : Method} {c : Code} {D : va_G} {dA : Nat → ClassId} {A : Nat → Prop} {ad : L3 → Nat} (E : L3 → Bool) (hE : EOK E) (X : CX RX1 cX1_grant 4 none (KA D dA) p s m args meth c A) (hR : 7 ≤ R.frames ∧ 110 ≤ R.locals) (hC : 2 ≤ R.cells ∧ 12 ≤ R.slots) (hex : c.exceptionTable.isEmpty = true) (hZ : ZT A s s.heap) (hfl : l.flags = flags0) {res : Mem × (Nat ⊕ Unit)} (S : Mem) (x1 : Int32) (x2 : Int32) (x3 : Int32) (y0 : Int32) {H : Heap} {locs : List Loc} {ls : Array Slot} (hP : Wd D clA (shC dA E) (exC E) A ad S H) (hS : va_S A s.heap H locs) (hl : lv_has ls 4 [(0, .ref (ad C_o)), (1, .int x1), (2, .int x2), (3, .int x3)]) (hf : f_X1_grant_68 S x1 x2 x3 y0 = some res) : W p l e R s m args below meth c H locs 1 6 (MQX below (QX D (shC dA E) (exC E) A ad (fun v u => ∃ r : Unit, v = none ∧ res = (u, .inr r)) (fun cd u => res = (u, .inl cd))) args s 2 12 A) (F0 m 68 ls [.int y0]) := by
  have hx := X.hx
  have hb := X.hb
  unfold f_X1_grant_68 at hf
  obtain ⟨q1, hq⟩ : ∃ q, q = f_X1_ready y0 := ⟨_, rfl⟩
  rw [← hq] at hf
  refine xc_S (S := S) X hZ (mt_X1_ready l D dA A ad E hE hfl S y0 hq.symm) (lw_S q469 q470 q86 q471) ⟨rfl, rfl⟩ hd_X1_ready.2 ⟨Nat.le_trans (Nat.le_of_ble_eq_true rfl) hR.1, Nat.le_trans (Nat.le_of_ble_eq_true rfl) hR.2⟩ hP hS ⟨Nat.le_trans (Nat.le_of_ble_eq_true rfl) hC.1, Nat.le_trans (Nat.le_of_ble_eq_true rfl) hC.2⟩ rfl hl.1 rfl (Nat.le_of_ble_eq_true rfl) dX1_grant_68 (kr := fun v u H locs hok hP hS => ?_) (kt := fun x cd u t H locs hbad ht hw hP hE hS => by obtain ⟨rfl, rfl⟩ := hbad; exact xt_leave X hex ht hw hP hE hS (gXW_inl hf) (Nat.le_of_ble_eq_true rfl) (Nat.le_of_ble_eq_true rfl))
  obtain ⟨_, rfl, rfl, rfl⟩ := hok
  replace hf := gXW_inr hf
  refine W.eq (g2 := F0 m 71 ls []) rfl ?_
  refine lv_aload_n hx hb dX1_grant_71 rfl (lv_at hl 0 rfl) ?_
  refine rg_X1_26 X hP (ex_C_o hE) dX1_grant_72 ?_
  refine lv_iload_n hx hb dX1_grant_75 rfl (lv_at hl 1 rfl) ?_
  refine ra_C_grants_ld X hP (ex_C_grants hE) dX1_grant_76 hf (fun hi2 hf => ?_)
  refine lv_iload_n hx hb dX1_grant_77 rfl (lv_at hl 2 rfl) ?_
  refine lv_iconst (v := 4) hx hb dX1_grant_78 (by decide) ?_
  refine lv_isub hx hb dX1_grant_79 ?_
  refine lv_iload_n hx hb dX1_grant_80 rfl (lv_at hl 3 rfl) ?_
  refine ra_C_grow_st X hP hS (ex_C_grow hE hi2) dX1_grant_81 hf (fun S3 H locs hP hS hf => ?_)
  refine lv_aload_n hx hb dX1_grant_82 rfl (lv_at hl 0 rfl) ?_
  refine lv_iload_n hx hb dX1_grant_83 rfl (lv_at hl 1 rfl) ?_
  obtain ⟨S4, hq, hf⟩ := gB_some hf
  refine gc_v (gc_fixV (S := S3) X (mt_X1_allow l D dA A ad E hE S3 x1 hq) (lw_V q354 q356 qs0 q86 q357) ⟨rfl, rfl⟩ hd_X1_allow ⟨Nat.le_trans (Nat.le_of_ble_eq_true rfl) hR.1, Nat.le_trans (Nat.le_of_ble_eq_true rfl) hR.2⟩ (wd_recv (r := C_o) (ci := 1) (q := (RX1, TX1, 8)) X.hK.1 hP (ex_C_o hE) rfl rfl) hP hS ⟨Nat.le_trans (Nat.le_of_ble_eq_true rfl) hC.1, Nat.le_trans (Nat.le_of_ble_eq_true rfl) hC.2⟩ rfl hl.1 rfl (Nat.le_of_ble_eq_true rfl) dX1_grant_84) hS ?_
  rintro _ H locs rfl hP hS
  exact xr_v X hP hS ⟨(), rfl, (Option.some.inj hf).symm⟩ (Nat.le_of_ble_eq_true rfl) (Nat.le_of_ble_eq_true rfl) dX1_grant_87
set_option maxHeartbeats 4000000 in
theorem w_X1_grant_53 {p : Program} {l : Launch} {e : Env} {R : Room} {s : State} {m : MethodId} {args : Array Value} {below : List Frame} {meth : Method} {c : Code} {D : va_G} {dA : Nat → ClassId} {A : Nat → Prop} {ad : L3 → Nat} (E : L3 → Bool) (hE : EOK E) (X : CX RX1 cX1_grant 4 none (KA D dA) p s m args meth c A) (hR : 7 ≤ R.frames ∧ 110 ≤ R.locals) (hC : 2 ≤ R.cells ∧ 12 ≤ R.slots) (hex : c.exceptionTable.isEmpty = true) (hZ : ZT A s s.heap) (hfl : l.flags = flags0) {res : Mem × (Nat ⊕ Unit)} (S : Mem) (x1 : Int32) (x2 : Int32) (x3 : Int32) (y0 : Int32) {H : Heap} {locs : List Loc} {ls : Array Slot} (hP : Wd D clA (shC dA E) (exC E) A ad S H) (hS : va_S A s.heap H locs) (hl : lv_has ls 4 [(0, .ref (ad C_o)), (1, .int x1), (2, .int x2), (3, .int x3)]) (hf : f_X1_grant_53 S x1 x2 x3 y0 = some res) : W p l e R s m args below meth c H locs 0 0 (MQX below (QX D (shC dA E) (exC E) A ad (fun v u => ∃ r : Unit, v = none ∧ res = (u, .inr r)) (fun cd u => res = (u, .inl cd))) args s 2 12 A) (F0 m 53 ls [.int y0]) := by
  have hx := X.hx
  have hb := X.hb
  unfold f_X1_grant_53 at hf
  obtain ⟨q1, hq⟩ : ∃ q, q = f_X1_need y0 := ⟨_, rfl⟩
  rw [← hq] at hf
  refine xc_S (S := S) X hZ (mt_X1_need l D dA A ad E hE hfl S y0 hq.symm) (lw_S q403 q404 q86 q405) ⟨rfl, rfl⟩ hd_X1_need.2 ⟨Nat.le_trans (Nat.le_of_ble_eq_true rfl) hR.1, Nat.le_trans (Nat.le_of_ble_eq_true rfl) hR.2⟩ hP hS ⟨Nat.le_trans (Nat.le_of_ble_eq_true rfl) hC.1, Nat.le_trans (Nat.le_of_ble_eq_true rfl) hC.2⟩ rfl hl.1 rfl (Nat.le_of_ble_eq_true rfl) dX1_grant_53 (kr := fun v u H locs hok hP hS => ?_) (kt := fun x cd u t H locs hbad ht hw hP hE hS => by obtain ⟨rfl, rfl⟩ := hbad; exact xt_leave X hex ht hw hP hE hS (gXW_inl hf) (Nat.le_of_ble_eq_true rfl) (Nat.le_of_ble_eq_true rfl))
  obtain ⟨_, rfl, rfl, rfl⟩ := hok
  replace hf := gXW_inr hf
  refine W.eq (g2 := F0 m 56 ls []) rfl ?_
  refine lv_aload_n hx hb dX1_grant_56 rfl (lv_at hl 0 rfl) ?_
  refine rg_X1_82 X hP (ex_C_o hE) dX1_grant_57 ?_
  refine gb_if_ne (tgt := 67) hx hb dX1_grant_60 (by decide) hf (fun hf => ?_) (fun hf => ?_)
  · refine lv_iconst (v := 0) hx hb dX1_grant_67 (by decide) ?_
    exact w_X1_grant_68 E hE X hR hC hex hZ hfl S x1 x2 x3 0 hP hS (lv_sub hl [0, 1, 2, 3] rfl) hf
  · refine lv_iconst (v := 1) hx hb dX1_grant_63 (by decide) ?_
    refine lv_goto (tgt := 68) hx hb dX1_grant_64 (by decide) ?_
    exact w_X1_grant_68 E hE X hR hC hex hZ hfl S x1 x2 x3 1 hP hS (lv_sub hl [0, 1, 2, 3] rfl) hf
set_option maxHeartbeats 4000000 in
theorem w_X1_grant_52 {p : Program} {l : Launch} {e : Env} {R : Room} {s : State} {m : MethodId} {args : Array Value} {below : List Frame} {meth : Method} {c : Code} {D : va_G} {dA : Nat → ClassId} {A : Nat → Prop} {ad : L3 → Nat} (E : L3 → Bool) (hE : EOK E) (X : CX RX1 cX1_grant 4 none (KA D dA) p s m args meth c A) (hR : 7 ≤ R.frames ∧ 110 ≤ R.locals) (hC : 2 ≤ R.cells ∧ 12 ≤ R.slots) (hex : c.exceptionTable.isEmpty = true) (hZ : ZT A s s.heap) (hfl : l.flags = flags0) {res : Mem × (Nat ⊕ Unit)} (S : Mem) (x1 : Int32) (x2 : Int32) (x3 : Int32) {H : Heap} {locs : List Loc} {ls : Array Slot} (hP : Wd D clA (shC dA E) (exC E) A ad S H) (hS : va_S A s.heap H locs) (hl : lv_has ls 4 [(0, .ref (ad C_o)), (1, .int x1), (2, .int x2), (3, .int x3)]) (hf : f_X1_grant_52 S x1 x2 x3 = some res) : W p l e R s m args below meth c H locs 0 0 (MQX below (QX D (shC dA E) (exC E) A ad (fun v u => ∃ r : Unit, v = none ∧ res = (u, .inr r)) (fun cd u => res = (u, .inl cd))) args s 2 12 A) (F0 m 52 ls []) := by
  have hx := X.hx
  have hb := X.hb
  unfold f_X1_grant_52 at hf
  refine lv_iconst (v := 0) hx hb dX1_grant_52 (by decide) ?_
  exact w_X1_grant_53 E hE X hR hC hex hZ hfl S x1 x2 x3 0 hP hS (lv_sub hl [0, 1, 2, 3] rfl) hf
set_option maxHeartbeats 4000000 in
theorem w_X1_grant_42 {p : Program} {l : Launch} {e : Env} {R : Room} {s : State} {m : MethodId} {args : Array Value} {below : List Frame} {meth : Method} {c : Code} {D : va_G} {dA : Nat → ClassId} {A : Nat → Prop} {ad : L3 → Nat} (E : L3 → Bool) (hE : EOK E) (X : CX RX1 cX1_grant 4 none (KA D dA) p s m args meth c A) (hR : 7 ≤ R.frames ∧ 110 ≤ R.locals) (hC : 2 ≤ R.cells ∧ 12 ≤ R.slots) (hex : c.exceptionTable.isEmpty = true) (hZ : ZT A s s.heap) (hfl : l.flags = flags0) {res : Mem × (Nat ⊕ Unit)} (S : Mem) (x1 : Int32) (x2 : Int32) (x3 : Int32) (y0 : Int64) (y1 : Int64) (y2 : Int64) {H : Heap} {locs : List Loc} {ls : Array Slot} (hP : Wd D clA (shC dA E) (exC E) A ad S H) (hS : va_S A s.heap H locs) (hl : lv_has ls 4 [(0, .ref (ad C_o)), (1, .int x1), (2, .int x2), (3, .int x3)]) (hf : f_X1_grant_42 S x1 x2 x3 y0 y1 y2 = some res) : W p l e R s m args below meth c H locs 0 0 (MQX below (QX D (shC dA E) (exC E) A ad (fun v u => ∃ r : Unit, v = none ∧ res = (u, .inr r)) (fun cd u => res = (u, .inl cd))) args s 2 12 A) (F0 m 42 ls [.long y0, .long y1, .long y2]) := by
  have hx := X.hx
  have hb := X.hb
  unfold f_X1_grant_42 at hf
  obtain ⟨v1, hq, hf⟩ := gS_eq hf
  refine gc_i (gc_fixS (S := S) X (mt_X1_in l D dA A ad E hE S y2 y1 y0 hq) (lw_S q396 q397 q86 q398) ⟨rfl, rfl⟩ hd_X1_in.2 ⟨Nat.le_trans (Nat.le_of_ble_eq_true rfl) hR.1, Nat.le_trans (Nat.le_of_ble_eq_true rfl) hR.2⟩ hP hS ⟨Nat.le_trans (Nat.le_of_ble_eq_true rfl) hC.1, Nat.le_trans (Nat.le_of_ble_eq_true rfl) hC.2⟩ rfl hl.1 rfl (Nat.le_of_ble_eq_true rfl) dX1_grant_42) hS ?_
  rintro _ _ H locs ⟨rfl, rfl⟩ hP hS
  refine gb_if_eq (tgt := 52) hx hb dX1_grant_45 (by decide) hf (fun hf => ?_) (fun hf => ?_)
  · exact w_X1_grant_52 E hE X hR hC hex hZ hfl S x1 x2 x3 hP hS (lv_sub hl [0, 1, 2, 3] rfl) hf
  · refine lv_iconst (v := 1) hx hb dX1_grant_48 (by decide) ?_
    refine lv_goto (tgt := 53) hx hb dX1_grant_49 (by decide) ?_
    exact w_X1_grant_53 E hE X hR hC hex hZ hfl S x1 x2 x3 1 hP hS (lv_sub hl [0, 1, 2, 3] rfl) hf
set_option maxHeartbeats 4000000 in
theorem w_X1_grant {p : Program} {l : Launch} {e : Env} {R : Room} {s : State} {m : MethodId} {args : Array Value} {below : List Frame} {meth : Method} {c : Code} {D : va_G} {dA : Nat → ClassId} {A : Nat → Prop} {ad : L3 → Nat} (E : L3 → Bool) (hE : EOK E) (X : CX RX1 cX1_grant 4 none (KA D dA) p s m args meth c A) (hR : 7 ≤ R.frames ∧ 110 ≤ R.locals) (hC : 2 ≤ R.cells ∧ 12 ≤ R.slots) (hex : c.exceptionTable.isEmpty = true) (hZ : ZT A s s.heap) (hfl : l.flags = flags0) {res : Mem × (Nat ⊕ Unit)} (S : Mem) (x1 : Int32) (x2 : Int32) (x3 : Int32) {H : Heap} {locs : List Loc} {ls : Array Slot} (hP : Wd D clA (shC dA E) (exC E) A ad S H) (hS : va_S A s.heap H locs) (hl : lv_has ls 4 [(0, .ref (ad C_o)), (1, .int x1), (2, .int x2), (3, .int x3)]) (hf : f_X1_grant S x1 x2 x3 = some res) : W p l e R s m args below meth c H locs 0 0 (MQX below (QX D (shC dA E) (exC E) A ad (fun v u => ∃ r : Unit, v = none ∧ res = (u, .inr r)) (fun cd u => res = (u, .inl cd))) args s 2 12 A) (F0 m 0 ls []) := by
  have hx := X.hx
  have hb := X.hb
  unfold f_X1_grant at hf
  refine lv_iload_n hx hb dX1_grant_0 rfl (lv_at hl 1 rfl) ?_
  refine lv_i2l hx hb dX1_grant_1 rfl ?_
  refine lv_lconst (v := 0) hx hb dX1_grant_2 (by decide) ?_
  refine lv_lconst (v := 1) hx hb dX1_grant_3 (by decide) ?_
  obtain ⟨v1, hq, hf⟩ := gS_eq hf
  refine gc_i (gc_fixS (S := S) X (mt_X1_in l D dA A ad E hE S (Int32.toInt64 x1) (0 : Int64) (1 : Int64) hq) (lw_S q396 q397 q86 q398) ⟨rfl, rfl⟩ hd_X1_in.2 ⟨Nat.le_trans (Nat.le_of_ble_eq_true rfl) hR.1, Nat.le_trans (Nat.le_of_ble_eq_true rfl) hR.2⟩ hP hS ⟨Nat.le_trans (Nat.le_of_ble_eq_true rfl) hC.1, Nat.le_trans (Nat.le_of_ble_eq_true rfl) hC.2⟩ rfl hl.1 rfl (Nat.le_of_ble_eq_true rfl) dX1_grant_4) hS ?_
  rintro _ _ H locs ⟨rfl, rfl⟩ hP hS
  refine gb_if_eq (tgt := 52) hx hb dX1_grant_7 (by decide) hf (fun hf => ?_) (fun hf => ?_)
  · exact w_X1_grant_52 E hE X hR hC hex hZ hfl S x1 x2 x3 hP hS (lv_sub hl [0, 1, 2, 3] rfl) hf
  · refine lv_iload_n hx hb dX1_grant_10 rfl (lv_at hl 2 rfl) ?_
    refine lv_i2l hx hb dX1_grant_11 rfl ?_
    refine lv_ldc2 hx hb X.hown (X.hts _ q399) dX1_grant_12 ?_
    refine lv_ldc2 hx hb X.hown (X.hts _ q400) dX1_grant_15 ?_
    obtain ⟨v2, hq, hf⟩ := gS_eq hf
    refine gc_i (gc_fixS (S := S) X (mt_X1_in l D dA A ad E hE S (Int32.toInt64 x2) (4 : Int64) (9 : Int64) hq) (lw_S q396 q397 q86 q398) ⟨rfl, rfl⟩ hd_X1_in.2 ⟨Nat.le_trans (Nat.le_of_ble_eq_true rfl) hR.1, Nat.le_trans (Nat.le_of_ble_eq_true rfl) hR.2⟩ hP hS ⟨Nat.le_trans (Nat.le_of_ble_eq_true rfl) hC.1, Nat.le_trans (Nat.le_of_ble_eq_true rfl) hC.2⟩ rfl hl.1 rfl (Nat.le_of_ble_eq_true rfl) dX1_grant_18) hS ?_
    rintro _ _ H locs ⟨rfl, rfl⟩ hP hS
    refine gb_if_eq (tgt := 52) hx hb dX1_grant_21 (by decide) hf (fun hf => ?_) (fun hf => ?_)
    · exact w_X1_grant_52 E hE X hR hC hex hZ hfl S x1 x2 x3 hP hS (lv_sub hl [0, 1, 2, 3] rfl) hf
    · refine lv_iload_n hx hb dX1_grant_24 rfl (lv_at hl 3 rfl) ?_
      refine lv_i2l hx hb dX1_grant_25 rfl ?_
      refine lv_lconst (v := 0) hx hb dX1_grant_26 (by decide) ?_
      refine lv_iload_n hx hb dX1_grant_27 rfl (lv_at hl 2 rfl) ?_
      refine lv_bipush (v := 8) hx hb dX1_grant_28 (by decide) ?_
      refine gb_icmp_ge (tgt := 39) hx hb dX1_grant_30 (by decide) hf (fun hf => ?_) (fun hf => ?_)
      · refine lv_ldc2 hx hb X.hown (X.hts _ q402) dX1_grant_39 ?_
        exact w_X1_grant_42 E hE X hR hC hex hZ hfl S x1 x2 x3 64 0 (Int32.toInt64 x3) hP hS (lv_sub hl [0, 1, 2, 3] rfl) hf
      · refine lv_ldc2 hx hb X.hown (X.hts _ q401) dX1_grant_33 ?_
        refine lv_goto (tgt := 42) hx hb dX1_grant_36 (by decide) ?_
        exact w_X1_grant_42 E hE X hR hC hex hZ hfl S x1 x2 x3 65536 0 (Int32.toInt64 x3) hP hS (lv_sub hl [0, 1, 2, 3] rfl) hf
theorem hd_X1_grant : yX1_grant.cls = RX1 ∧ yX1_grant.cls ≠ "java/lang/invoke/MethodHandle" ∧ yX1_grant.cls ≠ "java/lang/invoke/VarHandle" ∧ (parseMethodDescriptor yX1_grant.desc).map (fun d => d.parameters.length) = some 3 := by decide +kernel
set_option maxHeartbeats 4000000 in
theorem mt_X1_grant (l : Launch) (D : va_G) (dA : Nat → ClassId) (A : Nat → Prop) (ad : L3 → Nat) (E : L3 → Bool) (hE : EOK E) (hfl : l.flags = flags0) (S : Mem) (x1 : Int32) (x2 : Int32) (x3 : Int32) {res : Mem × (Nat ⊕ Unit)} (hq : f_X1_grant S x1 x2 x3 = some res) : MetX l yX1_grant (ws_ yX1_grant cX1_grant 4 none) ({ frames := 7, cells := 2, slots := 12, locals := 110 } : Room) (va_Pc [.ref (ad C_o), .int x1, .int x2, .int x3] (PreX D dA (shC dA E) (exC E) A ad S)) (QX D (shC dA E) (exC E) A ad (fun v u => ∃ r : Unit, v = none ∧ res = (u, .inr r)) (fun cd u => res = (u, .inl cd))) 2 12 A :=
  gx_headX (by decide) (Nat.le_of_ble_eq_true rfl) (fun p e s m below meth c ls X hex hZ hP hl => w_X1_grant (l := l) E hE X ⟨Nat.le_of_ble_eq_true rfl, Nat.le_of_ble_eq_true rfl⟩ ⟨Nat.le_of_ble_eq_true rfl, Nat.le_of_ble_eq_true rfl⟩ hex hZ hfl S x1 x2 x3 hP va_S.rf (lv_sub (l := [(0, .ref (ad C_o)), (1, .int x1), (2, .int x2), (3, .int x3)]) hl [0, 1, 2, 3] rfl) hq)
set_option maxHeartbeats 4000000 in
theorem w_X1_join_22_b {p : Program} {l : Launch} {e : Env} {R : Room} {s : State} {m : MethodId} {args : Array Value} {below : List Frame} {meth : Method} {c : Code} {D : va_G} {dA : Nat → ClassId} {A : Nat → Prop} {ad : L3 → Nat} (E : L3 → Bool) (hE : EOK E) (X : CX RX1 cX1_join 3 none (KA D dA) p s m args meth c A) (hR : 7 ≤ R.frames ∧ 110 ≤ R.locals) (hC : 1 ≤ R.cells ∧ 6 ≤ R.slots) (hex : c.exceptionTable.isEmpty = true) (hZ : ZT A s s.heap) (hfl : l.flags = flags0) {res : Mem × (Nat ⊕ Unit)} (k22 : Mem → Int32 → Option (Mem × (Nat ⊕ Unit))) (hk22 : ∀ (S : Mem) (x1 : Int32) (H : Heap) (locs : List Loc) (ls : Array Slot), Wd D clA (shC dA E) (exC E) A ad S H → va_S A s.heap H locs → lv_has ls 3 [(0, .ref (ad C_o)), (1, .int x1)] → k22 S x1 = some res → W p l e R s m args below meth c H locs 1 6 (MQX below (QX D (shC dA E) (exC E) A ad (fun v u => ∃ r : Unit, v = none ∧ res = (u, .inr r)) (fun cd u => res = (u, .inl cd))) args s 1 6 A) (F0 m 22 ls [])) (S : Mem) (x1 : Int32) {H : Heap} {locs : List Loc} {ls : Array Slot} (hP : Wd D clA (shC dA E) (exC E) A ad S H) (hS : va_S A s.heap H locs) (hl : lv_has ls 3 [(0, .ref (ad C_o)), (1, .int x1)]) (hf : f_X1_join_22_b k22 S x1 = some res) : W p l e R s m args below meth c H locs 1 6 (MQX below (QX D (shC dA E) (exC E) A ad (fun v u => ∃ r : Unit, v = none ∧ res = (u, .inr r)) (fun cd u => res = (u, .inl cd))) args s 1 6 A) (F0 m 22 ls []) := by
  have hx := X.hx
  have hb := X.hb
  unfold f_X1_join_22_b at hf
  refine lv_iload_n hx hb dX1_join_22 rfl (lv_at hl 1 rfl) ?_
  refine lv_iconst (v := 2) hx hb dX1_join_23 (by decide) ?_
  refine gb_icmp_ge (tgt := 75) hx hb dX1_join_24 (by decide) hf (fun hf => ?_) (fun hf => ?_)
  · exact xr_v X hP hS ⟨(), rfl, (Option.some.inj hf).symm⟩ (Nat.le_of_ble_eq_true rfl) (Nat.le_of_ble_eq_true rfl) dX1_join_75
  · refine lv_aload_n hx hb dX1_join_27 rfl (lv_at hl 0 rfl) ?_
    refine rg_X1_26 X hP (ex_C_o hE) dX1_join_28 ?_
    refine lv_iload_n hx hb dX1_join_31 rfl (lv_at hl 1 rfl) ?_
    refine ra_C_grants_ld X hP (ex_C_grants hE) dX1_join_32 hf (fun hi1 hf => ?_)
    refine lv_astore_n (lv' := [(2, .ref (ad (C_grow (Int32.toNatClampNeg x1)))), (0, .ref (ad C_o)), (1, .int x1)]) hx hb dX1_join_33 rfl hl (by decide) rfl (fun ls hl => ?_)
    refine lv_aload_n hx hb dX1_join_34 rfl (lv_at hl 1 rfl) ?_
    refine rg_X1_18 X hP (ex_C_o hE) dX1_join_35 ?_
    refine lv_iconst (v := 1) hx hb dX1_join_38 (by decide) ?_
    refine lv_iload_n hx hb dX1_join_39 rfl (lv_at hl 2 rfl) ?_
    refine lv_isub hx hb dX1_join_40 ?_
    refine ra_C_halls_ld X hP (ex_C_halls hE) dX1_join_41 hf (fun hi2 hf => ?_)
    refine lv_aload_n hx hb dX1_join_42 rfl (lv_at hl 0 rfl) ?_
    refine lv_iconst (v := 0) hx hb dX1_join_43 (by decide) ?_
    refine ra_C_grow_ld X hP (ex_C_grow hE hi1) dX1_join_44 hf (fun hf => ?_)
    refine lv_i2l hx hb dX1_join_45 rfl ?_
    refine lv_aload_n hx hb dX1_join_46 rfl (lv_at hl 0 rfl) ?_
    refine lv_iconst (v := 1) hx hb dX1_join_47 (by decide) ?_
    refine ra_C_grow_ld X hP (ex_C_grow hE hi1) dX1_join_48 hf (fun hf => ?_)
    refine lv_i2l hx hb dX1_join_49 rfl ?_
    refine lv_aload_n hx hb dX1_join_50 rfl (lv_at hl 0 rfl) ?_
    refine lv_iconst (v := 2) hx hb dX1_join_51 (by decide) ?_
    refine ra_C_grow_ld X hP (ex_C_grow hE hi1) dX1_join_52 hf (fun hf => ?_)
    refine lv_i2l hx hb dX1_join_53 rfl ?_
    refine lv_aload_n hx hb dX1_join_54 rfl (lv_at hl 0 rfl) ?_
    refine lv_iconst (v := 3) hx hb dX1_join_55 (by decide) ?_
    refine ra_C_grow_ld X hP (ex_C_grow hE hi1) dX1_join_56 hf (fun hf => ?_)
    refine lv_i2l hx hb dX1_join_57 rfl ?_
    refine lv_aload_n hx hb dX1_join_58 rfl (lv_at hl 0 rfl) ?_
    refine lv_iconst (v := 4) hx hb dX1_join_59 (by decide) ?_
    refine ra_C_grow_ld X hP (ex_C_grow hE hi1) dX1_join_60 hf (fun hf => ?_)
    refine lv_i2l hx hb dX1_join_61 rfl ?_
    refine lv_aload_n hx hb dX1_join_62 rfl (lv_at hl 0 rfl) ?_
    refine lv_iconst (v := 5) hx hb dX1_join_63 (by decide) ?_
    refine ra_C_grow_ld X hP (ex_C_grow hE hi1) dX1_join_64 hf (fun hf => ?_)
    refine lv_i2l hx hb dX1_join_65 rfl ?_
    obtain ⟨S3, hq, hf⟩ := gB_some hf
    refine gc_v (gc_fixV (S := S) X (mt_X2_limits l D dA A ad E (Int32.toNatClampNeg (1 - x1)) hE hi2 S (Int32.toInt64 (S.1 (C_grow (Int32.toNatClampNeg x1)) (Int32.toNatClampNeg 0))) (Int32.toInt64 (S.1 (C_grow (Int32.toNatClampNeg x1)) (Int32.toNatClampNeg 1))) (Int32.toInt64 (S.1 (C_grow (Int32.toNatClampNeg x1)) (Int32.toNatClampNeg 2))) (Int32.toInt64 (S.1 (C_grow (Int32.toNatClampNeg x1)) (Int32.toNatClampNeg 3))) (Int32.toInt64 (S.1 (C_grow (Int32.toNatClampNeg x1)) (Int32.toNatClampNeg 4))) (Int32.toInt64 (S.1 (C_grow (Int32.toNatClampNeg x1)) (Int32.toNatClampNeg 5))) hq) (lw_V q494 q495 q496 q87 q497) ⟨rfl, rfl⟩ hd_X2_limits ⟨Nat.le_trans (Nat.le_of_ble_eq_true rfl) hR.1, Nat.le_trans (Nat.le_of_ble_eq_true rfl) hR.2⟩ (wd_recv (r := H_o (Int32.toNatClampNeg (1 - x1))) (ci := 2) (q := (RX2, TX2, 23)) X.hK.1 hP (ex_H_o hE hi2) rfl rfl) hP hS ⟨Nat.le_trans (Nat.le_of_ble_eq_true rfl) hC.1, Nat.le_trans (Nat.le_of_ble_eq_true rfl) hC.2⟩ rfl hl.1 rfl (Nat.le_of_ble_eq_true rfl) dX1_join_66) hS ?_
    rintro _ H locs rfl hP hS
    refine lv_iinc (v := (x1 + 1)) (lv' := [(1, .int (x1 + 1)), (2, .ref (ad (C_grow (Int32.toNatClampNeg x1)))), (0, .ref (ad C_o))]) hx hb dX1_join_69 hl (k := 2) rfl rfl (by decide) rfl (fun ls hl => ?_)
    refine lv_goto (tgt := 22) hx hb dX1_join_72 (by decide) ?_
    exact hk22 S3 (x1 + 1) _ _ _ hP hS (lv_sub hl [2, 0] rfl) hf
set_option maxHeartbeats 4000000 in
theorem w_X1_join_22 {p : Program} {l : Launch} {e : Env} {R : Room} {s : State} {m : MethodId} {args : Array Value} {below : List Frame} {meth : Method} {c : Code} {D : va_G} {dA : Nat → ClassId} {A : Nat → Prop} {ad : L3 → Nat} (E : L3 → Bool) (hE : EOK E) (X : CX RX1 cX1_join 3 none (KA D dA) p s m args meth c A) (hR : 7 ≤ R.frames ∧ 110 ≤ R.locals) (hC : 1 ≤ R.cells ∧ 6 ≤ R.slots) (hex : c.exceptionTable.isEmpty = true) (hZ : ZT A s s.heap) (hfl : l.flags = flags0) {res : Mem × (Nat ⊕ Unit)} (n : Nat) : ∀ (S : Mem) (x1 : Int32) (H : Heap) (locs : List Loc) (ls : Array Slot), Wd D clA (shC dA E) (exC E) A ad S H → va_S A s.heap H locs → lv_has ls 3 [(0, .ref (ad C_o)), (1, .int x1)] → f_X1_join_22 n S x1 = some res → W p l e R s m args below meth c H locs 1 6 (MQX below (QX D (shC dA E) (exC E) A ad (fun v u => ∃ r : Unit, v = none ∧ res = (u, .inr r)) (fun cd u => res = (u, .inl cd))) args s 1 6 A) (F0 m 22 ls []) := by
  induction n with
  | zero =>
    intro S x1 H locs ls hP hS hl hf
    exact absurd (show none = some res from hf) (fun h => by cases h)
  | succ n ih =>
    intro S x1 H locs ls hP hS hl hf
    exact w_X1_join_22_b E hE X hR hC hex hZ hfl (f_X1_join_22 n) ih S x1 hP hS hl hf
set_option maxHeartbeats 4000000 in
theorem w_X1_join_12 {p : Program} {l : Launch} {e : Env} {R : Room} {s : State} {m : MethodId} {args : Array Value} {below : List Frame} {meth : Method} {c : Code} {D : va_G} {dA : Nat → ClassId} {A : Nat → Prop} {ad : L3 → Nat} (E : L3 → Bool) (hE : EOK E) (X : CX RX1 cX1_join 3 none (KA D dA) p s m args meth c A) (hR : 7 ≤ R.frames ∧ 110 ≤ R.locals) (hC : 1 ≤ R.cells ∧ 6 ≤ R.slots) (hex : c.exceptionTable.isEmpty = true) (hZ : ZT A s s.heap) (hfl : l.flags = flags0) {res : Mem × (Nat ⊕ Unit)} (S : Mem) (y0 : Int32) {H : Heap} {locs : List Loc} {ls : Array Slot} (hP : Wd D clA (shC dA E) (exC E) A ad S H) (hS : va_S A s.heap H locs) (hl : lv_has ls 3 [(0, .ref (ad C_o))]) (hf : f_X1_join_12 S y0 = some res) : W p l e R s m args below meth c H locs 0 0 (MQX below (QX D (shC dA E) (exC E) A ad (fun v u => ∃ r : Unit, v = none ∧ res = (u, .inr r)) (fun cd u => res = (u, .inl cd))) args s 1 6 A) (F0 m 12 ls [.int y0]) := by
  have hx := X.hx
  have hb := X.hb
  unfold f_X1_join_12 at hf
  obtain ⟨q1, hq⟩ : ∃ q, q = f_X1_ready y0 := ⟨_, rfl⟩
  rw [← hq] at hf
  refine xc_S (S := S) X hZ (mt_X1_ready l D dA A ad E hE hfl S y0 hq.symm) (lw_S q469 q470 q86 q471) ⟨rfl, rfl⟩ hd_X1_ready.2 ⟨Nat.le_trans (Nat.le_of_ble_eq_true rfl) hR.1, Nat.le_trans (Nat.le_of_ble_eq_true rfl) hR.2⟩ hP hS ⟨Nat.le_trans (Nat.le_of_ble_eq_true rfl) hC.1, Nat.le_trans (Nat.le_of_ble_eq_true rfl) hC.2⟩ rfl hl.1 rfl (Nat.le_of_ble_eq_true rfl) dX1_join_12 (kr := fun v u H locs hok hP hS => ?_) (kt := fun x cd u t H locs hbad ht hw hP hE hS => by obtain ⟨rfl, rfl⟩ := hbad; exact xt_leave X hex ht hw hP hE hS (gXW_inl hf) (Nat.le_of_ble_eq_true rfl) (Nat.le_of_ble_eq_true rfl))
  obtain ⟨_, rfl, rfl, rfl⟩ := hok
  replace hf := gXW_inr hf
  refine W.eq (g2 := F0 m 15 ls []) rfl ?_
  refine lv_aload_n hx hb dX1_join_15 rfl (lv_at hl 0 rfl) ?_
  refine lv_iconst (v := 1) hx hb dX1_join_16 (by decide) ?_
  refine rp_X1_82 X hP hS (ex_C_o hE) (by decide) dX1_join_17 hf (fun S2 H locs hP hS hf => ?_)
  refine lv_iconst (v := 0) hx hb dX1_join_20 (by decide) ?_
  refine lv_istore_n (lv' := [(1, .int 0), (0, .ref (ad C_o))]) hx hb dX1_join_21 rfl hl (by decide) rfl (fun ls hl => ?_)
  exact w_X1_join_22 E hE X hR hC hex hZ hfl FU S2 0 _ _ _ hP hS (lv_sub hl [1, 0] rfl) hf
set_option maxHeartbeats 4000000 in
theorem w_X1_join {p : Program} {l : Launch} {e : Env} {R : Room} {s : State} {m : MethodId} {args : Array Value} {below : List Frame} {meth : Method} {c : Code} {D : va_G} {dA : Nat → ClassId} {A : Nat → Prop} {ad : L3 → Nat} (E : L3 → Bool) (hE : EOK E) (X : CX RX1 cX1_join 3 none (KA D dA) p s m args meth c A) (hR : 7 ≤ R.frames ∧ 110 ≤ R.locals) (hC : 1 ≤ R.cells ∧ 6 ≤ R.slots) (hex : c.exceptionTable.isEmpty = true) (hZ : ZT A s s.heap) (hfl : l.flags = flags0) {res : Mem × (Nat ⊕ Unit)} (S : Mem) {H : Heap} {locs : List Loc} {ls : Array Slot} (hP : Wd D clA (shC dA E) (exC E) A ad S H) (hS : va_S A s.heap H locs) (hl : lv_has ls 3 [(0, .ref (ad C_o))]) (hf : f_X1_join S = some res) : W p l e R s m args below meth c H locs 0 0 (MQX below (QX D (shC dA E) (exC E) A ad (fun v u => ∃ r : Unit, v = none ∧ res = (u, .inr r)) (fun cd u => res = (u, .inl cd))) args s 1 6 A) (F0 m 0 ls []) := by
  have hx := X.hx
  have hb := X.hb
  unfold f_X1_join at hf
  refine lv_aload_n hx hb dX1_join_0 rfl (lv_at hl 0 rfl) ?_
  refine rg_X1_82 X hP (ex_C_o hE) dX1_join_1 ?_
  refine gb_if_ne (tgt := 11) hx hb dX1_join_4 (by decide) hf (fun hf => ?_) (fun hf => ?_)
  · refine lv_iconst (v := 0) hx hb dX1_join_11 (by decide) ?_
    exact w_X1_join_12 E hE X hR hC hex hZ hfl S 0 hP hS (lv_sub hl [0] rfl) hf
  · refine lv_iconst (v := 1) hx hb dX1_join_7 (by decide) ?_
    refine lv_goto (tgt := 12) hx hb dX1_join_8 (by decide) ?_
    exact w_X1_join_12 E hE X hR hC hex hZ hfl S 1 hP hS (lv_sub hl [0] rfl) hf
theorem hd_X1_join : yX1_join.cls = RX1 ∧ yX1_join.cls ≠ "java/lang/invoke/MethodHandle" ∧ yX1_join.cls ≠ "java/lang/invoke/VarHandle" ∧ (parseMethodDescriptor yX1_join.desc).map (fun d => d.parameters.length) = some 0 := by decide +kernel
set_option maxHeartbeats 4000000 in
theorem mt_X1_join (l : Launch) (D : va_G) (dA : Nat → ClassId) (A : Nat → Prop) (ad : L3 → Nat) (E : L3 → Bool) (hE : EOK E) (hfl : l.flags = flags0) (S : Mem) {res : Mem × (Nat ⊕ Unit)} (hq : f_X1_join S = some res) : MetX l yX1_join (ws_ yX1_join cX1_join 3 none) ({ frames := 7, cells := 1, slots := 6, locals := 110 } : Room) (va_Pc [.ref (ad C_o)] (PreX D dA (shC dA E) (exC E) A ad S)) (QX D (shC dA E) (exC E) A ad (fun v u => ∃ r : Unit, v = none ∧ res = (u, .inr r)) (fun cd u => res = (u, .inl cd))) 1 6 A :=
  gx_headX (by decide) (Nat.le_of_ble_eq_true rfl) (fun p e s m below meth c ls X hex hZ hP hl => w_X1_join (l := l) E hE X ⟨Nat.le_of_ble_eq_true rfl, Nat.le_of_ble_eq_true rfl⟩ ⟨Nat.le_of_ble_eq_true rfl, Nat.le_of_ble_eq_true rfl⟩ hex hZ hfl S hP va_S.rf (lv_sub (l := [(0, .ref (ad C_o))]) hl [0] rfl) hq)
set_option maxHeartbeats 4000000 in
theorem w_X1_feed_35_b {p : Program} {l : Launch} {e : Env} {R : Room} {s : State} {m : MethodId} {args : Array Value} {below : List Frame} {meth : Method} {c : Code} {D : va_G} {dA : Nat → ClassId} {A : Nat → Prop} {ad : L3 → Nat} (E : L3 → Bool) (hE : EOK E) (X : CX RX1 cX1_feed 5 (some .int) (KA D dA) p s m args meth c A) (hR : 7 ≤ R.frames ∧ 110 ≤ R.locals) (hC : 2 ≤ R.cells ∧ 12 ≤ R.slots) (hex : c.exceptionTable.isEmpty = true) (hZ : ZT A s s.heap) (hfl : l.flags = flags0) {res : Mem × (Nat ⊕ Int32)} (k35 : Mem → Int32 → Int64 → Int32 → Option (Mem × (Nat ⊕ Int32))) (hk35 : ∀ (S : Mem) (x1 : Int32) (x2 : Int64) (x4 : Int32) (H : Heap) (locs : List Loc) (ls : Array Slot), Wd D clA (shC dA E) (exC E) A ad S H → va_S A s.heap H locs → lv_has ls 5 [(0, .ref (ad C_o)), (1, .int x1), (2, .long x2), (4, .int x4)] → k35 S x1 x2 x4 = some res → W p l e R s m args below meth c H locs 2 12 (MQX below (QX D (shC dA E) (exC E) A ad (fun v u => ∃ r : Int32, v = some (.int r) ∧ res = (u, .inr r)) (fun cd u => res = (u, .inl cd))) args s 2 12 A) (F0 m 35 ls [])) (S : Mem) (x1 : Int32) (x2 : Int64) (x4 : Int32) {H : Heap} {locs : List Loc} {ls : Array Slot} (hP : Wd D clA (shC dA E) (exC E) A ad S H) (hS : va_S A s.heap H locs) (hl : lv_has ls 5 [(0, .ref (ad C_o)), (1, .int x1), (2, .long x2), (4, .int x4)]) (hf : f_X1_feed_35_b k35 S x1 x2 x4 = some res) : W p l e R s m args below meth c H locs 2 12 (MQX below (QX D (shC dA E) (exC E) A ad (fun v u => ∃ r : Int32, v = some (.int r) ∧ res = (u, .inr r)) (fun cd u => res = (u, .inl cd))) args s 2 12 A) (F0 m 35 ls []) := by
  have hx := X.hx
  have hb := X.hb
  unfold f_X1_feed_35_b at hf
  refine lv_iload hx hb dX1_feed_35 (lv_at hl 3 rfl) ?_
  refine lv_iload_n hx hb dX1_feed_37 rfl (lv_at hl 1 rfl) ?_
  refine gb_icmp_ge (tgt := 72) hx hb dX1_feed_38 (by decide) hf (fun hf => ?_) (fun hf => ?_)
  · refine lv_aload_n hx hb dX1_feed_72 rfl (lv_at hl 0 rfl) ?_
    refine rg_X1_94 X hP (ex_C_o hE) dX1_feed_73 ?_
    exact xr_i X hP hS ⟨_, rfl, (Option.some.inj hf).symm⟩ (Nat.le_of_ble_eq_true rfl) (Nat.le_of_ble_eq_true rfl) dX1_feed_76
  · refine lv_aload_n hx hb dX1_feed_41 rfl (lv_at hl 0 rfl) ?_
    refine rg_X1_36 X hP (ex_C_o hE) dX1_feed_42 ?_
    refine lv_aload_n hx hb dX1_feed_45 rfl (lv_at hl 0 rfl) ?_
    refine lv_dup hx hb dX1_feed_46 rfl ?_
    refine rg_X1_94 X hP (ex_C_o hE) dX1_feed_47 ?_
    refine lv_dup_x1 hx hb dX1_feed_50 rfl rfl ?_
    refine lv_iconst (v := 1) hx hb dX1_feed_51 (by decide) ?_
    refine lv_iadd hx hb dX1_feed_52 ?_
    refine rp_X1_94 X hP hS (ex_C_o hE) dX1_feed_53 hf (fun S1 H locs hP hS hf => ?_)
    refine lv_lload_n hx hb dX1_feed_56 rfl (lv_at hl 2 rfl) ?_
    refine lv_bipush (v := 8) hx hb dX1_feed_57 (by decide) ?_
    refine lv_iload hx hb dX1_feed_59 (lv_at hl 3 rfl) ?_
    refine lv_imul hx hb dX1_feed_61 ?_
    refine lv_lshr hx hb dX1_feed_62 rfl ?_
    refine lv_l2i hx hb dX1_feed_63 rfl ?_
    refine lv_i2b hx hb dX1_feed_64 rfl ?_
    refine ra_C_tape_st X hP hS (ex_C_tape hE) dX1_feed_65 hf (fun S2 H locs hP hS hf => ?_)
    refine lv_iinc (v := (x4 + 1)) (lv' := [(4, .int (x4 + 1)), (0, .ref (ad C_o)), (1, .int x1), (2, .long x2)]) hx hb dX1_feed_66 hl (k := 3) rfl rfl (by decide) rfl (fun ls hl => ?_)
    refine lv_goto (tgt := 35) hx hb dX1_feed_69 (by decide) ?_
    exact hk35 S2 x1 x2 (x4 + 1) _ _ _ hP hS (lv_sub hl [1, 2, 3, 0] rfl) hf
set_option maxHeartbeats 4000000 in
theorem w_X1_feed_35 {p : Program} {l : Launch} {e : Env} {R : Room} {s : State} {m : MethodId} {args : Array Value} {below : List Frame} {meth : Method} {c : Code} {D : va_G} {dA : Nat → ClassId} {A : Nat → Prop} {ad : L3 → Nat} (E : L3 → Bool) (hE : EOK E) (X : CX RX1 cX1_feed 5 (some .int) (KA D dA) p s m args meth c A) (hR : 7 ≤ R.frames ∧ 110 ≤ R.locals) (hC : 2 ≤ R.cells ∧ 12 ≤ R.slots) (hex : c.exceptionTable.isEmpty = true) (hZ : ZT A s s.heap) (hfl : l.flags = flags0) {res : Mem × (Nat ⊕ Int32)} (n : Nat) : ∀ (S : Mem) (x1 : Int32) (x2 : Int64) (x4 : Int32) (H : Heap) (locs : List Loc) (ls : Array Slot), Wd D clA (shC dA E) (exC E) A ad S H → va_S A s.heap H locs → lv_has ls 5 [(0, .ref (ad C_o)), (1, .int x1), (2, .long x2), (4, .int x4)] → f_X1_feed_35 n S x1 x2 x4 = some res → W p l e R s m args below meth c H locs 2 12 (MQX below (QX D (shC dA E) (exC E) A ad (fun v u => ∃ r : Int32, v = some (.int r) ∧ res = (u, .inr r)) (fun cd u => res = (u, .inl cd))) args s 2 12 A) (F0 m 35 ls []) := by
  induction n with
  | zero =>
    intro S x1 x2 x4 H locs ls hP hS hl hf
    exact absurd (show none = some res from hf) (fun h => by cases h)
  | succ n ih =>
    intro S x1 x2 x4 H locs ls hP hS hl hf
    exact w_X1_feed_35_b E hE X hR hC hex hZ hfl (f_X1_feed_35 n) ih S x1 x2 x4 hP hS hl hf
set_option maxHeartbeats 4000000 in
theorem w_X1_feed_29 {p : Program} {l : Launch} {e : Env} {R : Room} {s : State} {m : MethodId} {args : Array Value} {below : List Frame} {meth : Method} {c : Code} {D : va_G} {dA : Nat → ClassId} {A : Nat → Prop} {ad : L3 → Nat} (E : L3 → Bool) (hE : EOK E) (X : CX RX1 cX1_feed 5 (some .int) (KA D dA) p s m args meth c A) (hR : 7 ≤ R.frames ∧ 110 ≤ R.locals) (hC : 2 ≤ R.cells ∧ 12 ≤ R.slots) (hex : c.exceptionTable.isEmpty = true) (hZ : ZT A s s.heap) (hfl : l.flags = flags0) {res : Mem × (Nat ⊕ Int32)} (S : Mem) (x1 : Int32) (x2 : Int64) (y0 : Int32) {H : Heap} {locs : List Loc} {ls : Array Slot} (hP : Wd D clA (shC dA E) (exC E) A ad S H) (hS : va_S A s.heap H locs) (hl : lv_has ls 5 [(0, .ref (ad C_o)), (1, .int x1), (2, .long x2)]) (hf : f_X1_feed_29 S x1 x2 y0 = some res) : W p l e R s m args below meth c H locs 1 6 (MQX below (QX D (shC dA E) (exC E) A ad (fun v u => ∃ r : Int32, v = some (.int r) ∧ res = (u, .inr r)) (fun cd u => res = (u, .inl cd))) args s 2 12 A) (F0 m 29 ls [.int y0]) := by
  have hx := X.hx
  have hb := X.hb
  unfold f_X1_feed_29 at hf
  obtain ⟨q1, hq⟩ : ∃ q, q = f_X1_ready y0 := ⟨_, rfl⟩
  rw [← hq] at hf
  refine xc_S (S := S) X hZ (mt_X1_ready l D dA A ad E hE hfl S y0 hq.symm) (lw_S q469 q470 q86 q471) ⟨rfl, rfl⟩ hd_X1_ready.2 ⟨Nat.le_trans (Nat.le_of_ble_eq_true rfl) hR.1, Nat.le_trans (Nat.le_of_ble_eq_true rfl) hR.2⟩ hP hS ⟨Nat.le_trans (Nat.le_of_ble_eq_true rfl) hC.1, Nat.le_trans (Nat.le_of_ble_eq_true rfl) hC.2⟩ rfl hl.1 rfl (Nat.le_of_ble_eq_true rfl) dX1_feed_29 (kr := fun v u H locs hok hP hS => ?_) (kt := fun x cd u t H locs hbad ht hw hP hE hS => by obtain ⟨rfl, rfl⟩ := hbad; exact xt_leave X hex ht hw hP hE hS (gXW_inl hf) (Nat.le_of_ble_eq_true rfl) (Nat.le_of_ble_eq_true rfl))
  obtain ⟨_, rfl, rfl, rfl⟩ := hok
  replace hf := gXW_inr hf
  refine W.eq (g2 := F0 m 32 ls []) rfl ?_
  refine lv_iconst (v := 0) hx hb dX1_feed_32 (by decide) ?_
  refine lv_istore (lv' := [(4, .int 0), (0, .ref (ad C_o)), (1, .int x1), (2, .long x2)]) hx hb dX1_feed_33 hl (by decide) rfl (fun ls hl => ?_)
  exact w_X1_feed_35 E hE X hR hC hex hZ hfl FU S x1 x2 0 _ _ _ hP hS (lv_sub hl [1, 2, 3, 0] rfl) hf
set_option maxHeartbeats 4000000 in
theorem w_X1_feed {p : Program} {l : Launch} {e : Env} {R : Room} {s : State} {m : MethodId} {args : Array Value} {below : List Frame} {meth : Method} {c : Code} {D : va_G} {dA : Nat → ClassId} {A : Nat → Prop} {ad : L3 → Nat} (E : L3 → Bool) (hE : EOK E) (X : CX RX1 cX1_feed 5 (some .int) (KA D dA) p s m args meth c A) (hR : 7 ≤ R.frames ∧ 110 ≤ R.locals) (hC : 2 ≤ R.cells ∧ 12 ≤ R.slots) (hex : c.exceptionTable.isEmpty = true) (hZ : ZT A s s.heap) (hfl : l.flags = flags0) {res : Mem × (Nat ⊕ Int32)} (S : Mem) (x1 : Int32) (x2 : Int64) {H : Heap} {locs : List Loc} {ls : Array Slot} (hP : Wd D clA (shC dA E) (exC E) A ad S H) (hS : va_S A s.heap H locs) (hl : lv_has ls 5 [(0, .ref (ad C_o)), (1, .int x1), (2, .long x2)]) (hf : f_X1_feed S x1 x2 = some res) : W p l e R s m args below meth c H locs 0 0 (MQX below (QX D (shC dA E) (exC E) A ad (fun v u => ∃ r : Int32, v = some (.int r) ∧ res = (u, .inr r)) (fun cd u => res = (u, .inl cd))) args s 2 12 A) (F0 m 0 ls []) := by
  have hx := X.hx
  have hb := X.hb
  unfold f_X1_feed at hf
  refine lv_iload_n hx hb dX1_feed_0 rfl (lv_at hl 1 rfl) ?_
  refine lv_i2l hx hb dX1_feed_1 rfl ?_
  refine lv_lconst (v := 1) hx hb dX1_feed_2 (by decide) ?_
  refine lv_ldc2 hx hb X.hown (X.hts _ q509) dX1_feed_3 ?_
  obtain ⟨v1, hq, hf⟩ := gS_eq hf
  refine gc_i (gc_fixS (S := S) X (mt_X1_in l D dA A ad E hE S (Int32.toInt64 x1) (1 : Int64) (8 : Int64) hq) (lw_S q396 q397 q86 q398) ⟨rfl, rfl⟩ hd_X1_in.2 ⟨Nat.le_trans (Nat.le_of_ble_eq_true rfl) hR.1, Nat.le_trans (Nat.le_of_ble_eq_true rfl) hR.2⟩ hP hS ⟨Nat.le_trans (Nat.le_of_ble_eq_true rfl) hC.1, Nat.le_trans (Nat.le_of_ble_eq_true rfl) hC.2⟩ rfl hl.1 rfl (Nat.le_of_ble_eq_true rfl) dX1_feed_6) hS ?_
  rintro _ _ H locs ⟨rfl, rfl⟩ hP hS
  obtain ⟨q2, hq⟩ : ∃ q, q = f_X1_need v1 := ⟨_, rfl⟩
  rw [← hq] at hf
  refine xc_S (S := S) X hZ (mt_X1_need l D dA A ad E hE hfl S v1 hq.symm) (lw_S q403 q404 q86 q405) ⟨rfl, rfl⟩ hd_X1_need.2 ⟨Nat.le_trans (Nat.le_of_ble_eq_true rfl) hR.1, Nat.le_trans (Nat.le_of_ble_eq_true rfl) hR.2⟩ hP hS ⟨Nat.le_trans (Nat.le_of_ble_eq_true rfl) hC.1, Nat.le_trans (Nat.le_of_ble_eq_true rfl) hC.2⟩ rfl hl.1 rfl (Nat.le_of_ble_eq_true rfl) dX1_feed_9 (kr := fun v u H locs hok hP hS => ?_) (kt := fun x cd u t H locs hbad ht hw hP hE hS => by obtain ⟨rfl, rfl⟩ := hbad; exact xt_leave X hex ht hw hP hE hS (gXW_inl hf) (Nat.le_of_ble_eq_true rfl) (Nat.le_of_ble_eq_true rfl))
  obtain ⟨_, rfl, rfl, rfl⟩ := hok
  replace hf := gXW_inr hf
  refine W.eq (g2 := F0 m 12 ls []) rfl ?_
  refine lv_aload_n hx hb dX1_feed_12 rfl (lv_at hl 0 rfl) ?_
  refine rg_X1_94 X hP (ex_C_o hE) dX1_feed_13 ?_
  refine lv_iload_n hx hb dX1_feed_16 rfl (lv_at hl 1 rfl) ?_
  refine lv_iadd hx hb dX1_feed_17 ?_
  refine lv_sipush (v := 2048) hx hb dX1_feed_18 (by decide) ?_
  refine gb_icmp_gt (tgt := 28) hx hb dX1_feed_21 (by decide) hf (fun hf => ?_) (fun hf => ?_)
  · refine lv_iconst (v := 0) hx hb dX1_feed_28 (by decide) ?_
    exact w_X1_feed_29 E hE X hR hC hex hZ hfl S x1 x2 0 hP hS (lv_sub hl [0, 1, 2] rfl) hf
  · refine lv_iconst (v := 1) hx hb dX1_feed_24 (by decide) ?_
    refine lv_goto (tgt := 29) hx hb dX1_feed_25 (by decide) ?_
    exact w_X1_feed_29 E hE X hR hC hex hZ hfl S x1 x2 1 hP hS (lv_sub hl [0, 1, 2] rfl) hf
theorem hd_X1_feed : yX1_feed.cls = RX1 ∧ yX1_feed.cls ≠ "java/lang/invoke/MethodHandle" ∧ yX1_feed.cls ≠ "java/lang/invoke/VarHandle" ∧ (parseMethodDescriptor yX1_feed.desc).map (fun d => d.parameters.length) = some 2 := by decide +kernel
set_option maxHeartbeats 4000000 in
theorem mt_X1_feed (l : Launch) (D : va_G) (dA : Nat → ClassId) (A : Nat → Prop) (ad : L3 → Nat) (E : L3 → Bool) (hE : EOK E) (hfl : l.flags = flags0) (S : Mem) (x1 : Int32) (x2 : Int64) {res : Mem × (Nat ⊕ Int32)} (hq : f_X1_feed S x1 x2 = some res) : MetX l yX1_feed (ws_ yX1_feed cX1_feed 5 (some .int)) ({ frames := 7, cells := 2, slots := 12, locals := 110 } : Room) (va_Pc [.ref (ad C_o), .int x1, .long x2] (PreX D dA (shC dA E) (exC E) A ad S)) (QX D (shC dA E) (exC E) A ad (fun v u => ∃ r : Int32, v = some (.int r) ∧ res = (u, .inr r)) (fun cd u => res = (u, .inl cd))) 2 12 A :=
  gx_headX (by decide) (Nat.le_of_ble_eq_true rfl) (fun p e s m below meth c ls X hex hZ hP hl => w_X1_feed (l := l) E hE X ⟨Nat.le_of_ble_eq_true rfl, Nat.le_of_ble_eq_true rfl⟩ ⟨Nat.le_of_ble_eq_true rfl, Nat.le_of_ble_eq_true rfl⟩ hex hZ hfl S x1 x2 hP va_S.rf (lv_sub (l := [(0, .ref (ad C_o)), (1, .int x1), (2, .long x2)]) hl [0, 1, 2] rfl) hq)
set_option maxHeartbeats 4000000 in
theorem w_X1_write {p : Program} {l : Launch} {e : Env} {R : Room} {s : State} {m : MethodId} {args : Array Value} {below : List Frame} {meth : Method} {c : Code} {D : va_G} {dA : Nat → ClassId} {A : Nat → Prop} {ad : L3 → Nat} (E : L3 → Bool) (hE : EOK E) (X : CX RX1 cX1_write 4 (some .int) (KA D dA) p s m args meth c A) (hR : 8 ≤ R.frames ∧ 131 ≤ R.locals) (hC : 1 ≤ R.cells ∧ 6 ≤ R.slots) (hex : c.exceptionTable.isEmpty = true) (hZ : ZT A s s.heap) (hfl : l.flags = flags0) {res : Mem × (Nat ⊕ Int32)} (S : Mem) (x1 : Int32) (x2 : Int32) {H : Heap} {locs : List Loc} {ls : Array Slot} (hP : Wd D clA (shC dA E) (exC E) A ad S H) (hS : va_S A s.heap H locs) (hl : lv_has ls 4 [(0, .ref (ad C_o)), (1, .int x1), (2, .int x2)]) (hf : f_X1_write E S x1 x2 = some res) : W p l e R s m args below meth c H locs 0 0 (MQX below (QX D (shC dA E) (exC E) A ad (fun v u => ∃ r : Int32, v = some (.int r) ∧ res = (u, .inr r)) (fun cd u => res = (u, .inl cd))) args s 1 6 A) (F0 m 0 ls []) := by
  have hx := X.hx
  have hb := X.hb
  unfold f_X1_write at hf
  refine lv_aload_n hx hb dX1_write_0 rfl (lv_at hl 0 rfl) ?_
  refine lv_iload_n hx hb dX1_write_1 rfl (lv_at hl 1 rfl) ?_
  obtain ⟨q1, hq, hf⟩ := gB_some hf
  refine xc_V (S := S) X hZ (mt_X1_hall l D dA A ad E hE hfl S x1 hq) (lw_V q517 q519 qs2 q86 q520) ⟨rfl, rfl⟩ hd_X1_hall ⟨Nat.le_trans (Nat.le_of_ble_eq_true rfl) hR.1, Nat.le_trans (Nat.le_of_ble_eq_true rfl) hR.2⟩ (wd_recv (r := C_o) (ci := 1) (q := (RX1, TX1, 8)) X.hK.1 hP (ex_C_o hE) rfl rfl) hP hS ⟨Nat.le_trans (Nat.le_of_ble_eq_true rfl) hC.1, Nat.le_trans (Nat.le_of_ble_eq_true rfl) hC.2⟩ rfl hl.1 rfl (Nat.le_of_ble_eq_true rfl) dX1_write_2 (kr := fun v u H locs hok hP hS => ?_) (kt := fun x cd u t H locs hbad ht hw hP hE hS => by obtain ⟨rfl, rfl⟩ := hbad; exact xt_leave X hex ht hw hP hE hS (gXW_inl hf) (Nat.le_of_ble_eq_true rfl) (Nat.le_of_ble_eq_true rfl))
  obtain ⟨v2, rfl, rfl, rfl, hr3⟩ := hok
  replace hf := gXW_inr hf
  refine W.eq (g2 := F0 m 5 ls [.ref (ad (H_o v2))]) rfl ?_
  refine lv_iload_n hx hb dX1_write_5 rfl (lv_at hl 2 rfl) ?_
  refine lv_aload_n hx hb dX1_write_6 rfl (lv_at hl 0 rfl) ?_
  refine rg_X1_36 X hP (ex_C_o hE) dX1_write_7 ?_
  refine lv_iconst (v := 0) hx hb dX1_write_10 (by decide) ?_
  refine lv_aload_n hx hb dX1_write_11 rfl (lv_at hl 0 rfl) ?_
  refine rg_X1_94 X hP (ex_C_o hE) dX1_write_12 ?_
  obtain ⟨S4, v5, hq, hf⟩ := gB2_some hf
  refine gc_i (gc_fixV (S := S) X (mt_X2_write l D dA A ad E v2 hE hr3 S x2 (0 : Int32) (S.1 (C_o) 5) hq) (lw_V q655 q656 q657 q87 q658) ⟨rfl, rfl⟩ hd_X2_write ⟨Nat.le_trans (Nat.le_of_ble_eq_true rfl) hR.1, Nat.le_trans (Nat.le_of_ble_eq_true rfl) hR.2⟩ (wd_recv (r := H_o v2) (ci := 2) (q := (RX2, TX2, 23)) X.hK.1 hP (ex_H_o hE hr3) rfl rfl) hP hS ⟨Nat.le_trans (Nat.le_of_ble_eq_true rfl) hC.1, Nat.le_trans (Nat.le_of_ble_eq_true rfl) hC.2⟩ rfl hl.1 rfl (Nat.le_of_ble_eq_true rfl) dX1_write_15) hS ?_
  rintro _ _ H locs ⟨⟩ hP hS
  refine lv_istore_n (lv' := [(3, .int v5), (0, .ref (ad C_o)), (1, .int x1), (2, .int x2)]) hx hb dX1_write_18 rfl hl (by decide) rfl (fun ls hl => ?_)
  refine lv_aload_n hx hb dX1_write_19 rfl (lv_at hl 1 rfl) ?_
  refine lv_iconst (v := 0) hx hb dX1_write_20 (by decide) ?_
  refine rp_X1_94 X hP hS (ex_C_o hE) dX1_write_21 hf (fun S6 H locs hP hS hf => ?_)
  refine lv_iload_n hx hb dX1_write_24 rfl (lv_at hl 0 rfl) ?_
  exact xr_i X hP hS ⟨_, rfl, (Option.some.inj hf).symm⟩ (Nat.le_of_ble_eq_true rfl) (Nat.le_of_ble_eq_true rfl) dX1_write_25
theorem hd_X1_write : yX1_write.cls = RX1 ∧ yX1_write.cls ≠ "java/lang/invoke/MethodHandle" ∧ yX1_write.cls ≠ "java/lang/invoke/VarHandle" ∧ (parseMethodDescriptor yX1_write.desc).map (fun d => d.parameters.length) = some 2 := by decide +kernel
set_option maxHeartbeats 4000000 in
theorem mt_X1_write (l : Launch) (D : va_G) (dA : Nat → ClassId) (A : Nat → Prop) (ad : L3 → Nat) (E : L3 → Bool) (hE : EOK E) (hfl : l.flags = flags0) (S : Mem) (x1 : Int32) (x2 : Int32) {res : Mem × (Nat ⊕ Int32)} (hq : f_X1_write E S x1 x2 = some res) : MetX l yX1_write (ws_ yX1_write cX1_write 4 (some .int)) ({ frames := 8, cells := 1, slots := 6, locals := 131 } : Room) (va_Pc [.ref (ad C_o), .int x1, .int x2] (PreX D dA (shC dA E) (exC E) A ad S)) (QX D (shC dA E) (exC E) A ad (fun v u => ∃ r : Int32, v = some (.int r) ∧ res = (u, .inr r)) (fun cd u => res = (u, .inl cd))) 1 6 A :=
  gx_headX (by decide) (Nat.le_of_ble_eq_true rfl) (fun p e s m below meth c ls X hex hZ hP hl => w_X1_write (l := l) E hE X ⟨Nat.le_of_ble_eq_true rfl, Nat.le_of_ble_eq_true rfl⟩ ⟨Nat.le_of_ble_eq_true rfl, Nat.le_of_ble_eq_true rfl⟩ hex hZ hfl S x1 x2 hP va_S.rf (lv_sub (l := [(0, .ref (ad C_o)), (1, .int x1), (2, .int x2)]) hl [0, 1, 2] rfl) hq)
set_option maxHeartbeats 4000000 in
theorem w_X1_finish {p : Program} {l : Launch} {e : Env} {R : Room} {s : State} {m : MethodId} {args : Array Value} {below : List Frame} {meth : Method} {c : Code} {D : va_G} {dA : Nat → ClassId} {A : Nat → Prop} {ad : L3 → Nat} (E : L3 → Bool) (hE : EOK E) (X : CX RX1 cX1_finish 3 (some .boolean) (KA D dA) p s m args meth c A) (hR : 8 ≤ R.frames ∧ 131 ≤ R.locals) (hC : 1 ≤ R.cells ∧ 6 ≤ R.slots) (hex : c.exceptionTable.isEmpty = true) (hZ : ZT A s s.heap) (hfl : l.flags = flags0) {res : Mem × (Nat ⊕ Int32)} (S : Mem) (x1 : Int32) (x2 : Int32) {H : Heap} {locs : List Loc} {ls : Array Slot} (hP : Wd D clA (shC dA E) (exC E) A ad S H) (hS : va_S A s.heap H locs) (hl : lv_has ls 3 [(0, .ref (ad C_o)), (1, .int x1), (2, .int x2)]) (hf : f_X1_finish E S x1 x2 = some res) : W p l e R s m args below meth c H locs 0 0 (MQX below (QX D (shC dA E) (exC E) A ad (fun v u => ∃ r : Int32, v = some (.int r) ∧ res = (u, .inr r)) (fun cd u => res = (u, .inl cd))) args s 1 6 A) (F0 m 0 ls []) := by
  have hx := X.hx
  have hb := X.hb
  unfold f_X1_finish at hf
  refine lv_aload_n hx hb dX1_finish_0 rfl (lv_at hl 0 rfl) ?_
  refine lv_iload_n hx hb dX1_finish_1 rfl (lv_at hl 1 rfl) ?_
  obtain ⟨q1, hq, hf⟩ := gB_some hf
  refine xc_V (S := S) X hZ (mt_X1_hall l D dA A ad E hE hfl S x1 hq) (lw_V q517 q519 qs2 q86 q520) ⟨rfl, rfl⟩ hd_X1_hall ⟨Nat.le_trans (Nat.le_of_ble_eq_true rfl) hR.1, Nat.le_trans (Nat.le_of_ble_eq_true rfl) hR.2⟩ (wd_recv (r := C_o) (ci := 1) (q := (RX1, TX1, 8)) X.hK.1 hP (ex_C_o hE) rfl rfl) hP hS ⟨Nat.le_trans (Nat.le_of_ble_eq_true rfl) hC.1, Nat.le_trans (Nat.le_of_ble_eq_true rfl) hC.2⟩ rfl hl.1 rfl (Nat.le_of_ble_eq_true rfl) dX1_finish_2 (kr := fun v u H locs hok hP hS => ?_) (kt := fun x cd u t H locs hbad ht hw hP hE hS => by obtain ⟨rfl, rfl⟩ := hbad; exact xt_leave X hex ht hw hP hE hS (gXW_inl hf) (Nat.le_of_ble_eq_true rfl) (Nat.le_of_ble_eq_true rfl))
  obtain ⟨v2, rfl, rfl, rfl, hr3⟩ := hok
  replace hf := gXW_inr hf
  refine W.eq (g2 := F0 m 5 ls [.ref (ad (H_o v2))]) rfl ?_
  refine lv_iload_n hx hb dX1_finish_5 rfl (lv_at hl 2 rfl) ?_
  obtain ⟨S4, v5, hq, hf⟩ := gB2_some hf
  refine gc_i (gc_fixV (S := S) X (mt_X2_finish l D dA A ad E v2 hE hr3 S x2 hq) (lw_V q696 q697 q698 q87 q699) ⟨rfl, rfl⟩ hd_X2_finish ⟨Nat.le_trans (Nat.le_of_ble_eq_true rfl) hR.1, Nat.le_trans (Nat.le_of_ble_eq_true rfl) hR.2⟩ (wd_recv (r := H_o v2) (ci := 2) (q := (RX2, TX2, 23)) X.hK.1 hP (ex_H_o hE hr3) rfl rfl) hP hS ⟨Nat.le_trans (Nat.le_of_ble_eq_true rfl) hC.1, Nat.le_trans (Nat.le_of_ble_eq_true rfl) hC.2⟩ rfl hl.1 rfl (Nat.le_of_ble_eq_true rfl) dX1_finish_6) hS ?_
  rintro _ _ H locs ⟨⟩ hP hS
  obtain ⟨hn, hf⟩ := gN_some hf
  exact xr_z X hP hS hn ⟨_, rfl, (Option.some.inj hf).symm⟩ (Nat.le_of_ble_eq_true rfl) (Nat.le_of_ble_eq_true rfl) dX1_finish_9
theorem hd_X1_finish : yX1_finish.cls = RX1 ∧ yX1_finish.cls ≠ "java/lang/invoke/MethodHandle" ∧ yX1_finish.cls ≠ "java/lang/invoke/VarHandle" ∧ (parseMethodDescriptor yX1_finish.desc).map (fun d => d.parameters.length) = some 2 := by decide +kernel
set_option maxHeartbeats 4000000 in
theorem mt_X1_finish (l : Launch) (D : va_G) (dA : Nat → ClassId) (A : Nat → Prop) (ad : L3 → Nat) (E : L3 → Bool) (hE : EOK E) (hfl : l.flags = flags0) (S : Mem) (x1 : Int32) (x2 : Int32) {res : Mem × (Nat ⊕ Int32)} (hq : f_X1_finish E S x1 x2 = some res) : MetX l yX1_finish (ws_ yX1_finish cX1_finish 3 (some .boolean)) ({ frames := 8, cells := 1, slots := 6, locals := 131 } : Room) (va_Pc [.ref (ad C_o), .int x1, .int x2] (PreX D dA (shC dA E) (exC E) A ad S)) (QX D (shC dA E) (exC E) A ad (fun v u => ∃ r : Int32, v = some (.int r) ∧ res = (u, .inr r)) (fun cd u => res = (u, .inl cd))) 1 6 A :=
  gx_headX (by decide) (Nat.le_of_ble_eq_true rfl) (fun p e s m below meth c ls X hex hZ hP hl => w_X1_finish (l := l) E hE X ⟨Nat.le_of_ble_eq_true rfl, Nat.le_of_ble_eq_true rfl⟩ ⟨Nat.le_of_ble_eq_true rfl, Nat.le_of_ble_eq_true rfl⟩ hex hZ hfl S x1 x2 hP va_S.rf (lv_sub (l := [(0, .ref (ad C_o)), (1, .int x1), (2, .int x2)]) hl [0, 1, 2] rfl) hq)
set_option maxHeartbeats 4000000 in
theorem w_X1_reset {p : Program} {l : Launch} {e : Env} {R : Room} {s : State} {m : MethodId} {args : Array Value} {below : List Frame} {meth : Method} {c : Code} {D : va_G} {dA : Nat → ClassId} {A : Nat → Prop} {ad : L3 → Nat} (E : L3 → Bool) (hE : EOK E) (X : CX RX1 cX1_reset 6 (some .boolean) (KA D dA) p s m args meth c A) (hR : 8 ≤ R.frames ∧ 131 ≤ R.locals) (hC : 2 ≤ R.cells ∧ 12 ≤ R.slots) (hex : c.exceptionTable.isEmpty = true) (hZ : ZT A s s.heap) (hfl : l.flags = flags0) {res : Mem × (Nat ⊕ Int32)} (S : Mem) (x1 : Int32) (x2 : Int32) (x3 : Int64) {H : Heap} {locs : List Loc} {ls : Array Slot} (hP : Wd D clA (shC dA E) (exC E) A ad S H) (hS : va_S A s.heap H locs) (hl : lv_has ls 6 [(0, .ref (ad C_o)), (1, .int x1), (2, .int x2), (3, .long x3)]) (hf : f_X1_reset E S x1 x2 x3 = some res) : W p l e R s m args below meth c H locs 0 0 (MQX below (QX D (shC dA E) (exC E) A ad (fun v u => ∃ r : Int32, v = some (.int r) ∧ res = (u, .inr r)) (fun cd u => res = (u, .inl cd))) args s 2 12 A) (F0 m 0 ls []) := by
  have hx := X.hx
  have hb := X.hb
  unfold f_X1_reset at hf
  refine lv_aload_n hx hb dX1_reset_0 rfl (lv_at hl 0 rfl) ?_
  refine lv_iload_n hx hb dX1_reset_1 rfl (lv_at hl 1 rfl) ?_
  obtain ⟨q1, hq, hf⟩ := gB_some hf
  refine xc_V (S := S) X hZ (mt_X1_hall l D dA A ad E hE hfl S x1 hq) (lw_V q517 q519 qs2 q86 q520) ⟨rfl, rfl⟩ hd_X1_hall ⟨Nat.le_trans (Nat.le_of_ble_eq_true rfl) hR.1, Nat.le_trans (Nat.le_of_ble_eq_true rfl) hR.2⟩ (wd_recv (r := C_o) (ci := 1) (q := (RX1, TX1, 8)) X.hK.1 hP (ex_C_o hE) rfl rfl) hP hS ⟨Nat.le_trans (Nat.le_of_ble_eq_true rfl) hC.1, Nat.le_trans (Nat.le_of_ble_eq_true rfl) hC.2⟩ rfl hl.1 rfl (Nat.le_of_ble_eq_true rfl) dX1_reset_2 (kr := fun v u H locs hok hP hS => ?_) (kt := fun x cd u t H locs hbad ht hw hP hE hS => by obtain ⟨rfl, rfl⟩ := hbad; exact xt_leave X hex ht hw hP hE hS (gXW_inl hf) (Nat.le_of_ble_eq_true rfl) (Nat.le_of_ble_eq_true rfl))
  obtain ⟨v2, rfl, rfl, rfl, hr3⟩ := hok
  replace hf := gXW_inr hf
  refine W.eq (g2 := F0 m 5 ls [.ref (ad (H_o v2))]) rfl ?_
  refine lv_astore (lv' := [(5, .ref (ad (H_o v2))), (0, .ref (ad C_o)), (1, .int x1), (2, .int x2), (3, .long x3)]) hx hb dX1_reset_5 hl (by decide) rfl (fun ls hl => ?_)
  refine lv_lload_n hx hb dX1_reset_7 rfl (lv_at hl 4 rfl) ?_
  refine lv_lconst (v := 0) hx hb dX1_reset_8 (by decide) ?_
  refine lv_ldc2 hx hb X.hown (X.hts _ q707) dX1_reset_9 ?_
  obtain ⟨v4, hq, hf⟩ := gS_eq hf
  refine gc_i (gc_fixS (S := S) X (mt_X1_in l D dA A ad E hE S x3 (0 : Int64) (4611686018427387903 : Int64) hq) (lw_S q396 q397 q86 q398) ⟨rfl, rfl⟩ hd_X1_in.2 ⟨Nat.le_trans (Nat.le_of_ble_eq_true rfl) hR.1, Nat.le_trans (Nat.le_of_ble_eq_true rfl) hR.2⟩ hP hS ⟨Nat.le_trans (Nat.le_of_ble_eq_true rfl) hC.1, Nat.le_trans (Nat.le_of_ble_eq_true rfl) hC.2⟩ rfl hl.1 rfl (Nat.le_of_ble_eq_true rfl) dX1_reset_12) hS ?_
  rintro _ _ H locs ⟨rfl, rfl⟩ hP hS
  obtain ⟨q5, hq⟩ : ∃ q, q = f_X1_need v4 := ⟨_, rfl⟩
  rw [← hq] at hf
  refine xc_S (S := S) X hZ (mt_X1_need l D dA A ad E hE hfl S v4 hq.symm) (lw_S q403 q404 q86 q405) ⟨rfl, rfl⟩ hd_X1_need.2 ⟨Nat.le_trans (Nat.le_of_ble_eq_true rfl) hR.1, Nat.le_trans (Nat.le_of_ble_eq_true rfl) hR.2⟩ hP hS ⟨Nat.le_trans (Nat.le_of_ble_eq_true rfl) hC.1, Nat.le_trans (Nat.le_of_ble_eq_true rfl) hC.2⟩ rfl hl.1 rfl (Nat.le_of_ble_eq_true rfl) dX1_reset_15 (kr := fun v u H locs hok hP hS => ?_) (kt := fun x cd u t H locs hbad ht hw hP hE hS => by obtain ⟨rfl, rfl⟩ := hbad; exact xt_leave X hex ht hw hP hE hS (gXW_inl hf) (Nat.le_of_ble_eq_true rfl) (Nat.le_of_ble_eq_true rfl))
  obtain ⟨_, rfl, rfl, rfl⟩ := hok
  replace hf := gXW_inr hf
  refine W.eq (g2 := F0 m 18 ls []) rfl ?_
  refine lv_aload hx hb dX1_reset_18 (lv_at hl 0 rfl) ?_
  refine lv_iload_n hx hb dX1_reset_20 rfl (lv_at hl 3 rfl) ?_
  refine lv_lload_n hx hb dX1_reset_21 rfl (lv_at hl 4 rfl) ?_
  obtain ⟨S6, v7, hq, hf⟩ := gB2_some hf
  refine gc_i (gc_fixV (S := S) X (mt_X2_reset l D dA A ad E v2 hE hr3 S x2 x3 hq) (lw_V q708 q709 q710 q87 q711) ⟨rfl, rfl⟩ hd_X2_reset ⟨Nat.le_trans (Nat.le_of_ble_eq_true rfl) hR.1, Nat.le_trans (Nat.le_of_ble_eq_true rfl) hR.2⟩ (wd_recv (r := H_o v2) (ci := 2) (q := (RX2, TX2, 23)) X.hK.1 hP (ex_H_o hE hr3) rfl rfl) hP hS ⟨Nat.le_trans (Nat.le_of_ble_eq_true rfl) hC.1, Nat.le_trans (Nat.le_of_ble_eq_true rfl) hC.2⟩ rfl hl.1 rfl (Nat.le_of_ble_eq_true rfl) dX1_reset_22) hS ?_
  rintro _ _ H locs ⟨⟩ hP hS
  obtain ⟨hn, hf⟩ := gN_some hf
  exact xr_z X hP hS hn ⟨_, rfl, (Option.some.inj hf).symm⟩ (Nat.le_of_ble_eq_true rfl) (Nat.le_of_ble_eq_true rfl) dX1_reset_25
theorem hd_X1_reset : yX1_reset.cls = RX1 ∧ yX1_reset.cls ≠ "java/lang/invoke/MethodHandle" ∧ yX1_reset.cls ≠ "java/lang/invoke/VarHandle" ∧ (parseMethodDescriptor yX1_reset.desc).map (fun d => d.parameters.length) = some 3 := by decide +kernel
set_option maxHeartbeats 4000000 in
theorem mt_X1_reset (l : Launch) (D : va_G) (dA : Nat → ClassId) (A : Nat → Prop) (ad : L3 → Nat) (E : L3 → Bool) (hE : EOK E) (hfl : l.flags = flags0) (S : Mem) (x1 : Int32) (x2 : Int32) (x3 : Int64) {res : Mem × (Nat ⊕ Int32)} (hq : f_X1_reset E S x1 x2 x3 = some res) : MetX l yX1_reset (ws_ yX1_reset cX1_reset 6 (some .boolean)) ({ frames := 8, cells := 2, slots := 12, locals := 131 } : Room) (va_Pc [.ref (ad C_o), .int x1, .int x2, .long x3] (PreX D dA (shC dA E) (exC E) A ad S)) (QX D (shC dA E) (exC E) A ad (fun v u => ∃ r : Int32, v = some (.int r) ∧ res = (u, .inr r)) (fun cd u => res = (u, .inl cd))) 2 12 A :=
  gx_headX (by decide) (Nat.le_of_ble_eq_true rfl) (fun p e s m below meth c ls X hex hZ hP hl => w_X1_reset (l := l) E hE X ⟨Nat.le_of_ble_eq_true rfl, Nat.le_of_ble_eq_true rfl⟩ ⟨Nat.le_of_ble_eq_true rfl, Nat.le_of_ble_eq_true rfl⟩ hex hZ hfl S x1 x2 x3 hP va_S.rf (lv_sub (l := [(0, .ref (ad C_o)), (1, .int x1), (2, .int x2), (3, .long x3)]) hl [0, 1, 2, 3] rfl) hq)
set_option maxHeartbeats 4000000 in
theorem w_X1_stop {p : Program} {l : Launch} {e : Env} {R : Room} {s : State} {m : MethodId} {args : Array Value} {below : List Frame} {meth : Method} {c : Code} {D : va_G} {dA : Nat → ClassId} {A : Nat → Prop} {ad : L3 → Nat} (E : L3 → Bool) (hE : EOK E) (X : CX RX1 cX1_stop 6 (some .boolean) (KA D dA) p s m args meth c A) (hR : 8 ≤ R.frames ∧ 131 ≤ R.locals) (hC : 2 ≤ R.cells ∧ 12 ≤ R.slots) (hex : c.exceptionTable.isEmpty = true) (hZ : ZT A s s.heap) (hfl : l.flags = flags0) {res : Mem × (Nat ⊕ Int32)} (S : Mem) (x1 : Int32) (x2 : Int32) (x3 : Int64) {H : Heap} {locs : List Loc} {ls : Array Slot} (hP : Wd D clA (shC dA E) (exC E) A ad S H) (hS : va_S A s.heap H locs) (hl : lv_has ls 6 [(0, .ref (ad C_o)), (1, .int x1), (2, .int x2), (3, .long x3)]) (hf : f_X1_stop E S x1 x2 x3 = some res) : W p l e R s m args below meth c H locs 0 0 (MQX below (QX D (shC dA E) (exC E) A ad (fun v u => ∃ r : Int32, v = some (.int r) ∧ res = (u, .inr r)) (fun cd u => res = (u, .inl cd))) args s 2 12 A) (F0 m 0 ls []) := by
  have hx := X.hx
  have hb := X.hb
  unfold f_X1_stop at hf
  refine lv_aload_n hx hb dX1_stop_0 rfl (lv_at hl 0 rfl) ?_
  refine lv_iload_n hx hb dX1_stop_1 rfl (lv_at hl 1 rfl) ?_
  obtain ⟨q1, hq, hf⟩ := gB_some hf
  refine xc_V (S := S) X hZ (mt_X1_hall l D dA A ad E hE hfl S x1 hq) (lw_V q517 q519 qs2 q86 q520) ⟨rfl, rfl⟩ hd_X1_hall ⟨Nat.le_trans (Nat.le_of_ble_eq_true rfl) hR.1, Nat.le_trans (Nat.le_of_ble_eq_true rfl) hR.2⟩ (wd_recv (r := C_o) (ci := 1) (q := (RX1, TX1, 8)) X.hK.1 hP (ex_C_o hE) rfl rfl) hP hS ⟨Nat.le_trans (Nat.le_of_ble_eq_true rfl) hC.1, Nat.le_trans (Nat.le_of_ble_eq_true rfl) hC.2⟩ rfl hl.1 rfl (Nat.le_of_ble_eq_true rfl) dX1_stop_2 (kr := fun v u H locs hok hP hS => ?_) (kt := fun x cd u t H locs hbad ht hw hP hE hS => by obtain ⟨rfl, rfl⟩ := hbad; exact xt_leave X hex ht hw hP hE hS (gXW_inl hf) (Nat.le_of_ble_eq_true rfl) (Nat.le_of_ble_eq_true rfl))
  obtain ⟨v2, rfl, rfl, rfl, hr3⟩ := hok
  replace hf := gXW_inr hf
  refine W.eq (g2 := F0 m 5 ls [.ref (ad (H_o v2))]) rfl ?_
  refine lv_astore (lv' := [(5, .ref (ad (H_o v2))), (0, .ref (ad C_o)), (1, .int x1), (2, .int x2), (3, .long x3)]) hx hb dX1_stop_5 hl (by decide) rfl (fun ls hl => ?_)
  refine lv_lload_n hx hb dX1_stop_7 rfl (lv_at hl 4 rfl) ?_
  refine lv_lconst (v := 0) hx hb dX1_stop_8 (by decide) ?_
  refine lv_ldc2 hx hb X.hown (X.hts _ q707) dX1_stop_9 ?_
  obtain ⟨v4, hq, hf⟩ := gS_eq hf
  refine gc_i (gc_fixS (S := S) X (mt_X1_in l D dA A ad E hE S x3 (0 : Int64) (4611686018427387903 : Int64) hq) (lw_S q396 q397 q86 q398) ⟨rfl, rfl⟩ hd_X1_in.2 ⟨Nat.le_trans (Nat.le_of_ble_eq_true rfl) hR.1, Nat.le_trans (Nat.le_of_ble_eq_true rfl) hR.2⟩ hP hS ⟨Nat.le_trans (Nat.le_of_ble_eq_true rfl) hC.1, Nat.le_trans (Nat.le_of_ble_eq_true rfl) hC.2⟩ rfl hl.1 rfl (Nat.le_of_ble_eq_true rfl) dX1_stop_12) hS ?_
  rintro _ _ H locs ⟨rfl, rfl⟩ hP hS
  obtain ⟨q5, hq⟩ : ∃ q, q = f_X1_need v4 := ⟨_, rfl⟩
  rw [← hq] at hf
  refine xc_S (S := S) X hZ (mt_X1_need l D dA A ad E hE hfl S v4 hq.symm) (lw_S q403 q404 q86 q405) ⟨rfl, rfl⟩ hd_X1_need.2 ⟨Nat.le_trans (Nat.le_of_ble_eq_true rfl) hR.1, Nat.le_trans (Nat.le_of_ble_eq_true rfl) hR.2⟩ hP hS ⟨Nat.le_trans (Nat.le_of_ble_eq_true rfl) hC.1, Nat.le_trans (Nat.le_of_ble_eq_true rfl) hC.2⟩ rfl hl.1 rfl (Nat.le_of_ble_eq_true rfl) dX1_stop_15 (kr := fun v u H locs hok hP hS => ?_) (kt := fun x cd u t H locs hbad ht hw hP hE hS => by obtain ⟨rfl, rfl⟩ := hbad; exact xt_leave X hex ht hw hP hE hS (gXW_inl hf) (Nat.le_of_ble_eq_true rfl) (Nat.le_of_ble_eq_true rfl))
  obtain ⟨_, rfl, rfl, rfl⟩ := hok
  replace hf := gXW_inr hf
  refine W.eq (g2 := F0 m 18 ls []) rfl ?_
  refine lv_aload hx hb dX1_stop_18 (lv_at hl 0 rfl) ?_
  refine lv_iload_n hx hb dX1_stop_20 rfl (lv_at hl 3 rfl) ?_
  refine lv_lload_n hx hb dX1_stop_21 rfl (lv_at hl 4 rfl) ?_
  obtain ⟨S6, v7, hq, hf⟩ := gB2_some hf
  refine gc_i (gc_fixV (S := S) X (mt_X2_stop l D dA A ad E v2 hE hr3 S x2 x3 hq) (lw_V q727 q728 q729 q87 q730) ⟨rfl, rfl⟩ hd_X2_stop ⟨Nat.le_trans (Nat.le_of_ble_eq_true rfl) hR.1, Nat.le_trans (Nat.le_of_ble_eq_true rfl) hR.2⟩ (wd_recv (r := H_o v2) (ci := 2) (q := (RX2, TX2, 23)) X.hK.1 hP (ex_H_o hE hr3) rfl rfl) hP hS ⟨Nat.le_trans (Nat.le_of_ble_eq_true rfl) hC.1, Nat.le_trans (Nat.le_of_ble_eq_true rfl) hC.2⟩ rfl hl.1 rfl (Nat.le_of_ble_eq_true rfl) dX1_stop_22) hS ?_
  rintro _ _ H locs ⟨⟩ hP hS
  obtain ⟨hn, hf⟩ := gN_some hf
  exact xr_z X hP hS hn ⟨_, rfl, (Option.some.inj hf).symm⟩ (Nat.le_of_ble_eq_true rfl) (Nat.le_of_ble_eq_true rfl) dX1_stop_25
theorem hd_X1_stop : yX1_stop.cls = RX1 ∧ yX1_stop.cls ≠ "java/lang/invoke/MethodHandle" ∧ yX1_stop.cls ≠ "java/lang/invoke/VarHandle" ∧ (parseMethodDescriptor yX1_stop.desc).map (fun d => d.parameters.length) = some 3 := by decide +kernel
set_option maxHeartbeats 4000000 in
theorem mt_X1_stop (l : Launch) (D : va_G) (dA : Nat → ClassId) (A : Nat → Prop) (ad : L3 → Nat) (E : L3 → Bool) (hE : EOK E) (hfl : l.flags = flags0) (S : Mem) (x1 : Int32) (x2 : Int32) (x3 : Int64) {res : Mem × (Nat ⊕ Int32)} (hq : f_X1_stop E S x1 x2 x3 = some res) : MetX l yX1_stop (ws_ yX1_stop cX1_stop 6 (some .boolean)) ({ frames := 8, cells := 2, slots := 12, locals := 131 } : Room) (va_Pc [.ref (ad C_o), .int x1, .int x2, .long x3] (PreX D dA (shC dA E) (exC E) A ad S)) (QX D (shC dA E) (exC E) A ad (fun v u => ∃ r : Int32, v = some (.int r) ∧ res = (u, .inr r)) (fun cd u => res = (u, .inl cd))) 2 12 A :=
  gx_headX (by decide) (Nat.le_of_ble_eq_true rfl) (fun p e s m below meth c ls X hex hZ hP hl => w_X1_stop (l := l) E hE X ⟨Nat.le_of_ble_eq_true rfl, Nat.le_of_ble_eq_true rfl⟩ ⟨Nat.le_of_ble_eq_true rfl, Nat.le_of_ble_eq_true rfl⟩ hex hZ hfl S x1 x2 x3 hP va_S.rf (lv_sub (l := [(0, .ref (ad C_o)), (1, .int x1), (2, .int x2), (3, .long x3)]) hl [0, 1, 2, 3] rfl) hq)
set_option maxHeartbeats 4000000 in
theorem w_X1_read {p : Program} {l : Launch} {e : Env} {R : Room} {s : State} {m : MethodId} {args : Array Value} {below : List Frame} {meth : Method} {c : Code} {D : va_G} {dA : Nat → ClassId} {A : Nat → Prop} {ad : L3 → Nat} (E : L3 → Bool) (hE : EOK E) (X : CX RX1 cX1_read 6 (some .int) (KA D dA) p s m args meth c A) (hR : 8 ≤ R.frames ∧ 133 ≤ R.locals) (hC : 2 ≤ R.cells ∧ 12 ≤ R.slots) (hex : c.exceptionTable.isEmpty = true) (hZ : ZT A s s.heap) (hfl : l.flags = flags0) {res : Mem × (Nat ⊕ Int32)} (S : Mem) (x1 : Int32) (x2 : Int32) (x3 : Int32) {H : Heap} {locs : List Loc} {ls : Array Slot} (hP : Wd D clA (shC dA E) (exC E) A ad S H) (hS : va_S A s.heap H locs) (hl : lv_has ls 6 [(0, .ref (ad C_o)), (1, .int x1), (2, .int x2), (3, .int x3)]) (hf : f_X1_read E S x1 x2 x3 = some res) : W p l e R s m args below meth c H locs 0 0 (MQX below (QX D (shC dA E) (exC E) A ad (fun v u => ∃ r : Int32, v = some (.int r) ∧ res = (u, .inr r)) (fun cd u => res = (u, .inl cd))) args s 2 12 A) (F0 m 0 ls []) := by
  have hx := X.hx
  have hb := X.hb
  unfold f_X1_read at hf
  refine lv_aload_n hx hb dX1_read_0 rfl (lv_at hl 0 rfl) ?_
  refine lv_iload_n hx hb dX1_read_1 rfl (lv_at hl 1 rfl) ?_
  obtain ⟨q1, hq, hf⟩ := gB_some hf
  refine xc_V (S := S) X hZ (mt_X1_hall l D dA A ad E hE hfl S x1 hq) (lw_V q517 q519 qs2 q86 q520) ⟨rfl, rfl⟩ hd_X1_hall ⟨Nat.le_trans (Nat.le_of_ble_eq_true rfl) hR.1, Nat.le_trans (Nat.le_of_ble_eq_true rfl) hR.2⟩ (wd_recv (r := C_o) (ci := 1) (q := (RX1, TX1, 8)) X.hK.1 hP (ex_C_o hE) rfl rfl) hP hS ⟨Nat.le_trans (Nat.le_of_ble_eq_true rfl) hC.1, Nat.le_trans (Nat.le_of_ble_eq_true rfl) hC.2⟩ rfl hl.1 rfl (Nat.le_of_ble_eq_true rfl) dX1_read_2 (kr := fun v u H locs hok hP hS => ?_) (kt := fun x cd u t H locs hbad ht hw hP hE hS => by obtain ⟨rfl, rfl⟩ := hbad; exact xt_leave X hex ht hw hP hE hS (gXW_inl hf) (Nat.le_of_ble_eq_true rfl) (Nat.le_of_ble_eq_true rfl))
  obtain ⟨v2, rfl, rfl, rfl, hr3⟩ := hok
  replace hf := gXW_inr hf
  refine W.eq (g2 := F0 m 5 ls [.ref (ad (H_o v2))]) rfl ?_
  refine lv_astore (lv' := [(4, .ref (ad (H_o v2))), (0, .ref (ad C_o)), (1, .int x1), (2, .int x2), (3, .int x3)]) hx hb dX1_read_5 hl (by decide) rfl (fun ls hl => ?_)
  refine lv_iload_n hx hb dX1_read_7 rfl (lv_at hl 4 rfl) ?_
  refine lv_i2l hx hb dX1_read_8 rfl ?_
  refine lv_lconst (v := 0) hx hb dX1_read_9 (by decide) ?_
  refine lv_ldc2 hx hb X.hown (X.hts _ q746) dX1_read_10 ?_
  obtain ⟨v4, hq, hf⟩ := gS_eq hf
  refine gc_i (gc_fixS (S := S) X (mt_X1_in l D dA A ad E hE S (Int32.toInt64 x3) (0 : Int64) (2048 : Int64) hq) (lw_S q396 q397 q86 q398) ⟨rfl, rfl⟩ hd_X1_in.2 ⟨Nat.le_trans (Nat.le_of_ble_eq_true rfl) hR.1, Nat.le_trans (Nat.le_of_ble_eq_true rfl) hR.2⟩ hP hS ⟨Nat.le_trans (Nat.le_of_ble_eq_true rfl) hC.1, Nat.le_trans (Nat.le_of_ble_eq_true rfl) hC.2⟩ rfl hl.1 rfl (Nat.le_of_ble_eq_true rfl) dX1_read_13) hS ?_
  rintro _ _ H locs ⟨rfl, rfl⟩ hP hS
  obtain ⟨q5, hq⟩ : ∃ q, q = f_X1_need v4 := ⟨_, rfl⟩
  rw [← hq] at hf
  refine xc_S (S := S) X hZ (mt_X1_need l D dA A ad E hE hfl S v4 hq.symm) (lw_S q403 q404 q86 q405) ⟨rfl, rfl⟩ hd_X1_need.2 ⟨Nat.le_trans (Nat.le_of_ble_eq_true rfl) hR.1, Nat.le_trans (Nat.le_of_ble_eq_true rfl) hR.2⟩ hP hS ⟨Nat.le_trans (Nat.le_of_ble_eq_true rfl) hC.1, Nat.le_trans (Nat.le_of_ble_eq_true rfl) hC.2⟩ rfl hl.1 rfl (Nat.le_of_ble_eq_true rfl) dX1_read_16 (kr := fun v u H locs hok hP hS => ?_) (kt := fun x cd u t H locs hbad ht hw hP hE hS => by obtain ⟨rfl, rfl⟩ := hbad; exact xt_leave X hex ht hw hP hE hS (gXW_inl hf) (Nat.le_of_ble_eq_true rfl) (Nat.le_of_ble_eq_true rfl))
  obtain ⟨_, rfl, rfl, rfl⟩ := hok
  replace hf := gXW_inr hf
  refine W.eq (g2 := F0 m 19 ls []) rfl ?_
  refine lv_aload hx hb dX1_read_19 (lv_at hl 0 rfl) ?_
  refine lv_iload_n hx hb dX1_read_21 rfl (lv_at hl 3 rfl) ?_
  refine lv_aload_n hx hb dX1_read_22 rfl (lv_at hl 1 rfl) ?_
  refine rg_X1_40 X hP (ex_C_o hE) dX1_read_23 ?_
  refine lv_iconst (v := 0) hx hb dX1_read_26 (by decide) ?_
  refine lv_iload_n hx hb dX1_read_27 rfl (lv_at hl 4 rfl) ?_
  obtain ⟨S6, v7, hq, hf⟩ := gB2_some hf
  refine gc_i (gc_fixV (S := S) X (mt_X2_read l D dA A ad E v2 hE hr3 S x2 (0 : Int32) x3 hq) (lw_V q747 q748 q749 q87 q750) ⟨rfl, rfl⟩ hd_X2_read ⟨Nat.le_trans (Nat.le_of_ble_eq_true rfl) hR.1, Nat.le_trans (Nat.le_of_ble_eq_true rfl) hR.2⟩ (wd_recv (r := H_o v2) (ci := 2) (q := (RX2, TX2, 23)) X.hK.1 hP (ex_H_o hE hr3) rfl rfl) hP hS ⟨Nat.le_trans (Nat.le_of_ble_eq_true rfl) hC.1, Nat.le_trans (Nat.le_of_ble_eq_true rfl) hC.2⟩ rfl hl.1 rfl (Nat.le_of_ble_eq_true rfl) dX1_read_28) hS ?_
  rintro _ _ H locs ⟨⟩ hP hS
  refine lv_istore (lv' := [(5, .int v7), (4, .ref (ad (H_o v2))), (0, .ref (ad C_o)), (1, .int x1), (2, .int x2), (3, .int x3)]) hx hb dX1_read_31 hl (by decide) rfl (fun ls hl => ?_)
  refine lv_aload_n hx hb dX1_read_33 rfl (lv_at hl 2 rfl) ?_
  refine lv_iload hx hb dX1_read_34 (lv_at hl 0 rfl) ?_
  refine lv_iconst (v := 0) hx hb dX1_read_36 (by decide) ?_
  refine gm_mxI X (X.hts _ q793) (X.hts _ q794) (X.hts _ q99) (X.hts _ q795) hl.1 ⟨Nat.le_trans (Nat.le_of_ble_eq_true rfl) hC.1, Nat.le_trans (Nat.le_of_ble_eq_true rfl) hC.2⟩ (Nat.le_trans (Nat.le_of_ble_eq_true rfl) hR.1) (Nat.le_trans (Nat.le_of_ble_eq_true rfl) hR.2) dX1_read_37 ?_
  refine rp_X1_134 X hP hS (ex_C_o hE) dX1_read_40 hf (fun S8 H locs hP hS hf => ?_)
  refine lv_iload hx hb dX1_read_43 (lv_at hl 0 rfl) ?_
  exact xr_i X hP hS ⟨_, rfl, (Option.some.inj hf).symm⟩ (Nat.le_of_ble_eq_true rfl) (Nat.le_of_ble_eq_true rfl) dX1_read_45
theorem hd_X1_read : yX1_read.cls = RX1 ∧ yX1_read.cls ≠ "java/lang/invoke/MethodHandle" ∧ yX1_read.cls ≠ "java/lang/invoke/VarHandle" ∧ (parseMethodDescriptor yX1_read.desc).map (fun d => d.parameters.length) = some 3 := by decide +kernel
set_option maxHeartbeats 4000000 in
theorem mt_X1_read (l : Launch) (D : va_G) (dA : Nat → ClassId) (A : Nat → Prop) (ad : L3 → Nat) (E : L3 → Bool) (hE : EOK E) (hfl : l.flags = flags0) (S : Mem) (x1 : Int32) (x2 : Int32) (x3 : Int32) {res : Mem × (Nat ⊕ Int32)} (hq : f_X1_read E S x1 x2 x3 = some res) : MetX l yX1_read (ws_ yX1_read cX1_read 6 (some .int)) ({ frames := 8, cells := 2, slots := 12, locals := 133 } : Room) (va_Pc [.ref (ad C_o), .int x1, .int x2, .int x3] (PreX D dA (shC dA E) (exC E) A ad S)) (QX D (shC dA E) (exC E) A ad (fun v u => ∃ r : Int32, v = some (.int r) ∧ res = (u, .inr r)) (fun cd u => res = (u, .inl cd))) 2 12 A :=
  gx_headX (by decide) (Nat.le_of_ble_eq_true rfl) (fun p e s m below meth c ls X hex hZ hP hl => w_X1_read (l := l) E hE X ⟨Nat.le_of_ble_eq_true rfl, Nat.le_of_ble_eq_true rfl⟩ ⟨Nat.le_of_ble_eq_true rfl, Nat.le_of_ble_eq_true rfl⟩ hex hZ hfl S x1 x2 x3 hP va_S.rf (lv_sub (l := [(0, .ref (ad C_o)), (1, .int x1), (2, .int x2), (3, .int x3)]) hl [0, 1, 2, 3] rfl) hq)
set_option maxHeartbeats 4000000 in
theorem w_X1_fill_66 {p : Program} {l : Launch} {e : Env} {R : Room} {s : State} {m : MethodId} {args : Array Value} {below : List Frame} {meth : Method} {c : Code} {D : va_G} {dA : Nat → ClassId} {A : Nat → Prop} {ad : L3 → Nat} (E : L3 → Bool) (hE : EOK E) (X : CX RX1 cX1_fill 6 (some .int) (KA D dA) p s m args meth c A) (hR : 8 ≤ R.frames ∧ 193 ≤ R.locals) (hC : 3 ≤ R.cells ∧ 18 ≤ R.slots) (hex : c.exceptionTable.isEmpty = true) (hZ : ZT A s s.heap) (hfl : l.flags = flags0) {res : Mem × (Nat ⊕ Int32)} (S : Mem) (x1 : Int32) (x2 : Int32) (x3 : Nat) (x4 : Int32) (y0 : Int32) (hx3 : x3 < 2) {H : Heap} {locs : List Loc} {ls : Array Slot} (hP : Wd D clA (shC dA E) (exC E) A ad S H) (hS : va_S A s.heap H locs) (hl : lv_has ls 6 [(0, .ref (ad C_o)), (1, .int x1), (2, .int x2), (3, .ref (ad (H_o x3))), (4, .int x4)]) (hf : f_X1_fill_66 E S x1 x2 x3 x4 y0 = some res) : W p l e R s m args below meth c H locs 2 12 (MQX below (QX D (shC dA E) (exC E) A ad (fun v u => ∃ r : Int32, v = some (.int r) ∧ res = (u, .inr r)) (fun cd u => res = (u, .inl cd))) args s 3 18 A) (F0 m 66 ls [.int y0]) := by
  have hx := X.hx
  have hb := X.hb
  unfold f_X1_fill_66 at hf
  obtain ⟨q1, hq⟩ : ∃ q, q = f_X1_ready y0 := ⟨_, rfl⟩
  rw [← hq] at hf
  refine xc_S (S := S) X hZ (mt_X1_ready l D dA A ad E hE hfl S y0 hq.symm) (lw_S q469 q470 q86 q471) ⟨rfl, rfl⟩ hd_X1_ready.2 ⟨Nat.le_trans (Nat.le_of_ble_eq_true rfl) hR.1, Nat.le_trans (Nat.le_of_ble_eq_true rfl) hR.2⟩ hP hS ⟨Nat.le_trans (Nat.le_of_ble_eq_true rfl) hC.1, Nat.le_trans (Nat.le_of_ble_eq_true rfl) hC.2⟩ rfl hl.1 rfl (Nat.le_of_ble_eq_true rfl) dX1_fill_66 (kr := fun v u H locs hok hP hS => ?_) (kt := fun x cd u t H locs hbad ht hw hP hE hS => by obtain ⟨rfl, rfl⟩ := hbad; exact xt_leave X hex ht hw hP hE hS (gXW_inl hf) (Nat.le_of_ble_eq_true rfl) (Nat.le_of_ble_eq_true rfl))
  obtain ⟨_, rfl, rfl, rfl⟩ := hok
  replace hf := gXW_inr hf
  refine W.eq (g2 := F0 m 69 ls []) rfl ?_
  refine lv_aload_n hx hb dX1_fill_69 rfl (lv_at hl 3 rfl) ?_
  refine lv_iload_n hx hb dX1_fill_70 rfl (lv_at hl 2 rfl) ?_
  obtain ⟨S2, v3, hq, hf⟩ := gB2_some hf
  refine gc_i (gc_fixV (S := S) X (mt_X2_fill l D dA A ad E x3 hE hx3 S x2 hq) (lw_V q804 q805 q806 q87 q807) ⟨rfl, rfl⟩ hd_X2_fill ⟨Nat.le_trans (Nat.le_of_ble_eq_true rfl) hR.1, Nat.le_trans (Nat.le_of_ble_eq_true rfl) hR.2⟩ (wd_recv (r := H_o x3) (ci := 2) (q := (RX2, TX2, 23)) X.hK.1 hP (ex_H_o hE hx3) rfl rfl) hP hS ⟨Nat.le_trans (Nat.le_of_ble_eq_true rfl) hC.1, Nat.le_trans (Nat.le_of_ble_eq_true rfl) hC.2⟩ rfl hl.1 rfl (Nat.le_of_ble_eq_true rfl) dX1_fill_71) hS ?_
  rintro _ _ H locs ⟨⟩ hP hS
  refine gb_if_ne (tgt := 79) hx hb dX1_fill_74 (by decide) hf (fun hf => ?_) (fun hf => ?_)
  · refine lv_aload_n hx hb dX1_fill_79 rfl (lv_at hl 0 rfl) ?_
    refine rg_X1_32 X hP (ex_C_o hE) dX1_fill_80 ?_
    refine lv_iload hx hb dX1_fill_83 (lv_at hl 4 rfl) ?_
    refine ra_C_line_ld X hP (ex_C_line hE) dX1_fill_85 hf (fun hi4 hf => ?_)
    refine lv_astore (lv' := [(5, .ref (ad (L_o (Int32.toNatClampNeg x4)))), (0, .ref (ad C_o)), (1, .int x1), (2, .int x2), (3, .ref (ad (H_o x3))), (4, .int x4)]) hx hb dX1_fill_86 hl (by decide) rfl (fun ls hl => ?_)
    refine lv_aload hx hb dX1_fill_88 (lv_at hl 0 rfl) ?_
    refine lv_iconst (v := 1) hx hb dX1_fill_90 (by decide) ?_
    refine rp_X1_69 X hP hS (ex_L_o hE hi4) (by decide) dX1_fill_91 hf (fun S5 H locs hP hS hf => ?_)
    refine lv_aload hx hb dX1_fill_94 (lv_at hl 0 rfl) ?_
    refine lv_iconst (v := 0) hx hb dX1_fill_96 (by decide) ?_
    refine rp_X1_142 X hP hS (ex_L_o hE hi4) (by decide) dX1_fill_97 hf (fun S6 H locs hP hS hf => ?_)
    refine lv_aload hx hb dX1_fill_100 (lv_at hl 0 rfl) ?_
    refine lv_iload_n hx hb dX1_fill_102 rfl (lv_at hl 2 rfl) ?_
    refine rp_X1_145 X hP hS (ex_L_o hE hi4) dX1_fill_103 hf (fun S7 H locs hP hS hf => ?_)
    refine lv_aload hx hb dX1_fill_106 (lv_at hl 0 rfl) ?_
    refine lv_aload_n hx hb dX1_fill_108 rfl (lv_at hl 4 rfl) ?_
    refine rg_X1_148 X hP (ex_H_o hE hx3) dX1_fill_109 ?_
    refine rp_X1_151 X hP hS (ex_L_o hE hi4) dX1_fill_112 hf (fun S8 H locs hP hS hf => ?_)
    refine lv_aload hx hb dX1_fill_115 (lv_at hl 0 rfl) ?_
    refine lv_aload_n hx hb dX1_fill_117 rfl (lv_at hl 4 rfl) ?_
    refine rg_X1_152 X hP (ex_H_o hE hx3) dX1_fill_118 ?_
    refine rp_X1_156 X hP hS (ex_L_o hE hi4) dX1_fill_121 hf (fun S9 H locs hP hS hf => ?_)
    refine lv_aload hx hb dX1_fill_124 (lv_at hl 0 rfl) ?_
    refine lv_aload_n hx hb dX1_fill_126 rfl (lv_at hl 4 rfl) ?_
    refine rg_X1_157 X hP (ex_H_o hE hx3) dX1_fill_127 ?_
    refine rp_X1_160 X hP hS (ex_L_o hE hi4) dX1_fill_130 hf (fun S10 H locs hP hS hf => ?_)
    refine lv_aload hx hb dX1_fill_133 (lv_at hl 0 rfl) ?_
    refine lv_aload_n hx hb dX1_fill_135 rfl (lv_at hl 4 rfl) ?_
    refine rg_X1_161 X hP (ex_H_o hE hx3) dX1_fill_136 ?_
    refine rp_X1_164 X hP hS (ex_L_o hE hi4) dX1_fill_139 hf (fun S11 H locs hP hS hf => ?_)
    refine lv_aload hx hb dX1_fill_142 (lv_at hl 0 rfl) ?_
    refine lv_aload_n hx hb dX1_fill_144 rfl (lv_at hl 4 rfl) ?_
    refine rg_X1_165 X hP (ex_H_o hE hx3) dX1_fill_145 ?_
    refine rp_X1_168 X hP hS (ex_L_o hE hi4) dX1_fill_148 hf (fun S12 H locs hP hS hf => ?_)
    refine lv_aload hx hb dX1_fill_151 (lv_at hl 0 rfl) ?_
    refine lv_aload_n hx hb dX1_fill_153 rfl (lv_at hl 4 rfl) ?_
    obtain ⟨v13, hq, hf⟩ := gS_eq hf
    refine gc_i (gc_fixV (S := S12) X (mt_X2_bytes l D dA A ad E x3 hE hx3 S12 hq) (lw_V q866 q867 q868 q87 q869) ⟨rfl, rfl⟩ hd_X2_bytes ⟨Nat.le_trans (Nat.le_of_ble_eq_true rfl) hR.1, Nat.le_trans (Nat.le_of_ble_eq_true rfl) hR.2⟩ (wd_recv (r := H_o x3) (ci := 2) (q := (RX2, TX2, 23)) X.hK.1 hP (ex_H_o hE hx3) rfl rfl) hP hS ⟨Nat.le_trans (Nat.le_of_ble_eq_true rfl) hC.1, Nat.le_trans (Nat.le_of_ble_eq_true rfl) hC.2⟩ rfl hl.1 rfl (Nat.le_of_ble_eq_true rfl) dX1_fill_154) hS ?_
    rintro _ _ H locs ⟨rfl, rfl⟩ hP hS
    refine rp_X1_173 X hP hS (ex_L_o hE hi4) dX1_fill_157 hf (fun S14 H locs hP hS hf => ?_)
    refine lv_aload_n hx hb dX1_fill_160 rfl (lv_at hl 4 rfl) ?_
    refine rg_X1_175 X hP (ex_H_o hE hx3) dX1_fill_161 ?_
    refine lv_iconst (v := 0) hx hb dX1_fill_164 (by decide) ?_
    refine lv_aload hx hb dX1_fill_165 (lv_at hl 0 rfl) ?_
    refine rg_X1_178 X hP (ex_L_o hE hi4) dX1_fill_167 ?_
    refine lv_iconst (v := 0) hx hb dX1_fill_170 (by decide) ?_
    refine lv_aload_n hx hb dX1_fill_171 rfl (lv_at hl 4 rfl) ?_
    refine rg_X1_165 X hP (ex_H_o hE hx3) dX1_fill_172 ?_
    refine gc_copy X hP hS (src := H_row x3) (dst := L_row (Int32.toNatClampNeg x4)) (ex_H_row hE hx3) (ex_L_row hE hi4) (fun _ _ => rfl) (fun _ _ => rfl) (fun _ _ h => h) (X.hts _ q870) (X.hts _ q687) (X.hts _ q686) (X.hts _ q103) hl.1 (Nat.le_trans (Nat.le_of_ble_eq_true rfl) hR.1) (Nat.le_trans (Nat.le_of_ble_eq_true rfl) hR.2) dX1_fill_175 hf (fun S15 H locs hP hS hf => ?_)
    refine lv_iload hx hb dX1_fill_178 (lv_at hl 5 rfl) ?_
    exact xr_i X hP hS ⟨_, rfl, (Option.some.inj hf).symm⟩ (Nat.le_of_ble_eq_true rfl) (Nat.le_of_ble_eq_true rfl) dX1_fill_180
  · refine lv_iconst (v := (-1)) hx hb dX1_fill_77 (by decide) ?_
    exact xr_i X hP hS ⟨_, rfl, (Option.some.inj hf).symm⟩ (Nat.le_of_ble_eq_true rfl) (Nat.le_of_ble_eq_true rfl) dX1_fill_78
set_option maxHeartbeats 4000000 in
theorem w_X1_fill_65 {p : Program} {l : Launch} {e : Env} {R : Room} {s : State} {m : MethodId} {args : Array Value} {below : List Frame} {meth : Method} {c : Code} {D : va_G} {dA : Nat → ClassId} {A : Nat → Prop} {ad : L3 → Nat} (E : L3 → Bool) (hE : EOK E) (X : CX RX1 cX1_fill 6 (some .int) (KA D dA) p s m args meth c A) (hR : 8 ≤ R.frames ∧ 193 ≤ R.locals) (hC : 3 ≤ R.cells ∧ 18 ≤ R.slots) (hex : c.exceptionTable.isEmpty = true) (hZ : ZT A s s.heap) (hfl : l.flags = flags0) {res : Mem × (Nat ⊕ Int32)} (S : Mem) (x1 : Int32) (x2 : Int32) (x3 : Nat) (x4 : Int32) (hx3 : x3 < 2) {H : Heap} {locs : List Loc} {ls : Array Slot} (hP : Wd D clA (shC dA E) (exC E) A ad S H) (hS : va_S A s.heap H locs) (hl : lv_has ls 6 [(0, .ref (ad C_o)), (1, .int x1), (2, .int x2), (3, .ref (ad (H_o x3))), (4, .int x4)]) (hf : f_X1_fill_65 E S x1 x2 x3 x4 = some res) : W p l e R s m args below meth c H locs 2 12 (MQX below (QX D (shC dA E) (exC E) A ad (fun v u => ∃ r : Int32, v = some (.int r) ∧ res = (u, .inr r)) (fun cd u => res = (u, .inl cd))) args s 3 18 A) (F0 m 65 ls []) := by
  have hx := X.hx
  have hb := X.hb
  unfold f_X1_fill_65 at hf
  refine lv_iconst (v := 0) hx hb dX1_fill_65 (by decide) ?_
  exact w_X1_fill_66 E hE X hR hC hex hZ hfl S x1 x2 x3 x4 0 hx3 hP hS (lv_sub hl [0, 1, 2, 3, 4] rfl) hf
set_option maxHeartbeats 4000000 in
theorem w_X1_fill_47 {p : Program} {l : Launch} {e : Env} {R : Room} {s : State} {m : MethodId} {args : Array Value} {below : List Frame} {meth : Method} {c : Code} {D : va_G} {dA : Nat → ClassId} {A : Nat → Prop} {ad : L3 → Nat} (E : L3 → Bool) (hE : EOK E) (X : CX RX1 cX1_fill 6 (some .int) (KA D dA) p s m args meth c A) (hR : 8 ≤ R.frames ∧ 193 ≤ R.locals) (hC : 3 ≤ R.cells ∧ 18 ≤ R.slots) (hex : c.exceptionTable.isEmpty = true) (hZ : ZT A s s.heap) (hfl : l.flags = flags0) {res : Mem × (Nat ⊕ Int32)} (S : Mem) (x1 : Int32) (x2 : Int32) (x3 : Nat) (x4 : Int32) (hx3 : x3 < 2) {H : Heap} {locs : List Loc} {ls : Array Slot} (hP : Wd D clA (shC dA E) (exC E) A ad S H) (hS : va_S A s.heap H locs) (hl : lv_has ls 6 [(0, .ref (ad C_o)), (1, .int x1), (2, .int x2), (3, .ref (ad (H_o x3))), (4, .int x4)]) (hf : f_X1_fill_47 E S x1 x2 x3 x4 = some res) : W p l e R s m args below meth c H locs 2 12 (MQX below (QX D (shC dA E) (exC E) A ad (fun v u => ∃ r : Int32, v = some (.int r) ∧ res = (u, .inr r)) (fun cd u => res = (u, .inl cd))) args s 3 18 A) (F0 m 47 ls []) := by
  have hx := X.hx
  have hb := X.hb
  unfold f_X1_fill_47 at hf
  refine lv_aload_n hx hb dX1_fill_47 rfl (lv_at hl 0 rfl) ?_
  refine rg_X1_82 X hP (ex_C_o hE) dX1_fill_48 ?_
  refine gb_if_eq (tgt := 65) hx hb dX1_fill_51 (by decide) hf (fun hf => ?_) (fun hf => ?_)
  · exact w_X1_fill_65 E hE X hR hC hex hZ hfl S x1 x2 x3 x4 hx3 hP hS (lv_sub hl [0, 1, 2, 3, 4] rfl) hf
  · refine lv_iload hx hb dX1_fill_54 (lv_at hl 4 rfl) ?_
    refine lv_bipush (v := 64) hx hb dX1_fill_56 (by decide) ?_
    refine gb_icmp_ge (tgt := 65) hx hb dX1_fill_58 (by decide) hf (fun hf => ?_) (fun hf => ?_)
    · exact w_X1_fill_65 E hE X hR hC hex hZ hfl S x1 x2 x3 x4 hx3 hP hS (lv_sub hl [0, 1, 2, 3, 4] rfl) hf
    · refine lv_iconst (v := 1) hx hb dX1_fill_61 (by decide) ?_
      refine lv_goto (tgt := 66) hx hb dX1_fill_62 (by decide) ?_
      exact w_X1_fill_66 E hE X hR hC hex hZ hfl S x1 x2 x3 x4 1 hx3 hP hS (lv_sub hl [0, 1, 2, 3, 4] rfl) hf
set_option maxHeartbeats 4000000 in
theorem w_X1_fill_21_b {p : Program} {l : Launch} {e : Env} {R : Room} {s : State} {m : MethodId} {args : Array Value} {below : List Frame} {meth : Method} {c : Code} {D : va_G} {dA : Nat → ClassId} {A : Nat → Prop} {ad : L3 → Nat} (E : L3 → Bool) (hE : EOK E) (X : CX RX1 cX1_fill 6 (some .int) (KA D dA) p s m args meth c A) (hR : 8 ≤ R.frames ∧ 193 ≤ R.locals) (hC : 3 ≤ R.cells ∧ 18 ≤ R.slots) (hex : c.exceptionTable.isEmpty = true) (hZ : ZT A s s.heap) (hfl : l.flags = flags0) {res : Mem × (Nat ⊕ Int32)} (k21 : Mem → Int32 → Int32 → Nat → Int32 → Option (Mem × (Nat ⊕ Int32))) (hk21 : ∀ (S : Mem) (x1 : Int32) (x2 : Int32) (x3 : Nat) (x4 : Int32) (H : Heap) (locs : List Loc) (ls : Array Slot), (x3 < 2) → Wd D clA (shC dA E) (exC E) A ad S H → va_S A s.heap H locs → lv_has ls 6 [(0, .ref (ad C_o)), (1, .int x1), (2, .int x2), (3, .ref (ad (H_o x3))), (4, .int x4)] → k21 S x1 x2 x3 x4 = some res → W p l e R s m args below meth c H locs 2 12 (MQX below (QX D (shC dA E) (exC E) A ad (fun v u => ∃ r : Int32, v = some (.int r) ∧ res = (u, .inr r)) (fun cd u => res = (u, .inl cd))) args s 3 18 A) (F0 m 21 ls [])) (S : Mem) (x1 : Int32) (x2 : Int32) (x3 : Nat) (x4 : Int32) (hx3 : x3 < 2) {H : Heap} {locs : List Loc} {ls : Array Slot} (hP : Wd D clA (shC dA E) (exC E) A ad S H) (hS : va_S A s.heap H locs) (hl : lv_has ls 6 [(0, .ref (ad C_o)), (1, .int x1), (2, .int x2), (3, .ref (ad (H_o x3))), (4, .int x4)]) (hf : f_X1_fill_21_b E k21 S x1 x2 x3 x4 = some res) : W p l e R s m args below meth c H locs 2 12 (MQX below (QX D (shC dA E) (exC E) A ad (fun v u => ∃ r : Int32, v = some (.int r) ∧ res = (u, .inr r)) (fun cd u => res = (u, .inl cd))) args s 3 18 A) (F0 m 21 ls []) := by
  have hx := X.hx
  have hb := X.hb
  unfold f_X1_fill_21_b at hf
  refine lv_iload hx hb dX1_fill_21 (lv_at hl 4 rfl) ?_
  refine lv_bipush (v := 64) hx hb dX1_fill_23 (by decide) ?_
  refine gb_icmp_ge (tgt := 47) hx hb dX1_fill_25 (by decide) hf (fun hf => ?_) (fun hf => ?_)
  · exact w_X1_fill_47 E hE X hR hC hex hZ hfl S x1 x2 x3 x4 hx3 hP hS (lv_sub hl [0, 1, 2, 3, 4] rfl) hf
  · refine lv_aload_n hx hb dX1_fill_28 rfl (lv_at hl 0 rfl) ?_
    refine rg_X1_32 X hP (ex_C_o hE) dX1_fill_29 ?_
    refine lv_iload hx hb dX1_fill_32 (lv_at hl 4 rfl) ?_
    refine ra_C_line_ld X hP (ex_C_line hE) dX1_fill_34 hf (fun hi1 hf => ?_)
    refine rg_X1_69 X hP (ex_L_o hE hi1) dX1_fill_35 ?_
    refine gb_if_eq (tgt := 47) hx hb dX1_fill_38 (by decide) hf (fun hf => ?_) (fun hf => ?_)
    · exact w_X1_fill_47 E hE X hR hC hex hZ hfl S x1 x2 x3 x4 hx3 hP hS (lv_sub hl [0, 1, 2, 3, 4] rfl) hf
    · refine lv_iinc (v := (x4 + 1)) (lv' := [(4, .int (x4 + 1)), (0, .ref (ad C_o)), (1, .int x1), (2, .int x2), (3, .ref (ad (H_o x3)))]) hx hb dX1_fill_41 hl (k := 4) rfl rfl (by decide) rfl (fun ls hl => ?_)
      refine lv_goto (tgt := 21) hx hb dX1_fill_44 (by decide) ?_
      exact hk21 S x1 x2 x3 (x4 + 1) _ _ _ hx3 hP hS (lv_sub hl [1, 2, 3, 4, 0] rfl) hf
set_option maxHeartbeats 4000000 in
theorem w_X1_fill_21 {p : Program} {l : Launch} {e : Env} {R : Room} {s : State} {m : MethodId} {args : Array Value} {below : List Frame} {meth : Method} {c : Code} {D : va_G} {dA : Nat → ClassId} {A : Nat → Prop} {ad : L3 → Nat} (E : L3 → Bool) (hE : EOK E) (X : CX RX1 cX1_fill 6 (some .int) (KA D dA) p s m args meth c A) (hR : 8 ≤ R.frames ∧ 193 ≤ R.locals) (hC : 3 ≤ R.cells ∧ 18 ≤ R.slots) (hex : c.exceptionTable.isEmpty = true) (hZ : ZT A s s.heap) (hfl : l.flags = flags0) {res : Mem × (Nat ⊕ Int32)} (n : Nat) : ∀ (S : Mem) (x1 : Int32) (x2 : Int32) (x3 : Nat) (x4 : Int32) (H : Heap) (locs : List Loc) (ls : Array Slot), (x3 < 2) → Wd D clA (shC dA E) (exC E) A ad S H → va_S A s.heap H locs → lv_has ls 6 [(0, .ref (ad C_o)), (1, .int x1), (2, .int x2), (3, .ref (ad (H_o x3))), (4, .int x4)] → f_X1_fill_21 E n S x1 x2 x3 x4 = some res → W p l e R s m args below meth c H locs 2 12 (MQX below (QX D (shC dA E) (exC E) A ad (fun v u => ∃ r : Int32, v = some (.int r) ∧ res = (u, .inr r)) (fun cd u => res = (u, .inl cd))) args s 3 18 A) (F0 m 21 ls []) := by
  induction n with
  | zero =>
    intro S x1 x2 x3 x4 H locs ls hx3 hP hS hl hf
    exact absurd (show none = some res from hf) (fun h => by cases h)
  | succ n ih =>
    intro S x1 x2 x3 x4 H locs ls hx3 hP hS hl hf
    exact w_X1_fill_21_b E hE X hR hC hex hZ hfl (f_X1_fill_21 E n) ih S x1 x2 x3 x4 hx3 hP hS hl hf
set_option maxHeartbeats 4000000 in
theorem w_X1_fill {p : Program} {l : Launch} {e : Env} {R : Room} {s : State} {m : MethodId} {args : Array Value} {below : List Frame} {meth : Method} {c : Code} {D : va_G} {dA : Nat → ClassId} {A : Nat → Prop} {ad : L3 → Nat} (E : L3 → Bool) (hE : EOK E) (X : CX RX1 cX1_fill 6 (some .int) (KA D dA) p s m args meth c A) (hR : 8 ≤ R.frames ∧ 193 ≤ R.locals) (hC : 3 ≤ R.cells ∧ 18 ≤ R.slots) (hex : c.exceptionTable.isEmpty = true) (hZ : ZT A s s.heap) (hfl : l.flags = flags0) {res : Mem × (Nat ⊕ Int32)} (S : Mem) (x1 : Int32) (x2 : Int32) {H : Heap} {locs : List Loc} {ls : Array Slot} (hP : Wd D clA (shC dA E) (exC E) A ad S H) (hS : va_S A s.heap H locs) (hl : lv_has ls 6 [(0, .ref (ad C_o)), (1, .int x1), (2, .int x2)]) (hf : f_X1_fill E S x1 x2 = some res) : W p l e R s m args below meth c H locs 0 0 (MQX below (QX D (shC dA E) (exC E) A ad (fun v u => ∃ r : Int32, v = some (.int r) ∧ res = (u, .inr r)) (fun cd u => res = (u, .inl cd))) args s 3 18 A) (F0 m 0 ls []) := by
  have hx := X.hx
  have hb := X.hb
  unfold f_X1_fill at hf
  refine lv_aload_n hx hb dX1_fill_0 rfl (lv_at hl 0 rfl) ?_
  refine lv_iload_n hx hb dX1_fill_1 rfl (lv_at hl 1 rfl) ?_
  obtain ⟨q1, hq, hf⟩ := gB_some hf
  refine xc_V (S := S) X hZ (mt_X1_hall l D dA A ad E hE hfl S x1 hq) (lw_V q517 q519 qs2 q86 q520) ⟨rfl, rfl⟩ hd_X1_hall ⟨Nat.le_trans (Nat.le_of_ble_eq_true rfl) hR.1, Nat.le_trans (Nat.le_of_ble_eq_true rfl) hR.2⟩ (wd_recv (r := C_o) (ci := 1) (q := (RX1, TX1, 8)) X.hK.1 hP (ex_C_o hE) rfl rfl) hP hS ⟨Nat.le_trans (Nat.le_of_ble_eq_true rfl) hC.1, Nat.le_trans (Nat.le_of_ble_eq_true rfl) hC.2⟩ rfl hl.1 rfl (Nat.le_of_ble_eq_true rfl) dX1_fill_2 (kr := fun v u H locs hok hP hS => ?_) (kt := fun x cd u t H locs hbad ht hw hP hE hS => by obtain ⟨rfl, rfl⟩ := hbad; exact xt_leave X hex ht hw hP hE hS (gXW_inl hf) (Nat.le_of_ble_eq_true rfl) (Nat.le_of_ble_eq_true rfl))
  obtain ⟨v2, rfl, rfl, rfl, hr3⟩ := hok
  replace hf := gXW_inr hf
  refine W.eq (g2 := F0 m 5 ls [.ref (ad (H_o v2))]) rfl ?_
  refine lv_astore_n (lv' := [(3, .ref (ad (H_o v2))), (0, .ref (ad C_o)), (1, .int x1), (2, .int x2)]) hx hb dX1_fill_5 rfl hl (by decide) rfl (fun ls hl => ?_)
  refine lv_iload_n hx hb dX1_fill_6 rfl (lv_at hl 3 rfl) ?_
  refine lv_i2l hx hb dX1_fill_7 rfl ?_
  refine lv_lconst (v := 1) hx hb dX1_fill_8 (by decide) ?_
  refine lv_ldc2 hx hb X.hown (X.hts _ q803) dX1_fill_9 ?_
  obtain ⟨v4, hq, hf⟩ := gS_eq hf
  refine gc_i (gc_fixS (S := S) X (mt_X1_in l D dA A ad E hE S (Int32.toInt64 x2) (1 : Int64) (1200 : Int64) hq) (lw_S q396 q397 q86 q398) ⟨rfl, rfl⟩ hd_X1_in.2 ⟨Nat.le_trans (Nat.le_of_ble_eq_true rfl) hR.1, Nat.le_trans (Nat.le_of_ble_eq_true rfl) hR.2⟩ hP hS ⟨Nat.le_trans (Nat.le_of_ble_eq_true rfl) hC.1, Nat.le_trans (Nat.le_of_ble_eq_true rfl) hC.2⟩ rfl hl.1 rfl (Nat.le_of_ble_eq_true rfl) dX1_fill_12) hS ?_
  rintro _ _ H locs ⟨rfl, rfl⟩ hP hS
  obtain ⟨q5, hq⟩ : ∃ q, q = f_X1_need v4 := ⟨_, rfl⟩
  rw [← hq] at hf
  refine xc_S (S := S) X hZ (mt_X1_need l D dA A ad E hE hfl S v4 hq.symm) (lw_S q403 q404 q86 q405) ⟨rfl, rfl⟩ hd_X1_need.2 ⟨Nat.le_trans (Nat.le_of_ble_eq_true rfl) hR.1, Nat.le_trans (Nat.le_of_ble_eq_true rfl) hR.2⟩ hP hS ⟨Nat.le_trans (Nat.le_of_ble_eq_true rfl) hC.1, Nat.le_trans (Nat.le_of_ble_eq_true rfl) hC.2⟩ rfl hl.1 rfl (Nat.le_of_ble_eq_true rfl) dX1_fill_15 (kr := fun v u H locs hok hP hS => ?_) (kt := fun x cd u t H locs hbad ht hw hP hE hS => by obtain ⟨rfl, rfl⟩ := hbad; exact xt_leave X hex ht hw hP hE hS (gXW_inl hf) (Nat.le_of_ble_eq_true rfl) (Nat.le_of_ble_eq_true rfl))
  obtain ⟨_, rfl, rfl, rfl⟩ := hok
  replace hf := gXW_inr hf
  refine W.eq (g2 := F0 m 18 ls []) rfl ?_
  refine lv_iconst (v := 0) hx hb dX1_fill_18 (by decide) ?_
  refine lv_istore (lv' := [(4, .int 0), (3, .ref (ad (H_o v2))), (0, .ref (ad C_o)), (1, .int x1), (2, .int x2)]) hx hb dX1_fill_19 hl (by decide) rfl (fun ls hl => ?_)
  exact w_X1_fill_21 E hE X hR hC hex hZ hfl FU S x1 x2 v2 0 _ _ _ hr3 hP hS (lv_sub hl [2, 3, 4, 1, 0] rfl) hf
theorem hd_X1_fill : yX1_fill.cls = RX1 ∧ yX1_fill.cls ≠ "java/lang/invoke/MethodHandle" ∧ yX1_fill.cls ≠ "java/lang/invoke/VarHandle" ∧ (parseMethodDescriptor yX1_fill.desc).map (fun d => d.parameters.length) = some 2 := by decide +kernel
set_option maxHeartbeats 4000000 in
theorem mt_X1_fill (l : Launch) (D : va_G) (dA : Nat → ClassId) (A : Nat → Prop) (ad : L3 → Nat) (E : L3 → Bool) (hE : EOK E) (hfl : l.flags = flags0) (S : Mem) (x1 : Int32) (x2 : Int32) {res : Mem × (Nat ⊕ Int32)} (hq : f_X1_fill E S x1 x2 = some res) : MetX l yX1_fill (ws_ yX1_fill cX1_fill 6 (some .int)) ({ frames := 8, cells := 3, slots := 18, locals := 193 } : Room) (va_Pc [.ref (ad C_o), .int x1, .int x2] (PreX D dA (shC dA E) (exC E) A ad S)) (QX D (shC dA E) (exC E) A ad (fun v u => ∃ r : Int32, v = some (.int r) ∧ res = (u, .inr r)) (fun cd u => res = (u, .inl cd))) 3 18 A :=
  gx_headX (by decide) (Nat.le_of_ble_eq_true rfl) (fun p e s m below meth c ls X hex hZ hP hl => w_X1_fill (l := l) E hE X ⟨Nat.le_of_ble_eq_true rfl, Nat.le_of_ble_eq_true rfl⟩ ⟨Nat.le_of_ble_eq_true rfl, Nat.le_of_ble_eq_true rfl⟩ hex hZ hfl S x1 x2 hP va_S.rf (lv_sub (l := [(0, .ref (ad C_o)), (1, .int x1), (2, .int x2)]) hl [0, 1, 2] rfl) hq)
set_option maxHeartbeats 4000000 in
theorem w_X1_gone_22 {p : Program} {l : Launch} {e : Env} {R : Room} {s : State} {m : MethodId} {args : Array Value} {below : List Frame} {meth : Method} {c : Code} {D : va_G} {dA : Nat → ClassId} {A : Nat → Prop} {ad : L3 → Nat} (E : L3 → Bool) (hE : EOK E) (X : CX RX1 cX1_gone 4 none (KA D dA) p s m args meth c A) (hR : 8 ≤ R.frames ∧ 173 ≤ R.locals) (hC : 2 ≤ R.cells ∧ 12 ≤ R.slots) (hex : c.exceptionTable.isEmpty = true) (hZ : ZT A s s.heap) (hfl : l.flags = flags0) {res : Mem × (Nat ⊕ Unit)} (S : Mem) (x2 : Int32) (x3 : Nat) (y0 : Int32) (hx3 : x3 < 64) {H : Heap} {locs : List Loc} {ls : Array Slot} (hP : Wd D clA (shC dA E) (exC E) A ad S H) (hS : va_S A s.heap H locs) (hl : lv_has ls 4 [(0, .ref (ad C_o)), (2, .int x2), (3, .ref (ad (L_o x3)))]) (hf : f_X1_gone_22 E S x2 x3 y0 = some res) : W p l e R s m args below meth c H locs 1 6 (MQX below (QX D (shC dA E) (exC E) A ad (fun v u => ∃ r : Unit, v = none ∧ res = (u, .inr r)) (fun cd u => res = (u, .inl cd))) args s 2 12 A) (F0 m 22 ls [.int y0]) := by
  have hx := X.hx
  have hb := X.hb
  unfold f_X1_gone_22 at hf
  obtain ⟨q1, hq⟩ : ∃ q, q = f_X1_ready y0 := ⟨_, rfl⟩
  rw [← hq] at hf
  refine xc_S (S := S) X hZ (mt_X1_ready l D dA A ad E hE hfl S y0 hq.symm) (lw_S q469 q470 q86 q471) ⟨rfl, rfl⟩ hd_X1_ready.2 ⟨Nat.le_trans (Nat.le_of_ble_eq_true rfl) hR.1, Nat.le_trans (Nat.le_of_ble_eq_true rfl) hR.2⟩ hP hS ⟨Nat.le_trans (Nat.le_of_ble_eq_true rfl) hC.1, Nat.le_trans (Nat.le_of_ble_eq_true rfl) hC.2⟩ rfl hl.1 rfl (Nat.le_of_ble_eq_true rfl) dX1_gone_22 (kr := fun v u H locs hok hP hS => ?_) (kt := fun x cd u t H locs hbad ht hw hP hE hS => by obtain ⟨rfl, rfl⟩ := hbad; exact xt_leave X hex ht hw hP hE hS (gXW_inl hf) (Nat.le_of_ble_eq_true rfl) (Nat.le_of_ble_eq_true rfl))
  obtain ⟨_, rfl, rfl, rfl⟩ := hok
  replace hf := gXW_inr hf
  refine W.eq (g2 := F0 m 25 ls []) rfl ?_
  refine lv_aload_n hx hb dX1_gone_25 rfl (lv_at hl 2 rfl) ?_
  refine lv_iconst (v := 0) hx hb dX1_gone_26 (by decide) ?_
  refine rp_X1_69 X hP hS (ex_L_o hE hx3) (by decide) dX1_gone_27 hf (fun S2 H locs hP hS hf => ?_)
  refine lv_aload_n hx hb dX1_gone_30 rfl (lv_at hl 0 rfl) ?_
  refine rg_X1_18 X hP (ex_C_o hE) dX1_gone_31 ?_
  refine lv_aload_n hx hb dX1_gone_34 rfl (lv_at hl 2 rfl) ?_
  refine rg_X1_145 X hP (ex_L_o hE hx3) dX1_gone_35 ?_
  refine ra_C_halls_ld X hP (ex_C_halls hE) dX1_gone_38 hf (fun hi3 hf => ?_)
  refine lv_aload_n hx hb dX1_gone_39 rfl (lv_at hl 2 rfl) ?_
  refine rg_X1_151 X hP (ex_L_o hE hx3) dX1_gone_40 ?_
  refine lv_aload_n hx hb dX1_gone_43 rfl (lv_at hl 2 rfl) ?_
  refine rg_X1_156 X hP (ex_L_o hE hx3) dX1_gone_44 ?_
  refine lv_aload_n hx hb dX1_gone_47 rfl (lv_at hl 2 rfl) ?_
  refine rg_X1_160 X hP (ex_L_o hE hx3) dX1_gone_48 ?_
  refine lv_aload_n hx hb dX1_gone_51 rfl (lv_at hl 2 rfl) ?_
  refine rg_X1_168 X hP (ex_L_o hE hx3) dX1_gone_52 ?_
  refine lv_aload_n hx hb dX1_gone_55 rfl (lv_at hl 2 rfl) ?_
  refine rg_X1_164 X hP (ex_L_o hE hx3) dX1_gone_56 ?_
  refine lv_iload_n hx hb dX1_gone_59 rfl (lv_at hl 1 rfl) ?_
  obtain ⟨S4, hq, hf⟩ := gB_some hf
  refine gc_v (gc_fixV (S := S2) X (mt_X2_gone l D dA A ad E (Int32.toNatClampNeg (S2.1 (L_o x3) 2)) hE hi3 S2 (S2.1 (L_o x3) 3) (S2.2 (L_o x3) 6) (S2.2 (L_o x3) 7) (S2.1 (L_o x3) 4) (S2.2 (L_o x3) 8) x2 hq) (lw_V q972 q973 q974 q87 q975) ⟨rfl, rfl⟩ hd_X2_gone ⟨Nat.le_trans (Nat.le_of_ble_eq_true rfl) hR.1, Nat.le_trans (Nat.le_of_ble_eq_true rfl) hR.2⟩ (wd_recv (r := H_o (Int32.toNatClampNeg (S2.1 (L_o x3) 2))) (ci := 2) (q := (RX2, TX2, 23)) X.hK.1 hP (ex_H_o hE hi3) rfl rfl) hP hS ⟨Nat.le_trans (Nat.le_of_ble_eq_true rfl) hC.1, Nat.le_trans (Nat.le_of_ble_eq_true rfl) hC.2⟩ rfl hl.1 rfl (Nat.le_of_ble_eq_true rfl) dX1_gone_60) hS ?_
  rintro _ H locs rfl hP hS
  exact xr_v X hP hS ⟨(), rfl, (Option.some.inj hf).symm⟩ (Nat.le_of_ble_eq_true rfl) (Nat.le_of_ble_eq_true rfl) dX1_gone_63
set_option maxHeartbeats 4000000 in
theorem w_X1_gone_17 {p : Program} {l : Launch} {e : Env} {R : Room} {s : State} {m : MethodId} {args : Array Value} {below : List Frame} {meth : Method} {c : Code} {D : va_G} {dA : Nat → ClassId} {A : Nat → Prop} {ad : L3 → Nat} (E : L3 → Bool) (hE : EOK E) (X : CX RX1 cX1_gone 4 none (KA D dA) p s m args meth c A) (hR : 8 ≤ R.frames ∧ 173 ≤ R.locals) (hC : 2 ≤ R.cells ∧ 12 ≤ R.slots) (hex : c.exceptionTable.isEmpty = true) (hZ : ZT A s s.heap) (hfl : l.flags = flags0) {res : Mem × (Nat ⊕ Unit)} (S : Mem) (x2 : Int32) (x3 : Nat) (hx3 : x3 < 64) {H : Heap} {locs : List Loc} {ls : Array Slot} (hP : Wd D clA (shC dA E) (exC E) A ad S H) (hS : va_S A s.heap H locs) (hl : lv_has ls 4 [(0, .ref (ad C_o)), (2, .int x2), (3, .ref (ad (L_o x3)))]) (hf : f_X1_gone_17 E S x2 x3 = some res) : W p l e R s m args below meth c H locs 1 6 (MQX below (QX D (shC dA E) (exC E) A ad (fun v u => ∃ r : Unit, v = none ∧ res = (u, .inr r)) (fun cd u => res = (u, .inl cd))) args s 2 12 A) (F0 m 17 ls []) := by
  have hx := X.hx
  have hb := X.hb
  unfold f_X1_gone_17 at hf
  refine lv_iconst (v := 1) hx hb dX1_gone_17 (by decide) ?_
  refine lv_goto (tgt := 22) hx hb dX1_gone_18 (by decide) ?_
  exact w_X1_gone_22 E hE X hR hC hex hZ hfl S x2 x3 1 hx3 hP hS (lv_sub hl [0, 1, 2] rfl) hf
set_option maxHeartbeats 4000000 in
theorem w_X1_gone {p : Program} {l : Launch} {e : Env} {R : Room} {s : State} {m : MethodId} {args : Array Value} {below : List Frame} {meth : Method} {c : Code} {D : va_G} {dA : Nat → ClassId} {A : Nat → Prop} {ad : L3 → Nat} (E : L3 → Bool) (hE : EOK E) (X : CX RX1 cX1_gone 4 none (KA D dA) p s m args meth c A) (hR : 8 ≤ R.frames ∧ 173 ≤ R.locals) (hC : 2 ≤ R.cells ∧ 12 ≤ R.slots) (hex : c.exceptionTable.isEmpty = true) (hZ : ZT A s s.heap) (hfl : l.flags = flags0) {res : Mem × (Nat ⊕ Unit)} (S : Mem) (x1 : Int32) (x2 : Int32) {H : Heap} {locs : List Loc} {ls : Array Slot} (hP : Wd D clA (shC dA E) (exC E) A ad S H) (hS : va_S A s.heap H locs) (hl : lv_has ls 4 [(0, .ref (ad C_o)), (1, .int x1), (2, .int x2)]) (hf : f_X1_gone E S x1 x2 = some res) : W p l e R s m args below meth c H locs 0 0 (MQX below (QX D (shC dA E) (exC E) A ad (fun v u => ∃ r : Unit, v = none ∧ res = (u, .inr r)) (fun cd u => res = (u, .inl cd))) args s 2 12 A) (F0 m 0 ls []) := by
  have hx := X.hx
  have hb := X.hb
  unfold f_X1_gone at hf
  refine lv_aload_n hx hb dX1_gone_0 rfl (lv_at hl 0 rfl) ?_
  refine lv_iload_n hx hb dX1_gone_1 rfl (lv_at hl 1 rfl) ?_
  obtain ⟨q1, hq, hf⟩ := gB_some hf
  refine xc_V (S := S) X hZ (mt_X1_at l D dA A ad E hE hfl S x1 hq) (lw_V q879 q881 qs24 q86 q882) ⟨rfl, rfl⟩ hd_X1_at ⟨Nat.le_trans (Nat.le_of_ble_eq_true rfl) hR.1, Nat.le_trans (Nat.le_of_ble_eq_true rfl) hR.2⟩ (wd_recv (r := C_o) (ci := 1) (q := (RX1, TX1, 8)) X.hK.1 hP (ex_C_o hE) rfl rfl) hP hS ⟨Nat.le_trans (Nat.le_of_ble_eq_true rfl) hC.1, Nat.le_trans (Nat.le_of_ble_eq_true rfl) hC.2⟩ rfl hl.1 rfl (Nat.le_of_ble_eq_true rfl) dX1_gone_2 (kr := fun v u H locs hok hP hS => ?_) (kt := fun x cd u t H locs hbad ht hw hP hE hS => by obtain ⟨rfl, rfl⟩ := hbad; exact xt_leave X hex ht hw hP hE hS (gXW_inl hf) (Nat.le_of_ble_eq_true rfl) (Nat.le_of_ble_eq_true rfl))
  obtain ⟨v2, rfl, rfl, rfl, hr3⟩ := hok
  replace hf := gXW_inr hf
  refine W.eq (g2 := F0 m 5 ls [.ref (ad (L_o v2))]) rfl ?_
  refine lv_astore_n (lv' := [(3, .ref (ad (L_o v2))), (0, .ref (ad C_o)), (1, .int x1), (2, .int x2)]) hx hb dX1_gone_5 rfl hl (by decide) rfl (fun ls hl => ?_)
  refine lv_iload_n hx hb dX1_gone_6 rfl (lv_at hl 3 rfl) ?_
  refine gb_if_eq (tgt := 17) hx hb dX1_gone_7 (by decide) hf (fun hf => ?_) (fun hf => ?_)
  · exact w_X1_gone_17 E hE X hR hC hex hZ hfl S x2 v2 hr3 hP hS (lv_sub hl [1, 3, 0] rfl) hf
  · refine lv_aload_n hx hb dX1_gone_10 rfl (lv_at hl 0 rfl) ?_
    refine rg_X1_142 X hP (ex_L_o hE hr3) dX1_gone_11 ?_
    refine gb_if_eq (tgt := 21) hx hb dX1_gone_14 (by decide) hf (fun hf => ?_) (fun hf => ?_)
    · refine lv_iconst (v := 0) hx hb dX1_gone_21 (by decide) ?_
      exact w_X1_gone_22 E hE X hR hC hex hZ hfl S x2 v2 0 hr3 hP hS (lv_sub hl [1, 3, 0] rfl) hf
    · exact w_X1_gone_17 E hE X hR hC hex hZ hfl S x2 v2 hr3 hP hS (lv_sub hl [1, 3, 0] rfl) hf
theorem hd_X1_gone : yX1_gone.cls = RX1 ∧ yX1_gone.cls ≠ "java/lang/invoke/MethodHandle" ∧ yX1_gone.cls ≠ "java/lang/invoke/VarHandle" ∧ (parseMethodDescriptor yX1_gone.desc).map (fun d => d.parameters.length) = some 2 := by decide +kernel
set_option maxHeartbeats 4000000 in
theorem mt_X1_gone (l : Launch) (D : va_G) (dA : Nat → ClassId) (A : Nat → Prop) (ad : L3 → Nat) (E : L3 → Bool) (hE : EOK E) (hfl : l.flags = flags0) (S : Mem) (x1 : Int32) (x2 : Int32) {res : Mem × (Nat ⊕ Unit)} (hq : f_X1_gone E S x1 x2 = some res) : MetX l yX1_gone (ws_ yX1_gone cX1_gone 4 none) ({ frames := 8, cells := 2, slots := 12, locals := 173 } : Room) (va_Pc [.ref (ad C_o), .int x1, .int x2] (PreX D dA (shC dA E) (exC E) A ad S)) (QX D (shC dA E) (exC E) A ad (fun v u => ∃ r : Unit, v = none ∧ res = (u, .inr r)) (fun cd u => res = (u, .inl cd))) 2 12 A :=
  gx_headX (by decide) (Nat.le_of_ble_eq_true rfl) (fun p e s m below meth c ls X hex hZ hP hl => w_X1_gone (l := l) E hE X ⟨Nat.le_of_ble_eq_true rfl, Nat.le_of_ble_eq_true rfl⟩ ⟨Nat.le_of_ble_eq_true rfl, Nat.le_of_ble_eq_true rfl⟩ hex hZ hfl S x1 x2 hP va_S.rf (lv_sub (l := [(0, .ref (ad C_o)), (1, .int x1), (2, .int x2)]) hl [0, 1, 2] rfl) hq)
set_option maxHeartbeats 4000000 in
theorem w_X1_line {p : Program} {l : Launch} {e : Env} {R : Room} {s : State} {m : MethodId} {args : Array Value} {below : List Frame} {meth : Method} {c : Code} {D : va_G} {dA : Nat → ClassId} {A : Nat → Prop} {ad : L3 → Nat} (E : L3 → Bool) (hE : EOK E) (X : CX RX1 cX1_line 4 (some .long) (KA D dA) p s m args meth c A) (hR : 8 ≤ R.frames ∧ 131 ≤ R.locals) (hC : 2 ≤ R.cells ∧ 12 ≤ R.slots) (hex : c.exceptionTable.isEmpty = true) (hZ : ZT A s s.heap) (hfl : l.flags = flags0) {res : Nat ⊕ Int64} (S : Mem) (x1 : Int32) (x2 : Int32) {H : Heap} {locs : List Loc} {ls : Array Slot} (hP : Wd D clA (shC dA E) (exC E) A ad S H) (hS : va_S A s.heap H locs) (hl : lv_has ls 4 [(0, .ref (ad C_o)), (1, .int x1), (2, .int x2)]) (hf : f_X1_line S x1 x2 = some res) : W p l e R s m args below meth c H locs 0 0 (MQX below (QX D (shC dA E) (exC E) A ad (fun v u => ∃ r : Int64, v = some (.long r) ∧ res = .inr r ∧ S = u) (fun cd u => res = .inl cd ∧ S = u)) args s 2 12 A) (F0 m 0 ls []) := by
  have hx := X.hx
  have hb := X.hb
  unfold f_X1_line at hf
  refine lv_aload_n hx hb dX1_line_0 rfl (lv_at hl 0 rfl) ?_
  refine lv_iload_n hx hb dX1_line_1 rfl (lv_at hl 1 rfl) ?_
  obtain ⟨q1, hq, hf⟩ := gB_some hf
  refine xc_V (S := S) X hZ (mt_X1_at l D dA A ad E hE hfl S x1 hq) (lw_V q879 q881 qs24 q86 q882) ⟨rfl, rfl⟩ hd_X1_at ⟨Nat.le_trans (Nat.le_of_ble_eq_true rfl) hR.1, Nat.le_trans (Nat.le_of_ble_eq_true rfl) hR.2⟩ (wd_recv (r := C_o) (ci := 1) (q := (RX1, TX1, 8)) X.hK.1 hP (ex_C_o hE) rfl rfl) hP hS ⟨Nat.le_trans (Nat.le_of_ble_eq_true rfl) hC.1, Nat.le_trans (Nat.le_of_ble_eq_true rfl) hC.2⟩ rfl hl.1 rfl (Nat.le_of_ble_eq_true rfl) dX1_line_2 (kr := fun v u H locs hok hP hS => ?_) (kt := fun x cd u t H locs hbad ht hw hP hE hS => by obtain ⟨rfl, rfl⟩ := hbad; exact xt_leave X hex ht hw hP hE hS (⟨gX_inl hf, rfl⟩) (Nat.le_of_ble_eq_true rfl) (Nat.le_of_ble_eq_true rfl))
  obtain ⟨v2, rfl, rfl, rfl, hr3⟩ := hok
  replace hf := gX_inr hf
  refine W.eq (g2 := F0 m 5 ls [.ref (ad (L_o v2))]) rfl ?_
  refine lv_astore_n (lv' := [(3, .ref (ad (L_o v2))), (0, .ref (ad C_o)), (1, .int x1), (2, .int x2)]) hx hb dX1_line_5 rfl hl (by decide) rfl (fun ls hl => ?_)
  refine lv_iload_n hx hb dX1_line_6 rfl (lv_at hl 3 rfl) ?_
  refine lv_i2l hx hb dX1_line_7 rfl ?_
  refine lv_lconst (v := 0) hx hb dX1_line_8 (by decide) ?_
  refine lv_ldc2 hx hb X.hown (X.hts _ q1012) dX1_line_9 ?_
  obtain ⟨v4, hq, hf⟩ := gS_eq hf
  refine gc_i (gc_fixS (S := S) X (mt_X1_in l D dA A ad E hE S (Int32.toInt64 x2) (0 : Int64) (6 : Int64) hq) (lw_S q396 q397 q86 q398) ⟨rfl, rfl⟩ hd_X1_in.2 ⟨Nat.le_trans (Nat.le_of_ble_eq_true rfl) hR.1, Nat.le_trans (Nat.le_of_ble_eq_true rfl) hR.2⟩ hP hS ⟨Nat.le_trans (Nat.le_of_ble_eq_true rfl) hC.1, Nat.le_trans (Nat.le_of_ble_eq_true rfl) hC.2⟩ rfl hl.1 rfl (Nat.le_of_ble_eq_true rfl) dX1_line_12) hS ?_
  rintro _ _ H locs ⟨rfl, rfl⟩ hP hS
  obtain ⟨q5, hq⟩ : ∃ q, q = f_X1_there v4 := ⟨_, rfl⟩
  rw [← hq] at hf
  refine xc_S (S := S) X hZ (mt_X1_there l D dA A ad E hE hfl S v4 hq.symm) (lw_S q884 q885 q86 q886) ⟨rfl, rfl⟩ hd_X1_there.2 ⟨Nat.le_trans (Nat.le_of_ble_eq_true rfl) hR.1, Nat.le_trans (Nat.le_of_ble_eq_true rfl) hR.2⟩ hP hS ⟨Nat.le_trans (Nat.le_of_ble_eq_true rfl) hC.1, Nat.le_trans (Nat.le_of_ble_eq_true rfl) hC.2⟩ rfl hl.1 rfl (Nat.le_of_ble_eq_true rfl) dX1_line_15 (kr := fun v u H locs hok hP hS => ?_) (kt := fun x cd u t H locs hbad ht hw hP hE hS => by obtain ⟨rfl, rfl⟩ := hbad; exact xt_leave X hex ht hw hP hE hS (⟨gX_inl hf, rfl⟩) (Nat.le_of_ble_eq_true rfl) (Nat.le_of_ble_eq_true rfl))
  obtain ⟨_, rfl, rfl, rfl⟩ := hok
  replace hf := gX_inr hf
  refine W.eq (g2 := F0 m 18 ls []) rfl ?_
  refine lv_iload_n hx hb dX1_line_18 rfl (lv_at hl 3 rfl) ?_
  by_cases h19_0 : x2 = (0 : Int32)
  · rw [if_pos h19_0] at hf
    refine lv_tableIn (tgt := 56) hx hb dX1_line_19 (by rw [h19_0]; decide) (by rw [h19_0]; decide) (by rw [h19_0]; rfl) (by decide) ?_
    refine lv_aload_n hx hb dX1_line_56 rfl (lv_at hl 0 rfl) ?_
    refine rg_X1_145 X hP (ex_L_o hE hr3) dX1_line_57 ?_
    refine lv_i2l hx hb dX1_line_60 rfl ?_
    exact xr_l X hP hS ⟨_, rfl, (Option.some.inj hf).symm, rfl⟩ (Nat.le_of_ble_eq_true rfl) (Nat.le_of_ble_eq_true rfl) dX1_line_61
  rw [if_neg h19_0] at hf
  by_cases h19_1 : x2 = (1 : Int32)
  · rw [if_pos h19_1] at hf
    refine lv_tableIn (tgt := 62) hx hb dX1_line_19 (by rw [h19_1]; decide) (by rw [h19_1]; decide) (by rw [h19_1]; rfl) (by decide) ?_
    refine lv_aload_n hx hb dX1_line_62 rfl (lv_at hl 0 rfl) ?_
    refine rg_X1_151 X hP (ex_L_o hE hr3) dX1_line_63 ?_
    refine lv_i2l hx hb dX1_line_66 rfl ?_
    exact xr_l X hP hS ⟨_, rfl, (Option.some.inj hf).symm, rfl⟩ (Nat.le_of_ble_eq_true rfl) (Nat.le_of_ble_eq_true rfl) dX1_line_67
  rw [if_neg h19_1] at hf
  by_cases h19_2 : x2 = (2 : Int32)
  · rw [if_pos h19_2] at hf
    refine lv_tableIn (tgt := 68) hx hb dX1_line_19 (by rw [h19_2]; decide) (by rw [h19_2]; decide) (by rw [h19_2]; rfl) (by decide) ?_
    refine lv_aload_n hx hb dX1_line_68 rfl (lv_at hl 0 rfl) ?_
    refine rg_X1_156 X hP (ex_L_o hE hr3) dX1_line_69 ?_
    exact xr_l X hP hS ⟨_, rfl, (Option.some.inj hf).symm, rfl⟩ (Nat.le_of_ble_eq_true rfl) (Nat.le_of_ble_eq_true rfl) dX1_line_72
  rw [if_neg h19_2] at hf
  by_cases h19_3 : x2 = (3 : Int32)
  · rw [if_pos h19_3] at hf
    refine lv_tableIn (tgt := 73) hx hb dX1_line_19 (by rw [h19_3]; decide) (by rw [h19_3]; decide) (by rw [h19_3]; rfl) (by decide) ?_
    refine lv_aload_n hx hb dX1_line_73 rfl (lv_at hl 0 rfl) ?_
    refine rg_X1_160 X hP (ex_L_o hE hr3) dX1_line_74 ?_
    exact xr_l X hP hS ⟨_, rfl, (Option.some.inj hf).symm, rfl⟩ (Nat.le_of_ble_eq_true rfl) (Nat.le_of_ble_eq_true rfl) dX1_line_77
  rw [if_neg h19_3] at hf
  by_cases h19_4 : x2 = (4 : Int32)
  · rw [if_pos h19_4] at hf
    refine lv_tableIn (tgt := 78) hx hb dX1_line_19 (by rw [h19_4]; decide) (by rw [h19_4]; decide) (by rw [h19_4]; rfl) (by decide) ?_
    refine lv_aload_n hx hb dX1_line_78 rfl (lv_at hl 0 rfl) ?_
    refine rg_X1_164 X hP (ex_L_o hE hr3) dX1_line_79 ?_
    exact xr_l X hP hS ⟨_, rfl, (Option.some.inj hf).symm, rfl⟩ (Nat.le_of_ble_eq_true rfl) (Nat.le_of_ble_eq_true rfl) dX1_line_82
  rw [if_neg h19_4] at hf
  by_cases h19_5 : x2 = (5 : Int32)
  · rw [if_pos h19_5] at hf
    refine lv_tableIn (tgt := 83) hx hb dX1_line_19 (by rw [h19_5]; decide) (by rw [h19_5]; decide) (by rw [h19_5]; rfl) (by decide) ?_
    refine lv_aload_n hx hb dX1_line_83 rfl (lv_at hl 0 rfl) ?_
    refine rg_X1_168 X hP (ex_L_o hE hr3) dX1_line_84 ?_
    refine lv_i2l hx hb dX1_line_87 rfl ?_
    exact xr_l X hP hS ⟨_, rfl, (Option.some.inj hf).symm, rfl⟩ (Nat.le_of_ble_eq_true rfl) (Nat.le_of_ble_eq_true rfl) dX1_line_88
  rw [if_neg h19_5] at hf
  suffices hd19 : W p l e R s m args below meth c H locs 2 12 (MQX below (QX D (shC dA E) (exC E) A ad (fun v u => ∃ r : Int64, v = some (.long r) ∧ res = .inr r ∧ S = u) (fun cd u => res = .inl cd ∧ S = u)) args s 2 12 A) (F0 m 89 ls []) by
    have n0 := lv_neT h19_0 (show (0 : Int32).toInt = 0 by decide)
    have n1 := lv_neT h19_1 (show (1 : Int32).toInt = 1 by decide)
    have n2 := lv_neT h19_2 (show (2 : Int32).toInt = 2 by decide)
    have n3 := lv_neT h19_3 (show (3 : Int32).toInt = 3 by decide)
    have n4 := lv_neT h19_4 (show (4 : Int32).toInt = 4 by decide)
    have n5 := lv_neT h19_5 (show (5 : Int32).toInt = 5 by decide)
    exact lv_tableOut (tgt := 89) hx hb dX1_line_19 (by omega) (by decide) hd19
  refine lv_aload_n hx hb dX1_line_89 rfl (lv_at hl 0 rfl) ?_
  refine rg_X1_173 X hP (ex_L_o hE hr3) dX1_line_90 ?_
  refine lv_i2l hx hb dX1_line_93 rfl ?_
  exact xr_l X hP hS ⟨_, rfl, (Option.some.inj hf).symm, rfl⟩ (Nat.le_of_ble_eq_true rfl) (Nat.le_of_ble_eq_true rfl) dX1_line_94
theorem hd_X1_line : yX1_line.cls = RX1 ∧ yX1_line.cls ≠ "java/lang/invoke/MethodHandle" ∧ yX1_line.cls ≠ "java/lang/invoke/VarHandle" ∧ (parseMethodDescriptor yX1_line.desc).map (fun d => d.parameters.length) = some 2 := by decide +kernel
set_option maxHeartbeats 4000000 in
theorem mt_X1_line (l : Launch) (D : va_G) (dA : Nat → ClassId) (A : Nat → Prop) (ad : L3 → Nat) (E : L3 → Bool) (hE : EOK E) (hfl : l.flags = flags0) (S : Mem) (x1 : Int32) (x2 : Int32) {res : Nat ⊕ Int64} (hq : f_X1_line S x1 x2 = some res) : MetX l yX1_line (ws_ yX1_line cX1_line 4 (some .long)) ({ frames := 8, cells := 2, slots := 12, locals := 131 } : Room) (va_Pc [.ref (ad C_o), .int x1, .int x2] (PreX D dA (shC dA E) (exC E) A ad S)) (QX D (shC dA E) (exC E) A ad (fun v u => ∃ r : Int64, v = some (.long r) ∧ res = .inr r ∧ S = u) (fun cd u => res = .inl cd ∧ S = u)) 2 12 A :=
  gx_headX (by decide) (Nat.le_of_ble_eq_true rfl) (fun p e s m below meth c ls X hex hZ hP hl => w_X1_line (l := l) E hE X ⟨Nat.le_of_ble_eq_true rfl, Nat.le_of_ble_eq_true rfl⟩ ⟨Nat.le_of_ble_eq_true rfl, Nat.le_of_ble_eq_true rfl⟩ hex hZ hfl S x1 x2 hP va_S.rf (lv_sub (l := [(0, .ref (ad C_o)), (1, .int x1), (2, .int x2)]) hl [0, 1, 2] rfl) hq)
set_option maxHeartbeats 4000000 in
theorem w_X1_data {p : Program} {l : Launch} {e : Env} {R : Room} {s : State} {m : MethodId} {args : Array Value} {below : List Frame} {meth : Method} {c : Code} {D : va_G} {dA : Nat → ClassId} {A : Nat → Prop} {ad : L3 → Nat} (E : L3 → Bool) (hE : EOK E) (X : CX RX1 cX1_data 4 (some .int) (KA D dA) p s m args meth c A) (hR : 8 ≤ R.frames ∧ 131 ≤ R.locals) (hC : 2 ≤ R.cells ∧ 12 ≤ R.slots) (hex : c.exceptionTable.isEmpty = true) (hZ : ZT A s s.heap) (hfl : l.flags = flags0) {res : Nat ⊕ Int32} (S : Mem) (x1 : Int32) (x2 : Int32) {H : Heap} {locs : List Loc} {ls : Array Slot} (hP : Wd D clA (shC dA E) (exC E) A ad S H) (hS : va_S A s.heap H locs) (hl : lv_has ls 4 [(0, .ref (ad C_o)), (1, .int x1), (2, .int x2)]) (hf : f_X1_data S x1 x2 = some res) : W p l e R s m args below meth c H locs 0 0 (MQX below (QX D (shC dA E) (exC E) A ad (fun v u => ∃ r : Int32, v = some (.int r) ∧ res = .inr r ∧ S = u) (fun cd u => res = .inl cd ∧ S = u)) args s 2 12 A) (F0 m 0 ls []) := by
  have hx := X.hx
  have hb := X.hb
  unfold f_X1_data at hf
  refine lv_aload_n hx hb dX1_data_0 rfl (lv_at hl 0 rfl) ?_
  refine lv_iload_n hx hb dX1_data_1 rfl (lv_at hl 1 rfl) ?_
  obtain ⟨q1, hq, hf⟩ := gB_some hf
  refine xc_V (S := S) X hZ (mt_X1_at l D dA A ad E hE hfl S x1 hq) (lw_V q879 q881 qs24 q86 q882) ⟨rfl, rfl⟩ hd_X1_at ⟨Nat.le_trans (Nat.le_of_ble_eq_true rfl) hR.1, Nat.le_trans (Nat.le_of_ble_eq_true rfl) hR.2⟩ (wd_recv (r := C_o) (ci := 1) (q := (RX1, TX1, 8)) X.hK.1 hP (ex_C_o hE) rfl rfl) hP hS ⟨Nat.le_trans (Nat.le_of_ble_eq_true rfl) hC.1, Nat.le_trans (Nat.le_of_ble_eq_true rfl) hC.2⟩ rfl hl.1 rfl (Nat.le_of_ble_eq_true rfl) dX1_data_2 (kr := fun v u H locs hok hP hS => ?_) (kt := fun x cd u t H locs hbad ht hw hP hE hS => by obtain ⟨rfl, rfl⟩ := hbad; exact xt_leave X hex ht hw hP hE hS (⟨gX_inl hf, rfl⟩) (Nat.le_of_ble_eq_true rfl) (Nat.le_of_ble_eq_true rfl))
  obtain ⟨v2, rfl, rfl, rfl, hr3⟩ := hok
  replace hf := gX_inr hf
  refine W.eq (g2 := F0 m 5 ls [.ref (ad (L_o v2))]) rfl ?_
  refine lv_astore_n (lv' := [(3, .ref (ad (L_o v2))), (0, .ref (ad C_o)), (1, .int x1), (2, .int x2)]) hx hb dX1_data_5 rfl hl (by decide) rfl (fun ls hl => ?_)
  refine lv_iload_n hx hb dX1_data_6 rfl (lv_at hl 3 rfl) ?_
  refine lv_i2l hx hb dX1_data_7 rfl ?_
  refine lv_lconst (v := 0) hx hb dX1_data_8 (by decide) ?_
  refine lv_aload_n hx hb dX1_data_9 rfl (lv_at hl 0 rfl) ?_
  refine rg_X1_168 X hP (ex_L_o hE hr3) dX1_data_10 ?_
  refine lv_i2l hx hb dX1_data_13 rfl ?_
  refine lv_lconst (v := 1) hx hb dX1_data_14 (by decide) ?_
  refine lv_lsub hx hb dX1_data_15 ?_
  obtain ⟨v4, hq, hf⟩ := gS_eq hf
  refine gc_i (gc_fixS (S := S) X (mt_X1_in l D dA A ad E hE S (Int32.toInt64 x2) (0 : Int64) ((Int32.toInt64 (S.1 (L_o v2) 4)) - 1) hq) (lw_S q396 q397 q86 q398) ⟨rfl, rfl⟩ hd_X1_in.2 ⟨Nat.le_trans (Nat.le_of_ble_eq_true rfl) hR.1, Nat.le_trans (Nat.le_of_ble_eq_true rfl) hR.2⟩ hP hS ⟨Nat.le_trans (Nat.le_of_ble_eq_true rfl) hC.1, Nat.le_trans (Nat.le_of_ble_eq_true rfl) hC.2⟩ rfl hl.1 rfl (Nat.le_of_ble_eq_true rfl) dX1_data_16) hS ?_
  rintro _ _ H locs ⟨rfl, rfl⟩ hP hS
  obtain ⟨q5, hq⟩ : ∃ q, q = f_X1_there v4 := ⟨_, rfl⟩
  rw [← hq] at hf
  refine xc_S (S := S) X hZ (mt_X1_there l D dA A ad E hE hfl S v4 hq.symm) (lw_S q884 q885 q86 q886) ⟨rfl, rfl⟩ hd_X1_there.2 ⟨Nat.le_trans (Nat.le_of_ble_eq_true rfl) hR.1, Nat.le_trans (Nat.le_of_ble_eq_true rfl) hR.2⟩ hP hS ⟨Nat.le_trans (Nat.le_of_ble_eq_true rfl) hC.1, Nat.le_trans (Nat.le_of_ble_eq_true rfl) hC.2⟩ rfl hl.1 rfl (Nat.le_of_ble_eq_true rfl) dX1_data_19 (kr := fun v u H locs hok hP hS => ?_) (kt := fun x cd u t H locs hbad ht hw hP hE hS => by obtain ⟨rfl, rfl⟩ := hbad; exact xt_leave X hex ht hw hP hE hS (⟨gX_inl hf, rfl⟩) (Nat.le_of_ble_eq_true rfl) (Nat.le_of_ble_eq_true rfl))
  obtain ⟨_, rfl, rfl, rfl⟩ := hok
  replace hf := gX_inr hf
  refine W.eq (g2 := F0 m 22 ls []) rfl ?_
  refine lv_aload_n hx hb dX1_data_22 rfl (lv_at hl 0 rfl) ?_
  refine rg_X1_178 X hP (ex_L_o hE hr3) dX1_data_23 ?_
  refine lv_iload_n hx hb dX1_data_26 rfl (lv_at hl 3 rfl) ?_
  refine ra_L_row_ld X hP (ex_L_row hE hr3) dX1_data_27 hf (fun hf => ?_)
  refine lv_sipush (v := 255) hx hb dX1_data_28 (by decide) ?_
  refine lv_iand hx hb dX1_data_31 ?_
  exact xr_i X hP hS ⟨_, rfl, (Option.some.inj hf).symm, rfl⟩ (Nat.le_of_ble_eq_true rfl) (Nat.le_of_ble_eq_true rfl) dX1_data_32
theorem hd_X1_data : yX1_data.cls = RX1 ∧ yX1_data.cls ≠ "java/lang/invoke/MethodHandle" ∧ yX1_data.cls ≠ "java/lang/invoke/VarHandle" ∧ (parseMethodDescriptor yX1_data.desc).map (fun d => d.parameters.length) = some 2 := by decide +kernel
set_option maxHeartbeats 4000000 in
theorem mt_X1_data (l : Launch) (D : va_G) (dA : Nat → ClassId) (A : Nat → Prop) (ad : L3 → Nat) (E : L3 → Bool) (hE : EOK E) (hfl : l.flags = flags0) (S : Mem) (x1 : Int32) (x2 : Int32) {res : Nat ⊕ Int32} (hq : f_X1_data S x1 x2 = some res) : MetX l yX1_data (ws_ yX1_data cX1_data 4 (some .int)) ({ frames := 8, cells := 2, slots := 12, locals := 131 } : Room) (va_Pc [.ref (ad C_o), .int x1, .int x2] (PreX D dA (shC dA E) (exC E) A ad S)) (QX D (shC dA E) (exC E) A ad (fun v u => ∃ r : Int32, v = some (.int r) ∧ res = .inr r ∧ S = u) (fun cd u => res = .inl cd ∧ S = u)) 2 12 A :=
  gx_headX (by decide) (Nat.le_of_ble_eq_true rfl) (fun p e s m below meth c ls X hex hZ hP hl => w_X1_data (l := l) E hE X ⟨Nat.le_of_ble_eq_true rfl, Nat.le_of_ble_eq_true rfl⟩ ⟨Nat.le_of_ble_eq_true rfl, Nat.le_of_ble_eq_true rfl⟩ hex hZ hfl S x1 x2 hP va_S.rf (lv_sub (l := [(0, .ref (ad C_o)), (1, .int x1), (2, .int x2)]) hl [0, 1, 2] rfl) hq)
set_option maxHeartbeats 4000000 in
theorem w_X1_outs_33_b {p : Program} {l : Launch} {e : Env} {R : Room} {s : State} {m : MethodId} {args : Array Value} {below : List Frame} {meth : Method} {c : Code} {D : va_G} {dA : Nat → ClassId} {A : Nat → Prop} {ad : L3 → Nat} (E : L3 → Bool) (hE : EOK E) (X : CX RX1 cX1_outs 5 (some .long) (KA D dA) p s m args meth c A) (hR : 7 ≤ R.frames ∧ 110 ≤ R.locals) (hC : 1 ≤ R.cells ∧ 6 ≤ R.slots) (hex : c.exceptionTable.isEmpty = true) (hZ : ZT A s s.heap) (hfl : l.flags = flags0) {res : Nat ⊕ Int64} (S : Mem) (k33 : Int32 → Int64 → Int32 → Option (Nat ⊕ Int64)) (hk33 : ∀ (x1 : Int32) (x2 : Int64) (x4 : Int32) (H : Heap) (locs : List Loc) (ls : Array Slot), Wd D clA (shC dA E) (exC E) A ad S H → va_S A s.heap H locs → lv_has ls 5 [(0, .ref (ad C_o)), (1, .int x1), (2, .long x2), (4, .int x4)] → k33 x1 x2 x4 = some res → W p l e R s m args below meth c H locs 1 6 (MQX below (QX D (shC dA E) (exC E) A ad (fun v u => ∃ r : Int64, v = some (.long r) ∧ res = .inr r ∧ S = u) (fun cd u => res = .inl cd ∧ S = u)) args s 1 6 A) (F0 m 33 ls [])) (x1 : Int32) (x2 : Int64) (x4 : Int32) {H : Heap} {locs : List Loc} {ls : Array Slot} (hP : Wd D clA (shC dA E) (exC E) A ad S H) (hS : va_S A s.heap H locs) (hl : lv_has ls 5 [(0, .ref (ad C_o)), (1, .int x1), (2, .long x2), (4, .int x4)]) (hf : f_X1_outs_33_b S k33 x1 x2 x4 = some res) : W p l e R s m args below meth c H locs 1 6 (MQX below (QX D (shC dA E) (exC E) A ad (fun v u => ∃ r : Int64, v = some (.long r) ∧ res = .inr r ∧ S = u) (fun cd u => res = .inl cd ∧ S = u)) args s 1 6 A) (F0 m 33 ls []) := by
  have hx := X.hx
  have hb := X.hb
  unfold f_X1_outs_33_b at hf
  refine lv_iload hx hb dX1_outs_33 (lv_at hl 3 rfl) ?_
  refine gb_if_lt (tgt := 64) hx hb dX1_outs_35 (by decide) hf (fun hf => ?_) (fun hf => ?_)
  · refine lv_lload_n hx hb dX1_outs_64 rfl (lv_at hl 2 rfl) ?_
    exact xr_l X hP hS ⟨_, rfl, (Option.some.inj hf).symm, rfl⟩ (Nat.le_of_ble_eq_true rfl) (Nat.le_of_ble_eq_true rfl) dX1_outs_65
  · refine lv_lload_n hx hb dX1_outs_38 rfl (lv_at hl 2 rfl) ?_
    refine lv_bipush (v := 8) hx hb dX1_outs_39 (by decide) ?_
    refine lv_lshl hx hb dX1_outs_41 rfl ?_
    refine lv_aload_n hx hb dX1_outs_42 rfl (lv_at hl 0 rfl) ?_
    refine rg_X1_40 X hP (ex_C_o hE) dX1_outs_43 ?_
    refine lv_iload_n hx hb dX1_outs_46 rfl (lv_at hl 1 rfl) ?_
    refine lv_iload hx hb dX1_outs_47 (lv_at hl 3 rfl) ?_
    refine lv_iadd hx hb dX1_outs_49 ?_
    refine ra_C_out_ld X hP (ex_C_out hE) dX1_outs_50 hf (fun hf => ?_)
    refine lv_i2l hx hb dX1_outs_51 rfl ?_
    refine lv_ldc2 hx hb X.hown (X.hts _ q1028) dX1_outs_52 ?_
    refine lv_land hx hb dX1_outs_55 ?_
    refine lv_lor hx hb dX1_outs_56 ?_
    refine lv_lstore_n (lv' := [(2, .long ((x2 <<< (Int32.toInt64 8 &&& 63)) ||| ((Int32.toInt64 (S.1 (C_out) (Int32.toNatClampNeg (x1 + x4)))) &&& 255))), (0, .ref (ad C_o)), (1, .int x1), (4, .int x4)]) hx hb dX1_outs_57 rfl hl (by decide) rfl (fun ls hl => ?_)
    refine lv_iinc (v := (x4 + (-1))) (lv' := [(4, .int (x4 + (-1))), (2, .long ((x2 <<< (Int32.toInt64 8 &&& 63)) ||| ((Int32.toInt64 (S.1 (C_out) (Int32.toNatClampNeg (x1 + x4)))) &&& 255))), (0, .ref (ad C_o)), (1, .int x1)]) hx hb dX1_outs_58 hl (k := 3) rfl rfl (by decide) rfl (fun ls hl => ?_)
    refine lv_goto (tgt := 33) hx hb dX1_outs_61 (by decide) ?_
    exact hk33 x1 ((x2 <<< (Int32.toInt64 8 &&& 63)) ||| ((Int32.toInt64 (S.1 (C_out) (Int32.toNatClampNeg (x1 + x4)))) &&& 255)) (x4 + (-1)) _ _ _ hP hS (lv_sub hl [2, 3, 1, 0] rfl) hf
set_option maxHeartbeats 4000000 in
theorem w_X1_outs_33 {p : Program} {l : Launch} {e : Env} {R : Room} {s : State} {m : MethodId} {args : Array Value} {below : List Frame} {meth : Method} {c : Code} {D : va_G} {dA : Nat → ClassId} {A : Nat → Prop} {ad : L3 → Nat} (E : L3 → Bool) (hE : EOK E) (X : CX RX1 cX1_outs 5 (some .long) (KA D dA) p s m args meth c A) (hR : 7 ≤ R.frames ∧ 110 ≤ R.locals) (hC : 1 ≤ R.cells ∧ 6 ≤ R.slots) (hex : c.exceptionTable.isEmpty = true) (hZ : ZT A s s.heap) (hfl : l.flags = flags0) {res : Nat ⊕ Int64} (S : Mem) (n : Nat) : ∀ (x1 : Int32) (x2 : Int64) (x4 : Int32) (H : Heap) (locs : List Loc) (ls : Array Slot), Wd D clA (shC dA E) (exC E) A ad S H → va_S A s.heap H locs → lv_has ls 5 [(0, .ref (ad C_o)), (1, .int x1), (2, .long x2), (4, .int x4)] → f_X1_outs_33 S n x1 x2 x4 = some res → W p l e R s m args below meth c H locs 1 6 (MQX below (QX D (shC dA E) (exC E) A ad (fun v u => ∃ r : Int64, v = some (.long r) ∧ res = .inr r ∧ S = u) (fun cd u => res = .inl cd ∧ S = u)) args s 1 6 A) (F0 m 33 ls []) := by
  induction n with
  | zero =>
    intro x1 x2 x4 H locs ls hP hS hl hf
    exact absurd (show none = some res from hf) (fun h => by cases h)
  | succ n ih =>
    intro x1 x2 x4 H locs ls hP hS hl hf
    exact w_X1_outs_33_b E hE X hR hC hex hZ hfl S (f_X1_outs_33 S n) ih x1 x2 x4 hP hS hl hf
set_option maxHeartbeats 4000000 in
theorem w_X1_outs {p : Program} {l : Launch} {e : Env} {R : Room} {s : State} {m : MethodId} {args : Array Value} {below : List Frame} {meth : Method} {c : Code} {D : va_G} {dA : Nat → ClassId} {A : Nat → Prop} {ad : L3 → Nat} (E : L3 → Bool) (hE : EOK E) (X : CX RX1 cX1_outs 5 (some .long) (KA D dA) p s m args meth c A) (hR : 7 ≤ R.frames ∧ 110 ≤ R.locals) (hC : 1 ≤ R.cells ∧ 6 ≤ R.slots) (hex : c.exceptionTable.isEmpty = true) (hZ : ZT A s s.heap) (hfl : l.flags = flags0) {res : Nat ⊕ Int64} (S : Mem) (x1 : Int32) {H : Heap} {locs : List Loc} {ls : Array Slot} (hP : Wd D clA (shC dA E) (exC E) A ad S H) (hS : va_S A s.heap H locs) (hl : lv_has ls 5 [(0, .ref (ad C_o)), (1, .int x1)]) (hf : f_X1_outs S x1 = some res) : W p l e R s m args below meth c H locs 0 0 (MQX below (QX D (shC dA E) (exC E) A ad (fun v u => ∃ r : Int64, v = some (.long r) ∧ res = .inr r ∧ S = u) (fun cd u => res = .inl cd ∧ S = u)) args s 1 6 A) (F0 m 0 ls []) := by
  have hx := X.hx
  have hb := X.hb
  unfold f_X1_outs at hf
  refine lv_iload_n hx hb dX1_outs_0 rfl (lv_at hl 1 rfl) ?_
  refine lv_i2l hx hb dX1_outs_1 rfl ?_
  refine lv_lconst (v := 0) hx hb dX1_outs_2 (by decide) ?_
  refine lv_aload_n hx hb dX1_outs_3 rfl (lv_at hl 0 rfl) ?_
  refine rg_X1_134 X hP (ex_C_o hE) dX1_outs_4 ?_
  refine lv_i2l hx hb dX1_outs_7 rfl ?_
  refine lv_lconst (v := 1) hx hb dX1_outs_8 (by decide) ?_
  refine lv_lsub hx hb dX1_outs_9 ?_
  obtain ⟨v1, hq, hf⟩ := gS_eq hf
  refine gc_i (gc_fixS (S := S) X (mt_X1_in l D dA A ad E hE S (Int32.toInt64 x1) (0 : Int64) ((Int32.toInt64 (S.1 (C_o) 6)) - 1) hq) (lw_S q396 q397 q86 q398) ⟨rfl, rfl⟩ hd_X1_in.2 ⟨Nat.le_trans (Nat.le_of_ble_eq_true rfl) hR.1, Nat.le_trans (Nat.le_of_ble_eq_true rfl) hR.2⟩ hP hS ⟨Nat.le_trans (Nat.le_of_ble_eq_true rfl) hC.1, Nat.le_trans (Nat.le_of_ble_eq_true rfl) hC.2⟩ rfl hl.1 rfl (Nat.le_of_ble_eq_true rfl) dX1_outs_10) hS ?_
  rintro _ _ H locs ⟨rfl, rfl⟩ hP hS
  obtain ⟨q2, hq⟩ : ∃ q, q = f_X1_there v1 := ⟨_, rfl⟩
  rw [← hq] at hf
  refine xc_S (S := S) X hZ (mt_X1_there l D dA A ad E hE hfl S v1 hq.symm) (lw_S q884 q885 q86 q886) ⟨rfl, rfl⟩ hd_X1_there.2 ⟨Nat.le_trans (Nat.le_of_ble_eq_true rfl) hR.1, Nat.le_trans (Nat.le_of_ble_eq_true rfl) hR.2⟩ hP hS ⟨Nat.le_trans (Nat.le_of_ble_eq_true rfl) hC.1, Nat.le_trans (Nat.le_of_ble_eq_true rfl) hC.2⟩ rfl hl.1 rfl (Nat.le_of_ble_eq_true rfl) dX1_outs_13 (kr := fun v u H locs hok hP hS => ?_) (kt := fun x cd u t H locs hbad ht hw hP hE hS => by obtain ⟨rfl, rfl⟩ := hbad; exact xt_leave X hex ht hw hP hE hS (⟨gX_inl hf, rfl⟩) (Nat.le_of_ble_eq_true rfl) (Nat.le_of_ble_eq_true rfl))
  obtain ⟨_, rfl, rfl, rfl⟩ := hok
  replace hf := gX_inr hf
  refine W.eq (g2 := F0 m 16 ls []) rfl ?_
  refine lv_lconst (v := 0) hx hb dX1_outs_16 (by decide) ?_
  refine lv_lstore_n (lv' := [(2, .long 0), (0, .ref (ad C_o)), (1, .int x1)]) hx hb dX1_outs_17 rfl hl (by decide) rfl (fun ls hl => ?_)
  refine lv_aload_n hx hb dX1_outs_18 rfl (lv_at hl 1 rfl) ?_
  refine rg_X1_134 X hP (ex_C_o hE) dX1_outs_19 ?_
  refine lv_iload_n hx hb dX1_outs_22 rfl (lv_at hl 2 rfl) ?_
  refine lv_isub hx hb dX1_outs_23 ?_
  refine lv_bipush (v := 8) hx hb dX1_outs_24 (by decide) ?_
  refine gm_mnI X (X.hts _ q1027) (X.hts _ q668) (X.hts _ q99) (X.hts _ q669) hl.1 ⟨Nat.le_trans (Nat.le_of_ble_eq_true rfl) hC.1, Nat.le_trans (Nat.le_of_ble_eq_true rfl) hC.2⟩ (Nat.le_trans (Nat.le_of_ble_eq_true rfl) hR.1) (Nat.le_trans (Nat.le_of_ble_eq_true rfl) hR.2) dX1_outs_26 ?_
  refine lv_iconst (v := 1) hx hb dX1_outs_29 (by decide) ?_
  refine lv_isub hx hb dX1_outs_30 ?_
  refine lv_istore (lv' := [(4, .int ((mnI ((S.1 (C_o) 6) - x1) (8 : Int32)) - 1)), (2, .long 0), (0, .ref (ad C_o)), (1, .int x1)]) hx hb dX1_outs_31 hl (by decide) rfl (fun ls hl => ?_)
  exact w_X1_outs_33 E hE X hR hC hex hZ hfl S FU x1 0 ((mnI ((S.1 (C_o) 6) - x1) (8 : Int32)) - 1) _ _ _ hP hS (lv_sub hl [2, 3, 1, 0] rfl) hf
theorem hd_X1_outs : yX1_outs.cls = RX1 ∧ yX1_outs.cls ≠ "java/lang/invoke/MethodHandle" ∧ yX1_outs.cls ≠ "java/lang/invoke/VarHandle" ∧ (parseMethodDescriptor yX1_outs.desc).map (fun d => d.parameters.length) = some 1 := by decide +kernel
set_option maxHeartbeats 4000000 in
theorem mt_X1_outs (l : Launch) (D : va_G) (dA : Nat → ClassId) (A : Nat → Prop) (ad : L3 → Nat) (E : L3 → Bool) (hE : EOK E) (hfl : l.flags = flags0) (S : Mem) (x1 : Int32) {res : Nat ⊕ Int64} (hq : f_X1_outs S x1 = some res) : MetX l yX1_outs (ws_ yX1_outs cX1_outs 5 (some .long)) ({ frames := 7, cells := 1, slots := 6, locals := 110 } : Room) (va_Pc [.ref (ad C_o), .int x1] (PreX D dA (shC dA E) (exC E) A ad S)) (QX D (shC dA E) (exC E) A ad (fun v u => ∃ r : Int64, v = some (.long r) ∧ res = .inr r ∧ S = u) (fun cd u => res = .inl cd ∧ S = u)) 1 6 A :=
  gx_headX (by decide) (Nat.le_of_ble_eq_true rfl) (fun p e s m below meth c ls X hex hZ hP hl => w_X1_outs (l := l) E hE X ⟨Nat.le_of_ble_eq_true rfl, Nat.le_of_ble_eq_true rfl⟩ ⟨Nat.le_of_ble_eq_true rfl, Nat.le_of_ble_eq_true rfl⟩ hex hZ hfl S x1 hP va_S.rf (lv_sub (l := [(0, .ref (ad C_o)), (1, .int x1)]) hl [0, 1] rfl) hq)
set_option maxHeartbeats 4000000 in
theorem w_X1_stream {p : Program} {l : Launch} {e : Env} {R : Room} {s : State} {m : MethodId} {args : Array Value} {below : List Frame} {meth : Method} {c : Code} {D : va_G} {dA : Nat → ClassId} {A : Nat → Prop} {ad : L3 → Nat} (E : L3 → Bool) (hE : EOK E) (X : CX RX1 cX1_stream 5 (some .long) (KA D dA) p s m args meth c A) (hR : 8 ≤ R.frames ∧ 131 ≤ R.locals) (hC : 2 ≤ R.cells ∧ 12 ≤ R.slots) (hex : c.exceptionTable.isEmpty = true) (hZ : ZT A s s.heap) (hfl : l.flags = flags0) {res : Nat ⊕ Int64} (S : Mem) (x1 : Int32) (x2 : Int32) (x3 : Int32) {H : Heap} {locs : List Loc} {ls : Array Slot} (hP : Wd D clA (shC dA E) (exC E) A ad S H) (hS : va_S A s.heap H locs) (hl : lv_has ls 5 [(0, .ref (ad C_o)), (1, .int x1), (2, .int x2), (3, .int x3)]) (hf : f_X1_stream E S x1 x2 x3 = some res) : W p l e R s m args below meth c H locs 0 0 (MQX below (QX D (shC dA E) (exC E) A ad (fun v u => ∃ r : Int64, v = some (.long r) ∧ res = .inr r ∧ S = u) (fun cd u => res = .inl cd ∧ S = u)) args s 2 12 A) (F0 m 0 ls []) := by
  have hx := X.hx
  have hb := X.hb
  unfold f_X1_stream at hf
  refine lv_aload_n hx hb dX1_stream_0 rfl (lv_at hl 0 rfl) ?_
  refine lv_iload_n hx hb dX1_stream_1 rfl (lv_at hl 1 rfl) ?_
  obtain ⟨q1, hq, hf⟩ := gB_some hf
  refine xc_V (S := S) X hZ (mt_X1_hall l D dA A ad E hE hfl S x1 hq) (lw_V q517 q519 qs2 q86 q520) ⟨rfl, rfl⟩ hd_X1_hall ⟨Nat.le_trans (Nat.le_of_ble_eq_true rfl) hR.1, Nat.le_trans (Nat.le_of_ble_eq_true rfl) hR.2⟩ (wd_recv (r := C_o) (ci := 1) (q := (RX1, TX1, 8)) X.hK.1 hP (ex_C_o hE) rfl rfl) hP hS ⟨Nat.le_trans (Nat.le_of_ble_eq_true rfl) hC.1, Nat.le_trans (Nat.le_of_ble_eq_true rfl) hC.2⟩ rfl hl.1 rfl (Nat.le_of_ble_eq_true rfl) dX1_stream_2 (kr := fun v u H locs hok hP hS => ?_) (kt := fun x cd u t H locs hbad ht hw hP hE hS => by obtain ⟨rfl, rfl⟩ := hbad; exact xt_leave X hex ht hw hP hE hS (⟨gX_inl hf, rfl⟩) (Nat.le_of_ble_eq_true rfl) (Nat.le_of_ble_eq_true rfl))
  obtain ⟨v2, rfl, rfl, rfl, hr3⟩ := hok
  replace hf := gX_inr hf
  refine W.eq (g2 := F0 m 5 ls [.ref (ad (H_o v2))]) rfl ?_
  refine lv_astore (lv' := [(4, .ref (ad (H_o v2))), (0, .ref (ad C_o)), (1, .int x1), (2, .int x2), (3, .int x3)]) hx hb dX1_stream_5 hl (by decide) rfl (fun ls hl => ?_)
  refine lv_iload_n hx hb dX1_stream_7 rfl (lv_at hl 4 rfl) ?_
  refine lv_i2l hx hb dX1_stream_8 rfl ?_
  refine lv_lconst (v := 0) hx hb dX1_stream_9 (by decide) ?_
  refine lv_ldc2 hx hb X.hown (X.hts _ q1036) dX1_stream_10 ?_
  obtain ⟨v4, hq, hf⟩ := gS_eq hf
  refine gc_i (gc_fixS (S := S) X (mt_X1_in l D dA A ad E hE S (Int32.toInt64 x3) (0 : Int64) (14 : Int64) hq) (lw_S q396 q397 q86 q398) ⟨rfl, rfl⟩ hd_X1_in.2 ⟨Nat.le_trans (Nat.le_of_ble_eq_true rfl) hR.1, Nat.le_trans (Nat.le_of_ble_eq_true rfl) hR.2⟩ hP hS ⟨Nat.le_trans (Nat.le_of_ble_eq_true rfl) hC.1, Nat.le_trans (Nat.le_of_ble_eq_true rfl) hC.2⟩ rfl hl.1 rfl (Nat.le_of_ble_eq_true rfl) dX1_stream_13) hS ?_
  rintro _ _ H locs ⟨rfl, rfl⟩ hP hS
  obtain ⟨q5, hq⟩ : ∃ q, q = f_X1_need v4 := ⟨_, rfl⟩
  rw [← hq] at hf
  refine xc_S (S := S) X hZ (mt_X1_need l D dA A ad E hE hfl S v4 hq.symm) (lw_S q403 q404 q86 q405) ⟨rfl, rfl⟩ hd_X1_need.2 ⟨Nat.le_trans (Nat.le_of_ble_eq_true rfl) hR.1, Nat.le_trans (Nat.le_of_ble_eq_true rfl) hR.2⟩ hP hS ⟨Nat.le_trans (Nat.le_of_ble_eq_true rfl) hC.1, Nat.le_trans (Nat.le_of_ble_eq_true rfl) hC.2⟩ rfl hl.1 rfl (Nat.le_of_ble_eq_true rfl) dX1_stream_16 (kr := fun v u H locs hok hP hS => ?_) (kt := fun x cd u t H locs hbad ht hw hP hE hS => by obtain ⟨rfl, rfl⟩ := hbad; exact xt_leave X hex ht hw hP hE hS (⟨gX_inl hf, rfl⟩) (Nat.le_of_ble_eq_true rfl) (Nat.le_of_ble_eq_true rfl))
  obtain ⟨_, rfl, rfl, rfl⟩ := hok
  replace hf := gX_inr hf
  refine W.eq (g2 := F0 m 19 ls []) rfl ?_
  refine lv_aload hx hb dX1_stream_19 (lv_at hl 0 rfl) ?_
  refine lv_iload_n hx hb dX1_stream_21 rfl (lv_at hl 3 rfl) ?_
  refine lv_iload_n hx hb dX1_stream_22 rfl (lv_at hl 4 rfl) ?_
  obtain ⟨v6, hq, hf⟩ := gB_some hf
  refine gc_l (gc_fixV (S := S) X (mt_X2_look l D dA A ad E v2 hE hr3 S x2 x3 hq) (lw_V q1037 q1038 q1039 q87 q1040) ⟨rfl, rfl⟩ hd_X2_look ⟨Nat.le_trans (Nat.le_of_ble_eq_true rfl) hR.1, Nat.le_trans (Nat.le_of_ble_eq_true rfl) hR.2⟩ (wd_recv (r := H_o v2) (ci := 2) (q := (RX2, TX2, 23)) X.hK.1 hP (ex_H_o hE hr3) rfl rfl) hP hS ⟨Nat.le_trans (Nat.le_of_ble_eq_true rfl) hC.1, Nat.le_trans (Nat.le_of_ble_eq_true rfl) hC.2⟩ rfl hl.1 rfl (Nat.le_of_ble_eq_true rfl) dX1_stream_23) hS ?_
  rintro _ _ H locs ⟨rfl, rfl⟩ hP hS
  exact xr_l X hP hS ⟨_, rfl, (Option.some.inj hf).symm, rfl⟩ (Nat.le_of_ble_eq_true rfl) (Nat.le_of_ble_eq_true rfl) dX1_stream_26
theorem hd_X1_stream : yX1_stream.cls = RX1 ∧ yX1_stream.cls ≠ "java/lang/invoke/MethodHandle" ∧ yX1_stream.cls ≠ "java/lang/invoke/VarHandle" ∧ (parseMethodDescriptor yX1_stream.desc).map (fun d => d.parameters.length) = some 3 := by decide +kernel
set_option maxHeartbeats 4000000 in
theorem mt_X1_stream (l : Launch) (D : va_G) (dA : Nat → ClassId) (A : Nat → Prop) (ad : L3 → Nat) (E : L3 → Bool) (hE : EOK E) (hfl : l.flags = flags0) (S : Mem) (x1 : Int32) (x2 : Int32) (x3 : Int32) {res : Nat ⊕ Int64} (hq : f_X1_stream E S x1 x2 x3 = some res) : MetX l yX1_stream (ws_ yX1_stream cX1_stream 5 (some .long)) ({ frames := 8, cells := 2, slots := 12, locals := 131 } : Room) (va_Pc [.ref (ad C_o), .int x1, .int x2, .int x3] (PreX D dA (shC dA E) (exC E) A ad S)) (QX D (shC dA E) (exC E) A ad (fun v u => ∃ r : Int64, v = some (.long r) ∧ res = .inr r ∧ S = u) (fun cd u => res = .inl cd ∧ S = u)) 2 12 A :=
  gx_headX (by decide) (Nat.le_of_ble_eq_true rfl) (fun p e s m below meth c ls X hex hZ hP hl => w_X1_stream (l := l) E hE X ⟨Nat.le_of_ble_eq_true rfl, Nat.le_of_ble_eq_true rfl⟩ ⟨Nat.le_of_ble_eq_true rfl, Nat.le_of_ble_eq_true rfl⟩ hex hZ hfl S x1 x2 x3 hP va_S.rf (lv_sub (l := [(0, .ref (ad C_o)), (1, .int x1), (2, .int x2), (3, .int x3)]) hl [0, 1, 2, 3] rfl) hq)
set_option maxHeartbeats 4000000 in
theorem w_X1_side {p : Program} {l : Launch} {e : Env} {R : Room} {s : State} {m : MethodId} {args : Array Value} {below : List Frame} {meth : Method} {c : Code} {D : va_G} {dA : Nat → ClassId} {A : Nat → Prop} {ad : L3 → Nat} (E : L3 → Bool) (hE : EOK E) (X : CX RX1 cX1_side 4 (some .long) (KA D dA) p s m args meth c A) (hR : 8 ≤ R.frames ∧ 131 ≤ R.locals) (hC : 2 ≤ R.cells ∧ 12 ≤ R.slots) (hex : c.exceptionTable.isEmpty = true) (hZ : ZT A s s.heap) (hfl : l.flags = flags0) {res : Nat ⊕ Int64} (S : Mem) (x1 : Int32) (x2 : Int32) {H : Heap} {locs : List Loc} {ls : Array Slot} (hP : Wd D clA (shC dA E) (exC E) A ad S H) (hS : va_S A s.heap H locs) (hl : lv_has ls 4 [(0, .ref (ad C_o)), (1, .int x1), (2, .int x2)]) (hf : f_X1_side S x1 x2 = some res) : W p l e R s m args below meth c H locs 0 0 (MQX below (QX D (shC dA E) (exC E) A ad (fun v u => ∃ r : Int64, v = some (.long r) ∧ res = .inr r ∧ S = u) (fun cd u => res = .inl cd ∧ S = u)) args s 2 12 A) (F0 m 0 ls []) := by
  have hx := X.hx
  have hb := X.hb
  unfold f_X1_side at hf
  refine lv_aload_n hx hb dX1_side_0 rfl (lv_at hl 0 rfl) ?_
  refine lv_iload_n hx hb dX1_side_1 rfl (lv_at hl 1 rfl) ?_
  obtain ⟨q1, hq, hf⟩ := gB_some hf
  refine xc_V (S := S) X hZ (mt_X1_hall l D dA A ad E hE hfl S x1 hq) (lw_V q517 q519 qs2 q86 q520) ⟨rfl, rfl⟩ hd_X1_hall ⟨Nat.le_trans (Nat.le_of_ble_eq_true rfl) hR.1, Nat.le_trans (Nat.le_of_ble_eq_true rfl) hR.2⟩ (wd_recv (r := C_o) (ci := 1) (q := (RX1, TX1, 8)) X.hK.1 hP (ex_C_o hE) rfl rfl) hP hS ⟨Nat.le_trans (Nat.le_of_ble_eq_true rfl) hC.1, Nat.le_trans (Nat.le_of_ble_eq_true rfl) hC.2⟩ rfl hl.1 rfl (Nat.le_of_ble_eq_true rfl) dX1_side_2 (kr := fun v u H locs hok hP hS => ?_) (kt := fun x cd u t H locs hbad ht hw hP hE hS => by obtain ⟨rfl, rfl⟩ := hbad; exact xt_leave X hex ht hw hP hE hS (⟨gX_inl hf, rfl⟩) (Nat.le_of_ble_eq_true rfl) (Nat.le_of_ble_eq_true rfl))
  obtain ⟨v2, rfl, rfl, rfl, hr3⟩ := hok
  replace hf := gX_inr hf
  refine W.eq (g2 := F0 m 5 ls [.ref (ad (H_o v2))]) rfl ?_
  refine lv_astore_n (lv' := [(3, .ref (ad (H_o v2))), (0, .ref (ad C_o)), (1, .int x1), (2, .int x2)]) hx hb dX1_side_5 rfl hl (by decide) rfl (fun ls hl => ?_)
  refine lv_iload_n hx hb dX1_side_6 rfl (lv_at hl 3 rfl) ?_
  refine lv_i2l hx hb dX1_side_7 rfl ?_
  refine lv_lconst (v := 0) hx hb dX1_side_8 (by decide) ?_
  refine lv_ldc2 hx hb X.hown (X.hts _ q1048) dX1_side_9 ?_
  obtain ⟨v4, hq, hf⟩ := gS_eq hf
  refine gc_i (gc_fixS (S := S) X (mt_X1_in l D dA A ad E hE S (Int32.toInt64 x2) (0 : Int64) (13 : Int64) hq) (lw_S q396 q397 q86 q398) ⟨rfl, rfl⟩ hd_X1_in.2 ⟨Nat.le_trans (Nat.le_of_ble_eq_true rfl) hR.1, Nat.le_trans (Nat.le_of_ble_eq_true rfl) hR.2⟩ hP hS ⟨Nat.le_trans (Nat.le_of_ble_eq_true rfl) hC.1, Nat.le_trans (Nat.le_of_ble_eq_true rfl) hC.2⟩ rfl hl.1 rfl (Nat.le_of_ble_eq_true rfl) dX1_side_12) hS ?_
  rintro _ _ H locs ⟨rfl, rfl⟩ hP hS
  obtain ⟨q5, hq⟩ : ∃ q, q = f_X1_need v4 := ⟨_, rfl⟩
  rw [← hq] at hf
  refine xc_S (S := S) X hZ (mt_X1_need l D dA A ad E hE hfl S v4 hq.symm) (lw_S q403 q404 q86 q405) ⟨rfl, rfl⟩ hd_X1_need.2 ⟨Nat.le_trans (Nat.le_of_ble_eq_true rfl) hR.1, Nat.le_trans (Nat.le_of_ble_eq_true rfl) hR.2⟩ hP hS ⟨Nat.le_trans (Nat.le_of_ble_eq_true rfl) hC.1, Nat.le_trans (Nat.le_of_ble_eq_true rfl) hC.2⟩ rfl hl.1 rfl (Nat.le_of_ble_eq_true rfl) dX1_side_15 (kr := fun v u H locs hok hP hS => ?_) (kt := fun x cd u t H locs hbad ht hw hP hE hS => by obtain ⟨rfl, rfl⟩ := hbad; exact xt_leave X hex ht hw hP hE hS (⟨gX_inl hf, rfl⟩) (Nat.le_of_ble_eq_true rfl) (Nat.le_of_ble_eq_true rfl))
  obtain ⟨_, rfl, rfl, rfl⟩ := hok
  replace hf := gX_inr hf
  refine W.eq (g2 := F0 m 18 ls []) rfl ?_
  refine lv_aload_n hx hb dX1_side_18 rfl (lv_at hl 0 rfl) ?_
  refine lv_iload_n hx hb dX1_side_19 rfl (lv_at hl 3 rfl) ?_
  obtain ⟨v6, hq, hf⟩ := gB_some hf
  refine gc_l (gc_fixV (S := S) X (mt_X2_look_2 l D dA A ad E v2 hE hr3 S x2 hq) (lw_V q1049 q1050 q1051 q87 q1052) ⟨rfl, rfl⟩ hd_X2_look_2 ⟨Nat.le_trans (Nat.le_of_ble_eq_true rfl) hR.1, Nat.le_trans (Nat.le_of_ble_eq_true rfl) hR.2⟩ (wd_recv (r := H_o v2) (ci := 2) (q := (RX2, TX2, 23)) X.hK.1 hP (ex_H_o hE hr3) rfl rfl) hP hS ⟨Nat.le_trans (Nat.le_of_ble_eq_true rfl) hC.1, Nat.le_trans (Nat.le_of_ble_eq_true rfl) hC.2⟩ rfl hl.1 rfl (Nat.le_of_ble_eq_true rfl) dX1_side_20) hS ?_
  rintro _ _ H locs ⟨rfl, rfl⟩ hP hS
  exact xr_l X hP hS ⟨_, rfl, (Option.some.inj hf).symm, rfl⟩ (Nat.le_of_ble_eq_true rfl) (Nat.le_of_ble_eq_true rfl) dX1_side_23
theorem hd_X1_side : yX1_side.cls = RX1 ∧ yX1_side.cls ≠ "java/lang/invoke/MethodHandle" ∧ yX1_side.cls ≠ "java/lang/invoke/VarHandle" ∧ (parseMethodDescriptor yX1_side.desc).map (fun d => d.parameters.length) = some 2 := by decide +kernel
set_option maxHeartbeats 4000000 in
theorem mt_X1_side (l : Launch) (D : va_G) (dA : Nat → ClassId) (A : Nat → Prop) (ad : L3 → Nat) (E : L3 → Bool) (hE : EOK E) (hfl : l.flags = flags0) (S : Mem) (x1 : Int32) (x2 : Int32) {res : Nat ⊕ Int64} (hq : f_X1_side S x1 x2 = some res) : MetX l yX1_side (ws_ yX1_side cX1_side 4 (some .long)) ({ frames := 8, cells := 2, slots := 12, locals := 131 } : Room) (va_Pc [.ref (ad C_o), .int x1, .int x2] (PreX D dA (shC dA E) (exC E) A ad S)) (QX D (shC dA E) (exC E) A ad (fun v u => ∃ r : Int64, v = some (.long r) ∧ res = .inr r ∧ S = u) (fun cd u => res = .inl cd ∧ S = u)) 2 12 A :=
  gx_headX (by decide) (Nat.le_of_ble_eq_true rfl) (fun p e s m below meth c ls X hex hZ hP hl => w_X1_side (l := l) E hE X ⟨Nat.le_of_ble_eq_true rfl, Nat.le_of_ble_eq_true rfl⟩ ⟨Nat.le_of_ble_eq_true rfl, Nat.le_of_ble_eq_true rfl⟩ hex hZ hfl S x1 x2 hP va_S.rf (lv_sub (l := [(0, .ref (ad C_o)), (1, .int x1), (2, .int x2)]) hl [0, 1, 2] rfl) hq)
