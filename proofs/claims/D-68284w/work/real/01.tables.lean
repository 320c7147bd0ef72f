-- ===== PART A: goes FIRST, ahead of the names: the tables' words, and 'selects' of the private methods out of them =====
/-- a private method of a class that the tables say can be made, by its rows of tables_1 -/
def lw_okq (q : MethodName × Nat) : Prop := (q.1.cls ≠ "java/lang/invoke/MethodHandle" ∧ q.1.cls ≠ "java/lang/invoke/VarHandle") ∧ Cond.instantiable q.1.cls q.2 ∈ tables_1 ∧ Cond.privateMethod q.1 ∈ tables_1 ∧ Cond.instanceMethod q.1 ∈ tables_1
set_option maxRecDepth 100000
theorem lw_t1 {w : Cond} (h : w ∈ tables_1_1) : w ∈ tables_1 := List.mem_append_left _ h
theorem lw_t2 {w : Cond} (h : w ∈ tables_1_2) : w ∈ tables_1 := List.mem_append_right _ (List.mem_append_left _ h)
theorem lw_t3 {w : Cond} (h : w ∈ tables_1_3) : w ∈ tables_1 := List.mem_append_right _ (List.mem_append_right _ (List.mem_append_left _ h))
theorem lw_t4 {w : Cond} (h : w ∈ tables_1_4) : w ∈ tables_1 := List.mem_append_right _ (List.mem_append_right _ (List.mem_append_right _ (List.mem_append_left _ h)))
theorem lw_t5 {w : Cond} (h : w ∈ tables_1_5) : w ∈ tables_1 := List.mem_append_right _ (List.mem_append_right _ (List.mem_append_right _ (List.mem_append_right _ (List.mem_append_left _ h))))
theorem lw_t6 {w : Cond} (h : w ∈ tables_1_6) : w ∈ tables_1 := List.mem_append_right _ (List.mem_append_right _ (List.mem_append_right _ (List.mem_append_right _ (List.mem_append_right _ (List.mem_append_left _ h)))))
theorem lw_t7 {w : Cond} (h : w ∈ tables_1_7) : w ∈ tables_1 := List.mem_append_right _ (List.mem_append_right _ (List.mem_append_right _ (List.mem_append_right _ (List.mem_append_right _ (List.mem_append_right _ h)))))
theorem lw_p0 : lw_okq (⟨"StreamHall", "allow", "(I)V"⟩, 8) := ⟨⟨by decide +kernel, by decide +kernel⟩, lw_t1 (List.mem_of_getElem? (i := 21) rfl), lw_t2 (List.mem_of_getElem? (i := 30) rfl), lw_t2 (List.mem_of_getElem? (i := 31) rfl)⟩
theorem lw_p1 : lw_okq (⟨"java/lang/Throwable", "fillInStackTrace", "(I)Ljava/lang/Throwable;"⟩, 6) := ⟨⟨by decide +kernel, by decide +kernel⟩, lw_t2 (List.mem_of_getElem? (i := 120) rfl), lw_t2 (List.mem_of_getElem? (i := 118) rfl), lw_t2 (List.mem_of_getElem? (i := 119) rfl)⟩
theorem lw_p2 : lw_okq (⟨"StreamHall", "hall", "(I)LStreamHall$Hall;"⟩, 8) := ⟨⟨by decide +kernel, by decide +kernel⟩, lw_t1 (List.mem_of_getElem? (i := 21) rfl), lw_t2 (List.mem_of_getElem? (i := 193) rfl), lw_t2 (List.mem_of_getElem? (i := 194) rfl)⟩
theorem lw_p3 : lw_okq (⟨"StreamHall$Hall", "begin", "(I)V"⟩, 23) := ⟨⟨by decide +kernel, by decide +kernel⟩, lw_t1 (List.mem_of_getElem? (i := 30) rfl), lw_t2 (List.mem_of_getElem? (i := 201) rfl), lw_t2 (List.mem_of_getElem? (i := 202) rfl)⟩
theorem lw_p4 : lw_okq (⟨"StreamHall$Hall", "isOwn", "(J)Z"⟩, 23) := ⟨⟨by decide +kernel, by decide +kernel⟩, lw_t1 (List.mem_of_getElem? (i := 30) rfl), lw_t2 (List.mem_of_getElem? (i := 209) rfl), lw_t2 (List.mem_of_getElem? (i := 210) rfl)⟩
theorem lw_p5 : lw_okq (⟨"StreamHall$Hall", "rule", "(JZ)I"⟩, 23) := ⟨⟨by decide +kernel, by decide +kernel⟩, lw_t1 (List.mem_of_getElem? (i := 30) rfl), lw_t2 (List.mem_of_getElem? (i := 214) rfl), lw_t2 (List.mem_of_getElem? (i := 215) rfl)⟩
theorem lw_p6 : lw_okq (⟨"StreamHall$Hall", "sending", "(I)LStreamHall$Sending;"⟩, 23) := ⟨⟨by decide +kernel, by decide +kernel⟩, lw_t1 (List.mem_of_getElem? (i := 30) rfl), lw_t3 (List.mem_of_getElem? (i := 95) rfl), lw_t3 (List.mem_of_getElem? (i := 96) rfl)⟩
theorem lw_p7 : lw_okq (⟨"StreamHall$Store", "piece", "()I"⟩, 6) := ⟨⟨by decide +kernel, by decide +kernel⟩, lw_t1 (List.mem_of_getElem? (i := 99) rfl), lw_t3 (List.mem_of_getElem? (i := 106) rfl), lw_t3 (List.mem_of_getElem? (i := 107) rfl)⟩
theorem lw_p8 : lw_okq (⟨"StreamHall$Hall", "receiving", "(I)LStreamHall$Receiving;"⟩, 23) := ⟨⟨by decide +kernel, by decide +kernel⟩, lw_t1 (List.mem_of_getElem? (i := 30) rfl), lw_t3 (List.mem_of_getElem? (i := 167) rfl), lw_t3 (List.mem_of_getElem? (i := 168) rfl)⟩
theorem lw_p9 : lw_okq (⟨"StreamHall$Blocks", "drop", "(LStreamHall$Receiving;)V"⟩, 6) := ⟨⟨by decide +kernel, by decide +kernel⟩, lw_t1 (List.mem_of_getElem? (i := 127) rfl), lw_t3 (List.mem_of_getElem? (i := 192) rfl), lw_t3 (List.mem_of_getElem? (i := 193) rfl)⟩
theorem lw_p10 : lw_okq (⟨"StreamHall$Hall", "grow", "()V"⟩, 23) := ⟨⟨by decide +kernel, by decide +kernel⟩, lw_t1 (List.mem_of_getElem? (i := 30) rfl), lw_t3 (List.mem_of_getElem? (i := 196) rfl), lw_t3 (List.mem_of_getElem? (i := 197) rfl)⟩
theorem lw_p11 : lw_okq (⟨"StreamHall$Hall", "grow", "(LStreamHall$Receiving;)V"⟩, 23) := ⟨⟨by decide +kernel, by decide +kernel⟩, lw_t1 (List.mem_of_getElem? (i := 30) rfl), lw_t3 (List.mem_of_getElem? (i := 201) rfl), lw_t3 (List.mem_of_getElem? (i := 202) rfl)⟩
theorem lw_p12 : lw_okq (⟨"StreamHall$Hall", "isOver", "(I)Z"⟩, 23) := ⟨⟨by decide +kernel, by decide +kernel⟩, lw_t1 (List.mem_of_getElem? (i := 30) rfl), lw_t3 (List.mem_of_getElem? (i := 205) rfl), lw_t3 (List.mem_of_getElem? (i := 206) rfl)⟩
theorem lw_p13 : lw_okq (⟨"StreamHall$Hall", "mayBeOver", "(IZ)V"⟩, 23) := ⟨⟨by decide +kernel, by decide +kernel⟩, lw_t1 (List.mem_of_getElem? (i := 30) rfl), lw_t3 (List.mem_of_getElem? (i := 221) rfl), lw_t3 (List.mem_of_getElem? (i := 222) rfl)⟩
theorem lw_p14 : lw_okq (⟨"StreamHall$Hall", "way", "(J)LStreamHall$Way;"⟩, 23) := ⟨⟨by decide +kernel, by decide +kernel⟩, lw_t1 (List.mem_of_getElem? (i := 30) rfl), lw_t3 (List.mem_of_getElem? (i := 225) rfl), lw_t3 (List.mem_of_getElem? (i := 226) rfl)⟩
theorem lw_p15 : lw_okq (⟨"StreamHall$Hall", "fillsEnds", "(I)Z"⟩, 23) := ⟨⟨by decide +kernel, by decide +kernel⟩, lw_t1 (List.mem_of_getElem? (i := 30) rfl), lw_t4 (List.mem_of_getElem? (i := 4) rfl), lw_t4 (List.mem_of_getElem? (i := 5) rfl)⟩
def lw_privs_1 : List (MethodName × Nat) := [(⟨"StreamHall", "allow", "(I)V"⟩, 8), (⟨"java/lang/Throwable", "fillInStackTrace", "(I)Ljava/lang/Throwable;"⟩, 6), (⟨"StreamHall", "hall", "(I)LStreamHall$Hall;"⟩, 8), (⟨"StreamHall$Hall", "begin", "(I)V"⟩, 23), (⟨"StreamHall$Hall", "isOwn", "(J)Z"⟩, 23), (⟨"StreamHall$Hall", "rule", "(JZ)I"⟩, 23), (⟨"StreamHall$Hall", "sending", "(I)LStreamHall$Sending;"⟩, 23), (⟨"StreamHall$Store", "piece", "()I"⟩, 6), (⟨"StreamHall$Hall", "receiving", "(I)LStreamHall$Receiving;"⟩, 23), (⟨"StreamHall$Blocks", "drop", "(LStreamHall$Receiving;)V"⟩, 6), (⟨"StreamHall$Hall", "grow", "()V"⟩, 23), (⟨"StreamHall$Hall", "grow", "(LStreamHall$Receiving;)V"⟩, 23), (⟨"StreamHall$Hall", "isOver", "(I)Z"⟩, 23), (⟨"StreamHall$Hall", "mayBeOver", "(IZ)V"⟩, 23), (⟨"StreamHall$Hall", "way", "(J)LStreamHall$Way;"⟩, 23), (⟨"StreamHall$Hall", "fillsEnds", "(I)Z"⟩, 23)]
theorem lw_r1 : ∀ q ∈ lw_privs_1, lw_okq q := List.forall_mem_cons.mpr ⟨lw_p0, List.forall_mem_cons.mpr ⟨lw_p1, List.forall_mem_cons.mpr ⟨lw_p2, List.forall_mem_cons.mpr ⟨lw_p3, List.forall_mem_cons.mpr ⟨lw_p4, List.forall_mem_cons.mpr ⟨lw_p5, List.forall_mem_cons.mpr ⟨lw_p6, List.forall_mem_cons.mpr ⟨lw_p7, List.forall_mem_cons.mpr ⟨lw_p8, List.forall_mem_cons.mpr ⟨lw_p9, List.forall_mem_cons.mpr ⟨lw_p10, List.forall_mem_cons.mpr ⟨lw_p11, List.forall_mem_cons.mpr ⟨lw_p12, List.forall_mem_cons.mpr ⟨lw_p13, List.forall_mem_cons.mpr ⟨lw_p14, List.forall_mem_cons.mpr ⟨lw_p15, fun _ h => absurd h List.not_mem_nil⟩⟩⟩⟩⟩⟩⟩⟩⟩⟩⟩⟩⟩⟩⟩⟩
theorem lw_p16 : lw_okq (⟨"StreamHall$Hall", "frame", "(IJJJI)Z"⟩, 23) := ⟨⟨by decide +kernel, by decide +kernel⟩, lw_t1 (List.mem_of_getElem? (i := 30) rfl), lw_t4 (List.mem_of_getElem? (i := 8) rfl), lw_t4 (List.mem_of_getElem? (i := 9) rfl)⟩
theorem lw_p17 : lw_okq (⟨"StreamHall$Hall", "fillsGrants", "(I)Z"⟩, 23) := ⟨⟨by decide +kernel, by decide +kernel⟩, lw_t1 (List.mem_of_getElem? (i := 30) rfl), lw_t4 (List.mem_of_getElem? (i := 17) rfl), lw_t4 (List.mem_of_getElem? (i := 18) rfl)⟩
theorem lw_p18 : lw_okq (⟨"StreamHall$Hall", "fillsBlocked", "(I)Z"⟩, 23) := ⟨⟨by decide +kernel, by decide +kernel⟩, lw_t1 (List.mem_of_getElem? (i := 30) rfl), lw_t4 (List.mem_of_getElem? (i := 21) rfl), lw_t4 (List.mem_of_getElem? (i := 22) rfl)⟩
theorem lw_p19 : lw_okq (⟨"StreamHall$Hall", "fillsStream", "(I)Z"⟩, 23) := ⟨⟨by decide +kernel, by decide +kernel⟩, lw_t1 (List.mem_of_getElem? (i := 30) rfl), lw_t4 (List.mem_of_getElem? (i := 28) rfl), lw_t4 (List.mem_of_getElem? (i := 29) rfl)⟩
theorem lw_p20 : lw_okq (⟨"StreamHall$Hall", "fills", "(ILStreamHall$Sending;I)Z"⟩, 23) := ⟨⟨by decide +kernel, by decide +kernel⟩, lw_t1 (List.mem_of_getElem? (i := 30) rfl), lw_t4 (List.mem_of_getElem? (i := 32) rfl), lw_t4 (List.mem_of_getElem? (i := 33) rfl)⟩
theorem lw_p21 : lw_okq (⟨"StreamHall$Spans", "release", "(I)V"⟩, 5) := ⟨⟨by decide +kernel, by decide +kernel⟩, lw_t1 (List.mem_of_getElem? (i := 72) rfl), lw_t4 (List.mem_of_getElem? (i := 48) rfl), lw_t4 (List.mem_of_getElem? (i := 49) rfl)⟩
theorem lw_p22 : lw_okq (⟨"StreamHall$Spans", "trim", "(III)V"⟩, 5) := ⟨⟨by decide +kernel, by decide +kernel⟩, lw_t1 (List.mem_of_getElem? (i := 72) rfl), lw_t4 (List.mem_of_getElem? (i := 52) rfl), lw_t4 (List.mem_of_getElem? (i := 53) rfl)⟩
theorem lw_p23 : lw_okq (⟨"StreamHall$Spans", "make", "(III)I"⟩, 5) := ⟨⟨by decide +kernel, by decide +kernel⟩, lw_t1 (List.mem_of_getElem? (i := 72) rfl), lw_t4 (List.mem_of_getElem? (i := 56) rfl), lw_t4 (List.mem_of_getElem? (i := 57) rfl)⟩
theorem lw_p24 : lw_okq (⟨"StreamHall", "at", "(I)LStreamHall$Place;"⟩, 8) := ⟨⟨by decide +kernel, by decide +kernel⟩, lw_t1 (List.mem_of_getElem? (i := 21) rfl), lw_t4 (List.mem_of_getElem? (i := 75) rfl), lw_t4 (List.mem_of_getElem? (i := 76) rfl)⟩
theorem lw_p25 : lw_okq (⟨"StreamHall$Hall", "allowed", "(JZ)I"⟩, 23) := ⟨⟨by decide +kernel, by decide +kernel⟩, lw_t1 (List.mem_of_getElem? (i := 30) rfl), lw_t4 (List.mem_of_getElem? (i := 102) rfl), lw_t4 (List.mem_of_getElem? (i := 103) rfl)⟩
theorem lw_p26 : lw_okq (⟨"StreamHall$Hall", "fits", "(IJZ)I"⟩, 23) := ⟨⟨by decide +kernel, by decide +kernel⟩, lw_t1 (List.mem_of_getElem? (i := 30) rfl), lw_t4 (List.mem_of_getElem? (i := 107) rfl), lw_t4 (List.mem_of_getElem? (i := 108) rfl)⟩
theorem lw_p27 : lw_okq (⟨"StreamHall$Hall", "come", "(I)V"⟩, 23) := ⟨⟨by decide +kernel, by decide +kernel⟩, lw_t1 (List.mem_of_getElem? (i := 30) rfl), lw_t4 (List.mem_of_getElem? (i := 111) rfl), lw_t4 (List.mem_of_getElem? (i := 112) rfl)⟩
theorem lw_p28 : lw_okq (⟨"StreamHall$Hall", "comes", "(LStreamHall$Receiving;IZ[BII)V"⟩, 23) := ⟨⟨by decide +kernel, by decide +kernel⟩, lw_t1 (List.mem_of_getElem? (i := 30) rfl), lw_t4 (List.mem_of_getElem? (i := 115) rfl), lw_t4 (List.mem_of_getElem? (i := 116) rfl)⟩
theorem lw_p29 : lw_okq (⟨"StreamHall$Hall", "reach", "(LStreamHall$Receiving;I)V"⟩, 23) := ⟨⟨by decide +kernel, by decide +kernel⟩, lw_t1 (List.mem_of_getElem? (i := 30) rfl), lw_t4 (List.mem_of_getElem? (i := 119) rfl), lw_t4 (List.mem_of_getElem? (i := 120) rfl)⟩
theorem lw_p30 : lw_okq (⟨"StreamHall$Blocks", "block", "(LStreamHall$Receiving;I)I"⟩, 6) := ⟨⟨by decide +kernel, by decide +kernel⟩, lw_t1 (List.mem_of_getElem? (i := 127) rfl), lw_t4 (List.mem_of_getElem? (i := 128) rfl), lw_t4 (List.mem_of_getElem? (i := 129) rfl)⟩
theorem lw_p31 : lw_okq (⟨"StreamHall$Blocks", "make", "(II)I"⟩, 6) := ⟨⟨by decide +kernel, by decide +kernel⟩, lw_t1 (List.mem_of_getElem? (i := 127) rfl), lw_t4 (List.mem_of_getElem? (i := 132) rfl), lw_t4 (List.mem_of_getElem? (i := 133) rfl)⟩
def lw_privs_2 : List (MethodName × Nat) := [(⟨"StreamHall$Hall", "frame", "(IJJJI)Z"⟩, 23), (⟨"StreamHall$Hall", "fillsGrants", "(I)Z"⟩, 23), (⟨"StreamHall$Hall", "fillsBlocked", "(I)Z"⟩, 23), (⟨"StreamHall$Hall", "fillsStream", "(I)Z"⟩, 23), (⟨"StreamHall$Hall", "fills", "(ILStreamHall$Sending;I)Z"⟩, 23), (⟨"StreamHall$Spans", "release", "(I)V"⟩, 5), (⟨"StreamHall$Spans", "trim", "(III)V"⟩, 5), (⟨"StreamHall$Spans", "make", "(III)I"⟩, 5), (⟨"StreamHall", "at", "(I)LStreamHall$Place;"⟩, 8), (⟨"StreamHall$Hall", "allowed", "(JZ)I"⟩, 23), (⟨"StreamHall$Hall", "fits", "(IJZ)I"⟩, 23), (⟨"StreamHall$Hall", "come", "(I)V"⟩, 23), (⟨"StreamHall$Hall", "comes", "(LStreamHall$Receiving;IZ[BII)V"⟩, 23), (⟨"StreamHall$Hall", "reach", "(LStreamHall$Receiving;I)V"⟩, 23), (⟨"StreamHall$Blocks", "block", "(LStreamHall$Receiving;I)I"⟩, 6), (⟨"StreamHall$Blocks", "make", "(II)I"⟩, 6)]
theorem lw_r2 : ∀ q ∈ lw_privs_2, lw_okq q := List.forall_mem_cons.mpr ⟨lw_p16, List.forall_mem_cons.mpr ⟨lw_p17, List.forall_mem_cons.mpr ⟨lw_p18, List.forall_mem_cons.mpr ⟨lw_p19, List.forall_mem_cons.mpr ⟨lw_p20, List.forall_mem_cons.mpr ⟨lw_p21, List.forall_mem_cons.mpr ⟨lw_p22, List.forall_mem_cons.mpr ⟨lw_p23, List.forall_mem_cons.mpr ⟨lw_p24, List.forall_mem_cons.mpr ⟨lw_p25, List.forall_mem_cons.mpr ⟨lw_p26, List.forall_mem_cons.mpr ⟨lw_p27, List.forall_mem_cons.mpr ⟨lw_p28, List.forall_mem_cons.mpr ⟨lw_p29, List.forall_mem_cons.mpr ⟨lw_p30, List.forall_mem_cons.mpr ⟨lw_p31, fun _ h => absurd h List.not_mem_nil⟩⟩⟩⟩⟩⟩⟩⟩⟩⟩⟩⟩⟩⟩⟩⟩
theorem lw_p32 : lw_okq (⟨"StreamHall$Hall", "isReset", "(LStreamHall$Receiving;JI)V"⟩, 23) := ⟨⟨by decide +kernel, by decide +kernel⟩, lw_t1 (List.mem_of_getElem? (i := 30) rfl), lw_t4 (List.mem_of_getElem? (i := 153) rfl), lw_t4 (List.mem_of_getElem? (i := 154) rfl)⟩
theorem lw_p33 : lw_okq (⟨"StreamHall$Hall", "isGone", "(LStreamHall$Sending;IIZZ)V"⟩, 23) := ⟨⟨by decide +kernel, by decide +kernel⟩, lw_t1 (List.mem_of_getElem? (i := 30) rfl), lw_t4 (List.mem_of_getElem? (i := 173) rfl), lw_t4 (List.mem_of_getElem? (i := 174) rfl)⟩
theorem lw_p34 : lw_okq (⟨"StreamHall$Hall", "isLost", "(IIJJ)V"⟩, 23) := ⟨⟨by decide +kernel, by decide +kernel⟩, lw_t1 (List.mem_of_getElem? (i := 30) rfl), lw_t4 (List.mem_of_getElem? (i := 187) rfl), lw_t4 (List.mem_of_getElem? (i := 188) rfl)⟩
theorem lw_p35 : lw_okq (⟨"StreamHallModel", "fails", "(ZI)Z"⟩, 61) := ⟨⟨by decide +kernel, by decide +kernel⟩, lw_t5 (List.mem_of_getElem? (i := 9) rfl), lw_t5 (List.mem_of_getElem? (i := 218) rfl), lw_t5 (List.mem_of_getElem? (i := 219) rfl)⟩
theorem lw_p36 : lw_okq (⟨"StreamHallModel", "begin", "(II)V"⟩, 61) := ⟨⟨by decide +kernel, by decide +kernel⟩, lw_t5 (List.mem_of_getElem? (i := 9) rfl), lw_t5 (List.mem_of_getElem? (i := 235) rfl), lw_t5 (List.mem_of_getElem? (i := 236) rfl)⟩
theorem lw_p37 : lw_okq (⟨"StreamHallModel", "grantOf", "(II)I"⟩, 61) := ⟨⟨by decide +kernel, by decide +kernel⟩, lw_t5 (List.mem_of_getElem? (i := 9) rfl), lw_t6 (List.mem_of_getElem? (i := 2) rfl), lw_t6 (List.mem_of_getElem? (i := 3) rfl)⟩
theorem lw_p38 : lw_okq (⟨"StreamHallModel", "limitOf", "(II)J"⟩, 61) := ⟨⟨by decide +kernel, by decide +kernel⟩, lw_t5 (List.mem_of_getElem? (i := 9) rfl), lw_t6 (List.mem_of_getElem? (i := 12) rfl), lw_t6 (List.mem_of_getElem? (i := 13) rfl)⟩
theorem lw_p39 : lw_okq (⟨"StreamHallModel", "hasSending", "(II)Z"⟩, 61) := ⟨⟨by decide +kernel, by decide +kernel⟩, lw_t5 (List.mem_of_getElem? (i := 9) rfl), lw_t6 (List.mem_of_getElem? (i := 20) rfl), lw_t6 (List.mem_of_getElem? (i := 21) rfl)⟩
theorem lw_p40 : lw_okq (⟨"StreamHallModel", "isThere", "(II)Z"⟩, 61) := ⟨⟨by decide +kernel, by decide +kernel⟩, lw_t5 (List.mem_of_getElem? (i := 9) rfl), lw_t6 (List.mem_of_getElem? (i := 24) rfl), lw_t6 (List.mem_of_getElem? (i := 25) rfl)⟩
theorem lw_p41 : lw_okq (⟨"StreamHallModel", "sending", "(II)I"⟩, 61) := ⟨⟨by decide +kernel, by decide +kernel⟩, lw_t5 (List.mem_of_getElem? (i := 9) rfl), lw_t6 (List.mem_of_getElem? (i := 31) rfl), lw_t6 (List.mem_of_getElem? (i := 32) rfl)⟩
theorem lw_p42 : lw_okq (⟨"StreamHallModel", "count", "(III)I"⟩, 61) := ⟨⟨by decide +kernel, by decide +kernel⟩, lw_t5 (List.mem_of_getElem? (i := 9) rfl), lw_t6 (List.mem_of_getElem? (i := 35) rfl), lw_t6 (List.mem_of_getElem? (i := 36) rfl)⟩
theorem lw_p43 : lw_okq (⟨"StreamHallModel", "written", "(II)I"⟩, 61) := ⟨⟨by decide +kernel, by decide +kernel⟩, lw_t5 (List.mem_of_getElem? (i := 9) rfl), lw_t6 (List.mem_of_getElem? (i := 39) rfl), lw_t6 (List.mem_of_getElem? (i := 40) rfl)⟩
theorem lw_p44 : lw_okq (⟨"StreamHallModel", "isOpenSending", "(II)Z"⟩, 61) := ⟨⟨by decide +kernel, by decide +kernel⟩, lw_t5 (List.mem_of_getElem? (i := 9) rfl), lw_t6 (List.mem_of_getElem? (i := 52) rfl), lw_t6 (List.mem_of_getElem? (i := 53) rfl)⟩
theorem lw_p45 : lw_okq (⟨"StreamHallModel", "doReset", "(IIJ)V"⟩, 61) := ⟨⟨by decide +kernel, by decide +kernel⟩, lw_t5 (List.mem_of_getElem? (i := 9) rfl), lw_t6 (List.mem_of_getElem? (i := 56) rfl), lw_t6 (List.mem_of_getElem? (i := 57) rfl)⟩
theorem lw_p46 : lw_okq (⟨"StreamHallModel", "hasReceiving", "(II)Z"⟩, 61) := ⟨⟨by decide +kernel, by decide +kernel⟩, lw_t5 (List.mem_of_getElem? (i := 9) rfl), lw_t6 (List.mem_of_getElem? (i := 64) rfl), lw_t6 (List.mem_of_getElem? (i := 65) rfl)⟩
theorem lw_p47 : lw_okq (⟨"StreamHallModel", "receiving", "(II)I"⟩, 61) := ⟨⟨by decide +kernel, by decide +kernel⟩, lw_t5 (List.mem_of_getElem? (i := 9) rfl), lw_t6 (List.mem_of_getElem? (i := 71) rfl), lw_t6 (List.mem_of_getElem? (i := 72) rfl)⟩
def lw_privs_3 : List (MethodName × Nat) := [(⟨"StreamHall$Hall", "isReset", "(LStreamHall$Receiving;JI)V"⟩, 23), (⟨"StreamHall$Hall", "isGone", "(LStreamHall$Sending;IIZZ)V"⟩, 23), (⟨"StreamHall$Hall", "isLost", "(IIJJ)V"⟩, 23), (⟨"StreamHallModel", "fails", "(ZI)Z"⟩, 61), (⟨"StreamHallModel", "begin", "(II)V"⟩, 61), (⟨"StreamHallModel", "grantOf", "(II)I"⟩, 61), (⟨"StreamHallModel", "limitOf", "(II)J"⟩, 61), (⟨"StreamHallModel", "hasSending", "(II)Z"⟩, 61), (⟨"StreamHallModel", "isThere", "(II)Z"⟩, 61), (⟨"StreamHallModel", "sending", "(II)I"⟩, 61), (⟨"StreamHallModel", "count", "(III)I"⟩, 61), (⟨"StreamHallModel", "written", "(II)I"⟩, 61), (⟨"StreamHallModel", "isOpenSending", "(II)Z"⟩, 61), (⟨"StreamHallModel", "doReset", "(IIJ)V"⟩, 61), (⟨"StreamHallModel", "hasReceiving", "(II)Z"⟩, 61), (⟨"StreamHallModel", "receiving", "(II)I"⟩, 61)]
theorem lw_r3 : ∀ q ∈ lw_privs_3, lw_okq q := List.forall_mem_cons.mpr ⟨lw_p32, List.forall_mem_cons.mpr ⟨lw_p33, List.forall_mem_cons.mpr ⟨lw_p34, List.forall_mem_cons.mpr ⟨lw_p35, List.forall_mem_cons.mpr ⟨lw_p36, List.forall_mem_cons.mpr ⟨lw_p37, List.forall_mem_cons.mpr ⟨lw_p38, List.forall_mem_cons.mpr ⟨lw_p39, List.forall_mem_cons.mpr ⟨lw_p40, List.forall_mem_cons.mpr ⟨lw_p41, List.forall_mem_cons.mpr ⟨lw_p42, List.forall_mem_cons.mpr ⟨lw_p43, List.forall_mem_cons.mpr ⟨lw_p44, List.forall_mem_cons.mpr ⟨lw_p45, List.forall_mem_cons.mpr ⟨lw_p46, List.forall_mem_cons.mpr ⟨lw_p47, fun _ h => absurd h List.not_mem_nil⟩⟩⟩⟩⟩⟩⟩⟩⟩⟩⟩⟩⟩⟩⟩⟩
theorem lw_p48 : lw_okq (⟨"StreamHallModel", "readyOf", "(II)J"⟩, 61) := ⟨⟨by decide +kernel, by decide +kernel⟩, lw_t5 (List.mem_of_getElem? (i := 9) rfl), lw_t6 (List.mem_of_getElem? (i := 75) rfl), lw_t6 (List.mem_of_getElem? (i := 76) rfl)⟩
theorem lw_p49 : lw_okq (⟨"StreamHallModel", "isHere", "(IIJ)Z"⟩, 61) := ⟨⟨by decide +kernel, by decide +kernel⟩, lw_t5 (List.mem_of_getElem? (i := 9) rfl), lw_t6 (List.mem_of_getElem? (i := 79) rfl), lw_t6 (List.mem_of_getElem? (i := 80) rfl)⟩
theorem lw_p50 : lw_okq (⟨"StreamHallModel", "pieceAt", "(III)I"⟩, 61) := ⟨⟨by decide +kernel, by decide +kernel⟩, lw_t5 (List.mem_of_getElem? (i := 9) rfl), lw_t6 (List.mem_of_getElem? (i := 84) rfl), lw_t6 (List.mem_of_getElem? (i := 85) rfl)⟩
theorem lw_p51 : lw_okq (⟨"StreamHallModel", "byteAt", "(IIJ)B"⟩, 61) := ⟨⟨by decide +kernel, by decide +kernel⟩, lw_t5 (List.mem_of_getElem? (i := 9) rfl), lw_t6 (List.mem_of_getElem? (i := 92) rfl), lw_t6 (List.mem_of_getElem? (i := 93) rfl)⟩
theorem lw_p52 : lw_okq (⟨"StreamHallModel", "growData", "(I)V"⟩, 61) := ⟨⟨by decide +kernel, by decide +kernel⟩, lw_t5 (List.mem_of_getElem? (i := 9) rfl), lw_t6 (List.mem_of_getElem? (i := 96) rfl), lw_t6 (List.mem_of_getElem? (i := 97) rfl)⟩
theorem lw_p53 : lw_okq (⟨"StreamHallModel", "consumed", "(I)J"⟩, 61) := ⟨⟨by decide +kernel, by decide +kernel⟩, lw_t5 (List.mem_of_getElem? (i := 9) rfl), lw_t6 (List.mem_of_getElem? (i := 100) rfl), lw_t6 (List.mem_of_getElem? (i := 101) rfl)⟩
theorem lw_p54 : lw_okq (⟨"StreamHallModel", "growStream", "(II)V"⟩, 61) := ⟨⟨by decide +kernel, by decide +kernel⟩, lw_t5 (List.mem_of_getElem? (i := 9) rfl), lw_t6 (List.mem_of_getElem? (i := 109) rfl), lw_t6 (List.mem_of_getElem? (i := 110) rfl)⟩
theorem lw_p55 : lw_okq (⟨"StreamHallModel", "looksOver", "(II)V"⟩, 61) := ⟨⟨by decide +kernel, by decide +kernel⟩, lw_t5 (List.mem_of_getElem? (i := 9) rfl), lw_t6 (List.mem_of_getElem? (i := 113) rfl), lw_t6 (List.mem_of_getElem? (i := 114) rfl)⟩
theorem lw_p56 : lw_okq (⟨"StreamHallModel", "takes", "(I)I"⟩, 61) := ⟨⟨by decide +kernel, by decide +kernel⟩, lw_t5 (List.mem_of_getElem? (i := 9) rfl), lw_t6 (List.mem_of_getElem? (i := 122) rfl), lw_t6 (List.mem_of_getElem? (i := 123) rfl)⟩
theorem lw_p57 : lw_okq (⟨"StreamHallModel", "takeStream", "(I)I"⟩, 61) := ⟨⟨by decide +kernel, by decide +kernel⟩, lw_t5 (List.mem_of_getElem? (i := 9) rfl), lw_t6 (List.mem_of_getElem? (i := 126) rfl), lw_t6 (List.mem_of_getElem? (i := 127) rfl)⟩
theorem lw_p58 : lw_okq (⟨"StreamHallModel", "meant", "(IJZ)I"⟩, 61) := ⟨⟨by decide +kernel, by decide +kernel⟩, lw_t5 (List.mem_of_getElem? (i := 9) rfl), lw_t6 (List.mem_of_getElem? (i := 130) rfl), lw_t6 (List.mem_of_getElem? (i := 131) rfl)⟩
theorem lw_p59 : lw_okq (⟨"StreamHallModel", "reaches", "(IIJZ)I"⟩, 61) := ⟨⟨by decide +kernel, by decide +kernel⟩, lw_t5 (List.mem_of_getElem? (i := 9) rfl), lw_t6 (List.mem_of_getElem? (i := 136) rfl), lw_t6 (List.mem_of_getElem? (i := 137) rfl)⟩
theorem lw_p60 : lw_okq (⟨"StreamHallModel", "received", "(I)J"⟩, 61) := ⟨⟨by decide +kernel, by decide +kernel⟩, lw_t5 (List.mem_of_getElem? (i := 9) rfl), lw_t6 (List.mem_of_getElem? (i := 140) rfl), lw_t6 (List.mem_of_getElem? (i := 141) rfl)⟩
theorem lw_p61 : lw_okq (⟨"StreamHallModel", "comesThere", "(II)V"⟩, 61) := ⟨⟨by decide +kernel, by decide +kernel⟩, lw_t5 (List.mem_of_getElem? (i := 9) rfl), lw_t6 (List.mem_of_getElem? (i := 144) rfl), lw_t6 (List.mem_of_getElem? (i := 145) rfl)⟩
theorem lw_p62 : lw_okq (⟨"StreamHallModel", "comes", "(IIJB)V"⟩, 61) := ⟨⟨by decide +kernel, by decide +kernel⟩, lw_t5 (List.mem_of_getElem? (i := 9) rfl), lw_t6 (List.mem_of_getElem? (i := 148) rfl), lw_t6 (List.mem_of_getElem? (i := 149) rfl)⟩
theorem lw_p63 : lw_okq (⟨"StreamHallModel", "takeReset", "(I)I"⟩, 61) := ⟨⟨by decide +kernel, by decide +kernel⟩, lw_t5 (List.mem_of_getElem? (i := 9) rfl), lw_t6 (List.mem_of_getElem? (i := 152) rfl), lw_t6 (List.mem_of_getElem? (i := 153) rfl)⟩
def lw_privs_4 : List (MethodName × Nat) := [(⟨"StreamHallModel", "readyOf", "(II)J"⟩, 61), (⟨"StreamHallModel", "isHere", "(IIJ)Z"⟩, 61), (⟨"StreamHallModel", "pieceAt", "(III)I"⟩, 61), (⟨"StreamHallModel", "byteAt", "(IIJ)B"⟩, 61), (⟨"StreamHallModel", "growData", "(I)V"⟩, 61), (⟨"StreamHallModel", "consumed", "(I)J"⟩, 61), (⟨"StreamHallModel", "growStream", "(II)V"⟩, 61), (⟨"StreamHallModel", "looksOver", "(II)V"⟩, 61), (⟨"StreamHallModel", "takes", "(I)I"⟩, 61), (⟨"StreamHallModel", "takeStream", "(I)I"⟩, 61), (⟨"StreamHallModel", "meant", "(IJZ)I"⟩, 61), (⟨"StreamHallModel", "reaches", "(IIJZ)I"⟩, 61), (⟨"StreamHallModel", "received", "(I)J"⟩, 61), (⟨"StreamHallModel", "comesThere", "(II)V"⟩, 61), (⟨"StreamHallModel", "comes", "(IIJB)V"⟩, 61), (⟨"StreamHallModel", "takeReset", "(I)I"⟩, 61)]
theorem lw_r4 : ∀ q ∈ lw_privs_4, lw_okq q := List.forall_mem_cons.mpr ⟨lw_p48, List.forall_mem_cons.mpr ⟨lw_p49, List.forall_mem_cons.mpr ⟨lw_p50, List.forall_mem_cons.mpr ⟨lw_p51, List.forall_mem_cons.mpr ⟨lw_p52, List.forall_mem_cons.mpr ⟨lw_p53, List.forall_mem_cons.mpr ⟨lw_p54, List.forall_mem_cons.mpr ⟨lw_p55, List.forall_mem_cons.mpr ⟨lw_p56, List.forall_mem_cons.mpr ⟨lw_p57, List.forall_mem_cons.mpr ⟨lw_p58, List.forall_mem_cons.mpr ⟨lw_p59, List.forall_mem_cons.mpr ⟨lw_p60, List.forall_mem_cons.mpr ⟨lw_p61, List.forall_mem_cons.mpr ⟨lw_p62, List.forall_mem_cons.mpr ⟨lw_p63, fun _ h => absurd h List.not_mem_nil⟩⟩⟩⟩⟩⟩⟩⟩⟩⟩⟩⟩⟩⟩⟩⟩
theorem lw_p64 : lw_okq (⟨"StreamHallModel", "takeOther", "(I)I"⟩, 61) := ⟨⟨by decide +kernel, by decide +kernel⟩, lw_t5 (List.mem_of_getElem? (i := 9) rfl), lw_t6 (List.mem_of_getElem? (i := 156) rfl), lw_t6 (List.mem_of_getElem? (i := 157) rfl)⟩
theorem lw_p65 : lw_okq (⟨"StreamHallModel", "freePlace", "()I"⟩, 61) := ⟨⟨by decide +kernel, by decide +kernel⟩, lw_t5 (List.mem_of_getElem? (i := 9) rfl), lw_t6 (List.mem_of_getElem? (i := 167) rfl), lw_t6 (List.mem_of_getElem? (i := 168) rfl)⟩
theorem lw_p66 : lw_okq (⟨"StreamHallModel", "fills", "(II)Z"⟩, 61) := ⟨⟨by decide +kernel, by decide +kernel⟩, lw_t5 (List.mem_of_getElem? (i := 9) rfl), lw_t6 (List.mem_of_getElem? (i := 171) rfl), lw_t6 (List.mem_of_getElem? (i := 172) rfl)⟩
theorem lw_p67 : lw_okq (⟨"StreamHallModel", "fillsResets", "(II)Z"⟩, 61) := ⟨⟨by decide +kernel, by decide +kernel⟩, lw_t5 (List.mem_of_getElem? (i := 9) rfl), lw_t6 (List.mem_of_getElem? (i := 175) rfl), lw_t6 (List.mem_of_getElem? (i := 176) rfl)⟩
theorem lw_p68 : lw_okq (⟨"StreamHallModel", "sent", "(II)I"⟩, 61) := ⟨⟨by decide +kernel, by decide +kernel⟩, lw_t5 (List.mem_of_getElem? (i := 9) rfl), lw_t6 (List.mem_of_getElem? (i := 179) rfl), lw_t6 (List.mem_of_getElem? (i := 180) rfl)⟩
theorem lw_p69 : lw_okq (⟨"StreamHallModel", "lays", "(IJJJI)Z"⟩, 61) := ⟨⟨by decide +kernel, by decide +kernel⟩, lw_t5 (List.mem_of_getElem? (i := 9) rfl), lw_t6 (List.mem_of_getElem? (i := 183) rfl), lw_t6 (List.mem_of_getElem? (i := 184) rfl)⟩
theorem lw_p70 : lw_okq (⟨"StreamHallModel", "bytes", "()I"⟩, 61) := ⟨⟨by decide +kernel, by decide +kernel⟩, lw_t5 (List.mem_of_getElem? (i := 9) rfl), lw_t6 (List.mem_of_getElem? (i := 187) rfl), lw_t6 (List.mem_of_getElem? (i := 188) rfl)⟩
theorem lw_p71 : lw_okq (⟨"StreamHallModel", "fillsGrants", "(II)Z"⟩, 61) := ⟨⟨by decide +kernel, by decide +kernel⟩, lw_t5 (List.mem_of_getElem? (i := 9) rfl), lw_t6 (List.mem_of_getElem? (i := 196) rfl), lw_t6 (List.mem_of_getElem? (i := 197) rfl)⟩
theorem lw_p72 : lw_okq (⟨"StreamHallModel", "fillsBlocked", "(II)Z"⟩, 61) := ⟨⟨by decide +kernel, by decide +kernel⟩, lw_t5 (List.mem_of_getElem? (i := 9) rfl), lw_t6 (List.mem_of_getElem? (i := 200) rfl), lw_t6 (List.mem_of_getElem? (i := 201) rfl)⟩
theorem lw_p73 : lw_okq (⟨"StreamHallModel", "waits", "(II)Z"⟩, 61) := ⟨⟨by decide +kernel, by decide +kernel⟩, lw_t5 (List.mem_of_getElem? (i := 9) rfl), lw_t6 (List.mem_of_getElem? (i := 204) rfl), lw_t6 (List.mem_of_getElem? (i := 205) rfl)⟩
theorem lw_p74 : lw_okq (⟨"StreamHallModel", "allSent", "(I)I"⟩, 61) := ⟨⟨by decide +kernel, by decide +kernel⟩, lw_t5 (List.mem_of_getElem? (i := 9) rfl), lw_t6 (List.mem_of_getElem? (i := 208) rfl), lw_t6 (List.mem_of_getElem? (i := 209) rfl)⟩
theorem lw_p75 : lw_okq (⟨"StreamHallModel", "fillsStream", "(III)Z"⟩, 61) := ⟨⟨by decide +kernel, by decide +kernel⟩, lw_t5 (List.mem_of_getElem? (i := 9) rfl), lw_t6 (List.mem_of_getElem? (i := 212) rfl), lw_t6 (List.mem_of_getElem? (i := 213) rfl)⟩
theorem lw_p76 : lw_okq (⟨"StreamHallModel", "firstIn", "(III)I"⟩, 61) := ⟨⟨by decide +kernel, by decide +kernel⟩, lw_t5 (List.mem_of_getElem? (i := 9) rfl), lw_t6 (List.mem_of_getElem? (i := 216) rfl), lw_t6 (List.mem_of_getElem? (i := 217) rfl)⟩
theorem lw_p77 : lw_okq (⟨"StreamHallModel", "allowed", "(II)J"⟩, 61) := ⟨⟨by decide +kernel, by decide +kernel⟩, lw_t5 (List.mem_of_getElem? (i := 9) rfl), lw_t6 (List.mem_of_getElem? (i := 220) rfl), lw_t6 (List.mem_of_getElem? (i := 221) rfl)⟩
theorem lw_p78 : lw_okq (⟨"StreamHallModel", "endAlone", "(III)Z"⟩, 61) := ⟨⟨by decide +kernel, by decide +kernel⟩, lw_t5 (List.mem_of_getElem? (i := 9) rfl), lw_t6 (List.mem_of_getElem? (i := 224) rfl), lw_t6 (List.mem_of_getElem? (i := 225) rfl)⟩
theorem lw_p79 : lw_okq (⟨"StreamHallModel", "placeOf", "(III)I"⟩, 61) := ⟨⟨by decide +kernel, by decide +kernel⟩, lw_t5 (List.mem_of_getElem? (i := 9) rfl), lw_t6 (List.mem_of_getElem? (i := 228) rfl), lw_t6 (List.mem_of_getElem? (i := 229) rfl)⟩
def lw_privs_5 : List (MethodName × Nat) := [(⟨"StreamHallModel", "takeOther", "(I)I"⟩, 61), (⟨"StreamHallModel", "freePlace", "()I"⟩, 61), (⟨"StreamHallModel", "fills", "(II)Z"⟩, 61), (⟨"StreamHallModel", "fillsResets", "(II)Z"⟩, 61), (⟨"StreamHallModel", "sent", "(II)I"⟩, 61), (⟨"StreamHallModel", "lays", "(IJJJI)Z"⟩, 61), (⟨"StreamHallModel", "bytes", "()I"⟩, 61), (⟨"StreamHallModel", "fillsGrants", "(II)Z"⟩, 61), (⟨"StreamHallModel", "fillsBlocked", "(II)Z"⟩, 61), (⟨"StreamHallModel", "waits", "(II)Z"⟩, 61), (⟨"StreamHallModel", "allSent", "(I)I"⟩, 61), (⟨"StreamHallModel", "fillsStream", "(III)Z"⟩, 61), (⟨"StreamHallModel", "firstIn", "(III)I"⟩, 61), (⟨"StreamHallModel", "allowed", "(II)J"⟩, 61), (⟨"StreamHallModel", "endAlone", "(III)Z"⟩, 61), (⟨"StreamHallModel", "placeOf", "(III)I"⟩, 61)]
theorem lw_r5 : ∀ q ∈ lw_privs_5, lw_okq q := List.forall_mem_cons.mpr ⟨lw_p64, List.forall_mem_cons.mpr ⟨lw_p65, List.forall_mem_cons.mpr ⟨lw_p66, List.forall_mem_cons.mpr ⟨lw_p67, List.forall_mem_cons.mpr ⟨lw_p68, List.forall_mem_cons.mpr ⟨lw_p69, List.forall_mem_cons.mpr ⟨lw_p70, List.forall_mem_cons.mpr ⟨lw_p71, List.forall_mem_cons.mpr ⟨lw_p72, List.forall_mem_cons.mpr ⟨lw_p73, List.forall_mem_cons.mpr ⟨lw_p74, List.forall_mem_cons.mpr ⟨lw_p75, List.forall_mem_cons.mpr ⟨lw_p76, List.forall_mem_cons.mpr ⟨lw_p77, List.forall_mem_cons.mpr ⟨lw_p78, List.forall_mem_cons.mpr ⟨lw_p79, fun _ h => absurd h List.not_mem_nil⟩⟩⟩⟩⟩⟩⟩⟩⟩⟩⟩⟩⟩⟩⟩⟩
theorem lw_p80 : lw_okq (⟨"StreamHallModel", "noPlace", "(I)Z"⟩, 61) := ⟨⟨by decide +kernel, by decide +kernel⟩, lw_t5 (List.mem_of_getElem? (i := 9) rfl), lw_t6 (List.mem_of_getElem? (i := 236) rfl), lw_t6 (List.mem_of_getElem? (i := 237) rfl)⟩
theorem lw_p81 : lw_okq (⟨"StreamHallModel", "goneStream", "(IIZ)V"⟩, 61) := ⟨⟨by decide +kernel, by decide +kernel⟩, lw_t5 (List.mem_of_getElem? (i := 9) rfl), lw_t7 (List.mem_of_getElem? (i := 4) rfl), lw_t7 (List.mem_of_getElem? (i := 5) rfl)⟩
theorem lw_p82 : lw_okq (⟨"StreamHallModel", "sendingLook", "(III)J"⟩, 61) := ⟨⟨by decide +kernel, by decide +kernel⟩, lw_t5 (List.mem_of_getElem? (i := 9) rfl), lw_t7 (List.mem_of_getElem? (i := 24) rfl), lw_t7 (List.mem_of_getElem? (i := 25) rfl)⟩
theorem lw_p83 : lw_okq (⟨"StreamHallModel", "endOf", "(I)I"⟩, 61) := ⟨⟨by decide +kernel, by decide +kernel⟩, lw_t5 (List.mem_of_getElem? (i := 9) rfl), lw_t7 (List.mem_of_getElem? (i := 28) rfl), lw_t7 (List.mem_of_getElem? (i := 29) rfl)⟩
theorem lw_p84 : lw_okq (⟨"StreamHallModel", "receivingLook", "(III)J"⟩, 61) := ⟨⟨by decide +kernel, by decide +kernel⟩, lw_t5 (List.mem_of_getElem? (i := 9) rfl), lw_t7 (List.mem_of_getElem? (i := 32) rfl), lw_t7 (List.mem_of_getElem? (i := 33) rfl)⟩
def lw_privs_6 : List (MethodName × Nat) := [(⟨"StreamHallModel", "noPlace", "(I)Z"⟩, 61), (⟨"StreamHallModel", "goneStream", "(IIZ)V"⟩, 61), (⟨"StreamHallModel", "sendingLook", "(III)J"⟩, 61), (⟨"StreamHallModel", "endOf", "(I)I"⟩, 61), (⟨"StreamHallModel", "receivingLook", "(III)J"⟩, 61)]
theorem lw_r6 : ∀ q ∈ lw_privs_6, lw_okq q := List.forall_mem_cons.mpr ⟨lw_p80, List.forall_mem_cons.mpr ⟨lw_p81, List.forall_mem_cons.mpr ⟨lw_p82, List.forall_mem_cons.mpr ⟨lw_p83, List.forall_mem_cons.mpr ⟨lw_p84, fun _ h => absurd h List.not_mem_nil⟩⟩⟩⟩⟩
def lw_privs : List (MethodName × Nat) := lw_privs_1 ++ (lw_privs_2 ++ (lw_privs_3 ++ (lw_privs_4 ++ (lw_privs_5 ++ (lw_privs_6)))))
def lw_tbl : List Cond := k2_sels lw_privs ++ tables_1
theorem lw_privs_ok : ∀ q ∈ lw_privs, lw_okq q := by
  show ∀ q ∈ lw_privs_1 ++ (lw_privs_2 ++ (lw_privs_3 ++ (lw_privs_4 ++ (lw_privs_5 ++ (lw_privs_6))))), lw_okq q
  exact List.forall_mem_append.mpr ⟨lw_r1, List.forall_mem_append.mpr ⟨lw_r2, List.forall_mem_append.mpr ⟨lw_r3, List.forall_mem_append.mpr ⟨lw_r4, List.forall_mem_append.mpr ⟨lw_r5, lw_r6⟩⟩⟩⟩⟩
-- ===== ONE list of words for every method: the tables' words that hold all through a run =====
def lw_all : List Cond := lw_tbl.filter goodWord
/-- a word of the tables by its place: claim/WORDS.tsv -/
theorem lw_w {w : Cond} (i : Nat) (h : lw_tbl[i]? = some w) (g : goodWord w = true) : w ∈ lw_all := List.mem_filter.mpr ⟨List.mem_of_getElem? h, g⟩
theorem lw_all_tbl {w : Cond} (h : w ∈ lw_all) : w ∈ lw_tbl := (List.mem_filter.mp h).1
theorem lw_self : GoodIn lw_all lw_all := fun w h => ⟨h, good_of_word (List.mem_filter.mp h).2⟩
/-- a class's field words, by their places -/
theorem lw_in (ws : List Cond) (ps : List Nat) (hp : ws = ps.filterMap (fun i => lw_tbl[i]?)) (hg : ws.all goodWord = true) : ∀ w ∈ ws, w ∈ lw_all := by
  intro w h
  have h1 := List.all_eq_true.mp hg w h
  rw [hp] at h
  obtain ⟨i, -, hi⟩ := List.mem_filterMap.mp h
  exact lw_w i hi h1
/-- the words of a contract for the method y with code b, L locals, answer r -/
abbrev ws_ (y : MethodName) (b : ByteArray) (L : Nat) (r : Option FieldType) : List Cond := Cond.code y b L r :: lw_all
theorem lw_meth {y : MethodName} {b : ByteArray} {L : Nat} {r : Option FieldType} (h : Cond.code y b L r ∈ lw_all) : GoodIn lw_all (ws_ y b L r) := by
  intro w hw
  rcases List.mem_cons.mp hw with e | e
  · rw [e]
    exact lw_self _ h
  · exact lw_self _ e
theorem lw_app {a c : List Cond} (ha : ∀ w ∈ a, w ∈ lw_all) (hc : GoodIn lw_all c) : GoodIn lw_all (a ++ c) := by
  intro w hw
  rcases List.mem_append.mp hw with e | e
  · exact lw_self w (ha w e)
  · exact hc w e
/-- what a call through an object asks: cwV n hts (lw_V ..) -/
theorem lw_V {own : String} {idx : Nat} {C : String} {y : MethodName} {b : ByteArray} {L : Nat} {r : Option FieldType} (h1 : Cond.methodLink own idx y ∈ lw_all) (h2 : Cond.instanceMethod y ∈ lw_all) (h3 : Cond.selects C y y ∈ lw_all) (h4 : Cond.initialized C ∈ lw_all) (h5 : Cond.code y b L r ∈ lw_all) : GoodIn lw_all (wsV own idx C y (ws_ y b L r)) := by
  refine lw_app ?_ (lw_meth h5)
  intro w hw
  simp only [List.mem_cons, List.not_mem_nil, or_false] at hw
  rcases hw with e | e | e | e
  · rw [e]; exact h1
  · rw [e]; exact h2
  · rw [e]; exact h3
  · rw [e]; exact h4
/-- what a static call asks: va_cwS n hts (lw_S ..) -/
theorem lw_S {own : String} {idx : Nat} {y : MethodName} {b : ByteArray} {L : Nat} {r : Option FieldType} (h1 : Cond.methodLink own idx y ∈ lw_all) (h2 : Cond.static y ∈ lw_all) (h3 : Cond.initialized y.cls ∈ lw_all) (h4 : Cond.code y b L r ∈ lw_all) : GoodIn lw_all (va_wsS own idx y (ws_ y b L r)) := by
  refine lw_app ?_ (lw_meth h4)
  intro w hw
  simp only [List.mem_cons, List.not_mem_nil, or_false] at hw
  rcases hw with e | e | e
  · rw [e]; exact h1
  · rw [e]; exact h2
  · rw [e]; exact h3
/-- the words of a contract for a method WITH HANDLERS (hh: its table) -/
abbrev wsW_ (y : MethodName) (b : ByteArray) (L : Nat) (r : Option FieldType) (hh : List (Nat × Nat × Nat × Nat)) : List Cond := Cond.codeWith y b L r hh :: lw_all
theorem lw_methW {y : MethodName} {b : ByteArray} {L : Nat} {r : Option FieldType} {hh : List (Nat × Nat × Nat × Nat)} (h : Cond.codeWith y b L r hh ∈ lw_all) : GoodIn lw_all (wsW_ y b L r hh) := by
  intro w hw
  rcases List.mem_cons.mp hw with e | e
  · rw [e]
    exact lw_self _ h
  · exact lw_self _ e
/-- any list of words by their places (lw_in), good -/
theorem lw_good {ws : List Cond} (h : ∀ w ∈ ws, w ∈ lw_all) : GoodIn lw_all ws := fun w hw => lw_self w (h w hw)
/-- what a call of a method with handlers asks: vx_cwVW n hts (lw_VW ..), vx_cwSW n hts (lw_SW ..) -/
theorem lw_VW {own : String} {idx : Nat} {C : String} {y : MethodName} {b : ByteArray} {L : Nat} {r : Option FieldType} {hh : List (Nat × Nat × Nat × Nat)} (h1 : Cond.methodLink own idx y ∈ lw_all) (h2 : Cond.instanceMethod y ∈ lw_all) (h3 : Cond.selects C y y ∈ lw_all) (h4 : Cond.initialized C ∈ lw_all) (h5 : Cond.codeWith y b L r hh ∈ lw_all) : GoodIn lw_all (wsV own idx C y (wsW_ y b L r hh)) := by
  refine lw_app ?_ (lw_methW h5)
  intro w hw
  simp only [List.mem_cons, List.not_mem_nil, or_false] at hw
  rcases hw with e | e | e | e
  · rw [e]; exact h1
  · rw [e]; exact h2
  · rw [e]; exact h3
  · rw [e]; exact h4
theorem lw_SW {own : String} {idx : Nat} {y : MethodName} {b : ByteArray} {L : Nat} {r : Option FieldType} {hh : List (Nat × Nat × Nat × Nat)} (h1 : Cond.methodLink own idx y ∈ lw_all) (h2 : Cond.static y ∈ lw_all) (h3 : Cond.initialized y.cls ∈ lw_all) (h4 : Cond.codeWith y b L r hh ∈ lw_all) : GoodIn lw_all (va_wsS own idx y (wsW_ y b L r hh)) := by
  refine lw_app ?_ (lw_methW h4)
  intro w hw
  simp only [List.mem_cons, List.not_mem_nil, or_false] at hw
  rcases hw with e | e | e
  · rw [e]; exact h1
  · rw [e]; exact h2
  · rw [e]; exact h3
/-- a word by its place in its run of the tables -/
theorem lw_at {r : List Cond} (hr : ∀ w ∈ r, w ∈ lw_tbl) {w : Cond} (i : Nat) (h : r[i]? = some w) : w ∈ lw_tbl := hr w (List.mem_of_getElem? h)
theorem lw_g {w : Cond} (h : w ∈ lw_tbl) (g : goodWord w = true) : w ∈ lw_all := List.mem_filter.mpr ⟨h, g⟩
theorem lw_ms : ∀ w ∈ k2_sels lw_privs, w ∈ lw_tbl := fun w h => show w ∈ k2_sels lw_privs ++ tables_1 from List.mem_append_left _ h
theorem lw_m1 : ∀ w ∈ tables_1_1, w ∈ lw_tbl := fun w h => show w ∈ k2_sels lw_privs ++ tables_1 from List.mem_append_right (k2_sels lw_privs) (show w ∈ tables_1 from List.mem_append_left _ h)
theorem lw_m2 : ∀ w ∈ tables_1_2, w ∈ lw_tbl := fun w h => show w ∈ k2_sels lw_privs ++ tables_1 from List.mem_append_right (k2_sels lw_privs) (show w ∈ tables_1 from List.mem_append_right _ (List.mem_append_left _ h))
theorem lw_m3 : ∀ w ∈ tables_1_3, w ∈ lw_tbl := fun w h => show w ∈ k2_sels lw_privs ++ tables_1 from List.mem_append_right (k2_sels lw_privs) (show w ∈ tables_1 from List.mem_append_right _ (List.mem_append_right _ (List.mem_append_left _ h)))
theorem lw_m4 : ∀ w ∈ tables_1_4, w ∈ lw_tbl := fun w h => show w ∈ k2_sels lw_privs ++ tables_1 from List.mem_append_right (k2_sels lw_privs) (show w ∈ tables_1 from List.mem_append_right _ (List.mem_append_right _ (List.mem_append_right _ (List.mem_append_left _ h))))
theorem lw_m5 : ∀ w ∈ tables_1_5, w ∈ lw_tbl := fun w h => show w ∈ k2_sels lw_privs ++ tables_1 from List.mem_append_right (k2_sels lw_privs) (show w ∈ tables_1 from List.mem_append_right _ (List.mem_append_right _ (List.mem_append_right _ (List.mem_append_right _ (List.mem_append_left _ h)))))
theorem lw_m6 : ∀ w ∈ tables_1_6, w ∈ lw_tbl := fun w h => show w ∈ k2_sels lw_privs ++ tables_1 from List.mem_append_right (k2_sels lw_privs) (show w ∈ tables_1 from List.mem_append_right _ (List.mem_append_right _ (List.mem_append_right _ (List.mem_append_right _ (List.mem_append_right _ (List.mem_append_left _ h))))))
theorem lw_m7 : ∀ w ∈ tables_1_7, w ∈ lw_tbl := fun w h => show w ∈ k2_sels lw_privs ++ tables_1 from List.mem_append_right (k2_sels lw_privs) (show w ∈ tables_1 from List.mem_append_right _ (List.mem_append_right _ (List.mem_append_right _ (List.mem_append_right _ (List.mem_append_right _ (List.mem_append_right _ h))))))
theorem qs0 : (Cond.selects "StreamHall" ⟨"StreamHall", "allow", "(I)V"⟩ ⟨"StreamHall", "allow", "(I)V"⟩) ∈ lw_all := lw_g (lw_at lw_ms 0 rfl) rfl
theorem qs1 : (Cond.selects "java/lang/Throwable" ⟨"java/lang/Throwable", "fillInStackTrace", "(I)Ljava/lang/Throwable;"⟩ ⟨"java/lang/Throwable", "fillInStackTrace", "(I)Ljava/lang/Throwable;"⟩) ∈ lw_all := lw_g (lw_at lw_ms 1 rfl) rfl
theorem qs2 : (Cond.selects "StreamHall" ⟨"StreamHall", "hall", "(I)LStreamHall$Hall;"⟩ ⟨"StreamHall", "hall", "(I)LStreamHall$Hall;"⟩) ∈ lw_all := lw_g (lw_at lw_ms 2 rfl) rfl
theorem qs3 : (Cond.selects "StreamHall$Hall" ⟨"StreamHall$Hall", "begin", "(I)V"⟩ ⟨"StreamHall$Hall", "begin", "(I)V"⟩) ∈ lw_all := lw_g (lw_at lw_ms 3 rfl) rfl
theorem qs4 : (Cond.selects "StreamHall$Hall" ⟨"StreamHall$Hall", "isOwn", "(J)Z"⟩ ⟨"StreamHall$Hall", "isOwn", "(J)Z"⟩) ∈ lw_all := lw_g (lw_at lw_ms 4 rfl) rfl
theorem qs5 : (Cond.selects "StreamHall$Hall" ⟨"StreamHall$Hall", "rule", "(JZ)I"⟩ ⟨"StreamHall$Hall", "rule", "(JZ)I"⟩) ∈ lw_all := lw_g (lw_at lw_ms 5 rfl) rfl
theorem qs6 : (Cond.selects "StreamHall$Hall" ⟨"StreamHall$Hall", "sending", "(I)LStreamHall$Sending;"⟩ ⟨"StreamHall$Hall", "sending", "(I)LStreamHall$Sending;"⟩) ∈ lw_all := lw_g (lw_at lw_ms 6 rfl) rfl
theorem qs7 : (Cond.selects "StreamHall$Store" ⟨"StreamHall$Store", "piece", "()I"⟩ ⟨"StreamHall$Store", "piece", "()I"⟩) ∈ lw_all := lw_g (lw_at lw_ms 7 rfl) rfl
theorem qs8 : (Cond.selects "StreamHall$Hall" ⟨"StreamHall$Hall", "receiving", "(I)LStreamHall$Receiving;"⟩ ⟨"StreamHall$Hall", "receiving", "(I)LStreamHall$Receiving;"⟩) ∈ lw_all := lw_g (lw_at lw_ms 8 rfl) rfl
theorem qs9 : (Cond.selects "StreamHall$Blocks" ⟨"StreamHall$Blocks", "drop", "(LStreamHall$Receiving;)V"⟩ ⟨"StreamHall$Blocks", "drop", "(LStreamHall$Receiving;)V"⟩) ∈ lw_all := lw_g (lw_at lw_ms 9 rfl) rfl
theorem qs10 : (Cond.selects "StreamHall$Hall" ⟨"StreamHall$Hall", "grow", "()V"⟩ ⟨"StreamHall$Hall", "grow", "()V"⟩) ∈ lw_all := lw_g (lw_at lw_ms 10 rfl) rfl
theorem qs11 : (Cond.selects "StreamHall$Hall" ⟨"StreamHall$Hall", "grow", "(LStreamHall$Receiving;)V"⟩ ⟨"StreamHall$Hall", "grow", "(LStreamHall$Receiving;)V"⟩) ∈ lw_all := lw_g (lw_at lw_ms 11 rfl) rfl
theorem qs12 : (Cond.selects "StreamHall$Hall" ⟨"StreamHall$Hall", "isOver", "(I)Z"⟩ ⟨"StreamHall$Hall", "isOver", "(I)Z"⟩) ∈ lw_all := lw_g (lw_at lw_ms 12 rfl) rfl
theorem qs13 : (Cond.selects "StreamHall$Hall" ⟨"StreamHall$Hall", "mayBeOver", "(IZ)V"⟩ ⟨"StreamHall$Hall", "mayBeOver", "(IZ)V"⟩) ∈ lw_all := lw_g (lw_at lw_ms 13 rfl) rfl
theorem qs14 : (Cond.selects "StreamHall$Hall" ⟨"StreamHall$Hall", "way", "(J)LStreamHall$Way;"⟩ ⟨"StreamHall$Hall", "way", "(J)LStreamHall$Way;"⟩) ∈ lw_all := lw_g (lw_at lw_ms 14 rfl) rfl
theorem qs15 : (Cond.selects "StreamHall$Hall" ⟨"StreamHall$Hall", "fillsEnds", "(I)Z"⟩ ⟨"StreamHall$Hall", "fillsEnds", "(I)Z"⟩) ∈ lw_all := lw_g (lw_at lw_ms 15 rfl) rfl
theorem qs16 : (Cond.selects "StreamHall$Hall" ⟨"StreamHall$Hall", "frame", "(IJJJI)Z"⟩ ⟨"StreamHall$Hall", "frame", "(IJJJI)Z"⟩) ∈ lw_all := lw_g (lw_at lw_ms 16 rfl) rfl
theorem qs17 : (Cond.selects "StreamHall$Hall" ⟨"StreamHall$Hall", "fillsGrants", "(I)Z"⟩ ⟨"StreamHall$Hall", "fillsGrants", "(I)Z"⟩) ∈ lw_all := lw_g (lw_at lw_ms 17 rfl) rfl
theorem qs18 : (Cond.selects "StreamHall$Hall" ⟨"StreamHall$Hall", "fillsBlocked", "(I)Z"⟩ ⟨"StreamHall$Hall", "fillsBlocked", "(I)Z"⟩) ∈ lw_all := lw_g (lw_at lw_ms 18 rfl) rfl
theorem qs19 : (Cond.selects "StreamHall$Hall" ⟨"StreamHall$Hall", "fillsStream", "(I)Z"⟩ ⟨"StreamHall$Hall", "fillsStream", "(I)Z"⟩) ∈ lw_all := lw_g (lw_at lw_ms 19 rfl) rfl
theorem qs20 : (Cond.selects "StreamHall$Hall" ⟨"StreamHall$Hall", "fills", "(ILStreamHall$Sending;I)Z"⟩ ⟨"StreamHall$Hall", "fills", "(ILStreamHall$Sending;I)Z"⟩) ∈ lw_all := lw_g (lw_at lw_ms 20 rfl) rfl
theorem qs21 : (Cond.selects "StreamHall$Spans" ⟨"StreamHall$Spans", "release", "(I)V"⟩ ⟨"StreamHall$Spans", "release", "(I)V"⟩) ∈ lw_all := lw_g (lw_at lw_ms 21 rfl) rfl
theorem qs22 : (Cond.selects "StreamHall$Spans" ⟨"StreamHall$Spans", "trim", "(III)V"⟩ ⟨"StreamHall$Spans", "trim", "(III)V"⟩) ∈ lw_all := lw_g (lw_at lw_ms 22 rfl) rfl
theorem qs23 : (Cond.selects "StreamHall$Spans" ⟨"StreamHall$Spans", "make", "(III)I"⟩ ⟨"StreamHall$Spans", "make", "(III)I"⟩) ∈ lw_all := lw_g (lw_at lw_ms 23 rfl) rfl
theorem qs24 : (Cond.selects "StreamHall" ⟨"StreamHall", "at", "(I)LStreamHall$Place;"⟩ ⟨"StreamHall", "at", "(I)LStreamHall$Place;"⟩) ∈ lw_all := lw_g (lw_at lw_ms 24 rfl) rfl
theorem qs25 : (Cond.selects "StreamHall$Hall" ⟨"StreamHall$Hall", "allowed", "(JZ)I"⟩ ⟨"StreamHall$Hall", "allowed", "(JZ)I"⟩) ∈ lw_all := lw_g (lw_at lw_ms 25 rfl) rfl
theorem qs26 : (Cond.selects "StreamHall$Hall" ⟨"StreamHall$Hall", "fits", "(IJZ)I"⟩ ⟨"StreamHall$Hall", "fits", "(IJZ)I"⟩) ∈ lw_all := lw_g (lw_at lw_ms 26 rfl) rfl
theorem qs27 : (Cond.selects "StreamHall$Hall" ⟨"StreamHall$Hall", "come", "(I)V"⟩ ⟨"StreamHall$Hall", "come", "(I)V"⟩) ∈ lw_all := lw_g (lw_at lw_ms 27 rfl) rfl
theorem qs28 : (Cond.selects "StreamHall$Hall" ⟨"StreamHall$Hall", "comes", "(LStreamHall$Receiving;IZ[BII)V"⟩ ⟨"StreamHall$Hall", "comes", "(LStreamHall$Receiving;IZ[BII)V"⟩) ∈ lw_all := lw_g (lw_at lw_ms 28 rfl) rfl
theorem qs29 : (Cond.selects "StreamHall$Hall" ⟨"StreamHall$Hall", "reach", "(LStreamHall$Receiving;I)V"⟩ ⟨"StreamHall$Hall", "reach", "(LStreamHall$Receiving;I)V"⟩) ∈ lw_all := lw_g (lw_at lw_ms 29 rfl) rfl
theorem qs30 : (Cond.selects "StreamHall$Blocks" ⟨"StreamHall$Blocks", "block", "(LStreamHall$Receiving;I)I"⟩ ⟨"StreamHall$Blocks", "block", "(LStreamHall$Receiving;I)I"⟩) ∈ lw_all := lw_g (lw_at lw_ms 30 rfl) rfl
theorem qs31 : (Cond.selects "StreamHall$Blocks" ⟨"StreamHall$Blocks", "make", "(II)I"⟩ ⟨"StreamHall$Blocks", "make", "(II)I"⟩) ∈ lw_all := lw_g (lw_at lw_ms 31 rfl) rfl
theorem qs32 : (Cond.selects "StreamHall$Hall" ⟨"StreamHall$Hall", "isReset", "(LStreamHall$Receiving;JI)V"⟩ ⟨"StreamHall$Hall", "isReset", "(LStreamHall$Receiving;JI)V"⟩) ∈ lw_all := lw_g (lw_at lw_ms 32 rfl) rfl
theorem qs33 : (Cond.selects "StreamHall$Hall" ⟨"StreamHall$Hall", "isGone", "(LStreamHall$Sending;IIZZ)V"⟩ ⟨"StreamHall$Hall", "isGone", "(LStreamHall$Sending;IIZZ)V"⟩) ∈ lw_all := lw_g (lw_at lw_ms 33 rfl) rfl
theorem qs34 : (Cond.selects "StreamHall$Hall" ⟨"StreamHall$Hall", "isLost", "(IIJJ)V"⟩ ⟨"StreamHall$Hall", "isLost", "(IIJJ)V"⟩) ∈ lw_all := lw_g (lw_at lw_ms 34 rfl) rfl
theorem qs35 : (Cond.selects "StreamHallModel" ⟨"StreamHallModel", "fails", "(ZI)Z"⟩ ⟨"StreamHallModel", "fails", "(ZI)Z"⟩) ∈ lw_all := lw_g (lw_at lw_ms 35 rfl) rfl
theorem qs36 : (Cond.selects "StreamHallModel" ⟨"StreamHallModel", "begin", "(II)V"⟩ ⟨"StreamHallModel", "begin", "(II)V"⟩) ∈ lw_all := lw_g (lw_at lw_ms 36 rfl) rfl
theorem qs37 : (Cond.selects "StreamHallModel" ⟨"StreamHallModel", "grantOf", "(II)I"⟩ ⟨"StreamHallModel", "grantOf", "(II)I"⟩) ∈ lw_all := lw_g (lw_at lw_ms 37 rfl) rfl
theorem qs38 : (Cond.selects "StreamHallModel" ⟨"StreamHallModel", "limitOf", "(II)J"⟩ ⟨"StreamHallModel", "limitOf", "(II)J"⟩) ∈ lw_all := lw_g (lw_at lw_ms 38 rfl) rfl
theorem qs39 : (Cond.selects "StreamHallModel" ⟨"StreamHallModel", "hasSending", "(II)Z"⟩ ⟨"StreamHallModel", "hasSending", "(II)Z"⟩) ∈ lw_all := lw_g (lw_at lw_ms 39 rfl) rfl
theorem qs40 : (Cond.selects "StreamHallModel" ⟨"StreamHallModel", "isThere", "(II)Z"⟩ ⟨"StreamHallModel", "isThere", "(II)Z"⟩) ∈ lw_all := lw_g (lw_at lw_ms 40 rfl) rfl
theorem qs41 : (Cond.selects "StreamHallModel" ⟨"StreamHallModel", "sending", "(II)I"⟩ ⟨"StreamHallModel", "sending", "(II)I"⟩) ∈ lw_all := lw_g (lw_at lw_ms 41 rfl) rfl
theorem qs42 : (Cond.selects "StreamHallModel" ⟨"StreamHallModel", "count", "(III)I"⟩ ⟨"StreamHallModel", "count", "(III)I"⟩) ∈ lw_all := lw_g (lw_at lw_ms 42 rfl) rfl
theorem qs43 : (Cond.selects "StreamHallModel" ⟨"StreamHallModel", "written", "(II)I"⟩ ⟨"StreamHallModel", "written", "(II)I"⟩) ∈ lw_all := lw_g (lw_at lw_ms 43 rfl) rfl
theorem qs44 : (Cond.selects "StreamHallModel" ⟨"StreamHallModel", "isOpenSending", "(II)Z"⟩ ⟨"StreamHallModel", "isOpenSending", "(II)Z"⟩) ∈ lw_all := lw_g (lw_at lw_ms 44 rfl) rfl
theorem qs45 : (Cond.selects "StreamHallModel" ⟨"StreamHallModel", "doReset", "(IIJ)V"⟩ ⟨"StreamHallModel", "doReset", "(IIJ)V"⟩) ∈ lw_all := lw_g (lw_at lw_ms 45 rfl) rfl
theorem qs46 : (Cond.selects "StreamHallModel" ⟨"StreamHallModel", "hasReceiving", "(II)Z"⟩ ⟨"StreamHallModel", "hasReceiving", "(II)Z"⟩) ∈ lw_all := lw_g (lw_at lw_ms 46 rfl) rfl
theorem qs47 : (Cond.selects "StreamHallModel" ⟨"StreamHallModel", "receiving", "(II)I"⟩ ⟨"StreamHallModel", "receiving", "(II)I"⟩) ∈ lw_all := lw_g (lw_at lw_ms 47 rfl) rfl
theorem qs48 : (Cond.selects "StreamHallModel" ⟨"StreamHallModel", "readyOf", "(II)J"⟩ ⟨"StreamHallModel", "readyOf", "(II)J"⟩) ∈ lw_all := lw_g (lw_at lw_ms 48 rfl) rfl
theorem qs49 : (Cond.selects "StreamHallModel" ⟨"StreamHallModel", "isHere", "(IIJ)Z"⟩ ⟨"StreamHallModel", "isHere", "(IIJ)Z"⟩) ∈ lw_all := lw_g (lw_at lw_ms 49 rfl) rfl
theorem qs50 : (Cond.selects "StreamHallModel" ⟨"StreamHallModel", "pieceAt", "(III)I"⟩ ⟨"StreamHallModel", "pieceAt", "(III)I"⟩) ∈ lw_all := lw_g (lw_at lw_ms 50 rfl) rfl
theorem qs51 : (Cond.selects "StreamHallModel" ⟨"StreamHallModel", "byteAt", "(IIJ)B"⟩ ⟨"StreamHallModel", "byteAt", "(IIJ)B"⟩) ∈ lw_all := lw_g (lw_at lw_ms 51 rfl) rfl
theorem qs52 : (Cond.selects "StreamHallModel" ⟨"StreamHallModel", "growData", "(I)V"⟩ ⟨"StreamHallModel", "growData", "(I)V"⟩) ∈ lw_all := lw_g (lw_at lw_ms 52 rfl) rfl
theorem qs53 : (Cond.selects "StreamHallModel" ⟨"StreamHallModel", "consumed", "(I)J"⟩ ⟨"StreamHallModel", "consumed", "(I)J"⟩) ∈ lw_all := lw_g (lw_at lw_ms 53 rfl) rfl
theorem qs54 : (Cond.selects "StreamHallModel" ⟨"StreamHallModel", "growStream", "(II)V"⟩ ⟨"StreamHallModel", "growStream", "(II)V"⟩) ∈ lw_all := lw_g (lw_at lw_ms 54 rfl) rfl
theorem qs55 : (Cond.selects "StreamHallModel" ⟨"StreamHallModel", "looksOver", "(II)V"⟩ ⟨"StreamHallModel", "looksOver", "(II)V"⟩) ∈ lw_all := lw_g (lw_at lw_ms 55 rfl) rfl
theorem qs56 : (Cond.selects "StreamHallModel" ⟨"StreamHallModel", "takes", "(I)I"⟩ ⟨"StreamHallModel", "takes", "(I)I"⟩) ∈ lw_all := lw_g (lw_at lw_ms 56 rfl) rfl
theorem qs57 : (Cond.selects "StreamHallModel" ⟨"StreamHallModel", "takeStream", "(I)I"⟩ ⟨"StreamHallModel", "takeStream", "(I)I"⟩) ∈ lw_all := lw_g (lw_at lw_ms 57 rfl) rfl
theorem qs58 : (Cond.selects "StreamHallModel" ⟨"StreamHallModel", "meant", "(IJZ)I"⟩ ⟨"StreamHallModel", "meant", "(IJZ)I"⟩) ∈ lw_all := lw_g (lw_at lw_ms 58 rfl) rfl
theorem qs59 : (Cond.selects "StreamHallModel" ⟨"StreamHallModel", "reaches", "(IIJZ)I"⟩ ⟨"StreamHallModel", "reaches", "(IIJZ)I"⟩) ∈ lw_all := lw_g (lw_at lw_ms 59 rfl) rfl
theorem qs60 : (Cond.selects "StreamHallModel" ⟨"StreamHallModel", "received", "(I)J"⟩ ⟨"StreamHallModel", "received", "(I)J"⟩) ∈ lw_all := lw_g (lw_at lw_ms 60 rfl) rfl
theorem qs61 : (Cond.selects "StreamHallModel" ⟨"StreamHallModel", "comesThere", "(II)V"⟩ ⟨"StreamHallModel", "comesThere", "(II)V"⟩) ∈ lw_all := lw_g (lw_at lw_ms 61 rfl) rfl
theorem qs62 : (Cond.selects "StreamHallModel" ⟨"StreamHallModel", "comes", "(IIJB)V"⟩ ⟨"StreamHallModel", "comes", "(IIJB)V"⟩) ∈ lw_all := lw_g (lw_at lw_ms 62 rfl) rfl
theorem qs63 : (Cond.selects "StreamHallModel" ⟨"StreamHallModel", "takeReset", "(I)I"⟩ ⟨"StreamHallModel", "takeReset", "(I)I"⟩) ∈ lw_all := lw_g (lw_at lw_ms 63 rfl) rfl
theorem qs64 : (Cond.selects "StreamHallModel" ⟨"StreamHallModel", "takeOther", "(I)I"⟩ ⟨"StreamHallModel", "takeOther", "(I)I"⟩) ∈ lw_all := lw_g (lw_at lw_ms 64 rfl) rfl
theorem qs65 : (Cond.selects "StreamHallModel" ⟨"StreamHallModel", "freePlace", "()I"⟩ ⟨"StreamHallModel", "freePlace", "()I"⟩) ∈ lw_all := lw_g (lw_at lw_ms 65 rfl) rfl
theorem qs66 : (Cond.selects "StreamHallModel" ⟨"StreamHallModel", "fills", "(II)Z"⟩ ⟨"StreamHallModel", "fills", "(II)Z"⟩) ∈ lw_all := lw_g (lw_at lw_ms 66 rfl) rfl
theorem qs67 : (Cond.selects "StreamHallModel" ⟨"StreamHallModel", "fillsResets", "(II)Z"⟩ ⟨"StreamHallModel", "fillsResets", "(II)Z"⟩) ∈ lw_all := lw_g (lw_at lw_ms 67 rfl) rfl
theorem qs68 : (Cond.selects "StreamHallModel" ⟨"StreamHallModel", "sent", "(II)I"⟩ ⟨"StreamHallModel", "sent", "(II)I"⟩) ∈ lw_all := lw_g (lw_at lw_ms 68 rfl) rfl
theorem qs69 : (Cond.selects "StreamHallModel" ⟨"StreamHallModel", "lays", "(IJJJI)Z"⟩ ⟨"StreamHallModel", "lays", "(IJJJI)Z"⟩) ∈ lw_all := lw_g (lw_at lw_ms 69 rfl) rfl
theorem qs70 : (Cond.selects "StreamHallModel" ⟨"StreamHallModel", "bytes", "()I"⟩ ⟨"StreamHallModel", "bytes", "()I"⟩) ∈ lw_all := lw_g (lw_at lw_ms 70 rfl) rfl
theorem qs71 : (Cond.selects "StreamHallModel" ⟨"StreamHallModel", "fillsGrants", "(II)Z"⟩ ⟨"StreamHallModel", "fillsGrants", "(II)Z"⟩) ∈ lw_all := lw_g (lw_at lw_ms 71 rfl) rfl
theorem qs72 : (Cond.selects "StreamHallModel" ⟨"StreamHallModel", "fillsBlocked", "(II)Z"⟩ ⟨"StreamHallModel", "fillsBlocked", "(II)Z"⟩) ∈ lw_all := lw_g (lw_at lw_ms 72 rfl) rfl
theorem qs73 : (Cond.selects "StreamHallModel" ⟨"StreamHallModel", "waits", "(II)Z"⟩ ⟨"StreamHallModel", "waits", "(II)Z"⟩) ∈ lw_all := lw_g (lw_at lw_ms 73 rfl) rfl
theorem qs74 : (Cond.selects "StreamHallModel" ⟨"StreamHallModel", "allSent", "(I)I"⟩ ⟨"StreamHallModel", "allSent", "(I)I"⟩) ∈ lw_all := lw_g (lw_at lw_ms 74 rfl) rfl
theorem qs75 : (Cond.selects "StreamHallModel" ⟨"StreamHallModel", "fillsStream", "(III)Z"⟩ ⟨"StreamHallModel", "fillsStream", "(III)Z"⟩) ∈ lw_all := lw_g (lw_at lw_ms 75 rfl) rfl
theorem qs76 : (Cond.selects "StreamHallModel" ⟨"StreamHallModel", "firstIn", "(III)I"⟩ ⟨"StreamHallModel", "firstIn", "(III)I"⟩) ∈ lw_all := lw_g (lw_at lw_ms 76 rfl) rfl
theorem qs77 : (Cond.selects "StreamHallModel" ⟨"StreamHallModel", "allowed", "(II)J"⟩ ⟨"StreamHallModel", "allowed", "(II)J"⟩) ∈ lw_all := lw_g (lw_at lw_ms 77 rfl) rfl
theorem qs78 : (Cond.selects "StreamHallModel" ⟨"StreamHallModel", "endAlone", "(III)Z"⟩ ⟨"StreamHallModel", "endAlone", "(III)Z"⟩) ∈ lw_all := lw_g (lw_at lw_ms 78 rfl) rfl
theorem qs79 : (Cond.selects "StreamHallModel" ⟨"StreamHallModel", "placeOf", "(III)I"⟩ ⟨"StreamHallModel", "placeOf", "(III)I"⟩) ∈ lw_all := lw_g (lw_at lw_ms 79 rfl) rfl
theorem qs80 : (Cond.selects "StreamHallModel" ⟨"StreamHallModel", "noPlace", "(I)Z"⟩ ⟨"StreamHallModel", "noPlace", "(I)Z"⟩) ∈ lw_all := lw_g (lw_at lw_ms 80 rfl) rfl
theorem qs81 : (Cond.selects "StreamHallModel" ⟨"StreamHallModel", "goneStream", "(IIZ)V"⟩ ⟨"StreamHallModel", "goneStream", "(IIZ)V"⟩) ∈ lw_all := lw_g (lw_at lw_ms 81 rfl) rfl
theorem qs82 : (Cond.selects "StreamHallModel" ⟨"StreamHallModel", "sendingLook", "(III)J"⟩ ⟨"StreamHallModel", "sendingLook", "(III)J"⟩) ∈ lw_all := lw_g (lw_at lw_ms 82 rfl) rfl
theorem qs83 : (Cond.selects "StreamHallModel" ⟨"StreamHallModel", "endOf", "(I)I"⟩ ⟨"StreamHallModel", "endOf", "(I)I"⟩) ∈ lw_all := lw_g (lw_at lw_ms 83 rfl) rfl
theorem qs84 : (Cond.selects "StreamHallModel" ⟨"StreamHallModel", "receivingLook", "(III)J"⟩ ⟨"StreamHallModel", "receivingLook", "(III)J"⟩) ∈ lw_all := lw_g (lw_at lw_ms 84 rfl) rfl
