set_option maxRecDepth 100000
/-! StreamHallLaw -/
def RX0 : String := "StreamHallLaw"
abbrev cX0_grant : ByteArray := method_3_code
def yX0_grant : MethodName := ⟨RX0, "grant", "(LStreamHall;III)I"⟩
abbrev cX0_join : ByteArray := method_4_code
def yX0_join : MethodName := ⟨RX0, "join", "(LStreamHall;)I"⟩
abbrev cX0_feed : ByteArray := method_5_code
def yX0_feed : MethodName := ⟨RX0, "feed", "(LStreamHall;IJ[J)I"⟩
abbrev cX0_open : ByteArray := method_6_code
def yX0_open : MethodName := ⟨RX0, "open", "(LStreamHall;IZ[J)I"⟩
abbrev cX0_write : ByteArray := method_7_code
def yX0_write : MethodName := ⟨RX0, "write", "(LStreamHall;II[J)I"⟩
abbrev cX0_finish : ByteArray := method_8_code
def yX0_finish : MethodName := ⟨RX0, "finish", "(LStreamHall;II[J)I"⟩
abbrev cX0_reset : ByteArray := method_9_code
def yX0_reset : MethodName := ⟨RX0, "reset", "(LStreamHall;IIJ[J)I"⟩
abbrev cX0_stop : ByteArray := method_10_code
def yX0_stop : MethodName := ⟨RX0, "stop", "(LStreamHall;IIJ[J)I"⟩
abbrev cX0_read : ByteArray := method_11_code
def yX0_read : MethodName := ⟨RX0, "read", "(LStreamHall;III[J)I"⟩
abbrev cX0_fill : ByteArray := method_12_code
def yX0_fill : MethodName := ⟨RX0, "fill", "(LStreamHall;II[J)I"⟩
abbrev cX0_deliver : ByteArray := method_13_code
def yX0_deliver : MethodName := ⟨RX0, "deliver", "(LStreamHall;I[J)I"⟩
abbrev cX0_gone : ByteArray := method_14_code
def yX0_gone : MethodName := ⟨RX0, "gone", "(LStreamHall;IZ)I"⟩
abbrev cX0_take : ByteArray := method_15_code
def yX0_take : MethodName := ⟨RX0, "take", "(LStreamHall;IIJJJ[J)I"⟩
abbrev cX0_line : ByteArray := method_16_code
def yX0_line : MethodName := ⟨RX0, "line", "(LStreamHall;II[J)I"⟩
abbrev cX0_data : ByteArray := method_17_code
def yX0_data : MethodName := ⟨RX0, "data", "(LStreamHall;II[J)I"⟩
abbrev cX0_outs : ByteArray := method_18_code
def yX0_outs : MethodName := ⟨RX0, "outs", "(LStreamHall;I[J)I"⟩
abbrev cX0_stream : ByteArray := method_19_code
def yX0_stream : MethodName := ⟨RX0, "stream", "(LStreamHall;III[J)I"⟩
abbrev cX0_side : ByteArray := method_20_code
def yX0_side : MethodName := ⟨RX0, "side", "(LStreamHall;II[J)I"⟩
theorem q85 : (Jvm.Cond.initialized "StreamHallLaw") ∈ lw_all := lw_g (lw_at lw_m1 0 rfl) rfl
theorem q105 : (Jvm.Cond.classLink "StreamHallLaw" (8 : Nat) "StreamHall") ∈ lw_all := lw_g (lw_at lw_m1 20 rfl) rfl
theorem q107 : (Jvm.Cond.methodLink "StreamHallLaw" (82 : Nat) ({ cls := "StreamHall", name := "<init>", desc := "()V" } : Jvm.MethodName)) ∈ lw_all := lw_g (lw_at lw_m1 22 rfl) rfl
theorem q387 : (Jvm.Cond.methodLink "StreamHallLaw" (86 : Nat) ({ cls := "StreamHallLaw", name := "grant", desc := "(LStreamHall;III)I" } : Jvm.MethodName)) ∈ lw_all := lw_g (lw_at lw_m2 62 rfl) rfl
theorem q388 : (Jvm.Cond.static ({ cls := "StreamHallLaw", name := "grant", desc := "(LStreamHall;III)I" } : Jvm.MethodName)) ∈ lw_all := lw_g (lw_at lw_m2 63 rfl) rfl
theorem q389 : (Jvm.Cond.codeWith ({ cls := "StreamHallLaw", name := "grant", desc := "(LStreamHall;III)I" } : Jvm.MethodName) method_3_code (5 : Nat) (Option.some Jvm.ClassFile.FieldType.int) [((0 : Nat), (7 : Nat), (10 : Nat), (13 : Nat)), ((0 : Nat), (7 : Nat), (14 : Nat), (15 : Nat))]) ∈ lw_all := lw_g (lw_at lw_m2 64 rfl) rfl
theorem q390 : (Jvm.Cond.classLink "StreamHallLaw" (13 : Nat) "java/lang/IllegalArgumentException") ∈ lw_all := lw_g (lw_at lw_m2 65 rfl) rfl
theorem q391 : (Jvm.Cond.classLink "StreamHallLaw" (15 : Nat) "java/lang/IllegalStateException") ∈ lw_all := lw_g (lw_at lw_m2 66 rfl) rfl
theorem q392 : (Jvm.Cond.methodLink "StreamHallLaw" (7 : Nat) ({ cls := "StreamHall", name := "grant", desc := "(III)V" } : Jvm.MethodName)) ∈ lw_all := lw_g (lw_at lw_m2 67 rfl) rfl
theorem q487 : (Jvm.Cond.methodLink "StreamHallLaw" (96 : Nat) ({ cls := "StreamHallLaw", name := "join", desc := "(LStreamHall;)I" } : Jvm.MethodName)) ∈ lw_all := lw_g (lw_at lw_m2 162 rfl) rfl
theorem q488 : (Jvm.Cond.static ({ cls := "StreamHallLaw", name := "join", desc := "(LStreamHall;)I" } : Jvm.MethodName)) ∈ lw_all := lw_g (lw_at lw_m2 163 rfl) rfl
theorem q489 : (Jvm.Cond.codeWith ({ cls := "StreamHallLaw", name := "join", desc := "(LStreamHall;)I" } : Jvm.MethodName) method_4_code (2 : Nat) (Option.some Jvm.ClassFile.FieldType.int) [((0 : Nat), (4 : Nat), (7 : Nat), (15 : Nat))]) ∈ lw_all := lw_g (lw_at lw_m2 164 rfl) rfl
theorem q490 : (Jvm.Cond.methodLink "StreamHallLaw" (17 : Nat) ({ cls := "StreamHall", name := "join", desc := "()V" } : Jvm.MethodName)) ∈ lw_all := lw_g (lw_at lw_m2 165 rfl) rfl
theorem q502 : (Jvm.Cond.methodLink "StreamHallLaw" (102 : Nat) ({ cls := "StreamHallLaw", name := "feed", desc := "(LStreamHall;IJ[J)I" } : Jvm.MethodName)) ∈ lw_all := lw_g (lw_at lw_m2 177 rfl) rfl
theorem q503 : (Jvm.Cond.static ({ cls := "StreamHallLaw", name := "feed", desc := "(LStreamHall;IJ[J)I" } : Jvm.MethodName)) ∈ lw_all := lw_g (lw_at lw_m2 178 rfl) rfl
theorem q504 : (Jvm.Cond.codeWith ({ cls := "StreamHallLaw", name := "feed", desc := "(LStreamHall;IJ[J)I" } : Jvm.MethodName) method_5_code (6 : Nat) (Option.some Jvm.ClassFile.FieldType.int) [((0 : Nat), (11 : Nat), (14 : Nat), (13 : Nat)), ((0 : Nat), (11 : Nat), (18 : Nat), (15 : Nat))]) ∈ lw_all := lw_g (lw_at lw_m2 179 rfl) rfl
theorem q505 : (Jvm.Cond.methodLink "StreamHallLaw" (20 : Nat) ({ cls := "StreamHall", name := "feed", desc := "(IJ)I" } : Jvm.MethodName)) ∈ lw_all := lw_g (lw_at lw_m2 180 rfl) rfl
theorem q510 : (Jvm.Cond.methodLink "StreamHallLaw" (106 : Nat) ({ cls := "StreamHallLaw", name := "open", desc := "(LStreamHall;IZ[J)I" } : Jvm.MethodName)) ∈ lw_all := lw_g (lw_at lw_m2 185 rfl) rfl
theorem q511 : (Jvm.Cond.static ({ cls := "StreamHallLaw", name := "open", desc := "(LStreamHall;IZ[J)I" } : Jvm.MethodName)) ∈ lw_all := lw_g (lw_at lw_m2 186 rfl) rfl
theorem q512 : (Jvm.Cond.codeWith ({ cls := "StreamHallLaw", name := "open", desc := "(LStreamHall;IZ[J)I" } : Jvm.MethodName) method_6_code (5 : Nat) (Option.some Jvm.ClassFile.FieldType.int) [((0 : Nat), (10 : Nat), (13 : Nat), (13 : Nat)), ((0 : Nat), (10 : Nat), (17 : Nat), (15 : Nat))]) ∈ lw_all := lw_g (lw_at lw_m2 187 rfl) rfl
theorem q513 : (Jvm.Cond.methodLink "StreamHallLaw" (24 : Nat) ({ cls := "StreamHall", name := "open", desc := "(IZ)I" } : Jvm.MethodName)) ∈ lw_all := lw_g (lw_at lw_m2 188 rfl) rfl
theorem q648 : (Jvm.Cond.methodLink "StreamHallLaw" (110 : Nat) ({ cls := "StreamHallLaw", name := "write", desc := "(LStreamHall;II[J)I" } : Jvm.MethodName)) ∈ lw_all := lw_g (lw_at lw_m3 83 rfl) rfl
theorem q649 : (Jvm.Cond.static ({ cls := "StreamHallLaw", name := "write", desc := "(LStreamHall;II[J)I" } : Jvm.MethodName)) ∈ lw_all := lw_g (lw_at lw_m3 84 rfl) rfl
theorem q650 : (Jvm.Cond.codeWith ({ cls := "StreamHallLaw", name := "write", desc := "(LStreamHall;II[J)I" } : Jvm.MethodName) method_7_code (5 : Nat) (Option.some Jvm.ClassFile.FieldType.int) [((0 : Nat), (10 : Nat), (13 : Nat), (13 : Nat))]) ∈ lw_all := lw_g (lw_at lw_m3 85 rfl) rfl
theorem q651 : (Jvm.Cond.methodLink "StreamHallLaw" (28 : Nat) ({ cls := "StreamHall", name := "write", desc := "(II)I" } : Jvm.MethodName)) ∈ lw_all := lw_g (lw_at lw_m3 86 rfl) rfl
theorem q689 : (Jvm.Cond.methodLink "StreamHallLaw" (114 : Nat) ({ cls := "StreamHallLaw", name := "finish", desc := "(LStreamHall;II[J)I" } : Jvm.MethodName)) ∈ lw_all := lw_g (lw_at lw_m3 124 rfl) rfl
theorem q690 : (Jvm.Cond.static ({ cls := "StreamHallLaw", name := "finish", desc := "(LStreamHall;II[J)I" } : Jvm.MethodName)) ∈ lw_all := lw_g (lw_at lw_m3 125 rfl) rfl
theorem q691 : (Jvm.Cond.codeWith ({ cls := "StreamHallLaw", name := "finish", desc := "(LStreamHall;II[J)I" } : Jvm.MethodName) method_8_code (5 : Nat) (Option.some Jvm.ClassFile.FieldType.int) [((0 : Nat), (17 : Nat), (20 : Nat), (13 : Nat))]) ∈ lw_all := lw_g (lw_at lw_m3 126 rfl) rfl
theorem q692 : (Jvm.Cond.methodLink "StreamHallLaw" (32 : Nat) ({ cls := "StreamHall", name := "finish", desc := "(II)Z" } : Jvm.MethodName)) ∈ lw_all := lw_g (lw_at lw_m3 127 rfl) rfl
theorem q700 : (Jvm.Cond.methodLink "StreamHallLaw" (117 : Nat) ({ cls := "StreamHallLaw", name := "reset", desc := "(LStreamHall;IIJ[J)I" } : Jvm.MethodName)) ∈ lw_all := lw_g (lw_at lw_m3 135 rfl) rfl
theorem q701 : (Jvm.Cond.static ({ cls := "StreamHallLaw", name := "reset", desc := "(LStreamHall;IIJ[J)I" } : Jvm.MethodName)) ∈ lw_all := lw_g (lw_at lw_m3 136 rfl) rfl
theorem q702 : (Jvm.Cond.codeWith ({ cls := "StreamHallLaw", name := "reset", desc := "(LStreamHall;IIJ[J)I" } : Jvm.MethodName) method_9_code (7 : Nat) (Option.some Jvm.ClassFile.FieldType.int) [((0 : Nat), (19 : Nat), (22 : Nat), (13 : Nat))]) ∈ lw_all := lw_g (lw_at lw_m3 137 rfl) rfl
theorem q703 : (Jvm.Cond.methodLink "StreamHallLaw" (36 : Nat) ({ cls := "StreamHall", name := "reset", desc := "(IIJ)Z" } : Jvm.MethodName)) ∈ lw_all := lw_g (lw_at lw_m3 138 rfl) rfl
theorem q720 : (Jvm.Cond.methodLink "StreamHallLaw" (121 : Nat) ({ cls := "StreamHallLaw", name := "stop", desc := "(LStreamHall;IIJ[J)I" } : Jvm.MethodName)) ∈ lw_all := lw_g (lw_at lw_m3 155 rfl) rfl
theorem q721 : (Jvm.Cond.static ({ cls := "StreamHallLaw", name := "stop", desc := "(LStreamHall;IIJ[J)I" } : Jvm.MethodName)) ∈ lw_all := lw_g (lw_at lw_m3 156 rfl) rfl
theorem q722 : (Jvm.Cond.codeWith ({ cls := "StreamHallLaw", name := "stop", desc := "(LStreamHall;IIJ[J)I" } : Jvm.MethodName) method_10_code (7 : Nat) (Option.some Jvm.ClassFile.FieldType.int) [((0 : Nat), (19 : Nat), (22 : Nat), (13 : Nat))]) ∈ lw_all := lw_g (lw_at lw_m3 157 rfl) rfl
theorem q723 : (Jvm.Cond.methodLink "StreamHallLaw" (40 : Nat) ({ cls := "StreamHall", name := "stop", desc := "(IIJ)Z" } : Jvm.MethodName)) ∈ lw_all := lw_g (lw_at lw_m3 158 rfl) rfl
theorem q739 : (Jvm.Cond.methodLink "StreamHallLaw" (124 : Nat) ({ cls := "StreamHallLaw", name := "read", desc := "(LStreamHall;III[J)I" } : Jvm.MethodName)) ∈ lw_all := lw_g (lw_at lw_m3 174 rfl) rfl
theorem q740 : (Jvm.Cond.static ({ cls := "StreamHallLaw", name := "read", desc := "(LStreamHall;III[J)I" } : Jvm.MethodName)) ∈ lw_all := lw_g (lw_at lw_m3 175 rfl) rfl
theorem q741 : (Jvm.Cond.codeWith ({ cls := "StreamHallLaw", name := "read", desc := "(LStreamHall;III[J)I" } : Jvm.MethodName) method_11_code (6 : Nat) (Option.some Jvm.ClassFile.FieldType.int) [((0 : Nat), (12 : Nat), (15 : Nat), (13 : Nat))]) ∈ lw_all := lw_g (lw_at lw_m3 176 rfl) rfl
theorem q742 : (Jvm.Cond.methodLink "StreamHallLaw" (43 : Nat) ({ cls := "StreamHall", name := "read", desc := "(III)I" } : Jvm.MethodName)) ∈ lw_all := lw_g (lw_at lw_m3 177 rfl) rfl
theorem q796 : (Jvm.Cond.methodLink "StreamHallLaw" (128 : Nat) ({ cls := "StreamHallLaw", name := "fill", desc := "(LStreamHall;II[J)I" } : Jvm.MethodName)) ∈ lw_all := lw_g (lw_at lw_m3 231 rfl) rfl
theorem q797 : (Jvm.Cond.static ({ cls := "StreamHallLaw", name := "fill", desc := "(LStreamHall;II[J)I" } : Jvm.MethodName)) ∈ lw_all := lw_g (lw_at lw_m3 232 rfl) rfl
theorem q798 : (Jvm.Cond.codeWith ({ cls := "StreamHallLaw", name := "fill", desc := "(LStreamHall;II[J)I" } : Jvm.MethodName) method_12_code (5 : Nat) (Option.some Jvm.ClassFile.FieldType.int) [((0 : Nat), (10 : Nat), (13 : Nat), (13 : Nat)), ((0 : Nat), (10 : Nat), (17 : Nat), (15 : Nat))]) ∈ lw_all := lw_g (lw_at lw_m3 233 rfl) rfl
theorem q799 : (Jvm.Cond.methodLink "StreamHallLaw" (47 : Nat) ({ cls := "StreamHall", name := "fill", desc := "(II)I" } : Jvm.MethodName)) ∈ lw_all := lw_g (lw_at lw_m3 234 rfl) rfl
theorem q871 : (Jvm.Cond.methodLink "StreamHallLaw" (131 : Nat) ({ cls := "StreamHallLaw", name := "deliver", desc := "(LStreamHall;I[J)I" } : Jvm.MethodName)) ∈ lw_all := lw_g (lw_at lw_m4 66 rfl) rfl
theorem q872 : (Jvm.Cond.static ({ cls := "StreamHallLaw", name := "deliver", desc := "(LStreamHall;I[J)I" } : Jvm.MethodName)) ∈ lw_all := lw_g (lw_at lw_m4 67 rfl) rfl
theorem q873 : (Jvm.Cond.codeWith ({ cls := "StreamHallLaw", name := "deliver", desc := "(LStreamHall;I[J)I" } : Jvm.MethodName) method_13_code (4 : Nat) (Option.some Jvm.ClassFile.FieldType.int) [((0 : Nat), (9 : Nat), (12 : Nat), (54 : Nat))]) ∈ lw_all := lw_g (lw_at lw_m4 68 rfl) rfl
theorem q874 : (Jvm.Cond.classLink "StreamHallLaw" (54 : Nat) "java/util/NoSuchElementException") ∈ lw_all := lw_g (lw_at lw_m4 69 rfl) rfl
theorem q875 : (Jvm.Cond.methodLink "StreamHallLaw" (50 : Nat) ({ cls := "StreamHall", name := "deliver", desc := "(I)I" } : Jvm.MethodName)) ∈ lw_all := lw_g (lw_at lw_m4 70 rfl) rfl
theorem q965 : (Jvm.Cond.methodLink "StreamHallLaw" (135 : Nat) ({ cls := "StreamHallLaw", name := "gone", desc := "(LStreamHall;IZ)I" } : Jvm.MethodName)) ∈ lw_all := lw_g (lw_at lw_m4 160 rfl) rfl
theorem q966 : (Jvm.Cond.static ({ cls := "StreamHallLaw", name := "gone", desc := "(LStreamHall;IZ)I" } : Jvm.MethodName)) ∈ lw_all := lw_g (lw_at lw_m4 161 rfl) rfl
theorem q967 : (Jvm.Cond.codeWith ({ cls := "StreamHallLaw", name := "gone", desc := "(LStreamHall;IZ)I" } : Jvm.MethodName) method_14_code (4 : Nat) (Option.some Jvm.ClassFile.FieldType.int) [((0 : Nat), (6 : Nat), (9 : Nat), (54 : Nat)), ((0 : Nat), (6 : Nat), (12 : Nat), (15 : Nat))]) ∈ lw_all := lw_g (lw_at lw_m4 162 rfl) rfl
theorem q968 : (Jvm.Cond.methodLink "StreamHallLaw" (56 : Nat) ({ cls := "StreamHall", name := "gone", desc := "(IZ)V" } : Jvm.MethodName)) ∈ lw_all := lw_g (lw_at lw_m4 163 rfl) rfl
theorem q995 : (Jvm.Cond.methodLink "StreamHallLaw" (139 : Nat) ({ cls := "StreamHallLaw", name := "take", desc := "(LStreamHall;IIJJJ[J)I" } : Jvm.MethodName)) ∈ lw_all := lw_g (lw_at lw_m4 190 rfl) rfl
theorem q996 : (Jvm.Cond.static ({ cls := "StreamHallLaw", name := "take", desc := "(LStreamHall;IIJJJ[J)I" } : Jvm.MethodName)) ∈ lw_all := lw_g (lw_at lw_m4 191 rfl) rfl
theorem q997 : (Jvm.Cond.codeWith ({ cls := "StreamHallLaw", name := "take", desc := "(LStreamHall;IIJJJ[J)I" } : Jvm.MethodName) method_15_code (11 : Nat) (Option.some Jvm.ClassFile.FieldType.int) [((0 : Nat), (16 : Nat), (19 : Nat), (13 : Nat)), ((0 : Nat), (16 : Nat), (23 : Nat), (15 : Nat))]) ∈ lw_all := lw_g (lw_at lw_m4 192 rfl) rfl
theorem q998 : (Jvm.Cond.methodLink "StreamHallLaw" (60 : Nat) ({ cls := "StreamHall", name := "take", desc := "(IIJJJ)I" } : Jvm.MethodName)) ∈ lw_all := lw_g (lw_at lw_m4 193 rfl) rfl
theorem q1005 : (Jvm.Cond.methodLink "StreamHallLaw" (143 : Nat) ({ cls := "StreamHallLaw", name := "line", desc := "(LStreamHall;II[J)I" } : Jvm.MethodName)) ∈ lw_all := lw_g (lw_at lw_m4 200 rfl) rfl
theorem q1006 : (Jvm.Cond.static ({ cls := "StreamHallLaw", name := "line", desc := "(LStreamHall;II[J)I" } : Jvm.MethodName)) ∈ lw_all := lw_g (lw_at lw_m4 201 rfl) rfl
theorem q1007 : (Jvm.Cond.codeWith ({ cls := "StreamHallLaw", name := "line", desc := "(LStreamHall;II[J)I" } : Jvm.MethodName) method_16_code (5 : Nat) (Option.some Jvm.ClassFile.FieldType.int) [((0 : Nat), (9 : Nat), (12 : Nat), (54 : Nat))]) ∈ lw_all := lw_g (lw_at lw_m4 202 rfl) rfl
theorem q1008 : (Jvm.Cond.methodLink "StreamHallLaw" (64 : Nat) ({ cls := "StreamHall", name := "line", desc := "(II)J" } : Jvm.MethodName)) ∈ lw_all := lw_g (lw_at lw_m4 203 rfl) rfl
theorem q1013 : (Jvm.Cond.methodLink "StreamHallLaw" (146 : Nat) ({ cls := "StreamHallLaw", name := "data", desc := "(LStreamHall;II[J)I" } : Jvm.MethodName)) ∈ lw_all := lw_g (lw_at lw_m4 208 rfl) rfl
theorem q1014 : (Jvm.Cond.static ({ cls := "StreamHallLaw", name := "data", desc := "(LStreamHall;II[J)I" } : Jvm.MethodName)) ∈ lw_all := lw_g (lw_at lw_m4 209 rfl) rfl
theorem q1015 : (Jvm.Cond.codeWith ({ cls := "StreamHallLaw", name := "data", desc := "(LStreamHall;II[J)I" } : Jvm.MethodName) method_17_code (5 : Nat) (Option.some Jvm.ClassFile.FieldType.int) [((0 : Nat), (10 : Nat), (13 : Nat), (54 : Nat))]) ∈ lw_all := lw_g (lw_at lw_m4 210 rfl) rfl
theorem q1016 : (Jvm.Cond.methodLink "StreamHallLaw" (68 : Nat) ({ cls := "StreamHall", name := "data", desc := "(II)I" } : Jvm.MethodName)) ∈ lw_all := lw_g (lw_at lw_m4 211 rfl) rfl
theorem q1020 : (Jvm.Cond.methodLink "StreamHallLaw" (149 : Nat) ({ cls := "StreamHallLaw", name := "outs", desc := "(LStreamHall;I[J)I" } : Jvm.MethodName)) ∈ lw_all := lw_g (lw_at lw_m4 215 rfl) rfl
theorem q1021 : (Jvm.Cond.static ({ cls := "StreamHallLaw", name := "outs", desc := "(LStreamHall;I[J)I" } : Jvm.MethodName)) ∈ lw_all := lw_g (lw_at lw_m4 216 rfl) rfl
theorem q1022 : (Jvm.Cond.codeWith ({ cls := "StreamHallLaw", name := "outs", desc := "(LStreamHall;I[J)I" } : Jvm.MethodName) method_18_code (4 : Nat) (Option.some Jvm.ClassFile.FieldType.int) [((0 : Nat), (8 : Nat), (11 : Nat), (54 : Nat))]) ∈ lw_all := lw_g (lw_at lw_m4 217 rfl) rfl
theorem q1023 : (Jvm.Cond.methodLink "StreamHallLaw" (71 : Nat) ({ cls := "StreamHall", name := "outs", desc := "(I)J" } : Jvm.MethodName)) ∈ lw_all := lw_g (lw_at lw_m4 218 rfl) rfl
theorem q1029 : (Jvm.Cond.methodLink "StreamHallLaw" (152 : Nat) ({ cls := "StreamHallLaw", name := "stream", desc := "(LStreamHall;III[J)I" } : Jvm.MethodName)) ∈ lw_all := lw_g (lw_at lw_m4 224 rfl) rfl
theorem q1030 : (Jvm.Cond.static ({ cls := "StreamHallLaw", name := "stream", desc := "(LStreamHall;III[J)I" } : Jvm.MethodName)) ∈ lw_all := lw_g (lw_at lw_m4 225 rfl) rfl
theorem q1031 : (Jvm.Cond.codeWith ({ cls := "StreamHallLaw", name := "stream", desc := "(LStreamHall;III[J)I" } : Jvm.MethodName) method_19_code (6 : Nat) (Option.some Jvm.ClassFile.FieldType.int) [((0 : Nat), (11 : Nat), (14 : Nat), (13 : Nat))]) ∈ lw_all := lw_g (lw_at lw_m4 226 rfl) rfl
theorem q1032 : (Jvm.Cond.methodLink "StreamHallLaw" (75 : Nat) ({ cls := "StreamHall", name := "stream", desc := "(III)J" } : Jvm.MethodName)) ∈ lw_all := lw_g (lw_at lw_m4 227 rfl) rfl
theorem q1041 : (Jvm.Cond.methodLink "StreamHallLaw" (155 : Nat) ({ cls := "StreamHallLaw", name := "side", desc := "(LStreamHall;II[J)I" } : Jvm.MethodName)) ∈ lw_all := lw_g (lw_at lw_m4 236 rfl) rfl
theorem q1042 : (Jvm.Cond.static ({ cls := "StreamHallLaw", name := "side", desc := "(LStreamHall;II[J)I" } : Jvm.MethodName)) ∈ lw_all := lw_g (lw_at lw_m4 237 rfl) rfl
theorem q1043 : (Jvm.Cond.codeWith ({ cls := "StreamHallLaw", name := "side", desc := "(LStreamHall;II[J)I" } : Jvm.MethodName) method_20_code (5 : Nat) (Option.some Jvm.ClassFile.FieldType.int) [((0 : Nat), (9 : Nat), (12 : Nat), (13 : Nat))]) ∈ lw_all := lw_g (lw_at lw_m4 238 rfl) rfl
theorem q1044 : (Jvm.Cond.methodLink "StreamHallLaw" (79 : Nat) ({ cls := "StreamHall", name := "side", desc := "(II)J" } : Jvm.MethodName)) ∈ lw_all := lw_g (lw_at lw_m4 239 rfl) rfl
theorem q1053 : (Jvm.Cond.classLink "StreamHallLaw" (83 : Nat) "StreamHallModel") ∈ lw_all := lw_g (lw_at lw_m5 8 rfl) rfl
theorem q1055 : (Jvm.Cond.methodLink "StreamHallLaw" (85 : Nat) ({ cls := "StreamHallModel", name := "<init>", desc := "()V" } : Jvm.MethodName)) ∈ lw_all := lw_g (lw_at lw_m5 10 rfl) rfl
theorem q1250 : (Jvm.Cond.methodLink "StreamHallLaw" (92 : Nat) ({ cls := "StreamHallModel", name := "thrown", desc := "()I" } : Jvm.MethodName)) ∈ lw_all := lw_g (lw_at lw_m5 205 rfl) rfl
theorem q1254 : (Jvm.Cond.methodLink "StreamHallLaw" (91 : Nat) ({ cls := "StreamHallModel", name := "grant", desc := "(III)V" } : Jvm.MethodName)) ∈ lw_all := lw_g (lw_at lw_m5 209 rfl) rfl
theorem q1266 : (Jvm.Cond.methodLink "StreamHallLaw" (99 : Nat) ({ cls := "StreamHallModel", name := "join", desc := "()V" } : Jvm.MethodName)) ∈ lw_all := lw_g (lw_at lw_m5 221 rfl) rfl
theorem q1270 : (Jvm.Cond.methodLink "StreamHallLaw" (105 : Nat) ({ cls := "StreamHallModel", name := "feed", desc := "(IJ)I" } : Jvm.MethodName)) ∈ lw_all := lw_g (lw_at lw_m5 225 rfl) rfl
theorem q1275 : (Jvm.Cond.methodLink "StreamHallLaw" (109 : Nat) ({ cls := "StreamHallModel", name := "open", desc := "(IZ)I" } : Jvm.MethodName)) ∈ lw_all := lw_g (lw_at lw_m5 230 rfl) rfl
theorem q1300 : (Jvm.Cond.methodLink "StreamHallLaw" (113 : Nat) ({ cls := "StreamHallModel", name := "write", desc := "(II)I" } : Jvm.MethodName)) ∈ lw_all := lw_g (lw_at lw_m6 15 rfl) rfl
theorem q1327 : (Jvm.Cond.methodLink "StreamHallLaw" (116 : Nat) ({ cls := "StreamHallModel", name := "finish", desc := "(II)Z" } : Jvm.MethodName)) ∈ lw_all := lw_g (lw_at lw_m6 42 rfl) rfl
theorem q1331 : (Jvm.Cond.methodLink "StreamHallLaw" (120 : Nat) ({ cls := "StreamHallModel", name := "reset", desc := "(IIJ)Z" } : Jvm.MethodName)) ∈ lw_all := lw_g (lw_at lw_m6 46 rfl) rfl
theorem q1344 : (Jvm.Cond.methodLink "StreamHallLaw" (123 : Nat) ({ cls := "StreamHallModel", name := "stop", desc := "(IIJ)Z" } : Jvm.MethodName)) ∈ lw_all := lw_g (lw_at lw_m6 59 rfl) rfl
theorem q1372 : (Jvm.Cond.methodLink "StreamHallLaw" (127 : Nat) ({ cls := "StreamHallModel", name := "read", desc := "(III)I" } : Jvm.MethodName)) ∈ lw_all := lw_g (lw_at lw_m6 87 rfl) rfl
theorem q1401 : (Jvm.Cond.methodLink "StreamHallLaw" (142 : Nat) ({ cls := "StreamHallModel", name := "take", desc := "(IIJJJ)I" } : Jvm.MethodName)) ∈ lw_all := lw_g (lw_at lw_m6 116 rfl) rfl
theorem q1447 : (Jvm.Cond.methodLink "StreamHallLaw" (130 : Nat) ({ cls := "StreamHallModel", name := "fill", desc := "(II)I" } : Jvm.MethodName)) ∈ lw_all := lw_g (lw_at lw_m6 162 rfl) rfl
theorem q1516 : (Jvm.Cond.methodLink "StreamHallLaw" (134 : Nat) ({ cls := "StreamHallModel", name := "deliver", desc := "(I)I" } : Jvm.MethodName)) ∈ lw_all := lw_g (lw_at lw_m6 231 rfl) rfl
theorem q1524 : (Jvm.Cond.methodLink "StreamHallLaw" (138 : Nat) ({ cls := "StreamHallModel", name := "gone", desc := "(IZ)V" } : Jvm.MethodName)) ∈ lw_all := lw_g (lw_at lw_m6 239 rfl) rfl
theorem q1532 : (Jvm.Cond.methodLink "StreamHallLaw" (145 : Nat) ({ cls := "StreamHallModel", name := "line", desc := "(II)J" } : Jvm.MethodName)) ∈ lw_all := lw_g (lw_at lw_m7 7 rfl) rfl
theorem q1536 : (Jvm.Cond.methodLink "StreamHallLaw" (148 : Nat) ({ cls := "StreamHallModel", name := "data", desc := "(II)I" } : Jvm.MethodName)) ∈ lw_all := lw_g (lw_at lw_m7 11 rfl) rfl
theorem q1540 : (Jvm.Cond.methodLink "StreamHallLaw" (151 : Nat) ({ cls := "StreamHallModel", name := "outs", desc := "(I)J" } : Jvm.MethodName)) ∈ lw_all := lw_g (lw_at lw_m7 15 rfl) rfl
theorem q1544 : (Jvm.Cond.methodLink "StreamHallLaw" (154 : Nat) ({ cls := "StreamHallModel", name := "stream", desc := "(III)J" } : Jvm.MethodName)) ∈ lw_all := lw_g (lw_at lw_m7 19 rfl) rfl
theorem q1560 : (Jvm.Cond.methodLink "StreamHallLaw" (157 : Nat) ({ cls := "StreamHallModel", name := "side", desc := "(II)J" } : Jvm.MethodName)) ∈ lw_all := lw_g (lw_at lw_m7 35 rfl) rfl
theorem q1564 : (Jvm.Cond.constantLong "StreamHallLaw" (100 : Nat) (4294967295 : Int64)) ∈ lw_all := lw_g (lw_at lw_m7 39 rfl) rfl

/-! StreamHall -/
def RX1 : String := "StreamHall"
def TX1 : u_T := fun k => match k with
  | 0 => ("StreamHall", "halls", "[LStreamHall$Hall;", true)
  | 1 => ("StreamHall", "grants", "[[I", true)
  | 2 => ("StreamHall", "line", "[LStreamHall$Place;", true)
  | 3 => ("StreamHall", "tape", "[B", true)
  | 4 => ("StreamHall", "out", "[B", true)
  | 5 => ("StreamHall", "taped", "I", false)
  | 6 => ("StreamHall", "made", "I", false)
  | _ => ("StreamHall", "joined", "Z", false)
def tyX1 : Nat → FieldType := fun k => match k with
  | 0 => .array (.object "StreamHall$Hall")
  | 1 => .array (.array .int)
  | 2 => .array (.object "StreamHall$Place")
  | 3 => .array .byte
  | 4 => .array .byte
  | 5 => .int
  | 6 => .int
  | _ => .boolean
abbrev wsX10 : List Cond := u_ws RX1 TX1 8
theorem nmX1 : ∀ a, a < 8 → ∀ b, b < 8 → a ≠ b → (TX1 a).2.1 ≠ (TX1 b).2.1 := by decide +kernel
theorem tyX1_ok : ∀ k, k < 8 → parseFieldDescriptor (TX1 k).2.2.1 = some (tyX1 k) := by decide +kernel
abbrev cX1_init : ByteArray := prog_1_method_2_code
def yX1_init : MethodName := ⟨RX1, "<init>", "()V"⟩
abbrev cX1_allow : ByteArray := prog_1_method_3_code
def yX1_allow : MethodName := ⟨RX1, "allow", "(I)V"⟩
abbrev cX1_grant : ByteArray := prog_1_method_10_code
def yX1_grant : MethodName := ⟨RX1, "grant", "(III)V"⟩
abbrev cX1_in : ByteArray := prog_1_method_7_code
def yX1_in : MethodName := ⟨RX1, "in", "(JJJ)Z"⟩
abbrev cX1_need : ByteArray := prog_1_method_4_code
def yX1_need : MethodName := ⟨RX1, "need", "(Z)V"⟩
abbrev cX1_ready : ByteArray := prog_1_method_5_code
def yX1_ready : MethodName := ⟨RX1, "ready", "(Z)V"⟩
abbrev cX1_join : ByteArray := prog_1_method_11_code
def yX1_join : MethodName := ⟨RX1, "join", "()V"⟩
abbrev cX1_feed : ByteArray := prog_1_method_12_code
def yX1_feed : MethodName := ⟨RX1, "feed", "(IJ)I"⟩
abbrev cX1_open : ByteArray := prog_1_method_13_code
def yX1_open : MethodName := ⟨RX1, "open", "(IZ)I"⟩
abbrev cX1_hall : ByteArray := prog_1_method_8_code
def yX1_hall : MethodName := ⟨RX1, "hall", "(I)LStreamHall$Hall;"⟩
abbrev cX1_write : ByteArray := prog_1_method_14_code
def yX1_write : MethodName := ⟨RX1, "write", "(II)I"⟩
abbrev cX1_finish : ByteArray := prog_1_method_15_code
def yX1_finish : MethodName := ⟨RX1, "finish", "(II)Z"⟩
abbrev cX1_reset : ByteArray := prog_1_method_16_code
def yX1_reset : MethodName := ⟨RX1, "reset", "(IIJ)Z"⟩
abbrev cX1_stop : ByteArray := prog_1_method_17_code
def yX1_stop : MethodName := ⟨RX1, "stop", "(IIJ)Z"⟩
abbrev cX1_read : ByteArray := prog_1_method_18_code
def yX1_read : MethodName := ⟨RX1, "read", "(III)I"⟩
abbrev cX1_fill : ByteArray := prog_1_method_19_code
def yX1_fill : MethodName := ⟨RX1, "fill", "(II)I"⟩
abbrev cX1_sizeOf : ByteArray := prog_1_method_1_code
def yX1_sizeOf : MethodName := ⟨RX1, "sizeOf", "(J)I"⟩
abbrev cX1_deliver : ByteArray := prog_1_method_20_code
def yX1_deliver : MethodName := ⟨RX1, "deliver", "(I)I"⟩
abbrev cX1_at : ByteArray := prog_1_method_9_code
def yX1_at : MethodName := ⟨RX1, "at", "(I)LStreamHall$Place;"⟩
abbrev cX1_there : ByteArray := prog_1_method_6_code
def yX1_there : MethodName := ⟨RX1, "there", "(Z)V"⟩
abbrev cX1_gone : ByteArray := prog_1_method_21_code
def yX1_gone : MethodName := ⟨RX1, "gone", "(IZ)V"⟩
abbrev cX1_take : ByteArray := prog_1_method_22_code
def yX1_take : MethodName := ⟨RX1, "take", "(IIJJJ)I"⟩
abbrev cX1_line : ByteArray := prog_1_method_23_code
def yX1_line : MethodName := ⟨RX1, "line", "(II)J"⟩
abbrev cX1_data : ByteArray := prog_1_method_24_code
def yX1_data : MethodName := ⟨RX1, "data", "(II)I"⟩
abbrev cX1_outs : ByteArray := prog_1_method_25_code
def yX1_outs : MethodName := ⟨RX1, "outs", "(I)J"⟩
abbrev cX1_stream : ByteArray := prog_1_method_26_code
def yX1_stream : MethodName := ⟨RX1, "stream", "(III)J"⟩
abbrev cX1_side : ByteArray := prog_1_method_27_code
def yX1_side : MethodName := ⟨RX1, "side", "(II)J"⟩
theorem q86 : (Jvm.Cond.initialized "StreamHall") ∈ lw_all := lw_g (lw_at lw_m1 1 rfl) rfl
theorem q106 : (Jvm.Cond.instantiable "StreamHall" (8 : Nat)) ∈ lw_all := lw_g (lw_at lw_m1 21 rfl) rfl
theorem q108 : (Jvm.Cond.instanceMethod ({ cls := "StreamHall", name := "<init>", desc := "()V" } : Jvm.MethodName)) ∈ lw_all := lw_g (lw_at lw_m1 23 rfl) rfl
theorem q109 : (Jvm.Cond.code ({ cls := "StreamHall", name := "<init>", desc := "()V" } : Jvm.MethodName) prog_1_method_2_code (2 : Nat) (Option.none : Option Jvm.ClassFile.FieldType)) ∈ lw_all := lw_g (lw_at lw_m1 24 rfl) rfl
theorem q110 : (Jvm.Cond.methodLink "StreamHall" (7 : Nat) ({ cls := "java/lang/Object", name := "<init>", desc := "()V" } : Jvm.MethodName)) ∈ lw_all := lw_g (lw_at lw_m1 25 rfl) rfl
theorem q113 : (Jvm.Cond.classLink "StreamHall" (13 : Nat) "StreamHall$Hall") ∈ lw_all := lw_g (lw_at lw_m1 28 rfl) rfl
theorem q116 : (Jvm.Cond.methodLink "StreamHall" (15 : Nat) ({ cls := "StreamHall$Hall", name := "<init>", desc := "(I)V" } : Jvm.MethodName)) ∈ lw_all := lw_g (lw_at lw_m1 31 rfl) rfl
theorem q254 : (Jvm.Cond.fieldLinkNest "StreamHall" (148 : Nat) "StreamHall$Hall" "kind" "I" "StreamHall") ∈ lw_tbl := lw_at lw_m1 169 rfl
theorem q256 : (Jvm.Cond.fieldLinkNest "StreamHall" (165 : Nat) "StreamHall$Hall" "size" "I" "StreamHall") ∈ lw_tbl := lw_at lw_m1 171 rfl
theorem q258 : (Jvm.Cond.fieldLinkNest "StreamHall" (152 : Nat) "StreamHall$Hall" "a" "J" "StreamHall") ∈ lw_tbl := lw_at lw_m1 173 rfl
theorem q260 : (Jvm.Cond.fieldLinkNest "StreamHall" (157 : Nat) "StreamHall$Hall" "b" "J" "StreamHall") ∈ lw_tbl := lw_at lw_m1 175 rfl
theorem q262 : (Jvm.Cond.fieldLinkNest "StreamHall" (161 : Nat) "StreamHall$Hall" "c" "J" "StreamHall") ∈ lw_tbl := lw_at lw_m1 177 rfl
theorem q265 : (Jvm.Cond.fieldLinkNest "StreamHall" (175 : Nat) "StreamHall$Hall" "row" "[B" "StreamHall") ∈ lw_tbl := lw_at lw_m1 180 rfl
theorem q313 : (Jvm.Cond.classLink "StreamHall" (24 : Nat) "[I") ∈ lw_all := lw_g (lw_at lw_m1 228 rfl) rfl
theorem q315 : (Jvm.Cond.classLink "StreamHall" (30 : Nat) "StreamHall$Place") ∈ lw_all := lw_g (lw_at lw_m1 230 rfl) rfl
theorem q318 : (Jvm.Cond.methodLinkNest "StreamHall" (43 : Nat) ({ cls := "StreamHall$Place", name := "<init>", desc := "()V" } : Jvm.MethodName) "StreamHall") ∈ lw_tbl := lw_at lw_m1 233 rfl
theorem q322 : (Jvm.Cond.fieldLinkNest "StreamHall" (69 : Nat) "StreamHall$Place" "taken" "Z" "StreamHall") ∈ lw_tbl := lw_at lw_m1 237 rfl
theorem q323 : (Jvm.Cond.fieldLinkNest "StreamHall" (142 : Nat) "StreamHall$Place" "delivered" "Z" "StreamHall") ∈ lw_tbl := lw_at lw_m1 238 rfl
theorem q324 : (Jvm.Cond.fieldLinkNest "StreamHall" (145 : Nat) "StreamHall$Place" "side" "I" "StreamHall") ∈ lw_tbl := lw_at lw_m1 239 rfl
theorem q325 : (Jvm.Cond.fieldLinkNest "StreamHall" (151 : Nat) "StreamHall$Place" "kind" "I" "StreamHall") ∈ lw_tbl := lw_at lw_m2 0 rfl
theorem q326 : (Jvm.Cond.fieldLinkNest "StreamHall" (168 : Nat) "StreamHall$Place" "size" "I" "StreamHall") ∈ lw_tbl := lw_at lw_m2 1 rfl
theorem q327 : (Jvm.Cond.fieldLinkNest "StreamHall" (173 : Nat) "StreamHall$Place" "bytes" "I" "StreamHall") ∈ lw_tbl := lw_at lw_m2 2 rfl
theorem q328 : (Jvm.Cond.fieldLinkNest "StreamHall" (156 : Nat) "StreamHall$Place" "a" "J" "StreamHall") ∈ lw_tbl := lw_at lw_m2 3 rfl
theorem q329 : (Jvm.Cond.fieldLinkNest "StreamHall" (160 : Nat) "StreamHall$Place" "b" "J" "StreamHall") ∈ lw_tbl := lw_at lw_m2 4 rfl
theorem q330 : (Jvm.Cond.fieldLinkNest "StreamHall" (164 : Nat) "StreamHall$Place" "c" "J" "StreamHall") ∈ lw_tbl := lw_at lw_m2 5 rfl
theorem q332 : (Jvm.Cond.fieldLinkNest "StreamHall" (178 : Nat) "StreamHall$Place" "row" "[B" "StreamHall") ∈ lw_tbl := lw_at lw_m2 7 rfl
theorem q354 : (Jvm.Cond.methodLink "StreamHall" (44 : Nat) ({ cls := "StreamHall", name := "allow", desc := "(I)V" } : Jvm.MethodName)) ∈ lw_all := lw_g (lw_at lw_m2 29 rfl) rfl
theorem q355 : (Jvm.Cond.privateMethod ({ cls := "StreamHall", name := "allow", desc := "(I)V" } : Jvm.MethodName)) ∈ lw_tbl := lw_at lw_m2 30 rfl
theorem q356 : (Jvm.Cond.instanceMethod ({ cls := "StreamHall", name := "allow", desc := "(I)V" } : Jvm.MethodName)) ∈ lw_all := lw_g (lw_at lw_m2 31 rfl) rfl
theorem q357 : (Jvm.Cond.code ({ cls := "StreamHall", name := "allow", desc := "(I)V" } : Jvm.MethodName) prog_1_method_3_code (3 : Nat) (Option.none : Option Jvm.ClassFile.FieldType)) ∈ lw_all := lw_g (lw_at lw_m2 32 rfl) rfl
theorem q358 : (Jvm.Cond.methodLink "StreamHall" (47 : Nat) ({ cls := "StreamHall$Hall", name := "grants", desc := "(IIIIII)V" } : Jvm.MethodName)) ∈ lw_all := lw_g (lw_at lw_m2 33 rfl) rfl
theorem q362 : (Jvm.Cond.fieldLink "StreamHall" (18 : Nat) "StreamHall" "halls" "[LStreamHall$Hall;") ∈ lw_all := lw_g (lw_at lw_m2 37 rfl) rfl
theorem q363 : (Jvm.Cond.fieldLink "StreamHall" (26 : Nat) "StreamHall" "grants" "[[I") ∈ lw_all := lw_g (lw_at lw_m2 38 rfl) rfl
theorem q364 : (Jvm.Cond.fieldLink "StreamHall" (32 : Nat) "StreamHall" "line" "[LStreamHall$Place;") ∈ lw_all := lw_g (lw_at lw_m2 39 rfl) rfl
theorem q365 : (Jvm.Cond.fieldLink "StreamHall" (36 : Nat) "StreamHall" "tape" "[B") ∈ lw_all := lw_g (lw_at lw_m2 40 rfl) rfl
theorem q366 : (Jvm.Cond.fieldLink "StreamHall" (40 : Nat) "StreamHall" "out" "[B") ∈ lw_all := lw_g (lw_at lw_m2 41 rfl) rfl
theorem q367 : (Jvm.Cond.fieldLink "StreamHall" (94 : Nat) "StreamHall" "taped" "I") ∈ lw_all := lw_g (lw_at lw_m2 42 rfl) rfl
theorem q368 : (Jvm.Cond.fieldLink "StreamHall" (134 : Nat) "StreamHall" "made" "I") ∈ lw_all := lw_g (lw_at lw_m2 43 rfl) rfl
theorem q369 : (Jvm.Cond.fieldLink "StreamHall" (82 : Nat) "StreamHall" "joined" "Z") ∈ lw_all := lw_g (lw_at lw_m2 44 rfl) rfl
theorem q370 : (Jvm.Cond.laysFinal "StreamHall" "StreamHall" "halls" "[LStreamHall$Hall;") ∈ lw_all := lw_g (lw_at lw_m2 45 rfl) rfl
theorem q371 : (Jvm.Cond.soleField "StreamHall" "halls") ∈ lw_all := lw_g (lw_at lw_m2 46 rfl) rfl
theorem q372 : (Jvm.Cond.laysFinal "StreamHall" "StreamHall" "grants" "[[I") ∈ lw_all := lw_g (lw_at lw_m2 47 rfl) rfl
theorem q373 : (Jvm.Cond.soleField "StreamHall" "grants") ∈ lw_all := lw_g (lw_at lw_m2 48 rfl) rfl
theorem q374 : (Jvm.Cond.laysFinal "StreamHall" "StreamHall" "line" "[LStreamHall$Place;") ∈ lw_all := lw_g (lw_at lw_m2 49 rfl) rfl
theorem q375 : (Jvm.Cond.soleField "StreamHall" "line") ∈ lw_all := lw_g (lw_at lw_m2 50 rfl) rfl
theorem q376 : (Jvm.Cond.laysFinal "StreamHall" "StreamHall" "tape" "[B") ∈ lw_all := lw_g (lw_at lw_m2 51 rfl) rfl
theorem q377 : (Jvm.Cond.soleField "StreamHall" "tape") ∈ lw_all := lw_g (lw_at lw_m2 52 rfl) rfl
theorem q378 : (Jvm.Cond.laysFinal "StreamHall" "StreamHall" "out" "[B") ∈ lw_all := lw_g (lw_at lw_m2 53 rfl) rfl
theorem q379 : (Jvm.Cond.soleField "StreamHall" "out") ∈ lw_all := lw_g (lw_at lw_m2 54 rfl) rfl
theorem q380 : (Jvm.Cond.lays "StreamHall" "StreamHall" "taped" "I") ∈ lw_all := lw_g (lw_at lw_m2 55 rfl) rfl
theorem q381 : (Jvm.Cond.soleField "StreamHall" "taped") ∈ lw_all := lw_g (lw_at lw_m2 56 rfl) rfl
theorem q382 : (Jvm.Cond.lays "StreamHall" "StreamHall" "made" "I") ∈ lw_all := lw_g (lw_at lw_m2 57 rfl) rfl
theorem q383 : (Jvm.Cond.soleField "StreamHall" "made") ∈ lw_all := lw_g (lw_at lw_m2 58 rfl) rfl
theorem q384 : (Jvm.Cond.lays "StreamHall" "StreamHall" "joined" "Z") ∈ lw_all := lw_g (lw_at lw_m2 59 rfl) rfl
theorem q385 : (Jvm.Cond.soleField "StreamHall" "joined") ∈ lw_all := lw_g (lw_at lw_m2 60 rfl) rfl
theorem q386 : (Jvm.Cond.superclass "StreamHall" "java/lang/Object") ∈ lw_all := lw_g (lw_at lw_m2 61 rfl) rfl
theorem q393 : (Jvm.Cond.instanceMethod ({ cls := "StreamHall", name := "grant", desc := "(III)V" } : Jvm.MethodName)) ∈ lw_all := lw_g (lw_at lw_m2 68 rfl) rfl
theorem q394 : (Jvm.Cond.selects "StreamHall" ({ cls := "StreamHall", name := "grant", desc := "(III)V" } : Jvm.MethodName) ({ cls := "StreamHall", name := "grant", desc := "(III)V" } : Jvm.MethodName)) ∈ lw_all := lw_g (lw_at lw_m2 69 rfl) rfl
theorem q395 : (Jvm.Cond.code ({ cls := "StreamHall", name := "grant", desc := "(III)V" } : Jvm.MethodName) prog_1_method_10_code (4 : Nat) (Option.none : Option Jvm.ClassFile.FieldType)) ∈ lw_all := lw_g (lw_at lw_m2 70 rfl) rfl
theorem q396 : (Jvm.Cond.methodLink "StreamHall" (59 : Nat) ({ cls := "StreamHall", name := "in", desc := "(JJJ)Z" } : Jvm.MethodName)) ∈ lw_all := lw_g (lw_at lw_m2 71 rfl) rfl
theorem q397 : (Jvm.Cond.static ({ cls := "StreamHall", name := "in", desc := "(JJJ)Z" } : Jvm.MethodName)) ∈ lw_all := lw_g (lw_at lw_m2 72 rfl) rfl
theorem q398 : (Jvm.Cond.code ({ cls := "StreamHall", name := "in", desc := "(JJJ)Z" } : Jvm.MethodName) prog_1_method_7_code (6 : Nat) (Option.some Jvm.ClassFile.FieldType.boolean)) ∈ lw_all := lw_g (lw_at lw_m2 73 rfl) rfl
theorem q399 : (Jvm.Cond.constantLong "StreamHall" (76 : Nat) (4 : Int64)) ∈ lw_all := lw_g (lw_at lw_m2 74 rfl) rfl
theorem q400 : (Jvm.Cond.constantLong "StreamHall" (78 : Nat) (9 : Int64)) ∈ lw_all := lw_g (lw_at lw_m2 75 rfl) rfl
theorem q401 : (Jvm.Cond.constantLong "StreamHall" (80 : Nat) (65536 : Int64)) ∈ lw_all := lw_g (lw_at lw_m2 76 rfl) rfl
theorem q402 : (Jvm.Cond.constantLong "StreamHall" (1 : Nat) (64 : Int64)) ∈ lw_all := lw_g (lw_at lw_m2 77 rfl) rfl
theorem q403 : (Jvm.Cond.methodLink "StreamHall" (63 : Nat) ({ cls := "StreamHall", name := "need", desc := "(Z)V" } : Jvm.MethodName)) ∈ lw_all := lw_g (lw_at lw_m2 78 rfl) rfl
theorem q404 : (Jvm.Cond.static ({ cls := "StreamHall", name := "need", desc := "(Z)V" } : Jvm.MethodName)) ∈ lw_all := lw_g (lw_at lw_m2 79 rfl) rfl
theorem q405 : (Jvm.Cond.code ({ cls := "StreamHall", name := "need", desc := "(Z)V" } : Jvm.MethodName) prog_1_method_4_code (1 : Nat) (Option.none : Option Jvm.ClassFile.FieldType)) ∈ lw_all := lw_g (lw_at lw_m2 80 rfl) rfl
theorem q406 : (Jvm.Cond.classLink "StreamHall" (50 : Nat) "java/lang/IllegalArgumentException") ∈ lw_all := lw_g (lw_at lw_m2 81 rfl) rfl
theorem q447 : (Jvm.Cond.methodLink "StreamHall" (52 : Nat) ({ cls := "java/lang/IllegalArgumentException", name := "<init>", desc := "()V" } : Jvm.MethodName)) ∈ lw_all := lw_g (lw_at lw_m2 122 rfl) rfl
theorem q469 : (Jvm.Cond.methodLink "StreamHall" (85 : Nat) ({ cls := "StreamHall", name := "ready", desc := "(Z)V" } : Jvm.MethodName)) ∈ lw_all := lw_g (lw_at lw_m2 144 rfl) rfl
theorem q470 : (Jvm.Cond.static ({ cls := "StreamHall", name := "ready", desc := "(Z)V" } : Jvm.MethodName)) ∈ lw_all := lw_g (lw_at lw_m2 145 rfl) rfl
theorem q471 : (Jvm.Cond.code ({ cls := "StreamHall", name := "ready", desc := "(Z)V" } : Jvm.MethodName) prog_1_method_5_code (1 : Nat) (Option.none : Option Jvm.ClassFile.FieldType)) ∈ lw_all := lw_g (lw_at lw_m2 146 rfl) rfl
theorem q472 : (Jvm.Cond.classLink "StreamHall" (53 : Nat) "java/lang/IllegalStateException") ∈ lw_all := lw_g (lw_at lw_m2 147 rfl) rfl
theorem q481 : (Jvm.Cond.methodLink "StreamHall" (55 : Nat) ({ cls := "java/lang/IllegalStateException", name := "<init>", desc := "()V" } : Jvm.MethodName)) ∈ lw_all := lw_g (lw_at lw_m2 156 rfl) rfl
theorem q491 : (Jvm.Cond.instanceMethod ({ cls := "StreamHall", name := "join", desc := "()V" } : Jvm.MethodName)) ∈ lw_all := lw_g (lw_at lw_m2 166 rfl) rfl
theorem q492 : (Jvm.Cond.selects "StreamHall" ({ cls := "StreamHall", name := "join", desc := "()V" } : Jvm.MethodName) ({ cls := "StreamHall", name := "join", desc := "()V" } : Jvm.MethodName)) ∈ lw_all := lw_g (lw_at lw_m2 167 rfl) rfl
theorem q493 : (Jvm.Cond.code ({ cls := "StreamHall", name := "join", desc := "()V" } : Jvm.MethodName) prog_1_method_11_code (3 : Nat) (Option.none : Option Jvm.ClassFile.FieldType)) ∈ lw_all := lw_g (lw_at lw_m2 168 rfl) rfl
theorem q494 : (Jvm.Cond.methodLink "StreamHall" (88 : Nat) ({ cls := "StreamHall$Hall", name := "limits", desc := "(JJJJJJ)V" } : Jvm.MethodName)) ∈ lw_all := lw_g (lw_at lw_m2 169 rfl) rfl
theorem q506 : (Jvm.Cond.instanceMethod ({ cls := "StreamHall", name := "feed", desc := "(IJ)I" } : Jvm.MethodName)) ∈ lw_all := lw_g (lw_at lw_m2 181 rfl) rfl
theorem q507 : (Jvm.Cond.selects "StreamHall" ({ cls := "StreamHall", name := "feed", desc := "(IJ)I" } : Jvm.MethodName) ({ cls := "StreamHall", name := "feed", desc := "(IJ)I" } : Jvm.MethodName)) ∈ lw_all := lw_g (lw_at lw_m2 182 rfl) rfl
theorem q508 : (Jvm.Cond.code ({ cls := "StreamHall", name := "feed", desc := "(IJ)I" } : Jvm.MethodName) prog_1_method_12_code (5 : Nat) (Option.some Jvm.ClassFile.FieldType.int)) ∈ lw_all := lw_g (lw_at lw_m2 183 rfl) rfl
theorem q509 : (Jvm.Cond.constantLong "StreamHall" (92 : Nat) (8 : Int64)) ∈ lw_all := lw_g (lw_at lw_m2 184 rfl) rfl
theorem q514 : (Jvm.Cond.instanceMethod ({ cls := "StreamHall", name := "open", desc := "(IZ)I" } : Jvm.MethodName)) ∈ lw_all := lw_g (lw_at lw_m2 189 rfl) rfl
theorem q515 : (Jvm.Cond.selects "StreamHall" ({ cls := "StreamHall", name := "open", desc := "(IZ)I" } : Jvm.MethodName) ({ cls := "StreamHall", name := "open", desc := "(IZ)I" } : Jvm.MethodName)) ∈ lw_all := lw_g (lw_at lw_m2 190 rfl) rfl
theorem q516 : (Jvm.Cond.code ({ cls := "StreamHall", name := "open", desc := "(IZ)I" } : Jvm.MethodName) prog_1_method_13_code (4 : Nat) (Option.some Jvm.ClassFile.FieldType.int)) ∈ lw_all := lw_g (lw_at lw_m2 191 rfl) rfl
theorem q517 : (Jvm.Cond.methodLink "StreamHall" (98 : Nat) ({ cls := "StreamHall", name := "hall", desc := "(I)LStreamHall$Hall;" } : Jvm.MethodName)) ∈ lw_all := lw_g (lw_at lw_m2 192 rfl) rfl
theorem q518 : (Jvm.Cond.privateMethod ({ cls := "StreamHall", name := "hall", desc := "(I)LStreamHall$Hall;" } : Jvm.MethodName)) ∈ lw_tbl := lw_at lw_m2 193 rfl
theorem q519 : (Jvm.Cond.instanceMethod ({ cls := "StreamHall", name := "hall", desc := "(I)LStreamHall$Hall;" } : Jvm.MethodName)) ∈ lw_all := lw_g (lw_at lw_m2 194 rfl) rfl
theorem q520 : (Jvm.Cond.code ({ cls := "StreamHall", name := "hall", desc := "(I)LStreamHall$Hall;" } : Jvm.MethodName) prog_1_method_8_code (2 : Nat) (Option.some (Jvm.ClassFile.FieldType.object "StreamHall$Hall"))) ∈ lw_all := lw_g (lw_at lw_m2 195 rfl) rfl
theorem q521 : (Jvm.Cond.methodLink "StreamHall" (102 : Nat) ({ cls := "StreamHall$Hall", name := "open", desc := "(Z)I" } : Jvm.MethodName)) ∈ lw_all := lw_g (lw_at lw_m2 196 rfl) rfl
theorem q652 : (Jvm.Cond.instanceMethod ({ cls := "StreamHall", name := "write", desc := "(II)I" } : Jvm.MethodName)) ∈ lw_all := lw_g (lw_at lw_m3 87 rfl) rfl
theorem q653 : (Jvm.Cond.selects "StreamHall" ({ cls := "StreamHall", name := "write", desc := "(II)I" } : Jvm.MethodName) ({ cls := "StreamHall", name := "write", desc := "(II)I" } : Jvm.MethodName)) ∈ lw_all := lw_g (lw_at lw_m3 88 rfl) rfl
theorem q654 : (Jvm.Cond.code ({ cls := "StreamHall", name := "write", desc := "(II)I" } : Jvm.MethodName) prog_1_method_14_code (4 : Nat) (Option.some Jvm.ClassFile.FieldType.int)) ∈ lw_all := lw_g (lw_at lw_m3 89 rfl) rfl
theorem q655 : (Jvm.Cond.methodLink "StreamHall" (106 : Nat) ({ cls := "StreamHall$Hall", name := "write", desc := "(I[BII)I" } : Jvm.MethodName)) ∈ lw_all := lw_g (lw_at lw_m3 90 rfl) rfl
theorem q693 : (Jvm.Cond.instanceMethod ({ cls := "StreamHall", name := "finish", desc := "(II)Z" } : Jvm.MethodName)) ∈ lw_all := lw_g (lw_at lw_m3 128 rfl) rfl
theorem q694 : (Jvm.Cond.selects "StreamHall" ({ cls := "StreamHall", name := "finish", desc := "(II)Z" } : Jvm.MethodName) ({ cls := "StreamHall", name := "finish", desc := "(II)Z" } : Jvm.MethodName)) ∈ lw_all := lw_g (lw_at lw_m3 129 rfl) rfl
theorem q695 : (Jvm.Cond.code ({ cls := "StreamHall", name := "finish", desc := "(II)Z" } : Jvm.MethodName) prog_1_method_15_code (3 : Nat) (Option.some Jvm.ClassFile.FieldType.boolean)) ∈ lw_all := lw_g (lw_at lw_m3 130 rfl) rfl
theorem q696 : (Jvm.Cond.methodLink "StreamHall" (110 : Nat) ({ cls := "StreamHall$Hall", name := "finish", desc := "(I)Z" } : Jvm.MethodName)) ∈ lw_all := lw_g (lw_at lw_m3 131 rfl) rfl
theorem q704 : (Jvm.Cond.instanceMethod ({ cls := "StreamHall", name := "reset", desc := "(IIJ)Z" } : Jvm.MethodName)) ∈ lw_all := lw_g (lw_at lw_m3 139 rfl) rfl
theorem q705 : (Jvm.Cond.selects "StreamHall" ({ cls := "StreamHall", name := "reset", desc := "(IIJ)Z" } : Jvm.MethodName) ({ cls := "StreamHall", name := "reset", desc := "(IIJ)Z" } : Jvm.MethodName)) ∈ lw_all := lw_g (lw_at lw_m3 140 rfl) rfl
theorem q706 : (Jvm.Cond.code ({ cls := "StreamHall", name := "reset", desc := "(IIJ)Z" } : Jvm.MethodName) prog_1_method_16_code (6 : Nat) (Option.some Jvm.ClassFile.FieldType.boolean)) ∈ lw_all := lw_g (lw_at lw_m3 141 rfl) rfl
theorem q707 : (Jvm.Cond.constantLong "StreamHall" (114 : Nat) (4611686018427387903 : Int64)) ∈ lw_all := lw_g (lw_at lw_m3 142 rfl) rfl
theorem q708 : (Jvm.Cond.methodLink "StreamHall" (116 : Nat) ({ cls := "StreamHall$Hall", name := "reset", desc := "(IJ)Z" } : Jvm.MethodName)) ∈ lw_all := lw_g (lw_at lw_m3 143 rfl) rfl
theorem q724 : (Jvm.Cond.instanceMethod ({ cls := "StreamHall", name := "stop", desc := "(IIJ)Z" } : Jvm.MethodName)) ∈ lw_all := lw_g (lw_at lw_m3 159 rfl) rfl
theorem q725 : (Jvm.Cond.selects "StreamHall" ({ cls := "StreamHall", name := "stop", desc := "(IIJ)Z" } : Jvm.MethodName) ({ cls := "StreamHall", name := "stop", desc := "(IIJ)Z" } : Jvm.MethodName)) ∈ lw_all := lw_g (lw_at lw_m3 160 rfl) rfl
theorem q726 : (Jvm.Cond.code ({ cls := "StreamHall", name := "stop", desc := "(IIJ)Z" } : Jvm.MethodName) prog_1_method_17_code (6 : Nat) (Option.some Jvm.ClassFile.FieldType.boolean)) ∈ lw_all := lw_g (lw_at lw_m3 161 rfl) rfl
theorem q727 : (Jvm.Cond.methodLink "StreamHall" (120 : Nat) ({ cls := "StreamHall$Hall", name := "stop", desc := "(IJ)Z" } : Jvm.MethodName)) ∈ lw_all := lw_g (lw_at lw_m3 162 rfl) rfl
theorem q743 : (Jvm.Cond.instanceMethod ({ cls := "StreamHall", name := "read", desc := "(III)I" } : Jvm.MethodName)) ∈ lw_all := lw_g (lw_at lw_m3 178 rfl) rfl
theorem q744 : (Jvm.Cond.selects "StreamHall" ({ cls := "StreamHall", name := "read", desc := "(III)I" } : Jvm.MethodName) ({ cls := "StreamHall", name := "read", desc := "(III)I" } : Jvm.MethodName)) ∈ lw_all := lw_g (lw_at lw_m3 179 rfl) rfl
theorem q745 : (Jvm.Cond.code ({ cls := "StreamHall", name := "read", desc := "(III)I" } : Jvm.MethodName) prog_1_method_18_code (6 : Nat) (Option.some Jvm.ClassFile.FieldType.int)) ∈ lw_all := lw_g (lw_at lw_m3 180 rfl) rfl
theorem q746 : (Jvm.Cond.constantLong "StreamHall" (123 : Nat) (2048 : Int64)) ∈ lw_all := lw_g (lw_at lw_m3 181 rfl) rfl
theorem q747 : (Jvm.Cond.methodLink "StreamHall" (125 : Nat) ({ cls := "StreamHall$Hall", name := "read", desc := "(I[BII)I" } : Jvm.MethodName)) ∈ lw_all := lw_g (lw_at lw_m3 182 rfl) rfl
theorem q793 : (Jvm.Cond.methodLink "StreamHall" (128 : Nat) ({ cls := "java/lang/Math", name := "max", desc := "(II)I" } : Jvm.MethodName)) ∈ lw_all := lw_g (lw_at lw_m3 228 rfl) rfl
theorem q800 : (Jvm.Cond.instanceMethod ({ cls := "StreamHall", name := "fill", desc := "(II)I" } : Jvm.MethodName)) ∈ lw_all := lw_g (lw_at lw_m3 235 rfl) rfl
theorem q801 : (Jvm.Cond.selects "StreamHall" ({ cls := "StreamHall", name := "fill", desc := "(II)I" } : Jvm.MethodName) ({ cls := "StreamHall", name := "fill", desc := "(II)I" } : Jvm.MethodName)) ∈ lw_all := lw_g (lw_at lw_m3 236 rfl) rfl
theorem q802 : (Jvm.Cond.code ({ cls := "StreamHall", name := "fill", desc := "(II)I" } : Jvm.MethodName) prog_1_method_19_code (6 : Nat) (Option.some Jvm.ClassFile.FieldType.int)) ∈ lw_all := lw_g (lw_at lw_m3 237 rfl) rfl
theorem q803 : (Jvm.Cond.constantLong "StreamHall" (137 : Nat) (1200 : Int64)) ∈ lw_all := lw_g (lw_at lw_m3 238 rfl) rfl
theorem q804 : (Jvm.Cond.methodLink "StreamHall" (139 : Nat) ({ cls := "StreamHall$Hall", name := "fill", desc := "(I)Z" } : Jvm.MethodName)) ∈ lw_all := lw_g (lw_at lw_m3 239 rfl) rfl
theorem q817 : (Jvm.Cond.static ({ cls := "StreamHall", name := "sizeOf", desc := "(J)I" } : Jvm.MethodName)) ∈ lw_all := lw_g (lw_at lw_m4 12 rfl) rfl
theorem q818 : (Jvm.Cond.code ({ cls := "StreamHall", name := "sizeOf", desc := "(J)I" } : Jvm.MethodName) prog_1_method_1_code (2 : Nat) (Option.some Jvm.ClassFile.FieldType.int)) ∈ lw_all := lw_g (lw_at lw_m4 13 rfl) rfl
theorem q819 : (Jvm.Cond.constantLong "StreamHall" (3 : Nat) (16384 : Int64)) ∈ lw_all := lw_g (lw_at lw_m4 14 rfl) rfl
theorem q820 : (Jvm.Cond.constantLong "StreamHall" (5 : Nat) (1073741824 : Int64)) ∈ lw_all := lw_g (lw_at lw_m4 15 rfl) rfl
theorem q866 : (Jvm.Cond.methodLink "StreamHall" (169 : Nat) ({ cls := "StreamHall$Hall", name := "bytes", desc := "()I" } : Jvm.MethodName)) ∈ lw_all := lw_g (lw_at lw_m4 61 rfl) rfl
theorem q870 : (Jvm.Cond.methodLink "StreamHall" (179 : Nat) ({ cls := "java/lang/System", name := "arraycopy", desc := "(Ljava/lang/Object;ILjava/lang/Object;II)V" } : Jvm.MethodName)) ∈ lw_all := lw_g (lw_at lw_m4 65 rfl) rfl
theorem q876 : (Jvm.Cond.instanceMethod ({ cls := "StreamHall", name := "deliver", desc := "(I)I" } : Jvm.MethodName)) ∈ lw_all := lw_g (lw_at lw_m4 71 rfl) rfl
theorem q877 : (Jvm.Cond.selects "StreamHall" ({ cls := "StreamHall", name := "deliver", desc := "(I)I" } : Jvm.MethodName) ({ cls := "StreamHall", name := "deliver", desc := "(I)I" } : Jvm.MethodName)) ∈ lw_all := lw_g (lw_at lw_m4 72 rfl) rfl
theorem q878 : (Jvm.Cond.code ({ cls := "StreamHall", name := "deliver", desc := "(I)I" } : Jvm.MethodName) prog_1_method_20_code (4 : Nat) (Option.some Jvm.ClassFile.FieldType.int)) ∈ lw_all := lw_g (lw_at lw_m4 73 rfl) rfl
theorem q879 : (Jvm.Cond.methodLink "StreamHall" (185 : Nat) ({ cls := "StreamHall", name := "at", desc := "(I)LStreamHall$Place;" } : Jvm.MethodName)) ∈ lw_all := lw_g (lw_at lw_m4 74 rfl) rfl
theorem q880 : (Jvm.Cond.privateMethod ({ cls := "StreamHall", name := "at", desc := "(I)LStreamHall$Place;" } : Jvm.MethodName)) ∈ lw_tbl := lw_at lw_m4 75 rfl
theorem q881 : (Jvm.Cond.instanceMethod ({ cls := "StreamHall", name := "at", desc := "(I)LStreamHall$Place;" } : Jvm.MethodName)) ∈ lw_all := lw_g (lw_at lw_m4 76 rfl) rfl
theorem q882 : (Jvm.Cond.code ({ cls := "StreamHall", name := "at", desc := "(I)LStreamHall$Place;" } : Jvm.MethodName) prog_1_method_9_code (2 : Nat) (Option.some (Jvm.ClassFile.FieldType.object "StreamHall$Place"))) ∈ lw_all := lw_g (lw_at lw_m4 77 rfl) rfl
theorem q883 : (Jvm.Cond.constantLong "StreamHall" (67 : Nat) (63 : Int64)) ∈ lw_all := lw_g (lw_at lw_m4 78 rfl) rfl
theorem q884 : (Jvm.Cond.methodLink "StreamHall" (73 : Nat) ({ cls := "StreamHall", name := "there", desc := "(Z)V" } : Jvm.MethodName)) ∈ lw_all := lw_g (lw_at lw_m4 79 rfl) rfl
theorem q885 : (Jvm.Cond.static ({ cls := "StreamHall", name := "there", desc := "(Z)V" } : Jvm.MethodName)) ∈ lw_all := lw_g (lw_at lw_m4 80 rfl) rfl
theorem q886 : (Jvm.Cond.code ({ cls := "StreamHall", name := "there", desc := "(Z)V" } : Jvm.MethodName) prog_1_method_6_code (1 : Nat) (Option.none : Option Jvm.ClassFile.FieldType)) ∈ lw_all := lw_g (lw_at lw_m4 81 rfl) rfl
theorem q887 : (Jvm.Cond.classLink "StreamHall" (56 : Nat) "java/util/NoSuchElementException") ∈ lw_all := lw_g (lw_at lw_m4 82 rfl) rfl
theorem q896 : (Jvm.Cond.methodLink "StreamHall" (58 : Nat) ({ cls := "java/util/NoSuchElementException", name := "<init>", desc := "()V" } : Jvm.MethodName)) ∈ lw_all := lw_g (lw_at lw_m4 91 rfl) rfl
theorem q902 : (Jvm.Cond.methodLink "StreamHall" (189 : Nat) ({ cls := "StreamHall$Hall", name := "take", desc := "(IJJJ[BII)I" } : Jvm.MethodName)) ∈ lw_all := lw_g (lw_at lw_m4 97 rfl) rfl
theorem q969 : (Jvm.Cond.instanceMethod ({ cls := "StreamHall", name := "gone", desc := "(IZ)V" } : Jvm.MethodName)) ∈ lw_all := lw_g (lw_at lw_m4 164 rfl) rfl
theorem q970 : (Jvm.Cond.selects "StreamHall" ({ cls := "StreamHall", name := "gone", desc := "(IZ)V" } : Jvm.MethodName) ({ cls := "StreamHall", name := "gone", desc := "(IZ)V" } : Jvm.MethodName)) ∈ lw_all := lw_g (lw_at lw_m4 165 rfl) rfl
theorem q971 : (Jvm.Cond.code ({ cls := "StreamHall", name := "gone", desc := "(IZ)V" } : Jvm.MethodName) prog_1_method_21_code (4 : Nat) (Option.none : Option Jvm.ClassFile.FieldType)) ∈ lw_all := lw_g (lw_at lw_m4 166 rfl) rfl
theorem q972 : (Jvm.Cond.methodLink "StreamHall" (193 : Nat) ({ cls := "StreamHall$Hall", name := "gone", desc := "(IJJIJZ)V" } : Jvm.MethodName)) ∈ lw_all := lw_g (lw_at lw_m4 167 rfl) rfl
theorem q999 : (Jvm.Cond.instanceMethod ({ cls := "StreamHall", name := "take", desc := "(IIJJJ)I" } : Jvm.MethodName)) ∈ lw_all := lw_g (lw_at lw_m4 194 rfl) rfl
theorem q1000 : (Jvm.Cond.selects "StreamHall" ({ cls := "StreamHall", name := "take", desc := "(IIJJJ)I" } : Jvm.MethodName) ({ cls := "StreamHall", name := "take", desc := "(IIJJJ)I" } : Jvm.MethodName)) ∈ lw_all := lw_g (lw_at lw_m4 195 rfl) rfl
theorem q1001 : (Jvm.Cond.code ({ cls := "StreamHall", name := "take", desc := "(IIJJJ)I" } : Jvm.MethodName) prog_1_method_22_code (11 : Nat) (Option.some Jvm.ClassFile.FieldType.int)) ∈ lw_all := lw_g (lw_at lw_m4 196 rfl) rfl
theorem q1002 : (Jvm.Cond.constantLong "StreamHall" (197 : Nat) (16 : Int64)) ∈ lw_all := lw_g (lw_at lw_m4 197 rfl) rfl
theorem q1003 : (Jvm.Cond.constantLong "StreamHall" (199 : Nat) (23 : Int64)) ∈ lw_all := lw_g (lw_at lw_m4 198 rfl) rfl
theorem q1004 : (Jvm.Cond.constantLong "StreamHall" (201 : Nat) (4611686018427380000 : Int64)) ∈ lw_all := lw_g (lw_at lw_m4 199 rfl) rfl
theorem q1009 : (Jvm.Cond.instanceMethod ({ cls := "StreamHall", name := "line", desc := "(II)J" } : Jvm.MethodName)) ∈ lw_all := lw_g (lw_at lw_m4 204 rfl) rfl
theorem q1010 : (Jvm.Cond.selects "StreamHall" ({ cls := "StreamHall", name := "line", desc := "(II)J" } : Jvm.MethodName) ({ cls := "StreamHall", name := "line", desc := "(II)J" } : Jvm.MethodName)) ∈ lw_all := lw_g (lw_at lw_m4 205 rfl) rfl
theorem q1011 : (Jvm.Cond.code ({ cls := "StreamHall", name := "line", desc := "(II)J" } : Jvm.MethodName) prog_1_method_23_code (4 : Nat) (Option.some Jvm.ClassFile.FieldType.long)) ∈ lw_all := lw_g (lw_at lw_m4 206 rfl) rfl
theorem q1012 : (Jvm.Cond.constantLong "StreamHall" (203 : Nat) (6 : Int64)) ∈ lw_all := lw_g (lw_at lw_m4 207 rfl) rfl
theorem q1017 : (Jvm.Cond.instanceMethod ({ cls := "StreamHall", name := "data", desc := "(II)I" } : Jvm.MethodName)) ∈ lw_all := lw_g (lw_at lw_m4 212 rfl) rfl
theorem q1018 : (Jvm.Cond.selects "StreamHall" ({ cls := "StreamHall", name := "data", desc := "(II)I" } : Jvm.MethodName) ({ cls := "StreamHall", name := "data", desc := "(II)I" } : Jvm.MethodName)) ∈ lw_all := lw_g (lw_at lw_m4 213 rfl) rfl
theorem q1019 : (Jvm.Cond.code ({ cls := "StreamHall", name := "data", desc := "(II)I" } : Jvm.MethodName) prog_1_method_24_code (4 : Nat) (Option.some Jvm.ClassFile.FieldType.int)) ∈ lw_all := lw_g (lw_at lw_m4 214 rfl) rfl
theorem q1024 : (Jvm.Cond.instanceMethod ({ cls := "StreamHall", name := "outs", desc := "(I)J" } : Jvm.MethodName)) ∈ lw_all := lw_g (lw_at lw_m4 219 rfl) rfl
theorem q1025 : (Jvm.Cond.selects "StreamHall" ({ cls := "StreamHall", name := "outs", desc := "(I)J" } : Jvm.MethodName) ({ cls := "StreamHall", name := "outs", desc := "(I)J" } : Jvm.MethodName)) ∈ lw_all := lw_g (lw_at lw_m4 220 rfl) rfl
theorem q1026 : (Jvm.Cond.code ({ cls := "StreamHall", name := "outs", desc := "(I)J" } : Jvm.MethodName) prog_1_method_25_code (5 : Nat) (Option.some Jvm.ClassFile.FieldType.long)) ∈ lw_all := lw_g (lw_at lw_m4 221 rfl) rfl
theorem q1027 : (Jvm.Cond.methodLink "StreamHall" (205 : Nat) ({ cls := "java/lang/Math", name := "min", desc := "(II)I" } : Jvm.MethodName)) ∈ lw_all := lw_g (lw_at lw_m4 222 rfl) rfl
theorem q1028 : (Jvm.Cond.constantLong "StreamHall" (208 : Nat) (255 : Int64)) ∈ lw_all := lw_g (lw_at lw_m4 223 rfl) rfl
theorem q1033 : (Jvm.Cond.instanceMethod ({ cls := "StreamHall", name := "stream", desc := "(III)J" } : Jvm.MethodName)) ∈ lw_all := lw_g (lw_at lw_m4 228 rfl) rfl
theorem q1034 : (Jvm.Cond.selects "StreamHall" ({ cls := "StreamHall", name := "stream", desc := "(III)J" } : Jvm.MethodName) ({ cls := "StreamHall", name := "stream", desc := "(III)J" } : Jvm.MethodName)) ∈ lw_all := lw_g (lw_at lw_m4 229 rfl) rfl
theorem q1035 : (Jvm.Cond.code ({ cls := "StreamHall", name := "stream", desc := "(III)J" } : Jvm.MethodName) prog_1_method_26_code (5 : Nat) (Option.some Jvm.ClassFile.FieldType.long)) ∈ lw_all := lw_g (lw_at lw_m4 230 rfl) rfl
theorem q1036 : (Jvm.Cond.constantLong "StreamHall" (210 : Nat) (14 : Int64)) ∈ lw_all := lw_g (lw_at lw_m4 231 rfl) rfl
theorem q1037 : (Jvm.Cond.methodLink "StreamHall" (212 : Nat) ({ cls := "StreamHall$Hall", name := "look", desc := "(II)J" } : Jvm.MethodName)) ∈ lw_all := lw_g (lw_at lw_m4 232 rfl) rfl
theorem q1045 : (Jvm.Cond.instanceMethod ({ cls := "StreamHall", name := "side", desc := "(II)J" } : Jvm.MethodName)) ∈ lw_all := lw_g (lw_at lw_m5 0 rfl) rfl
theorem q1046 : (Jvm.Cond.selects "StreamHall" ({ cls := "StreamHall", name := "side", desc := "(II)J" } : Jvm.MethodName) ({ cls := "StreamHall", name := "side", desc := "(II)J" } : Jvm.MethodName)) ∈ lw_all := lw_g (lw_at lw_m5 1 rfl) rfl
theorem q1047 : (Jvm.Cond.code ({ cls := "StreamHall", name := "side", desc := "(II)J" } : Jvm.MethodName) prog_1_method_27_code (4 : Nat) (Option.some Jvm.ClassFile.FieldType.long)) ∈ lw_all := lw_g (lw_at lw_m5 2 rfl) rfl
theorem q1048 : (Jvm.Cond.constantLong "StreamHall" (216 : Nat) (13 : Int64)) ∈ lw_all := lw_g (lw_at lw_m5 3 rfl) rfl
theorem q1049 : (Jvm.Cond.methodLink "StreamHall" (218 : Nat) ({ cls := "StreamHall$Hall", name := "look", desc := "(I)J" } : Jvm.MethodName)) ∈ lw_all := lw_g (lw_at lw_m5 4 rfl) rfl
theorem in_X1 : ∀ w ∈ wsX10, w ∈ lw_all := lw_in wsX10 [370, 372, 374, 376, 378, 380, 382, 384] (by decide +kernel) (by decide +kernel)

/-! StreamHall$Hall -/
def RX2 : String := "StreamHall$Hall"
def TX2 : u_T := fun k => match k with
  | 0 => ("StreamHall$Hall", "side", "I", true)
  | 1 => ("StreamHall$Hall", "sendings", "[LStreamHall$Sending;", true)
  | 2 => ("StreamHall$Hall", "receivings", "[LStreamHall$Receiving;", true)
  | 3 => ("StreamHall$Hall", "ways", "[LStreamHall$Way;", true)
  | 4 => ("StreamHall$Hall", "grants", "[I", true)
  | 5 => ("StreamHall$Hall", "limits", "[J", true)
  | 6 => ("StreamHall$Hall", "spans", "LStreamHall$Spans;", true)
  | 7 => ("StreamHall$Hall", "store", "LStreamHall$Store;", true)
  | 8 => ("StreamHall$Hall", "blocks", "LStreamHall$Blocks;", true)
  | 9 => ("StreamHall$Hall", "limitAll", "J", false)
  | 10 => ("StreamHall$Hall", "blockedAt", "J", false)
  | 11 => ("StreamHall$Hall", "sentAll", "I", false)
  | 12 => ("StreamHall$Hall", "receivedAll", "I", false)
  | 13 => ("StreamHall$Hall", "consumedAll", "I", false)
  | 14 => ("StreamHall$Hall", "grantAll", "I", false)
  | 15 => ("StreamHall$Hall", "lastStream", "I", false)
  | 16 => ("StreamHall$Hall", "tellsAll", "Z", false)
  | 17 => ("StreamHall$Hall", "kind", "I", false)
  | 18 => ("StreamHall$Hall", "size", "I", false)
  | 19 => ("StreamHall$Hall", "a", "J", false)
  | 20 => ("StreamHall$Hall", "b", "J", false)
  | 21 => ("StreamHall$Hall", "c", "J", false)
  | _ => ("StreamHall$Hall", "row", "[B", true)
def tyX2 : Nat → FieldType := fun k => match k with
  | 0 => .int
  | 1 => .array (.object "StreamHall$Sending")
  | 2 => .array (.object "StreamHall$Receiving")
  | 3 => .array (.object "StreamHall$Way")
  | 4 => .array .int
  | 5 => .array .long
  | 6 => .object "StreamHall$Spans"
  | 7 => .object "StreamHall$Store"
  | 8 => .object "StreamHall$Blocks"
  | 9 => .long
  | 10 => .long
  | 11 => .int
  | 12 => .int
  | 13 => .int
  | 14 => .int
  | 15 => .int
  | 16 => .boolean
  | 17 => .int
  | 18 => .int
  | 19 => .long
  | 20 => .long
  | 21 => .long
  | _ => .array .byte
abbrev wsX20 : List Cond := u_ws RX2 TX2 23
theorem nmX2 : ∀ a, a < 23 → ∀ b, b < 23 → a ≠ b → (TX2 a).2.1 ≠ (TX2 b).2.1 := by decide +kernel
theorem tyX2_ok : ∀ k, k < 23 → parseFieldDescriptor (TX2 k).2.2.1 = some (tyX2 k) := by decide +kernel
abbrev cX2_init : ByteArray := prog_3_method_1_code
def yX2_init : MethodName := ⟨RX2, "<init>", "(I)V"⟩
abbrev cX2_grants : ByteArray := prog_3_method_2_code
def yX2_grants : MethodName := ⟨RX2, "grants", "(IIIIII)V"⟩
abbrev cX2_limits : ByteArray := prog_3_method_3_code
def yX2_limits : MethodName := ⟨RX2, "limits", "(JJJJJJ)V"⟩
abbrev cX2_open : ByteArray := prog_3_method_11_code
def yX2_open : MethodName := ⟨RX2, "open", "(Z)I"⟩
abbrev cX2_begin : ByteArray := prog_3_method_10_code
def yX2_begin : MethodName := ⟨RX2, "begin", "(I)V"⟩
abbrev cX2_isOneWay : ByteArray := prog_3_method_5_code
def yX2_isOneWay : MethodName := ⟨RX2, "isOneWay", "(J)Z"⟩
abbrev cX2_isOwn : ByteArray := prog_3_method_4_code
def yX2_isOwn : MethodName := ⟨RX2, "isOwn", "(J)Z"⟩
abbrev cX2_rule : ByteArray := prog_3_method_9_code
def yX2_rule : MethodName := ⟨RX2, "rule", "(JZ)I"⟩
abbrev cX2_write : ByteArray := prog_3_method_15_code
def yX2_write : MethodName := ⟨RX2, "write", "(I[BII)I"⟩
abbrev cX2_sending : ByteArray := prog_3_method_7_code
def yX2_sending : MethodName := ⟨RX2, "sending", "(I)LStreamHall$Sending;"⟩
abbrev cX2_finish : ByteArray := prog_3_method_16_code
def yX2_finish : MethodName := ⟨RX2, "finish", "(I)Z"⟩
abbrev cX2_reset : ByteArray := prog_3_method_17_code
def yX2_reset : MethodName := ⟨RX2, "reset", "(IJ)Z"⟩
abbrev cX2_stop : ByteArray := prog_3_method_18_code
def yX2_stop : MethodName := ⟨RX2, "stop", "(IJ)Z"⟩
abbrev cX2_receiving : ByteArray := prog_3_method_8_code
def yX2_receiving : MethodName := ⟨RX2, "receiving", "(I)LStreamHall$Receiving;"⟩
abbrev cX2_read : ByteArray := prog_3_method_19_code
def yX2_read : MethodName := ⟨RX2, "read", "(I[BII)I"⟩
abbrev cX2_grow : ByteArray := prog_3_method_20_code
def yX2_grow : MethodName := ⟨RX2, "grow", "()V"⟩
abbrev cX2_grow_2 : ByteArray := prog_3_method_21_code
def yX2_grow_2 : MethodName := ⟨RX2, "grow", "(LStreamHall$Receiving;)V"⟩
abbrev cX2_isOver : ByteArray := prog_3_method_14_code
def yX2_isOver : MethodName := ⟨RX2, "isOver", "(I)Z"⟩
abbrev cX2_mayBeOver : ByteArray := prog_3_method_13_code
def yX2_mayBeOver : MethodName := ⟨RX2, "mayBeOver", "(IZ)V"⟩
abbrev cX2_way : ByteArray := prog_3_method_6_code
def yX2_way : MethodName := ⟨RX2, "way", "(J)LStreamHall$Way;"⟩
abbrev cX2_fill : ByteArray := prog_3_method_30_code
def yX2_fill : MethodName := ⟨RX2, "fill", "(I)Z"⟩
abbrev cX2_fillsEnds : ByteArray := prog_3_method_31_code
def yX2_fillsEnds : MethodName := ⟨RX2, "fillsEnds", "(I)Z"⟩
abbrev cX2_frame : ByteArray := prog_3_method_28_code
def yX2_frame : MethodName := ⟨RX2, "frame", "(IJJJI)Z"⟩
abbrev cX2_fillsGrants : ByteArray := prog_3_method_32_code
def yX2_fillsGrants : MethodName := ⟨RX2, "fillsGrants", "(I)Z"⟩
abbrev cX2_fillsBlocked : ByteArray := prog_3_method_34_code
def yX2_fillsBlocked : MethodName := ⟨RX2, "fillsBlocked", "(I)Z"⟩
abbrev cX2_waits : ByteArray := prog_3_method_33_code
def yX2_waits : MethodName := ⟨RX2, "waits", "(LStreamHall$Sending;)Z"⟩
abbrev cX2_fillsStream : ByteArray := prog_3_method_35_code
def yX2_fillsStream : MethodName := ⟨RX2, "fillsStream", "(I)Z"⟩
abbrev cX2_fills : ByteArray := prog_3_method_36_code
def yX2_fills : MethodName := ⟨RX2, "fills", "(ILStreamHall$Sending;I)Z"⟩
abbrev cX2_bytes : ByteArray := prog_3_method_29_code
def yX2_bytes : MethodName := ⟨RX2, "bytes", "()I"⟩
abbrev cX2_take : ByteArray := prog_3_method_25_code
def yX2_take : MethodName := ⟨RX2, "take", "(IJJJ[BII)I"⟩
abbrev cX2_allowed : ByteArray := prog_3_method_22_code
def yX2_allowed : MethodName := ⟨RX2, "allowed", "(JZ)I"⟩
abbrev cX2_fits : ByteArray := prog_3_method_23_code
def yX2_fits : MethodName := ⟨RX2, "fits", "(IJZ)I"⟩
abbrev cX2_come : ByteArray := prog_3_method_12_code
def yX2_come : MethodName := ⟨RX2, "come", "(I)V"⟩
abbrev cX2_comes : ByteArray := prog_3_method_26_code
def yX2_comes : MethodName := ⟨RX2, "comes", "(LStreamHall$Receiving;IZ[BII)V"⟩
abbrev cX2_reach : ByteArray := prog_3_method_24_code
def yX2_reach : MethodName := ⟨RX2, "reach", "(LStreamHall$Receiving;I)V"⟩
abbrev cX2_isReset : ByteArray := prog_3_method_27_code
def yX2_isReset : MethodName := ⟨RX2, "isReset", "(LStreamHall$Receiving;JI)V"⟩
abbrev cX2_gone : ByteArray := prog_3_method_37_code
def yX2_gone : MethodName := ⟨RX2, "gone", "(IJJIJZ)V"⟩
abbrev cX2_isGone : ByteArray := prog_3_method_38_code
def yX2_isGone : MethodName := ⟨RX2, "isGone", "(LStreamHall$Sending;IIZZ)V"⟩
abbrev cX2_isLost : ByteArray := prog_3_method_39_code
def yX2_isLost : MethodName := ⟨RX2, "isLost", "(IIJJ)V"⟩
abbrev cX2_look : ByteArray := prog_3_method_40_code
def yX2_look : MethodName := ⟨RX2, "look", "(II)J"⟩
abbrev cX2_look_2 : ByteArray := prog_3_method_41_code
def yX2_look_2 : MethodName := ⟨RX2, "look", "(I)J"⟩
theorem q87 : (Jvm.Cond.initialized "StreamHall$Hall") ∈ lw_all := lw_g (lw_at lw_m1 2 rfl) rfl
theorem q115 : (Jvm.Cond.instantiable "StreamHall$Hall" (23 : Nat)) ∈ lw_all := lw_g (lw_at lw_m1 30 rfl) rfl
theorem q117 : (Jvm.Cond.instanceMethod ({ cls := "StreamHall$Hall", name := "<init>", desc := "(I)V" } : Jvm.MethodName)) ∈ lw_all := lw_g (lw_at lw_m1 32 rfl) rfl
theorem q118 : (Jvm.Cond.code ({ cls := "StreamHall$Hall", name := "<init>", desc := "(I)V" } : Jvm.MethodName) prog_3_method_1_code (2 : Nat) (Option.none : Option Jvm.ClassFile.FieldType)) ∈ lw_all := lw_g (lw_at lw_m1 33 rfl) rfl
theorem q119 : (Jvm.Cond.methodLink "StreamHall$Hall" (3 : Nat) ({ cls := "java/lang/Object", name := "<init>", desc := "()V" } : Jvm.MethodName)) ∈ lw_all := lw_g (lw_at lw_m1 34 rfl) rfl
theorem q120 : (Jvm.Cond.classLink "StreamHall$Hall" (9 : Nat) "StreamHall$Sending") ∈ lw_all := lw_g (lw_at lw_m1 35 rfl) rfl
theorem q122 : (Jvm.Cond.classLink "StreamHall$Hall" (17 : Nat) "StreamHall$Receiving") ∈ lw_all := lw_g (lw_at lw_m1 37 rfl) rfl
theorem q124 : (Jvm.Cond.classLink "StreamHall$Hall" (23 : Nat) "StreamHall$Way") ∈ lw_all := lw_g (lw_at lw_m1 39 rfl) rfl
theorem q127 : (Jvm.Cond.methodLinkNest "StreamHall$Hall" (25 : Nat) ({ cls := "StreamHall$Way", name := "<init>", desc := "()V" } : Jvm.MethodName) "StreamHall") ∈ lw_tbl := lw_at lw_m1 42 rfl
theorem q132 : (Jvm.Cond.fieldLinkNest "StreamHall$Hall" (115 : Nat) "StreamHall$Way" "opened" "I" "StreamHall") ∈ lw_tbl := lw_at lw_m1 47 rfl
theorem q133 : (Jvm.Cond.fieldLinkNest "StreamHall$Hall" (128 : Nat) "StreamHall$Way" "there" "I" "StreamHall") ∈ lw_tbl := lw_at lw_m1 48 rfl
theorem q134 : (Jvm.Cond.fieldLinkNest "StreamHall$Hall" (79 : Nat) "StreamHall$Way" "granted" "I" "StreamHall") ∈ lw_tbl := lw_at lw_m1 49 rfl
theorem q135 : (Jvm.Cond.fieldLinkNest "StreamHall$Hall" (93 : Nat) "StreamHall$Way" "limit" "J" "StreamHall") ∈ lw_tbl := lw_at lw_m1 50 rfl
theorem q137 : (Jvm.Cond.fieldLinkNest "StreamHall$Hall" (118 : Nat) "StreamHall$Way" "refusedAt" "J" "StreamHall") ∈ lw_tbl := lw_at lw_m1 52 rfl
theorem q139 : (Jvm.Cond.fieldLinkNest "StreamHall$Hall" (318 : Nat) "StreamHall$Way" "toldAt" "J" "StreamHall") ∈ lw_tbl := lw_at lw_m1 54 rfl
theorem q140 : (Jvm.Cond.fieldLinkNest "StreamHall$Hall" (135 : Nat) "StreamHall$Way" "tells" "Z" "StreamHall") ∈ lw_tbl := lw_at lw_m1 55 rfl
theorem q156 : (Jvm.Cond.classLink "StreamHall$Hall" (38 : Nat) "StreamHall$Spans") ∈ lw_all := lw_g (lw_at lw_m1 71 rfl) rfl
theorem q158 : (Jvm.Cond.methodLinkNest "StreamHall$Hall" (40 : Nat) ({ cls := "StreamHall$Spans", name := "<init>", desc := "()V" } : Jvm.MethodName) "StreamHall") ∈ lw_tbl := lw_at lw_m1 73 rfl
theorem q163 : (Jvm.Cond.fieldLinkNest "StreamHall$Hall" (328 : Nat) "StreamHall$Spans" "from" "[I" "StreamHall") ∈ lw_tbl := lw_at lw_m1 78 rfl
theorem q165 : (Jvm.Cond.fieldLinkNest "StreamHall$Hall" (331 : Nat) "StreamHall$Spans" "to" "[I" "StreamHall") ∈ lw_tbl := lw_at lw_m1 80 rfl
theorem q167 : (Jvm.Cond.fieldLinkNest "StreamHall$Hall" (361 : Nat) "StreamHall$Spans" "next" "[I" "StreamHall") ∈ lw_tbl := lw_at lw_m1 82 rfl
theorem q183 : (Jvm.Cond.classLink "StreamHall$Hall" (45 : Nat) "StreamHall$Store") ∈ lw_all := lw_g (lw_at lw_m1 98 rfl) rfl
theorem q185 : (Jvm.Cond.methodLinkNest "StreamHall$Hall" (47 : Nat) ({ cls := "StreamHall$Store", name := "<init>", desc := "()V" } : Jvm.MethodName) "StreamHall") ∈ lw_tbl := lw_at lw_m1 100 rfl
theorem q192 : (Jvm.Cond.fieldLinkNest "StreamHall$Hall" (364 : Nat) "StreamHall$Store" "used" "I" "StreamHall") ∈ lw_tbl := lw_at lw_m1 107 rfl
theorem q211 : (Jvm.Cond.classLink "StreamHall$Hall" (52 : Nat) "StreamHall$Blocks") ∈ lw_all := lw_g (lw_at lw_m1 126 rfl) rfl
theorem q213 : (Jvm.Cond.methodLinkNest "StreamHall$Hall" (54 : Nat) ({ cls := "StreamHall$Blocks", name := "<init>", desc := "()V" } : Jvm.MethodName) "StreamHall") ∈ lw_tbl := lw_at lw_m1 128 rfl
theorem q236 : (Jvm.Cond.constantLong "StreamHall$Hall" (59 : Nat) (-1 : Int64)) ∈ lw_all := lw_g (lw_at lw_m1 151 rfl) rfl
theorem q237 : (Jvm.Cond.fieldLink "StreamHall$Hall" (73 : Nat) "StreamHall$Hall" "side" "I") ∈ lw_all := lw_g (lw_at lw_m1 152 rfl) rfl
theorem q238 : (Jvm.Cond.fieldLink "StreamHall$Hall" (11 : Nat) "StreamHall$Hall" "sendings" "[LStreamHall$Sending;") ∈ lw_all := lw_g (lw_at lw_m1 153 rfl) rfl
theorem q239 : (Jvm.Cond.fieldLink "StreamHall$Hall" (19 : Nat) "StreamHall$Hall" "receivings" "[LStreamHall$Receiving;") ∈ lw_all := lw_g (lw_at lw_m1 154 rfl) rfl
theorem q240 : (Jvm.Cond.fieldLink "StreamHall$Hall" (26 : Nat) "StreamHall$Hall" "ways" "[LStreamHall$Way;") ∈ lw_all := lw_g (lw_at lw_m1 155 rfl) rfl
theorem q241 : (Jvm.Cond.fieldLink "StreamHall$Hall" (30 : Nat) "StreamHall$Hall" "grants" "[I") ∈ lw_all := lw_g (lw_at lw_m1 156 rfl) rfl
theorem q242 : (Jvm.Cond.fieldLink "StreamHall$Hall" (34 : Nat) "StreamHall$Hall" "limits" "[J") ∈ lw_all := lw_g (lw_at lw_m1 157 rfl) rfl
theorem q243 : (Jvm.Cond.fieldLink "StreamHall$Hall" (41 : Nat) "StreamHall$Hall" "spans" "LStreamHall$Spans;") ∈ lw_all := lw_g (lw_at lw_m1 158 rfl) rfl
theorem q244 : (Jvm.Cond.fieldLink "StreamHall$Hall" (48 : Nat) "StreamHall$Hall" "store" "LStreamHall$Store;") ∈ lw_all := lw_g (lw_at lw_m1 159 rfl) rfl
theorem q245 : (Jvm.Cond.fieldLink "StreamHall$Hall" (55 : Nat) "StreamHall$Hall" "blocks" "LStreamHall$Blocks;") ∈ lw_all := lw_g (lw_at lw_m1 160 rfl) rfl
theorem q246 : (Jvm.Cond.fieldLink "StreamHall$Hall" (82 : Nat) "StreamHall$Hall" "limitAll" "J") ∈ lw_all := lw_g (lw_at lw_m1 161 rfl) rfl
theorem q247 : (Jvm.Cond.fieldLink "StreamHall$Hall" (61 : Nat) "StreamHall$Hall" "blockedAt" "J") ∈ lw_all := lw_g (lw_at lw_m1 162 rfl) rfl
theorem q248 : (Jvm.Cond.fieldLink "StreamHall$Hall" (310 : Nat) "StreamHall$Hall" "sentAll" "I") ∈ lw_all := lw_g (lw_at lw_m1 163 rfl) rfl
theorem q249 : (Jvm.Cond.fieldLink "StreamHall$Hall" (226 : Nat) "StreamHall$Hall" "receivedAll" "I") ∈ lw_all := lw_g (lw_at lw_m1 164 rfl) rfl
theorem q250 : (Jvm.Cond.fieldLink "StreamHall$Hall" (191 : Nat) "StreamHall$Hall" "consumedAll" "I") ∈ lw_all := lw_g (lw_at lw_m1 165 rfl) rfl
theorem q251 : (Jvm.Cond.fieldLink "StreamHall$Hall" (76 : Nat) "StreamHall$Hall" "grantAll" "I") ∈ lw_all := lw_g (lw_at lw_m1 166 rfl) rfl
theorem q252 : (Jvm.Cond.fieldLink "StreamHall$Hall" (65 : Nat) "StreamHall$Hall" "lastStream" "I") ∈ lw_all := lw_g (lw_at lw_m1 167 rfl) rfl
theorem q253 : (Jvm.Cond.fieldLink "StreamHall$Hall" (208 : Nat) "StreamHall$Hall" "tellsAll" "Z") ∈ lw_all := lw_g (lw_at lw_m1 168 rfl) rfl
theorem q255 : (Jvm.Cond.fieldLink "StreamHall$Hall" (271 : Nat) "StreamHall$Hall" "kind" "I") ∈ lw_all := lw_g (lw_at lw_m1 170 rfl) rfl
theorem q257 : (Jvm.Cond.fieldLink "StreamHall$Hall" (283 : Nat) "StreamHall$Hall" "size" "I") ∈ lw_all := lw_g (lw_at lw_m1 172 rfl) rfl
theorem q259 : (Jvm.Cond.fieldLink "StreamHall$Hall" (274 : Nat) "StreamHall$Hall" "a" "J") ∈ lw_all := lw_g (lw_at lw_m1 174 rfl) rfl
theorem q261 : (Jvm.Cond.fieldLink "StreamHall$Hall" (277 : Nat) "StreamHall$Hall" "b" "J") ∈ lw_all := lw_g (lw_at lw_m1 176 rfl) rfl
theorem q263 : (Jvm.Cond.fieldLink "StreamHall$Hall" (280 : Nat) "StreamHall$Hall" "c" "J") ∈ lw_all := lw_g (lw_at lw_m1 178 rfl) rfl
theorem q264 : (Jvm.Cond.fieldLink "StreamHall$Hall" (69 : Nat) "StreamHall$Hall" "row" "[B") ∈ lw_all := lw_g (lw_at lw_m1 179 rfl) rfl
theorem q266 : (Jvm.Cond.laysFinal "StreamHall$Hall" "StreamHall$Hall" "side" "I") ∈ lw_all := lw_g (lw_at lw_m1 181 rfl) rfl
theorem q267 : (Jvm.Cond.soleField "StreamHall$Hall" "side") ∈ lw_all := lw_g (lw_at lw_m1 182 rfl) rfl
theorem q268 : (Jvm.Cond.laysFinal "StreamHall$Hall" "StreamHall$Hall" "sendings" "[LStreamHall$Sending;") ∈ lw_all := lw_g (lw_at lw_m1 183 rfl) rfl
theorem q269 : (Jvm.Cond.soleField "StreamHall$Hall" "sendings") ∈ lw_all := lw_g (lw_at lw_m1 184 rfl) rfl
theorem q270 : (Jvm.Cond.laysFinal "StreamHall$Hall" "StreamHall$Hall" "receivings" "[LStreamHall$Receiving;") ∈ lw_all := lw_g (lw_at lw_m1 185 rfl) rfl
theorem q271 : (Jvm.Cond.soleField "StreamHall$Hall" "receivings") ∈ lw_all := lw_g (lw_at lw_m1 186 rfl) rfl
theorem q272 : (Jvm.Cond.laysFinal "StreamHall$Hall" "StreamHall$Hall" "ways" "[LStreamHall$Way;") ∈ lw_all := lw_g (lw_at lw_m1 187 rfl) rfl
theorem q273 : (Jvm.Cond.soleField "StreamHall$Hall" "ways") ∈ lw_all := lw_g (lw_at lw_m1 188 rfl) rfl
theorem q274 : (Jvm.Cond.laysFinal "StreamHall$Hall" "StreamHall$Hall" "grants" "[I") ∈ lw_all := lw_g (lw_at lw_m1 189 rfl) rfl
theorem q275 : (Jvm.Cond.soleField "StreamHall$Hall" "grants") ∈ lw_all := lw_g (lw_at lw_m1 190 rfl) rfl
theorem q276 : (Jvm.Cond.laysFinal "StreamHall$Hall" "StreamHall$Hall" "limits" "[J") ∈ lw_all := lw_g (lw_at lw_m1 191 rfl) rfl
theorem q277 : (Jvm.Cond.soleField "StreamHall$Hall" "limits") ∈ lw_all := lw_g (lw_at lw_m1 192 rfl) rfl
theorem q278 : (Jvm.Cond.laysFinal "StreamHall$Hall" "StreamHall$Hall" "spans" "LStreamHall$Spans;") ∈ lw_all := lw_g (lw_at lw_m1 193 rfl) rfl
theorem q279 : (Jvm.Cond.soleField "StreamHall$Hall" "spans") ∈ lw_all := lw_g (lw_at lw_m1 194 rfl) rfl
theorem q280 : (Jvm.Cond.laysFinal "StreamHall$Hall" "StreamHall$Hall" "store" "LStreamHall$Store;") ∈ lw_all := lw_g (lw_at lw_m1 195 rfl) rfl
theorem q281 : (Jvm.Cond.soleField "StreamHall$Hall" "store") ∈ lw_all := lw_g (lw_at lw_m1 196 rfl) rfl
theorem q282 : (Jvm.Cond.laysFinal "StreamHall$Hall" "StreamHall$Hall" "blocks" "LStreamHall$Blocks;") ∈ lw_all := lw_g (lw_at lw_m1 197 rfl) rfl
theorem q283 : (Jvm.Cond.soleField "StreamHall$Hall" "blocks") ∈ lw_all := lw_g (lw_at lw_m1 198 rfl) rfl
theorem q284 : (Jvm.Cond.lays "StreamHall$Hall" "StreamHall$Hall" "limitAll" "J") ∈ lw_all := lw_g (lw_at lw_m1 199 rfl) rfl
theorem q285 : (Jvm.Cond.soleField "StreamHall$Hall" "limitAll") ∈ lw_all := lw_g (lw_at lw_m1 200 rfl) rfl
theorem q286 : (Jvm.Cond.lays "StreamHall$Hall" "StreamHall$Hall" "blockedAt" "J") ∈ lw_all := lw_g (lw_at lw_m1 201 rfl) rfl
theorem q287 : (Jvm.Cond.soleField "StreamHall$Hall" "blockedAt") ∈ lw_all := lw_g (lw_at lw_m1 202 rfl) rfl
theorem q288 : (Jvm.Cond.lays "StreamHall$Hall" "StreamHall$Hall" "sentAll" "I") ∈ lw_all := lw_g (lw_at lw_m1 203 rfl) rfl
theorem q289 : (Jvm.Cond.soleField "StreamHall$Hall" "sentAll") ∈ lw_all := lw_g (lw_at lw_m1 204 rfl) rfl
theorem q290 : (Jvm.Cond.lays "StreamHall$Hall" "StreamHall$Hall" "receivedAll" "I") ∈ lw_all := lw_g (lw_at lw_m1 205 rfl) rfl
theorem q291 : (Jvm.Cond.soleField "StreamHall$Hall" "receivedAll") ∈ lw_all := lw_g (lw_at lw_m1 206 rfl) rfl
theorem q292 : (Jvm.Cond.lays "StreamHall$Hall" "StreamHall$Hall" "consumedAll" "I") ∈ lw_all := lw_g (lw_at lw_m1 207 rfl) rfl
theorem q293 : (Jvm.Cond.soleField "StreamHall$Hall" "consumedAll") ∈ lw_all := lw_g (lw_at lw_m1 208 rfl) rfl
theorem q294 : (Jvm.Cond.lays "StreamHall$Hall" "StreamHall$Hall" "grantAll" "I") ∈ lw_all := lw_g (lw_at lw_m1 209 rfl) rfl
theorem q295 : (Jvm.Cond.soleField "StreamHall$Hall" "grantAll") ∈ lw_all := lw_g (lw_at lw_m1 210 rfl) rfl
theorem q296 : (Jvm.Cond.lays "StreamHall$Hall" "StreamHall$Hall" "lastStream" "I") ∈ lw_all := lw_g (lw_at lw_m1 211 rfl) rfl
theorem q297 : (Jvm.Cond.soleField "StreamHall$Hall" "lastStream") ∈ lw_all := lw_g (lw_at lw_m1 212 rfl) rfl
theorem q298 : (Jvm.Cond.lays "StreamHall$Hall" "StreamHall$Hall" "tellsAll" "Z") ∈ lw_all := lw_g (lw_at lw_m1 213 rfl) rfl
theorem q299 : (Jvm.Cond.soleField "StreamHall$Hall" "tellsAll") ∈ lw_all := lw_g (lw_at lw_m1 214 rfl) rfl
theorem q300 : (Jvm.Cond.lays "StreamHall$Hall" "StreamHall$Hall" "kind" "I") ∈ lw_all := lw_g (lw_at lw_m1 215 rfl) rfl
theorem q301 : (Jvm.Cond.soleField "StreamHall$Hall" "kind") ∈ lw_all := lw_g (lw_at lw_m1 216 rfl) rfl
theorem q302 : (Jvm.Cond.lays "StreamHall$Hall" "StreamHall$Hall" "size" "I") ∈ lw_all := lw_g (lw_at lw_m1 217 rfl) rfl
theorem q303 : (Jvm.Cond.soleField "StreamHall$Hall" "size") ∈ lw_all := lw_g (lw_at lw_m1 218 rfl) rfl
theorem q304 : (Jvm.Cond.lays "StreamHall$Hall" "StreamHall$Hall" "a" "J") ∈ lw_all := lw_g (lw_at lw_m1 219 rfl) rfl
theorem q305 : (Jvm.Cond.soleField "StreamHall$Hall" "a") ∈ lw_all := lw_g (lw_at lw_m1 220 rfl) rfl
theorem q306 : (Jvm.Cond.lays "StreamHall$Hall" "StreamHall$Hall" "b" "J") ∈ lw_all := lw_g (lw_at lw_m1 221 rfl) rfl
theorem q307 : (Jvm.Cond.soleField "StreamHall$Hall" "b") ∈ lw_all := lw_g (lw_at lw_m1 222 rfl) rfl
theorem q308 : (Jvm.Cond.lays "StreamHall$Hall" "StreamHall$Hall" "c" "J") ∈ lw_all := lw_g (lw_at lw_m1 223 rfl) rfl
theorem q309 : (Jvm.Cond.soleField "StreamHall$Hall" "c") ∈ lw_all := lw_g (lw_at lw_m1 224 rfl) rfl
theorem q310 : (Jvm.Cond.laysFinal "StreamHall$Hall" "StreamHall$Hall" "row" "[B") ∈ lw_all := lw_g (lw_at lw_m1 225 rfl) rfl
theorem q311 : (Jvm.Cond.soleField "StreamHall$Hall" "row") ∈ lw_all := lw_g (lw_at lw_m1 226 rfl) rfl
theorem q312 : (Jvm.Cond.superclass "StreamHall$Hall" "java/lang/Object") ∈ lw_all := lw_g (lw_at lw_m1 227 rfl) rfl
theorem q359 : (Jvm.Cond.instanceMethod ({ cls := "StreamHall$Hall", name := "grants", desc := "(IIIIII)V" } : Jvm.MethodName)) ∈ lw_all := lw_g (lw_at lw_m2 34 rfl) rfl
theorem q360 : (Jvm.Cond.selects "StreamHall$Hall" ({ cls := "StreamHall$Hall", name := "grants", desc := "(IIIIII)V" } : Jvm.MethodName) ({ cls := "StreamHall$Hall", name := "grants", desc := "(IIIIII)V" } : Jvm.MethodName)) ∈ lw_all := lw_g (lw_at lw_m2 35 rfl) rfl
theorem q361 : (Jvm.Cond.code ({ cls := "StreamHall$Hall", name := "grants", desc := "(IIIIII)V" } : Jvm.MethodName) prog_3_method_2_code (7 : Nat) (Option.none : Option Jvm.ClassFile.FieldType)) ∈ lw_all := lw_g (lw_at lw_m2 36 rfl) rfl
theorem q495 : (Jvm.Cond.instanceMethod ({ cls := "StreamHall$Hall", name := "limits", desc := "(JJJJJJ)V" } : Jvm.MethodName)) ∈ lw_all := lw_g (lw_at lw_m2 170 rfl) rfl
theorem q496 : (Jvm.Cond.selects "StreamHall$Hall" ({ cls := "StreamHall$Hall", name := "limits", desc := "(JJJJJJ)V" } : Jvm.MethodName) ({ cls := "StreamHall$Hall", name := "limits", desc := "(JJJJJJ)V" } : Jvm.MethodName)) ∈ lw_all := lw_g (lw_at lw_m2 171 rfl) rfl
theorem q497 : (Jvm.Cond.code ({ cls := "StreamHall$Hall", name := "limits", desc := "(JJJJJJ)V" } : Jvm.MethodName) prog_3_method_3_code (13 : Nat) (Option.none : Option Jvm.ClassFile.FieldType)) ∈ lw_all := lw_g (lw_at lw_m2 172 rfl) rfl
theorem q498 : (Jvm.Cond.constantLong "StreamHall$Hall" (85 : Nat) (64 : Int64)) ∈ lw_all := lw_g (lw_at lw_m2 173 rfl) rfl
theorem q499 : (Jvm.Cond.methodLink "StreamHall$Hall" (87 : Nat) ({ cls := "java/lang/Math", name := "min", desc := "(JJ)J" } : Jvm.MethodName)) ∈ lw_all := lw_g (lw_at lw_m2 174 rfl) rfl
theorem q522 : (Jvm.Cond.instanceMethod ({ cls := "StreamHall$Hall", name := "open", desc := "(Z)I" } : Jvm.MethodName)) ∈ lw_all := lw_g (lw_at lw_m2 197 rfl) rfl
theorem q523 : (Jvm.Cond.selects "StreamHall$Hall" ({ cls := "StreamHall$Hall", name := "open", desc := "(Z)I" } : Jvm.MethodName) ({ cls := "StreamHall$Hall", name := "open", desc := "(Z)I" } : Jvm.MethodName)) ∈ lw_all := lw_g (lw_at lw_m2 198 rfl) rfl
theorem q524 : (Jvm.Cond.code ({ cls := "StreamHall$Hall", name := "open", desc := "(Z)I" } : Jvm.MethodName) prog_3_method_11_code (4 : Nat) (Option.some Jvm.ClassFile.FieldType.int)) ∈ lw_all := lw_g (lw_at lw_m2 199 rfl) rfl
theorem q525 : (Jvm.Cond.methodLink "StreamHall$Hall" (121 : Nat) ({ cls := "StreamHall$Hall", name := "begin", desc := "(I)V" } : Jvm.MethodName)) ∈ lw_all := lw_g (lw_at lw_m2 200 rfl) rfl
theorem q526 : (Jvm.Cond.privateMethod ({ cls := "StreamHall$Hall", name := "begin", desc := "(I)V" } : Jvm.MethodName)) ∈ lw_tbl := lw_at lw_m2 201 rfl
theorem q527 : (Jvm.Cond.instanceMethod ({ cls := "StreamHall$Hall", name := "begin", desc := "(I)V" } : Jvm.MethodName)) ∈ lw_all := lw_g (lw_at lw_m2 202 rfl) rfl
theorem q528 : (Jvm.Cond.code ({ cls := "StreamHall$Hall", name := "begin", desc := "(I)V" } : Jvm.MethodName) prog_3_method_10_code (2 : Nat) (Option.none : Option Jvm.ClassFile.FieldType)) ∈ lw_all := lw_g (lw_at lw_m2 203 rfl) rfl
theorem q529 : (Jvm.Cond.methodLink "StreamHall$Hall" (98 : Nat) ({ cls := "StreamHall$Hall", name := "isOneWay", desc := "(J)Z" } : Jvm.MethodName)) ∈ lw_all := lw_g (lw_at lw_m2 204 rfl) rfl
theorem q530 : (Jvm.Cond.static ({ cls := "StreamHall$Hall", name := "isOneWay", desc := "(J)Z" } : Jvm.MethodName)) ∈ lw_all := lw_g (lw_at lw_m2 205 rfl) rfl
theorem q531 : (Jvm.Cond.code ({ cls := "StreamHall$Hall", name := "isOneWay", desc := "(J)Z" } : Jvm.MethodName) prog_3_method_5_code (2 : Nat) (Option.some Jvm.ClassFile.FieldType.boolean)) ∈ lw_all := lw_g (lw_at lw_m2 206 rfl) rfl
theorem q532 : (Jvm.Cond.constantLong "StreamHall$Hall" (96 : Nat) (2 : Int64)) ∈ lw_all := lw_g (lw_at lw_m2 207 rfl) rfl
theorem q533 : (Jvm.Cond.methodLink "StreamHall$Hall" (102 : Nat) ({ cls := "StreamHall$Hall", name := "isOwn", desc := "(J)Z" } : Jvm.MethodName)) ∈ lw_all := lw_g (lw_at lw_m2 208 rfl) rfl
theorem q534 : (Jvm.Cond.privateMethod ({ cls := "StreamHall$Hall", name := "isOwn", desc := "(J)Z" } : Jvm.MethodName)) ∈ lw_tbl := lw_at lw_m2 209 rfl
theorem q535 : (Jvm.Cond.instanceMethod ({ cls := "StreamHall$Hall", name := "isOwn", desc := "(J)Z" } : Jvm.MethodName)) ∈ lw_all := lw_g (lw_at lw_m2 210 rfl) rfl
theorem q536 : (Jvm.Cond.code ({ cls := "StreamHall$Hall", name := "isOwn", desc := "(J)Z" } : Jvm.MethodName) prog_3_method_4_code (3 : Nat) (Option.some Jvm.ClassFile.FieldType.boolean)) ∈ lw_all := lw_g (lw_at lw_m2 211 rfl) rfl
theorem q538 : (Jvm.Cond.methodLink "StreamHall$Hall" (105 : Nat) ({ cls := "StreamHall$Hall", name := "rule", desc := "(JZ)I" } : Jvm.MethodName)) ∈ lw_all := lw_g (lw_at lw_m2 213 rfl) rfl
theorem q539 : (Jvm.Cond.privateMethod ({ cls := "StreamHall$Hall", name := "rule", desc := "(JZ)I" } : Jvm.MethodName)) ∈ lw_tbl := lw_at lw_m2 214 rfl
theorem q540 : (Jvm.Cond.instanceMethod ({ cls := "StreamHall$Hall", name := "rule", desc := "(JZ)I" } : Jvm.MethodName)) ∈ lw_all := lw_g (lw_at lw_m2 215 rfl) rfl
theorem q541 : (Jvm.Cond.code ({ cls := "StreamHall$Hall", name := "rule", desc := "(JZ)I" } : Jvm.MethodName) prog_3_method_9_code (4 : Nat) (Option.some Jvm.ClassFile.FieldType.int)) ∈ lw_all := lw_g (lw_at lw_m2 216 rfl) rfl
theorem q542 : (Jvm.Cond.methodLink "StreamHall$Hall" (109 : Nat) ({ cls := "StreamHall$Sending", name := "<init>", desc := "(J)V" } : Jvm.MethodName)) ∈ lw_all := lw_g (lw_at lw_m2 217 rfl) rfl
theorem q548 : (Jvm.Cond.fieldLinkNest "StreamHall$Hall" (150 : Nat) "StreamHall$Sending" "state" "I" "StreamHall") ∈ lw_tbl := lw_at lw_m2 223 rfl
theorem q550 : (Jvm.Cond.fieldLinkNest "StreamHall$Hall" (307 : Nat) "StreamHall$Sending" "written" "I" "StreamHall") ∈ lw_tbl := lw_at lw_m2 225 rfl
theorem q551 : (Jvm.Cond.fieldLinkNest "StreamHall$Hall" (300 : Nat) "StreamHall$Sending" "sent" "I" "StreamHall") ∈ lw_tbl := lw_at lw_m2 226 rfl
theorem q552 : (Jvm.Cond.fieldLinkNest "StreamHall$Hall" (157 : Nat) "StreamHall$Sending" "end" "I" "StreamHall") ∈ lw_tbl := lw_at lw_m2 227 rfl
theorem q558 : (Jvm.Cond.fieldLinkNest "StreamHall$Hall" (325 : Nat) "StreamHall$Sending" "lost" "I" "StreamHall") ∈ lw_tbl := lw_at lw_m2 233 rfl
theorem q560 : (Jvm.Cond.fieldLinkNest "StreamHall$Hall" (352 : Nat) "StreamHall$Sending" "here" "I" "StreamHall") ∈ lw_tbl := lw_at lw_m2 235 rfl
theorem q562 : (Jvm.Cond.fieldLinkNest "StreamHall$Hall" (244 : Nat) "StreamHall$Sending" "limit" "J" "StreamHall") ∈ lw_tbl := lw_at lw_m2 237 rfl
theorem q564 : (Jvm.Cond.fieldLinkNest "StreamHall$Hall" (299 : Nat) "StreamHall$Sending" "code" "J" "StreamHall") ∈ lw_tbl := lw_at lw_m2 239 rfl
theorem q566 : (Jvm.Cond.fieldLinkNest "StreamHall$Hall" (317 : Nat) "StreamHall$Sending" "blockedAt" "J" "StreamHall") ∈ lw_tbl := lw_at lw_m3 1 rfl
theorem q568 : (Jvm.Cond.fieldLinkNest "StreamHall$Hall" (296 : Nat) "StreamHall$Sending" "resets" "Z" "StreamHall") ∈ lw_tbl := lw_at lw_m3 3 rfl
theorem q595 : (Jvm.Cond.methodLink "StreamHall$Hall" (112 : Nat) ({ cls := "StreamHall$Receiving", name := "<init>", desc := "(I)V" } : Jvm.MethodName)) ∈ lw_all := lw_g (lw_at lw_m3 30 rfl) rfl
theorem q600 : (Jvm.Cond.fieldLinkNest "StreamHall$Hall" (211 : Nat) "StreamHall$Receiving" "window" "I" "StreamHall") ∈ lw_tbl := lw_at lw_m3 35 rfl
theorem q602 : (Jvm.Cond.fieldLinkNest "StreamHall$Hall" (180 : Nat) "StreamHall$Receiving" "state" "I" "StreamHall") ∈ lw_tbl := lw_at lw_m3 37 rfl
theorem q605 : (Jvm.Cond.fieldLinkNest "StreamHall$Hall" (184 : Nat) "StreamHall$Receiving" "read" "I" "StreamHall") ∈ lw_tbl := lw_at lw_m3 40 rfl
theorem q608 : (Jvm.Cond.fieldLinkNest "StreamHall$Hall" (181 : Nat) "StreamHall$Receiving" "ready" "I" "StreamHall") ∈ lw_tbl := lw_at lw_m3 43 rfl
theorem q609 : (Jvm.Cond.fieldLinkNest "StreamHall$Hall" (220 : Nat) "StreamHall$Receiving" "highest" "I" "StreamHall") ∈ lw_tbl := lw_at lw_m3 44 rfl
theorem q611 : (Jvm.Cond.fieldLinkNest "StreamHall$Hall" (223 : Nat) "StreamHall$Receiving" "size" "I" "StreamHall") ∈ lw_tbl := lw_at lw_m3 46 rfl
theorem q613 : (Jvm.Cond.fieldLinkNest "StreamHall$Hall" (214 : Nat) "StreamHall$Receiving" "grant" "I" "StreamHall") ∈ lw_tbl := lw_at lw_m3 48 rfl
theorem q616 : (Jvm.Cond.fieldLinkNest "StreamHall$Hall" (261 : Nat) "StreamHall$Receiving" "code" "J" "StreamHall") ∈ lw_tbl := lw_at lw_m3 51 rfl
theorem q617 : (Jvm.Cond.fieldLinkNest "StreamHall$Hall" (177 : Nat) "StreamHall$Receiving" "stopCode" "J" "StreamHall") ∈ lw_tbl := lw_at lw_m3 52 rfl
theorem q618 : (Jvm.Cond.fieldLinkNest "StreamHall$Hall" (217 : Nat) "StreamHall$Receiving" "tells" "Z" "StreamHall") ∈ lw_tbl := lw_at lw_m3 53 rfl
theorem q619 : (Jvm.Cond.fieldLinkNest "StreamHall$Hall" (174 : Nat) "StreamHall$Receiving" "stops" "Z" "StreamHall") ∈ lw_tbl := lw_at lw_m3 54 rfl
theorem q620 : (Jvm.Cond.fieldLinkNest "StreamHall$Hall" (171 : Nat) "StreamHall$Receiving" "stopped" "Z" "StreamHall") ∈ lw_tbl := lw_at lw_m3 55 rfl
theorem q656 : (Jvm.Cond.instanceMethod ({ cls := "StreamHall$Hall", name := "write", desc := "(I[BII)I" } : Jvm.MethodName)) ∈ lw_all := lw_g (lw_at lw_m3 91 rfl) rfl
theorem q657 : (Jvm.Cond.selects "StreamHall$Hall" ({ cls := "StreamHall$Hall", name := "write", desc := "(I[BII)I" } : Jvm.MethodName) ({ cls := "StreamHall$Hall", name := "write", desc := "(I[BII)I" } : Jvm.MethodName)) ∈ lw_all := lw_g (lw_at lw_m3 92 rfl) rfl
theorem q658 : (Jvm.Cond.code ({ cls := "StreamHall$Hall", name := "write", desc := "(I[BII)I" } : Jvm.MethodName) prog_3_method_15_code (6 : Nat) (Option.some Jvm.ClassFile.FieldType.int)) ∈ lw_all := lw_g (lw_at lw_m3 93 rfl) rfl
theorem q659 : (Jvm.Cond.methodLink "StreamHall$Hall" (146 : Nat) ({ cls := "StreamHall$Hall", name := "sending", desc := "(I)LStreamHall$Sending;" } : Jvm.MethodName)) ∈ lw_all := lw_g (lw_at lw_m3 94 rfl) rfl
theorem q660 : (Jvm.Cond.privateMethod ({ cls := "StreamHall$Hall", name := "sending", desc := "(I)LStreamHall$Sending;" } : Jvm.MethodName)) ∈ lw_tbl := lw_at lw_m3 95 rfl
theorem q661 : (Jvm.Cond.instanceMethod ({ cls := "StreamHall$Hall", name := "sending", desc := "(I)LStreamHall$Sending;" } : Jvm.MethodName)) ∈ lw_all := lw_g (lw_at lw_m3 96 rfl) rfl
theorem q662 : (Jvm.Cond.code ({ cls := "StreamHall$Hall", name := "sending", desc := "(I)LStreamHall$Sending;" } : Jvm.MethodName) prog_3_method_7_code (2 : Nat) (Option.some (Jvm.ClassFile.FieldType.object "StreamHall$Sending"))) ∈ lw_all := lw_g (lw_at lw_m3 97 rfl) rfl
theorem q663 : (Jvm.Cond.methodLink "StreamHall$Hall" (153 : Nat) ({ cls := "StreamHall$Store", name := "add", desc := "(LStreamHall$Sending;[BII)I" } : Jvm.MethodName)) ∈ lw_all := lw_g (lw_at lw_m3 98 rfl) rfl
theorem q697 : (Jvm.Cond.instanceMethod ({ cls := "StreamHall$Hall", name := "finish", desc := "(I)Z" } : Jvm.MethodName)) ∈ lw_all := lw_g (lw_at lw_m3 132 rfl) rfl
theorem q698 : (Jvm.Cond.selects "StreamHall$Hall" ({ cls := "StreamHall$Hall", name := "finish", desc := "(I)Z" } : Jvm.MethodName) ({ cls := "StreamHall$Hall", name := "finish", desc := "(I)Z" } : Jvm.MethodName)) ∈ lw_all := lw_g (lw_at lw_m3 133 rfl) rfl
theorem q699 : (Jvm.Cond.code ({ cls := "StreamHall$Hall", name := "finish", desc := "(I)Z" } : Jvm.MethodName) prog_3_method_16_code (3 : Nat) (Option.some Jvm.ClassFile.FieldType.boolean)) ∈ lw_all := lw_g (lw_at lw_m3 134 rfl) rfl
theorem q709 : (Jvm.Cond.instanceMethod ({ cls := "StreamHall$Hall", name := "reset", desc := "(IJ)Z" } : Jvm.MethodName)) ∈ lw_all := lw_g (lw_at lw_m3 144 rfl) rfl
theorem q710 : (Jvm.Cond.selects "StreamHall$Hall" ({ cls := "StreamHall$Hall", name := "reset", desc := "(IJ)Z" } : Jvm.MethodName) ({ cls := "StreamHall$Hall", name := "reset", desc := "(IJ)Z" } : Jvm.MethodName)) ∈ lw_all := lw_g (lw_at lw_m3 145 rfl) rfl
theorem q711 : (Jvm.Cond.code ({ cls := "StreamHall$Hall", name := "reset", desc := "(IJ)Z" } : Jvm.MethodName) prog_3_method_17_code (5 : Nat) (Option.some Jvm.ClassFile.FieldType.boolean)) ∈ lw_all := lw_g (lw_at lw_m3 146 rfl) rfl
theorem q712 : (Jvm.Cond.methodLink "StreamHall$Hall" (160 : Nat) ({ cls := "StreamHall$Sending", name := "isLive", desc := "()Z" } : Jvm.MethodName)) ∈ lw_all := lw_g (lw_at lw_m3 147 rfl) rfl
theorem q716 : (Jvm.Cond.methodLink "StreamHall$Hall" (163 : Nat) ({ cls := "StreamHall$Sending", name := "reset", desc := "(J)V" } : Jvm.MethodName)) ∈ lw_all := lw_g (lw_at lw_m3 151 rfl) rfl
theorem q728 : (Jvm.Cond.instanceMethod ({ cls := "StreamHall$Hall", name := "stop", desc := "(IJ)Z" } : Jvm.MethodName)) ∈ lw_all := lw_g (lw_at lw_m3 163 rfl) rfl
theorem q729 : (Jvm.Cond.selects "StreamHall$Hall" ({ cls := "StreamHall$Hall", name := "stop", desc := "(IJ)Z" } : Jvm.MethodName) ({ cls := "StreamHall$Hall", name := "stop", desc := "(IJ)Z" } : Jvm.MethodName)) ∈ lw_all := lw_g (lw_at lw_m3 164 rfl) rfl
theorem q730 : (Jvm.Cond.code ({ cls := "StreamHall$Hall", name := "stop", desc := "(IJ)Z" } : Jvm.MethodName) prog_3_method_18_code (5 : Nat) (Option.some Jvm.ClassFile.FieldType.boolean)) ∈ lw_all := lw_g (lw_at lw_m3 165 rfl) rfl
theorem q731 : (Jvm.Cond.methodLink "StreamHall$Hall" (166 : Nat) ({ cls := "StreamHall$Hall", name := "receiving", desc := "(I)LStreamHall$Receiving;" } : Jvm.MethodName)) ∈ lw_all := lw_g (lw_at lw_m3 166 rfl) rfl
theorem q732 : (Jvm.Cond.privateMethod ({ cls := "StreamHall$Hall", name := "receiving", desc := "(I)LStreamHall$Receiving;" } : Jvm.MethodName)) ∈ lw_tbl := lw_at lw_m3 167 rfl
theorem q733 : (Jvm.Cond.instanceMethod ({ cls := "StreamHall$Hall", name := "receiving", desc := "(I)LStreamHall$Receiving;" } : Jvm.MethodName)) ∈ lw_all := lw_g (lw_at lw_m3 168 rfl) rfl
theorem q734 : (Jvm.Cond.code ({ cls := "StreamHall$Hall", name := "receiving", desc := "(I)LStreamHall$Receiving;" } : Jvm.MethodName) prog_3_method_8_code (2 : Nat) (Option.some (Jvm.ClassFile.FieldType.object "StreamHall$Receiving"))) ∈ lw_all := lw_g (lw_at lw_m3 169 rfl) rfl
theorem q735 : (Jvm.Cond.methodLink "StreamHall$Hall" (170 : Nat) ({ cls := "StreamHall$Receiving", name := "isLive", desc := "()Z" } : Jvm.MethodName)) ∈ lw_all := lw_g (lw_at lw_m3 170 rfl) rfl
theorem q748 : (Jvm.Cond.instanceMethod ({ cls := "StreamHall$Hall", name := "read", desc := "(I[BII)I" } : Jvm.MethodName)) ∈ lw_all := lw_g (lw_at lw_m3 183 rfl) rfl
theorem q749 : (Jvm.Cond.selects "StreamHall$Hall" ({ cls := "StreamHall$Hall", name := "read", desc := "(I[BII)I" } : Jvm.MethodName) ({ cls := "StreamHall$Hall", name := "read", desc := "(I[BII)I" } : Jvm.MethodName)) ∈ lw_all := lw_g (lw_at lw_m3 184 rfl) rfl
theorem q750 : (Jvm.Cond.code ({ cls := "StreamHall$Hall", name := "read", desc := "(I[BII)I" } : Jvm.MethodName) prog_3_method_19_code (8 : Nat) (Option.some Jvm.ClassFile.FieldType.int)) ∈ lw_all := lw_g (lw_at lw_m3 185 rfl) rfl
theorem q751 : (Jvm.Cond.methodLink "StreamHall$Hall" (139 : Nat) ({ cls := "java/lang/Math", name := "min", desc := "(II)I" } : Jvm.MethodName)) ∈ lw_all := lw_g (lw_at lw_m3 186 rfl) rfl
theorem q752 : (Jvm.Cond.methodLink "StreamHall$Hall" (187 : Nat) ({ cls := "StreamHall$Blocks", name := "take", desc := "(LStreamHall$Receiving;[BII)V" } : Jvm.MethodName)) ∈ lw_all := lw_g (lw_at lw_m3 187 rfl) rfl
theorem q760 : (Jvm.Cond.methodLink "StreamHall$Hall" (194 : Nat) ({ cls := "StreamHall$Hall", name := "grow", desc := "()V" } : Jvm.MethodName)) ∈ lw_all := lw_g (lw_at lw_m3 195 rfl) rfl
theorem q761 : (Jvm.Cond.privateMethod ({ cls := "StreamHall$Hall", name := "grow", desc := "()V" } : Jvm.MethodName)) ∈ lw_tbl := lw_at lw_m3 196 rfl
theorem q762 : (Jvm.Cond.instanceMethod ({ cls := "StreamHall$Hall", name := "grow", desc := "()V" } : Jvm.MethodName)) ∈ lw_all := lw_g (lw_at lw_m3 197 rfl) rfl
theorem q763 : (Jvm.Cond.code ({ cls := "StreamHall$Hall", name := "grow", desc := "()V" } : Jvm.MethodName) prog_3_method_20_code (2 : Nat) (Option.none : Option Jvm.ClassFile.FieldType)) ∈ lw_all := lw_g (lw_at lw_m3 198 rfl) rfl
theorem q764 : (Jvm.Cond.constant "StreamHall$Hall" (207 : Nat) (65536 : Int32)) ∈ lw_all := lw_g (lw_at lw_m3 199 rfl) rfl
theorem q765 : (Jvm.Cond.methodLink "StreamHall$Hall" (197 : Nat) ({ cls := "StreamHall$Hall", name := "grow", desc := "(LStreamHall$Receiving;)V" } : Jvm.MethodName)) ∈ lw_all := lw_g (lw_at lw_m3 200 rfl) rfl
theorem q766 : (Jvm.Cond.privateMethod ({ cls := "StreamHall$Hall", name := "grow", desc := "(LStreamHall$Receiving;)V" } : Jvm.MethodName)) ∈ lw_tbl := lw_at lw_m3 201 rfl
theorem q767 : (Jvm.Cond.instanceMethod ({ cls := "StreamHall$Hall", name := "grow", desc := "(LStreamHall$Receiving;)V" } : Jvm.MethodName)) ∈ lw_all := lw_g (lw_at lw_m3 202 rfl) rfl
theorem q768 : (Jvm.Cond.code ({ cls := "StreamHall$Hall", name := "grow", desc := "(LStreamHall$Receiving;)V" } : Jvm.MethodName) prog_3_method_21_code (3 : Nat) (Option.none : Option Jvm.ClassFile.FieldType)) ∈ lw_all := lw_g (lw_at lw_m3 203 rfl) rfl
theorem q769 : (Jvm.Cond.methodLink "StreamHall$Hall" (131 : Nat) ({ cls := "StreamHall$Hall", name := "isOver", desc := "(I)Z" } : Jvm.MethodName)) ∈ lw_all := lw_g (lw_at lw_m3 204 rfl) rfl
theorem q770 : (Jvm.Cond.privateMethod ({ cls := "StreamHall$Hall", name := "isOver", desc := "(I)Z" } : Jvm.MethodName)) ∈ lw_tbl := lw_at lw_m3 205 rfl
theorem q771 : (Jvm.Cond.instanceMethod ({ cls := "StreamHall$Hall", name := "isOver", desc := "(I)Z" } : Jvm.MethodName)) ∈ lw_all := lw_g (lw_at lw_m3 206 rfl) rfl
theorem q772 : (Jvm.Cond.code ({ cls := "StreamHall$Hall", name := "isOver", desc := "(I)Z" } : Jvm.MethodName) prog_3_method_14_code (2 : Nat) (Option.some Jvm.ClassFile.FieldType.boolean)) ∈ lw_all := lw_g (lw_at lw_m3 207 rfl) rfl
theorem q773 : (Jvm.Cond.methodLink "StreamHall$Hall" (142 : Nat) ({ cls := "StreamHall$Sending", name := "isOver", desc := "()Z" } : Jvm.MethodName)) ∈ lw_all := lw_g (lw_at lw_m3 208 rfl) rfl
theorem q777 : (Jvm.Cond.methodLink "StreamHall$Hall" (145 : Nat) ({ cls := "StreamHall$Receiving", name := "isOver", desc := "()Z" } : Jvm.MethodName)) ∈ lw_all := lw_g (lw_at lw_m3 212 rfl) rfl
theorem q781 : (Jvm.Cond.methodLink "StreamHall$Hall" (200 : Nat) ({ cls := "StreamHall$Receiving", name := "settle", desc := "()V" } : Jvm.MethodName)) ∈ lw_all := lw_g (lw_at lw_m3 216 rfl) rfl
theorem q785 : (Jvm.Cond.methodLink "StreamHall$Hall" (203 : Nat) ({ cls := "StreamHall$Hall", name := "mayBeOver", desc := "(IZ)V" } : Jvm.MethodName)) ∈ lw_all := lw_g (lw_at lw_m3 220 rfl) rfl
theorem q786 : (Jvm.Cond.privateMethod ({ cls := "StreamHall$Hall", name := "mayBeOver", desc := "(IZ)V" } : Jvm.MethodName)) ∈ lw_tbl := lw_at lw_m3 221 rfl
theorem q787 : (Jvm.Cond.instanceMethod ({ cls := "StreamHall$Hall", name := "mayBeOver", desc := "(IZ)V" } : Jvm.MethodName)) ∈ lw_all := lw_g (lw_at lw_m3 222 rfl) rfl
theorem q788 : (Jvm.Cond.code ({ cls := "StreamHall$Hall", name := "mayBeOver", desc := "(IZ)V" } : Jvm.MethodName) prog_3_method_13_code (4 : Nat) (Option.none : Option Jvm.ClassFile.FieldType)) ∈ lw_all := lw_g (lw_at lw_m3 223 rfl) rfl
theorem q789 : (Jvm.Cond.methodLink "StreamHall$Hall" (124 : Nat) ({ cls := "StreamHall$Hall", name := "way", desc := "(J)LStreamHall$Way;" } : Jvm.MethodName)) ∈ lw_all := lw_g (lw_at lw_m3 224 rfl) rfl
theorem q790 : (Jvm.Cond.privateMethod ({ cls := "StreamHall$Hall", name := "way", desc := "(J)LStreamHall$Way;" } : Jvm.MethodName)) ∈ lw_tbl := lw_at lw_m3 225 rfl
theorem q791 : (Jvm.Cond.instanceMethod ({ cls := "StreamHall$Hall", name := "way", desc := "(J)LStreamHall$Way;" } : Jvm.MethodName)) ∈ lw_all := lw_g (lw_at lw_m3 226 rfl) rfl
theorem q792 : (Jvm.Cond.code ({ cls := "StreamHall$Hall", name := "way", desc := "(J)LStreamHall$Way;" } : Jvm.MethodName) prog_3_method_6_code (3 : Nat) (Option.some (Jvm.ClassFile.FieldType.object "StreamHall$Way"))) ∈ lw_all := lw_g (lw_at lw_m3 227 rfl) rfl
theorem q805 : (Jvm.Cond.instanceMethod ({ cls := "StreamHall$Hall", name := "fill", desc := "(I)Z" } : Jvm.MethodName)) ∈ lw_all := lw_g (lw_at lw_m4 0 rfl) rfl
theorem q806 : (Jvm.Cond.selects "StreamHall$Hall" ({ cls := "StreamHall$Hall", name := "fill", desc := "(I)Z" } : Jvm.MethodName) ({ cls := "StreamHall$Hall", name := "fill", desc := "(I)Z" } : Jvm.MethodName)) ∈ lw_all := lw_g (lw_at lw_m4 1 rfl) rfl
theorem q807 : (Jvm.Cond.code ({ cls := "StreamHall$Hall", name := "fill", desc := "(I)Z" } : Jvm.MethodName) prog_3_method_30_code (2 : Nat) (Option.some Jvm.ClassFile.FieldType.boolean)) ∈ lw_all := lw_g (lw_at lw_m4 2 rfl) rfl
theorem q808 : (Jvm.Cond.methodLink "StreamHall$Hall" (284 : Nat) ({ cls := "StreamHall$Hall", name := "fillsEnds", desc := "(I)Z" } : Jvm.MethodName)) ∈ lw_all := lw_g (lw_at lw_m4 3 rfl) rfl
theorem q809 : (Jvm.Cond.privateMethod ({ cls := "StreamHall$Hall", name := "fillsEnds", desc := "(I)Z" } : Jvm.MethodName)) ∈ lw_tbl := lw_at lw_m4 4 rfl
theorem q810 : (Jvm.Cond.instanceMethod ({ cls := "StreamHall$Hall", name := "fillsEnds", desc := "(I)Z" } : Jvm.MethodName)) ∈ lw_all := lw_g (lw_at lw_m4 5 rfl) rfl
theorem q811 : (Jvm.Cond.code ({ cls := "StreamHall$Hall", name := "fillsEnds", desc := "(I)Z" } : Jvm.MethodName) prog_3_method_31_code (4 : Nat) (Option.some Jvm.ClassFile.FieldType.boolean)) ∈ lw_all := lw_g (lw_at lw_m4 6 rfl) rfl
theorem q812 : (Jvm.Cond.methodLink "StreamHall$Hall" (303 : Nat) ({ cls := "StreamHall$Hall", name := "frame", desc := "(IJJJI)Z" } : Jvm.MethodName)) ∈ lw_all := lw_g (lw_at lw_m4 7 rfl) rfl
theorem q813 : (Jvm.Cond.privateMethod ({ cls := "StreamHall$Hall", name := "frame", desc := "(IJJJI)Z" } : Jvm.MethodName)) ∈ lw_tbl := lw_at lw_m4 8 rfl
theorem q814 : (Jvm.Cond.instanceMethod ({ cls := "StreamHall$Hall", name := "frame", desc := "(IJJJI)Z" } : Jvm.MethodName)) ∈ lw_all := lw_g (lw_at lw_m4 9 rfl) rfl
theorem q815 : (Jvm.Cond.code ({ cls := "StreamHall$Hall", name := "frame", desc := "(IJJJI)Z" } : Jvm.MethodName) prog_3_method_28_code (11 : Nat) (Option.some Jvm.ClassFile.FieldType.boolean)) ∈ lw_all := lw_g (lw_at lw_m4 10 rfl) rfl
theorem q816 : (Jvm.Cond.methodLinkNest "StreamHall$Hall" (267 : Nat) ({ cls := "StreamHall", name := "sizeOf", desc := "(J)I" } : Jvm.MethodName) "StreamHall") ∈ lw_tbl := lw_at lw_m4 11 rfl
theorem q821 : (Jvm.Cond.methodLink "StreamHall$Hall" (287 : Nat) ({ cls := "StreamHall$Hall", name := "fillsGrants", desc := "(I)Z" } : Jvm.MethodName)) ∈ lw_all := lw_g (lw_at lw_m4 16 rfl) rfl
theorem q822 : (Jvm.Cond.privateMethod ({ cls := "StreamHall$Hall", name := "fillsGrants", desc := "(I)Z" } : Jvm.MethodName)) ∈ lw_tbl := lw_at lw_m4 17 rfl
theorem q823 : (Jvm.Cond.instanceMethod ({ cls := "StreamHall$Hall", name := "fillsGrants", desc := "(I)Z" } : Jvm.MethodName)) ∈ lw_all := lw_g (lw_at lw_m4 18 rfl) rfl
theorem q824 : (Jvm.Cond.code ({ cls := "StreamHall$Hall", name := "fillsGrants", desc := "(I)Z" } : Jvm.MethodName) prog_3_method_32_code (4 : Nat) (Option.some Jvm.ClassFile.FieldType.boolean)) ∈ lw_all := lw_g (lw_at lw_m4 19 rfl) rfl
theorem q825 : (Jvm.Cond.methodLink "StreamHall$Hall" (290 : Nat) ({ cls := "StreamHall$Hall", name := "fillsBlocked", desc := "(I)Z" } : Jvm.MethodName)) ∈ lw_all := lw_g (lw_at lw_m4 20 rfl) rfl
theorem q826 : (Jvm.Cond.privateMethod ({ cls := "StreamHall$Hall", name := "fillsBlocked", desc := "(I)Z" } : Jvm.MethodName)) ∈ lw_tbl := lw_at lw_m4 21 rfl
theorem q827 : (Jvm.Cond.instanceMethod ({ cls := "StreamHall$Hall", name := "fillsBlocked", desc := "(I)Z" } : Jvm.MethodName)) ∈ lw_all := lw_g (lw_at lw_m4 22 rfl) rfl
theorem q828 : (Jvm.Cond.code ({ cls := "StreamHall$Hall", name := "fillsBlocked", desc := "(I)Z" } : Jvm.MethodName) prog_3_method_34_code (5 : Nat) (Option.some Jvm.ClassFile.FieldType.boolean)) ∈ lw_all := lw_g (lw_at lw_m4 23 rfl) rfl
theorem q829 : (Jvm.Cond.methodLink "StreamHall$Hall" (313 : Nat) ({ cls := "StreamHall$Hall", name := "waits", desc := "(LStreamHall$Sending;)Z" } : Jvm.MethodName)) ∈ lw_all := lw_g (lw_at lw_m4 24 rfl) rfl
theorem q830 : (Jvm.Cond.static ({ cls := "StreamHall$Hall", name := "waits", desc := "(LStreamHall$Sending;)Z" } : Jvm.MethodName)) ∈ lw_all := lw_g (lw_at lw_m4 25 rfl) rfl
theorem q831 : (Jvm.Cond.code ({ cls := "StreamHall$Hall", name := "waits", desc := "(LStreamHall$Sending;)Z" } : Jvm.MethodName) prog_3_method_33_code (1 : Nat) (Option.some Jvm.ClassFile.FieldType.boolean)) ∈ lw_all := lw_g (lw_at lw_m4 26 rfl) rfl
theorem q832 : (Jvm.Cond.methodLink "StreamHall$Hall" (293 : Nat) ({ cls := "StreamHall$Hall", name := "fillsStream", desc := "(I)Z" } : Jvm.MethodName)) ∈ lw_all := lw_g (lw_at lw_m4 27 rfl) rfl
theorem q833 : (Jvm.Cond.privateMethod ({ cls := "StreamHall$Hall", name := "fillsStream", desc := "(I)Z" } : Jvm.MethodName)) ∈ lw_tbl := lw_at lw_m4 28 rfl
theorem q834 : (Jvm.Cond.instanceMethod ({ cls := "StreamHall$Hall", name := "fillsStream", desc := "(I)Z" } : Jvm.MethodName)) ∈ lw_all := lw_g (lw_at lw_m4 29 rfl) rfl
theorem q835 : (Jvm.Cond.code ({ cls := "StreamHall$Hall", name := "fillsStream", desc := "(I)Z" } : Jvm.MethodName) prog_3_method_35_code (5 : Nat) (Option.some Jvm.ClassFile.FieldType.boolean)) ∈ lw_all := lw_g (lw_at lw_m4 30 rfl) rfl
theorem q836 : (Jvm.Cond.methodLink "StreamHall$Hall" (321 : Nat) ({ cls := "StreamHall$Hall", name := "fills", desc := "(ILStreamHall$Sending;I)Z" } : Jvm.MethodName)) ∈ lw_all := lw_g (lw_at lw_m4 31 rfl) rfl
theorem q837 : (Jvm.Cond.privateMethod ({ cls := "StreamHall$Hall", name := "fills", desc := "(ILStreamHall$Sending;I)Z" } : Jvm.MethodName)) ∈ lw_tbl := lw_at lw_m4 32 rfl
theorem q838 : (Jvm.Cond.instanceMethod ({ cls := "StreamHall$Hall", name := "fills", desc := "(ILStreamHall$Sending;I)Z" } : Jvm.MethodName)) ∈ lw_all := lw_g (lw_at lw_m4 33 rfl) rfl
theorem q839 : (Jvm.Cond.code ({ cls := "StreamHall$Hall", name := "fills", desc := "(ILStreamHall$Sending;I)Z" } : Jvm.MethodName) prog_3_method_36_code (13 : Nat) (Option.some Jvm.ClassFile.FieldType.boolean)) ∈ lw_all := lw_g (lw_at lw_m4 34 rfl) rfl
theorem q840 : (Jvm.Cond.methodLink "StreamHall$Hall" (229 : Nat) ({ cls := "java/lang/Math", name := "max", desc := "(JJ)J" } : Jvm.MethodName)) ∈ lw_all := lw_g (lw_at lw_m4 35 rfl) rfl
theorem q843 : (Jvm.Cond.methodLink "StreamHall$Hall" (334 : Nat) ({ cls := "StreamHall$Store", name := "copy", desc := "(LStreamHall$Sending;I[BI)V" } : Jvm.MethodName)) ∈ lw_all := lw_g (lw_at lw_m4 38 rfl) rfl
theorem q848 : (Jvm.Cond.methodLink "StreamHall$Hall" (338 : Nat) ({ cls := "StreamHall$Spans", name := "cut", desc := "(III)I" } : Jvm.MethodName)) ∈ lw_all := lw_g (lw_at lw_m4 43 rfl) rfl
theorem q865 : (Jvm.Cond.methodLink "StreamHall$Hall" (232 : Nat) ({ cls := "java/lang/Math", name := "max", desc := "(II)I" } : Jvm.MethodName)) ∈ lw_all := lw_g (lw_at lw_m4 60 rfl) rfl
theorem q867 : (Jvm.Cond.instanceMethod ({ cls := "StreamHall$Hall", name := "bytes", desc := "()I" } : Jvm.MethodName)) ∈ lw_all := lw_g (lw_at lw_m4 62 rfl) rfl
theorem q868 : (Jvm.Cond.selects "StreamHall$Hall" ({ cls := "StreamHall$Hall", name := "bytes", desc := "()I" } : Jvm.MethodName) ({ cls := "StreamHall$Hall", name := "bytes", desc := "()I" } : Jvm.MethodName)) ∈ lw_all := lw_g (lw_at lw_m4 63 rfl) rfl
theorem q869 : (Jvm.Cond.code ({ cls := "StreamHall$Hall", name := "bytes", desc := "()I" } : Jvm.MethodName) prog_3_method_29_code (2 : Nat) (Option.some Jvm.ClassFile.FieldType.int)) ∈ lw_all := lw_g (lw_at lw_m4 64 rfl) rfl
theorem q903 : (Jvm.Cond.instanceMethod ({ cls := "StreamHall$Hall", name := "take", desc := "(IJJJ[BII)I" } : Jvm.MethodName)) ∈ lw_all := lw_g (lw_at lw_m4 98 rfl) rfl
theorem q904 : (Jvm.Cond.selects "StreamHall$Hall" ({ cls := "StreamHall$Hall", name := "take", desc := "(IJJJ[BII)I" } : Jvm.MethodName) ({ cls := "StreamHall$Hall", name := "take", desc := "(IJJJ[BII)I" } : Jvm.MethodName)) ∈ lw_all := lw_g (lw_at lw_m4 99 rfl) rfl
theorem q905 : (Jvm.Cond.code ({ cls := "StreamHall$Hall", name := "take", desc := "(IJJJ[BII)I" } : Jvm.MethodName) prog_3_method_25_code (14 : Nat) (Option.some Jvm.ClassFile.FieldType.int)) ∈ lw_all := lw_g (lw_at lw_m4 100 rfl) rfl
theorem q906 : (Jvm.Cond.methodLink "StreamHall$Hall" (234 : Nat) ({ cls := "StreamHall$Hall", name := "allowed", desc := "(JZ)I" } : Jvm.MethodName)) ∈ lw_all := lw_g (lw_at lw_m4 101 rfl) rfl
theorem q907 : (Jvm.Cond.privateMethod ({ cls := "StreamHall$Hall", name := "allowed", desc := "(JZ)I" } : Jvm.MethodName)) ∈ lw_tbl := lw_at lw_m4 102 rfl
theorem q908 : (Jvm.Cond.instanceMethod ({ cls := "StreamHall$Hall", name := "allowed", desc := "(JZ)I" } : Jvm.MethodName)) ∈ lw_all := lw_g (lw_at lw_m4 103 rfl) rfl
theorem q909 : (Jvm.Cond.code ({ cls := "StreamHall$Hall", name := "allowed", desc := "(JZ)I" } : Jvm.MethodName) prog_3_method_22_code (6 : Nat) (Option.some Jvm.ClassFile.FieldType.int)) ∈ lw_all := lw_g (lw_at lw_m4 104 rfl) rfl
theorem q910 : (Jvm.Cond.constantLong "StreamHall$Hall" (218 : Nat) (4 : Int64)) ∈ lw_all := lw_g (lw_at lw_m4 105 rfl) rfl
theorem q911 : (Jvm.Cond.methodLink "StreamHall$Hall" (237 : Nat) ({ cls := "StreamHall$Hall", name := "fits", desc := "(IJZ)I" } : Jvm.MethodName)) ∈ lw_all := lw_g (lw_at lw_m4 106 rfl) rfl
theorem q912 : (Jvm.Cond.privateMethod ({ cls := "StreamHall$Hall", name := "fits", desc := "(IJZ)I" } : Jvm.MethodName)) ∈ lw_tbl := lw_at lw_m4 107 rfl
theorem q913 : (Jvm.Cond.instanceMethod ({ cls := "StreamHall$Hall", name := "fits", desc := "(IJZ)I" } : Jvm.MethodName)) ∈ lw_all := lw_g (lw_at lw_m4 108 rfl) rfl
theorem q914 : (Jvm.Cond.code ({ cls := "StreamHall$Hall", name := "fits", desc := "(IJZ)I" } : Jvm.MethodName) prog_3_method_23_code (9 : Nat) (Option.some Jvm.ClassFile.FieldType.int)) ∈ lw_all := lw_g (lw_at lw_m4 109 rfl) rfl
theorem q915 : (Jvm.Cond.methodLink "StreamHall$Hall" (241 : Nat) ({ cls := "StreamHall$Hall", name := "come", desc := "(I)V" } : Jvm.MethodName)) ∈ lw_all := lw_g (lw_at lw_m4 110 rfl) rfl
theorem q916 : (Jvm.Cond.privateMethod ({ cls := "StreamHall$Hall", name := "come", desc := "(I)V" } : Jvm.MethodName)) ∈ lw_tbl := lw_at lw_m4 111 rfl
theorem q917 : (Jvm.Cond.instanceMethod ({ cls := "StreamHall$Hall", name := "come", desc := "(I)V" } : Jvm.MethodName)) ∈ lw_all := lw_g (lw_at lw_m4 112 rfl) rfl
theorem q918 : (Jvm.Cond.code ({ cls := "StreamHall$Hall", name := "come", desc := "(I)V" } : Jvm.MethodName) prog_3_method_12_code (3 : Nat) (Option.none : Option Jvm.ClassFile.FieldType)) ∈ lw_all := lw_g (lw_at lw_m4 113 rfl) rfl
theorem q919 : (Jvm.Cond.methodLink "StreamHall$Hall" (245 : Nat) ({ cls := "StreamHall$Hall", name := "comes", desc := "(LStreamHall$Receiving;IZ[BII)V" } : Jvm.MethodName)) ∈ lw_all := lw_g (lw_at lw_m4 114 rfl) rfl
theorem q920 : (Jvm.Cond.privateMethod ({ cls := "StreamHall$Hall", name := "comes", desc := "(LStreamHall$Receiving;IZ[BII)V" } : Jvm.MethodName)) ∈ lw_tbl := lw_at lw_m4 115 rfl
theorem q921 : (Jvm.Cond.instanceMethod ({ cls := "StreamHall$Hall", name := "comes", desc := "(LStreamHall$Receiving;IZ[BII)V" } : Jvm.MethodName)) ∈ lw_all := lw_g (lw_at lw_m4 116 rfl) rfl
theorem q922 : (Jvm.Cond.code ({ cls := "StreamHall$Hall", name := "comes", desc := "(LStreamHall$Receiving;IZ[BII)V" } : Jvm.MethodName) prog_3_method_26_code (7 : Nat) (Option.none : Option Jvm.ClassFile.FieldType)) ∈ lw_all := lw_g (lw_at lw_m4 117 rfl) rfl
theorem q923 : (Jvm.Cond.methodLink "StreamHall$Hall" (253 : Nat) ({ cls := "StreamHall$Hall", name := "reach", desc := "(LStreamHall$Receiving;I)V" } : Jvm.MethodName)) ∈ lw_all := lw_g (lw_at lw_m4 118 rfl) rfl
theorem q924 : (Jvm.Cond.privateMethod ({ cls := "StreamHall$Hall", name := "reach", desc := "(LStreamHall$Receiving;I)V" } : Jvm.MethodName)) ∈ lw_tbl := lw_at lw_m4 119 rfl
theorem q925 : (Jvm.Cond.instanceMethod ({ cls := "StreamHall$Hall", name := "reach", desc := "(LStreamHall$Receiving;I)V" } : Jvm.MethodName)) ∈ lw_all := lw_g (lw_at lw_m4 120 rfl) rfl
theorem q926 : (Jvm.Cond.code ({ cls := "StreamHall$Hall", name := "reach", desc := "(LStreamHall$Receiving;I)V" } : Jvm.MethodName) prog_3_method_24_code (3 : Nat) (Option.none : Option Jvm.ClassFile.FieldType)) ∈ lw_all := lw_g (lw_at lw_m4 121 rfl) rfl
theorem q927 : (Jvm.Cond.methodLink "StreamHall$Hall" (257 : Nat) ({ cls := "StreamHall$Blocks", name := "put", desc := "(LStreamHall$Receiving;I[BII)V" } : Jvm.MethodName)) ∈ lw_all := lw_g (lw_at lw_m4 122 rfl) rfl
theorem q957 : (Jvm.Cond.methodLink "StreamHall$Hall" (249 : Nat) ({ cls := "StreamHall$Hall", name := "isReset", desc := "(LStreamHall$Receiving;JI)V" } : Jvm.MethodName)) ∈ lw_all := lw_g (lw_at lw_m4 152 rfl) rfl
theorem q958 : (Jvm.Cond.privateMethod ({ cls := "StreamHall$Hall", name := "isReset", desc := "(LStreamHall$Receiving;JI)V" } : Jvm.MethodName)) ∈ lw_tbl := lw_at lw_m4 153 rfl
theorem q959 : (Jvm.Cond.instanceMethod ({ cls := "StreamHall$Hall", name := "isReset", desc := "(LStreamHall$Receiving;JI)V" } : Jvm.MethodName)) ∈ lw_all := lw_g (lw_at lw_m4 154 rfl) rfl
theorem q960 : (Jvm.Cond.code ({ cls := "StreamHall$Hall", name := "isReset", desc := "(LStreamHall$Receiving;JI)V" } : Jvm.MethodName) prog_3_method_27_code (5 : Nat) (Option.none : Option Jvm.ClassFile.FieldType)) ∈ lw_all := lw_g (lw_at lw_m4 155 rfl) rfl
theorem q961 : (Jvm.Cond.methodLink "StreamHall$Hall" (264 : Nat) ({ cls := "StreamHall$Blocks", name := "clear", desc := "(LStreamHall$Receiving;)V" } : Jvm.MethodName)) ∈ lw_all := lw_g (lw_at lw_m4 156 rfl) rfl
theorem q973 : (Jvm.Cond.instanceMethod ({ cls := "StreamHall$Hall", name := "gone", desc := "(IJJIJZ)V" } : Jvm.MethodName)) ∈ lw_all := lw_g (lw_at lw_m4 168 rfl) rfl
theorem q974 : (Jvm.Cond.selects "StreamHall$Hall" ({ cls := "StreamHall$Hall", name := "gone", desc := "(IJJIJZ)V" } : Jvm.MethodName) ({ cls := "StreamHall$Hall", name := "gone", desc := "(IJJIJZ)V" } : Jvm.MethodName)) ∈ lw_all := lw_g (lw_at lw_m4 169 rfl) rfl
theorem q975 : (Jvm.Cond.code ({ cls := "StreamHall$Hall", name := "gone", desc := "(IJJIJZ)V" } : Jvm.MethodName) prog_3_method_37_code (12 : Nat) (Option.none : Option Jvm.ClassFile.FieldType)) ∈ lw_all := lw_g (lw_at lw_m4 170 rfl) rfl
theorem q976 : (Jvm.Cond.constantLong "StreamHall$Hall" (342 : Nat) (256 : Int64)) ∈ lw_all := lw_g (lw_at lw_m4 171 rfl) rfl
theorem q977 : (Jvm.Cond.methodLink "StreamHall$Hall" (344 : Nat) ({ cls := "StreamHall$Hall", name := "isGone", desc := "(LStreamHall$Sending;IIZZ)V" } : Jvm.MethodName)) ∈ lw_all := lw_g (lw_at lw_m4 172 rfl) rfl
theorem q978 : (Jvm.Cond.privateMethod ({ cls := "StreamHall$Hall", name := "isGone", desc := "(LStreamHall$Sending;IIZZ)V" } : Jvm.MethodName)) ∈ lw_tbl := lw_at lw_m4 173 rfl
theorem q979 : (Jvm.Cond.instanceMethod ({ cls := "StreamHall$Hall", name := "isGone", desc := "(LStreamHall$Sending;IIZZ)V" } : Jvm.MethodName)) ∈ lw_all := lw_g (lw_at lw_m4 174 rfl) rfl
theorem q980 : (Jvm.Cond.code ({ cls := "StreamHall$Hall", name := "isGone", desc := "(LStreamHall$Sending;IIZZ)V" } : Jvm.MethodName) prog_3_method_38_code (7 : Nat) (Option.none : Option Jvm.ClassFile.FieldType)) ∈ lw_all := lw_g (lw_at lw_m4 175 rfl) rfl
theorem q981 : (Jvm.Cond.methodLink "StreamHall$Hall" (355 : Nat) ({ cls := "StreamHall$Spans", name := "add", desc := "(III)I" } : Jvm.MethodName)) ∈ lw_all := lw_g (lw_at lw_m4 176 rfl) rfl
theorem q987 : (Jvm.Cond.methodLink "StreamHall$Hall" (357 : Nat) ({ cls := "StreamHall$Spans", name := "count", desc := "(I)I" } : Jvm.MethodName)) ∈ lw_all := lw_g (lw_at lw_m4 182 rfl) rfl
theorem q991 : (Jvm.Cond.methodLink "StreamHall$Hall" (348 : Nat) ({ cls := "StreamHall$Hall", name := "isLost", desc := "(IIJJ)V" } : Jvm.MethodName)) ∈ lw_all := lw_g (lw_at lw_m4 186 rfl) rfl
theorem q992 : (Jvm.Cond.privateMethod ({ cls := "StreamHall$Hall", name := "isLost", desc := "(IIJJ)V" } : Jvm.MethodName)) ∈ lw_tbl := lw_at lw_m4 187 rfl
theorem q993 : (Jvm.Cond.instanceMethod ({ cls := "StreamHall$Hall", name := "isLost", desc := "(IIJJ)V" } : Jvm.MethodName)) ∈ lw_all := lw_g (lw_at lw_m4 188 rfl) rfl
theorem q994 : (Jvm.Cond.code ({ cls := "StreamHall$Hall", name := "isLost", desc := "(IIJJ)V" } : Jvm.MethodName) prog_3_method_39_code (7 : Nat) (Option.none : Option Jvm.ClassFile.FieldType)) ∈ lw_all := lw_g (lw_at lw_m4 189 rfl) rfl
theorem q1038 : (Jvm.Cond.instanceMethod ({ cls := "StreamHall$Hall", name := "look", desc := "(II)J" } : Jvm.MethodName)) ∈ lw_all := lw_g (lw_at lw_m4 233 rfl) rfl
theorem q1039 : (Jvm.Cond.selects "StreamHall$Hall" ({ cls := "StreamHall$Hall", name := "look", desc := "(II)J" } : Jvm.MethodName) ({ cls := "StreamHall$Hall", name := "look", desc := "(II)J" } : Jvm.MethodName)) ∈ lw_all := lw_g (lw_at lw_m4 234 rfl) rfl
theorem q1040 : (Jvm.Cond.code ({ cls := "StreamHall$Hall", name := "look", desc := "(II)J" } : Jvm.MethodName) prog_3_method_40_code (5 : Nat) (Option.some Jvm.ClassFile.FieldType.long)) ∈ lw_all := lw_g (lw_at lw_m4 235 rfl) rfl
theorem q1050 : (Jvm.Cond.instanceMethod ({ cls := "StreamHall$Hall", name := "look", desc := "(I)J" } : Jvm.MethodName)) ∈ lw_all := lw_g (lw_at lw_m5 5 rfl) rfl
theorem q1051 : (Jvm.Cond.selects "StreamHall$Hall" ({ cls := "StreamHall$Hall", name := "look", desc := "(I)J" } : Jvm.MethodName) ({ cls := "StreamHall$Hall", name := "look", desc := "(I)J" } : Jvm.MethodName)) ∈ lw_all := lw_g (lw_at lw_m5 6 rfl) rfl
theorem q1052 : (Jvm.Cond.code ({ cls := "StreamHall$Hall", name := "look", desc := "(I)J" } : Jvm.MethodName) prog_3_method_41_code (3 : Nat) (Option.some Jvm.ClassFile.FieldType.long)) ∈ lw_all := lw_g (lw_at lw_m5 7 rfl) rfl
theorem in_X2 : ∀ w ∈ wsX20, w ∈ lw_all := lw_in wsX20 [266, 268, 270, 272, 274, 276, 278, 280, 282, 284, 286, 288, 290, 292, 294, 296, 298, 300, 302, 304, 306, 308, 310] (by decide +kernel) (by decide +kernel)

/-! StreamHall$Way -/
def RX3 : String := "StreamHall$Way"
def TX3 : u_T := fun k => match k with
  | 0 => ("StreamHall$Way", "opened", "I", false)
  | 1 => ("StreamHall$Way", "there", "I", false)
  | 2 => ("StreamHall$Way", "granted", "I", false)
  | 3 => ("StreamHall$Way", "limit", "J", false)
  | 4 => ("StreamHall$Way", "refusedAt", "J", false)
  | 5 => ("StreamHall$Way", "toldAt", "J", false)
  | _ => ("StreamHall$Way", "tells", "Z", false)
def tyX3 : Nat → FieldType := fun k => match k with
  | 0 => .int
  | 1 => .int
  | 2 => .int
  | 3 => .long
  | 4 => .long
  | 5 => .long
  | _ => .boolean
abbrev wsX30 : List Cond := u_ws RX3 TX3 7
theorem nmX3 : ∀ a, a < 7 → ∀ b, b < 7 → a ≠ b → (TX3 a).2.1 ≠ (TX3 b).2.1 := by decide +kernel
theorem tyX3_ok : ∀ k, k < 7 → parseFieldDescriptor (TX3 k).2.2.1 = some (tyX3 k) := by decide +kernel
abbrev cX3_init : ByteArray := prog_9_method_1_code
def yX3_init : MethodName := ⟨RX3, "<init>", "()V"⟩
theorem q88 : (Jvm.Cond.initialized "StreamHall$Way") ∈ lw_all := lw_g (lw_at lw_m1 3 rfl) rfl
theorem q126 : (Jvm.Cond.instantiable "StreamHall$Way" (7 : Nat)) ∈ lw_all := lw_g (lw_at lw_m1 41 rfl) rfl
theorem q128 : (Jvm.Cond.instanceMethod ({ cls := "StreamHall$Way", name := "<init>", desc := "()V" } : Jvm.MethodName)) ∈ lw_all := lw_g (lw_at lw_m1 43 rfl) rfl
theorem q129 : (Jvm.Cond.code ({ cls := "StreamHall$Way", name := "<init>", desc := "()V" } : Jvm.MethodName) prog_9_method_1_code (1 : Nat) (Option.none : Option Jvm.ClassFile.FieldType)) ∈ lw_all := lw_g (lw_at lw_m1 44 rfl) rfl
theorem q130 : (Jvm.Cond.methodLink "StreamHall$Way" (3 : Nat) ({ cls := "java/lang/Object", name := "<init>", desc := "()V" } : Jvm.MethodName)) ∈ lw_all := lw_g (lw_at lw_m1 45 rfl) rfl
theorem q131 : (Jvm.Cond.constantLong "StreamHall$Way" (9 : Nat) (-1 : Int64)) ∈ lw_all := lw_g (lw_at lw_m1 46 rfl) rfl
theorem q136 : (Jvm.Cond.fieldLink "StreamHall$Way" (11 : Nat) "StreamHall$Way" "refusedAt" "J") ∈ lw_all := lw_g (lw_at lw_m1 51 rfl) rfl
theorem q138 : (Jvm.Cond.fieldLink "StreamHall$Way" (17 : Nat) "StreamHall$Way" "toldAt" "J") ∈ lw_all := lw_g (lw_at lw_m1 53 rfl) rfl
theorem q141 : (Jvm.Cond.lays "StreamHall$Way" "StreamHall$Way" "opened" "I") ∈ lw_all := lw_g (lw_at lw_m1 56 rfl) rfl
theorem q142 : (Jvm.Cond.soleField "StreamHall$Way" "opened") ∈ lw_all := lw_g (lw_at lw_m1 57 rfl) rfl
theorem q143 : (Jvm.Cond.lays "StreamHall$Way" "StreamHall$Way" "there" "I") ∈ lw_all := lw_g (lw_at lw_m1 58 rfl) rfl
theorem q144 : (Jvm.Cond.soleField "StreamHall$Way" "there") ∈ lw_all := lw_g (lw_at lw_m1 59 rfl) rfl
theorem q145 : (Jvm.Cond.lays "StreamHall$Way" "StreamHall$Way" "granted" "I") ∈ lw_all := lw_g (lw_at lw_m1 60 rfl) rfl
theorem q146 : (Jvm.Cond.soleField "StreamHall$Way" "granted") ∈ lw_all := lw_g (lw_at lw_m1 61 rfl) rfl
theorem q147 : (Jvm.Cond.lays "StreamHall$Way" "StreamHall$Way" "limit" "J") ∈ lw_all := lw_g (lw_at lw_m1 62 rfl) rfl
theorem q148 : (Jvm.Cond.soleField "StreamHall$Way" "limit") ∈ lw_all := lw_g (lw_at lw_m1 63 rfl) rfl
theorem q149 : (Jvm.Cond.lays "StreamHall$Way" "StreamHall$Way" "refusedAt" "J") ∈ lw_all := lw_g (lw_at lw_m1 64 rfl) rfl
theorem q150 : (Jvm.Cond.soleField "StreamHall$Way" "refusedAt") ∈ lw_all := lw_g (lw_at lw_m1 65 rfl) rfl
theorem q151 : (Jvm.Cond.lays "StreamHall$Way" "StreamHall$Way" "toldAt" "J") ∈ lw_all := lw_g (lw_at lw_m1 66 rfl) rfl
theorem q152 : (Jvm.Cond.soleField "StreamHall$Way" "toldAt") ∈ lw_all := lw_g (lw_at lw_m1 67 rfl) rfl
theorem q153 : (Jvm.Cond.lays "StreamHall$Way" "StreamHall$Way" "tells" "Z") ∈ lw_all := lw_g (lw_at lw_m1 68 rfl) rfl
theorem q154 : (Jvm.Cond.soleField "StreamHall$Way" "tells") ∈ lw_all := lw_g (lw_at lw_m1 69 rfl) rfl
theorem q155 : (Jvm.Cond.superclass "StreamHall$Way" "java/lang/Object") ∈ lw_all := lw_g (lw_at lw_m1 70 rfl) rfl
theorem in_X3 : ∀ w ∈ wsX30, w ∈ lw_all := lw_in wsX30 [141, 143, 145, 147, 149, 151, 153] (by decide +kernel) (by decide +kernel)

/-! StreamHall$Spans -/
def RX4 : String := "StreamHall$Spans"
def TX4 : u_T := fun k => match k with
  | 0 => ("StreamHall$Spans", "from", "[I", false)
  | 1 => ("StreamHall$Spans", "to", "[I", false)
  | 2 => ("StreamHall$Spans", "next", "[I", false)
  | 3 => ("StreamHall$Spans", "made", "I", false)
  | _ => ("StreamHall$Spans", "free", "I", false)
def tyX4 : Nat → FieldType := fun k => match k with
  | 0 => .array .int
  | 1 => .array .int
  | 2 => .array .int
  | 3 => .int
  | _ => .int
abbrev wsX40 : List Cond := u_ws RX4 TX4 5
theorem nmX4 : ∀ a, a < 5 → ∀ b, b < 5 → a ≠ b → (TX4 a).2.1 ≠ (TX4 b).2.1 := by decide +kernel
theorem tyX4_ok : ∀ k, k < 5 → parseFieldDescriptor (TX4 k).2.2.1 = some (tyX4 k) := by decide +kernel
abbrev cX4_init : ByteArray := prog_7_method_1_code
def yX4_init : MethodName := ⟨RX4, "<init>", "()V"⟩
abbrev cX4_cut : ByteArray := prog_7_method_5_code
def yX4_cut : MethodName := ⟨RX4, "cut", "(III)I"⟩
abbrev cX4_release : ByteArray := prog_7_method_3_code
def yX4_release : MethodName := ⟨RX4, "release", "(I)V"⟩
abbrev cX4_trim : ByteArray := prog_7_method_6_code
def yX4_trim : MethodName := ⟨RX4, "trim", "(III)V"⟩
abbrev cX4_make : ByteArray := prog_7_method_2_code
def yX4_make : MethodName := ⟨RX4, "make", "(III)I"⟩
abbrev cX4_add : ByteArray := prog_7_method_4_code
def yX4_add : MethodName := ⟨RX4, "add", "(III)I"⟩
abbrev cX4_count : ByteArray := prog_7_method_7_code
def yX4_count : MethodName := ⟨RX4, "count", "(I)I"⟩
theorem q89 : (Jvm.Cond.initialized "StreamHall$Spans") ∈ lw_all := lw_g (lw_at lw_m1 4 rfl) rfl
theorem q157 : (Jvm.Cond.instantiable "StreamHall$Spans" (5 : Nat)) ∈ lw_all := lw_g (lw_at lw_m1 72 rfl) rfl
theorem q159 : (Jvm.Cond.instanceMethod ({ cls := "StreamHall$Spans", name := "<init>", desc := "()V" } : Jvm.MethodName)) ∈ lw_all := lw_g (lw_at lw_m1 74 rfl) rfl
theorem q160 : (Jvm.Cond.code ({ cls := "StreamHall$Spans", name := "<init>", desc := "()V" } : Jvm.MethodName) prog_7_method_1_code (1 : Nat) (Option.none : Option Jvm.ClassFile.FieldType)) ∈ lw_all := lw_g (lw_at lw_m1 75 rfl) rfl
theorem q161 : (Jvm.Cond.methodLink "StreamHall$Spans" (3 : Nat) ({ cls := "java/lang/Object", name := "<init>", desc := "()V" } : Jvm.MethodName)) ∈ lw_all := lw_g (lw_at lw_m1 76 rfl) rfl
theorem q162 : (Jvm.Cond.fieldLink "StreamHall$Spans" (9 : Nat) "StreamHall$Spans" "from" "[I") ∈ lw_all := lw_g (lw_at lw_m1 77 rfl) rfl
theorem q164 : (Jvm.Cond.fieldLink "StreamHall$Spans" (15 : Nat) "StreamHall$Spans" "to" "[I") ∈ lw_all := lw_g (lw_at lw_m1 79 rfl) rfl
theorem q166 : (Jvm.Cond.fieldLink "StreamHall$Spans" (18 : Nat) "StreamHall$Spans" "next" "[I") ∈ lw_all := lw_g (lw_at lw_m1 81 rfl) rfl
theorem q168 : (Jvm.Cond.fieldLink "StreamHall$Spans" (25 : Nat) "StreamHall$Spans" "made" "I") ∈ lw_all := lw_g (lw_at lw_m1 83 rfl) rfl
theorem q169 : (Jvm.Cond.fieldLink "StreamHall$Spans" (21 : Nat) "StreamHall$Spans" "free" "I") ∈ lw_all := lw_g (lw_at lw_m1 84 rfl) rfl
theorem q170 : (Jvm.Cond.lays "StreamHall$Spans" "StreamHall$Spans" "from" "[I") ∈ lw_all := lw_g (lw_at lw_m1 85 rfl) rfl
theorem q171 : (Jvm.Cond.soleField "StreamHall$Spans" "from") ∈ lw_all := lw_g (lw_at lw_m1 86 rfl) rfl
theorem q172 : (Jvm.Cond.lays "StreamHall$Spans" "StreamHall$Spans" "to" "[I") ∈ lw_all := lw_g (lw_at lw_m1 87 rfl) rfl
theorem q173 : (Jvm.Cond.soleField "StreamHall$Spans" "to") ∈ lw_all := lw_g (lw_at lw_m1 88 rfl) rfl
theorem q174 : (Jvm.Cond.lays "StreamHall$Spans" "StreamHall$Spans" "next" "[I") ∈ lw_all := lw_g (lw_at lw_m1 89 rfl) rfl
theorem q175 : (Jvm.Cond.soleField "StreamHall$Spans" "next") ∈ lw_all := lw_g (lw_at lw_m1 90 rfl) rfl
theorem q176 : (Jvm.Cond.lays "StreamHall$Spans" "StreamHall$Spans" "made" "I") ∈ lw_all := lw_g (lw_at lw_m1 91 rfl) rfl
theorem q177 : (Jvm.Cond.soleField "StreamHall$Spans" "made") ∈ lw_all := lw_g (lw_at lw_m1 92 rfl) rfl
theorem q178 : (Jvm.Cond.lays "StreamHall$Spans" "StreamHall$Spans" "free" "I") ∈ lw_all := lw_g (lw_at lw_m1 93 rfl) rfl
theorem q179 : (Jvm.Cond.soleField "StreamHall$Spans" "free") ∈ lw_all := lw_g (lw_at lw_m1 94 rfl) rfl
theorem q180 : (Jvm.Cond.superclass "StreamHall$Spans" "java/lang/Object") ∈ lw_all := lw_g (lw_at lw_m1 95 rfl) rfl
theorem q849 : (Jvm.Cond.instanceMethod ({ cls := "StreamHall$Spans", name := "cut", desc := "(III)I" } : Jvm.MethodName)) ∈ lw_all := lw_g (lw_at lw_m4 44 rfl) rfl
theorem q850 : (Jvm.Cond.selects "StreamHall$Spans" ({ cls := "StreamHall$Spans", name := "cut", desc := "(III)I" } : Jvm.MethodName) ({ cls := "StreamHall$Spans", name := "cut", desc := "(III)I" } : Jvm.MethodName)) ∈ lw_all := lw_g (lw_at lw_m4 45 rfl) rfl
theorem q851 : (Jvm.Cond.code ({ cls := "StreamHall$Spans", name := "cut", desc := "(III)I" } : Jvm.MethodName) prog_7_method_5_code (9 : Nat) (Option.some Jvm.ClassFile.FieldType.int)) ∈ lw_all := lw_g (lw_at lw_m4 46 rfl) rfl
theorem q852 : (Jvm.Cond.methodLink "StreamHall$Spans" (43 : Nat) ({ cls := "StreamHall$Spans", name := "release", desc := "(I)V" } : Jvm.MethodName)) ∈ lw_all := lw_g (lw_at lw_m4 47 rfl) rfl
theorem q853 : (Jvm.Cond.privateMethod ({ cls := "StreamHall$Spans", name := "release", desc := "(I)V" } : Jvm.MethodName)) ∈ lw_tbl := lw_at lw_m4 48 rfl
theorem q854 : (Jvm.Cond.instanceMethod ({ cls := "StreamHall$Spans", name := "release", desc := "(I)V" } : Jvm.MethodName)) ∈ lw_all := lw_g (lw_at lw_m4 49 rfl) rfl
theorem q855 : (Jvm.Cond.code ({ cls := "StreamHall$Spans", name := "release", desc := "(I)V" } : Jvm.MethodName) prog_7_method_3_code (2 : Nat) (Option.none : Option Jvm.ClassFile.FieldType)) ∈ lw_all := lw_g (lw_at lw_m4 50 rfl) rfl
theorem q856 : (Jvm.Cond.methodLink "StreamHall$Spans" (51 : Nat) ({ cls := "StreamHall$Spans", name := "trim", desc := "(III)V" } : Jvm.MethodName)) ∈ lw_all := lw_g (lw_at lw_m4 51 rfl) rfl
theorem q857 : (Jvm.Cond.privateMethod ({ cls := "StreamHall$Spans", name := "trim", desc := "(III)V" } : Jvm.MethodName)) ∈ lw_tbl := lw_at lw_m4 52 rfl
theorem q858 : (Jvm.Cond.instanceMethod ({ cls := "StreamHall$Spans", name := "trim", desc := "(III)V" } : Jvm.MethodName)) ∈ lw_all := lw_g (lw_at lw_m4 53 rfl) rfl
theorem q859 : (Jvm.Cond.code ({ cls := "StreamHall$Spans", name := "trim", desc := "(III)V" } : Jvm.MethodName) prog_7_method_6_code (5 : Nat) (Option.none : Option Jvm.ClassFile.FieldType)) ∈ lw_all := lw_g (lw_at lw_m4 54 rfl) rfl
theorem q860 : (Jvm.Cond.methodLink "StreamHall$Spans" (47 : Nat) ({ cls := "StreamHall$Spans", name := "make", desc := "(III)I" } : Jvm.MethodName)) ∈ lw_all := lw_g (lw_at lw_m4 55 rfl) rfl
theorem q861 : (Jvm.Cond.privateMethod ({ cls := "StreamHall$Spans", name := "make", desc := "(III)I" } : Jvm.MethodName)) ∈ lw_tbl := lw_at lw_m4 56 rfl
theorem q862 : (Jvm.Cond.instanceMethod ({ cls := "StreamHall$Spans", name := "make", desc := "(III)I" } : Jvm.MethodName)) ∈ lw_all := lw_g (lw_at lw_m4 57 rfl) rfl
theorem q863 : (Jvm.Cond.code ({ cls := "StreamHall$Spans", name := "make", desc := "(III)I" } : Jvm.MethodName) prog_7_method_2_code (5 : Nat) (Option.some Jvm.ClassFile.FieldType.int)) ∈ lw_all := lw_g (lw_at lw_m4 58 rfl) rfl
theorem q864 : (Jvm.Cond.methodLink "StreamHall$Spans" (28 : Nat) ({ cls := "java/util/Arrays", name := "copyOf", desc := "([II)[I" } : Jvm.MethodName)) ∈ lw_all := lw_g (lw_at lw_m4 59 rfl) rfl
theorem q982 : (Jvm.Cond.instanceMethod ({ cls := "StreamHall$Spans", name := "add", desc := "(III)I" } : Jvm.MethodName)) ∈ lw_all := lw_g (lw_at lw_m4 177 rfl) rfl
theorem q983 : (Jvm.Cond.selects "StreamHall$Spans" ({ cls := "StreamHall$Spans", name := "add", desc := "(III)I" } : Jvm.MethodName) ({ cls := "StreamHall$Spans", name := "add", desc := "(III)I" } : Jvm.MethodName)) ∈ lw_all := lw_g (lw_at lw_m4 178 rfl) rfl
theorem q984 : (Jvm.Cond.code ({ cls := "StreamHall$Spans", name := "add", desc := "(III)I" } : Jvm.MethodName) prog_7_method_4_code (9 : Nat) (Option.some Jvm.ClassFile.FieldType.int)) ∈ lw_all := lw_g (lw_at lw_m4 179 rfl) rfl
theorem q985 : (Jvm.Cond.methodLink "StreamHall$Spans" (34 : Nat) ({ cls := "java/lang/Math", name := "min", desc := "(II)I" } : Jvm.MethodName)) ∈ lw_all := lw_g (lw_at lw_m4 180 rfl) rfl
theorem q986 : (Jvm.Cond.methodLink "StreamHall$Spans" (40 : Nat) ({ cls := "java/lang/Math", name := "max", desc := "(II)I" } : Jvm.MethodName)) ∈ lw_all := lw_g (lw_at lw_m4 181 rfl) rfl
theorem q988 : (Jvm.Cond.instanceMethod ({ cls := "StreamHall$Spans", name := "count", desc := "(I)I" } : Jvm.MethodName)) ∈ lw_all := lw_g (lw_at lw_m4 183 rfl) rfl
theorem q989 : (Jvm.Cond.selects "StreamHall$Spans" ({ cls := "StreamHall$Spans", name := "count", desc := "(I)I" } : Jvm.MethodName) ({ cls := "StreamHall$Spans", name := "count", desc := "(I)I" } : Jvm.MethodName)) ∈ lw_all := lw_g (lw_at lw_m4 184 rfl) rfl
theorem q990 : (Jvm.Cond.code ({ cls := "StreamHall$Spans", name := "count", desc := "(I)I" } : Jvm.MethodName) prog_7_method_7_code (4 : Nat) (Option.some Jvm.ClassFile.FieldType.int)) ∈ lw_all := lw_g (lw_at lw_m4 185 rfl) rfl
theorem in_X4 : ∀ w ∈ wsX40, w ∈ lw_all := lw_in wsX40 [170, 172, 174, 176, 178] (by decide +kernel) (by decide +kernel)

/-! StreamHall$Store -/
def RX5 : String := "StreamHall$Store"
def TX5 : u_T := fun k => match k with
  | 0 => ("StreamHall$Store", "bytes", "[B", true)
  | 1 => ("StreamHall$Store", "used", "I", false)
  | 2 => ("StreamHall$Store", "at", "[I", false)
  | 3 => ("StreamHall$Store", "size", "[I", false)
  | 4 => ("StreamHall$Store", "next", "[I", false)
  | _ => ("StreamHall$Store", "pieces", "I", false)
def tyX5 : Nat → FieldType := fun k => match k with
  | 0 => .array .byte
  | 1 => .int
  | 2 => .array .int
  | 3 => .array .int
  | 4 => .array .int
  | _ => .int
abbrev wsX50 : List Cond := u_ws RX5 TX5 6
theorem nmX5 : ∀ a, a < 6 → ∀ b, b < 6 → a ≠ b → (TX5 a).2.1 ≠ (TX5 b).2.1 := by decide +kernel
theorem tyX5_ok : ∀ k, k < 6 → parseFieldDescriptor (TX5 k).2.2.1 = some (tyX5 k) := by decide +kernel
abbrev cX5_init : ByteArray := prog_8_method_1_code
def yX5_init : MethodName := ⟨RX5, "<init>", "()V"⟩
abbrev cX5_add : ByteArray := prog_8_method_3_code
def yX5_add : MethodName := ⟨RX5, "add", "(LStreamHall$Sending;[BII)I"⟩
abbrev cX5_piece : ByteArray := prog_8_method_2_code
def yX5_piece : MethodName := ⟨RX5, "piece", "()I"⟩
abbrev cX5_copy : ByteArray := prog_8_method_4_code
def yX5_copy : MethodName := ⟨RX5, "copy", "(LStreamHall$Sending;I[BI)V"⟩
theorem q90 : (Jvm.Cond.initialized "StreamHall$Store") ∈ lw_all := lw_g (lw_at lw_m1 5 rfl) rfl
theorem q184 : (Jvm.Cond.instantiable "StreamHall$Store" (6 : Nat)) ∈ lw_all := lw_g (lw_at lw_m1 99 rfl) rfl
theorem q186 : (Jvm.Cond.instanceMethod ({ cls := "StreamHall$Store", name := "<init>", desc := "()V" } : Jvm.MethodName)) ∈ lw_all := lw_g (lw_at lw_m1 101 rfl) rfl
theorem q187 : (Jvm.Cond.code ({ cls := "StreamHall$Store", name := "<init>", desc := "()V" } : Jvm.MethodName) prog_8_method_1_code (1 : Nat) (Option.none : Option Jvm.ClassFile.FieldType)) ∈ lw_all := lw_g (lw_at lw_m1 102 rfl) rfl
theorem q188 : (Jvm.Cond.methodLink "StreamHall$Store" (3 : Nat) ({ cls := "java/lang/Object", name := "<init>", desc := "()V" } : Jvm.MethodName)) ∈ lw_all := lw_g (lw_at lw_m1 103 rfl) rfl
theorem q189 : (Jvm.Cond.constant "StreamHall$Store" (9 : Nat) (65536 : Int32)) ∈ lw_all := lw_g (lw_at lw_m1 104 rfl) rfl
theorem q190 : (Jvm.Cond.fieldLink "StreamHall$Store" (10 : Nat) "StreamHall$Store" "bytes" "[B") ∈ lw_all := lw_g (lw_at lw_m1 105 rfl) rfl
theorem q191 : (Jvm.Cond.fieldLink "StreamHall$Store" (36 : Nat) "StreamHall$Store" "used" "I") ∈ lw_all := lw_g (lw_at lw_m1 106 rfl) rfl
theorem q193 : (Jvm.Cond.fieldLink "StreamHall$Store" (16 : Nat) "StreamHall$Store" "at" "[I") ∈ lw_all := lw_g (lw_at lw_m1 108 rfl) rfl
theorem q194 : (Jvm.Cond.fieldLink "StreamHall$Store" (20 : Nat) "StreamHall$Store" "size" "[I") ∈ lw_all := lw_g (lw_at lw_m1 109 rfl) rfl
theorem q195 : (Jvm.Cond.fieldLink "StreamHall$Store" (23 : Nat) "StreamHall$Store" "next" "[I") ∈ lw_all := lw_g (lw_at lw_m1 110 rfl) rfl
theorem q196 : (Jvm.Cond.fieldLink "StreamHall$Store" (26 : Nat) "StreamHall$Store" "pieces" "I") ∈ lw_all := lw_g (lw_at lw_m1 111 rfl) rfl
theorem q197 : (Jvm.Cond.laysFinal "StreamHall$Store" "StreamHall$Store" "bytes" "[B") ∈ lw_all := lw_g (lw_at lw_m1 112 rfl) rfl
theorem q198 : (Jvm.Cond.soleField "StreamHall$Store" "bytes") ∈ lw_all := lw_g (lw_at lw_m1 113 rfl) rfl
theorem q199 : (Jvm.Cond.lays "StreamHall$Store" "StreamHall$Store" "used" "I") ∈ lw_all := lw_g (lw_at lw_m1 114 rfl) rfl
theorem q200 : (Jvm.Cond.soleField "StreamHall$Store" "used") ∈ lw_all := lw_g (lw_at lw_m1 115 rfl) rfl
theorem q201 : (Jvm.Cond.lays "StreamHall$Store" "StreamHall$Store" "at" "[I") ∈ lw_all := lw_g (lw_at lw_m1 116 rfl) rfl
theorem q202 : (Jvm.Cond.soleField "StreamHall$Store" "at") ∈ lw_all := lw_g (lw_at lw_m1 117 rfl) rfl
theorem q203 : (Jvm.Cond.lays "StreamHall$Store" "StreamHall$Store" "size" "[I") ∈ lw_all := lw_g (lw_at lw_m1 118 rfl) rfl
theorem q204 : (Jvm.Cond.soleField "StreamHall$Store" "size") ∈ lw_all := lw_g (lw_at lw_m1 119 rfl) rfl
theorem q205 : (Jvm.Cond.lays "StreamHall$Store" "StreamHall$Store" "next" "[I") ∈ lw_all := lw_g (lw_at lw_m1 120 rfl) rfl
theorem q206 : (Jvm.Cond.soleField "StreamHall$Store" "next") ∈ lw_all := lw_g (lw_at lw_m1 121 rfl) rfl
theorem q207 : (Jvm.Cond.lays "StreamHall$Store" "StreamHall$Store" "pieces" "I") ∈ lw_all := lw_g (lw_at lw_m1 122 rfl) rfl
theorem q208 : (Jvm.Cond.soleField "StreamHall$Store" "pieces") ∈ lw_all := lw_g (lw_at lw_m1 123 rfl) rfl
theorem q209 : (Jvm.Cond.superclass "StreamHall$Store" "java/lang/Object") ∈ lw_all := lw_g (lw_at lw_m1 124 rfl) rfl
theorem q549 : (Jvm.Cond.fieldLinkNest "StreamHall$Store" (63 : Nat) "StreamHall$Sending" "written" "I" "StreamHall") ∈ lw_tbl := lw_at lw_m2 224 rfl
theorem q554 : (Jvm.Cond.fieldLinkNest "StreamHall$Store" (54 : Nat) "StreamHall$Sending" "first" "I" "StreamHall") ∈ lw_tbl := lw_at lw_m2 229 rfl
theorem q556 : (Jvm.Cond.fieldLinkNest "StreamHall$Store" (45 : Nat) "StreamHall$Sending" "last" "I" "StreamHall") ∈ lw_tbl := lw_at lw_m2 231 rfl
theorem q664 : (Jvm.Cond.instanceMethod ({ cls := "StreamHall$Store", name := "add", desc := "(LStreamHall$Sending;[BII)I" } : Jvm.MethodName)) ∈ lw_all := lw_g (lw_at lw_m3 99 rfl) rfl
theorem q665 : (Jvm.Cond.selects "StreamHall$Store" ({ cls := "StreamHall$Store", name := "add", desc := "(LStreamHall$Sending;[BII)I" } : Jvm.MethodName) ({ cls := "StreamHall$Store", name := "add", desc := "(LStreamHall$Sending;[BII)I" } : Jvm.MethodName)) ∈ lw_all := lw_g (lw_at lw_m3 100 rfl) rfl
theorem q666 : (Jvm.Cond.code ({ cls := "StreamHall$Store", name := "add", desc := "(LStreamHall$Sending;[BII)I" } : Jvm.MethodName) prog_8_method_3_code (7 : Nat) (Option.some Jvm.ClassFile.FieldType.int)) ∈ lw_all := lw_g (lw_at lw_m3 101 rfl) rfl
theorem q667 : (Jvm.Cond.methodLink "StreamHall$Store" (39 : Nat) ({ cls := "java/lang/Math", name := "min", desc := "(II)I" } : Jvm.MethodName)) ∈ lw_all := lw_g (lw_at lw_m3 102 rfl) rfl
theorem q670 : (Jvm.Cond.methodLink "StreamHall$Store" (50 : Nat) ({ cls := "StreamHall$Store", name := "piece", desc := "()I" } : Jvm.MethodName)) ∈ lw_all := lw_g (lw_at lw_m3 105 rfl) rfl
theorem q671 : (Jvm.Cond.privateMethod ({ cls := "StreamHall$Store", name := "piece", desc := "()I" } : Jvm.MethodName)) ∈ lw_tbl := lw_at lw_m3 106 rfl
theorem q672 : (Jvm.Cond.instanceMethod ({ cls := "StreamHall$Store", name := "piece", desc := "()I" } : Jvm.MethodName)) ∈ lw_all := lw_g (lw_at lw_m3 107 rfl) rfl
theorem q673 : (Jvm.Cond.code ({ cls := "StreamHall$Store", name := "piece", desc := "()I" } : Jvm.MethodName) prog_8_method_2_code (1 : Nat) (Option.some Jvm.ClassFile.FieldType.int)) ∈ lw_all := lw_g (lw_at lw_m3 108 rfl) rfl
theorem q674 : (Jvm.Cond.methodLink "StreamHall$Store" (30 : Nat) ({ cls := "java/util/Arrays", name := "copyOf", desc := "([II)[I" } : Jvm.MethodName)) ∈ lw_all := lw_g (lw_at lw_m3 109 rfl) rfl
theorem q688 : (Jvm.Cond.methodLink "StreamHall$Store" (57 : Nat) ({ cls := "java/lang/System", name := "arraycopy", desc := "(Ljava/lang/Object;ILjava/lang/Object;II)V" } : Jvm.MethodName)) ∈ lw_all := lw_g (lw_at lw_m3 123 rfl) rfl
theorem q844 : (Jvm.Cond.instanceMethod ({ cls := "StreamHall$Store", name := "copy", desc := "(LStreamHall$Sending;I[BI)V" } : Jvm.MethodName)) ∈ lw_all := lw_g (lw_at lw_m4 39 rfl) rfl
theorem q845 : (Jvm.Cond.selects "StreamHall$Store" ({ cls := "StreamHall$Store", name := "copy", desc := "(LStreamHall$Sending;I[BI)V" } : Jvm.MethodName) ({ cls := "StreamHall$Store", name := "copy", desc := "(LStreamHall$Sending;I[BI)V" } : Jvm.MethodName)) ∈ lw_all := lw_g (lw_at lw_m4 40 rfl) rfl
theorem q846 : (Jvm.Cond.code ({ cls := "StreamHall$Store", name := "copy", desc := "(LStreamHall$Sending;I[BI)V" } : Jvm.MethodName) prog_8_method_4_code (10 : Nat) (Option.none : Option Jvm.ClassFile.FieldType)) ∈ lw_all := lw_g (lw_at lw_m4 41 rfl) rfl
theorem q847 : (Jvm.Cond.methodLink "StreamHall$Store" (66 : Nat) ({ cls := "java/lang/Math", name := "max", desc := "(II)I" } : Jvm.MethodName)) ∈ lw_all := lw_g (lw_at lw_m4 42 rfl) rfl
theorem in_X5 : ∀ w ∈ wsX50, w ∈ lw_all := lw_in wsX50 [197, 199, 201, 203, 205, 207] (by decide +kernel) (by decide +kernel)

/-! StreamHall$Blocks -/
def RX6 : String := "StreamHall$Blocks"
def TX6 : u_T := fun k => match k with
  | 0 => ("StreamHall$Blocks", "bytes", "[B", false)
  | 1 => ("StreamHall$Blocks", "marks", "[J", false)
  | 2 => ("StreamHall$Blocks", "index", "[I", false)
  | 3 => ("StreamHall$Blocks", "next", "[I", false)
  | 4 => ("StreamHall$Blocks", "made", "I", false)
  | _ => ("StreamHall$Blocks", "free", "I", false)
def tyX6 : Nat → FieldType := fun k => match k with
  | 0 => .array .byte
  | 1 => .array .long
  | 2 => .array .int
  | 3 => .array .int
  | 4 => .int
  | _ => .int
abbrev wsX60 : List Cond := u_ws RX6 TX6 6
theorem nmX6 : ∀ a, a < 6 → ∀ b, b < 6 → a ≠ b → (TX6 a).2.1 ≠ (TX6 b).2.1 := by decide +kernel
theorem tyX6_ok : ∀ k, k < 6 → parseFieldDescriptor (TX6 k).2.2.1 = some (tyX6 k) := by decide +kernel
abbrev cX6_init : ByteArray := prog_2_method_1_code
def yX6_init : MethodName := ⟨RX6, "<init>", "()V"⟩
abbrev cX6_take : ByteArray := prog_2_method_5_code
def yX6_take : MethodName := ⟨RX6, "take", "(LStreamHall$Receiving;[BII)V"⟩
abbrev cX6_drop : ByteArray := prog_2_method_6_code
def yX6_drop : MethodName := ⟨RX6, "drop", "(LStreamHall$Receiving;)V"⟩
abbrev cX6_put : ByteArray := prog_2_method_4_code
def yX6_put : MethodName := ⟨RX6, "put", "(LStreamHall$Receiving;I[BII)V"⟩
abbrev cX6_block : ByteArray := prog_2_method_3_code
def yX6_block : MethodName := ⟨RX6, "block", "(LStreamHall$Receiving;I)I"⟩
abbrev cX6_make : ByteArray := prog_2_method_2_code
def yX6_make : MethodName := ⟨RX6, "make", "(II)I"⟩
abbrev cX6_clear : ByteArray := prog_2_method_7_code
def yX6_clear : MethodName := ⟨RX6, "clear", "(LStreamHall$Receiving;)V"⟩
theorem q91 : (Jvm.Cond.initialized "StreamHall$Blocks") ∈ lw_all := lw_g (lw_at lw_m1 6 rfl) rfl
theorem q212 : (Jvm.Cond.instantiable "StreamHall$Blocks" (6 : Nat)) ∈ lw_all := lw_g (lw_at lw_m1 127 rfl) rfl
theorem q214 : (Jvm.Cond.instanceMethod ({ cls := "StreamHall$Blocks", name := "<init>", desc := "()V" } : Jvm.MethodName)) ∈ lw_all := lw_g (lw_at lw_m1 129 rfl) rfl
theorem q215 : (Jvm.Cond.code ({ cls := "StreamHall$Blocks", name := "<init>", desc := "()V" } : Jvm.MethodName) prog_2_method_1_code (1 : Nat) (Option.none : Option Jvm.ClassFile.FieldType)) ∈ lw_all := lw_g (lw_at lw_m1 130 rfl) rfl
theorem q216 : (Jvm.Cond.methodLink "StreamHall$Blocks" (3 : Nat) ({ cls := "java/lang/Object", name := "<init>", desc := "()V" } : Jvm.MethodName)) ∈ lw_all := lw_g (lw_at lw_m1 131 rfl) rfl
theorem q217 : (Jvm.Cond.fieldLink "StreamHall$Blocks" (9 : Nat) "StreamHall$Blocks" "bytes" "[B") ∈ lw_all := lw_g (lw_at lw_m1 132 rfl) rfl
theorem q218 : (Jvm.Cond.fieldLink "StreamHall$Blocks" (15 : Nat) "StreamHall$Blocks" "marks" "[J") ∈ lw_all := lw_g (lw_at lw_m1 133 rfl) rfl
theorem q219 : (Jvm.Cond.fieldLink "StreamHall$Blocks" (19 : Nat) "StreamHall$Blocks" "index" "[I") ∈ lw_all := lw_g (lw_at lw_m1 134 rfl) rfl
theorem q220 : (Jvm.Cond.fieldLink "StreamHall$Blocks" (23 : Nat) "StreamHall$Blocks" "next" "[I") ∈ lw_all := lw_g (lw_at lw_m1 135 rfl) rfl
theorem q221 : (Jvm.Cond.fieldLink "StreamHall$Blocks" (30 : Nat) "StreamHall$Blocks" "made" "I") ∈ lw_all := lw_g (lw_at lw_m1 136 rfl) rfl
theorem q222 : (Jvm.Cond.fieldLink "StreamHall$Blocks" (26 : Nat) "StreamHall$Blocks" "free" "I") ∈ lw_all := lw_g (lw_at lw_m1 137 rfl) rfl
theorem q223 : (Jvm.Cond.lays "StreamHall$Blocks" "StreamHall$Blocks" "bytes" "[B") ∈ lw_all := lw_g (lw_at lw_m1 138 rfl) rfl
theorem q224 : (Jvm.Cond.soleField "StreamHall$Blocks" "bytes") ∈ lw_all := lw_g (lw_at lw_m1 139 rfl) rfl
theorem q225 : (Jvm.Cond.lays "StreamHall$Blocks" "StreamHall$Blocks" "marks" "[J") ∈ lw_all := lw_g (lw_at lw_m1 140 rfl) rfl
theorem q226 : (Jvm.Cond.soleField "StreamHall$Blocks" "marks") ∈ lw_all := lw_g (lw_at lw_m1 141 rfl) rfl
theorem q227 : (Jvm.Cond.lays "StreamHall$Blocks" "StreamHall$Blocks" "index" "[I") ∈ lw_all := lw_g (lw_at lw_m1 142 rfl) rfl
theorem q228 : (Jvm.Cond.soleField "StreamHall$Blocks" "index") ∈ lw_all := lw_g (lw_at lw_m1 143 rfl) rfl
theorem q229 : (Jvm.Cond.lays "StreamHall$Blocks" "StreamHall$Blocks" "next" "[I") ∈ lw_all := lw_g (lw_at lw_m1 144 rfl) rfl
theorem q230 : (Jvm.Cond.soleField "StreamHall$Blocks" "next") ∈ lw_all := lw_g (lw_at lw_m1 145 rfl) rfl
theorem q231 : (Jvm.Cond.lays "StreamHall$Blocks" "StreamHall$Blocks" "made" "I") ∈ lw_all := lw_g (lw_at lw_m1 146 rfl) rfl
theorem q232 : (Jvm.Cond.soleField "StreamHall$Blocks" "made") ∈ lw_all := lw_g (lw_at lw_m1 147 rfl) rfl
theorem q233 : (Jvm.Cond.lays "StreamHall$Blocks" "StreamHall$Blocks" "free" "I") ∈ lw_all := lw_g (lw_at lw_m1 148 rfl) rfl
theorem q234 : (Jvm.Cond.soleField "StreamHall$Blocks" "free") ∈ lw_all := lw_g (lw_at lw_m1 149 rfl) rfl
theorem q235 : (Jvm.Cond.superclass "StreamHall$Blocks" "java/lang/Object") ∈ lw_all := lw_g (lw_at lw_m1 150 rfl) rfl
theorem q603 : (Jvm.Cond.fieldLinkNest "StreamHall$Blocks" (66 : Nat) "StreamHall$Receiving" "read" "I" "StreamHall") ∈ lw_tbl := lw_at lw_m3 38 rfl
theorem q606 : (Jvm.Cond.fieldLinkNest "StreamHall$Blocks" (54 : Nat) "StreamHall$Receiving" "ready" "I" "StreamHall") ∈ lw_tbl := lw_at lw_m3 41 rfl
theorem q615 : (Jvm.Cond.fieldLinkNest "StreamHall$Blocks" (45 : Nat) "StreamHall$Receiving" "first" "I" "StreamHall") ∈ lw_tbl := lw_at lw_m3 50 rfl
theorem q753 : (Jvm.Cond.instanceMethod ({ cls := "StreamHall$Blocks", name := "take", desc := "(LStreamHall$Receiving;[BII)V" } : Jvm.MethodName)) ∈ lw_all := lw_g (lw_at lw_m3 188 rfl) rfl
theorem q754 : (Jvm.Cond.selects "StreamHall$Blocks" ({ cls := "StreamHall$Blocks", name := "take", desc := "(LStreamHall$Receiving;[BII)V" } : Jvm.MethodName) ({ cls := "StreamHall$Blocks", name := "take", desc := "(LStreamHall$Receiving;[BII)V" } : Jvm.MethodName)) ∈ lw_all := lw_g (lw_at lw_m3 189 rfl) rfl
theorem q755 : (Jvm.Cond.code ({ cls := "StreamHall$Blocks", name := "take", desc := "(LStreamHall$Receiving;[BII)V" } : Jvm.MethodName) prog_2_method_5_code (6 : Nat) (Option.none : Option Jvm.ClassFile.FieldType)) ∈ lw_all := lw_g (lw_at lw_m3 190 rfl) rfl
theorem q756 : (Jvm.Cond.methodLink "StreamHall$Blocks" (69 : Nat) ({ cls := "StreamHall$Blocks", name := "drop", desc := "(LStreamHall$Receiving;)V" } : Jvm.MethodName)) ∈ lw_all := lw_g (lw_at lw_m3 191 rfl) rfl
theorem q757 : (Jvm.Cond.privateMethod ({ cls := "StreamHall$Blocks", name := "drop", desc := "(LStreamHall$Receiving;)V" } : Jvm.MethodName)) ∈ lw_tbl := lw_at lw_m3 192 rfl
theorem q758 : (Jvm.Cond.instanceMethod ({ cls := "StreamHall$Blocks", name := "drop", desc := "(LStreamHall$Receiving;)V" } : Jvm.MethodName)) ∈ lw_all := lw_g (lw_at lw_m3 193 rfl) rfl
theorem q759 : (Jvm.Cond.code ({ cls := "StreamHall$Blocks", name := "drop", desc := "(LStreamHall$Receiving;)V" } : Jvm.MethodName) prog_2_method_6_code (3 : Nat) (Option.none : Option Jvm.ClassFile.FieldType)) ∈ lw_all := lw_g (lw_at lw_m3 194 rfl) rfl
theorem q928 : (Jvm.Cond.instanceMethod ({ cls := "StreamHall$Blocks", name := "put", desc := "(LStreamHall$Receiving;I[BII)V" } : Jvm.MethodName)) ∈ lw_all := lw_g (lw_at lw_m4 123 rfl) rfl
theorem q929 : (Jvm.Cond.selects "StreamHall$Blocks" ({ cls := "StreamHall$Blocks", name := "put", desc := "(LStreamHall$Receiving;I[BII)V" } : Jvm.MethodName) ({ cls := "StreamHall$Blocks", name := "put", desc := "(LStreamHall$Receiving;I[BII)V" } : Jvm.MethodName)) ∈ lw_all := lw_g (lw_at lw_m4 124 rfl) rfl
theorem q930 : (Jvm.Cond.code ({ cls := "StreamHall$Blocks", name := "put", desc := "(LStreamHall$Receiving;I[BII)V" } : Jvm.MethodName) prog_2_method_4_code (9 : Nat) (Option.none : Option Jvm.ClassFile.FieldType)) ∈ lw_all := lw_g (lw_at lw_m4 125 rfl) rfl
theorem q931 : (Jvm.Cond.methodLink "StreamHall$Blocks" (57 : Nat) ({ cls := "java/lang/Math", name := "max", desc := "(II)I" } : Jvm.MethodName)) ∈ lw_all := lw_g (lw_at lw_m4 126 rfl) rfl
theorem q932 : (Jvm.Cond.methodLink "StreamHall$Blocks" (62 : Nat) ({ cls := "StreamHall$Blocks", name := "block", desc := "(LStreamHall$Receiving;I)I" } : Jvm.MethodName)) ∈ lw_all := lw_g (lw_at lw_m4 127 rfl) rfl
theorem q933 : (Jvm.Cond.privateMethod ({ cls := "StreamHall$Blocks", name := "block", desc := "(LStreamHall$Receiving;I)I" } : Jvm.MethodName)) ∈ lw_tbl := lw_at lw_m4 128 rfl
theorem q934 : (Jvm.Cond.instanceMethod ({ cls := "StreamHall$Blocks", name := "block", desc := "(LStreamHall$Receiving;I)I" } : Jvm.MethodName)) ∈ lw_all := lw_g (lw_at lw_m4 129 rfl) rfl
theorem q935 : (Jvm.Cond.code ({ cls := "StreamHall$Blocks", name := "block", desc := "(LStreamHall$Receiving;I)I" } : Jvm.MethodName) prog_2_method_3_code (6 : Nat) (Option.some Jvm.ClassFile.FieldType.int)) ∈ lw_all := lw_g (lw_at lw_m4 130 rfl) rfl
theorem q936 : (Jvm.Cond.methodLink "StreamHall$Blocks" (50 : Nat) ({ cls := "StreamHall$Blocks", name := "make", desc := "(II)I" } : Jvm.MethodName)) ∈ lw_all := lw_g (lw_at lw_m4 131 rfl) rfl
theorem q937 : (Jvm.Cond.privateMethod ({ cls := "StreamHall$Blocks", name := "make", desc := "(II)I" } : Jvm.MethodName)) ∈ lw_tbl := lw_at lw_m4 132 rfl
theorem q938 : (Jvm.Cond.instanceMethod ({ cls := "StreamHall$Blocks", name := "make", desc := "(II)I" } : Jvm.MethodName)) ∈ lw_all := lw_g (lw_at lw_m4 133 rfl) rfl
theorem q939 : (Jvm.Cond.code ({ cls := "StreamHall$Blocks", name := "make", desc := "(II)I" } : Jvm.MethodName) prog_2_method_2_code (4 : Nat) (Option.some Jvm.ClassFile.FieldType.int)) ∈ lw_all := lw_g (lw_at lw_m4 134 rfl) rfl
theorem q940 : (Jvm.Cond.methodLink "StreamHall$Blocks" (33 : Nat) ({ cls := "java/util/Arrays", name := "copyOf", desc := "([BI)[B" } : Jvm.MethodName)) ∈ lw_all := lw_g (lw_at lw_m4 135 rfl) rfl
theorem q948 : (Jvm.Cond.methodLink "StreamHall$Blocks" (39 : Nat) ({ cls := "java/util/Arrays", name := "copyOf", desc := "([JI)[J" } : Jvm.MethodName)) ∈ lw_all := lw_g (lw_at lw_m4 143 rfl) rfl
theorem q956 : (Jvm.Cond.methodLink "StreamHall$Blocks" (42 : Nat) ({ cls := "java/util/Arrays", name := "copyOf", desc := "([II)[I" } : Jvm.MethodName)) ∈ lw_all := lw_g (lw_at lw_m4 151 rfl) rfl
theorem q962 : (Jvm.Cond.instanceMethod ({ cls := "StreamHall$Blocks", name := "clear", desc := "(LStreamHall$Receiving;)V" } : Jvm.MethodName)) ∈ lw_all := lw_g (lw_at lw_m4 157 rfl) rfl
theorem q963 : (Jvm.Cond.selects "StreamHall$Blocks" ({ cls := "StreamHall$Blocks", name := "clear", desc := "(LStreamHall$Receiving;)V" } : Jvm.MethodName) ({ cls := "StreamHall$Blocks", name := "clear", desc := "(LStreamHall$Receiving;)V" } : Jvm.MethodName)) ∈ lw_all := lw_g (lw_at lw_m4 158 rfl) rfl
theorem q964 : (Jvm.Cond.code ({ cls := "StreamHall$Blocks", name := "clear", desc := "(LStreamHall$Receiving;)V" } : Jvm.MethodName) prog_2_method_7_code (2 : Nat) (Option.none : Option Jvm.ClassFile.FieldType)) ∈ lw_all := lw_g (lw_at lw_m4 159 rfl) rfl
theorem in_X6 : ∀ w ∈ wsX60, w ∈ lw_all := lw_in wsX60 [223, 225, 227, 229, 231, 233] (by decide +kernel) (by decide +kernel)

/-! StreamHall$Place -/
def RX7 : String := "StreamHall$Place"
def TX7 : u_T := fun k => match k with
  | 0 => ("StreamHall$Place", "taken", "Z", false)
  | 1 => ("StreamHall$Place", "delivered", "Z", false)
  | 2 => ("StreamHall$Place", "side", "I", false)
  | 3 => ("StreamHall$Place", "kind", "I", false)
  | 4 => ("StreamHall$Place", "size", "I", false)
  | 5 => ("StreamHall$Place", "bytes", "I", false)
  | 6 => ("StreamHall$Place", "a", "J", false)
  | 7 => ("StreamHall$Place", "b", "J", false)
  | 8 => ("StreamHall$Place", "c", "J", false)
  | _ => ("StreamHall$Place", "row", "[B", true)
def tyX7 : Nat → FieldType := fun k => match k with
  | 0 => .boolean
  | 1 => .boolean
  | 2 => .int
  | 3 => .int
  | 4 => .int
  | 5 => .int
  | 6 => .long
  | 7 => .long
  | 8 => .long
  | _ => .array .byte
abbrev wsX70 : List Cond := u_ws RX7 TX7 10
theorem nmX7 : ∀ a, a < 10 → ∀ b, b < 10 → a ≠ b → (TX7 a).2.1 ≠ (TX7 b).2.1 := by decide +kernel
theorem tyX7_ok : ∀ k, k < 10 → parseFieldDescriptor (TX7 k).2.2.1 = some (tyX7 k) := by decide +kernel
abbrev cX7_init : ByteArray := prog_4_method_1_code
def yX7_init : MethodName := ⟨RX7, "<init>", "()V"⟩
theorem q92 : (Jvm.Cond.initialized "StreamHall$Place") ∈ lw_all := lw_g (lw_at lw_m1 7 rfl) rfl
theorem q317 : (Jvm.Cond.instantiable "StreamHall$Place" (10 : Nat)) ∈ lw_all := lw_g (lw_at lw_m1 232 rfl) rfl
theorem q319 : (Jvm.Cond.instanceMethod ({ cls := "StreamHall$Place", name := "<init>", desc := "()V" } : Jvm.MethodName)) ∈ lw_all := lw_g (lw_at lw_m1 234 rfl) rfl
theorem q320 : (Jvm.Cond.code ({ cls := "StreamHall$Place", name := "<init>", desc := "()V" } : Jvm.MethodName) prog_4_method_1_code (1 : Nat) (Option.none : Option Jvm.ClassFile.FieldType)) ∈ lw_all := lw_g (lw_at lw_m1 235 rfl) rfl
theorem q321 : (Jvm.Cond.methodLink "StreamHall$Place" (3 : Nat) ({ cls := "java/lang/Object", name := "<init>", desc := "()V" } : Jvm.MethodName)) ∈ lw_all := lw_g (lw_at lw_m1 236 rfl) rfl
theorem q331 : (Jvm.Cond.fieldLink "StreamHall$Place" (9 : Nat) "StreamHall$Place" "row" "[B") ∈ lw_all := lw_g (lw_at lw_m2 6 rfl) rfl
theorem q333 : (Jvm.Cond.lays "StreamHall$Place" "StreamHall$Place" "taken" "Z") ∈ lw_all := lw_g (lw_at lw_m2 8 rfl) rfl
theorem q334 : (Jvm.Cond.soleField "StreamHall$Place" "taken") ∈ lw_all := lw_g (lw_at lw_m2 9 rfl) rfl
theorem q335 : (Jvm.Cond.lays "StreamHall$Place" "StreamHall$Place" "delivered" "Z") ∈ lw_all := lw_g (lw_at lw_m2 10 rfl) rfl
theorem q336 : (Jvm.Cond.soleField "StreamHall$Place" "delivered") ∈ lw_all := lw_g (lw_at lw_m2 11 rfl) rfl
theorem q337 : (Jvm.Cond.lays "StreamHall$Place" "StreamHall$Place" "side" "I") ∈ lw_all := lw_g (lw_at lw_m2 12 rfl) rfl
theorem q338 : (Jvm.Cond.soleField "StreamHall$Place" "side") ∈ lw_all := lw_g (lw_at lw_m2 13 rfl) rfl
theorem q339 : (Jvm.Cond.lays "StreamHall$Place" "StreamHall$Place" "kind" "I") ∈ lw_all := lw_g (lw_at lw_m2 14 rfl) rfl
theorem q340 : (Jvm.Cond.soleField "StreamHall$Place" "kind") ∈ lw_all := lw_g (lw_at lw_m2 15 rfl) rfl
theorem q341 : (Jvm.Cond.lays "StreamHall$Place" "StreamHall$Place" "size" "I") ∈ lw_all := lw_g (lw_at lw_m2 16 rfl) rfl
theorem q342 : (Jvm.Cond.soleField "StreamHall$Place" "size") ∈ lw_all := lw_g (lw_at lw_m2 17 rfl) rfl
theorem q343 : (Jvm.Cond.lays "StreamHall$Place" "StreamHall$Place" "bytes" "I") ∈ lw_all := lw_g (lw_at lw_m2 18 rfl) rfl
theorem q344 : (Jvm.Cond.soleField "StreamHall$Place" "bytes") ∈ lw_all := lw_g (lw_at lw_m2 19 rfl) rfl
theorem q345 : (Jvm.Cond.lays "StreamHall$Place" "StreamHall$Place" "a" "J") ∈ lw_all := lw_g (lw_at lw_m2 20 rfl) rfl
theorem q346 : (Jvm.Cond.soleField "StreamHall$Place" "a") ∈ lw_all := lw_g (lw_at lw_m2 21 rfl) rfl
theorem q347 : (Jvm.Cond.lays "StreamHall$Place" "StreamHall$Place" "b" "J") ∈ lw_all := lw_g (lw_at lw_m2 22 rfl) rfl
theorem q348 : (Jvm.Cond.soleField "StreamHall$Place" "b") ∈ lw_all := lw_g (lw_at lw_m2 23 rfl) rfl
theorem q349 : (Jvm.Cond.lays "StreamHall$Place" "StreamHall$Place" "c" "J") ∈ lw_all := lw_g (lw_at lw_m2 24 rfl) rfl
theorem q350 : (Jvm.Cond.soleField "StreamHall$Place" "c") ∈ lw_all := lw_g (lw_at lw_m2 25 rfl) rfl
theorem q351 : (Jvm.Cond.laysFinal "StreamHall$Place" "StreamHall$Place" "row" "[B") ∈ lw_all := lw_g (lw_at lw_m2 26 rfl) rfl
theorem q352 : (Jvm.Cond.soleField "StreamHall$Place" "row") ∈ lw_all := lw_g (lw_at lw_m2 27 rfl) rfl
theorem q353 : (Jvm.Cond.superclass "StreamHall$Place" "java/lang/Object") ∈ lw_all := lw_g (lw_at lw_m2 28 rfl) rfl
theorem in_X7 : ∀ w ∈ wsX70, w ∈ lw_all := lw_in wsX70 [333, 335, 337, 339, 341, 343, 345, 347, 349, 351] (by decide +kernel) (by decide +kernel)

/-! StreamHall$Sending -/
def RX9 : String := "StreamHall$Sending"
def TX9 : u_T := fun k => match k with
  | 0 => ("StreamHall$Sending", "state", "I", false)
  | 1 => ("StreamHall$Sending", "written", "I", false)
  | 2 => ("StreamHall$Sending", "sent", "I", false)
  | 3 => ("StreamHall$Sending", "end", "I", false)
  | 4 => ("StreamHall$Sending", "first", "I", false)
  | 5 => ("StreamHall$Sending", "last", "I", false)
  | 6 => ("StreamHall$Sending", "lost", "I", false)
  | 7 => ("StreamHall$Sending", "here", "I", false)
  | 8 => ("StreamHall$Sending", "limit", "J", false)
  | 9 => ("StreamHall$Sending", "code", "J", false)
  | 10 => ("StreamHall$Sending", "blockedAt", "J", false)
  | _ => ("StreamHall$Sending", "resets", "Z", false)
def tyX9 : Nat → FieldType := fun k => match k with
  | 0 => .int
  | 1 => .int
  | 2 => .int
  | 3 => .int
  | 4 => .int
  | 5 => .int
  | 6 => .int
  | 7 => .int
  | 8 => .long
  | 9 => .long
  | 10 => .long
  | _ => .boolean
abbrev wsX90 : List Cond := u_ws RX9 TX9 12
theorem nmX9 : ∀ a, a < 12 → ∀ b, b < 12 → a ≠ b → (TX9 a).2.1 ≠ (TX9 b).2.1 := by decide +kernel
theorem tyX9_ok : ∀ k, k < 12 → parseFieldDescriptor (TX9 k).2.2.1 = some (tyX9 k) := by decide +kernel
abbrev cX9_init : ByteArray := prog_6_method_1_code
def yX9_init : MethodName := ⟨RX9, "<init>", "(J)V"⟩
abbrev cX9_isLive : ByteArray := prog_6_method_2_code
def yX9_isLive : MethodName := ⟨RX9, "isLive", "()Z"⟩
abbrev cX9_reset : ByteArray := prog_6_method_3_code
def yX9_reset : MethodName := ⟨RX9, "reset", "(J)V"⟩
abbrev cX9_isOver : ByteArray := prog_6_method_4_code
def yX9_isOver : MethodName := ⟨RX9, "isOver", "()Z"⟩
theorem q100 : (Jvm.Cond.initialized "StreamHall$Sending") ∈ lw_all := lw_g (lw_at lw_m1 15 rfl) rfl
theorem q537 : (Jvm.Cond.instantiable "StreamHall$Sending" (12 : Nat)) ∈ lw_all := lw_g (lw_at lw_m2 212 rfl) rfl
theorem q543 : (Jvm.Cond.instanceMethod ({ cls := "StreamHall$Sending", name := "<init>", desc := "(J)V" } : Jvm.MethodName)) ∈ lw_all := lw_g (lw_at lw_m2 218 rfl) rfl
theorem q544 : (Jvm.Cond.code ({ cls := "StreamHall$Sending", name := "<init>", desc := "(J)V" } : Jvm.MethodName) prog_6_method_1_code (3 : Nat) (Option.none : Option Jvm.ClassFile.FieldType)) ∈ lw_all := lw_g (lw_at lw_m2 219 rfl) rfl
theorem q545 : (Jvm.Cond.methodLink "StreamHall$Sending" (3 : Nat) ({ cls := "java/lang/Object", name := "<init>", desc := "()V" } : Jvm.MethodName)) ∈ lw_all := lw_g (lw_at lw_m2 220 rfl) rfl
theorem q546 : (Jvm.Cond.constantLong "StreamHall$Sending" (24 : Nat) (-1 : Int64)) ∈ lw_all := lw_g (lw_at lw_m2 221 rfl) rfl
theorem q547 : (Jvm.Cond.fieldLink "StreamHall$Sending" (33 : Nat) "StreamHall$Sending" "state" "I") ∈ lw_all := lw_g (lw_at lw_m2 222 rfl) rfl
theorem q553 : (Jvm.Cond.fieldLink "StreamHall$Sending" (9 : Nat) "StreamHall$Sending" "first" "I") ∈ lw_all := lw_g (lw_at lw_m2 228 rfl) rfl
theorem q555 : (Jvm.Cond.fieldLink "StreamHall$Sending" (15 : Nat) "StreamHall$Sending" "last" "I") ∈ lw_all := lw_g (lw_at lw_m2 230 rfl) rfl
theorem q557 : (Jvm.Cond.fieldLink "StreamHall$Sending" (18 : Nat) "StreamHall$Sending" "lost" "I") ∈ lw_all := lw_g (lw_at lw_m2 232 rfl) rfl
theorem q559 : (Jvm.Cond.fieldLink "StreamHall$Sending" (21 : Nat) "StreamHall$Sending" "here" "I") ∈ lw_all := lw_g (lw_at lw_m2 234 rfl) rfl
theorem q561 : (Jvm.Cond.fieldLink "StreamHall$Sending" (30 : Nat) "StreamHall$Sending" "limit" "J") ∈ lw_all := lw_g (lw_at lw_m2 236 rfl) rfl
theorem q563 : (Jvm.Cond.fieldLink "StreamHall$Sending" (36 : Nat) "StreamHall$Sending" "code" "J") ∈ lw_all := lw_g (lw_at lw_m2 238 rfl) rfl
theorem q565 : (Jvm.Cond.fieldLink "StreamHall$Sending" (26 : Nat) "StreamHall$Sending" "blockedAt" "J") ∈ lw_all := lw_g (lw_at lw_m3 0 rfl) rfl
theorem q567 : (Jvm.Cond.fieldLink "StreamHall$Sending" (39 : Nat) "StreamHall$Sending" "resets" "Z") ∈ lw_all := lw_g (lw_at lw_m3 2 rfl) rfl
theorem q569 : (Jvm.Cond.lays "StreamHall$Sending" "StreamHall$Sending" "state" "I") ∈ lw_all := lw_g (lw_at lw_m3 4 rfl) rfl
theorem q570 : (Jvm.Cond.soleField "StreamHall$Sending" "state") ∈ lw_all := lw_g (lw_at lw_m3 5 rfl) rfl
theorem q571 : (Jvm.Cond.lays "StreamHall$Sending" "StreamHall$Sending" "written" "I") ∈ lw_all := lw_g (lw_at lw_m3 6 rfl) rfl
theorem q572 : (Jvm.Cond.soleField "StreamHall$Sending" "written") ∈ lw_all := lw_g (lw_at lw_m3 7 rfl) rfl
theorem q573 : (Jvm.Cond.lays "StreamHall$Sending" "StreamHall$Sending" "sent" "I") ∈ lw_all := lw_g (lw_at lw_m3 8 rfl) rfl
theorem q574 : (Jvm.Cond.soleField "StreamHall$Sending" "sent") ∈ lw_all := lw_g (lw_at lw_m3 9 rfl) rfl
theorem q575 : (Jvm.Cond.lays "StreamHall$Sending" "StreamHall$Sending" "end" "I") ∈ lw_all := lw_g (lw_at lw_m3 10 rfl) rfl
theorem q576 : (Jvm.Cond.soleField "StreamHall$Sending" "end") ∈ lw_all := lw_g (lw_at lw_m3 11 rfl) rfl
theorem q577 : (Jvm.Cond.lays "StreamHall$Sending" "StreamHall$Sending" "first" "I") ∈ lw_all := lw_g (lw_at lw_m3 12 rfl) rfl
theorem q578 : (Jvm.Cond.soleField "StreamHall$Sending" "first") ∈ lw_all := lw_g (lw_at lw_m3 13 rfl) rfl
theorem q579 : (Jvm.Cond.lays "StreamHall$Sending" "StreamHall$Sending" "last" "I") ∈ lw_all := lw_g (lw_at lw_m3 14 rfl) rfl
theorem q580 : (Jvm.Cond.soleField "StreamHall$Sending" "last") ∈ lw_all := lw_g (lw_at lw_m3 15 rfl) rfl
theorem q581 : (Jvm.Cond.lays "StreamHall$Sending" "StreamHall$Sending" "lost" "I") ∈ lw_all := lw_g (lw_at lw_m3 16 rfl) rfl
theorem q582 : (Jvm.Cond.soleField "StreamHall$Sending" "lost") ∈ lw_all := lw_g (lw_at lw_m3 17 rfl) rfl
theorem q583 : (Jvm.Cond.lays "StreamHall$Sending" "StreamHall$Sending" "here" "I") ∈ lw_all := lw_g (lw_at lw_m3 18 rfl) rfl
theorem q584 : (Jvm.Cond.soleField "StreamHall$Sending" "here") ∈ lw_all := lw_g (lw_at lw_m3 19 rfl) rfl
theorem q585 : (Jvm.Cond.lays "StreamHall$Sending" "StreamHall$Sending" "limit" "J") ∈ lw_all := lw_g (lw_at lw_m3 20 rfl) rfl
theorem q586 : (Jvm.Cond.soleField "StreamHall$Sending" "limit") ∈ lw_all := lw_g (lw_at lw_m3 21 rfl) rfl
theorem q587 : (Jvm.Cond.lays "StreamHall$Sending" "StreamHall$Sending" "code" "J") ∈ lw_all := lw_g (lw_at lw_m3 22 rfl) rfl
theorem q588 : (Jvm.Cond.soleField "StreamHall$Sending" "code") ∈ lw_all := lw_g (lw_at lw_m3 23 rfl) rfl
theorem q589 : (Jvm.Cond.lays "StreamHall$Sending" "StreamHall$Sending" "blockedAt" "J") ∈ lw_all := lw_g (lw_at lw_m3 24 rfl) rfl
theorem q590 : (Jvm.Cond.soleField "StreamHall$Sending" "blockedAt") ∈ lw_all := lw_g (lw_at lw_m3 25 rfl) rfl
theorem q591 : (Jvm.Cond.lays "StreamHall$Sending" "StreamHall$Sending" "resets" "Z") ∈ lw_all := lw_g (lw_at lw_m3 26 rfl) rfl
theorem q592 : (Jvm.Cond.soleField "StreamHall$Sending" "resets") ∈ lw_all := lw_g (lw_at lw_m3 27 rfl) rfl
theorem q593 : (Jvm.Cond.superclass "StreamHall$Sending" "java/lang/Object") ∈ lw_all := lw_g (lw_at lw_m3 28 rfl) rfl
theorem q713 : (Jvm.Cond.instanceMethod ({ cls := "StreamHall$Sending", name := "isLive", desc := "()Z" } : Jvm.MethodName)) ∈ lw_all := lw_g (lw_at lw_m3 148 rfl) rfl
theorem q714 : (Jvm.Cond.selects "StreamHall$Sending" ({ cls := "StreamHall$Sending", name := "isLive", desc := "()Z" } : Jvm.MethodName) ({ cls := "StreamHall$Sending", name := "isLive", desc := "()Z" } : Jvm.MethodName)) ∈ lw_all := lw_g (lw_at lw_m3 149 rfl) rfl
theorem q715 : (Jvm.Cond.code ({ cls := "StreamHall$Sending", name := "isLive", desc := "()Z" } : Jvm.MethodName) prog_6_method_2_code (1 : Nat) (Option.some Jvm.ClassFile.FieldType.boolean)) ∈ lw_all := lw_g (lw_at lw_m3 150 rfl) rfl
theorem q717 : (Jvm.Cond.instanceMethod ({ cls := "StreamHall$Sending", name := "reset", desc := "(J)V" } : Jvm.MethodName)) ∈ lw_all := lw_g (lw_at lw_m3 152 rfl) rfl
theorem q718 : (Jvm.Cond.selects "StreamHall$Sending" ({ cls := "StreamHall$Sending", name := "reset", desc := "(J)V" } : Jvm.MethodName) ({ cls := "StreamHall$Sending", name := "reset", desc := "(J)V" } : Jvm.MethodName)) ∈ lw_all := lw_g (lw_at lw_m3 153 rfl) rfl
theorem q719 : (Jvm.Cond.code ({ cls := "StreamHall$Sending", name := "reset", desc := "(J)V" } : Jvm.MethodName) prog_6_method_3_code (3 : Nat) (Option.none : Option Jvm.ClassFile.FieldType)) ∈ lw_all := lw_g (lw_at lw_m3 154 rfl) rfl
theorem q774 : (Jvm.Cond.instanceMethod ({ cls := "StreamHall$Sending", name := "isOver", desc := "()Z" } : Jvm.MethodName)) ∈ lw_all := lw_g (lw_at lw_m3 209 rfl) rfl
theorem q775 : (Jvm.Cond.selects "StreamHall$Sending" ({ cls := "StreamHall$Sending", name := "isOver", desc := "()Z" } : Jvm.MethodName) ({ cls := "StreamHall$Sending", name := "isOver", desc := "()Z" } : Jvm.MethodName)) ∈ lw_all := lw_g (lw_at lw_m3 210 rfl) rfl
theorem q776 : (Jvm.Cond.code ({ cls := "StreamHall$Sending", name := "isOver", desc := "()Z" } : Jvm.MethodName) prog_6_method_4_code (1 : Nat) (Option.some Jvm.ClassFile.FieldType.boolean)) ∈ lw_all := lw_g (lw_at lw_m3 211 rfl) rfl
theorem in_X9 : ∀ w ∈ wsX90, w ∈ lw_all := lw_in wsX90 [569, 571, 573, 575, 577, 579, 581, 583, 585, 587, 589, 591] (by decide +kernel) (by decide +kernel)

/-! StreamHall$Receiving -/
def RX10 : String := "StreamHall$Receiving"
def TX10 : u_T := fun k => match k with
  | 0 => ("StreamHall$Receiving", "window", "I", true)
  | 1 => ("StreamHall$Receiving", "state", "I", false)
  | 2 => ("StreamHall$Receiving", "read", "I", false)
  | 3 => ("StreamHall$Receiving", "ready", "I", false)
  | 4 => ("StreamHall$Receiving", "highest", "I", false)
  | 5 => ("StreamHall$Receiving", "size", "I", false)
  | 6 => ("StreamHall$Receiving", "grant", "I", false)
  | 7 => ("StreamHall$Receiving", "first", "I", false)
  | 8 => ("StreamHall$Receiving", "code", "J", false)
  | 9 => ("StreamHall$Receiving", "stopCode", "J", false)
  | 10 => ("StreamHall$Receiving", "tells", "Z", false)
  | 11 => ("StreamHall$Receiving", "stops", "Z", false)
  | _ => ("StreamHall$Receiving", "stopped", "Z", false)
def tyX10 : Nat → FieldType := fun k => match k with
  | 0 => .int
  | 1 => .int
  | 2 => .int
  | 3 => .int
  | 4 => .int
  | 5 => .int
  | 6 => .int
  | 7 => .int
  | 8 => .long
  | 9 => .long
  | 10 => .boolean
  | 11 => .boolean
  | _ => .boolean
abbrev wsX100 : List Cond := u_ws RX10 TX10 13
theorem nmX10 : ∀ a, a < 13 → ∀ b, b < 13 → a ≠ b → (TX10 a).2.1 ≠ (TX10 b).2.1 := by decide +kernel
theorem tyX10_ok : ∀ k, k < 13 → parseFieldDescriptor (TX10 k).2.2.1 = some (tyX10 k) := by decide +kernel
abbrev cX10_init : ByteArray := prog_5_method_1_code
def yX10_init : MethodName := ⟨RX10, "<init>", "(I)V"⟩
abbrev cX10_isLive : ByteArray := prog_5_method_2_code
def yX10_isLive : MethodName := ⟨RX10, "isLive", "()Z"⟩
abbrev cX10_isOver : ByteArray := prog_5_method_3_code
def yX10_isOver : MethodName := ⟨RX10, "isOver", "()Z"⟩
abbrev cX10_settle : ByteArray := prog_5_method_5_code
def yX10_settle : MethodName := ⟨RX10, "settle", "()V"⟩
theorem q101 : (Jvm.Cond.initialized "StreamHall$Receiving") ∈ lw_all := lw_g (lw_at lw_m1 16 rfl) rfl
theorem q594 : (Jvm.Cond.instantiable "StreamHall$Receiving" (13 : Nat)) ∈ lw_all := lw_g (lw_at lw_m3 29 rfl) rfl
theorem q596 : (Jvm.Cond.instanceMethod ({ cls := "StreamHall$Receiving", name := "<init>", desc := "(I)V" } : Jvm.MethodName)) ∈ lw_all := lw_g (lw_at lw_m3 31 rfl) rfl
theorem q597 : (Jvm.Cond.code ({ cls := "StreamHall$Receiving", name := "<init>", desc := "(I)V" } : Jvm.MethodName) prog_5_method_1_code (2 : Nat) (Option.none : Option Jvm.ClassFile.FieldType)) ∈ lw_all := lw_g (lw_at lw_m3 32 rfl) rfl
theorem q598 : (Jvm.Cond.methodLink "StreamHall$Receiving" (3 : Nat) ({ cls := "java/lang/Object", name := "<init>", desc := "()V" } : Jvm.MethodName)) ∈ lw_all := lw_g (lw_at lw_m3 33 rfl) rfl
theorem q599 : (Jvm.Cond.fieldLink "StreamHall$Receiving" (18 : Nat) "StreamHall$Receiving" "window" "I") ∈ lw_all := lw_g (lw_at lw_m3 34 rfl) rfl
theorem q601 : (Jvm.Cond.fieldLink "StreamHall$Receiving" (24 : Nat) "StreamHall$Receiving" "state" "I") ∈ lw_all := lw_g (lw_at lw_m3 36 rfl) rfl
theorem q604 : (Jvm.Cond.fieldLink "StreamHall$Receiving" (27 : Nat) "StreamHall$Receiving" "read" "I") ∈ lw_all := lw_g (lw_at lw_m3 39 rfl) rfl
theorem q607 : (Jvm.Cond.fieldLink "StreamHall$Receiving" (30 : Nat) "StreamHall$Receiving" "ready" "I") ∈ lw_all := lw_g (lw_at lw_m3 42 rfl) rfl
theorem q610 : (Jvm.Cond.fieldLink "StreamHall$Receiving" (9 : Nat) "StreamHall$Receiving" "size" "I") ∈ lw_all := lw_g (lw_at lw_m3 45 rfl) rfl
theorem q612 : (Jvm.Cond.fieldLink "StreamHall$Receiving" (21 : Nat) "StreamHall$Receiving" "grant" "I") ∈ lw_all := lw_g (lw_at lw_m3 47 rfl) rfl
theorem q614 : (Jvm.Cond.fieldLink "StreamHall$Receiving" (15 : Nat) "StreamHall$Receiving" "first" "I") ∈ lw_all := lw_g (lw_at lw_m3 49 rfl) rfl
theorem q621 : (Jvm.Cond.laysFinal "StreamHall$Receiving" "StreamHall$Receiving" "window" "I") ∈ lw_all := lw_g (lw_at lw_m3 56 rfl) rfl
theorem q622 : (Jvm.Cond.soleField "StreamHall$Receiving" "window") ∈ lw_all := lw_g (lw_at lw_m3 57 rfl) rfl
theorem q623 : (Jvm.Cond.lays "StreamHall$Receiving" "StreamHall$Receiving" "state" "I") ∈ lw_all := lw_g (lw_at lw_m3 58 rfl) rfl
theorem q624 : (Jvm.Cond.soleField "StreamHall$Receiving" "state") ∈ lw_all := lw_g (lw_at lw_m3 59 rfl) rfl
theorem q625 : (Jvm.Cond.lays "StreamHall$Receiving" "StreamHall$Receiving" "read" "I") ∈ lw_all := lw_g (lw_at lw_m3 60 rfl) rfl
theorem q626 : (Jvm.Cond.soleField "StreamHall$Receiving" "read") ∈ lw_all := lw_g (lw_at lw_m3 61 rfl) rfl
theorem q627 : (Jvm.Cond.lays "StreamHall$Receiving" "StreamHall$Receiving" "ready" "I") ∈ lw_all := lw_g (lw_at lw_m3 62 rfl) rfl
theorem q628 : (Jvm.Cond.soleField "StreamHall$Receiving" "ready") ∈ lw_all := lw_g (lw_at lw_m3 63 rfl) rfl
theorem q629 : (Jvm.Cond.lays "StreamHall$Receiving" "StreamHall$Receiving" "highest" "I") ∈ lw_all := lw_g (lw_at lw_m3 64 rfl) rfl
theorem q630 : (Jvm.Cond.soleField "StreamHall$Receiving" "highest") ∈ lw_all := lw_g (lw_at lw_m3 65 rfl) rfl
theorem q631 : (Jvm.Cond.lays "StreamHall$Receiving" "StreamHall$Receiving" "size" "I") ∈ lw_all := lw_g (lw_at lw_m3 66 rfl) rfl
theorem q632 : (Jvm.Cond.soleField "StreamHall$Receiving" "size") ∈ lw_all := lw_g (lw_at lw_m3 67 rfl) rfl
theorem q633 : (Jvm.Cond.lays "StreamHall$Receiving" "StreamHall$Receiving" "grant" "I") ∈ lw_all := lw_g (lw_at lw_m3 68 rfl) rfl
theorem q634 : (Jvm.Cond.soleField "StreamHall$Receiving" "grant") ∈ lw_all := lw_g (lw_at lw_m3 69 rfl) rfl
theorem q635 : (Jvm.Cond.lays "StreamHall$Receiving" "StreamHall$Receiving" "first" "I") ∈ lw_all := lw_g (lw_at lw_m3 70 rfl) rfl
theorem q636 : (Jvm.Cond.soleField "StreamHall$Receiving" "first") ∈ lw_all := lw_g (lw_at lw_m3 71 rfl) rfl
theorem q637 : (Jvm.Cond.lays "StreamHall$Receiving" "StreamHall$Receiving" "code" "J") ∈ lw_all := lw_g (lw_at lw_m3 72 rfl) rfl
theorem q638 : (Jvm.Cond.soleField "StreamHall$Receiving" "code") ∈ lw_all := lw_g (lw_at lw_m3 73 rfl) rfl
theorem q639 : (Jvm.Cond.lays "StreamHall$Receiving" "StreamHall$Receiving" "stopCode" "J") ∈ lw_all := lw_g (lw_at lw_m3 74 rfl) rfl
theorem q640 : (Jvm.Cond.soleField "StreamHall$Receiving" "stopCode") ∈ lw_all := lw_g (lw_at lw_m3 75 rfl) rfl
theorem q641 : (Jvm.Cond.lays "StreamHall$Receiving" "StreamHall$Receiving" "tells" "Z") ∈ lw_all := lw_g (lw_at lw_m3 76 rfl) rfl
theorem q642 : (Jvm.Cond.soleField "StreamHall$Receiving" "tells") ∈ lw_all := lw_g (lw_at lw_m3 77 rfl) rfl
theorem q643 : (Jvm.Cond.lays "StreamHall$Receiving" "StreamHall$Receiving" "stops" "Z") ∈ lw_all := lw_g (lw_at lw_m3 78 rfl) rfl
theorem q644 : (Jvm.Cond.soleField "StreamHall$Receiving" "stops") ∈ lw_all := lw_g (lw_at lw_m3 79 rfl) rfl
theorem q645 : (Jvm.Cond.lays "StreamHall$Receiving" "StreamHall$Receiving" "stopped" "Z") ∈ lw_all := lw_g (lw_at lw_m3 80 rfl) rfl
theorem q646 : (Jvm.Cond.soleField "StreamHall$Receiving" "stopped") ∈ lw_all := lw_g (lw_at lw_m3 81 rfl) rfl
theorem q647 : (Jvm.Cond.superclass "StreamHall$Receiving" "java/lang/Object") ∈ lw_all := lw_g (lw_at lw_m3 82 rfl) rfl
theorem q736 : (Jvm.Cond.instanceMethod ({ cls := "StreamHall$Receiving", name := "isLive", desc := "()Z" } : Jvm.MethodName)) ∈ lw_all := lw_g (lw_at lw_m3 171 rfl) rfl
theorem q737 : (Jvm.Cond.selects "StreamHall$Receiving" ({ cls := "StreamHall$Receiving", name := "isLive", desc := "()Z" } : Jvm.MethodName) ({ cls := "StreamHall$Receiving", name := "isLive", desc := "()Z" } : Jvm.MethodName)) ∈ lw_all := lw_g (lw_at lw_m3 172 rfl) rfl
theorem q738 : (Jvm.Cond.code ({ cls := "StreamHall$Receiving", name := "isLive", desc := "()Z" } : Jvm.MethodName) prog_5_method_2_code (1 : Nat) (Option.some Jvm.ClassFile.FieldType.boolean)) ∈ lw_all := lw_g (lw_at lw_m3 173 rfl) rfl
theorem q778 : (Jvm.Cond.instanceMethod ({ cls := "StreamHall$Receiving", name := "isOver", desc := "()Z" } : Jvm.MethodName)) ∈ lw_all := lw_g (lw_at lw_m3 213 rfl) rfl
theorem q779 : (Jvm.Cond.selects "StreamHall$Receiving" ({ cls := "StreamHall$Receiving", name := "isOver", desc := "()Z" } : Jvm.MethodName) ({ cls := "StreamHall$Receiving", name := "isOver", desc := "()Z" } : Jvm.MethodName)) ∈ lw_all := lw_g (lw_at lw_m3 214 rfl) rfl
theorem q780 : (Jvm.Cond.code ({ cls := "StreamHall$Receiving", name := "isOver", desc := "()Z" } : Jvm.MethodName) prog_5_method_3_code (1 : Nat) (Option.some Jvm.ClassFile.FieldType.boolean)) ∈ lw_all := lw_g (lw_at lw_m3 215 rfl) rfl
theorem q782 : (Jvm.Cond.instanceMethod ({ cls := "StreamHall$Receiving", name := "settle", desc := "()V" } : Jvm.MethodName)) ∈ lw_all := lw_g (lw_at lw_m3 217 rfl) rfl
theorem q783 : (Jvm.Cond.selects "StreamHall$Receiving" ({ cls := "StreamHall$Receiving", name := "settle", desc := "()V" } : Jvm.MethodName) ({ cls := "StreamHall$Receiving", name := "settle", desc := "()V" } : Jvm.MethodName)) ∈ lw_all := lw_g (lw_at lw_m3 218 rfl) rfl
theorem q784 : (Jvm.Cond.code ({ cls := "StreamHall$Receiving", name := "settle", desc := "()V" } : Jvm.MethodName) prog_5_method_5_code (1 : Nat) (Option.none : Option Jvm.ClassFile.FieldType)) ∈ lw_all := lw_g (lw_at lw_m3 219 rfl) rfl
theorem in_X10 : ∀ w ∈ wsX100, w ∈ lw_all := lw_in wsX100 [621, 623, 625, 627, 629, 631, 633, 635, 637, 639, 641, 643, 645] (by decide +kernel) (by decide +kernel)

/-! StreamHallModel -/
def RX8 : String := "StreamHallModel"
def TX8 : u_T := fun k => match k with
  | 0 => ("StreamHallModel", "thrown", "I", false)
  | 1 => ("StreamHallModel", "joined", "Z", false)
  | 2 => ("StreamHallModel", "tape", "[I", true)
  | 3 => ("StreamHallModel", "taped", "I", false)
  | 4 => ("StreamHallModel", "out", "[I", true)
  | 5 => ("StreamHallModel", "outs", "I", false)
  | 6 => ("StreamHallModel", "grants", "[I", true)
  | 7 => ("StreamHallModel", "limits", "[J", true)
  | 8 => ("StreamHallModel", "opened", "[I", true)
  | 9 => ("StreamHallModel", "theirs", "[I", true)
  | 10 => ("StreamHallModel", "granted", "[I", true)
  | 11 => ("StreamHallModel", "dataGrant", "[J", true)
  | 12 => ("StreamHallModel", "tellData", "[Z", true)
  | 13 => ("StreamHallModel", "tellStreams", "[Z", true)
  | 14 => ("StreamHallModel", "toldBlocked", "[J", true)
  | 15 => ("StreamHallModel", "refused", "[Z", true)
  | 16 => ("StreamHallModel", "lastStream", "[I", true)
  | 17 => ("StreamHallModel", "there", "[Z", true)
  | 18 => ("StreamHallModel", "limit", "[J", true)
  | 19 => ("StreamHallModel", "finished", "[Z", true)
  | 20 => ("StreamHallModel", "end", "[I", true)
  | 21 => ("StreamHallModel", "resets", "[I", true)
  | 22 => ("StreamHallModel", "tellReset", "[Z", true)
  | 23 => ("StreamHallModel", "code", "[J", true)
  | 24 => ("StreamHallModel", "toldLimit", "[J", true)
  | 25 => ("StreamHallModel", "highest", "[J", true)
  | 26 => ("StreamHallModel", "size", "[J", true)
  | 27 => ("StreamHallModel", "read", "[J", true)
  | 28 => ("StreamHallModel", "wasReset", "[Z", true)
  | 29 => ("StreamHallModel", "theirCode", "[J", true)
  | 30 => ("StreamHallModel", "grant", "[J", true)
  | 31 => ("StreamHallModel", "tellGrant", "[Z", true)
  | 32 => ("StreamHallModel", "stopped", "[Z", true)
  | 33 => ("StreamHallModel", "tellStop", "[Z", true)
  | 34 => ("StreamHallModel", "stopCode", "[J", true)
  | 35 => ("StreamHallModel", "over", "[Z", true)
  | 36 => ("StreamHallModel", "total", "[I", true)
  | 37 => ("StreamHallModel", "of", "[S", true)
  | 38 => ("StreamHallModel", "value", "[B", true)
  | 39 => ("StreamHallModel", "mark", "[B", true)
  | 40 => ("StreamHallModel", "pieces", "[I", true)
  | 41 => ("StreamHallModel", "pieceOf", "[I", true)
  | 42 => ("StreamHallModel", "pieceNumber", "[I", true)
  | 43 => ("StreamHallModel", "came", "[B", true)
  | 44 => ("StreamHallModel", "has", "[Z", true)
  | 45 => ("StreamHallModel", "kind", "I", false)
  | 46 => ("StreamHallModel", "fa", "J", false)
  | 47 => ("StreamHallModel", "fb", "J", false)
  | 48 => ("StreamHallModel", "fc", "J", false)
  | 49 => ("StreamHallModel", "fSize", "I", false)
  | 50 => ("StreamHallModel", "fData", "[B", true)
  | 51 => ("StreamHallModel", "lineSide", "[I", true)
  | 52 => ("StreamHallModel", "lineKind", "[I", true)
  | 53 => ("StreamHallModel", "lineA", "[J", true)
  | 54 => ("StreamHallModel", "lineB", "[J", true)
  | 55 => ("StreamHallModel", "lineC", "[J", true)
  | 56 => ("StreamHallModel", "lineSize", "[I", true)
  | 57 => ("StreamHallModel", "lineBytes", "[I", true)
  | 58 => ("StreamHallModel", "lineUsed", "[Z", true)
  | 59 => ("StreamHallModel", "delivered", "[I", true)
  | _ => ("StreamHallModel", "lineData", "[B", true)
def tyX8 : Nat → FieldType := fun k => match k with
  | 0 => .int
  | 1 => .boolean
  | 2 => .array .int
  | 3 => .int
  | 4 => .array .int
  | 5 => .int
  | 6 => .array .int
  | 7 => .array .long
  | 8 => .array .int
  | 9 => .array .int
  | 10 => .array .int
  | 11 => .array .long
  | 12 => .array .boolean
  | 13 => .array .boolean
  | 14 => .array .long
  | 15 => .array .boolean
  | 16 => .array .int
  | 17 => .array .boolean
  | 18 => .array .long
  | 19 => .array .boolean
  | 20 => .array .int
  | 21 => .array .int
  | 22 => .array .boolean
  | 23 => .array .long
  | 24 => .array .long
  | 25 => .array .long
  | 26 => .array .long
  | 27 => .array .long
  | 28 => .array .boolean
  | 29 => .array .long
  | 30 => .array .long
  | 31 => .array .boolean
  | 32 => .array .boolean
  | 33 => .array .boolean
  | 34 => .array .long
  | 35 => .array .boolean
  | 36 => .array .int
  | 37 => .array .short
  | 38 => .array .byte
  | 39 => .array .byte
  | 40 => .array .int
  | 41 => .array .int
  | 42 => .array .int
  | 43 => .array .byte
  | 44 => .array .boolean
  | 45 => .int
  | 46 => .long
  | 47 => .long
  | 48 => .long
  | 49 => .int
  | 50 => .array .byte
  | 51 => .array .int
  | 52 => .array .int
  | 53 => .array .long
  | 54 => .array .long
  | 55 => .array .long
  | 56 => .array .int
  | 57 => .array .int
  | 58 => .array .boolean
  | 59 => .array .int
  | _ => .array .byte
abbrev wsX80 : List Cond := u_ws RX8 TX8 61
theorem nmX8 : ∀ a, a < 61 → ∀ b, b < 61 → a ≠ b → (TX8 a).2.1 ≠ (TX8 b).2.1 := by decide +kernel
theorem tyX8_ok : ∀ k, k < 61 → parseFieldDescriptor (TX8 k).2.2.1 = some (tyX8 k) := by decide +kernel
abbrev cX8_init : ByteArray := prog_11_method_1_code
def yX8_init : MethodName := ⟨RX8, "<init>", "()V"⟩
abbrev cX8_thrown : ByteArray := prog_11_method_2_code
def yX8_thrown : MethodName := ⟨RX8, "thrown", "()I"⟩
abbrev cX8_grant : ByteArray := prog_11_method_31_code
def yX8_grant : MethodName := ⟨RX8, "grant", "(III)V"⟩
abbrev cX8_noSide : ByteArray := prog_11_method_4_code
def yX8_noSide : MethodName := ⟨RX8, "noSide", "(I)Z"⟩
abbrev cX8_fails : ByteArray := prog_11_method_3_code
def yX8_fails : MethodName := ⟨RX8, "fails", "(ZI)Z"⟩
abbrev cX8_join : ByteArray := prog_11_method_32_code
def yX8_join : MethodName := ⟨RX8, "join", "()V"⟩
abbrev cX8_feed : ByteArray := prog_11_method_37_code
def yX8_feed : MethodName := ⟨RX8, "feed", "(IJ)I"⟩
abbrev cX8_open : ByteArray := prog_11_method_38_code
def yX8_open : MethodName := ⟨RX8, "open", "(IZ)I"⟩
abbrev cX8_begin : ByteArray := prog_11_method_15_code
def yX8_begin : MethodName := ⟨RX8, "begin", "(II)V"⟩
abbrev cX8_at : ByteArray := prog_11_method_10_code
def yX8_at : MethodName := ⟨RX8, "at", "(II)I"⟩
abbrev cX8_grantOf : ByteArray := prog_11_method_14_code
def yX8_grantOf : MethodName := ⟨RX8, "grantOf", "(II)I"⟩
abbrev cX8_wayOf : ByteArray := prog_11_method_6_code
def yX8_wayOf : MethodName := ⟨RX8, "wayOf", "(J)I"⟩
abbrev cX8_opens : ByteArray := prog_11_method_7_code
def yX8_opens : MethodName := ⟨RX8, "opens", "(IJ)Z"⟩
abbrev cX8_limitOf : ByteArray := prog_11_method_16_code
def yX8_limitOf : MethodName := ⟨RX8, "limitOf", "(II)J"⟩
abbrev cX8_write : ByteArray := prog_11_method_39_code
def yX8_write : MethodName := ⟨RX8, "write", "(II)I"⟩
abbrev cX8_hasSending : ByteArray := prog_11_method_12_code
def yX8_hasSending : MethodName := ⟨RX8, "hasSending", "(II)Z"⟩
abbrev cX8_isThere : ByteArray := prog_11_method_11_code
def yX8_isThere : MethodName := ⟨RX8, "isThere", "(II)Z"⟩
abbrev cX8_sends : ByteArray := prog_11_method_8_code
def yX8_sends : MethodName := ⟨RX8, "sends", "(IJ)Z"⟩
abbrev cX8_sending : ByteArray := prog_11_method_21_code
def yX8_sending : MethodName := ⟨RX8, "sending", "(II)I"⟩
abbrev cX8_count : ByteArray := prog_11_method_18_code
def yX8_count : MethodName := ⟨RX8, "count", "(III)I"⟩
abbrev cX8_written : ByteArray := prog_11_method_17_code
def yX8_written : MethodName := ⟨RX8, "written", "(II)I"⟩
abbrev cX8_finish : ByteArray := prog_11_method_40_code
def yX8_finish : MethodName := ⟨RX8, "finish", "(II)Z"⟩
abbrev cX8_reset : ByteArray := prog_11_method_42_code
def yX8_reset : MethodName := ⟨RX8, "reset", "(IIJ)Z"⟩
abbrev cX8_isOpenSending : ByteArray := prog_11_method_22_code
def yX8_isOpenSending : MethodName := ⟨RX8, "isOpenSending", "(II)Z"⟩
abbrev cX8_doReset : ByteArray := prog_11_method_41_code
def yX8_doReset : MethodName := ⟨RX8, "doReset", "(IIJ)V"⟩
abbrev cX8_stop : ByteArray := prog_11_method_43_code
def yX8_stop : MethodName := ⟨RX8, "stop", "(IIJ)Z"⟩
abbrev cX8_hasReceiving : ByteArray := prog_11_method_13_code
def yX8_hasReceiving : MethodName := ⟨RX8, "hasReceiving", "(II)Z"⟩
abbrev cX8_receives : ByteArray := prog_11_method_9_code
def yX8_receives : MethodName := ⟨RX8, "receives", "(IJ)Z"⟩
abbrev cX8_receiving : ByteArray := prog_11_method_28_code
def yX8_receiving : MethodName := ⟨RX8, "receiving", "(II)I"⟩
abbrev cX8_readyOf : ByteArray := prog_11_method_27_code
def yX8_readyOf : MethodName := ⟨RX8, "readyOf", "(II)J"⟩
abbrev cX8_isHere : ByteArray := prog_11_method_25_code
def yX8_isHere : MethodName := ⟨RX8, "isHere", "(IIJ)Z"⟩
abbrev cX8_pieceAt : ByteArray := prog_11_method_23_code
def yX8_pieceAt : MethodName := ⟨RX8, "pieceAt", "(III)I"⟩
abbrev cX8_read : ByteArray := prog_11_method_44_code
def yX8_read : MethodName := ⟨RX8, "read", "(III)I"⟩
abbrev cX8_byteAt : ByteArray := prog_11_method_26_code
def yX8_byteAt : MethodName := ⟨RX8, "byteAt", "(IIJ)B"⟩
abbrev cX8_growData : ByteArray := prog_11_method_34_code
def yX8_growData : MethodName := ⟨RX8, "growData", "(I)V"⟩
abbrev cX8_consumed : ByteArray := prog_11_method_30_code
def yX8_consumed : MethodName := ⟨RX8, "consumed", "(I)J"⟩
abbrev cX8_grows : ByteArray := prog_11_method_33_code
def yX8_grows : MethodName := ⟨RX8, "grows", "(JJJ)Z"⟩
abbrev cX8_growStream : ByteArray := prog_11_method_35_code
def yX8_growStream : MethodName := ⟨RX8, "growStream", "(II)V"⟩
abbrev cX8_looksOver : ByteArray := prog_11_method_36_code
def yX8_looksOver : MethodName := ⟨RX8, "looksOver", "(II)V"⟩
abbrev cX8_take : ByteArray := prog_11_method_52_code
def yX8_take : MethodName := ⟨RX8, "take", "(IIJJJ)I"⟩
abbrev cX8_takes : ByteArray := prog_11_method_51_code
def yX8_takes : MethodName := ⟨RX8, "takes", "(I)I"⟩
abbrev cX8_takeStream : ByteArray := prog_11_method_48_code
def yX8_takeStream : MethodName := ⟨RX8, "takeStream", "(I)I"⟩
abbrev cX8_meant : ByteArray := prog_11_method_45_code
def yX8_meant : MethodName := ⟨RX8, "meant", "(IJZ)I"⟩
abbrev cX8_reaches : ByteArray := prog_11_method_47_code
def yX8_reaches : MethodName := ⟨RX8, "reaches", "(IIJZ)I"⟩
abbrev cX8_received : ByteArray := prog_11_method_29_code
def yX8_received : MethodName := ⟨RX8, "received", "(I)J"⟩
abbrev cX8_comesThere : ByteArray := prog_11_method_46_code
def yX8_comesThere : MethodName := ⟨RX8, "comesThere", "(II)V"⟩
abbrev cX8_comes : ByteArray := prog_11_method_24_code
def yX8_comes : MethodName := ⟨RX8, "comes", "(IIJB)V"⟩
abbrev cX8_takeReset : ByteArray := prog_11_method_49_code
def yX8_takeReset : MethodName := ⟨RX8, "takeReset", "(I)I"⟩
abbrev cX8_takeOther : ByteArray := prog_11_method_50_code
def yX8_takeOther : MethodName := ⟨RX8, "takeOther", "(I)I"⟩
abbrev cX8_greater : ByteArray := prog_11_method_5_code
def yX8_greater : MethodName := ⟨RX8, "greater", "(JJ)J"⟩
abbrev cX8_fill : ByteArray := prog_11_method_67_code
def yX8_fill : MethodName := ⟨RX8, "fill", "(II)I"⟩
abbrev cX8_freePlace : ByteArray := prog_11_method_66_code
def yX8_freePlace : MethodName := ⟨RX8, "freePlace", "()I"⟩
abbrev cX8_fills : ByteArray := prog_11_method_65_code
def yX8_fills : MethodName := ⟨RX8, "fills", "(II)Z"⟩
abbrev cX8_fillsResets : ByteArray := prog_11_method_56_code
def yX8_fillsResets : MethodName := ⟨RX8, "fillsResets", "(II)Z"⟩
abbrev cX8_sent : ByteArray := prog_11_method_19_code
def yX8_sent : MethodName := ⟨RX8, "sent", "(II)I"⟩
abbrev cX8_lays : ByteArray := prog_11_method_55_code
def yX8_lays : MethodName := ⟨RX8, "lays", "(IJJJI)Z"⟩
abbrev cX8_bytes : ByteArray := prog_11_method_54_code
def yX8_bytes : MethodName := ⟨RX8, "bytes", "()I"⟩
abbrev cX8_sizeOf : ByteArray := prog_11_method_53_code
def yX8_sizeOf : MethodName := ⟨RX8, "sizeOf", "(J)I"⟩
abbrev cX8_fillsGrants : ByteArray := prog_11_method_57_code
def yX8_fillsGrants : MethodName := ⟨RX8, "fillsGrants", "(II)Z"⟩
abbrev cX8_fillsBlocked : ByteArray := prog_11_method_59_code
def yX8_fillsBlocked : MethodName := ⟨RX8, "fillsBlocked", "(II)Z"⟩
abbrev cX8_waits : ByteArray := prog_11_method_58_code
def yX8_waits : MethodName := ⟨RX8, "waits", "(II)Z"⟩
abbrev cX8_allSent : ByteArray := prog_11_method_20_code
def yX8_allSent : MethodName := ⟨RX8, "allSent", "(I)I"⟩
abbrev cX8_fillsStream : ByteArray := prog_11_method_63_code
def yX8_fillsStream : MethodName := ⟨RX8, "fillsStream", "(III)Z"⟩
abbrev cX8_firstIn : ByteArray := prog_11_method_61_code
def yX8_firstIn : MethodName := ⟨RX8, "firstIn", "(III)I"⟩
abbrev cX8_allowed : ByteArray := prog_11_method_62_code
def yX8_allowed : MethodName := ⟨RX8, "allowed", "(II)J"⟩
abbrev cX8_endAlone : ByteArray := prog_11_method_64_code
def yX8_endAlone : MethodName := ⟨RX8, "endAlone", "(III)Z"⟩
abbrev cX8_placeOf : ByteArray := prog_11_method_60_code
def yX8_placeOf : MethodName := ⟨RX8, "placeOf", "(III)I"⟩
abbrev cX8_deliver : ByteArray := prog_11_method_69_code
def yX8_deliver : MethodName := ⟨RX8, "deliver", "(I)I"⟩
abbrev cX8_noPlace : ByteArray := prog_11_method_68_code
def yX8_noPlace : MethodName := ⟨RX8, "noPlace", "(I)Z"⟩
abbrev cX8_gone : ByteArray := prog_11_method_70_code
def yX8_gone : MethodName := ⟨RX8, "gone", "(IZ)V"⟩
abbrev cX8_goneStream : ByteArray := prog_11_method_71_code
def yX8_goneStream : MethodName := ⟨RX8, "goneStream", "(IIZ)V"⟩
abbrev cX8_line : ByteArray := prog_11_method_72_code
def yX8_line : MethodName := ⟨RX8, "line", "(II)J"⟩
abbrev cX8_data : ByteArray := prog_11_method_73_code
def yX8_data : MethodName := ⟨RX8, "data", "(II)I"⟩
abbrev cX8_outs : ByteArray := prog_11_method_74_code
def yX8_outs : MethodName := ⟨RX8, "outs", "(I)J"⟩
abbrev cX8_stream : ByteArray := prog_11_method_78_code
def yX8_stream : MethodName := ⟨RX8, "stream", "(III)J"⟩
abbrev cX8_sendingLook : ByteArray := prog_11_method_76_code
def yX8_sendingLook : MethodName := ⟨RX8, "sendingLook", "(III)J"⟩
abbrev cX8_endOf : ByteArray := prog_11_method_75_code
def yX8_endOf : MethodName := ⟨RX8, "endOf", "(I)I"⟩
abbrev cX8_receivingLook : ByteArray := prog_11_method_77_code
def yX8_receivingLook : MethodName := ⟨RX8, "receivingLook", "(III)J"⟩
abbrev cX8_side : ByteArray := prog_11_method_79_code
def yX8_side : MethodName := ⟨RX8, "side", "(II)J"⟩
theorem q93 : (Jvm.Cond.initialized "StreamHallModel") ∈ lw_all := lw_g (lw_at lw_m1 8 rfl) rfl
theorem q1054 : (Jvm.Cond.instantiable "StreamHallModel" (61 : Nat)) ∈ lw_all := lw_g (lw_at lw_m5 9 rfl) rfl
theorem q1056 : (Jvm.Cond.instanceMethod ({ cls := "StreamHallModel", name := "<init>", desc := "()V" } : Jvm.MethodName)) ∈ lw_all := lw_g (lw_at lw_m5 11 rfl) rfl
theorem q1057 : (Jvm.Cond.code ({ cls := "StreamHallModel", name := "<init>", desc := "()V" } : Jvm.MethodName) prog_11_method_1_code (3 : Nat) (Option.none : Option Jvm.ClassFile.FieldType)) ∈ lw_all := lw_g (lw_at lw_m5 12 rfl) rfl
theorem q1058 : (Jvm.Cond.methodLink "StreamHallModel" (1 : Nat) ({ cls := "java/lang/Object", name := "<init>", desc := "()V" } : Jvm.MethodName)) ∈ lw_all := lw_g (lw_at lw_m5 13 rfl) rfl
theorem q1059 : (Jvm.Cond.constant "StreamHallModel" (111 : Nat) (131072 : Int32)) ∈ lw_all := lw_g (lw_at lw_m5 14 rfl) rfl
theorem q1060 : (Jvm.Cond.constant "StreamHallModel" (132 : Nat) (180224 : Int32)) ∈ lw_all := lw_g (lw_at lw_m5 15 rfl) rfl
theorem q1061 : (Jvm.Cond.constant "StreamHallModel" (169 : Nat) (76800 : Int32)) ∈ lw_all := lw_g (lw_at lw_m5 16 rfl) rfl
theorem q1062 : (Jvm.Cond.constantLong "StreamHallModel" (173 : Nat) (4096 : Int64)) ∈ lw_all := lw_g (lw_at lw_m5 17 rfl) rfl
theorem q1063 : (Jvm.Cond.constantLong "StreamHallModel" (175 : Nat) (-1 : Int64)) ∈ lw_all := lw_g (lw_at lw_m5 18 rfl) rfl
theorem q1064 : (Jvm.Cond.fieldLink "StreamHallModel" (177 : Nat) "StreamHallModel" "thrown" "I") ∈ lw_all := lw_g (lw_at lw_m5 19 rfl) rfl
theorem q1065 : (Jvm.Cond.fieldLink "StreamHallModel" (244 : Nat) "StreamHallModel" "joined" "Z") ∈ lw_all := lw_g (lw_at lw_m5 20 rfl) rfl
theorem q1066 : (Jvm.Cond.fieldLink "StreamHallModel" (7 : Nat) "StreamHallModel" "tape" "[I") ∈ lw_all := lw_g (lw_at lw_m5 21 rfl) rfl
theorem q1067 : (Jvm.Cond.fieldLink "StreamHallModel" (263 : Nat) "StreamHallModel" "taped" "I") ∈ lw_all := lw_g (lw_at lw_m5 22 rfl) rfl
theorem q1068 : (Jvm.Cond.fieldLink "StreamHallModel" (13 : Nat) "StreamHallModel" "out" "[I") ∈ lw_all := lw_g (lw_at lw_m5 23 rfl) rfl
theorem q1069 : (Jvm.Cond.fieldLink "StreamHallModel" (284 : Nat) "StreamHallModel" "outs" "I") ∈ lw_all := lw_g (lw_at lw_m5 24 rfl) rfl
theorem q1070 : (Jvm.Cond.fieldLink "StreamHallModel" (16 : Nat) "StreamHallModel" "grants" "[I") ∈ lw_all := lw_g (lw_at lw_m5 25 rfl) rfl
theorem q1071 : (Jvm.Cond.fieldLink "StreamHallModel" (19 : Nat) "StreamHallModel" "limits" "[J") ∈ lw_all := lw_g (lw_at lw_m5 26 rfl) rfl
theorem q1072 : (Jvm.Cond.fieldLink "StreamHallModel" (23 : Nat) "StreamHallModel" "opened" "[I") ∈ lw_all := lw_g (lw_at lw_m5 27 rfl) rfl
theorem q1073 : (Jvm.Cond.fieldLink "StreamHallModel" (26 : Nat) "StreamHallModel" "theirs" "[I") ∈ lw_all := lw_g (lw_at lw_m5 28 rfl) rfl
theorem q1074 : (Jvm.Cond.fieldLink "StreamHallModel" (29 : Nat) "StreamHallModel" "granted" "[I") ∈ lw_all := lw_g (lw_at lw_m5 29 rfl) rfl
theorem q1075 : (Jvm.Cond.fieldLink "StreamHallModel" (32 : Nat) "StreamHallModel" "dataGrant" "[J") ∈ lw_all := lw_g (lw_at lw_m5 30 rfl) rfl
theorem q1076 : (Jvm.Cond.fieldLink "StreamHallModel" (35 : Nat) "StreamHallModel" "tellData" "[Z") ∈ lw_all := lw_g (lw_at lw_m5 31 rfl) rfl
theorem q1077 : (Jvm.Cond.fieldLink "StreamHallModel" (39 : Nat) "StreamHallModel" "tellStreams" "[Z") ∈ lw_all := lw_g (lw_at lw_m5 32 rfl) rfl
theorem q1078 : (Jvm.Cond.fieldLink "StreamHallModel" (42 : Nat) "StreamHallModel" "toldBlocked" "[J") ∈ lw_all := lw_g (lw_at lw_m5 33 rfl) rfl
theorem q1079 : (Jvm.Cond.fieldLink "StreamHallModel" (45 : Nat) "StreamHallModel" "refused" "[Z") ∈ lw_all := lw_g (lw_at lw_m5 34 rfl) rfl
theorem q1080 : (Jvm.Cond.fieldLink "StreamHallModel" (48 : Nat) "StreamHallModel" "lastStream" "[I") ∈ lw_all := lw_g (lw_at lw_m5 35 rfl) rfl
theorem q1081 : (Jvm.Cond.fieldLink "StreamHallModel" (51 : Nat) "StreamHallModel" "there" "[Z") ∈ lw_all := lw_g (lw_at lw_m5 36 rfl) rfl
theorem q1082 : (Jvm.Cond.fieldLink "StreamHallModel" (54 : Nat) "StreamHallModel" "limit" "[J") ∈ lw_all := lw_g (lw_at lw_m5 37 rfl) rfl
theorem q1083 : (Jvm.Cond.fieldLink "StreamHallModel" (57 : Nat) "StreamHallModel" "finished" "[Z") ∈ lw_all := lw_g (lw_at lw_m5 38 rfl) rfl
theorem q1084 : (Jvm.Cond.fieldLink "StreamHallModel" (60 : Nat) "StreamHallModel" "end" "[I") ∈ lw_all := lw_g (lw_at lw_m5 39 rfl) rfl
theorem q1085 : (Jvm.Cond.fieldLink "StreamHallModel" (63 : Nat) "StreamHallModel" "resets" "[I") ∈ lw_all := lw_g (lw_at lw_m5 40 rfl) rfl
theorem q1086 : (Jvm.Cond.fieldLink "StreamHallModel" (66 : Nat) "StreamHallModel" "tellReset" "[Z") ∈ lw_all := lw_g (lw_at lw_m5 41 rfl) rfl
theorem q1087 : (Jvm.Cond.fieldLink "StreamHallModel" (69 : Nat) "StreamHallModel" "code" "[J") ∈ lw_all := lw_g (lw_at lw_m5 42 rfl) rfl
theorem q1088 : (Jvm.Cond.fieldLink "StreamHallModel" (72 : Nat) "StreamHallModel" "toldLimit" "[J") ∈ lw_all := lw_g (lw_at lw_m5 43 rfl) rfl
theorem q1089 : (Jvm.Cond.fieldLink "StreamHallModel" (75 : Nat) "StreamHallModel" "highest" "[J") ∈ lw_all := lw_g (lw_at lw_m5 44 rfl) rfl
theorem q1090 : (Jvm.Cond.fieldLink "StreamHallModel" (78 : Nat) "StreamHallModel" "size" "[J") ∈ lw_all := lw_g (lw_at lw_m5 45 rfl) rfl
theorem q1091 : (Jvm.Cond.fieldLink "StreamHallModel" (81 : Nat) "StreamHallModel" "read" "[J") ∈ lw_all := lw_g (lw_at lw_m5 46 rfl) rfl
theorem q1092 : (Jvm.Cond.fieldLink "StreamHallModel" (84 : Nat) "StreamHallModel" "wasReset" "[Z") ∈ lw_all := lw_g (lw_at lw_m5 47 rfl) rfl
theorem q1093 : (Jvm.Cond.fieldLink "StreamHallModel" (87 : Nat) "StreamHallModel" "theirCode" "[J") ∈ lw_all := lw_g (lw_at lw_m5 48 rfl) rfl
theorem q1094 : (Jvm.Cond.fieldLink "StreamHallModel" (90 : Nat) "StreamHallModel" "grant" "[J") ∈ lw_all := lw_g (lw_at lw_m5 49 rfl) rfl
theorem q1095 : (Jvm.Cond.fieldLink "StreamHallModel" (93 : Nat) "StreamHallModel" "tellGrant" "[Z") ∈ lw_all := lw_g (lw_at lw_m5 50 rfl) rfl
theorem q1096 : (Jvm.Cond.fieldLink "StreamHallModel" (96 : Nat) "StreamHallModel" "stopped" "[Z") ∈ lw_all := lw_g (lw_at lw_m5 51 rfl) rfl
theorem q1097 : (Jvm.Cond.fieldLink "StreamHallModel" (99 : Nat) "StreamHallModel" "tellStop" "[Z") ∈ lw_all := lw_g (lw_at lw_m5 52 rfl) rfl
theorem q1098 : (Jvm.Cond.fieldLink "StreamHallModel" (102 : Nat) "StreamHallModel" "stopCode" "[J") ∈ lw_all := lw_g (lw_at lw_m5 53 rfl) rfl
theorem q1099 : (Jvm.Cond.fieldLink "StreamHallModel" (105 : Nat) "StreamHallModel" "over" "[Z") ∈ lw_all := lw_g (lw_at lw_m5 54 rfl) rfl
theorem q1100 : (Jvm.Cond.fieldLink "StreamHallModel" (108 : Nat) "StreamHallModel" "total" "[I") ∈ lw_all := lw_g (lw_at lw_m5 55 rfl) rfl
theorem q1101 : (Jvm.Cond.fieldLink "StreamHallModel" (112 : Nat) "StreamHallModel" "of" "[S") ∈ lw_all := lw_g (lw_at lw_m5 56 rfl) rfl
theorem q1102 : (Jvm.Cond.fieldLink "StreamHallModel" (116 : Nat) "StreamHallModel" "value" "[B") ∈ lw_all := lw_g (lw_at lw_m5 57 rfl) rfl
theorem q1103 : (Jvm.Cond.fieldLink "StreamHallModel" (120 : Nat) "StreamHallModel" "mark" "[B") ∈ lw_all := lw_g (lw_at lw_m5 58 rfl) rfl
theorem q1104 : (Jvm.Cond.fieldLink "StreamHallModel" (123 : Nat) "StreamHallModel" "pieces" "[I") ∈ lw_all := lw_g (lw_at lw_m5 59 rfl) rfl
theorem q1105 : (Jvm.Cond.fieldLink "StreamHallModel" (126 : Nat) "StreamHallModel" "pieceOf" "[I") ∈ lw_all := lw_g (lw_at lw_m5 60 rfl) rfl
theorem q1106 : (Jvm.Cond.fieldLink "StreamHallModel" (129 : Nat) "StreamHallModel" "pieceNumber" "[I") ∈ lw_all := lw_g (lw_at lw_m5 61 rfl) rfl
theorem q1107 : (Jvm.Cond.fieldLink "StreamHallModel" (133 : Nat) "StreamHallModel" "came" "[B") ∈ lw_all := lw_g (lw_at lw_m5 62 rfl) rfl
theorem q1108 : (Jvm.Cond.fieldLink "StreamHallModel" (136 : Nat) "StreamHallModel" "has" "[Z") ∈ lw_all := lw_g (lw_at lw_m5 63 rfl) rfl
theorem q1109 : (Jvm.Cond.fieldLink "StreamHallModel" (336 : Nat) "StreamHallModel" "kind" "I") ∈ lw_all := lw_g (lw_at lw_m5 64 rfl) rfl
theorem q1110 : (Jvm.Cond.fieldLink "StreamHallModel" (308 : Nat) "StreamHallModel" "fa" "J") ∈ lw_all := lw_g (lw_at lw_m5 65 rfl) rfl
theorem q1111 : (Jvm.Cond.fieldLink "StreamHallModel" (316 : Nat) "StreamHallModel" "fb" "J") ∈ lw_all := lw_g (lw_at lw_m5 66 rfl) rfl
theorem q1112 : (Jvm.Cond.fieldLink "StreamHallModel" (322 : Nat) "StreamHallModel" "fc" "J") ∈ lw_all := lw_g (lw_at lw_m5 67 rfl) rfl
theorem q1113 : (Jvm.Cond.fieldLink "StreamHallModel" (319 : Nat) "StreamHallModel" "fSize" "I") ∈ lw_all := lw_g (lw_at lw_m5 68 rfl) rfl
theorem q1114 : (Jvm.Cond.fieldLink "StreamHallModel" (139 : Nat) "StreamHallModel" "fData" "[B") ∈ lw_all := lw_g (lw_at lw_m5 69 rfl) rfl
theorem q1115 : (Jvm.Cond.fieldLink "StreamHallModel" (142 : Nat) "StreamHallModel" "lineSide" "[I") ∈ lw_all := lw_g (lw_at lw_m5 70 rfl) rfl
theorem q1116 : (Jvm.Cond.fieldLink "StreamHallModel" (145 : Nat) "StreamHallModel" "lineKind" "[I") ∈ lw_all := lw_g (lw_at lw_m5 71 rfl) rfl
theorem q1117 : (Jvm.Cond.fieldLink "StreamHallModel" (148 : Nat) "StreamHallModel" "lineA" "[J") ∈ lw_all := lw_g (lw_at lw_m5 72 rfl) rfl
theorem q1118 : (Jvm.Cond.fieldLink "StreamHallModel" (151 : Nat) "StreamHallModel" "lineB" "[J") ∈ lw_all := lw_g (lw_at lw_m5 73 rfl) rfl
theorem q1119 : (Jvm.Cond.fieldLink "StreamHallModel" (154 : Nat) "StreamHallModel" "lineC" "[J") ∈ lw_all := lw_g (lw_at lw_m5 74 rfl) rfl
theorem q1120 : (Jvm.Cond.fieldLink "StreamHallModel" (157 : Nat) "StreamHallModel" "lineSize" "[I") ∈ lw_all := lw_g (lw_at lw_m5 75 rfl) rfl
theorem q1121 : (Jvm.Cond.fieldLink "StreamHallModel" (160 : Nat) "StreamHallModel" "lineBytes" "[I") ∈ lw_all := lw_g (lw_at lw_m5 76 rfl) rfl
theorem q1122 : (Jvm.Cond.fieldLink "StreamHallModel" (163 : Nat) "StreamHallModel" "lineUsed" "[Z") ∈ lw_all := lw_g (lw_at lw_m5 77 rfl) rfl
theorem q1123 : (Jvm.Cond.fieldLink "StreamHallModel" (166 : Nat) "StreamHallModel" "delivered" "[I") ∈ lw_all := lw_g (lw_at lw_m5 78 rfl) rfl
theorem q1124 : (Jvm.Cond.fieldLink "StreamHallModel" (170 : Nat) "StreamHallModel" "lineData" "[B") ∈ lw_all := lw_g (lw_at lw_m5 79 rfl) rfl
theorem q1125 : (Jvm.Cond.lays "StreamHallModel" "StreamHallModel" "thrown" "I") ∈ lw_all := lw_g (lw_at lw_m5 80 rfl) rfl
theorem q1126 : (Jvm.Cond.soleField "StreamHallModel" "thrown") ∈ lw_all := lw_g (lw_at lw_m5 81 rfl) rfl
theorem q1127 : (Jvm.Cond.lays "StreamHallModel" "StreamHallModel" "joined" "Z") ∈ lw_all := lw_g (lw_at lw_m5 82 rfl) rfl
theorem q1128 : (Jvm.Cond.soleField "StreamHallModel" "joined") ∈ lw_all := lw_g (lw_at lw_m5 83 rfl) rfl
theorem q1129 : (Jvm.Cond.laysFinal "StreamHallModel" "StreamHallModel" "tape" "[I") ∈ lw_all := lw_g (lw_at lw_m5 84 rfl) rfl
theorem q1130 : (Jvm.Cond.soleField "StreamHallModel" "tape") ∈ lw_all := lw_g (lw_at lw_m5 85 rfl) rfl
theorem q1131 : (Jvm.Cond.lays "StreamHallModel" "StreamHallModel" "taped" "I") ∈ lw_all := lw_g (lw_at lw_m5 86 rfl) rfl
theorem q1132 : (Jvm.Cond.soleField "StreamHallModel" "taped") ∈ lw_all := lw_g (lw_at lw_m5 87 rfl) rfl
theorem q1133 : (Jvm.Cond.laysFinal "StreamHallModel" "StreamHallModel" "out" "[I") ∈ lw_all := lw_g (lw_at lw_m5 88 rfl) rfl
theorem q1134 : (Jvm.Cond.soleField "StreamHallModel" "out") ∈ lw_all := lw_g (lw_at lw_m5 89 rfl) rfl
theorem q1135 : (Jvm.Cond.lays "StreamHallModel" "StreamHallModel" "outs" "I") ∈ lw_all := lw_g (lw_at lw_m5 90 rfl) rfl
theorem q1136 : (Jvm.Cond.soleField "StreamHallModel" "outs") ∈ lw_all := lw_g (lw_at lw_m5 91 rfl) rfl
theorem q1137 : (Jvm.Cond.laysFinal "StreamHallModel" "StreamHallModel" "grants" "[I") ∈ lw_all := lw_g (lw_at lw_m5 92 rfl) rfl
theorem q1138 : (Jvm.Cond.soleField "StreamHallModel" "grants") ∈ lw_all := lw_g (lw_at lw_m5 93 rfl) rfl
theorem q1139 : (Jvm.Cond.laysFinal "StreamHallModel" "StreamHallModel" "limits" "[J") ∈ lw_all := lw_g (lw_at lw_m5 94 rfl) rfl
theorem q1140 : (Jvm.Cond.soleField "StreamHallModel" "limits") ∈ lw_all := lw_g (lw_at lw_m5 95 rfl) rfl
theorem q1141 : (Jvm.Cond.laysFinal "StreamHallModel" "StreamHallModel" "opened" "[I") ∈ lw_all := lw_g (lw_at lw_m5 96 rfl) rfl
theorem q1142 : (Jvm.Cond.soleField "StreamHallModel" "opened") ∈ lw_all := lw_g (lw_at lw_m5 97 rfl) rfl
theorem q1143 : (Jvm.Cond.laysFinal "StreamHallModel" "StreamHallModel" "theirs" "[I") ∈ lw_all := lw_g (lw_at lw_m5 98 rfl) rfl
theorem q1144 : (Jvm.Cond.soleField "StreamHallModel" "theirs") ∈ lw_all := lw_g (lw_at lw_m5 99 rfl) rfl
theorem q1145 : (Jvm.Cond.laysFinal "StreamHallModel" "StreamHallModel" "granted" "[I") ∈ lw_all := lw_g (lw_at lw_m5 100 rfl) rfl
theorem q1146 : (Jvm.Cond.soleField "StreamHallModel" "granted") ∈ lw_all := lw_g (lw_at lw_m5 101 rfl) rfl
theorem q1147 : (Jvm.Cond.laysFinal "StreamHallModel" "StreamHallModel" "dataGrant" "[J") ∈ lw_all := lw_g (lw_at lw_m5 102 rfl) rfl
theorem q1148 : (Jvm.Cond.soleField "StreamHallModel" "dataGrant") ∈ lw_all := lw_g (lw_at lw_m5 103 rfl) rfl
theorem q1149 : (Jvm.Cond.laysFinal "StreamHallModel" "StreamHallModel" "tellData" "[Z") ∈ lw_all := lw_g (lw_at lw_m5 104 rfl) rfl
theorem q1150 : (Jvm.Cond.soleField "StreamHallModel" "tellData") ∈ lw_all := lw_g (lw_at lw_m5 105 rfl) rfl
theorem q1151 : (Jvm.Cond.laysFinal "StreamHallModel" "StreamHallModel" "tellStreams" "[Z") ∈ lw_all := lw_g (lw_at lw_m5 106 rfl) rfl
theorem q1152 : (Jvm.Cond.soleField "StreamHallModel" "tellStreams") ∈ lw_all := lw_g (lw_at lw_m5 107 rfl) rfl
theorem q1153 : (Jvm.Cond.laysFinal "StreamHallModel" "StreamHallModel" "toldBlocked" "[J") ∈ lw_all := lw_g (lw_at lw_m5 108 rfl) rfl
theorem q1154 : (Jvm.Cond.soleField "StreamHallModel" "toldBlocked") ∈ lw_all := lw_g (lw_at lw_m5 109 rfl) rfl
theorem q1155 : (Jvm.Cond.laysFinal "StreamHallModel" "StreamHallModel" "refused" "[Z") ∈ lw_all := lw_g (lw_at lw_m5 110 rfl) rfl
theorem q1156 : (Jvm.Cond.soleField "StreamHallModel" "refused") ∈ lw_all := lw_g (lw_at lw_m5 111 rfl) rfl
theorem q1157 : (Jvm.Cond.laysFinal "StreamHallModel" "StreamHallModel" "lastStream" "[I") ∈ lw_all := lw_g (lw_at lw_m5 112 rfl) rfl
theorem q1158 : (Jvm.Cond.soleField "StreamHallModel" "lastStream") ∈ lw_all := lw_g (lw_at lw_m5 113 rfl) rfl
theorem q1159 : (Jvm.Cond.laysFinal "StreamHallModel" "StreamHallModel" "there" "[Z") ∈ lw_all := lw_g (lw_at lw_m5 114 rfl) rfl
theorem q1160 : (Jvm.Cond.soleField "StreamHallModel" "there") ∈ lw_all := lw_g (lw_at lw_m5 115 rfl) rfl
theorem q1161 : (Jvm.Cond.laysFinal "StreamHallModel" "StreamHallModel" "limit" "[J") ∈ lw_all := lw_g (lw_at lw_m5 116 rfl) rfl
theorem q1162 : (Jvm.Cond.soleField "StreamHallModel" "limit") ∈ lw_all := lw_g (lw_at lw_m5 117 rfl) rfl
theorem q1163 : (Jvm.Cond.laysFinal "StreamHallModel" "StreamHallModel" "finished" "[Z") ∈ lw_all := lw_g (lw_at lw_m5 118 rfl) rfl
theorem q1164 : (Jvm.Cond.soleField "StreamHallModel" "finished") ∈ lw_all := lw_g (lw_at lw_m5 119 rfl) rfl
theorem q1165 : (Jvm.Cond.laysFinal "StreamHallModel" "StreamHallModel" "end" "[I") ∈ lw_all := lw_g (lw_at lw_m5 120 rfl) rfl
theorem q1166 : (Jvm.Cond.soleField "StreamHallModel" "end") ∈ lw_all := lw_g (lw_at lw_m5 121 rfl) rfl
theorem q1167 : (Jvm.Cond.laysFinal "StreamHallModel" "StreamHallModel" "resets" "[I") ∈ lw_all := lw_g (lw_at lw_m5 122 rfl) rfl
theorem q1168 : (Jvm.Cond.soleField "StreamHallModel" "resets") ∈ lw_all := lw_g (lw_at lw_m5 123 rfl) rfl
theorem q1169 : (Jvm.Cond.laysFinal "StreamHallModel" "StreamHallModel" "tellReset" "[Z") ∈ lw_all := lw_g (lw_at lw_m5 124 rfl) rfl
theorem q1170 : (Jvm.Cond.soleField "StreamHallModel" "tellReset") ∈ lw_all := lw_g (lw_at lw_m5 125 rfl) rfl
theorem q1171 : (Jvm.Cond.laysFinal "StreamHallModel" "StreamHallModel" "code" "[J") ∈ lw_all := lw_g (lw_at lw_m5 126 rfl) rfl
theorem q1172 : (Jvm.Cond.soleField "StreamHallModel" "code") ∈ lw_all := lw_g (lw_at lw_m5 127 rfl) rfl
theorem q1173 : (Jvm.Cond.laysFinal "StreamHallModel" "StreamHallModel" "toldLimit" "[J") ∈ lw_all := lw_g (lw_at lw_m5 128 rfl) rfl
theorem q1174 : (Jvm.Cond.soleField "StreamHallModel" "toldLimit") ∈ lw_all := lw_g (lw_at lw_m5 129 rfl) rfl
theorem q1175 : (Jvm.Cond.laysFinal "StreamHallModel" "StreamHallModel" "highest" "[J") ∈ lw_all := lw_g (lw_at lw_m5 130 rfl) rfl
theorem q1176 : (Jvm.Cond.soleField "StreamHallModel" "highest") ∈ lw_all := lw_g (lw_at lw_m5 131 rfl) rfl
theorem q1177 : (Jvm.Cond.laysFinal "StreamHallModel" "StreamHallModel" "size" "[J") ∈ lw_all := lw_g (lw_at lw_m5 132 rfl) rfl
theorem q1178 : (Jvm.Cond.soleField "StreamHallModel" "size") ∈ lw_all := lw_g (lw_at lw_m5 133 rfl) rfl
theorem q1179 : (Jvm.Cond.laysFinal "StreamHallModel" "StreamHallModel" "read" "[J") ∈ lw_all := lw_g (lw_at lw_m5 134 rfl) rfl
theorem q1180 : (Jvm.Cond.soleField "StreamHallModel" "read") ∈ lw_all := lw_g (lw_at lw_m5 135 rfl) rfl
theorem q1181 : (Jvm.Cond.laysFinal "StreamHallModel" "StreamHallModel" "wasReset" "[Z") ∈ lw_all := lw_g (lw_at lw_m5 136 rfl) rfl
theorem q1182 : (Jvm.Cond.soleField "StreamHallModel" "wasReset") ∈ lw_all := lw_g (lw_at lw_m5 137 rfl) rfl
theorem q1183 : (Jvm.Cond.laysFinal "StreamHallModel" "StreamHallModel" "theirCode" "[J") ∈ lw_all := lw_g (lw_at lw_m5 138 rfl) rfl
theorem q1184 : (Jvm.Cond.soleField "StreamHallModel" "theirCode") ∈ lw_all := lw_g (lw_at lw_m5 139 rfl) rfl
theorem q1185 : (Jvm.Cond.laysFinal "StreamHallModel" "StreamHallModel" "grant" "[J") ∈ lw_all := lw_g (lw_at lw_m5 140 rfl) rfl
theorem q1186 : (Jvm.Cond.soleField "StreamHallModel" "grant") ∈ lw_all := lw_g (lw_at lw_m5 141 rfl) rfl
theorem q1187 : (Jvm.Cond.laysFinal "StreamHallModel" "StreamHallModel" "tellGrant" "[Z") ∈ lw_all := lw_g (lw_at lw_m5 142 rfl) rfl
theorem q1188 : (Jvm.Cond.soleField "StreamHallModel" "tellGrant") ∈ lw_all := lw_g (lw_at lw_m5 143 rfl) rfl
theorem q1189 : (Jvm.Cond.laysFinal "StreamHallModel" "StreamHallModel" "stopped" "[Z") ∈ lw_all := lw_g (lw_at lw_m5 144 rfl) rfl
theorem q1190 : (Jvm.Cond.soleField "StreamHallModel" "stopped") ∈ lw_all := lw_g (lw_at lw_m5 145 rfl) rfl
theorem q1191 : (Jvm.Cond.laysFinal "StreamHallModel" "StreamHallModel" "tellStop" "[Z") ∈ lw_all := lw_g (lw_at lw_m5 146 rfl) rfl
theorem q1192 : (Jvm.Cond.soleField "StreamHallModel" "tellStop") ∈ lw_all := lw_g (lw_at lw_m5 147 rfl) rfl
theorem q1193 : (Jvm.Cond.laysFinal "StreamHallModel" "StreamHallModel" "stopCode" "[J") ∈ lw_all := lw_g (lw_at lw_m5 148 rfl) rfl
theorem q1194 : (Jvm.Cond.soleField "StreamHallModel" "stopCode") ∈ lw_all := lw_g (lw_at lw_m5 149 rfl) rfl
theorem q1195 : (Jvm.Cond.laysFinal "StreamHallModel" "StreamHallModel" "over" "[Z") ∈ lw_all := lw_g (lw_at lw_m5 150 rfl) rfl
theorem q1196 : (Jvm.Cond.soleField "StreamHallModel" "over") ∈ lw_all := lw_g (lw_at lw_m5 151 rfl) rfl
theorem q1197 : (Jvm.Cond.laysFinal "StreamHallModel" "StreamHallModel" "total" "[I") ∈ lw_all := lw_g (lw_at lw_m5 152 rfl) rfl
theorem q1198 : (Jvm.Cond.soleField "StreamHallModel" "total") ∈ lw_all := lw_g (lw_at lw_m5 153 rfl) rfl
theorem q1199 : (Jvm.Cond.laysFinal "StreamHallModel" "StreamHallModel" "of" "[S") ∈ lw_all := lw_g (lw_at lw_m5 154 rfl) rfl
theorem q1200 : (Jvm.Cond.soleField "StreamHallModel" "of") ∈ lw_all := lw_g (lw_at lw_m5 155 rfl) rfl
theorem q1201 : (Jvm.Cond.laysFinal "StreamHallModel" "StreamHallModel" "value" "[B") ∈ lw_all := lw_g (lw_at lw_m5 156 rfl) rfl
theorem q1202 : (Jvm.Cond.soleField "StreamHallModel" "value") ∈ lw_all := lw_g (lw_at lw_m5 157 rfl) rfl
theorem q1203 : (Jvm.Cond.laysFinal "StreamHallModel" "StreamHallModel" "mark" "[B") ∈ lw_all := lw_g (lw_at lw_m5 158 rfl) rfl
theorem q1204 : (Jvm.Cond.soleField "StreamHallModel" "mark") ∈ lw_all := lw_g (lw_at lw_m5 159 rfl) rfl
theorem q1205 : (Jvm.Cond.laysFinal "StreamHallModel" "StreamHallModel" "pieces" "[I") ∈ lw_all := lw_g (lw_at lw_m5 160 rfl) rfl
theorem q1206 : (Jvm.Cond.soleField "StreamHallModel" "pieces") ∈ lw_all := lw_g (lw_at lw_m5 161 rfl) rfl
theorem q1207 : (Jvm.Cond.laysFinal "StreamHallModel" "StreamHallModel" "pieceOf" "[I") ∈ lw_all := lw_g (lw_at lw_m5 162 rfl) rfl
theorem q1208 : (Jvm.Cond.soleField "StreamHallModel" "pieceOf") ∈ lw_all := lw_g (lw_at lw_m5 163 rfl) rfl
theorem q1209 : (Jvm.Cond.laysFinal "StreamHallModel" "StreamHallModel" "pieceNumber" "[I") ∈ lw_all := lw_g (lw_at lw_m5 164 rfl) rfl
theorem q1210 : (Jvm.Cond.soleField "StreamHallModel" "pieceNumber") ∈ lw_all := lw_g (lw_at lw_m5 165 rfl) rfl
theorem q1211 : (Jvm.Cond.laysFinal "StreamHallModel" "StreamHallModel" "came" "[B") ∈ lw_all := lw_g (lw_at lw_m5 166 rfl) rfl
theorem q1212 : (Jvm.Cond.soleField "StreamHallModel" "came") ∈ lw_all := lw_g (lw_at lw_m5 167 rfl) rfl
theorem q1213 : (Jvm.Cond.laysFinal "StreamHallModel" "StreamHallModel" "has" "[Z") ∈ lw_all := lw_g (lw_at lw_m5 168 rfl) rfl
theorem q1214 : (Jvm.Cond.soleField "StreamHallModel" "has") ∈ lw_all := lw_g (lw_at lw_m5 169 rfl) rfl
theorem q1215 : (Jvm.Cond.lays "StreamHallModel" "StreamHallModel" "kind" "I") ∈ lw_all := lw_g (lw_at lw_m5 170 rfl) rfl
theorem q1216 : (Jvm.Cond.soleField "StreamHallModel" "kind") ∈ lw_all := lw_g (lw_at lw_m5 171 rfl) rfl
theorem q1217 : (Jvm.Cond.lays "StreamHallModel" "StreamHallModel" "fa" "J") ∈ lw_all := lw_g (lw_at lw_m5 172 rfl) rfl
theorem q1218 : (Jvm.Cond.soleField "StreamHallModel" "fa") ∈ lw_all := lw_g (lw_at lw_m5 173 rfl) rfl
theorem q1219 : (Jvm.Cond.lays "StreamHallModel" "StreamHallModel" "fb" "J") ∈ lw_all := lw_g (lw_at lw_m5 174 rfl) rfl
theorem q1220 : (Jvm.Cond.soleField "StreamHallModel" "fb") ∈ lw_all := lw_g (lw_at lw_m5 175 rfl) rfl
theorem q1221 : (Jvm.Cond.lays "StreamHallModel" "StreamHallModel" "fc" "J") ∈ lw_all := lw_g (lw_at lw_m5 176 rfl) rfl
theorem q1222 : (Jvm.Cond.soleField "StreamHallModel" "fc") ∈ lw_all := lw_g (lw_at lw_m5 177 rfl) rfl
theorem q1223 : (Jvm.Cond.lays "StreamHallModel" "StreamHallModel" "fSize" "I") ∈ lw_all := lw_g (lw_at lw_m5 178 rfl) rfl
theorem q1224 : (Jvm.Cond.soleField "StreamHallModel" "fSize") ∈ lw_all := lw_g (lw_at lw_m5 179 rfl) rfl
theorem q1225 : (Jvm.Cond.laysFinal "StreamHallModel" "StreamHallModel" "fData" "[B") ∈ lw_all := lw_g (lw_at lw_m5 180 rfl) rfl
theorem q1226 : (Jvm.Cond.soleField "StreamHallModel" "fData") ∈ lw_all := lw_g (lw_at lw_m5 181 rfl) rfl
theorem q1227 : (Jvm.Cond.laysFinal "StreamHallModel" "StreamHallModel" "lineSide" "[I") ∈ lw_all := lw_g (lw_at lw_m5 182 rfl) rfl
theorem q1228 : (Jvm.Cond.soleField "StreamHallModel" "lineSide") ∈ lw_all := lw_g (lw_at lw_m5 183 rfl) rfl
theorem q1229 : (Jvm.Cond.laysFinal "StreamHallModel" "StreamHallModel" "lineKind" "[I") ∈ lw_all := lw_g (lw_at lw_m5 184 rfl) rfl
theorem q1230 : (Jvm.Cond.soleField "StreamHallModel" "lineKind") ∈ lw_all := lw_g (lw_at lw_m5 185 rfl) rfl
theorem q1231 : (Jvm.Cond.laysFinal "StreamHallModel" "StreamHallModel" "lineA" "[J") ∈ lw_all := lw_g (lw_at lw_m5 186 rfl) rfl
theorem q1232 : (Jvm.Cond.soleField "StreamHallModel" "lineA") ∈ lw_all := lw_g (lw_at lw_m5 187 rfl) rfl
theorem q1233 : (Jvm.Cond.laysFinal "StreamHallModel" "StreamHallModel" "lineB" "[J") ∈ lw_all := lw_g (lw_at lw_m5 188 rfl) rfl
theorem q1234 : (Jvm.Cond.soleField "StreamHallModel" "lineB") ∈ lw_all := lw_g (lw_at lw_m5 189 rfl) rfl
theorem q1235 : (Jvm.Cond.laysFinal "StreamHallModel" "StreamHallModel" "lineC" "[J") ∈ lw_all := lw_g (lw_at lw_m5 190 rfl) rfl
theorem q1236 : (Jvm.Cond.soleField "StreamHallModel" "lineC") ∈ lw_all := lw_g (lw_at lw_m5 191 rfl) rfl
theorem q1237 : (Jvm.Cond.laysFinal "StreamHallModel" "StreamHallModel" "lineSize" "[I") ∈ lw_all := lw_g (lw_at lw_m5 192 rfl) rfl
theorem q1238 : (Jvm.Cond.soleField "StreamHallModel" "lineSize") ∈ lw_all := lw_g (lw_at lw_m5 193 rfl) rfl
theorem q1239 : (Jvm.Cond.laysFinal "StreamHallModel" "StreamHallModel" "lineBytes" "[I") ∈ lw_all := lw_g (lw_at lw_m5 194 rfl) rfl
theorem q1240 : (Jvm.Cond.soleField "StreamHallModel" "lineBytes") ∈ lw_all := lw_g (lw_at lw_m5 195 rfl) rfl
theorem q1241 : (Jvm.Cond.laysFinal "StreamHallModel" "StreamHallModel" "lineUsed" "[Z") ∈ lw_all := lw_g (lw_at lw_m5 196 rfl) rfl
theorem q1242 : (Jvm.Cond.soleField "StreamHallModel" "lineUsed") ∈ lw_all := lw_g (lw_at lw_m5 197 rfl) rfl
theorem q1243 : (Jvm.Cond.laysFinal "StreamHallModel" "StreamHallModel" "delivered" "[I") ∈ lw_all := lw_g (lw_at lw_m5 198 rfl) rfl
theorem q1244 : (Jvm.Cond.soleField "StreamHallModel" "delivered") ∈ lw_all := lw_g (lw_at lw_m5 199 rfl) rfl
theorem q1245 : (Jvm.Cond.laysFinal "StreamHallModel" "StreamHallModel" "lineData" "[B") ∈ lw_all := lw_g (lw_at lw_m5 200 rfl) rfl
theorem q1246 : (Jvm.Cond.soleField "StreamHallModel" "lineData") ∈ lw_all := lw_g (lw_at lw_m5 201 rfl) rfl
theorem q1247 : (Jvm.Cond.superclass "StreamHallModel" "java/lang/Object") ∈ lw_all := lw_g (lw_at lw_m5 202 rfl) rfl
theorem q1251 : (Jvm.Cond.instanceMethod ({ cls := "StreamHallModel", name := "thrown", desc := "()I" } : Jvm.MethodName)) ∈ lw_all := lw_g (lw_at lw_m5 206 rfl) rfl
theorem q1252 : (Jvm.Cond.selects "StreamHallModel" ({ cls := "StreamHallModel", name := "thrown", desc := "()I" } : Jvm.MethodName) ({ cls := "StreamHallModel", name := "thrown", desc := "()I" } : Jvm.MethodName)) ∈ lw_all := lw_g (lw_at lw_m5 207 rfl) rfl
theorem q1253 : (Jvm.Cond.code ({ cls := "StreamHallModel", name := "thrown", desc := "()I" } : Jvm.MethodName) prog_11_method_2_code (1 : Nat) (Option.some Jvm.ClassFile.FieldType.int)) ∈ lw_all := lw_g (lw_at lw_m5 208 rfl) rfl
theorem q1255 : (Jvm.Cond.instanceMethod ({ cls := "StreamHallModel", name := "grant", desc := "(III)V" } : Jvm.MethodName)) ∈ lw_all := lw_g (lw_at lw_m5 210 rfl) rfl
theorem q1256 : (Jvm.Cond.selects "StreamHallModel" ({ cls := "StreamHallModel", name := "grant", desc := "(III)V" } : Jvm.MethodName) ({ cls := "StreamHallModel", name := "grant", desc := "(III)V" } : Jvm.MethodName)) ∈ lw_all := lw_g (lw_at lw_m5 211 rfl) rfl
theorem q1257 : (Jvm.Cond.code ({ cls := "StreamHallModel", name := "grant", desc := "(III)V" } : Jvm.MethodName) prog_11_method_31_code (4 : Nat) (Option.none : Option Jvm.ClassFile.FieldType)) ∈ lw_all := lw_g (lw_at lw_m5 212 rfl) rfl
theorem q1258 : (Jvm.Cond.methodLink "StreamHallModel" (236 : Nat) ({ cls := "StreamHallModel", name := "noSide", desc := "(I)Z" } : Jvm.MethodName)) ∈ lw_all := lw_g (lw_at lw_m5 213 rfl) rfl
theorem q1259 : (Jvm.Cond.static ({ cls := "StreamHallModel", name := "noSide", desc := "(I)Z" } : Jvm.MethodName)) ∈ lw_all := lw_g (lw_at lw_m5 214 rfl) rfl
theorem q1260 : (Jvm.Cond.code ({ cls := "StreamHallModel", name := "noSide", desc := "(I)Z" } : Jvm.MethodName) prog_11_method_4_code (1 : Nat) (Option.some Jvm.ClassFile.FieldType.boolean)) ∈ lw_all := lw_g (lw_at lw_m5 215 rfl) rfl
theorem q1261 : (Jvm.Cond.constant "StreamHallModel" (214 : Nat) (65536 : Int32)) ∈ lw_all := lw_g (lw_at lw_m5 216 rfl) rfl
theorem q1262 : (Jvm.Cond.methodLink "StreamHallModel" (240 : Nat) ({ cls := "StreamHallModel", name := "fails", desc := "(ZI)Z" } : Jvm.MethodName)) ∈ lw_all := lw_g (lw_at lw_m5 217 rfl) rfl
theorem q1263 : (Jvm.Cond.privateMethod ({ cls := "StreamHallModel", name := "fails", desc := "(ZI)Z" } : Jvm.MethodName)) ∈ lw_tbl := lw_at lw_m5 218 rfl
theorem q1264 : (Jvm.Cond.instanceMethod ({ cls := "StreamHallModel", name := "fails", desc := "(ZI)Z" } : Jvm.MethodName)) ∈ lw_all := lw_g (lw_at lw_m5 219 rfl) rfl
theorem q1265 : (Jvm.Cond.code ({ cls := "StreamHallModel", name := "fails", desc := "(ZI)Z" } : Jvm.MethodName) prog_11_method_3_code (3 : Nat) (Option.some Jvm.ClassFile.FieldType.boolean)) ∈ lw_all := lw_g (lw_at lw_m5 220 rfl) rfl
theorem q1267 : (Jvm.Cond.instanceMethod ({ cls := "StreamHallModel", name := "join", desc := "()V" } : Jvm.MethodName)) ∈ lw_all := lw_g (lw_at lw_m5 222 rfl) rfl
theorem q1268 : (Jvm.Cond.selects "StreamHallModel" ({ cls := "StreamHallModel", name := "join", desc := "()V" } : Jvm.MethodName) ({ cls := "StreamHallModel", name := "join", desc := "()V" } : Jvm.MethodName)) ∈ lw_all := lw_g (lw_at lw_m5 223 rfl) rfl
theorem q1269 : (Jvm.Cond.code ({ cls := "StreamHallModel", name := "join", desc := "()V" } : Jvm.MethodName) prog_11_method_32_code (3 : Nat) (Option.none : Option Jvm.ClassFile.FieldType)) ∈ lw_all := lw_g (lw_at lw_m5 224 rfl) rfl
theorem q1271 : (Jvm.Cond.instanceMethod ({ cls := "StreamHallModel", name := "feed", desc := "(IJ)I" } : Jvm.MethodName)) ∈ lw_all := lw_g (lw_at lw_m5 226 rfl) rfl
theorem q1272 : (Jvm.Cond.selects "StreamHallModel" ({ cls := "StreamHallModel", name := "feed", desc := "(IJ)I" } : Jvm.MethodName) ({ cls := "StreamHallModel", name := "feed", desc := "(IJ)I" } : Jvm.MethodName)) ∈ lw_all := lw_g (lw_at lw_m5 227 rfl) rfl
theorem q1273 : (Jvm.Cond.code ({ cls := "StreamHallModel", name := "feed", desc := "(IJ)I" } : Jvm.MethodName) prog_11_method_37_code (5 : Nat) (Option.some Jvm.ClassFile.FieldType.int)) ∈ lw_all := lw_g (lw_at lw_m5 228 rfl) rfl
theorem q1274 : (Jvm.Cond.constantLong "StreamHallModel" (266 : Nat) (255 : Int64)) ∈ lw_all := lw_g (lw_at lw_m5 229 rfl) rfl
theorem q1276 : (Jvm.Cond.instanceMethod ({ cls := "StreamHallModel", name := "open", desc := "(IZ)I" } : Jvm.MethodName)) ∈ lw_all := lw_g (lw_at lw_m5 231 rfl) rfl
theorem q1277 : (Jvm.Cond.selects "StreamHallModel" ({ cls := "StreamHallModel", name := "open", desc := "(IZ)I" } : Jvm.MethodName) ({ cls := "StreamHallModel", name := "open", desc := "(IZ)I" } : Jvm.MethodName)) ∈ lw_all := lw_g (lw_at lw_m5 232 rfl) rfl
theorem q1278 : (Jvm.Cond.code ({ cls := "StreamHallModel", name := "open", desc := "(IZ)I" } : Jvm.MethodName) prog_11_method_38_code (6 : Nat) (Option.some Jvm.ClassFile.FieldType.int)) ∈ lw_all := lw_g (lw_at lw_m5 233 rfl) rfl
theorem q1279 : (Jvm.Cond.methodLink "StreamHallModel" (268 : Nat) ({ cls := "StreamHallModel", name := "begin", desc := "(II)V" } : Jvm.MethodName)) ∈ lw_all := lw_g (lw_at lw_m5 234 rfl) rfl
theorem q1280 : (Jvm.Cond.privateMethod ({ cls := "StreamHallModel", name := "begin", desc := "(II)V" } : Jvm.MethodName)) ∈ lw_tbl := lw_at lw_m5 235 rfl
theorem q1281 : (Jvm.Cond.instanceMethod ({ cls := "StreamHallModel", name := "begin", desc := "(II)V" } : Jvm.MethodName)) ∈ lw_all := lw_g (lw_at lw_m5 236 rfl) rfl
theorem q1282 : (Jvm.Cond.code ({ cls := "StreamHallModel", name := "begin", desc := "(II)V" } : Jvm.MethodName) prog_11_method_15_code (4 : Nat) (Option.none : Option Jvm.ClassFile.FieldType)) ∈ lw_all := lw_g (lw_at lw_m5 237 rfl) rfl
theorem q1283 : (Jvm.Cond.methodLink "StreamHallModel" (189 : Nat) ({ cls := "StreamHallModel", name := "at", desc := "(II)I" } : Jvm.MethodName)) ∈ lw_all := lw_g (lw_at lw_m5 238 rfl) rfl
theorem q1284 : (Jvm.Cond.static ({ cls := "StreamHallModel", name := "at", desc := "(II)I" } : Jvm.MethodName)) ∈ lw_all := lw_g (lw_at lw_m5 239 rfl) rfl
theorem q1285 : (Jvm.Cond.code ({ cls := "StreamHallModel", name := "at", desc := "(II)I" } : Jvm.MethodName) prog_11_method_10_code (2 : Nat) (Option.some Jvm.ClassFile.FieldType.int)) ∈ lw_all := lw_g (lw_at lw_m6 0 rfl) rfl
theorem q1286 : (Jvm.Cond.methodLink "StreamHallModel" (203 : Nat) ({ cls := "StreamHallModel", name := "grantOf", desc := "(II)I" } : Jvm.MethodName)) ∈ lw_all := lw_g (lw_at lw_m6 1 rfl) rfl
theorem q1287 : (Jvm.Cond.privateMethod ({ cls := "StreamHallModel", name := "grantOf", desc := "(II)I" } : Jvm.MethodName)) ∈ lw_tbl := lw_at lw_m6 2 rfl
theorem q1288 : (Jvm.Cond.instanceMethod ({ cls := "StreamHallModel", name := "grantOf", desc := "(II)I" } : Jvm.MethodName)) ∈ lw_all := lw_g (lw_at lw_m6 3 rfl) rfl
theorem q1289 : (Jvm.Cond.code ({ cls := "StreamHallModel", name := "grantOf", desc := "(II)I" } : Jvm.MethodName) prog_11_method_14_code (3 : Nat) (Option.some Jvm.ClassFile.FieldType.int)) ∈ lw_all := lw_g (lw_at lw_m6 4 rfl) rfl
theorem q1290 : (Jvm.Cond.methodLink "StreamHallModel" (181 : Nat) ({ cls := "StreamHallModel", name := "wayOf", desc := "(J)I" } : Jvm.MethodName)) ∈ lw_all := lw_g (lw_at lw_m6 5 rfl) rfl
theorem q1291 : (Jvm.Cond.static ({ cls := "StreamHallModel", name := "wayOf", desc := "(J)I" } : Jvm.MethodName)) ∈ lw_all := lw_g (lw_at lw_m6 6 rfl) rfl
theorem q1292 : (Jvm.Cond.code ({ cls := "StreamHallModel", name := "wayOf", desc := "(J)I" } : Jvm.MethodName) prog_11_method_6_code (2 : Nat) (Option.some Jvm.ClassFile.FieldType.int)) ∈ lw_all := lw_g (lw_at lw_m6 7 rfl) rfl
theorem q1293 : (Jvm.Cond.methodLink "StreamHallModel" (185 : Nat) ({ cls := "StreamHallModel", name := "opens", desc := "(IJ)Z" } : Jvm.MethodName)) ∈ lw_all := lw_g (lw_at lw_m6 8 rfl) rfl
theorem q1294 : (Jvm.Cond.static ({ cls := "StreamHallModel", name := "opens", desc := "(IJ)Z" } : Jvm.MethodName)) ∈ lw_all := lw_g (lw_at lw_m6 9 rfl) rfl
theorem q1295 : (Jvm.Cond.code ({ cls := "StreamHallModel", name := "opens", desc := "(IJ)Z" } : Jvm.MethodName) prog_11_method_7_code (3 : Nat) (Option.some Jvm.ClassFile.FieldType.boolean)) ∈ lw_all := lw_g (lw_at lw_m6 10 rfl) rfl
theorem q1296 : (Jvm.Cond.methodLink "StreamHallModel" (206 : Nat) ({ cls := "StreamHallModel", name := "limitOf", desc := "(II)J" } : Jvm.MethodName)) ∈ lw_all := lw_g (lw_at lw_m6 11 rfl) rfl
theorem q1297 : (Jvm.Cond.privateMethod ({ cls := "StreamHallModel", name := "limitOf", desc := "(II)J" } : Jvm.MethodName)) ∈ lw_tbl := lw_at lw_m6 12 rfl
theorem q1298 : (Jvm.Cond.instanceMethod ({ cls := "StreamHallModel", name := "limitOf", desc := "(II)J" } : Jvm.MethodName)) ∈ lw_all := lw_g (lw_at lw_m6 13 rfl) rfl
theorem q1299 : (Jvm.Cond.code ({ cls := "StreamHallModel", name := "limitOf", desc := "(II)J" } : Jvm.MethodName) prog_11_method_16_code (3 : Nat) (Option.some Jvm.ClassFile.FieldType.long)) ∈ lw_all := lw_g (lw_at lw_m6 14 rfl) rfl
theorem q1301 : (Jvm.Cond.instanceMethod ({ cls := "StreamHallModel", name := "write", desc := "(II)I" } : Jvm.MethodName)) ∈ lw_all := lw_g (lw_at lw_m6 16 rfl) rfl
theorem q1302 : (Jvm.Cond.selects "StreamHallModel" ({ cls := "StreamHallModel", name := "write", desc := "(II)I" } : Jvm.MethodName) ({ cls := "StreamHallModel", name := "write", desc := "(II)I" } : Jvm.MethodName)) ∈ lw_all := lw_g (lw_at lw_m6 17 rfl) rfl
theorem q1303 : (Jvm.Cond.code ({ cls := "StreamHallModel", name := "write", desc := "(II)I" } : Jvm.MethodName) prog_11_method_39_code (6 : Nat) (Option.some Jvm.ClassFile.FieldType.int)) ∈ lw_all := lw_g (lw_at lw_m6 18 rfl) rfl
theorem q1304 : (Jvm.Cond.methodLink "StreamHallModel" (218 : Nat) ({ cls := "StreamHallModel", name := "hasSending", desc := "(II)Z" } : Jvm.MethodName)) ∈ lw_all := lw_g (lw_at lw_m6 19 rfl) rfl
theorem q1305 : (Jvm.Cond.privateMethod ({ cls := "StreamHallModel", name := "hasSending", desc := "(II)Z" } : Jvm.MethodName)) ∈ lw_tbl := lw_at lw_m6 20 rfl
theorem q1306 : (Jvm.Cond.instanceMethod ({ cls := "StreamHallModel", name := "hasSending", desc := "(II)Z" } : Jvm.MethodName)) ∈ lw_all := lw_g (lw_at lw_m6 21 rfl) rfl
theorem q1307 : (Jvm.Cond.code ({ cls := "StreamHallModel", name := "hasSending", desc := "(II)Z" } : Jvm.MethodName) prog_11_method_12_code (3 : Nat) (Option.some Jvm.ClassFile.FieldType.boolean)) ∈ lw_all := lw_g (lw_at lw_m6 22 rfl) rfl
theorem q1308 : (Jvm.Cond.methodLink "StreamHallModel" (193 : Nat) ({ cls := "StreamHallModel", name := "isThere", desc := "(II)Z" } : Jvm.MethodName)) ∈ lw_all := lw_g (lw_at lw_m6 23 rfl) rfl
theorem q1309 : (Jvm.Cond.privateMethod ({ cls := "StreamHallModel", name := "isThere", desc := "(II)Z" } : Jvm.MethodName)) ∈ lw_tbl := lw_at lw_m6 24 rfl
theorem q1310 : (Jvm.Cond.instanceMethod ({ cls := "StreamHallModel", name := "isThere", desc := "(II)Z" } : Jvm.MethodName)) ∈ lw_all := lw_g (lw_at lw_m6 25 rfl) rfl
theorem q1311 : (Jvm.Cond.code ({ cls := "StreamHallModel", name := "isThere", desc := "(II)Z" } : Jvm.MethodName) prog_11_method_11_code (3 : Nat) (Option.some Jvm.ClassFile.FieldType.boolean)) ∈ lw_all := lw_g (lw_at lw_m6 26 rfl) rfl
theorem q1312 : (Jvm.Cond.methodLink "StreamHallModel" (197 : Nat) ({ cls := "StreamHallModel", name := "sends", desc := "(IJ)Z" } : Jvm.MethodName)) ∈ lw_all := lw_g (lw_at lw_m6 27 rfl) rfl
theorem q1313 : (Jvm.Cond.static ({ cls := "StreamHallModel", name := "sends", desc := "(IJ)Z" } : Jvm.MethodName)) ∈ lw_all := lw_g (lw_at lw_m6 28 rfl) rfl
theorem q1314 : (Jvm.Cond.code ({ cls := "StreamHallModel", name := "sends", desc := "(IJ)Z" } : Jvm.MethodName) prog_11_method_8_code (3 : Nat) (Option.some Jvm.ClassFile.FieldType.boolean)) ∈ lw_all := lw_g (lw_at lw_m6 29 rfl) rfl
theorem q1315 : (Jvm.Cond.methodLink "StreamHallModel" (221 : Nat) ({ cls := "StreamHallModel", name := "sending", desc := "(II)I" } : Jvm.MethodName)) ∈ lw_all := lw_g (lw_at lw_m6 30 rfl) rfl
theorem q1316 : (Jvm.Cond.privateMethod ({ cls := "StreamHallModel", name := "sending", desc := "(II)I" } : Jvm.MethodName)) ∈ lw_tbl := lw_at lw_m6 31 rfl
theorem q1317 : (Jvm.Cond.instanceMethod ({ cls := "StreamHallModel", name := "sending", desc := "(II)I" } : Jvm.MethodName)) ∈ lw_all := lw_g (lw_at lw_m6 32 rfl) rfl
theorem q1318 : (Jvm.Cond.code ({ cls := "StreamHallModel", name := "sending", desc := "(II)I" } : Jvm.MethodName) prog_11_method_21_code (4 : Nat) (Option.some Jvm.ClassFile.FieldType.int)) ∈ lw_all := lw_g (lw_at lw_m6 33 rfl) rfl
theorem q1319 : (Jvm.Cond.methodLink "StreamHallModel" (210 : Nat) ({ cls := "StreamHallModel", name := "count", desc := "(III)I" } : Jvm.MethodName)) ∈ lw_all := lw_g (lw_at lw_m6 34 rfl) rfl
theorem q1320 : (Jvm.Cond.privateMethod ({ cls := "StreamHallModel", name := "count", desc := "(III)I" } : Jvm.MethodName)) ∈ lw_tbl := lw_at lw_m6 35 rfl
theorem q1321 : (Jvm.Cond.instanceMethod ({ cls := "StreamHallModel", name := "count", desc := "(III)I" } : Jvm.MethodName)) ∈ lw_all := lw_g (lw_at lw_m6 36 rfl) rfl
theorem q1322 : (Jvm.Cond.code ({ cls := "StreamHallModel", name := "count", desc := "(III)I" } : Jvm.MethodName) prog_11_method_18_code (6 : Nat) (Option.some Jvm.ClassFile.FieldType.int)) ∈ lw_all := lw_g (lw_at lw_m6 37 rfl) rfl
theorem q1323 : (Jvm.Cond.methodLink "StreamHallModel" (215 : Nat) ({ cls := "StreamHallModel", name := "written", desc := "(II)I" } : Jvm.MethodName)) ∈ lw_all := lw_g (lw_at lw_m6 38 rfl) rfl
theorem q1324 : (Jvm.Cond.privateMethod ({ cls := "StreamHallModel", name := "written", desc := "(II)I" } : Jvm.MethodName)) ∈ lw_tbl := lw_at lw_m6 39 rfl
theorem q1325 : (Jvm.Cond.instanceMethod ({ cls := "StreamHallModel", name := "written", desc := "(II)I" } : Jvm.MethodName)) ∈ lw_all := lw_g (lw_at lw_m6 40 rfl) rfl
theorem q1326 : (Jvm.Cond.code ({ cls := "StreamHallModel", name := "written", desc := "(II)I" } : Jvm.MethodName) prog_11_method_17_code (3 : Nat) (Option.some Jvm.ClassFile.FieldType.int)) ∈ lw_all := lw_g (lw_at lw_m6 41 rfl) rfl
theorem q1328 : (Jvm.Cond.instanceMethod ({ cls := "StreamHallModel", name := "finish", desc := "(II)Z" } : Jvm.MethodName)) ∈ lw_all := lw_g (lw_at lw_m6 43 rfl) rfl
theorem q1329 : (Jvm.Cond.selects "StreamHallModel" ({ cls := "StreamHallModel", name := "finish", desc := "(II)Z" } : Jvm.MethodName) ({ cls := "StreamHallModel", name := "finish", desc := "(II)Z" } : Jvm.MethodName)) ∈ lw_all := lw_g (lw_at lw_m6 44 rfl) rfl
theorem q1330 : (Jvm.Cond.code ({ cls := "StreamHallModel", name := "finish", desc := "(II)Z" } : Jvm.MethodName) prog_11_method_40_code (3 : Nat) (Option.some Jvm.ClassFile.FieldType.boolean)) ∈ lw_all := lw_g (lw_at lw_m6 45 rfl) rfl
theorem q1332 : (Jvm.Cond.instanceMethod ({ cls := "StreamHallModel", name := "reset", desc := "(IIJ)Z" } : Jvm.MethodName)) ∈ lw_all := lw_g (lw_at lw_m6 47 rfl) rfl
theorem q1333 : (Jvm.Cond.selects "StreamHallModel" ({ cls := "StreamHallModel", name := "reset", desc := "(IIJ)Z" } : Jvm.MethodName) ({ cls := "StreamHallModel", name := "reset", desc := "(IIJ)Z" } : Jvm.MethodName)) ∈ lw_all := lw_g (lw_at lw_m6 48 rfl) rfl
theorem q1334 : (Jvm.Cond.code ({ cls := "StreamHallModel", name := "reset", desc := "(IIJ)Z" } : Jvm.MethodName) prog_11_method_42_code (5 : Nat) (Option.some Jvm.ClassFile.FieldType.boolean)) ∈ lw_all := lw_g (lw_at lw_m6 49 rfl) rfl
theorem q1335 : (Jvm.Cond.constantLong "StreamHallModel" (272 : Nat) (4611686018427387903 : Int64)) ∈ lw_all := lw_g (lw_at lw_m6 50 rfl) rfl
theorem q1336 : (Jvm.Cond.methodLink "StreamHallModel" (274 : Nat) ({ cls := "StreamHallModel", name := "isOpenSending", desc := "(II)Z" } : Jvm.MethodName)) ∈ lw_all := lw_g (lw_at lw_m6 51 rfl) rfl
theorem q1337 : (Jvm.Cond.privateMethod ({ cls := "StreamHallModel", name := "isOpenSending", desc := "(II)Z" } : Jvm.MethodName)) ∈ lw_tbl := lw_at lw_m6 52 rfl
theorem q1338 : (Jvm.Cond.instanceMethod ({ cls := "StreamHallModel", name := "isOpenSending", desc := "(II)Z" } : Jvm.MethodName)) ∈ lw_all := lw_g (lw_at lw_m6 53 rfl) rfl
theorem q1339 : (Jvm.Cond.code ({ cls := "StreamHallModel", name := "isOpenSending", desc := "(II)Z" } : Jvm.MethodName) prog_11_method_22_code (3 : Nat) (Option.some Jvm.ClassFile.FieldType.boolean)) ∈ lw_all := lw_g (lw_at lw_m6 54 rfl) rfl
theorem q1340 : (Jvm.Cond.methodLink "StreamHallModel" (277 : Nat) ({ cls := "StreamHallModel", name := "doReset", desc := "(IIJ)V" } : Jvm.MethodName)) ∈ lw_all := lw_g (lw_at lw_m6 55 rfl) rfl
theorem q1341 : (Jvm.Cond.privateMethod ({ cls := "StreamHallModel", name := "doReset", desc := "(IIJ)V" } : Jvm.MethodName)) ∈ lw_tbl := lw_at lw_m6 56 rfl
theorem q1342 : (Jvm.Cond.instanceMethod ({ cls := "StreamHallModel", name := "doReset", desc := "(IIJ)V" } : Jvm.MethodName)) ∈ lw_all := lw_g (lw_at lw_m6 57 rfl) rfl
theorem q1343 : (Jvm.Cond.code ({ cls := "StreamHallModel", name := "doReset", desc := "(IIJ)V" } : Jvm.MethodName) prog_11_method_41_code (6 : Nat) (Option.none : Option Jvm.ClassFile.FieldType)) ∈ lw_all := lw_g (lw_at lw_m6 58 rfl) rfl
theorem q1345 : (Jvm.Cond.instanceMethod ({ cls := "StreamHallModel", name := "stop", desc := "(IIJ)Z" } : Jvm.MethodName)) ∈ lw_all := lw_g (lw_at lw_m6 60 rfl) rfl
theorem q1346 : (Jvm.Cond.selects "StreamHallModel" ({ cls := "StreamHallModel", name := "stop", desc := "(IIJ)Z" } : Jvm.MethodName) ({ cls := "StreamHallModel", name := "stop", desc := "(IIJ)Z" } : Jvm.MethodName)) ∈ lw_all := lw_g (lw_at lw_m6 61 rfl) rfl
theorem q1347 : (Jvm.Cond.code ({ cls := "StreamHallModel", name := "stop", desc := "(IIJ)Z" } : Jvm.MethodName) prog_11_method_43_code (5 : Nat) (Option.some Jvm.ClassFile.FieldType.boolean)) ∈ lw_all := lw_g (lw_at lw_m6 62 rfl) rfl
theorem q1348 : (Jvm.Cond.methodLink "StreamHallModel" (281 : Nat) ({ cls := "StreamHallModel", name := "hasReceiving", desc := "(II)Z" } : Jvm.MethodName)) ∈ lw_all := lw_g (lw_at lw_m6 63 rfl) rfl
theorem q1349 : (Jvm.Cond.privateMethod ({ cls := "StreamHallModel", name := "hasReceiving", desc := "(II)Z" } : Jvm.MethodName)) ∈ lw_tbl := lw_at lw_m6 64 rfl
theorem q1350 : (Jvm.Cond.instanceMethod ({ cls := "StreamHallModel", name := "hasReceiving", desc := "(II)Z" } : Jvm.MethodName)) ∈ lw_all := lw_g (lw_at lw_m6 65 rfl) rfl
theorem q1351 : (Jvm.Cond.code ({ cls := "StreamHallModel", name := "hasReceiving", desc := "(II)Z" } : Jvm.MethodName) prog_11_method_13_code (3 : Nat) (Option.some Jvm.ClassFile.FieldType.boolean)) ∈ lw_all := lw_g (lw_at lw_m6 66 rfl) rfl
theorem q1352 : (Jvm.Cond.methodLink "StreamHallModel" (200 : Nat) ({ cls := "StreamHallModel", name := "receives", desc := "(IJ)Z" } : Jvm.MethodName)) ∈ lw_all := lw_g (lw_at lw_m6 67 rfl) rfl
theorem q1353 : (Jvm.Cond.static ({ cls := "StreamHallModel", name := "receives", desc := "(IJ)Z" } : Jvm.MethodName)) ∈ lw_all := lw_g (lw_at lw_m6 68 rfl) rfl
theorem q1354 : (Jvm.Cond.code ({ cls := "StreamHallModel", name := "receives", desc := "(IJ)Z" } : Jvm.MethodName) prog_11_method_9_code (3 : Nat) (Option.some Jvm.ClassFile.FieldType.boolean)) ∈ lw_all := lw_g (lw_at lw_m6 69 rfl) rfl
theorem q1355 : (Jvm.Cond.methodLink "StreamHallModel" (260 : Nat) ({ cls := "StreamHallModel", name := "receiving", desc := "(II)I" } : Jvm.MethodName)) ∈ lw_all := lw_g (lw_at lw_m6 70 rfl) rfl
theorem q1356 : (Jvm.Cond.privateMethod ({ cls := "StreamHallModel", name := "receiving", desc := "(II)I" } : Jvm.MethodName)) ∈ lw_tbl := lw_at lw_m6 71 rfl
theorem q1357 : (Jvm.Cond.instanceMethod ({ cls := "StreamHallModel", name := "receiving", desc := "(II)I" } : Jvm.MethodName)) ∈ lw_all := lw_g (lw_at lw_m6 72 rfl) rfl
theorem q1358 : (Jvm.Cond.code ({ cls := "StreamHallModel", name := "receiving", desc := "(II)I" } : Jvm.MethodName) prog_11_method_28_code (4 : Nat) (Option.some Jvm.ClassFile.FieldType.int)) ∈ lw_all := lw_g (lw_at lw_m6 73 rfl) rfl
theorem q1359 : (Jvm.Cond.methodLink "StreamHallModel" (233 : Nat) ({ cls := "StreamHallModel", name := "readyOf", desc := "(II)J" } : Jvm.MethodName)) ∈ lw_all := lw_g (lw_at lw_m6 74 rfl) rfl
theorem q1360 : (Jvm.Cond.privateMethod ({ cls := "StreamHallModel", name := "readyOf", desc := "(II)J" } : Jvm.MethodName)) ∈ lw_tbl := lw_at lw_m6 75 rfl
theorem q1361 : (Jvm.Cond.instanceMethod ({ cls := "StreamHallModel", name := "readyOf", desc := "(II)J" } : Jvm.MethodName)) ∈ lw_all := lw_g (lw_at lw_m6 76 rfl) rfl
theorem q1362 : (Jvm.Cond.code ({ cls := "StreamHallModel", name := "readyOf", desc := "(II)J" } : Jvm.MethodName) prog_11_method_27_code (5 : Nat) (Option.some Jvm.ClassFile.FieldType.long)) ∈ lw_all := lw_g (lw_at lw_m6 77 rfl) rfl
theorem q1363 : (Jvm.Cond.methodLink "StreamHallModel" (229 : Nat) ({ cls := "StreamHallModel", name := "isHere", desc := "(IIJ)Z" } : Jvm.MethodName)) ∈ lw_all := lw_g (lw_at lw_m6 78 rfl) rfl
theorem q1364 : (Jvm.Cond.privateMethod ({ cls := "StreamHallModel", name := "isHere", desc := "(IIJ)Z" } : Jvm.MethodName)) ∈ lw_tbl := lw_at lw_m6 79 rfl
theorem q1365 : (Jvm.Cond.instanceMethod ({ cls := "StreamHallModel", name := "isHere", desc := "(IIJ)Z" } : Jvm.MethodName)) ∈ lw_all := lw_g (lw_at lw_m6 80 rfl) rfl
theorem q1366 : (Jvm.Cond.code ({ cls := "StreamHallModel", name := "isHere", desc := "(IIJ)Z" } : Jvm.MethodName) prog_11_method_25_code (6 : Nat) (Option.some Jvm.ClassFile.FieldType.boolean)) ∈ lw_all := lw_g (lw_at lw_m6 81 rfl) rfl
theorem q1367 : (Jvm.Cond.constantLong "StreamHallModel" (224 : Nat) (64 : Int64)) ∈ lw_all := lw_g (lw_at lw_m6 82 rfl) rfl
theorem q1368 : (Jvm.Cond.methodLink "StreamHallModel" (226 : Nat) ({ cls := "StreamHallModel", name := "pieceAt", desc := "(III)I" } : Jvm.MethodName)) ∈ lw_all := lw_g (lw_at lw_m6 83 rfl) rfl
theorem q1369 : (Jvm.Cond.privateMethod ({ cls := "StreamHallModel", name := "pieceAt", desc := "(III)I" } : Jvm.MethodName)) ∈ lw_tbl := lw_at lw_m6 84 rfl
theorem q1370 : (Jvm.Cond.instanceMethod ({ cls := "StreamHallModel", name := "pieceAt", desc := "(III)I" } : Jvm.MethodName)) ∈ lw_all := lw_g (lw_at lw_m6 85 rfl) rfl
theorem q1371 : (Jvm.Cond.code ({ cls := "StreamHallModel", name := "pieceAt", desc := "(III)I" } : Jvm.MethodName) prog_11_method_23_code (5 : Nat) (Option.some Jvm.ClassFile.FieldType.int)) ∈ lw_all := lw_g (lw_at lw_m6 86 rfl) rfl
theorem q1373 : (Jvm.Cond.instanceMethod ({ cls := "StreamHallModel", name := "read", desc := "(III)I" } : Jvm.MethodName)) ∈ lw_all := lw_g (lw_at lw_m6 88 rfl) rfl
theorem q1374 : (Jvm.Cond.selects "StreamHallModel" ({ cls := "StreamHallModel", name := "read", desc := "(III)I" } : Jvm.MethodName) ({ cls := "StreamHallModel", name := "read", desc := "(III)I" } : Jvm.MethodName)) ∈ lw_all := lw_g (lw_at lw_m6 89 rfl) rfl
theorem q1375 : (Jvm.Cond.code ({ cls := "StreamHallModel", name := "read", desc := "(III)I" } : Jvm.MethodName) prog_11_method_44_code (7 : Nat) (Option.some Jvm.ClassFile.FieldType.int)) ∈ lw_all := lw_g (lw_at lw_m6 90 rfl) rfl
theorem q1376 : (Jvm.Cond.methodLink "StreamHallModel" (287 : Nat) ({ cls := "StreamHallModel", name := "byteAt", desc := "(IIJ)B" } : Jvm.MethodName)) ∈ lw_all := lw_g (lw_at lw_m6 91 rfl) rfl
theorem q1377 : (Jvm.Cond.privateMethod ({ cls := "StreamHallModel", name := "byteAt", desc := "(IIJ)B" } : Jvm.MethodName)) ∈ lw_tbl := lw_at lw_m6 92 rfl
theorem q1378 : (Jvm.Cond.instanceMethod ({ cls := "StreamHallModel", name := "byteAt", desc := "(IIJ)B" } : Jvm.MethodName)) ∈ lw_all := lw_g (lw_at lw_m6 93 rfl) rfl
theorem q1379 : (Jvm.Cond.code ({ cls := "StreamHallModel", name := "byteAt", desc := "(IIJ)B" } : Jvm.MethodName) prog_11_method_26_code (5 : Nat) (Option.some Jvm.ClassFile.FieldType.byte)) ∈ lw_all := lw_g (lw_at lw_m6 94 rfl) rfl
theorem q1380 : (Jvm.Cond.methodLink "StreamHallModel" (291 : Nat) ({ cls := "StreamHallModel", name := "growData", desc := "(I)V" } : Jvm.MethodName)) ∈ lw_all := lw_g (lw_at lw_m6 95 rfl) rfl
theorem q1381 : (Jvm.Cond.privateMethod ({ cls := "StreamHallModel", name := "growData", desc := "(I)V" } : Jvm.MethodName)) ∈ lw_tbl := lw_at lw_m6 96 rfl
theorem q1382 : (Jvm.Cond.instanceMethod ({ cls := "StreamHallModel", name := "growData", desc := "(I)V" } : Jvm.MethodName)) ∈ lw_all := lw_g (lw_at lw_m6 97 rfl) rfl
theorem q1383 : (Jvm.Cond.code ({ cls := "StreamHallModel", name := "growData", desc := "(I)V" } : Jvm.MethodName) prog_11_method_34_code (8 : Nat) (Option.none : Option Jvm.ClassFile.FieldType)) ∈ lw_all := lw_g (lw_at lw_m6 98 rfl) rfl
theorem q1384 : (Jvm.Cond.methodLink "StreamHallModel" (250 : Nat) ({ cls := "StreamHallModel", name := "consumed", desc := "(I)J" } : Jvm.MethodName)) ∈ lw_all := lw_g (lw_at lw_m6 99 rfl) rfl
theorem q1385 : (Jvm.Cond.privateMethod ({ cls := "StreamHallModel", name := "consumed", desc := "(I)J" } : Jvm.MethodName)) ∈ lw_tbl := lw_at lw_m6 100 rfl
theorem q1386 : (Jvm.Cond.instanceMethod ({ cls := "StreamHallModel", name := "consumed", desc := "(I)J" } : Jvm.MethodName)) ∈ lw_all := lw_g (lw_at lw_m6 101 rfl) rfl
theorem q1387 : (Jvm.Cond.code ({ cls := "StreamHallModel", name := "consumed", desc := "(I)J" } : Jvm.MethodName) prog_11_method_30_code (5 : Nat) (Option.some Jvm.ClassFile.FieldType.long)) ∈ lw_all := lw_g (lw_at lw_m6 102 rfl) rfl
theorem q1388 : (Jvm.Cond.methodLink "StreamHallModel" (254 : Nat) ({ cls := "StreamHallModel", name := "grows", desc := "(JJJ)Z" } : Jvm.MethodName)) ∈ lw_all := lw_g (lw_at lw_m6 103 rfl) rfl
theorem q1389 : (Jvm.Cond.static ({ cls := "StreamHallModel", name := "grows", desc := "(JJJ)Z" } : Jvm.MethodName)) ∈ lw_all := lw_g (lw_at lw_m6 104 rfl) rfl
theorem q1390 : (Jvm.Cond.code ({ cls := "StreamHallModel", name := "grows", desc := "(JJJ)Z" } : Jvm.MethodName) prog_11_method_33_code (6 : Nat) (Option.some Jvm.ClassFile.FieldType.boolean)) ∈ lw_all := lw_g (lw_at lw_m6 105 rfl) rfl
theorem q1391 : (Jvm.Cond.constantLong "StreamHallModel" (248 : Nat) (2 : Int64)) ∈ lw_all := lw_g (lw_at lw_m6 106 rfl) rfl
theorem q1392 : (Jvm.Cond.constantLong "StreamHallModel" (258 : Nat) (65536 : Int64)) ∈ lw_all := lw_g (lw_at lw_m6 107 rfl) rfl
theorem q1393 : (Jvm.Cond.methodLink "StreamHallModel" (295 : Nat) ({ cls := "StreamHallModel", name := "growStream", desc := "(II)V" } : Jvm.MethodName)) ∈ lw_all := lw_g (lw_at lw_m6 108 rfl) rfl
theorem q1394 : (Jvm.Cond.privateMethod ({ cls := "StreamHallModel", name := "growStream", desc := "(II)V" } : Jvm.MethodName)) ∈ lw_tbl := lw_at lw_m6 109 rfl
theorem q1395 : (Jvm.Cond.instanceMethod ({ cls := "StreamHallModel", name := "growStream", desc := "(II)V" } : Jvm.MethodName)) ∈ lw_all := lw_g (lw_at lw_m6 110 rfl) rfl
theorem q1396 : (Jvm.Cond.code ({ cls := "StreamHallModel", name := "growStream", desc := "(II)V" } : Jvm.MethodName) prog_11_method_35_code (10 : Nat) (Option.none : Option Jvm.ClassFile.FieldType)) ∈ lw_all := lw_g (lw_at lw_m6 111 rfl) rfl
theorem q1397 : (Jvm.Cond.methodLink "StreamHallModel" (298 : Nat) ({ cls := "StreamHallModel", name := "looksOver", desc := "(II)V" } : Jvm.MethodName)) ∈ lw_all := lw_g (lw_at lw_m6 112 rfl) rfl
theorem q1398 : (Jvm.Cond.privateMethod ({ cls := "StreamHallModel", name := "looksOver", desc := "(II)V" } : Jvm.MethodName)) ∈ lw_tbl := lw_at lw_m6 113 rfl
theorem q1399 : (Jvm.Cond.instanceMethod ({ cls := "StreamHallModel", name := "looksOver", desc := "(II)V" } : Jvm.MethodName)) ∈ lw_all := lw_g (lw_at lw_m6 114 rfl) rfl
theorem q1400 : (Jvm.Cond.code ({ cls := "StreamHallModel", name := "looksOver", desc := "(II)V" } : Jvm.MethodName) prog_11_method_36_code (7 : Nat) (Option.none : Option Jvm.ClassFile.FieldType)) ∈ lw_all := lw_g (lw_at lw_m6 115 rfl) rfl
theorem q1402 : (Jvm.Cond.instanceMethod ({ cls := "StreamHallModel", name := "take", desc := "(IIJJJ)I" } : Jvm.MethodName)) ∈ lw_all := lw_g (lw_at lw_m6 117 rfl) rfl
theorem q1403 : (Jvm.Cond.selects "StreamHallModel" ({ cls := "StreamHallModel", name := "take", desc := "(IIJJJ)I" } : Jvm.MethodName) ({ cls := "StreamHallModel", name := "take", desc := "(IIJJJ)I" } : Jvm.MethodName)) ∈ lw_all := lw_g (lw_at lw_m6 118 rfl) rfl
theorem q1404 : (Jvm.Cond.code ({ cls := "StreamHallModel", name := "take", desc := "(IIJJJ)I" } : Jvm.MethodName) prog_11_method_52_code (12 : Nat) (Option.some Jvm.ClassFile.FieldType.int)) ∈ lw_all := lw_g (lw_at lw_m6 119 rfl) rfl
theorem q1405 : (Jvm.Cond.constantLong "StreamHallModel" (353 : Nat) (4611686018427380000 : Int64)) ∈ lw_all := lw_g (lw_at lw_m6 120 rfl) rfl
theorem q1406 : (Jvm.Cond.methodLink "StreamHallModel" (355 : Nat) ({ cls := "StreamHallModel", name := "takes", desc := "(I)I" } : Jvm.MethodName)) ∈ lw_all := lw_g (lw_at lw_m6 121 rfl) rfl
theorem q1407 : (Jvm.Cond.privateMethod ({ cls := "StreamHallModel", name := "takes", desc := "(I)I" } : Jvm.MethodName)) ∈ lw_tbl := lw_at lw_m6 122 rfl
theorem q1408 : (Jvm.Cond.instanceMethod ({ cls := "StreamHallModel", name := "takes", desc := "(I)I" } : Jvm.MethodName)) ∈ lw_all := lw_g (lw_at lw_m6 123 rfl) rfl
theorem q1409 : (Jvm.Cond.code ({ cls := "StreamHallModel", name := "takes", desc := "(I)I" } : Jvm.MethodName) prog_11_method_51_code (3 : Nat) (Option.some Jvm.ClassFile.FieldType.int)) ∈ lw_all := lw_g (lw_at lw_m6 124 rfl) rfl
theorem q1410 : (Jvm.Cond.methodLink "StreamHallModel" (343 : Nat) ({ cls := "StreamHallModel", name := "takeStream", desc := "(I)I" } : Jvm.MethodName)) ∈ lw_all := lw_g (lw_at lw_m6 125 rfl) rfl
theorem q1411 : (Jvm.Cond.privateMethod ({ cls := "StreamHallModel", name := "takeStream", desc := "(I)I" } : Jvm.MethodName)) ∈ lw_tbl := lw_at lw_m6 126 rfl
theorem q1412 : (Jvm.Cond.instanceMethod ({ cls := "StreamHallModel", name := "takeStream", desc := "(I)I" } : Jvm.MethodName)) ∈ lw_all := lw_g (lw_at lw_m6 127 rfl) rfl
theorem q1413 : (Jvm.Cond.code ({ cls := "StreamHallModel", name := "takeStream", desc := "(I)I" } : Jvm.MethodName) prog_11_method_48_code (9 : Nat) (Option.some Jvm.ClassFile.FieldType.int)) ∈ lw_all := lw_g (lw_at lw_m6 128 rfl) rfl
theorem q1414 : (Jvm.Cond.methodLink "StreamHallModel" (312 : Nat) ({ cls := "StreamHallModel", name := "meant", desc := "(IJZ)I" } : Jvm.MethodName)) ∈ lw_all := lw_g (lw_at lw_m6 129 rfl) rfl
theorem q1415 : (Jvm.Cond.privateMethod ({ cls := "StreamHallModel", name := "meant", desc := "(IJZ)I" } : Jvm.MethodName)) ∈ lw_tbl := lw_at lw_m6 130 rfl
theorem q1416 : (Jvm.Cond.instanceMethod ({ cls := "StreamHallModel", name := "meant", desc := "(IJZ)I" } : Jvm.MethodName)) ∈ lw_all := lw_g (lw_at lw_m6 131 rfl) rfl
theorem q1417 : (Jvm.Cond.code ({ cls := "StreamHallModel", name := "meant", desc := "(IJZ)I" } : Jvm.MethodName) prog_11_method_45_code (5 : Nat) (Option.some Jvm.ClassFile.FieldType.int)) ∈ lw_all := lw_g (lw_at lw_m6 132 rfl) rfl
theorem q1418 : (Jvm.Cond.constantLong "StreamHallModel" (301 : Nat) (256 : Int64)) ∈ lw_all := lw_g (lw_at lw_m6 133 rfl) rfl
theorem q1419 : (Jvm.Cond.constantLong "StreamHallModel" (303 : Nat) (4 : Int64)) ∈ lw_all := lw_g (lw_at lw_m6 134 rfl) rfl
theorem q1420 : (Jvm.Cond.methodLink "StreamHallModel" (325 : Nat) ({ cls := "StreamHallModel", name := "reaches", desc := "(IIJZ)I" } : Jvm.MethodName)) ∈ lw_all := lw_g (lw_at lw_m6 135 rfl) rfl
theorem q1421 : (Jvm.Cond.privateMethod ({ cls := "StreamHallModel", name := "reaches", desc := "(IIJZ)I" } : Jvm.MethodName)) ∈ lw_tbl := lw_at lw_m6 136 rfl
theorem q1422 : (Jvm.Cond.instanceMethod ({ cls := "StreamHallModel", name := "reaches", desc := "(IIJZ)I" } : Jvm.MethodName)) ∈ lw_all := lw_g (lw_at lw_m6 137 rfl) rfl
theorem q1423 : (Jvm.Cond.code ({ cls := "StreamHallModel", name := "reaches", desc := "(IIJZ)I" } : Jvm.MethodName) prog_11_method_47_code (11 : Nat) (Option.some Jvm.ClassFile.FieldType.int)) ∈ lw_all := lw_g (lw_at lw_m6 138 rfl) rfl
theorem q1424 : (Jvm.Cond.methodLink "StreamHallModel" (305 : Nat) ({ cls := "StreamHallModel", name := "received", desc := "(I)J" } : Jvm.MethodName)) ∈ lw_all := lw_g (lw_at lw_m6 139 rfl) rfl
theorem q1425 : (Jvm.Cond.privateMethod ({ cls := "StreamHallModel", name := "received", desc := "(I)J" } : Jvm.MethodName)) ∈ lw_tbl := lw_at lw_m6 140 rfl
theorem q1426 : (Jvm.Cond.instanceMethod ({ cls := "StreamHallModel", name := "received", desc := "(I)J" } : Jvm.MethodName)) ∈ lw_all := lw_g (lw_at lw_m6 141 rfl) rfl
theorem q1427 : (Jvm.Cond.code ({ cls := "StreamHallModel", name := "received", desc := "(I)J" } : Jvm.MethodName) prog_11_method_29_code (5 : Nat) (Option.some Jvm.ClassFile.FieldType.long)) ∈ lw_all := lw_g (lw_at lw_m6 142 rfl) rfl
theorem q1428 : (Jvm.Cond.methodLink "StreamHallModel" (329 : Nat) ({ cls := "StreamHallModel", name := "comesThere", desc := "(II)V" } : Jvm.MethodName)) ∈ lw_all := lw_g (lw_at lw_m6 143 rfl) rfl
theorem q1429 : (Jvm.Cond.privateMethod ({ cls := "StreamHallModel", name := "comesThere", desc := "(II)V" } : Jvm.MethodName)) ∈ lw_tbl := lw_at lw_m6 144 rfl
theorem q1430 : (Jvm.Cond.instanceMethod ({ cls := "StreamHallModel", name := "comesThere", desc := "(II)V" } : Jvm.MethodName)) ∈ lw_all := lw_g (lw_at lw_m6 145 rfl) rfl
theorem q1431 : (Jvm.Cond.code ({ cls := "StreamHallModel", name := "comesThere", desc := "(II)V" } : Jvm.MethodName) prog_11_method_46_code (4 : Nat) (Option.none : Option Jvm.ClassFile.FieldType)) ∈ lw_all := lw_g (lw_at lw_m6 146 rfl) rfl
theorem q1432 : (Jvm.Cond.methodLink "StreamHallModel" (332 : Nat) ({ cls := "StreamHallModel", name := "comes", desc := "(IIJB)V" } : Jvm.MethodName)) ∈ lw_all := lw_g (lw_at lw_m6 147 rfl) rfl
theorem q1433 : (Jvm.Cond.privateMethod ({ cls := "StreamHallModel", name := "comes", desc := "(IIJB)V" } : Jvm.MethodName)) ∈ lw_tbl := lw_at lw_m6 148 rfl
theorem q1434 : (Jvm.Cond.instanceMethod ({ cls := "StreamHallModel", name := "comes", desc := "(IIJB)V" } : Jvm.MethodName)) ∈ lw_all := lw_g (lw_at lw_m6 149 rfl) rfl
theorem q1435 : (Jvm.Cond.code ({ cls := "StreamHallModel", name := "comes", desc := "(IIJB)V" } : Jvm.MethodName) prog_11_method_24_code (9 : Nat) (Option.none : Option Jvm.ClassFile.FieldType)) ∈ lw_all := lw_g (lw_at lw_m6 150 rfl) rfl
theorem q1436 : (Jvm.Cond.methodLink "StreamHallModel" (347 : Nat) ({ cls := "StreamHallModel", name := "takeReset", desc := "(I)I" } : Jvm.MethodName)) ∈ lw_all := lw_g (lw_at lw_m6 151 rfl) rfl
theorem q1437 : (Jvm.Cond.privateMethod ({ cls := "StreamHallModel", name := "takeReset", desc := "(I)I" } : Jvm.MethodName)) ∈ lw_tbl := lw_at lw_m6 152 rfl
theorem q1438 : (Jvm.Cond.instanceMethod ({ cls := "StreamHallModel", name := "takeReset", desc := "(I)I" } : Jvm.MethodName)) ∈ lw_all := lw_g (lw_at lw_m6 153 rfl) rfl
theorem q1439 : (Jvm.Cond.code ({ cls := "StreamHallModel", name := "takeReset", desc := "(I)I" } : Jvm.MethodName) prog_11_method_49_code (6 : Nat) (Option.some Jvm.ClassFile.FieldType.int)) ∈ lw_all := lw_g (lw_at lw_m6 154 rfl) rfl
theorem q1440 : (Jvm.Cond.methodLink "StreamHallModel" (350 : Nat) ({ cls := "StreamHallModel", name := "takeOther", desc := "(I)I" } : Jvm.MethodName)) ∈ lw_all := lw_g (lw_at lw_m6 155 rfl) rfl
theorem q1441 : (Jvm.Cond.privateMethod ({ cls := "StreamHallModel", name := "takeOther", desc := "(I)I" } : Jvm.MethodName)) ∈ lw_tbl := lw_at lw_m6 156 rfl
theorem q1442 : (Jvm.Cond.instanceMethod ({ cls := "StreamHallModel", name := "takeOther", desc := "(I)I" } : Jvm.MethodName)) ∈ lw_all := lw_g (lw_at lw_m6 157 rfl) rfl
theorem q1443 : (Jvm.Cond.code ({ cls := "StreamHallModel", name := "takeOther", desc := "(I)I" } : Jvm.MethodName) prog_11_method_50_code (4 : Nat) (Option.some Jvm.ClassFile.FieldType.int)) ∈ lw_all := lw_g (lw_at lw_m6 158 rfl) rfl
theorem q1444 : (Jvm.Cond.methodLink "StreamHallModel" (339 : Nat) ({ cls := "StreamHallModel", name := "greater", desc := "(JJ)J" } : Jvm.MethodName)) ∈ lw_all := lw_g (lw_at lw_m6 159 rfl) rfl
theorem q1445 : (Jvm.Cond.static ({ cls := "StreamHallModel", name := "greater", desc := "(JJ)J" } : Jvm.MethodName)) ∈ lw_all := lw_g (lw_at lw_m6 160 rfl) rfl
theorem q1446 : (Jvm.Cond.code ({ cls := "StreamHallModel", name := "greater", desc := "(JJ)J" } : Jvm.MethodName) prog_11_method_5_code (4 : Nat) (Option.some Jvm.ClassFile.FieldType.long)) ∈ lw_all := lw_g (lw_at lw_m6 161 rfl) rfl
theorem q1448 : (Jvm.Cond.instanceMethod ({ cls := "StreamHallModel", name := "fill", desc := "(II)I" } : Jvm.MethodName)) ∈ lw_all := lw_g (lw_at lw_m6 163 rfl) rfl
theorem q1449 : (Jvm.Cond.selects "StreamHallModel" ({ cls := "StreamHallModel", name := "fill", desc := "(II)I" } : Jvm.MethodName) ({ cls := "StreamHallModel", name := "fill", desc := "(II)I" } : Jvm.MethodName)) ∈ lw_all := lw_g (lw_at lw_m6 164 rfl) rfl
theorem q1450 : (Jvm.Cond.code ({ cls := "StreamHallModel", name := "fill", desc := "(II)I" } : Jvm.MethodName) prog_11_method_67_code (5 : Nat) (Option.some Jvm.ClassFile.FieldType.int)) ∈ lw_all := lw_g (lw_at lw_m6 165 rfl) rfl
theorem q1451 : (Jvm.Cond.methodLink "StreamHallModel" (407 : Nat) ({ cls := "StreamHallModel", name := "freePlace", desc := "()I" } : Jvm.MethodName)) ∈ lw_all := lw_g (lw_at lw_m6 166 rfl) rfl
theorem q1452 : (Jvm.Cond.privateMethod ({ cls := "StreamHallModel", name := "freePlace", desc := "()I" } : Jvm.MethodName)) ∈ lw_tbl := lw_at lw_m6 167 rfl
theorem q1453 : (Jvm.Cond.instanceMethod ({ cls := "StreamHallModel", name := "freePlace", desc := "()I" } : Jvm.MethodName)) ∈ lw_all := lw_g (lw_at lw_m6 168 rfl) rfl
theorem q1454 : (Jvm.Cond.code ({ cls := "StreamHallModel", name := "freePlace", desc := "()I" } : Jvm.MethodName) prog_11_method_66_code (2 : Nat) (Option.some Jvm.ClassFile.FieldType.int)) ∈ lw_all := lw_g (lw_at lw_m6 169 rfl) rfl
theorem q1455 : (Jvm.Cond.methodLink "StreamHallModel" (410 : Nat) ({ cls := "StreamHallModel", name := "fills", desc := "(II)Z" } : Jvm.MethodName)) ∈ lw_all := lw_g (lw_at lw_m6 170 rfl) rfl
theorem q1456 : (Jvm.Cond.privateMethod ({ cls := "StreamHallModel", name := "fills", desc := "(II)Z" } : Jvm.MethodName)) ∈ lw_tbl := lw_at lw_m6 171 rfl
theorem q1457 : (Jvm.Cond.instanceMethod ({ cls := "StreamHallModel", name := "fills", desc := "(II)Z" } : Jvm.MethodName)) ∈ lw_all := lw_g (lw_at lw_m6 172 rfl) rfl
theorem q1458 : (Jvm.Cond.code ({ cls := "StreamHallModel", name := "fills", desc := "(II)Z" } : Jvm.MethodName) prog_11_method_65_code (5 : Nat) (Option.some Jvm.ClassFile.FieldType.boolean)) ∈ lw_all := lw_g (lw_at lw_m6 173 rfl) rfl
theorem q1459 : (Jvm.Cond.methodLink "StreamHallModel" (395 : Nat) ({ cls := "StreamHallModel", name := "fillsResets", desc := "(II)Z" } : Jvm.MethodName)) ∈ lw_all := lw_g (lw_at lw_m6 174 rfl) rfl
theorem q1460 : (Jvm.Cond.privateMethod ({ cls := "StreamHallModel", name := "fillsResets", desc := "(II)Z" } : Jvm.MethodName)) ∈ lw_tbl := lw_at lw_m6 175 rfl
theorem q1461 : (Jvm.Cond.instanceMethod ({ cls := "StreamHallModel", name := "fillsResets", desc := "(II)Z" } : Jvm.MethodName)) ∈ lw_all := lw_g (lw_at lw_m6 176 rfl) rfl
theorem q1462 : (Jvm.Cond.code ({ cls := "StreamHallModel", name := "fillsResets", desc := "(II)Z" } : Jvm.MethodName) prog_11_method_56_code (5 : Nat) (Option.some Jvm.ClassFile.FieldType.boolean)) ∈ lw_all := lw_g (lw_at lw_m6 177 rfl) rfl
theorem q1463 : (Jvm.Cond.methodLink "StreamHallModel" (369 : Nat) ({ cls := "StreamHallModel", name := "sent", desc := "(II)I" } : Jvm.MethodName)) ∈ lw_all := lw_g (lw_at lw_m6 178 rfl) rfl
theorem q1464 : (Jvm.Cond.privateMethod ({ cls := "StreamHallModel", name := "sent", desc := "(II)I" } : Jvm.MethodName)) ∈ lw_tbl := lw_at lw_m6 179 rfl
theorem q1465 : (Jvm.Cond.instanceMethod ({ cls := "StreamHallModel", name := "sent", desc := "(II)I" } : Jvm.MethodName)) ∈ lw_all := lw_g (lw_at lw_m6 180 rfl) rfl
theorem q1466 : (Jvm.Cond.code ({ cls := "StreamHallModel", name := "sent", desc := "(II)I" } : Jvm.MethodName) prog_11_method_19_code (3 : Nat) (Option.some Jvm.ClassFile.FieldType.int)) ∈ lw_all := lw_g (lw_at lw_m6 181 rfl) rfl
theorem q1467 : (Jvm.Cond.methodLink "StreamHallModel" (372 : Nat) ({ cls := "StreamHallModel", name := "lays", desc := "(IJJJI)Z" } : Jvm.MethodName)) ∈ lw_all := lw_g (lw_at lw_m6 182 rfl) rfl
theorem q1468 : (Jvm.Cond.privateMethod ({ cls := "StreamHallModel", name := "lays", desc := "(IJJJI)Z" } : Jvm.MethodName)) ∈ lw_tbl := lw_at lw_m6 183 rfl
theorem q1469 : (Jvm.Cond.instanceMethod ({ cls := "StreamHallModel", name := "lays", desc := "(IJJJI)Z" } : Jvm.MethodName)) ∈ lw_all := lw_g (lw_at lw_m6 184 rfl) rfl
theorem q1470 : (Jvm.Cond.code ({ cls := "StreamHallModel", name := "lays", desc := "(IJJJI)Z" } : Jvm.MethodName) prog_11_method_55_code (9 : Nat) (Option.some Jvm.ClassFile.FieldType.boolean)) ∈ lw_all := lw_g (lw_at lw_m6 185 rfl) rfl
theorem q1471 : (Jvm.Cond.methodLink "StreamHallModel" (365 : Nat) ({ cls := "StreamHallModel", name := "bytes", desc := "()I" } : Jvm.MethodName)) ∈ lw_all := lw_g (lw_at lw_m6 186 rfl) rfl
theorem q1472 : (Jvm.Cond.privateMethod ({ cls := "StreamHallModel", name := "bytes", desc := "()I" } : Jvm.MethodName)) ∈ lw_tbl := lw_at lw_m6 187 rfl
theorem q1473 : (Jvm.Cond.instanceMethod ({ cls := "StreamHallModel", name := "bytes", desc := "()I" } : Jvm.MethodName)) ∈ lw_all := lw_g (lw_at lw_m6 188 rfl) rfl
theorem q1474 : (Jvm.Cond.code ({ cls := "StreamHallModel", name := "bytes", desc := "()I" } : Jvm.MethodName) prog_11_method_54_code (2 : Nat) (Option.some Jvm.ClassFile.FieldType.int)) ∈ lw_all := lw_g (lw_at lw_m6 189 rfl) rfl
theorem q1475 : (Jvm.Cond.methodLink "StreamHallModel" (362 : Nat) ({ cls := "StreamHallModel", name := "sizeOf", desc := "(J)I" } : Jvm.MethodName)) ∈ lw_all := lw_g (lw_at lw_m6 190 rfl) rfl
theorem q1476 : (Jvm.Cond.static ({ cls := "StreamHallModel", name := "sizeOf", desc := "(J)I" } : Jvm.MethodName)) ∈ lw_all := lw_g (lw_at lw_m6 191 rfl) rfl
theorem q1477 : (Jvm.Cond.code ({ cls := "StreamHallModel", name := "sizeOf", desc := "(J)I" } : Jvm.MethodName) prog_11_method_53_code (2 : Nat) (Option.some Jvm.ClassFile.FieldType.int)) ∈ lw_all := lw_g (lw_at lw_m6 192 rfl) rfl
theorem q1478 : (Jvm.Cond.constantLong "StreamHallModel" (358 : Nat) (16384 : Int64)) ∈ lw_all := lw_g (lw_at lw_m6 193 rfl) rfl
theorem q1479 : (Jvm.Cond.constantLong "StreamHallModel" (360 : Nat) (1073741824 : Int64)) ∈ lw_all := lw_g (lw_at lw_m6 194 rfl) rfl
theorem q1480 : (Jvm.Cond.methodLink "StreamHallModel" (398 : Nat) ({ cls := "StreamHallModel", name := "fillsGrants", desc := "(II)Z" } : Jvm.MethodName)) ∈ lw_all := lw_g (lw_at lw_m6 195 rfl) rfl
theorem q1481 : (Jvm.Cond.privateMethod ({ cls := "StreamHallModel", name := "fillsGrants", desc := "(II)Z" } : Jvm.MethodName)) ∈ lw_tbl := lw_at lw_m6 196 rfl
theorem q1482 : (Jvm.Cond.instanceMethod ({ cls := "StreamHallModel", name := "fillsGrants", desc := "(II)Z" } : Jvm.MethodName)) ∈ lw_all := lw_g (lw_at lw_m6 197 rfl) rfl
theorem q1483 : (Jvm.Cond.code ({ cls := "StreamHallModel", name := "fillsGrants", desc := "(II)Z" } : Jvm.MethodName) prog_11_method_57_code (5 : Nat) (Option.some Jvm.ClassFile.FieldType.boolean)) ∈ lw_all := lw_g (lw_at lw_m6 198 rfl) rfl
theorem q1484 : (Jvm.Cond.methodLink "StreamHallModel" (401 : Nat) ({ cls := "StreamHallModel", name := "fillsBlocked", desc := "(II)Z" } : Jvm.MethodName)) ∈ lw_all := lw_g (lw_at lw_m6 199 rfl) rfl
theorem q1485 : (Jvm.Cond.privateMethod ({ cls := "StreamHallModel", name := "fillsBlocked", desc := "(II)Z" } : Jvm.MethodName)) ∈ lw_tbl := lw_at lw_m6 200 rfl
theorem q1486 : (Jvm.Cond.instanceMethod ({ cls := "StreamHallModel", name := "fillsBlocked", desc := "(II)Z" } : Jvm.MethodName)) ∈ lw_all := lw_g (lw_at lw_m6 201 rfl) rfl
theorem q1487 : (Jvm.Cond.code ({ cls := "StreamHallModel", name := "fillsBlocked", desc := "(II)Z" } : Jvm.MethodName) prog_11_method_59_code (6 : Nat) (Option.some Jvm.ClassFile.FieldType.boolean)) ∈ lw_all := lw_g (lw_at lw_m6 202 rfl) rfl
theorem q1488 : (Jvm.Cond.methodLink "StreamHallModel" (376 : Nat) ({ cls := "StreamHallModel", name := "waits", desc := "(II)Z" } : Jvm.MethodName)) ∈ lw_all := lw_g (lw_at lw_m6 203 rfl) rfl
theorem q1489 : (Jvm.Cond.privateMethod ({ cls := "StreamHallModel", name := "waits", desc := "(II)Z" } : Jvm.MethodName)) ∈ lw_tbl := lw_at lw_m6 204 rfl
theorem q1490 : (Jvm.Cond.instanceMethod ({ cls := "StreamHallModel", name := "waits", desc := "(II)Z" } : Jvm.MethodName)) ∈ lw_all := lw_g (lw_at lw_m6 205 rfl) rfl
theorem q1491 : (Jvm.Cond.code ({ cls := "StreamHallModel", name := "waits", desc := "(II)Z" } : Jvm.MethodName) prog_11_method_58_code (3 : Nat) (Option.some Jvm.ClassFile.FieldType.boolean)) ∈ lw_all := lw_g (lw_at lw_m6 206 rfl) rfl
theorem q1492 : (Jvm.Cond.methodLink "StreamHallModel" (379 : Nat) ({ cls := "StreamHallModel", name := "allSent", desc := "(I)I" } : Jvm.MethodName)) ∈ lw_all := lw_g (lw_at lw_m6 207 rfl) rfl
theorem q1493 : (Jvm.Cond.privateMethod ({ cls := "StreamHallModel", name := "allSent", desc := "(I)I" } : Jvm.MethodName)) ∈ lw_tbl := lw_at lw_m6 208 rfl
theorem q1494 : (Jvm.Cond.instanceMethod ({ cls := "StreamHallModel", name := "allSent", desc := "(I)I" } : Jvm.MethodName)) ∈ lw_all := lw_g (lw_at lw_m6 209 rfl) rfl
theorem q1495 : (Jvm.Cond.code ({ cls := "StreamHallModel", name := "allSent", desc := "(I)I" } : Jvm.MethodName) prog_11_method_20_code (4 : Nat) (Option.some Jvm.ClassFile.FieldType.int)) ∈ lw_all := lw_g (lw_at lw_m6 210 rfl) rfl
theorem q1496 : (Jvm.Cond.methodLink "StreamHallModel" (404 : Nat) ({ cls := "StreamHallModel", name := "fillsStream", desc := "(III)Z" } : Jvm.MethodName)) ∈ lw_all := lw_g (lw_at lw_m6 211 rfl) rfl
theorem q1497 : (Jvm.Cond.privateMethod ({ cls := "StreamHallModel", name := "fillsStream", desc := "(III)Z" } : Jvm.MethodName)) ∈ lw_tbl := lw_at lw_m6 212 rfl
theorem q1498 : (Jvm.Cond.instanceMethod ({ cls := "StreamHallModel", name := "fillsStream", desc := "(III)Z" } : Jvm.MethodName)) ∈ lw_all := lw_g (lw_at lw_m6 213 rfl) rfl
theorem q1499 : (Jvm.Cond.code ({ cls := "StreamHallModel", name := "fillsStream", desc := "(III)Z" } : Jvm.MethodName) prog_11_method_63_code (16 : Nat) (Option.some Jvm.ClassFile.FieldType.boolean)) ∈ lw_all := lw_g (lw_at lw_m6 214 rfl) rfl
theorem q1500 : (Jvm.Cond.methodLink "StreamHallModel" (382 : Nat) ({ cls := "StreamHallModel", name := "firstIn", desc := "(III)I" } : Jvm.MethodName)) ∈ lw_all := lw_g (lw_at lw_m6 215 rfl) rfl
theorem q1501 : (Jvm.Cond.privateMethod ({ cls := "StreamHallModel", name := "firstIn", desc := "(III)I" } : Jvm.MethodName)) ∈ lw_tbl := lw_at lw_m6 216 rfl
theorem q1502 : (Jvm.Cond.instanceMethod ({ cls := "StreamHallModel", name := "firstIn", desc := "(III)I" } : Jvm.MethodName)) ∈ lw_all := lw_g (lw_at lw_m6 217 rfl) rfl
theorem q1503 : (Jvm.Cond.code ({ cls := "StreamHallModel", name := "firstIn", desc := "(III)I" } : Jvm.MethodName) prog_11_method_61_code (6 : Nat) (Option.some Jvm.ClassFile.FieldType.int)) ∈ lw_all := lw_g (lw_at lw_m6 218 rfl) rfl
theorem q1504 : (Jvm.Cond.methodLink "StreamHallModel" (385 : Nat) ({ cls := "StreamHallModel", name := "allowed", desc := "(II)J" } : Jvm.MethodName)) ∈ lw_all := lw_g (lw_at lw_m6 219 rfl) rfl
theorem q1505 : (Jvm.Cond.privateMethod ({ cls := "StreamHallModel", name := "allowed", desc := "(II)J" } : Jvm.MethodName)) ∈ lw_tbl := lw_at lw_m6 220 rfl
theorem q1506 : (Jvm.Cond.instanceMethod ({ cls := "StreamHallModel", name := "allowed", desc := "(II)J" } : Jvm.MethodName)) ∈ lw_all := lw_g (lw_at lw_m6 221 rfl) rfl
theorem q1507 : (Jvm.Cond.code ({ cls := "StreamHallModel", name := "allowed", desc := "(II)J" } : Jvm.MethodName) prog_11_method_62_code (9 : Nat) (Option.some Jvm.ClassFile.FieldType.long)) ∈ lw_all := lw_g (lw_at lw_m6 222 rfl) rfl
theorem q1508 : (Jvm.Cond.methodLink "StreamHallModel" (388 : Nat) ({ cls := "StreamHallModel", name := "endAlone", desc := "(III)Z" } : Jvm.MethodName)) ∈ lw_all := lw_g (lw_at lw_m6 223 rfl) rfl
theorem q1509 : (Jvm.Cond.privateMethod ({ cls := "StreamHallModel", name := "endAlone", desc := "(III)Z" } : Jvm.MethodName)) ∈ lw_tbl := lw_at lw_m6 224 rfl
theorem q1510 : (Jvm.Cond.instanceMethod ({ cls := "StreamHallModel", name := "endAlone", desc := "(III)Z" } : Jvm.MethodName)) ∈ lw_all := lw_g (lw_at lw_m6 225 rfl) rfl
theorem q1511 : (Jvm.Cond.code ({ cls := "StreamHallModel", name := "endAlone", desc := "(III)Z" } : Jvm.MethodName) prog_11_method_64_code (4 : Nat) (Option.some Jvm.ClassFile.FieldType.boolean)) ∈ lw_all := lw_g (lw_at lw_m6 226 rfl) rfl
theorem q1512 : (Jvm.Cond.methodLink "StreamHallModel" (392 : Nat) ({ cls := "StreamHallModel", name := "placeOf", desc := "(III)I" } : Jvm.MethodName)) ∈ lw_all := lw_g (lw_at lw_m6 227 rfl) rfl
theorem q1513 : (Jvm.Cond.privateMethod ({ cls := "StreamHallModel", name := "placeOf", desc := "(III)I" } : Jvm.MethodName)) ∈ lw_tbl := lw_at lw_m6 228 rfl
theorem q1514 : (Jvm.Cond.instanceMethod ({ cls := "StreamHallModel", name := "placeOf", desc := "(III)I" } : Jvm.MethodName)) ∈ lw_all := lw_g (lw_at lw_m6 229 rfl) rfl
theorem q1515 : (Jvm.Cond.code ({ cls := "StreamHallModel", name := "placeOf", desc := "(III)I" } : Jvm.MethodName) prog_11_method_60_code (6 : Nat) (Option.some Jvm.ClassFile.FieldType.int)) ∈ lw_all := lw_g (lw_at lw_m6 230 rfl) rfl
theorem q1517 : (Jvm.Cond.instanceMethod ({ cls := "StreamHallModel", name := "deliver", desc := "(I)I" } : Jvm.MethodName)) ∈ lw_all := lw_g (lw_at lw_m6 232 rfl) rfl
theorem q1518 : (Jvm.Cond.selects "StreamHallModel" ({ cls := "StreamHallModel", name := "deliver", desc := "(I)I" } : Jvm.MethodName) ({ cls := "StreamHallModel", name := "deliver", desc := "(I)I" } : Jvm.MethodName)) ∈ lw_all := lw_g (lw_at lw_m6 233 rfl) rfl
theorem q1519 : (Jvm.Cond.code ({ cls := "StreamHallModel", name := "deliver", desc := "(I)I" } : Jvm.MethodName) prog_11_method_69_code (3 : Nat) (Option.some Jvm.ClassFile.FieldType.int)) ∈ lw_all := lw_g (lw_at lw_m6 234 rfl) rfl
theorem q1520 : (Jvm.Cond.methodLink "StreamHallModel" (413 : Nat) ({ cls := "StreamHallModel", name := "noPlace", desc := "(I)Z" } : Jvm.MethodName)) ∈ lw_all := lw_g (lw_at lw_m6 235 rfl) rfl
theorem q1521 : (Jvm.Cond.privateMethod ({ cls := "StreamHallModel", name := "noPlace", desc := "(I)Z" } : Jvm.MethodName)) ∈ lw_tbl := lw_at lw_m6 236 rfl
theorem q1522 : (Jvm.Cond.instanceMethod ({ cls := "StreamHallModel", name := "noPlace", desc := "(I)Z" } : Jvm.MethodName)) ∈ lw_all := lw_g (lw_at lw_m6 237 rfl) rfl
theorem q1523 : (Jvm.Cond.code ({ cls := "StreamHallModel", name := "noPlace", desc := "(I)Z" } : Jvm.MethodName) prog_11_method_68_code (2 : Nat) (Option.some Jvm.ClassFile.FieldType.boolean)) ∈ lw_all := lw_g (lw_at lw_m6 238 rfl) rfl
theorem q1525 : (Jvm.Cond.instanceMethod ({ cls := "StreamHallModel", name := "gone", desc := "(IZ)V" } : Jvm.MethodName)) ∈ lw_all := lw_g (lw_at lw_m7 0 rfl) rfl
theorem q1526 : (Jvm.Cond.selects "StreamHallModel" ({ cls := "StreamHallModel", name := "gone", desc := "(IZ)V" } : Jvm.MethodName) ({ cls := "StreamHallModel", name := "gone", desc := "(IZ)V" } : Jvm.MethodName)) ∈ lw_all := lw_g (lw_at lw_m7 1 rfl) rfl
theorem q1527 : (Jvm.Cond.code ({ cls := "StreamHallModel", name := "gone", desc := "(IZ)V" } : Jvm.MethodName) prog_11_method_70_code (9 : Nat) (Option.none : Option Jvm.ClassFile.FieldType)) ∈ lw_all := lw_g (lw_at lw_m7 2 rfl) rfl
theorem q1528 : (Jvm.Cond.methodLink "StreamHallModel" (416 : Nat) ({ cls := "StreamHallModel", name := "goneStream", desc := "(IIZ)V" } : Jvm.MethodName)) ∈ lw_all := lw_g (lw_at lw_m7 3 rfl) rfl
theorem q1529 : (Jvm.Cond.privateMethod ({ cls := "StreamHallModel", name := "goneStream", desc := "(IIZ)V" } : Jvm.MethodName)) ∈ lw_tbl := lw_at lw_m7 4 rfl
theorem q1530 : (Jvm.Cond.instanceMethod ({ cls := "StreamHallModel", name := "goneStream", desc := "(IIZ)V" } : Jvm.MethodName)) ∈ lw_all := lw_g (lw_at lw_m7 5 rfl) rfl
theorem q1531 : (Jvm.Cond.code ({ cls := "StreamHallModel", name := "goneStream", desc := "(IIZ)V" } : Jvm.MethodName) prog_11_method_71_code (8 : Nat) (Option.none : Option Jvm.ClassFile.FieldType)) ∈ lw_all := lw_g (lw_at lw_m7 6 rfl) rfl
theorem q1533 : (Jvm.Cond.instanceMethod ({ cls := "StreamHallModel", name := "line", desc := "(II)J" } : Jvm.MethodName)) ∈ lw_all := lw_g (lw_at lw_m7 8 rfl) rfl
theorem q1534 : (Jvm.Cond.selects "StreamHallModel" ({ cls := "StreamHallModel", name := "line", desc := "(II)J" } : Jvm.MethodName) ({ cls := "StreamHallModel", name := "line", desc := "(II)J" } : Jvm.MethodName)) ∈ lw_all := lw_g (lw_at lw_m7 9 rfl) rfl
theorem q1535 : (Jvm.Cond.code ({ cls := "StreamHallModel", name := "line", desc := "(II)J" } : Jvm.MethodName) prog_11_method_72_code (3 : Nat) (Option.some Jvm.ClassFile.FieldType.long)) ∈ lw_all := lw_g (lw_at lw_m7 10 rfl) rfl
theorem q1537 : (Jvm.Cond.instanceMethod ({ cls := "StreamHallModel", name := "data", desc := "(II)I" } : Jvm.MethodName)) ∈ lw_all := lw_g (lw_at lw_m7 12 rfl) rfl
theorem q1538 : (Jvm.Cond.selects "StreamHallModel" ({ cls := "StreamHallModel", name := "data", desc := "(II)I" } : Jvm.MethodName) ({ cls := "StreamHallModel", name := "data", desc := "(II)I" } : Jvm.MethodName)) ∈ lw_all := lw_g (lw_at lw_m7 13 rfl) rfl
theorem q1539 : (Jvm.Cond.code ({ cls := "StreamHallModel", name := "data", desc := "(II)I" } : Jvm.MethodName) prog_11_method_73_code (3 : Nat) (Option.some Jvm.ClassFile.FieldType.int)) ∈ lw_all := lw_g (lw_at lw_m7 14 rfl) rfl
theorem q1541 : (Jvm.Cond.instanceMethod ({ cls := "StreamHallModel", name := "outs", desc := "(I)J" } : Jvm.MethodName)) ∈ lw_all := lw_g (lw_at lw_m7 16 rfl) rfl
theorem q1542 : (Jvm.Cond.selects "StreamHallModel" ({ cls := "StreamHallModel", name := "outs", desc := "(I)J" } : Jvm.MethodName) ({ cls := "StreamHallModel", name := "outs", desc := "(I)J" } : Jvm.MethodName)) ∈ lw_all := lw_g (lw_at lw_m7 17 rfl) rfl
theorem q1543 : (Jvm.Cond.code ({ cls := "StreamHallModel", name := "outs", desc := "(I)J" } : Jvm.MethodName) prog_11_method_74_code (5 : Nat) (Option.some Jvm.ClassFile.FieldType.long)) ∈ lw_all := lw_g (lw_at lw_m7 18 rfl) rfl
theorem q1545 : (Jvm.Cond.instanceMethod ({ cls := "StreamHallModel", name := "stream", desc := "(III)J" } : Jvm.MethodName)) ∈ lw_all := lw_g (lw_at lw_m7 20 rfl) rfl
theorem q1546 : (Jvm.Cond.selects "StreamHallModel" ({ cls := "StreamHallModel", name := "stream", desc := "(III)J" } : Jvm.MethodName) ({ cls := "StreamHallModel", name := "stream", desc := "(III)J" } : Jvm.MethodName)) ∈ lw_all := lw_g (lw_at lw_m7 21 rfl) rfl
theorem q1547 : (Jvm.Cond.code ({ cls := "StreamHallModel", name := "stream", desc := "(III)J" } : Jvm.MethodName) prog_11_method_78_code (4 : Nat) (Option.some Jvm.ClassFile.FieldType.long)) ∈ lw_all := lw_g (lw_at lw_m7 22 rfl) rfl
theorem q1548 : (Jvm.Cond.methodLink "StreamHallModel" (423 : Nat) ({ cls := "StreamHallModel", name := "sendingLook", desc := "(III)J" } : Jvm.MethodName)) ∈ lw_all := lw_g (lw_at lw_m7 23 rfl) rfl
theorem q1549 : (Jvm.Cond.privateMethod ({ cls := "StreamHallModel", name := "sendingLook", desc := "(III)J" } : Jvm.MethodName)) ∈ lw_tbl := lw_at lw_m7 24 rfl
theorem q1550 : (Jvm.Cond.instanceMethod ({ cls := "StreamHallModel", name := "sendingLook", desc := "(III)J" } : Jvm.MethodName)) ∈ lw_all := lw_g (lw_at lw_m7 25 rfl) rfl
theorem q1551 : (Jvm.Cond.code ({ cls := "StreamHallModel", name := "sendingLook", desc := "(III)J" } : Jvm.MethodName) prog_11_method_76_code (5 : Nat) (Option.some Jvm.ClassFile.FieldType.long)) ∈ lw_all := lw_g (lw_at lw_m7 26 rfl) rfl
theorem q1552 : (Jvm.Cond.methodLink "StreamHallModel" (420 : Nat) ({ cls := "StreamHallModel", name := "endOf", desc := "(I)I" } : Jvm.MethodName)) ∈ lw_all := lw_g (lw_at lw_m7 27 rfl) rfl
theorem q1553 : (Jvm.Cond.privateMethod ({ cls := "StreamHallModel", name := "endOf", desc := "(I)I" } : Jvm.MethodName)) ∈ lw_tbl := lw_at lw_m7 28 rfl
theorem q1554 : (Jvm.Cond.instanceMethod ({ cls := "StreamHallModel", name := "endOf", desc := "(I)I" } : Jvm.MethodName)) ∈ lw_all := lw_g (lw_at lw_m7 29 rfl) rfl
theorem q1555 : (Jvm.Cond.code ({ cls := "StreamHallModel", name := "endOf", desc := "(I)I" } : Jvm.MethodName) prog_11_method_75_code (2 : Nat) (Option.some Jvm.ClassFile.FieldType.int)) ∈ lw_all := lw_g (lw_at lw_m7 30 rfl) rfl
theorem q1556 : (Jvm.Cond.methodLink "StreamHallModel" (427 : Nat) ({ cls := "StreamHallModel", name := "receivingLook", desc := "(III)J" } : Jvm.MethodName)) ∈ lw_all := lw_g (lw_at lw_m7 31 rfl) rfl
theorem q1557 : (Jvm.Cond.privateMethod ({ cls := "StreamHallModel", name := "receivingLook", desc := "(III)J" } : Jvm.MethodName)) ∈ lw_tbl := lw_at lw_m7 32 rfl
theorem q1558 : (Jvm.Cond.instanceMethod ({ cls := "StreamHallModel", name := "receivingLook", desc := "(III)J" } : Jvm.MethodName)) ∈ lw_all := lw_g (lw_at lw_m7 33 rfl) rfl
theorem q1559 : (Jvm.Cond.code ({ cls := "StreamHallModel", name := "receivingLook", desc := "(III)J" } : Jvm.MethodName) prog_11_method_77_code (5 : Nat) (Option.some Jvm.ClassFile.FieldType.long)) ∈ lw_all := lw_g (lw_at lw_m7 34 rfl) rfl
theorem q1561 : (Jvm.Cond.instanceMethod ({ cls := "StreamHallModel", name := "side", desc := "(II)J" } : Jvm.MethodName)) ∈ lw_all := lw_g (lw_at lw_m7 36 rfl) rfl
theorem q1562 : (Jvm.Cond.selects "StreamHallModel" ({ cls := "StreamHallModel", name := "side", desc := "(II)J" } : Jvm.MethodName) ({ cls := "StreamHallModel", name := "side", desc := "(II)J" } : Jvm.MethodName)) ∈ lw_all := lw_g (lw_at lw_m7 37 rfl) rfl
theorem q1563 : (Jvm.Cond.code ({ cls := "StreamHallModel", name := "side", desc := "(II)J" } : Jvm.MethodName) prog_11_method_79_code (3 : Nat) (Option.some Jvm.ClassFile.FieldType.long)) ∈ lw_all := lw_g (lw_at lw_m7 38 rfl) rfl
theorem in_X8 : ∀ w ∈ wsX80, w ∈ lw_all := lw_in wsX80 [1125, 1127, 1129, 1131, 1133, 1135, 1137, 1139, 1141, 1143, 1145, 1147, 1149, 1151, 1153, 1155, 1157, 1159, 1161, 1163, 1165, 1167, 1169, 1171, 1173, 1175, 1177, 1179, 1181, 1183, 1185, 1187, 1189, 1191, 1193, 1195, 1197, 1199, 1201, 1203, 1205, 1207, 1209, 1211, 1213, 1215, 1217, 1219, 1221, 1223, 1225, 1227, 1229, 1231, 1233, 1235, 1237, 1239, 1241, 1243, 1245] (by decide +kernel) (by decide +kernel)

/-! java/lang/Throwable -/
def RJ0 : String := "java/lang/Throwable"
def TJ0 : u_T := fun k => match k with
  | 0 => ("java/lang/Throwable", "cause", "Ljava/lang/Throwable;", false)
  | 1 => ("java/lang/Throwable", "stackTrace", "[Ljava/lang/StackTraceElement;", false)
  | 2 => ("java/lang/Throwable", "suppressedExceptions", "Ljava/util/List;", false)
  | 3 => ("java/lang/Throwable", "detailMessage", "Ljava/lang/String;", false)
  | _ => ("java/lang/Throwable", "backtrace", "Ljava/lang/Object;", false)
def tyJ0 : Nat → FieldType := fun k => match k with
  | 0 => .object "java/lang/Throwable"
  | 1 => .array (.object "java/lang/StackTraceElement")
  | 2 => .object "java/util/List"
  | 3 => .object "java/lang/String"
  | _ => .object "java/lang/Object"
abbrev wsJ00 : List Cond := u_ws RJ0 TJ0 5
theorem nmJ0 : ∀ a, a < 5 → ∀ b, b < 5 → a ≠ b → (TJ0 a).2.1 ≠ (TJ0 b).2.1 := by decide +kernel
theorem tyJ0_ok : ∀ k, k < 5 → parseFieldDescriptor (TJ0 k).2.2.1 = some (tyJ0 k) := by decide +kernel
abbrev cJ0_init : ByteArray := prog_19_method_1_code
def yJ0_init : MethodName := ⟨RJ0, "<init>", "()V"⟩
theorem q94 : (Jvm.Cond.initialized "java/lang/Throwable") ∈ lw_all := lw_g (lw_at lw_m1 9 rfl) rfl
theorem q413 : (Jvm.Cond.declares ({ cls := "java/lang/Throwable", name := "<init>", desc := "()V" } : Jvm.MethodName)) ∈ lw_tbl := lw_at lw_m2 88 rfl
theorem q414 : (Jvm.Cond.declares ({ cls := "java/lang/Throwable", name := "<init>", desc := "(Ljava/lang/String;)V" } : Jvm.MethodName)) ∈ lw_tbl := lw_at lw_m2 89 rfl
theorem q418 : (Jvm.Cond.lays "java/lang/Throwable" "java/lang/Throwable" "cause" "Ljava/lang/Throwable;") ∈ lw_all := lw_g (lw_at lw_m2 93 rfl) rfl
theorem q420 : (Jvm.Cond.lays "java/lang/Throwable" "java/lang/Throwable" "stackTrace" "[Ljava/lang/StackTraceElement;") ∈ lw_all := lw_g (lw_at lw_m2 95 rfl) rfl
theorem q422 : (Jvm.Cond.lays "java/lang/Throwable" "java/lang/Throwable" "suppressedExceptions" "Ljava/util/List;") ∈ lw_all := lw_g (lw_at lw_m2 97 rfl) rfl
theorem q424 : (Jvm.Cond.lays "java/lang/Throwable" "java/lang/Throwable" "detailMessage" "Ljava/lang/String;") ∈ lw_all := lw_g (lw_at lw_m2 99 rfl) rfl
theorem q426 : (Jvm.Cond.lays "java/lang/Throwable" "java/lang/Throwable" "backtrace" "Ljava/lang/Object;") ∈ lw_all := lw_g (lw_at lw_m2 101 rfl) rfl
theorem q427 : (Jvm.Cond.fieldLink "java/lang/Throwable" (198 : Nat) "java/lang/Throwable" "backtrace" "Ljava/lang/Object;") ∈ lw_all := lw_g (lw_at lw_m2 102 rfl) rfl
theorem q428 : (Jvm.Cond.superclass "java/lang/Throwable" "java/lang/Object") ∈ lw_all := lw_g (lw_at lw_m2 103 rfl) rfl
theorem q429 : (Jvm.Cond.instanceMethod ({ cls := "java/lang/Throwable", name := "<init>", desc := "()V" } : Jvm.MethodName)) ∈ lw_all := lw_g (lw_at lw_m2 104 rfl) rfl
theorem q430 : (Jvm.Cond.code ({ cls := "java/lang/Throwable", name := "<init>", desc := "()V" } : Jvm.MethodName) prog_19_method_1_code (1 : Nat) (Option.none : Option Jvm.ClassFile.FieldType)) ∈ lw_all := lw_g (lw_at lw_m2 105 rfl) rfl
theorem q431 : (Jvm.Cond.methodLink "java/lang/Throwable" (1 : Nat) ({ cls := "java/lang/Object", name := "<init>", desc := "()V" } : Jvm.MethodName)) ∈ lw_all := lw_g (lw_at lw_m2 106 rfl) rfl
theorem q432 : (Jvm.Cond.fieldLink "java/lang/Throwable" (13 : Nat) "java/lang/Throwable" "UNASSIGNED_STACK" "[Ljava/lang/StackTraceElement;") ∈ lw_all := lw_g (lw_at lw_m2 107 rfl) rfl
theorem q433 : (Jvm.Cond.laysStatic "java/lang/Throwable" "UNASSIGNED_STACK" "[Ljava/lang/StackTraceElement;") ∈ lw_tbl := lw_at lw_m2 108 rfl
theorem q434 : (Jvm.Cond.fieldLink "java/lang/Throwable" (20 : Nat) "java/lang/Throwable" "SUPPRESSED_SENTINEL" "Ljava/util/List;") ∈ lw_all := lw_g (lw_at lw_m2 109 rfl) rfl
theorem q435 : (Jvm.Cond.laysStatic "java/lang/Throwable" "SUPPRESSED_SENTINEL" "Ljava/util/List;") ∈ lw_tbl := lw_at lw_m2 110 rfl
theorem q436 : (Jvm.Cond.methodLink "java/lang/Throwable" (27 : Nat) ({ cls := "java/lang/Throwable", name := "fillInStackTrace", desc := "()Ljava/lang/Throwable;" } : Jvm.MethodName)) ∈ lw_all := lw_g (lw_at lw_m2 111 rfl) rfl
theorem q437 : (Jvm.Cond.instanceMethod ({ cls := "java/lang/Throwable", name := "fillInStackTrace", desc := "()Ljava/lang/Throwable;" } : Jvm.MethodName)) ∈ lw_all := lw_g (lw_at lw_m2 112 rfl) rfl
theorem q438 : (Jvm.Cond.sameMethod "java/lang/Throwable" "java/lang/Throwable" "fillInStackTrace" "()Ljava/lang/Throwable;") ∈ lw_all := lw_g (lw_at lw_m2 113 rfl) rfl
theorem q441 : (Jvm.Cond.codeSync ({ cls := "java/lang/Throwable", name := "fillInStackTrace", desc := "()Ljava/lang/Throwable;" } : Jvm.MethodName) prog_19_method_18_code (1 : Nat) (Option.some (Jvm.ClassFile.FieldType.object "java/lang/Throwable"))) ∈ lw_all := lw_g (lw_at lw_m2 116 rfl) rfl
theorem q442 : (Jvm.Cond.methodLink "java/lang/Throwable" (202 : Nat) ({ cls := "java/lang/Throwable", name := "fillInStackTrace", desc := "(I)Ljava/lang/Throwable;" } : Jvm.MethodName)) ∈ lw_all := lw_g (lw_at lw_m2 117 rfl) rfl
theorem q443 : (Jvm.Cond.privateMethod ({ cls := "java/lang/Throwable", name := "fillInStackTrace", desc := "(I)Ljava/lang/Throwable;" } : Jvm.MethodName)) ∈ lw_tbl := lw_at lw_m2 118 rfl
theorem q444 : (Jvm.Cond.instanceMethod ({ cls := "java/lang/Throwable", name := "fillInStackTrace", desc := "(I)Ljava/lang/Throwable;" } : Jvm.MethodName)) ∈ lw_all := lw_g (lw_at lw_m2 119 rfl) rfl
theorem q445 : (Jvm.Cond.instantiable "java/lang/Throwable" (6 : Nat)) ∈ lw_all := lw_g (lw_at lw_m2 120 rfl) rfl
theorem q446 : (Jvm.Cond.native ({ cls := "java/lang/Throwable", name := "fillInStackTrace", desc := "(I)Ljava/lang/Throwable;" } : Jvm.MethodName)) ∈ lw_all := lw_g (lw_at lw_m2 121 rfl) rfl
theorem q457 : (Jvm.Cond.fieldLink "java/lang/Throwable" (198 : Nat) "java/lang/Throwable" "backtrace" "Ljava/lang/Object;") ∈ lw_all := lw_g (lw_at lw_m2 132 rfl) rfl
theorem q458 : (Jvm.Cond.fieldLink "java/lang/Throwable" (7 : Nat) "java/lang/Throwable" "cause" "Ljava/lang/Throwable;") ∈ lw_all := lw_g (lw_at lw_m2 133 rfl) rfl
theorem q459 : (Jvm.Cond.fieldLink "java/lang/Throwable" (17 : Nat) "java/lang/Throwable" "stackTrace" "[Ljava/lang/StackTraceElement;") ∈ lw_all := lw_g (lw_at lw_m2 134 rfl) rfl
theorem q460 : (Jvm.Cond.fieldLink "java/lang/Throwable" (24 : Nat) "java/lang/Throwable" "suppressedExceptions" "Ljava/util/List;") ∈ lw_all := lw_g (lw_at lw_m2 135 rfl) rfl
theorem q461 : (Jvm.Cond.soleField "java/lang/Throwable" "backtrace") ∈ lw_all := lw_g (lw_at lw_m2 136 rfl) rfl
theorem q462 : (Jvm.Cond.soleField "java/lang/Throwable" "detailMessage") ∈ lw_all := lw_g (lw_at lw_m2 137 rfl) rfl
theorem q463 : (Jvm.Cond.soleField "java/lang/Throwable" "cause") ∈ lw_all := lw_g (lw_at lw_m2 138 rfl) rfl
theorem q464 : (Jvm.Cond.soleField "java/lang/Throwable" "stackTrace") ∈ lw_all := lw_g (lw_at lw_m2 139 rfl) rfl
theorem q466 : (Jvm.Cond.soleField "java/lang/Throwable" "depth") ∈ lw_all := lw_g (lw_at lw_m2 141 rfl) rfl
theorem q467 : (Jvm.Cond.soleField "java/lang/Throwable" "suppressedExceptions") ∈ lw_all := lw_g (lw_at lw_m2 142 rfl) rfl
theorem q1565 : (Jvm.Cond.sameMethod "java/lang/Throwable" "java/lang/Throwable" "fillInStackTrace" "(I)Ljava/lang/Throwable;") ∈ lw_all := lw_g (lw_at lw_m7 40 rfl) rfl
theorem in_J0 : ∀ w ∈ wsJ00, w ∈ lw_all := lw_in wsJ00 [418, 420, 422, 424, 426] (by decide +kernel) (by decide +kernel)

/-! java/lang/Exception -/
def RJ1 : String := "java/lang/Exception"
abbrev cJ1_init : ByteArray := prog_13_method_1_code
def yJ1_init : MethodName := ⟨RJ1, "<init>", "()V"⟩
theorem q95 : (Jvm.Cond.initialized "java/lang/Exception") ∈ lw_all := lw_g (lw_at lw_m1 10 rfl) rfl
theorem q411 : (Jvm.Cond.declares ({ cls := "java/lang/Exception", name := "<init>", desc := "()V" } : Jvm.MethodName)) ∈ lw_tbl := lw_at lw_m2 86 rfl
theorem q412 : (Jvm.Cond.declares ({ cls := "java/lang/Exception", name := "<init>", desc := "(Ljava/lang/String;)V" } : Jvm.MethodName)) ∈ lw_tbl := lw_at lw_m2 87 rfl
theorem q454 : (Jvm.Cond.instanceMethod ({ cls := "java/lang/Exception", name := "<init>", desc := "()V" } : Jvm.MethodName)) ∈ lw_all := lw_g (lw_at lw_m2 129 rfl) rfl
theorem q455 : (Jvm.Cond.code ({ cls := "java/lang/Exception", name := "<init>", desc := "()V" } : Jvm.MethodName) prog_13_method_1_code (1 : Nat) (Option.none : Option Jvm.ClassFile.FieldType)) ∈ lw_all := lw_g (lw_at lw_m2 130 rfl) rfl
theorem q456 : (Jvm.Cond.methodLink "java/lang/Exception" (1 : Nat) ({ cls := "java/lang/Throwable", name := "<init>", desc := "()V" } : Jvm.MethodName)) ∈ lw_all := lw_g (lw_at lw_m2 131 rfl) rfl

/-! java/lang/RuntimeException -/
def RJ2 : String := "java/lang/RuntimeException"
abbrev cJ2_init : ByteArray := prog_17_method_1_code
def yJ2_init : MethodName := ⟨RJ2, "<init>", "()V"⟩
theorem q96 : (Jvm.Cond.initialized "java/lang/RuntimeException") ∈ lw_all := lw_g (lw_at lw_m1 11 rfl) rfl
theorem q409 : (Jvm.Cond.declares ({ cls := "java/lang/RuntimeException", name := "<init>", desc := "()V" } : Jvm.MethodName)) ∈ lw_tbl := lw_at lw_m2 84 rfl
theorem q410 : (Jvm.Cond.declares ({ cls := "java/lang/RuntimeException", name := "<init>", desc := "(Ljava/lang/String;)V" } : Jvm.MethodName)) ∈ lw_tbl := lw_at lw_m2 85 rfl
theorem q451 : (Jvm.Cond.instanceMethod ({ cls := "java/lang/RuntimeException", name := "<init>", desc := "()V" } : Jvm.MethodName)) ∈ lw_all := lw_g (lw_at lw_m2 126 rfl) rfl
theorem q452 : (Jvm.Cond.code ({ cls := "java/lang/RuntimeException", name := "<init>", desc := "()V" } : Jvm.MethodName) prog_17_method_1_code (1 : Nat) (Option.none : Option Jvm.ClassFile.FieldType)) ∈ lw_all := lw_g (lw_at lw_m2 127 rfl) rfl
theorem q453 : (Jvm.Cond.methodLink "java/lang/RuntimeException" (1 : Nat) ({ cls := "java/lang/Exception", name := "<init>", desc := "()V" } : Jvm.MethodName)) ∈ lw_all := lw_g (lw_at lw_m2 128 rfl) rfl

/-! java/lang/IllegalArgumentException -/
def RJ3 : String := "java/lang/IllegalArgumentException"
def TJ3 : u_T := fun k => match k with
  | 0 => ("java/lang/Throwable", "cause", "Ljava/lang/Throwable;", false)
  | 1 => ("java/lang/Throwable", "stackTrace", "[Ljava/lang/StackTraceElement;", false)
  | 2 => ("java/lang/Throwable", "suppressedExceptions", "Ljava/util/List;", false)
  | 3 => ("java/lang/Throwable", "detailMessage", "Ljava/lang/String;", false)
  | 4 => ("java/lang/Throwable", "backtrace", "Ljava/lang/Object;", false)
  | _ => ("java/lang/Throwable", "depth", "I", false)
def tyJ3 : Nat → FieldType := fun k => match k with
  | 0 => .object "java/lang/Throwable"
  | 1 => .array (.object "java/lang/StackTraceElement")
  | 2 => .object "java/util/List"
  | 3 => .object "java/lang/String"
  | 4 => .object "java/lang/Object"
  | _ => .int
abbrev wsJ30 : List Cond := u_ws RJ3 TJ3 6
theorem nmJ3 : ∀ a, a < 6 → ∀ b, b < 6 → a ≠ b → (TJ3 a).2.1 ≠ (TJ3 b).2.1 := by decide +kernel
theorem tyJ3_ok : ∀ k, k < 6 → parseFieldDescriptor (TJ3 k).2.2.1 = some (tyJ3 k) := by decide +kernel
abbrev cJ3_init : ByteArray := prog_14_method_1_code
def yJ3_init : MethodName := ⟨RJ3, "<init>", "()V"⟩
theorem q97 : (Jvm.Cond.initialized "java/lang/IllegalArgumentException") ∈ lw_all := lw_g (lw_at lw_m1 12 rfl) rfl
theorem q407 : (Jvm.Cond.instantiable "java/lang/IllegalArgumentException" (6 : Nat)) ∈ lw_all := lw_g (lw_at lw_m2 82 rfl) rfl
theorem q408 : (Jvm.Cond.castable "java/lang/IllegalArgumentException" "java/lang/IllegalArgumentException") ∈ lw_tbl := lw_at lw_m2 83 rfl
theorem q415 : (Jvm.Cond.selects "java/lang/IllegalArgumentException" ({ cls := "java/lang/Throwable", name := "fillInStackTrace", desc := "(I)Ljava/lang/Throwable;" } : Jvm.MethodName) ({ cls := "java/lang/Throwable", name := "fillInStackTrace", desc := "(I)Ljava/lang/Throwable;" } : Jvm.MethodName)) ∈ lw_all := lw_g (lw_at lw_m2 90 rfl) rfl
theorem q416 : (Jvm.Cond.selects "java/lang/IllegalArgumentException" ({ cls := "java/lang/Throwable", name := "fillInStackTrace", desc := "()Ljava/lang/Throwable;" } : Jvm.MethodName) ({ cls := "java/lang/Throwable", name := "fillInStackTrace", desc := "()Ljava/lang/Throwable;" } : Jvm.MethodName)) ∈ lw_all := lw_g (lw_at lw_m2 91 rfl) rfl
theorem q417 : (Jvm.Cond.lays "java/lang/IllegalArgumentException" "java/lang/Throwable" "cause" "Ljava/lang/Throwable;") ∈ lw_all := lw_g (lw_at lw_m2 92 rfl) rfl
theorem q419 : (Jvm.Cond.lays "java/lang/IllegalArgumentException" "java/lang/Throwable" "stackTrace" "[Ljava/lang/StackTraceElement;") ∈ lw_all := lw_g (lw_at lw_m2 94 rfl) rfl
theorem q421 : (Jvm.Cond.lays "java/lang/IllegalArgumentException" "java/lang/Throwable" "suppressedExceptions" "Ljava/util/List;") ∈ lw_all := lw_g (lw_at lw_m2 96 rfl) rfl
theorem q423 : (Jvm.Cond.lays "java/lang/IllegalArgumentException" "java/lang/Throwable" "detailMessage" "Ljava/lang/String;") ∈ lw_all := lw_g (lw_at lw_m2 98 rfl) rfl
theorem q425 : (Jvm.Cond.lays "java/lang/IllegalArgumentException" "java/lang/Throwable" "backtrace" "Ljava/lang/Object;") ∈ lw_all := lw_g (lw_at lw_m2 100 rfl) rfl
theorem q448 : (Jvm.Cond.instanceMethod ({ cls := "java/lang/IllegalArgumentException", name := "<init>", desc := "()V" } : Jvm.MethodName)) ∈ lw_all := lw_g (lw_at lw_m2 123 rfl) rfl
theorem q449 : (Jvm.Cond.code ({ cls := "java/lang/IllegalArgumentException", name := "<init>", desc := "()V" } : Jvm.MethodName) prog_14_method_1_code (1 : Nat) (Option.none : Option Jvm.ClassFile.FieldType)) ∈ lw_all := lw_g (lw_at lw_m2 124 rfl) rfl
theorem q450 : (Jvm.Cond.methodLink "java/lang/IllegalArgumentException" (1 : Nat) ({ cls := "java/lang/RuntimeException", name := "<init>", desc := "()V" } : Jvm.MethodName)) ∈ lw_all := lw_g (lw_at lw_m2 125 rfl) rfl
theorem q465 : (Jvm.Cond.lays "java/lang/IllegalArgumentException" "java/lang/Throwable" "depth" "I") ∈ lw_all := lw_g (lw_at lw_m2 140 rfl) rfl
theorem q468 : (Jvm.Cond.superclass "java/lang/IllegalArgumentException" "java/lang/RuntimeException") ∈ lw_all := lw_g (lw_at lw_m2 143 rfl) rfl
theorem in_J3 : ∀ w ∈ wsJ30, w ∈ lw_all := lw_in wsJ30 [417, 419, 421, 423, 425, 465] (by decide +kernel) (by decide +kernel)

/-! java/lang/IllegalStateException -/
def RJ4 : String := "java/lang/IllegalStateException"
def TJ4 : u_T := fun k => match k with
  | 0 => ("java/lang/Throwable", "cause", "Ljava/lang/Throwable;", false)
  | 1 => ("java/lang/Throwable", "stackTrace", "[Ljava/lang/StackTraceElement;", false)
  | 2 => ("java/lang/Throwable", "suppressedExceptions", "Ljava/util/List;", false)
  | 3 => ("java/lang/Throwable", "detailMessage", "Ljava/lang/String;", false)
  | 4 => ("java/lang/Throwable", "backtrace", "Ljava/lang/Object;", false)
  | _ => ("java/lang/Throwable", "depth", "I", false)
def tyJ4 : Nat → FieldType := fun k => match k with
  | 0 => .object "java/lang/Throwable"
  | 1 => .array (.object "java/lang/StackTraceElement")
  | 2 => .object "java/util/List"
  | 3 => .object "java/lang/String"
  | 4 => .object "java/lang/Object"
  | _ => .int
abbrev wsJ40 : List Cond := u_ws RJ4 TJ4 6
theorem nmJ4 : ∀ a, a < 6 → ∀ b, b < 6 → a ≠ b → (TJ4 a).2.1 ≠ (TJ4 b).2.1 := by decide +kernel
theorem tyJ4_ok : ∀ k, k < 6 → parseFieldDescriptor (TJ4 k).2.2.1 = some (tyJ4 k) := by decide +kernel
abbrev cJ4_init : ByteArray := prog_15_method_1_code
def yJ4_init : MethodName := ⟨RJ4, "<init>", "()V"⟩
theorem q98 : (Jvm.Cond.initialized "java/lang/IllegalStateException") ∈ lw_all := lw_g (lw_at lw_m1 13 rfl) rfl
theorem q439 : (Jvm.Cond.selects "java/lang/IllegalStateException" ({ cls := "java/lang/Throwable", name := "fillInStackTrace", desc := "()Ljava/lang/Throwable;" } : Jvm.MethodName) ({ cls := "java/lang/Throwable", name := "fillInStackTrace", desc := "()Ljava/lang/Throwable;" } : Jvm.MethodName)) ∈ lw_all := lw_g (lw_at lw_m2 114 rfl) rfl
theorem q473 : (Jvm.Cond.instantiable "java/lang/IllegalStateException" (6 : Nat)) ∈ lw_all := lw_g (lw_at lw_m2 148 rfl) rfl
theorem q474 : (Jvm.Cond.castable "java/lang/IllegalStateException" "java/lang/IllegalStateException") ∈ lw_tbl := lw_at lw_m2 149 rfl
theorem q475 : (Jvm.Cond.selects "java/lang/IllegalStateException" ({ cls := "java/lang/Throwable", name := "fillInStackTrace", desc := "(I)Ljava/lang/Throwable;" } : Jvm.MethodName) ({ cls := "java/lang/Throwable", name := "fillInStackTrace", desc := "(I)Ljava/lang/Throwable;" } : Jvm.MethodName)) ∈ lw_all := lw_g (lw_at lw_m2 150 rfl) rfl
theorem q476 : (Jvm.Cond.lays "java/lang/IllegalStateException" "java/lang/Throwable" "cause" "Ljava/lang/Throwable;") ∈ lw_all := lw_g (lw_at lw_m2 151 rfl) rfl
theorem q477 : (Jvm.Cond.lays "java/lang/IllegalStateException" "java/lang/Throwable" "stackTrace" "[Ljava/lang/StackTraceElement;") ∈ lw_all := lw_g (lw_at lw_m2 152 rfl) rfl
theorem q478 : (Jvm.Cond.lays "java/lang/IllegalStateException" "java/lang/Throwable" "suppressedExceptions" "Ljava/util/List;") ∈ lw_all := lw_g (lw_at lw_m2 153 rfl) rfl
theorem q479 : (Jvm.Cond.lays "java/lang/IllegalStateException" "java/lang/Throwable" "detailMessage" "Ljava/lang/String;") ∈ lw_all := lw_g (lw_at lw_m2 154 rfl) rfl
theorem q480 : (Jvm.Cond.lays "java/lang/IllegalStateException" "java/lang/Throwable" "backtrace" "Ljava/lang/Object;") ∈ lw_all := lw_g (lw_at lw_m2 155 rfl) rfl
theorem q482 : (Jvm.Cond.instanceMethod ({ cls := "java/lang/IllegalStateException", name := "<init>", desc := "()V" } : Jvm.MethodName)) ∈ lw_all := lw_g (lw_at lw_m2 157 rfl) rfl
theorem q483 : (Jvm.Cond.code ({ cls := "java/lang/IllegalStateException", name := "<init>", desc := "()V" } : Jvm.MethodName) prog_15_method_1_code (1 : Nat) (Option.none : Option Jvm.ClassFile.FieldType)) ∈ lw_all := lw_g (lw_at lw_m2 158 rfl) rfl
theorem q484 : (Jvm.Cond.methodLink "java/lang/IllegalStateException" (1 : Nat) ({ cls := "java/lang/RuntimeException", name := "<init>", desc := "()V" } : Jvm.MethodName)) ∈ lw_all := lw_g (lw_at lw_m2 159 rfl) rfl
theorem q485 : (Jvm.Cond.lays "java/lang/IllegalStateException" "java/lang/Throwable" "depth" "I") ∈ lw_all := lw_g (lw_at lw_m2 160 rfl) rfl
theorem q486 : (Jvm.Cond.superclass "java/lang/IllegalStateException" "java/lang/RuntimeException") ∈ lw_all := lw_g (lw_at lw_m2 161 rfl) rfl
theorem in_J4 : ∀ w ∈ wsJ40, w ∈ lw_all := lw_in wsJ40 [476, 477, 478, 479, 480, 485] (by decide +kernel) (by decide +kernel)

/-! java/lang/Math -/
def RJ5 : String := "java/lang/Math"
abbrev cJ5_min : ByteArray := prog_16_method_70_code
def yJ5_min : MethodName := ⟨RJ5, "min", "(JJ)J"⟩
abbrev cJ5_min_2 : ByteArray := prog_16_method_69_code
def yJ5_min_2 : MethodName := ⟨RJ5, "min", "(II)I"⟩
abbrev cJ5_max : ByteArray := prog_16_method_65_code
def yJ5_max : MethodName := ⟨RJ5, "max", "(II)I"⟩
abbrev cJ5_max_2 : ByteArray := prog_16_method_66_code
def yJ5_max_2 : MethodName := ⟨RJ5, "max", "(JJ)J"⟩
theorem q99 : (Jvm.Cond.initialized "java/lang/Math") ∈ lw_all := lw_g (lw_at lw_m1 14 rfl) rfl
theorem q500 : (Jvm.Cond.static ({ cls := "java/lang/Math", name := "min", desc := "(JJ)J" } : Jvm.MethodName)) ∈ lw_all := lw_g (lw_at lw_m2 175 rfl) rfl
theorem q501 : (Jvm.Cond.code ({ cls := "java/lang/Math", name := "min", desc := "(JJ)J" } : Jvm.MethodName) prog_16_method_70_code (4 : Nat) (Option.some Jvm.ClassFile.FieldType.long)) ∈ lw_all := lw_g (lw_at lw_m2 176 rfl) rfl
theorem q668 : (Jvm.Cond.static ({ cls := "java/lang/Math", name := "min", desc := "(II)I" } : Jvm.MethodName)) ∈ lw_all := lw_g (lw_at lw_m3 103 rfl) rfl
theorem q669 : (Jvm.Cond.code ({ cls := "java/lang/Math", name := "min", desc := "(II)I" } : Jvm.MethodName) prog_16_method_69_code (2 : Nat) (Option.some Jvm.ClassFile.FieldType.int)) ∈ lw_all := lw_g (lw_at lw_m3 104 rfl) rfl
theorem q794 : (Jvm.Cond.static ({ cls := "java/lang/Math", name := "max", desc := "(II)I" } : Jvm.MethodName)) ∈ lw_all := lw_g (lw_at lw_m3 229 rfl) rfl
theorem q795 : (Jvm.Cond.code ({ cls := "java/lang/Math", name := "max", desc := "(II)I" } : Jvm.MethodName) prog_16_method_65_code (2 : Nat) (Option.some Jvm.ClassFile.FieldType.int)) ∈ lw_all := lw_g (lw_at lw_m3 230 rfl) rfl
theorem q841 : (Jvm.Cond.static ({ cls := "java/lang/Math", name := "max", desc := "(JJ)J" } : Jvm.MethodName)) ∈ lw_all := lw_g (lw_at lw_m4 36 rfl) rfl
theorem q842 : (Jvm.Cond.code ({ cls := "java/lang/Math", name := "max", desc := "(JJ)J" } : Jvm.MethodName) prog_16_method_66_code (4 : Nat) (Option.some Jvm.ClassFile.FieldType.long)) ∈ lw_all := lw_g (lw_at lw_m4 37 rfl) rfl

/-! java/util/Arrays -/
def RJ6 : String := "java/util/Arrays"
abbrev cJ6_copyOf : ByteArray := prog_20_method_123_code
def yJ6_copyOf : MethodName := ⟨RJ6, "copyOf", "([II)[I"⟩
abbrev cJ6_copyOf_2 : ByteArray := prog_20_method_121_code
def yJ6_copyOf_2 : MethodName := ⟨RJ6, "copyOf", "([BI)[B"⟩
abbrev cJ6_copyOf_3 : ByteArray := prog_20_method_124_code
def yJ6_copyOf_3 : MethodName := ⟨RJ6, "copyOf", "([JI)[J"⟩
theorem q102 : (Jvm.Cond.initialized "java/util/Arrays") ∈ lw_all := lw_g (lw_at lw_m1 17 rfl) rfl
theorem q675 : (Jvm.Cond.static ({ cls := "java/util/Arrays", name := "copyOf", desc := "([II)[I" } : Jvm.MethodName)) ∈ lw_all := lw_g (lw_at lw_m3 110 rfl) rfl
theorem q676 : (Jvm.Cond.code ({ cls := "java/util/Arrays", name := "copyOf", desc := "([II)[I" } : Jvm.MethodName) prog_20_method_123_code (3 : Nat) (Option.some (Jvm.ClassFile.FieldType.array Jvm.ClassFile.FieldType.int))) ∈ lw_all := lw_g (lw_at lw_m3 111 rfl) rfl
theorem q677 : (Jvm.Cond.methodLink "java/util/Arrays" (316 : Nat) ({ cls := "[I", name := "clone", desc := "()Ljava/lang/Object;" } : Jvm.MethodName)) ∈ lw_all := lw_g (lw_at lw_m3 112 rfl) rfl
theorem q683 : (Jvm.Cond.classLink "java/util/Arrays" (317 : Nat) "[I") ∈ lw_all := lw_g (lw_at lw_m3 118 rfl) rfl
theorem q684 : (Jvm.Cond.methodLink "java/util/Arrays" (304 : Nat) ({ cls := "java/lang/Math", name := "min", desc := "(II)I" } : Jvm.MethodName)) ∈ lw_all := lw_g (lw_at lw_m3 119 rfl) rfl
theorem q685 : (Jvm.Cond.methodLink "java/util/Arrays" (150 : Nat) ({ cls := "java/lang/System", name := "arraycopy", desc := "(Ljava/lang/Object;ILjava/lang/Object;II)V" } : Jvm.MethodName)) ∈ lw_all := lw_g (lw_at lw_m3 120 rfl) rfl
theorem q941 : (Jvm.Cond.static ({ cls := "java/util/Arrays", name := "copyOf", desc := "([BI)[B" } : Jvm.MethodName)) ∈ lw_all := lw_g (lw_at lw_m4 136 rfl) rfl
theorem q942 : (Jvm.Cond.code ({ cls := "java/util/Arrays", name := "copyOf", desc := "([BI)[B" } : Jvm.MethodName) prog_20_method_121_code (3 : Nat) (Option.some (Jvm.ClassFile.FieldType.array Jvm.ClassFile.FieldType.byte))) ∈ lw_all := lw_g (lw_at lw_m4 137 rfl) rfl
theorem q943 : (Jvm.Cond.methodLink "java/util/Arrays" (310 : Nat) ({ cls := "[B", name := "clone", desc := "()Ljava/lang/Object;" } : Jvm.MethodName)) ∈ lw_all := lw_g (lw_at lw_m4 138 rfl) rfl
theorem q947 : (Jvm.Cond.classLink "java/util/Arrays" (311 : Nat) "[B") ∈ lw_all := lw_g (lw_at lw_m4 142 rfl) rfl
theorem q949 : (Jvm.Cond.static ({ cls := "java/util/Arrays", name := "copyOf", desc := "([JI)[J" } : Jvm.MethodName)) ∈ lw_all := lw_g (lw_at lw_m4 144 rfl) rfl
theorem q950 : (Jvm.Cond.code ({ cls := "java/util/Arrays", name := "copyOf", desc := "([JI)[J" } : Jvm.MethodName) prog_20_method_124_code (3 : Nat) (Option.some (Jvm.ClassFile.FieldType.array Jvm.ClassFile.FieldType.long))) ∈ lw_all := lw_g (lw_at lw_m4 145 rfl) rfl
theorem q951 : (Jvm.Cond.methodLink "java/util/Arrays" (319 : Nat) ({ cls := "[J", name := "clone", desc := "()Ljava/lang/Object;" } : Jvm.MethodName)) ∈ lw_all := lw_g (lw_at lw_m4 146 rfl) rfl
theorem q955 : (Jvm.Cond.classLink "java/util/Arrays" (320 : Nat) "[J") ∈ lw_all := lw_g (lw_at lw_m4 150 rfl) rfl

/-! java/util/NoSuchElementException -/
def RJ7 : String := "java/util/NoSuchElementException"
def TJ7 : u_T := fun k => match k with
  | 0 => ("java/lang/Throwable", "cause", "Ljava/lang/Throwable;", false)
  | 1 => ("java/lang/Throwable", "stackTrace", "[Ljava/lang/StackTraceElement;", false)
  | 2 => ("java/lang/Throwable", "suppressedExceptions", "Ljava/util/List;", false)
  | 3 => ("java/lang/Throwable", "detailMessage", "Ljava/lang/String;", false)
  | 4 => ("java/lang/Throwable", "backtrace", "Ljava/lang/Object;", false)
  | _ => ("java/lang/Throwable", "depth", "I", false)
def tyJ7 : Nat → FieldType := fun k => match k with
  | 0 => .object "java/lang/Throwable"
  | 1 => .array (.object "java/lang/StackTraceElement")
  | 2 => .object "java/util/List"
  | 3 => .object "java/lang/String"
  | 4 => .object "java/lang/Object"
  | _ => .int
abbrev wsJ70 : List Cond := u_ws RJ7 TJ7 6
theorem nmJ7 : ∀ a, a < 6 → ∀ b, b < 6 → a ≠ b → (TJ7 a).2.1 ≠ (TJ7 b).2.1 := by decide +kernel
theorem tyJ7_ok : ∀ k, k < 6 → parseFieldDescriptor (TJ7 k).2.2.1 = some (tyJ7 k) := by decide +kernel
abbrev cJ7_init : ByteArray := prog_21_method_1_code
def yJ7_init : MethodName := ⟨RJ7, "<init>", "()V"⟩
theorem q104 : (Jvm.Cond.initialized "java/util/NoSuchElementException") ∈ lw_all := lw_g (lw_at lw_m1 19 rfl) rfl
theorem q440 : (Jvm.Cond.selects "java/util/NoSuchElementException" ({ cls := "java/lang/Throwable", name := "fillInStackTrace", desc := "()Ljava/lang/Throwable;" } : Jvm.MethodName) ({ cls := "java/lang/Throwable", name := "fillInStackTrace", desc := "()Ljava/lang/Throwable;" } : Jvm.MethodName)) ∈ lw_all := lw_g (lw_at lw_m2 115 rfl) rfl
theorem q888 : (Jvm.Cond.instantiable "java/util/NoSuchElementException" (6 : Nat)) ∈ lw_all := lw_g (lw_at lw_m4 83 rfl) rfl
theorem q889 : (Jvm.Cond.castable "java/util/NoSuchElementException" "java/util/NoSuchElementException") ∈ lw_tbl := lw_at lw_m4 84 rfl
theorem q890 : (Jvm.Cond.selects "java/util/NoSuchElementException" ({ cls := "java/lang/Throwable", name := "fillInStackTrace", desc := "(I)Ljava/lang/Throwable;" } : Jvm.MethodName) ({ cls := "java/lang/Throwable", name := "fillInStackTrace", desc := "(I)Ljava/lang/Throwable;" } : Jvm.MethodName)) ∈ lw_all := lw_g (lw_at lw_m4 85 rfl) rfl
theorem q891 : (Jvm.Cond.lays "java/util/NoSuchElementException" "java/lang/Throwable" "cause" "Ljava/lang/Throwable;") ∈ lw_all := lw_g (lw_at lw_m4 86 rfl) rfl
theorem q892 : (Jvm.Cond.lays "java/util/NoSuchElementException" "java/lang/Throwable" "stackTrace" "[Ljava/lang/StackTraceElement;") ∈ lw_all := lw_g (lw_at lw_m4 87 rfl) rfl
theorem q893 : (Jvm.Cond.lays "java/util/NoSuchElementException" "java/lang/Throwable" "suppressedExceptions" "Ljava/util/List;") ∈ lw_all := lw_g (lw_at lw_m4 88 rfl) rfl
theorem q894 : (Jvm.Cond.lays "java/util/NoSuchElementException" "java/lang/Throwable" "detailMessage" "Ljava/lang/String;") ∈ lw_all := lw_g (lw_at lw_m4 89 rfl) rfl
theorem q895 : (Jvm.Cond.lays "java/util/NoSuchElementException" "java/lang/Throwable" "backtrace" "Ljava/lang/Object;") ∈ lw_all := lw_g (lw_at lw_m4 90 rfl) rfl
theorem q897 : (Jvm.Cond.instanceMethod ({ cls := "java/util/NoSuchElementException", name := "<init>", desc := "()V" } : Jvm.MethodName)) ∈ lw_all := lw_g (lw_at lw_m4 92 rfl) rfl
theorem q898 : (Jvm.Cond.code ({ cls := "java/util/NoSuchElementException", name := "<init>", desc := "()V" } : Jvm.MethodName) prog_21_method_1_code (1 : Nat) (Option.none : Option Jvm.ClassFile.FieldType)) ∈ lw_all := lw_g (lw_at lw_m4 93 rfl) rfl
theorem q899 : (Jvm.Cond.methodLink "java/util/NoSuchElementException" (1 : Nat) ({ cls := "java/lang/RuntimeException", name := "<init>", desc := "()V" } : Jvm.MethodName)) ∈ lw_all := lw_g (lw_at lw_m4 94 rfl) rfl
theorem q900 : (Jvm.Cond.lays "java/util/NoSuchElementException" "java/lang/Throwable" "depth" "I") ∈ lw_all := lw_g (lw_at lw_m4 95 rfl) rfl
theorem q901 : (Jvm.Cond.superclass "java/util/NoSuchElementException" "java/lang/RuntimeException") ∈ lw_all := lw_g (lw_at lw_m4 96 rfl) rfl
theorem in_J7 : ∀ w ∈ wsJ70, w ∈ lw_all := lw_in wsJ70 [891, 892, 893, 894, 895, 900] (by decide +kernel) (by decide +kernel)

/-! java/lang/Object -/
def RJ8 : String := "java/lang/Object"
abbrev cJ8_init : ByteArray := object_method_1_code
def yJ8_init : MethodName := ⟨RJ8, "<init>", "()V"⟩
theorem q111 : (Jvm.Cond.instanceMethod ({ cls := "java/lang/Object", name := "<init>", desc := "()V" } : Jvm.MethodName)) ∈ lw_all := lw_g (lw_at lw_m1 26 rfl) rfl
theorem q112 : (Jvm.Cond.code ({ cls := "java/lang/Object", name := "<init>", desc := "()V" } : Jvm.MethodName) object_method_1_code (1 : Nat) (Option.none : Option Jvm.ClassFile.FieldType)) ∈ lw_all := lw_g (lw_at lw_m1 27 rfl) rfl
theorem q679 : (Jvm.Cond.native ({ cls := "java/lang/Object", name := "clone", desc := "()Ljava/lang/Object;" } : Jvm.MethodName)) ∈ lw_all := lw_g (lw_at lw_m3 114 rfl) rfl
theorem q680 : (Jvm.Cond.instanceMethod ({ cls := "java/lang/Object", name := "clone", desc := "()Ljava/lang/Object;" } : Jvm.MethodName)) ∈ lw_all := lw_g (lw_at lw_m3 115 rfl) rfl

theorem q114 : (Jvm.Cond.arrayOver (Jvm.ClassFile.FieldType.object "StreamHall$Hall")) ∈ lw_tbl := lw_at lw_m1 29 rfl
theorem q121 : (Jvm.Cond.arrayOver (Jvm.ClassFile.FieldType.object "StreamHall$Sending")) ∈ lw_tbl := lw_at lw_m1 36 rfl
theorem q123 : (Jvm.Cond.arrayOver (Jvm.ClassFile.FieldType.object "StreamHall$Receiving")) ∈ lw_tbl := lw_at lw_m1 38 rfl
theorem q125 : (Jvm.Cond.arrayOver (Jvm.ClassFile.FieldType.object "StreamHall$Way")) ∈ lw_tbl := lw_at lw_m1 40 rfl
theorem q181 : (Jvm.Cond.arrayClass Jvm.ClassFile.FieldType.int) ∈ lw_all := lw_g (lw_at lw_m1 96 rfl) rfl
theorem q182 : (Jvm.Cond.arrayClass Jvm.ClassFile.FieldType.long) ∈ lw_all := lw_g (lw_at lw_m1 97 rfl) rfl
theorem q210 : (Jvm.Cond.arrayClass Jvm.ClassFile.FieldType.byte) ∈ lw_all := lw_g (lw_at lw_m1 125 rfl) rfl
theorem q314 : (Jvm.Cond.arrayOver (Jvm.ClassFile.FieldType.array Jvm.ClassFile.FieldType.int)) ∈ lw_tbl := lw_at lw_m1 229 rfl
theorem q316 : (Jvm.Cond.arrayOver (Jvm.ClassFile.FieldType.object "StreamHall$Place")) ∈ lw_tbl := lw_at lw_m1 231 rfl
theorem q1248 : (Jvm.Cond.arrayClass Jvm.ClassFile.FieldType.boolean) ∈ lw_all := lw_g (lw_at lw_m5 203 rfl) rfl
theorem q1249 : (Jvm.Cond.arrayClass Jvm.ClassFile.FieldType.short) ∈ lw_all := lw_g (lw_at lw_m5 204 rfl) rfl

theorem q103 : (Jvm.Cond.initialized "java/lang/System") ∈ lw_all := lw_g (lw_at lw_m1 18 rfl) rfl
theorem q686 : (Jvm.Cond.static ({ cls := "java/lang/System", name := "arraycopy", desc := "(Ljava/lang/Object;ILjava/lang/Object;II)V" } : Jvm.MethodName)) ∈ lw_all := lw_g (lw_at lw_m3 121 rfl) rfl
theorem q687 : (Jvm.Cond.native ({ cls := "java/lang/System", name := "arraycopy", desc := "(Ljava/lang/Object;ILjava/lang/Object;II)V" } : Jvm.MethodName)) ∈ lw_all := lw_g (lw_at lw_m3 122 rfl) rfl

theorem q678 : (Jvm.Cond.sameMethod "[I" "java/lang/Object" "clone" "()Ljava/lang/Object;") ∈ lw_all := lw_g (lw_at lw_m3 113 rfl) rfl
theorem q681 : (Jvm.Cond.selects "[I" ({ cls := "[I", name := "clone", desc := "()Ljava/lang/Object;" } : Jvm.MethodName) ({ cls := "java/lang/Object", name := "clone", desc := "()Ljava/lang/Object;" } : Jvm.MethodName)) ∈ lw_all := lw_g (lw_at lw_m3 116 rfl) rfl
theorem q682 : (Jvm.Cond.castable "[I" "java/lang/Cloneable") ∈ lw_tbl := lw_at lw_m3 117 rfl

theorem q944 : (Jvm.Cond.sameMethod "[B" "java/lang/Object" "clone" "()Ljava/lang/Object;") ∈ lw_all := lw_g (lw_at lw_m4 139 rfl) rfl
theorem q945 : (Jvm.Cond.selects "[B" ({ cls := "[B", name := "clone", desc := "()Ljava/lang/Object;" } : Jvm.MethodName) ({ cls := "java/lang/Object", name := "clone", desc := "()Ljava/lang/Object;" } : Jvm.MethodName)) ∈ lw_all := lw_g (lw_at lw_m4 140 rfl) rfl
theorem q946 : (Jvm.Cond.castable "[B" "java/lang/Cloneable") ∈ lw_tbl := lw_at lw_m4 141 rfl

theorem q952 : (Jvm.Cond.sameMethod "[J" "java/lang/Object" "clone" "()Ljava/lang/Object;") ∈ lw_all := lw_g (lw_at lw_m4 147 rfl) rfl
theorem q953 : (Jvm.Cond.selects "[J" ({ cls := "[J", name := "clone", desc := "()Ljava/lang/Object;" } : Jvm.MethodName) ({ cls := "java/lang/Object", name := "clone", desc := "()Ljava/lang/Object;" } : Jvm.MethodName)) ∈ lw_all := lw_g (lw_at lw_m4 148 rfl) rfl
theorem q954 : (Jvm.Cond.castable "[J" "java/lang/Cloneable") ∈ lw_tbl := lw_at lw_m4 149 rfl

/-! the law's own entry -/
abbrev cL_law : ByteArray := code

