set_option maxRecDepth 100000
theorem dX2_init_0 : decode cX2_init 0 = .ok (.aload_n 0, 1) := by decide +kernel
theorem dX2_init_1 : decode cX2_init 1 = .ok (.invokespecial 3, 3) := by decide +kernel
theorem dX2_init_4 : decode cX2_init 4 = .ok (.aload_n 0, 1) := by decide +kernel
theorem dX2_init_5 : decode cX2_init 5 = .ok (.sipush 256, 3) := by decide +kernel
theorem dX2_init_8 : decode cX2_init 8 = .ok (.anewarray 9, 3) := by decide +kernel
theorem dX2_init_11 : decode cX2_init 11 = .ok (.putfield 11, 3) := by decide +kernel
theorem dX2_init_14 : decode cX2_init 14 = .ok (.aload_n 0, 1) := by decide +kernel
theorem dX2_init_15 : decode cX2_init 15 = .ok (.sipush 256, 3) := by decide +kernel
theorem dX2_init_18 : decode cX2_init 18 = .ok (.anewarray 17, 3) := by decide +kernel
theorem dX2_init_21 : decode cX2_init 21 = .ok (.putfield 19, 3) := by decide +kernel
theorem dX2_init_24 : decode cX2_init 24 = .ok (.aload_n 0, 1) := by decide +kernel
theorem dX2_init_25 : decode cX2_init 25 = .ok (.iconst 2, 1) := by decide +kernel
theorem dX2_init_26 : decode cX2_init 26 = .ok (.anewarray 23, 3) := by decide +kernel
theorem dX2_init_29 : decode cX2_init 29 = .ok (.dup, 1) := by decide +kernel
theorem dX2_init_30 : decode cX2_init 30 = .ok (.iconst 0, 1) := by decide +kernel
theorem dX2_init_31 : decode cX2_init 31 = .ok (.new 23, 3) := by decide +kernel
theorem dX2_init_34 : decode cX2_init 34 = .ok (.dup, 1) := by decide +kernel
theorem dX2_init_35 : decode cX2_init 35 = .ok (.invokespecial 25, 3) := by decide +kernel
theorem dX2_init_38 : decode cX2_init 38 = .ok (.aastore, 1) := by decide +kernel
theorem dX2_init_39 : decode cX2_init 39 = .ok (.dup, 1) := by decide +kernel
theorem dX2_init_40 : decode cX2_init 40 = .ok (.iconst 1, 1) := by decide +kernel
theorem dX2_init_41 : decode cX2_init 41 = .ok (.new 23, 3) := by decide +kernel
theorem dX2_init_44 : decode cX2_init 44 = .ok (.dup, 1) := by decide +kernel
theorem dX2_init_45 : decode cX2_init 45 = .ok (.invokespecial 25, 3) := by decide +kernel
theorem dX2_init_48 : decode cX2_init 48 = .ok (.aastore, 1) := by decide +kernel
theorem dX2_init_49 : decode cX2_init 49 = .ok (.putfield 26, 3) := by decide +kernel
theorem dX2_init_52 : decode cX2_init 52 = .ok (.aload_n 0, 1) := by decide +kernel
theorem dX2_init_53 : decode cX2_init 53 = .ok (.bipush 6, 2) := by decide +kernel
theorem dX2_init_55 : decode cX2_init 55 = .ok (.newarray .int, 2) := by decide +kernel
theorem dX2_init_57 : decode cX2_init 57 = .ok (.dup, 1) := by decide +kernel
theorem dX2_init_58 : decode cX2_init 58 = .ok (.iconst 0, 1) := by decide +kernel
theorem dX2_init_59 : decode cX2_init 59 = .ok (.sipush 4096, 3) := by decide +kernel
theorem dX2_init_62 : decode cX2_init 62 = .ok (.iastore, 1) := by decide +kernel
theorem dX2_init_63 : decode cX2_init 63 = .ok (.dup, 1) := by decide +kernel
theorem dX2_init_64 : decode cX2_init 64 = .ok (.iconst 1, 1) := by decide +kernel
theorem dX2_init_65 : decode cX2_init 65 = .ok (.sipush 1024, 3) := by decide +kernel
theorem dX2_init_68 : decode cX2_init 68 = .ok (.iastore, 1) := by decide +kernel
theorem dX2_init_69 : decode cX2_init 69 = .ok (.dup, 1) := by decide +kernel
theorem dX2_init_70 : decode cX2_init 70 = .ok (.iconst 2, 1) := by decide +kernel
theorem dX2_init_71 : decode cX2_init 71 = .ok (.sipush 1024, 3) := by decide +kernel
theorem dX2_init_74 : decode cX2_init 74 = .ok (.iastore, 1) := by decide +kernel
theorem dX2_init_75 : decode cX2_init 75 = .ok (.dup, 1) := by decide +kernel
theorem dX2_init_76 : decode cX2_init 76 = .ok (.iconst 3, 1) := by decide +kernel
theorem dX2_init_77 : decode cX2_init 77 = .ok (.sipush 1024, 3) := by decide +kernel
theorem dX2_init_80 : decode cX2_init 80 = .ok (.iastore, 1) := by decide +kernel
theorem dX2_init_81 : decode cX2_init 81 = .ok (.dup, 1) := by decide +kernel
theorem dX2_init_82 : decode cX2_init 82 = .ok (.iconst 4, 1) := by decide +kernel
theorem dX2_init_83 : decode cX2_init 83 = .ok (.iconst 4, 1) := by decide +kernel
theorem dX2_init_84 : decode cX2_init 84 = .ok (.iastore, 1) := by decide +kernel
theorem dX2_init_85 : decode cX2_init 85 = .ok (.dup, 1) := by decide +kernel
theorem dX2_init_86 : decode cX2_init 86 = .ok (.iconst 5, 1) := by decide +kernel
theorem dX2_init_87 : decode cX2_init 87 = .ok (.iconst 4, 1) := by decide +kernel
theorem dX2_init_88 : decode cX2_init 88 = .ok (.iastore, 1) := by decide +kernel
theorem dX2_init_89 : decode cX2_init 89 = .ok (.putfield 30, 3) := by decide +kernel
theorem dX2_init_92 : decode cX2_init 92 = .ok (.aload_n 0, 1) := by decide +kernel
theorem dX2_init_93 : decode cX2_init 93 = .ok (.bipush 6, 2) := by decide +kernel
theorem dX2_init_95 : decode cX2_init 95 = .ok (.newarray .long, 2) := by decide +kernel
theorem dX2_init_97 : decode cX2_init 97 = .ok (.putfield 34, 3) := by decide +kernel
theorem dX2_init_100 : decode cX2_init 100 = .ok (.aload_n 0, 1) := by decide +kernel
theorem dX2_init_101 : decode cX2_init 101 = .ok (.new 38, 3) := by decide +kernel
theorem dX2_init_104 : decode cX2_init 104 = .ok (.dup, 1) := by decide +kernel
theorem dX2_init_105 : decode cX2_init 105 = .ok (.invokespecial 40, 3) := by decide +kernel
theorem dX2_init_108 : decode cX2_init 108 = .ok (.putfield 41, 3) := by decide +kernel
theorem dX2_init_111 : decode cX2_init 111 = .ok (.aload_n 0, 1) := by decide +kernel
theorem dX2_init_112 : decode cX2_init 112 = .ok (.new 45, 3) := by decide +kernel
theorem dX2_init_115 : decode cX2_init 115 = .ok (.dup, 1) := by decide +kernel
theorem dX2_init_116 : decode cX2_init 116 = .ok (.invokespecial 47, 3) := by decide +kernel
theorem dX2_init_119 : decode cX2_init 119 = .ok (.putfield 48, 3) := by decide +kernel
theorem dX2_init_122 : decode cX2_init 122 = .ok (.aload_n 0, 1) := by decide +kernel
theorem dX2_init_123 : decode cX2_init 123 = .ok (.new 52, 3) := by decide +kernel
theorem dX2_init_126 : decode cX2_init 126 = .ok (.dup, 1) := by decide +kernel
theorem dX2_init_127 : decode cX2_init 127 = .ok (.invokespecial 54, 3) := by decide +kernel
theorem dX2_init_130 : decode cX2_init 130 = .ok (.putfield 55, 3) := by decide +kernel
theorem dX2_init_133 : decode cX2_init 133 = .ok (.aload_n 0, 1) := by decide +kernel
theorem dX2_init_134 : decode cX2_init 134 = .ok (.ldc2_w 59, 3) := by decide +kernel
theorem dX2_init_137 : decode cX2_init 137 = .ok (.putfield 61, 3) := by decide +kernel
theorem dX2_init_140 : decode cX2_init 140 = .ok (.aload_n 0, 1) := by decide +kernel
theorem dX2_init_141 : decode cX2_init 141 = .ok (.sipush 255, 3) := by decide +kernel
theorem dX2_init_144 : decode cX2_init 144 = .ok (.putfield 65, 3) := by decide +kernel
theorem dX2_init_147 : decode cX2_init 147 = .ok (.aload_n 0, 1) := by decide +kernel
theorem dX2_init_148 : decode cX2_init 148 = .ok (.sipush 1200, 3) := by decide +kernel
theorem dX2_init_151 : decode cX2_init 151 = .ok (.newarray .byte, 2) := by decide +kernel
theorem dX2_init_153 : decode cX2_init 153 = .ok (.putfield 69, 3) := by decide +kernel
theorem dX2_init_156 : decode cX2_init 156 = .ok (.aload_n 0, 1) := by decide +kernel
theorem dX2_init_157 : decode cX2_init 157 = .ok (.iload_n 1, 1) := by decide +kernel
theorem dX2_init_158 : decode cX2_init 158 = .ok (.putfield 73, 3) := by decide +kernel
theorem dX2_init_161 : decode cX2_init 161 = .ok (.return_, 1) := by decide +kernel
theorem dX2_grants_0 : decode cX2_grants 0 = .ok (.aload_n 0, 1) := by decide +kernel
theorem dX2_grants_1 : decode cX2_grants 1 = .ok (.getfield 30, 3) := by decide +kernel
theorem dX2_grants_4 : decode cX2_grants 4 = .ok (.iconst 0, 1) := by decide +kernel
theorem dX2_grants_5 : decode cX2_grants 5 = .ok (.iload_n 1, 1) := by decide +kernel
theorem dX2_grants_6 : decode cX2_grants 6 = .ok (.iastore, 1) := by decide +kernel
theorem dX2_grants_7 : decode cX2_grants 7 = .ok (.aload_n 0, 1) := by decide +kernel
theorem dX2_grants_8 : decode cX2_grants 8 = .ok (.getfield 30, 3) := by decide +kernel
theorem dX2_grants_11 : decode cX2_grants 11 = .ok (.iconst 1, 1) := by decide +kernel
theorem dX2_grants_12 : decode cX2_grants 12 = .ok (.iload_n 2, 1) := by decide +kernel
theorem dX2_grants_13 : decode cX2_grants 13 = .ok (.iastore, 1) := by decide +kernel
theorem dX2_grants_14 : decode cX2_grants 14 = .ok (.aload_n 0, 1) := by decide +kernel
theorem dX2_grants_15 : decode cX2_grants 15 = .ok (.getfield 30, 3) := by decide +kernel
theorem dX2_grants_18 : decode cX2_grants 18 = .ok (.iconst 2, 1) := by decide +kernel
theorem dX2_grants_19 : decode cX2_grants 19 = .ok (.iload_n 3, 1) := by decide +kernel
theorem dX2_grants_20 : decode cX2_grants 20 = .ok (.iastore, 1) := by decide +kernel
theorem dX2_grants_21 : decode cX2_grants 21 = .ok (.aload_n 0, 1) := by decide +kernel
theorem dX2_grants_22 : decode cX2_grants 22 = .ok (.getfield 30, 3) := by decide +kernel
theorem dX2_grants_25 : decode cX2_grants 25 = .ok (.iconst 3, 1) := by decide +kernel
theorem dX2_grants_26 : decode cX2_grants 26 = .ok (.iload 4, 2) := by decide +kernel
theorem dX2_grants_28 : decode cX2_grants 28 = .ok (.iastore, 1) := by decide +kernel
theorem dX2_grants_29 : decode cX2_grants 29 = .ok (.aload_n 0, 1) := by decide +kernel
theorem dX2_grants_30 : decode cX2_grants 30 = .ok (.getfield 30, 3) := by decide +kernel
theorem dX2_grants_33 : decode cX2_grants 33 = .ok (.iconst 4, 1) := by decide +kernel
theorem dX2_grants_34 : decode cX2_grants 34 = .ok (.iload 5, 2) := by decide +kernel
theorem dX2_grants_36 : decode cX2_grants 36 = .ok (.iastore, 1) := by decide +kernel
theorem dX2_grants_37 : decode cX2_grants 37 = .ok (.aload_n 0, 1) := by decide +kernel
theorem dX2_grants_38 : decode cX2_grants 38 = .ok (.getfield 30, 3) := by decide +kernel
theorem dX2_grants_41 : decode cX2_grants 41 = .ok (.iconst 5, 1) := by decide +kernel
theorem dX2_grants_42 : decode cX2_grants 42 = .ok (.iload 6, 2) := by decide +kernel
theorem dX2_grants_44 : decode cX2_grants 44 = .ok (.iastore, 1) := by decide +kernel
theorem dX2_grants_45 : decode cX2_grants 45 = .ok (.aload_n 0, 1) := by decide +kernel
theorem dX2_grants_46 : decode cX2_grants 46 = .ok (.iload_n 1, 1) := by decide +kernel
theorem dX2_grants_47 : decode cX2_grants 47 = .ok (.putfield 76, 3) := by decide +kernel
theorem dX2_grants_50 : decode cX2_grants 50 = .ok (.aload_n 0, 1) := by decide +kernel
theorem dX2_grants_51 : decode cX2_grants 51 = .ok (.getfield 26, 3) := by decide +kernel
theorem dX2_grants_54 : decode cX2_grants 54 = .ok (.iconst 0, 1) := by decide +kernel
theorem dX2_grants_55 : decode cX2_grants 55 = .ok (.aaload, 1) := by decide +kernel
theorem dX2_grants_56 : decode cX2_grants 56 = .ok (.iload 5, 2) := by decide +kernel
theorem dX2_grants_58 : decode cX2_grants 58 = .ok (.putfield 79, 3) := by decide +kernel
theorem dX2_grants_61 : decode cX2_grants 61 = .ok (.aload_n 0, 1) := by decide +kernel
theorem dX2_grants_62 : decode cX2_grants 62 = .ok (.getfield 26, 3) := by decide +kernel
theorem dX2_grants_65 : decode cX2_grants 65 = .ok (.iconst 1, 1) := by decide +kernel
theorem dX2_grants_66 : decode cX2_grants 66 = .ok (.aaload, 1) := by decide +kernel
theorem dX2_grants_67 : decode cX2_grants 67 = .ok (.iload 6, 2) := by decide +kernel
theorem dX2_grants_69 : decode cX2_grants 69 = .ok (.putfield 79, 3) := by decide +kernel
theorem dX2_grants_72 : decode cX2_grants 72 = .ok (.return_, 1) := by decide +kernel
theorem dX2_limits_0 : decode cX2_limits 0 = .ok (.aload_n 0, 1) := by decide +kernel
theorem dX2_limits_1 : decode cX2_limits 1 = .ok (.getfield 34, 3) := by decide +kernel
theorem dX2_limits_4 : decode cX2_limits 4 = .ok (.iconst 1, 1) := by decide +kernel
theorem dX2_limits_5 : decode cX2_limits 5 = .ok (.lload_n 3, 1) := by decide +kernel
theorem dX2_limits_6 : decode cX2_limits 6 = .ok (.lastore, 1) := by decide +kernel
theorem dX2_limits_7 : decode cX2_limits 7 = .ok (.aload_n 0, 1) := by decide +kernel
theorem dX2_limits_8 : decode cX2_limits 8 = .ok (.getfield 34, 3) := by decide +kernel
theorem dX2_limits_11 : decode cX2_limits 11 = .ok (.iconst 2, 1) := by decide +kernel
theorem dX2_limits_12 : decode cX2_limits 12 = .ok (.lload 5, 2) := by decide +kernel
theorem dX2_limits_14 : decode cX2_limits 14 = .ok (.lastore, 1) := by decide +kernel
theorem dX2_limits_15 : decode cX2_limits 15 = .ok (.aload_n 0, 1) := by decide +kernel
theorem dX2_limits_16 : decode cX2_limits 16 = .ok (.getfield 34, 3) := by decide +kernel
theorem dX2_limits_19 : decode cX2_limits 19 = .ok (.iconst 3, 1) := by decide +kernel
theorem dX2_limits_20 : decode cX2_limits 20 = .ok (.lload 7, 2) := by decide +kernel
theorem dX2_limits_22 : decode cX2_limits 22 = .ok (.lastore, 1) := by decide +kernel
theorem dX2_limits_23 : decode cX2_limits 23 = .ok (.aload_n 0, 1) := by decide +kernel
theorem dX2_limits_24 : decode cX2_limits 24 = .ok (.lload_n 1, 1) := by decide +kernel
theorem dX2_limits_25 : decode cX2_limits 25 = .ok (.putfield 82, 3) := by decide +kernel
theorem dX2_limits_28 : decode cX2_limits 28 = .ok (.aload_n 0, 1) := by decide +kernel
theorem dX2_limits_29 : decode cX2_limits 29 = .ok (.getfield 26, 3) := by decide +kernel
theorem dX2_limits_32 : decode cX2_limits 32 = .ok (.iconst 0, 1) := by decide +kernel
theorem dX2_limits_33 : decode cX2_limits 33 = .ok (.aaload, 1) := by decide +kernel
theorem dX2_limits_34 : decode cX2_limits 34 = .ok (.lload 9, 2) := by decide +kernel
theorem dX2_limits_36 : decode cX2_limits 36 = .ok (.ldc2_w 85, 3) := by decide +kernel
theorem dX2_limits_39 : decode cX2_limits 39 = .ok (.invokestatic 87, 3) := by decide +kernel
theorem dX2_limits_42 : decode cX2_limits 42 = .ok (.putfield 93, 3) := by decide +kernel
theorem dX2_limits_45 : decode cX2_limits 45 = .ok (.aload_n 0, 1) := by decide +kernel
theorem dX2_limits_46 : decode cX2_limits 46 = .ok (.getfield 26, 3) := by decide +kernel
theorem dX2_limits_49 : decode cX2_limits 49 = .ok (.iconst 1, 1) := by decide +kernel
theorem dX2_limits_50 : decode cX2_limits 50 = .ok (.aaload, 1) := by decide +kernel
theorem dX2_limits_51 : decode cX2_limits 51 = .ok (.lload 11, 2) := by decide +kernel
theorem dX2_limits_53 : decode cX2_limits 53 = .ok (.ldc2_w 85, 3) := by decide +kernel
theorem dX2_limits_56 : decode cX2_limits 56 = .ok (.invokestatic 87, 3) := by decide +kernel
theorem dX2_limits_59 : decode cX2_limits 59 = .ok (.putfield 93, 3) := by decide +kernel
theorem dX2_limits_62 : decode cX2_limits 62 = .ok (.return_, 1) := by decide +kernel
theorem dX2_open_0 : decode cX2_open 0 = .ok (.aload_n 0, 1) := by decide +kernel
theorem dX2_open_1 : decode cX2_open 1 = .ok (.getfield 26, 3) := by decide +kernel
theorem dX2_open_4 : decode cX2_open 4 = .ok (.iload_n 1, 1) := by decide +kernel
theorem dX2_open_5 : decode cX2_open 5 = .ok (.ifCond .eq 7, 3) := by decide +kernel
theorem dX2_open_8 : decode cX2_open 8 = .ok (.iconst 0, 1) := by decide +kernel
theorem dX2_open_9 : decode cX2_open 9 = .ok (.goto 4, 3) := by decide +kernel
theorem dX2_open_12 : decode cX2_open 12 = .ok (.iconst 1, 1) := by decide +kernel
theorem dX2_open_13 : decode cX2_open 13 = .ok (.aaload, 1) := by decide +kernel
theorem dX2_open_14 : decode cX2_open 14 = .ok (.astore_n 2, 1) := by decide +kernel
theorem dX2_open_15 : decode cX2_open 15 = .ok (.aload_n 2, 1) := by decide +kernel
theorem dX2_open_16 : decode cX2_open 16 = .ok (.getfield 115, 3) := by decide +kernel
theorem dX2_open_19 : decode cX2_open 19 = .ok (.i2l, 1) := by decide +kernel
theorem dX2_open_20 : decode cX2_open 20 = .ok (.aload_n 2, 1) := by decide +kernel
theorem dX2_open_21 : decode cX2_open 21 = .ok (.getfield 93, 3) := by decide +kernel
theorem dX2_open_24 : decode cX2_open 24 = .ok (.lcmp, 1) := by decide +kernel
theorem dX2_open_25 : decode cX2_open 25 = .ok (.ifCond .lt 13, 3) := by decide +kernel
theorem dX2_open_28 : decode cX2_open 28 = .ok (.aload_n 2, 1) := by decide +kernel
theorem dX2_open_29 : decode cX2_open 29 = .ok (.aload_n 2, 1) := by decide +kernel
theorem dX2_open_30 : decode cX2_open 30 = .ok (.getfield 93, 3) := by decide +kernel
theorem dX2_open_33 : decode cX2_open 33 = .ok (.putfield 118, 3) := by decide +kernel
theorem dX2_open_36 : decode cX2_open 36 = .ok (.iconst (-1), 1) := by decide +kernel
theorem dX2_open_37 : decode cX2_open 37 = .ok (.ireturn, 1) := by decide +kernel
theorem dX2_open_38 : decode cX2_open 38 = .ok (.iconst 4, 1) := by decide +kernel
theorem dX2_open_39 : decode cX2_open 39 = .ok (.aload_n 2, 1) := by decide +kernel
theorem dX2_open_40 : decode cX2_open 40 = .ok (.getfield 115, 3) := by decide +kernel
theorem dX2_open_43 : decode cX2_open 43 = .ok (.imul, 1) := by decide +kernel
theorem dX2_open_44 : decode cX2_open 44 = .ok (.iload_n 1, 1) := by decide +kernel
theorem dX2_open_45 : decode cX2_open 45 = .ok (.ifCond .eq 7, 3) := by decide +kernel
theorem dX2_open_48 : decode cX2_open 48 = .ok (.iconst 0, 1) := by decide +kernel
theorem dX2_open_49 : decode cX2_open 49 = .ok (.goto 4, 3) := by decide +kernel
theorem dX2_open_52 : decode cX2_open 52 = .ok (.iconst 2, 1) := by decide +kernel
theorem dX2_open_53 : decode cX2_open 53 = .ok (.iadd, 1) := by decide +kernel
theorem dX2_open_54 : decode cX2_open 54 = .ok (.aload_n 0, 1) := by decide +kernel
theorem dX2_open_55 : decode cX2_open 55 = .ok (.getfield 73, 3) := by decide +kernel
theorem dX2_open_58 : decode cX2_open 58 = .ok (.iadd, 1) := by decide +kernel
theorem dX2_open_59 : decode cX2_open 59 = .ok (.istore_n 3, 1) := by decide +kernel
theorem dX2_open_60 : decode cX2_open 60 = .ok (.aload_n 2, 1) := by decide +kernel
theorem dX2_open_61 : decode cX2_open 61 = .ok (.dup, 1) := by decide +kernel
theorem dX2_open_62 : decode cX2_open 62 = .ok (.getfield 115, 3) := by decide +kernel
theorem dX2_open_65 : decode cX2_open 65 = .ok (.iconst 1, 1) := by decide +kernel
theorem dX2_open_66 : decode cX2_open 66 = .ok (.iadd, 1) := by decide +kernel
theorem dX2_open_67 : decode cX2_open 67 = .ok (.putfield 115, 3) := by decide +kernel
theorem dX2_open_70 : decode cX2_open 70 = .ok (.aload_n 0, 1) := by decide +kernel
theorem dX2_open_71 : decode cX2_open 71 = .ok (.iload_n 3, 1) := by decide +kernel
theorem dX2_open_72 : decode cX2_open 72 = .ok (.invokevirtual 121, 3) := by decide +kernel
theorem dX2_open_75 : decode cX2_open 75 = .ok (.iload_n 3, 1) := by decide +kernel
theorem dX2_open_76 : decode cX2_open 76 = .ok (.ireturn, 1) := by decide +kernel
theorem dX2_begin_0 : decode cX2_begin 0 = .ok (.iload_n 1, 1) := by decide +kernel
theorem dX2_begin_1 : decode cX2_begin 1 = .ok (.i2l, 1) := by decide +kernel
theorem dX2_begin_2 : decode cX2_begin 2 = .ok (.invokestatic 98, 3) := by decide +kernel
theorem dX2_begin_5 : decode cX2_begin 5 = .ok (.ifCond .eq 12, 3) := by decide +kernel
theorem dX2_begin_8 : decode cX2_begin 8 = .ok (.aload_n 0, 1) := by decide +kernel
theorem dX2_begin_9 : decode cX2_begin 9 = .ok (.iload_n 1, 1) := by decide +kernel
theorem dX2_begin_10 : decode cX2_begin 10 = .ok (.i2l, 1) := by decide +kernel
theorem dX2_begin_11 : decode cX2_begin 11 = .ok (.invokevirtual 102, 3) := by decide +kernel
theorem dX2_begin_14 : decode cX2_begin 14 = .ok (.ifCond .eq 28, 3) := by decide +kernel
theorem dX2_begin_17 : decode cX2_begin 17 = .ok (.aload_n 0, 1) := by decide +kernel
theorem dX2_begin_18 : decode cX2_begin 18 = .ok (.getfield 11, 3) := by decide +kernel
theorem dX2_begin_21 : decode cX2_begin 21 = .ok (.iload_n 1, 1) := by decide +kernel
theorem dX2_begin_22 : decode cX2_begin 22 = .ok (.new 9, 3) := by decide +kernel
theorem dX2_begin_25 : decode cX2_begin 25 = .ok (.dup, 1) := by decide +kernel
theorem dX2_begin_26 : decode cX2_begin 26 = .ok (.aload_n 0, 1) := by decide +kernel
theorem dX2_begin_27 : decode cX2_begin 27 = .ok (.getfield 34, 3) := by decide +kernel
theorem dX2_begin_30 : decode cX2_begin 30 = .ok (.aload_n 0, 1) := by decide +kernel
theorem dX2_begin_31 : decode cX2_begin 31 = .ok (.iload_n 1, 1) := by decide +kernel
theorem dX2_begin_32 : decode cX2_begin 32 = .ok (.i2l, 1) := by decide +kernel
theorem dX2_begin_33 : decode cX2_begin 33 = .ok (.iconst 1, 1) := by decide +kernel
theorem dX2_begin_34 : decode cX2_begin 34 = .ok (.invokevirtual 105, 3) := by decide +kernel
theorem dX2_begin_37 : decode cX2_begin 37 = .ok (.laload, 1) := by decide +kernel
theorem dX2_begin_38 : decode cX2_begin 38 = .ok (.invokespecial 109, 3) := by decide +kernel
theorem dX2_begin_41 : decode cX2_begin 41 = .ok (.aastore, 1) := by decide +kernel
theorem dX2_begin_42 : decode cX2_begin 42 = .ok (.iload_n 1, 1) := by decide +kernel
theorem dX2_begin_43 : decode cX2_begin 43 = .ok (.i2l, 1) := by decide +kernel
theorem dX2_begin_44 : decode cX2_begin 44 = .ok (.invokestatic 98, 3) := by decide +kernel
theorem dX2_begin_47 : decode cX2_begin 47 = .ok (.ifCond .eq 12, 3) := by decide +kernel
theorem dX2_begin_50 : decode cX2_begin 50 = .ok (.aload_n 0, 1) := by decide +kernel
theorem dX2_begin_51 : decode cX2_begin 51 = .ok (.iload_n 1, 1) := by decide +kernel
theorem dX2_begin_52 : decode cX2_begin 52 = .ok (.i2l, 1) := by decide +kernel
theorem dX2_begin_53 : decode cX2_begin 53 = .ok (.invokevirtual 102, 3) := by decide +kernel
theorem dX2_begin_56 : decode cX2_begin 56 = .ok (.ifCond .ne 28, 3) := by decide +kernel
theorem dX2_begin_59 : decode cX2_begin 59 = .ok (.aload_n 0, 1) := by decide +kernel
theorem dX2_begin_60 : decode cX2_begin 60 = .ok (.getfield 19, 3) := by decide +kernel
theorem dX2_begin_63 : decode cX2_begin 63 = .ok (.iload_n 1, 1) := by decide +kernel
theorem dX2_begin_64 : decode cX2_begin 64 = .ok (.new 17, 3) := by decide +kernel
theorem dX2_begin_67 : decode cX2_begin 67 = .ok (.dup, 1) := by decide +kernel
theorem dX2_begin_68 : decode cX2_begin 68 = .ok (.aload_n 0, 1) := by decide +kernel
theorem dX2_begin_69 : decode cX2_begin 69 = .ok (.getfield 30, 3) := by decide +kernel
theorem dX2_begin_72 : decode cX2_begin 72 = .ok (.aload_n 0, 1) := by decide +kernel
theorem dX2_begin_73 : decode cX2_begin 73 = .ok (.iload_n 1, 1) := by decide +kernel
theorem dX2_begin_74 : decode cX2_begin 74 = .ok (.i2l, 1) := by decide +kernel
theorem dX2_begin_75 : decode cX2_begin 75 = .ok (.iconst 0, 1) := by decide +kernel
theorem dX2_begin_76 : decode cX2_begin 76 = .ok (.invokevirtual 105, 3) := by decide +kernel
theorem dX2_begin_79 : decode cX2_begin 79 = .ok (.iaload, 1) := by decide +kernel
theorem dX2_begin_80 : decode cX2_begin 80 = .ok (.invokespecial 112, 3) := by decide +kernel
theorem dX2_begin_83 : decode cX2_begin 83 = .ok (.aastore, 1) := by decide +kernel
theorem dX2_begin_84 : decode cX2_begin 84 = .ok (.return_, 1) := by decide +kernel
theorem dX2_isOneWay_0 : decode cX2_isOneWay 0 = .ok (.lload_n 0, 1) := by decide +kernel
theorem dX2_isOneWay_1 : decode cX2_isOneWay 1 = .ok (.ldc2_w 96, 3) := by decide +kernel
theorem dX2_isOneWay_4 : decode cX2_isOneWay 4 = .ok (.ldiv, 1) := by decide +kernel
theorem dX2_isOneWay_5 : decode cX2_isOneWay 5 = .ok (.ldc2_w 96, 3) := by decide +kernel
theorem dX2_isOneWay_8 : decode cX2_isOneWay 8 = .ok (.lrem, 1) := by decide +kernel
theorem dX2_isOneWay_9 : decode cX2_isOneWay 9 = .ok (.lconst 1, 1) := by decide +kernel
theorem dX2_isOneWay_10 : decode cX2_isOneWay 10 = .ok (.lcmp, 1) := by decide +kernel
theorem dX2_isOneWay_11 : decode cX2_isOneWay 11 = .ok (.ifCond .ne 7, 3) := by decide +kernel
theorem dX2_isOneWay_14 : decode cX2_isOneWay 14 = .ok (.iconst 1, 1) := by decide +kernel
theorem dX2_isOneWay_15 : decode cX2_isOneWay 15 = .ok (.goto 4, 3) := by decide +kernel
theorem dX2_isOneWay_18 : decode cX2_isOneWay 18 = .ok (.iconst 0, 1) := by decide +kernel
theorem dX2_isOneWay_19 : decode cX2_isOneWay 19 = .ok (.ireturn, 1) := by decide +kernel
theorem dX2_isOwn_0 : decode cX2_isOwn 0 = .ok (.lload_n 1, 1) := by decide +kernel
theorem dX2_isOwn_1 : decode cX2_isOwn 1 = .ok (.ldc2_w 96, 3) := by decide +kernel
theorem dX2_isOwn_4 : decode cX2_isOwn 4 = .ok (.lrem, 1) := by decide +kernel
theorem dX2_isOwn_5 : decode cX2_isOwn 5 = .ok (.aload_n 0, 1) := by decide +kernel
theorem dX2_isOwn_6 : decode cX2_isOwn 6 = .ok (.getfield 73, 3) := by decide +kernel
theorem dX2_isOwn_9 : decode cX2_isOwn 9 = .ok (.i2l, 1) := by decide +kernel
theorem dX2_isOwn_10 : decode cX2_isOwn 10 = .ok (.lcmp, 1) := by decide +kernel
theorem dX2_isOwn_11 : decode cX2_isOwn 11 = .ok (.ifCond .ne 7, 3) := by decide +kernel
theorem dX2_isOwn_14 : decode cX2_isOwn 14 = .ok (.iconst 1, 1) := by decide +kernel
theorem dX2_isOwn_15 : decode cX2_isOwn 15 = .ok (.goto 4, 3) := by decide +kernel
theorem dX2_isOwn_18 : decode cX2_isOwn 18 = .ok (.iconst 0, 1) := by decide +kernel
theorem dX2_isOwn_19 : decode cX2_isOwn 19 = .ok (.ireturn, 1) := by decide +kernel
theorem dX2_rule_0 : decode cX2_rule 0 = .ok (.lload_n 1, 1) := by decide +kernel
theorem dX2_rule_1 : decode cX2_rule 1 = .ok (.invokestatic 98, 3) := by decide +kernel
theorem dX2_rule_4 : decode cX2_rule 4 = .ok (.ifCond .eq 7, 3) := by decide +kernel
theorem dX2_rule_7 : decode cX2_rule 7 = .ok (.iconst 3, 1) := by decide +kernel
theorem dX2_rule_8 : decode cX2_rule 8 = .ok (.goto 17, 3) := by decide +kernel
theorem dX2_rule_11 : decode cX2_rule 11 = .ok (.aload_n 0, 1) := by decide +kernel
theorem dX2_rule_12 : decode cX2_rule 12 = .ok (.lload_n 1, 1) := by decide +kernel
theorem dX2_rule_13 : decode cX2_rule 13 = .ok (.invokevirtual 102, 3) := by decide +kernel
theorem dX2_rule_16 : decode cX2_rule 16 = .ok (.iload_n 3, 1) := by decide +kernel
theorem dX2_rule_17 : decode cX2_rule 17 = .ok (.if_icmp .ne 7, 3) := by decide +kernel
theorem dX2_rule_20 : decode cX2_rule 20 = .ok (.iconst 2, 1) := by decide +kernel
theorem dX2_rule_21 : decode cX2_rule 21 = .ok (.goto 4, 3) := by decide +kernel
theorem dX2_rule_24 : decode cX2_rule 24 = .ok (.iconst 1, 1) := by decide +kernel
theorem dX2_rule_25 : decode cX2_rule 25 = .ok (.ireturn, 1) := by decide +kernel
theorem dX2_write_0 : decode cX2_write 0 = .ok (.aload_n 0, 1) := by decide +kernel
theorem dX2_write_1 : decode cX2_write 1 = .ok (.iload_n 1, 1) := by decide +kernel
theorem dX2_write_2 : decode cX2_write 2 = .ok (.invokevirtual 146, 3) := by decide +kernel
theorem dX2_write_5 : decode cX2_write 5 = .ok (.astore 5, 2) := by decide +kernel
theorem dX2_write_7 : decode cX2_write 7 = .ok (.aload 5, 2) := by decide +kernel
theorem dX2_write_9 : decode cX2_write 9 = .ok (.ifnull 11, 3) := by decide +kernel
theorem dX2_write_12 : decode cX2_write 12 = .ok (.aload 5, 2) := by decide +kernel
theorem dX2_write_14 : decode cX2_write 14 = .ok (.getfield 150, 3) := by decide +kernel
theorem dX2_write_17 : decode cX2_write 17 = .ok (.ifCond .eq 7, 3) := by decide +kernel
theorem dX2_write_20 : decode cX2_write 20 = .ok (.iconst (-1), 1) := by decide +kernel
theorem dX2_write_21 : decode cX2_write 21 = .ok (.goto 16, 3) := by decide +kernel
theorem dX2_write_24 : decode cX2_write 24 = .ok (.aload_n 0, 1) := by decide +kernel
theorem dX2_write_25 : decode cX2_write 25 = .ok (.getfield 48, 3) := by decide +kernel
theorem dX2_write_28 : decode cX2_write 28 = .ok (.aload 5, 2) := by decide +kernel
theorem dX2_write_30 : decode cX2_write 30 = .ok (.aload_n 2, 1) := by decide +kernel
theorem dX2_write_31 : decode cX2_write 31 = .ok (.iload_n 3, 1) := by decide +kernel
theorem dX2_write_32 : decode cX2_write 32 = .ok (.iload 4, 2) := by decide +kernel
theorem dX2_write_34 : decode cX2_write 34 = .ok (.invokevirtual 153, 3) := by decide +kernel
theorem dX2_write_37 : decode cX2_write 37 = .ok (.ireturn, 1) := by decide +kernel
theorem dX2_sending_0 : decode cX2_sending 0 = .ok (.iload_n 1, 1) := by decide +kernel
theorem dX2_sending_1 : decode cX2_sending 1 = .ok (.ifCond .lt 10, 3) := by decide +kernel
theorem dX2_sending_4 : decode cX2_sending 4 = .ok (.iload_n 1, 1) := by decide +kernel
theorem dX2_sending_5 : decode cX2_sending 5 = .ok (.sipush 256, 3) := by decide +kernel
theorem dX2_sending_8 : decode cX2_sending 8 = .ok (.if_icmp .lt 7, 3) := by decide +kernel
theorem dX2_sending_11 : decode cX2_sending 11 = .ok (.aconst_null, 1) := by decide +kernel
theorem dX2_sending_12 : decode cX2_sending 12 = .ok (.goto 9, 3) := by decide +kernel
theorem dX2_sending_15 : decode cX2_sending 15 = .ok (.aload_n 0, 1) := by decide +kernel
theorem dX2_sending_16 : decode cX2_sending 16 = .ok (.getfield 11, 3) := by decide +kernel
theorem dX2_sending_19 : decode cX2_sending 19 = .ok (.iload_n 1, 1) := by decide +kernel
theorem dX2_sending_20 : decode cX2_sending 20 = .ok (.aaload, 1) := by decide +kernel
theorem dX2_sending_21 : decode cX2_sending 21 = .ok (.areturn, 1) := by decide +kernel
theorem dX2_finish_0 : decode cX2_finish 0 = .ok (.aload_n 0, 1) := by decide +kernel
theorem dX2_finish_1 : decode cX2_finish 1 = .ok (.iload_n 1, 1) := by decide +kernel
theorem dX2_finish_2 : decode cX2_finish 2 = .ok (.invokevirtual 146, 3) := by decide +kernel
theorem dX2_finish_5 : decode cX2_finish 5 = .ok (.astore_n 2, 1) := by decide +kernel
theorem dX2_finish_6 : decode cX2_finish 6 = .ok (.aload_n 2, 1) := by decide +kernel
theorem dX2_finish_7 : decode cX2_finish 7 = .ok (.ifnull 10, 3) := by decide +kernel
theorem dX2_finish_10 : decode cX2_finish 10 = .ok (.aload_n 2, 1) := by decide +kernel
theorem dX2_finish_11 : decode cX2_finish 11 = .ok (.getfield 150, 3) := by decide +kernel
theorem dX2_finish_14 : decode cX2_finish 14 = .ok (.ifCond .eq 5, 3) := by decide +kernel
theorem dX2_finish_17 : decode cX2_finish 17 = .ok (.iconst 0, 1) := by decide +kernel
theorem dX2_finish_18 : decode cX2_finish 18 = .ok (.ireturn, 1) := by decide +kernel
theorem dX2_finish_19 : decode cX2_finish 19 = .ok (.aload_n 2, 1) := by decide +kernel
theorem dX2_finish_20 : decode cX2_finish 20 = .ok (.iconst 1, 1) := by decide +kernel
theorem dX2_finish_21 : decode cX2_finish 21 = .ok (.putfield 150, 3) := by decide +kernel
theorem dX2_finish_24 : decode cX2_finish 24 = .ok (.aload_n 2, 1) := by decide +kernel
theorem dX2_finish_25 : decode cX2_finish 25 = .ok (.iconst 1, 1) := by decide +kernel
theorem dX2_finish_26 : decode cX2_finish 26 = .ok (.putfield 157, 3) := by decide +kernel
theorem dX2_finish_29 : decode cX2_finish 29 = .ok (.iconst 1, 1) := by decide +kernel
theorem dX2_finish_30 : decode cX2_finish 30 = .ok (.ireturn, 1) := by decide +kernel
theorem dX2_reset_0 : decode cX2_reset 0 = .ok (.aload_n 0, 1) := by decide +kernel
theorem dX2_reset_1 : decode cX2_reset 1 = .ok (.iload_n 1, 1) := by decide +kernel
theorem dX2_reset_2 : decode cX2_reset 2 = .ok (.invokevirtual 146, 3) := by decide +kernel
theorem dX2_reset_5 : decode cX2_reset 5 = .ok (.astore 4, 2) := by decide +kernel
theorem dX2_reset_7 : decode cX2_reset 7 = .ok (.aload 4, 2) := by decide +kernel
theorem dX2_reset_9 : decode cX2_reset 9 = .ok (.ifnull 11, 3) := by decide +kernel
theorem dX2_reset_12 : decode cX2_reset 12 = .ok (.aload 4, 2) := by decide +kernel
theorem dX2_reset_14 : decode cX2_reset 14 = .ok (.invokevirtual 160, 3) := by decide +kernel
theorem dX2_reset_17 : decode cX2_reset 17 = .ok (.ifCond .ne 5, 3) := by decide +kernel
theorem dX2_reset_20 : decode cX2_reset 20 = .ok (.iconst 0, 1) := by decide +kernel
theorem dX2_reset_21 : decode cX2_reset 21 = .ok (.ireturn, 1) := by decide +kernel
theorem dX2_reset_22 : decode cX2_reset 22 = .ok (.aload 4, 2) := by decide +kernel
theorem dX2_reset_24 : decode cX2_reset 24 = .ok (.lload_n 2, 1) := by decide +kernel
theorem dX2_reset_25 : decode cX2_reset 25 = .ok (.invokevirtual 163, 3) := by decide +kernel
theorem dX2_reset_28 : decode cX2_reset 28 = .ok (.iconst 1, 1) := by decide +kernel
theorem dX2_reset_29 : decode cX2_reset 29 = .ok (.ireturn, 1) := by decide +kernel
theorem dX2_stop_0 : decode cX2_stop 0 = .ok (.aload_n 0, 1) := by decide +kernel
theorem dX2_stop_1 : decode cX2_stop 1 = .ok (.iload_n 1, 1) := by decide +kernel
theorem dX2_stop_2 : decode cX2_stop 2 = .ok (.invokevirtual 166, 3) := by decide +kernel
theorem dX2_stop_5 : decode cX2_stop 5 = .ok (.astore 4, 2) := by decide +kernel
theorem dX2_stop_7 : decode cX2_stop 7 = .ok (.aload 4, 2) := by decide +kernel
theorem dX2_stop_9 : decode cX2_stop 9 = .ok (.ifnull 19, 3) := by decide +kernel
theorem dX2_stop_12 : decode cX2_stop 12 = .ok (.aload 4, 2) := by decide +kernel
theorem dX2_stop_14 : decode cX2_stop 14 = .ok (.invokevirtual 170, 3) := by decide +kernel
theorem dX2_stop_17 : decode cX2_stop 17 = .ok (.ifCond .eq 11, 3) := by decide +kernel
theorem dX2_stop_20 : decode cX2_stop 20 = .ok (.aload 4, 2) := by decide +kernel
theorem dX2_stop_22 : decode cX2_stop 22 = .ok (.getfield 171, 3) := by decide +kernel
theorem dX2_stop_25 : decode cX2_stop 25 = .ok (.ifCond .eq 5, 3) := by decide +kernel
theorem dX2_stop_28 : decode cX2_stop 28 = .ok (.iconst 0, 1) := by decide +kernel
theorem dX2_stop_29 : decode cX2_stop 29 = .ok (.ireturn, 1) := by decide +kernel
theorem dX2_stop_30 : decode cX2_stop 30 = .ok (.aload 4, 2) := by decide +kernel
theorem dX2_stop_32 : decode cX2_stop 32 = .ok (.iconst 1, 1) := by decide +kernel
theorem dX2_stop_33 : decode cX2_stop 33 = .ok (.putfield 171, 3) := by decide +kernel
theorem dX2_stop_36 : decode cX2_stop 36 = .ok (.aload 4, 2) := by decide +kernel
theorem dX2_stop_38 : decode cX2_stop 38 = .ok (.iconst 1, 1) := by decide +kernel
theorem dX2_stop_39 : decode cX2_stop 39 = .ok (.putfield 174, 3) := by decide +kernel
theorem dX2_stop_42 : decode cX2_stop 42 = .ok (.aload 4, 2) := by decide +kernel
theorem dX2_stop_44 : decode cX2_stop 44 = .ok (.lload_n 2, 1) := by decide +kernel
theorem dX2_stop_45 : decode cX2_stop 45 = .ok (.putfield 177, 3) := by decide +kernel
theorem dX2_stop_48 : decode cX2_stop 48 = .ok (.iconst 1, 1) := by decide +kernel
theorem dX2_stop_49 : decode cX2_stop 49 = .ok (.ireturn, 1) := by decide +kernel
theorem dX2_receiving_0 : decode cX2_receiving 0 = .ok (.iload_n 1, 1) := by decide +kernel
theorem dX2_receiving_1 : decode cX2_receiving 1 = .ok (.ifCond .lt 10, 3) := by decide +kernel
theorem dX2_receiving_4 : decode cX2_receiving 4 = .ok (.iload_n 1, 1) := by decide +kernel
theorem dX2_receiving_5 : decode cX2_receiving 5 = .ok (.sipush 256, 3) := by decide +kernel
theorem dX2_receiving_8 : decode cX2_receiving 8 = .ok (.if_icmp .lt 7, 3) := by decide +kernel
theorem dX2_receiving_11 : decode cX2_receiving 11 = .ok (.aconst_null, 1) := by decide +kernel
theorem dX2_receiving_12 : decode cX2_receiving 12 = .ok (.goto 9, 3) := by decide +kernel
theorem dX2_receiving_15 : decode cX2_receiving 15 = .ok (.aload_n 0, 1) := by decide +kernel
theorem dX2_receiving_16 : decode cX2_receiving 16 = .ok (.getfield 19, 3) := by decide +kernel
theorem dX2_receiving_19 : decode cX2_receiving 19 = .ok (.iload_n 1, 1) := by decide +kernel
theorem dX2_receiving_20 : decode cX2_receiving 20 = .ok (.aaload, 1) := by decide +kernel
theorem dX2_receiving_21 : decode cX2_receiving 21 = .ok (.areturn, 1) := by decide +kernel
theorem dX2_read_0 : decode cX2_read 0 = .ok (.aload_n 0, 1) := by decide +kernel
theorem dX2_read_1 : decode cX2_read 1 = .ok (.iload_n 1, 1) := by decide +kernel
theorem dX2_read_2 : decode cX2_read 2 = .ok (.invokevirtual 166, 3) := by decide +kernel
theorem dX2_read_5 : decode cX2_read 5 = .ok (.astore 5, 2) := by decide +kernel
theorem dX2_read_7 : decode cX2_read 7 = .ok (.aload 5, 2) := by decide +kernel
theorem dX2_read_9 : decode cX2_read 9 = .ok (.ifnonnull 5, 3) := by decide +kernel
theorem dX2_read_12 : decode cX2_read 12 = .ok (.iconst (-1), 1) := by decide +kernel
theorem dX2_read_13 : decode cX2_read 13 = .ok (.ireturn, 1) := by decide +kernel
theorem dX2_read_14 : decode cX2_read 14 = .ok (.aload 5, 2) := by decide +kernel
theorem dX2_read_16 : decode cX2_read 16 = .ok (.getfield 180, 3) := by decide +kernel
theorem dX2_read_19 : decode cX2_read 19 = .ok (.iconst 4, 1) := by decide +kernel
theorem dX2_read_20 : decode cX2_read 20 = .ok (.if_icmp .ne 6, 3) := by decide +kernel
theorem dX2_read_23 : decode cX2_read 23 = .ok (.bipush (-2), 2) := by decide +kernel
theorem dX2_read_25 : decode cX2_read 25 = .ok (.ireturn, 1) := by decide +kernel
theorem dX2_read_26 : decode cX2_read 26 = .ok (.iload 4, 2) := by decide +kernel
theorem dX2_read_28 : decode cX2_read 28 = .ok (.aload 5, 2) := by decide +kernel
theorem dX2_read_30 : decode cX2_read 30 = .ok (.getfield 181, 3) := by decide +kernel
theorem dX2_read_33 : decode cX2_read 33 = .ok (.aload 5, 2) := by decide +kernel
theorem dX2_read_35 : decode cX2_read 35 = .ok (.getfield 184, 3) := by decide +kernel
theorem dX2_read_38 : decode cX2_read 38 = .ok (.isub, 1) := by decide +kernel
theorem dX2_read_39 : decode cX2_read 39 = .ok (.invokestatic 139, 3) := by decide +kernel
theorem dX2_read_42 : decode cX2_read 42 = .ok (.istore 6, 2) := by decide +kernel
theorem dX2_read_44 : decode cX2_read 44 = .ok (.iload 6, 2) := by decide +kernel
theorem dX2_read_46 : decode cX2_read 46 = .ok (.ifCond .le 45, 3) := by decide +kernel
theorem dX2_read_49 : decode cX2_read 49 = .ok (.aload_n 0, 1) := by decide +kernel
theorem dX2_read_50 : decode cX2_read 50 = .ok (.getfield 55, 3) := by decide +kernel
theorem dX2_read_53 : decode cX2_read 53 = .ok (.aload 5, 2) := by decide +kernel
theorem dX2_read_55 : decode cX2_read 55 = .ok (.aload_n 2, 1) := by decide +kernel
theorem dX2_read_56 : decode cX2_read 56 = .ok (.iload_n 3, 1) := by decide +kernel
theorem dX2_read_57 : decode cX2_read 57 = .ok (.iload 6, 2) := by decide +kernel
theorem dX2_read_59 : decode cX2_read 59 = .ok (.invokevirtual 187, 3) := by decide +kernel
theorem dX2_read_62 : decode cX2_read 62 = .ok (.aload_n 0, 1) := by decide +kernel
theorem dX2_read_63 : decode cX2_read 63 = .ok (.dup, 1) := by decide +kernel
theorem dX2_read_64 : decode cX2_read 64 = .ok (.getfield 191, 3) := by decide +kernel
theorem dX2_read_67 : decode cX2_read 67 = .ok (.iload 6, 2) := by decide +kernel
theorem dX2_read_69 : decode cX2_read 69 = .ok (.iadd, 1) := by decide +kernel
theorem dX2_read_70 : decode cX2_read 70 = .ok (.putfield 191, 3) := by decide +kernel
theorem dX2_read_73 : decode cX2_read 73 = .ok (.aload_n 0, 1) := by decide +kernel
theorem dX2_read_74 : decode cX2_read 74 = .ok (.invokevirtual 194, 3) := by decide +kernel
theorem dX2_read_77 : decode cX2_read 77 = .ok (.aload 5, 2) := by decide +kernel
theorem dX2_read_79 : decode cX2_read 79 = .ok (.getfield 180, 3) := by decide +kernel
theorem dX2_read_82 : decode cX2_read 82 = .ok (.ifCond .ne 9, 3) := by decide +kernel
theorem dX2_read_85 : decode cX2_read 85 = .ok (.aload_n 0, 1) := by decide +kernel
theorem dX2_read_86 : decode cX2_read 86 = .ok (.aload 5, 2) := by decide +kernel
theorem dX2_read_88 : decode cX2_read 88 = .ok (.invokevirtual 197, 3) := by decide +kernel
theorem dX2_read_91 : decode cX2_read 91 = .ok (.aload_n 0, 1) := by decide +kernel
theorem dX2_read_92 : decode cX2_read 92 = .ok (.iload_n 1, 1) := by decide +kernel
theorem dX2_read_93 : decode cX2_read 93 = .ok (.invokevirtual 131, 3) := by decide +kernel
theorem dX2_read_96 : decode cX2_read 96 = .ok (.istore 7, 2) := by decide +kernel
theorem dX2_read_98 : decode cX2_read 98 = .ok (.aload 5, 2) := by decide +kernel
theorem dX2_read_100 : decode cX2_read 100 = .ok (.invokevirtual 200, 3) := by decide +kernel
theorem dX2_read_103 : decode cX2_read 103 = .ok (.aload_n 0, 1) := by decide +kernel
theorem dX2_read_104 : decode cX2_read 104 = .ok (.iload_n 1, 1) := by decide +kernel
theorem dX2_read_105 : decode cX2_read 105 = .ok (.iload 7, 2) := by decide +kernel
theorem dX2_read_107 : decode cX2_read 107 = .ok (.invokevirtual 203, 3) := by decide +kernel
theorem dX2_read_110 : decode cX2_read 110 = .ok (.iload 6, 2) := by decide +kernel
theorem dX2_read_112 : decode cX2_read 112 = .ok (.ireturn, 1) := by decide +kernel
theorem dX2_grow_0 : decode cX2_grow 0 = .ok (.aload_n 0, 1) := by decide +kernel
theorem dX2_grow_1 : decode cX2_grow 1 = .ok (.getfield 191, 3) := by decide +kernel
theorem dX2_grow_4 : decode cX2_grow 4 = .ok (.aload_n 0, 1) := by decide +kernel
theorem dX2_grow_5 : decode cX2_grow 5 = .ok (.getfield 30, 3) := by decide +kernel
theorem dX2_grow_8 : decode cX2_grow 8 = .ok (.iconst 0, 1) := by decide +kernel
theorem dX2_grow_9 : decode cX2_grow 9 = .ok (.iaload, 1) := by decide +kernel
theorem dX2_grow_10 : decode cX2_grow 10 = .ok (.iadd, 1) := by decide +kernel
theorem dX2_grow_11 : decode cX2_grow 11 = .ok (.ldc 207, 2) := by decide +kernel
theorem dX2_grow_13 : decode cX2_grow 13 = .ok (.invokestatic 139, 3) := by decide +kernel
theorem dX2_grow_16 : decode cX2_grow 16 = .ok (.istore_n 1, 1) := by decide +kernel
theorem dX2_grow_17 : decode cX2_grow 17 = .ok (.iconst 2, 1) := by decide +kernel
theorem dX2_grow_18 : decode cX2_grow 18 = .ok (.aload_n 0, 1) := by decide +kernel
theorem dX2_grow_19 : decode cX2_grow 19 = .ok (.getfield 191, 3) := by decide +kernel
theorem dX2_grow_22 : decode cX2_grow 22 = .ok (.aload_n 0, 1) := by decide +kernel
theorem dX2_grow_23 : decode cX2_grow 23 = .ok (.getfield 30, 3) := by decide +kernel
theorem dX2_grow_26 : decode cX2_grow 26 = .ok (.iconst 0, 1) := by decide +kernel
theorem dX2_grow_27 : decode cX2_grow 27 = .ok (.iaload, 1) := by decide +kernel
theorem dX2_grow_28 : decode cX2_grow 28 = .ok (.iadd, 1) := by decide +kernel
theorem dX2_grow_29 : decode cX2_grow 29 = .ok (.aload_n 0, 1) := by decide +kernel
theorem dX2_grow_30 : decode cX2_grow 30 = .ok (.getfield 76, 3) := by decide +kernel
theorem dX2_grow_33 : decode cX2_grow 33 = .ok (.isub, 1) := by decide +kernel
theorem dX2_grow_34 : decode cX2_grow 34 = .ok (.imul, 1) := by decide +kernel
theorem dX2_grow_35 : decode cX2_grow 35 = .ok (.aload_n 0, 1) := by decide +kernel
theorem dX2_grow_36 : decode cX2_grow 36 = .ok (.getfield 30, 3) := by decide +kernel
theorem dX2_grow_39 : decode cX2_grow 39 = .ok (.iconst 0, 1) := by decide +kernel
theorem dX2_grow_40 : decode cX2_grow 40 = .ok (.iaload, 1) := by decide +kernel
theorem dX2_grow_41 : decode cX2_grow 41 = .ok (.if_icmp .lt 11, 3) := by decide +kernel
theorem dX2_grow_44 : decode cX2_grow 44 = .ok (.iload_n 1, 1) := by decide +kernel
theorem dX2_grow_45 : decode cX2_grow 45 = .ok (.aload_n 0, 1) := by decide +kernel
theorem dX2_grow_46 : decode cX2_grow 46 = .ok (.getfield 76, 3) := by decide +kernel
theorem dX2_grow_49 : decode cX2_grow 49 = .ok (.if_icmp .gt 4, 3) := by decide +kernel
theorem dX2_grow_52 : decode cX2_grow 52 = .ok (.return_, 1) := by decide +kernel
theorem dX2_grow_53 : decode cX2_grow 53 = .ok (.aload_n 0, 1) := by decide +kernel
theorem dX2_grow_54 : decode cX2_grow 54 = .ok (.iload_n 1, 1) := by decide +kernel
theorem dX2_grow_55 : decode cX2_grow 55 = .ok (.putfield 76, 3) := by decide +kernel
theorem dX2_grow_58 : decode cX2_grow 58 = .ok (.aload_n 0, 1) := by decide +kernel
theorem dX2_grow_59 : decode cX2_grow 59 = .ok (.iconst 1, 1) := by decide +kernel
theorem dX2_grow_60 : decode cX2_grow 60 = .ok (.putfield 208, 3) := by decide +kernel
theorem dX2_grow_63 : decode cX2_grow 63 = .ok (.return_, 1) := by decide +kernel
theorem dX2_grow_2_0 : decode cX2_grow_2 0 = .ok (.aload_n 1, 1) := by decide +kernel
theorem dX2_grow_2_1 : decode cX2_grow_2 1 = .ok (.getfield 184, 3) := by decide +kernel
theorem dX2_grow_2_4 : decode cX2_grow_2 4 = .ok (.aload_n 1, 1) := by decide +kernel
theorem dX2_grow_2_5 : decode cX2_grow_2 5 = .ok (.getfield 211, 3) := by decide +kernel
theorem dX2_grow_2_8 : decode cX2_grow_2 8 = .ok (.iadd, 1) := by decide +kernel
theorem dX2_grow_2_9 : decode cX2_grow_2 9 = .ok (.ldc 207, 2) := by decide +kernel
theorem dX2_grow_2_11 : decode cX2_grow_2 11 = .ok (.invokestatic 139, 3) := by decide +kernel
theorem dX2_grow_2_14 : decode cX2_grow_2 14 = .ok (.istore_n 2, 1) := by decide +kernel
theorem dX2_grow_2_15 : decode cX2_grow_2 15 = .ok (.iconst 2, 1) := by decide +kernel
theorem dX2_grow_2_16 : decode cX2_grow_2 16 = .ok (.aload_n 1, 1) := by decide +kernel
theorem dX2_grow_2_17 : decode cX2_grow_2 17 = .ok (.getfield 184, 3) := by decide +kernel
theorem dX2_grow_2_20 : decode cX2_grow_2 20 = .ok (.aload_n 1, 1) := by decide +kernel
theorem dX2_grow_2_21 : decode cX2_grow_2 21 = .ok (.getfield 211, 3) := by decide +kernel
theorem dX2_grow_2_24 : decode cX2_grow_2 24 = .ok (.iadd, 1) := by decide +kernel
theorem dX2_grow_2_25 : decode cX2_grow_2 25 = .ok (.aload_n 1, 1) := by decide +kernel
theorem dX2_grow_2_26 : decode cX2_grow_2 26 = .ok (.getfield 214, 3) := by decide +kernel
theorem dX2_grow_2_29 : decode cX2_grow_2 29 = .ok (.isub, 1) := by decide +kernel
theorem dX2_grow_2_30 : decode cX2_grow_2 30 = .ok (.imul, 1) := by decide +kernel
theorem dX2_grow_2_31 : decode cX2_grow_2 31 = .ok (.aload_n 1, 1) := by decide +kernel
theorem dX2_grow_2_32 : decode cX2_grow_2 32 = .ok (.getfield 211, 3) := by decide +kernel
theorem dX2_grow_2_35 : decode cX2_grow_2 35 = .ok (.if_icmp .lt 11, 3) := by decide +kernel
theorem dX2_grow_2_38 : decode cX2_grow_2 38 = .ok (.iload_n 2, 1) := by decide +kernel
theorem dX2_grow_2_39 : decode cX2_grow_2 39 = .ok (.aload_n 1, 1) := by decide +kernel
theorem dX2_grow_2_40 : decode cX2_grow_2 40 = .ok (.getfield 214, 3) := by decide +kernel
theorem dX2_grow_2_43 : decode cX2_grow_2 43 = .ok (.if_icmp .gt 4, 3) := by decide +kernel
theorem dX2_grow_2_46 : decode cX2_grow_2 46 = .ok (.return_, 1) := by decide +kernel
theorem dX2_grow_2_47 : decode cX2_grow_2 47 = .ok (.aload_n 1, 1) := by decide +kernel
theorem dX2_grow_2_48 : decode cX2_grow_2 48 = .ok (.iload_n 2, 1) := by decide +kernel
theorem dX2_grow_2_49 : decode cX2_grow_2 49 = .ok (.putfield 214, 3) := by decide +kernel
theorem dX2_grow_2_52 : decode cX2_grow_2 52 = .ok (.aload_n 1, 1) := by decide +kernel
theorem dX2_grow_2_53 : decode cX2_grow_2 53 = .ok (.iconst 1, 1) := by decide +kernel
theorem dX2_grow_2_54 : decode cX2_grow_2 54 = .ok (.putfield 217, 3) := by decide +kernel
theorem dX2_grow_2_57 : decode cX2_grow_2 57 = .ok (.return_, 1) := by decide +kernel
theorem dX2_isOver_0 : decode cX2_isOver 0 = .ok (.aload_n 0, 1) := by decide +kernel
theorem dX2_isOver_1 : decode cX2_isOver 1 = .ok (.getfield 11, 3) := by decide +kernel
theorem dX2_isOver_4 : decode cX2_isOver 4 = .ok (.iload_n 1, 1) := by decide +kernel
theorem dX2_isOver_5 : decode cX2_isOver 5 = .ok (.aaload, 1) := by decide +kernel
theorem dX2_isOver_6 : decode cX2_isOver 6 = .ok (.ifnull 15, 3) := by decide +kernel
theorem dX2_isOver_9 : decode cX2_isOver 9 = .ok (.aload_n 0, 1) := by decide +kernel
theorem dX2_isOver_10 : decode cX2_isOver 10 = .ok (.getfield 11, 3) := by decide +kernel
theorem dX2_isOver_13 : decode cX2_isOver 13 = .ok (.iload_n 1, 1) := by decide +kernel
theorem dX2_isOver_14 : decode cX2_isOver 14 = .ok (.aaload, 1) := by decide +kernel
theorem dX2_isOver_15 : decode cX2_isOver 15 = .ok (.invokevirtual 142, 3) := by decide +kernel
theorem dX2_isOver_18 : decode cX2_isOver 18 = .ok (.ifCond .eq 28, 3) := by decide +kernel
theorem dX2_isOver_21 : decode cX2_isOver 21 = .ok (.aload_n 0, 1) := by decide +kernel
theorem dX2_isOver_22 : decode cX2_isOver 22 = .ok (.getfield 19, 3) := by decide +kernel
theorem dX2_isOver_25 : decode cX2_isOver 25 = .ok (.iload_n 1, 1) := by decide +kernel
theorem dX2_isOver_26 : decode cX2_isOver 26 = .ok (.aaload, 1) := by decide +kernel
theorem dX2_isOver_27 : decode cX2_isOver 27 = .ok (.ifnull 15, 3) := by decide +kernel
theorem dX2_isOver_30 : decode cX2_isOver 30 = .ok (.aload_n 0, 1) := by decide +kernel
theorem dX2_isOver_31 : decode cX2_isOver 31 = .ok (.getfield 19, 3) := by decide +kernel
theorem dX2_isOver_34 : decode cX2_isOver 34 = .ok (.iload_n 1, 1) := by decide +kernel
theorem dX2_isOver_35 : decode cX2_isOver 35 = .ok (.aaload, 1) := by decide +kernel
theorem dX2_isOver_36 : decode cX2_isOver 36 = .ok (.invokevirtual 145, 3) := by decide +kernel
theorem dX2_isOver_39 : decode cX2_isOver 39 = .ok (.ifCond .eq 7, 3) := by decide +kernel
theorem dX2_isOver_42 : decode cX2_isOver 42 = .ok (.iconst 1, 1) := by decide +kernel
theorem dX2_isOver_43 : decode cX2_isOver 43 = .ok (.goto 4, 3) := by decide +kernel
theorem dX2_isOver_46 : decode cX2_isOver 46 = .ok (.iconst 0, 1) := by decide +kernel
theorem dX2_isOver_47 : decode cX2_isOver 47 = .ok (.ireturn, 1) := by decide +kernel
theorem dX2_mayBeOver_0 : decode cX2_mayBeOver 0 = .ok (.iload_n 2, 1) := by decide +kernel
theorem dX2_mayBeOver_1 : decode cX2_mayBeOver 1 = .ok (.ifCond .ne 20, 3) := by decide +kernel
theorem dX2_mayBeOver_4 : decode cX2_mayBeOver 4 = .ok (.aload_n 0, 1) := by decide +kernel
theorem dX2_mayBeOver_5 : decode cX2_mayBeOver 5 = .ok (.iload_n 1, 1) := by decide +kernel
theorem dX2_mayBeOver_6 : decode cX2_mayBeOver 6 = .ok (.i2l, 1) := by decide +kernel
theorem dX2_mayBeOver_7 : decode cX2_mayBeOver 7 = .ok (.invokevirtual 102, 3) := by decide +kernel
theorem dX2_mayBeOver_10 : decode cX2_mayBeOver 10 = .ok (.ifCond .ne 11, 3) := by decide +kernel
theorem dX2_mayBeOver_13 : decode cX2_mayBeOver 13 = .ok (.aload_n 0, 1) := by decide +kernel
theorem dX2_mayBeOver_14 : decode cX2_mayBeOver 14 = .ok (.iload_n 1, 1) := by decide +kernel
theorem dX2_mayBeOver_15 : decode cX2_mayBeOver 15 = .ok (.invokevirtual 131, 3) := by decide +kernel
theorem dX2_mayBeOver_18 : decode cX2_mayBeOver 18 = .ok (.ifCond .ne 4, 3) := by decide +kernel
theorem dX2_mayBeOver_21 : decode cX2_mayBeOver 21 = .ok (.return_, 1) := by decide +kernel
theorem dX2_mayBeOver_22 : decode cX2_mayBeOver 22 = .ok (.aload_n 0, 1) := by decide +kernel
theorem dX2_mayBeOver_23 : decode cX2_mayBeOver 23 = .ok (.iload_n 1, 1) := by decide +kernel
theorem dX2_mayBeOver_24 : decode cX2_mayBeOver 24 = .ok (.i2l, 1) := by decide +kernel
theorem dX2_mayBeOver_25 : decode cX2_mayBeOver 25 = .ok (.invokevirtual 124, 3) := by decide +kernel
theorem dX2_mayBeOver_28 : decode cX2_mayBeOver 28 = .ok (.astore_n 3, 1) := by decide +kernel
theorem dX2_mayBeOver_29 : decode cX2_mayBeOver 29 = .ok (.aload_n 3, 1) := by decide +kernel
theorem dX2_mayBeOver_30 : decode cX2_mayBeOver 30 = .ok (.aload_n 3, 1) := by decide +kernel
theorem dX2_mayBeOver_31 : decode cX2_mayBeOver 31 = .ok (.getfield 135, 3) := by decide +kernel
theorem dX2_mayBeOver_34 : decode cX2_mayBeOver 34 = .ok (.ifCond .ne 12, 3) := by decide +kernel
theorem dX2_mayBeOver_37 : decode cX2_mayBeOver 37 = .ok (.aload_n 3, 1) := by decide +kernel
theorem dX2_mayBeOver_38 : decode cX2_mayBeOver 38 = .ok (.getfield 79, 3) := by decide +kernel
theorem dX2_mayBeOver_41 : decode cX2_mayBeOver 41 = .ok (.bipush 64, 2) := by decide +kernel
theorem dX2_mayBeOver_43 : decode cX2_mayBeOver 43 = .ok (.if_icmp .ge 7, 3) := by decide +kernel
theorem dX2_mayBeOver_46 : decode cX2_mayBeOver 46 = .ok (.iconst 1, 1) := by decide +kernel
theorem dX2_mayBeOver_47 : decode cX2_mayBeOver 47 = .ok (.goto 4, 3) := by decide +kernel
theorem dX2_mayBeOver_50 : decode cX2_mayBeOver 50 = .ok (.iconst 0, 1) := by decide +kernel
theorem dX2_mayBeOver_51 : decode cX2_mayBeOver 51 = .ok (.putfield 135, 3) := by decide +kernel
theorem dX2_mayBeOver_54 : decode cX2_mayBeOver 54 = .ok (.aload_n 3, 1) := by decide +kernel
theorem dX2_mayBeOver_55 : decode cX2_mayBeOver 55 = .ok (.aload_n 3, 1) := by decide +kernel
theorem dX2_mayBeOver_56 : decode cX2_mayBeOver 56 = .ok (.getfield 79, 3) := by decide +kernel
theorem dX2_mayBeOver_59 : decode cX2_mayBeOver 59 = .ok (.iconst 1, 1) := by decide +kernel
theorem dX2_mayBeOver_60 : decode cX2_mayBeOver 60 = .ok (.iadd, 1) := by decide +kernel
theorem dX2_mayBeOver_61 : decode cX2_mayBeOver 61 = .ok (.bipush 64, 2) := by decide +kernel
theorem dX2_mayBeOver_63 : decode cX2_mayBeOver 63 = .ok (.invokestatic 139, 3) := by decide +kernel
theorem dX2_mayBeOver_66 : decode cX2_mayBeOver 66 = .ok (.putfield 79, 3) := by decide +kernel
theorem dX2_mayBeOver_69 : decode cX2_mayBeOver 69 = .ok (.return_, 1) := by decide +kernel
theorem dX2_way_0 : decode cX2_way 0 = .ok (.aload_n 0, 1) := by decide +kernel
theorem dX2_way_1 : decode cX2_way 1 = .ok (.getfield 26, 3) := by decide +kernel
theorem dX2_way_4 : decode cX2_way 4 = .ok (.lload_n 1, 1) := by decide +kernel
theorem dX2_way_5 : decode cX2_way 5 = .ok (.invokestatic 98, 3) := by decide +kernel
theorem dX2_way_8 : decode cX2_way 8 = .ok (.ifCond .eq 7, 3) := by decide +kernel
theorem dX2_way_11 : decode cX2_way 11 = .ok (.iconst 1, 1) := by decide +kernel
theorem dX2_way_12 : decode cX2_way 12 = .ok (.goto 4, 3) := by decide +kernel
theorem dX2_way_15 : decode cX2_way 15 = .ok (.iconst 0, 1) := by decide +kernel
theorem dX2_way_16 : decode cX2_way 16 = .ok (.aaload, 1) := by decide +kernel
theorem dX2_way_17 : decode cX2_way 17 = .ok (.areturn, 1) := by decide +kernel
theorem dX2_fill_0 : decode cX2_fill 0 = .ok (.aload_n 0, 1) := by decide +kernel
theorem dX2_fill_1 : decode cX2_fill 1 = .ok (.iload_n 1, 1) := by decide +kernel
theorem dX2_fill_2 : decode cX2_fill 2 = .ok (.invokevirtual 284, 3) := by decide +kernel
theorem dX2_fill_5 : decode cX2_fill 5 = .ok (.ifCond .ne 27, 3) := by decide +kernel
theorem dX2_fill_8 : decode cX2_fill 8 = .ok (.aload_n 0, 1) := by decide +kernel
theorem dX2_fill_9 : decode cX2_fill 9 = .ok (.iload_n 1, 1) := by decide +kernel
theorem dX2_fill_10 : decode cX2_fill 10 = .ok (.invokevirtual 287, 3) := by decide +kernel
theorem dX2_fill_13 : decode cX2_fill 13 = .ok (.ifCond .ne 19, 3) := by decide +kernel
theorem dX2_fill_16 : decode cX2_fill 16 = .ok (.aload_n 0, 1) := by decide +kernel
theorem dX2_fill_17 : decode cX2_fill 17 = .ok (.iload_n 1, 1) := by decide +kernel
theorem dX2_fill_18 : decode cX2_fill 18 = .ok (.invokevirtual 290, 3) := by decide +kernel
theorem dX2_fill_21 : decode cX2_fill 21 = .ok (.ifCond .ne 11, 3) := by decide +kernel
theorem dX2_fill_24 : decode cX2_fill 24 = .ok (.aload_n 0, 1) := by decide +kernel
theorem dX2_fill_25 : decode cX2_fill 25 = .ok (.iload_n 1, 1) := by decide +kernel
theorem dX2_fill_26 : decode cX2_fill 26 = .ok (.invokevirtual 293, 3) := by decide +kernel
theorem dX2_fill_29 : decode cX2_fill 29 = .ok (.ifCond .eq 7, 3) := by decide +kernel
theorem dX2_fill_32 : decode cX2_fill 32 = .ok (.iconst 1, 1) := by decide +kernel
theorem dX2_fill_33 : decode cX2_fill 33 = .ok (.goto 4, 3) := by decide +kernel
theorem dX2_fill_36 : decode cX2_fill 36 = .ok (.iconst 0, 1) := by decide +kernel
theorem dX2_fill_37 : decode cX2_fill 37 = .ok (.ireturn, 1) := by decide +kernel
theorem dX2_fillsEnds_0 : decode cX2_fillsEnds 0 = .ok (.iconst 0, 1) := by decide +kernel
theorem dX2_fillsEnds_1 : decode cX2_fillsEnds 1 = .ok (.istore_n 2, 1) := by decide +kernel
theorem dX2_fillsEnds_2 : decode cX2_fillsEnds 2 = .ok (.iload_n 2, 1) := by decide +kernel
theorem dX2_fillsEnds_3 : decode cX2_fillsEnds 3 = .ok (.sipush 256, 3) := by decide +kernel
theorem dX2_fillsEnds_6 : decode cX2_fillsEnds 6 = .ok (.if_icmp .ge 65, 3) := by decide +kernel
theorem dX2_fillsEnds_9 : decode cX2_fillsEnds 9 = .ok (.aload_n 0, 1) := by decide +kernel
theorem dX2_fillsEnds_10 : decode cX2_fillsEnds 10 = .ok (.getfield 11, 3) := by decide +kernel
theorem dX2_fillsEnds_13 : decode cX2_fillsEnds 13 = .ok (.iload_n 2, 1) := by decide +kernel
theorem dX2_fillsEnds_14 : decode cX2_fillsEnds 14 = .ok (.aaload, 1) := by decide +kernel
theorem dX2_fillsEnds_15 : decode cX2_fillsEnds 15 = .ok (.astore_n 3, 1) := by decide +kernel
theorem dX2_fillsEnds_16 : decode cX2_fillsEnds 16 = .ok (.aload_n 3, 1) := by decide +kernel
theorem dX2_fillsEnds_17 : decode cX2_fillsEnds 17 = .ok (.ifnull 48, 3) := by decide +kernel
theorem dX2_fillsEnds_20 : decode cX2_fillsEnds 20 = .ok (.aload_n 3, 1) := by decide +kernel
theorem dX2_fillsEnds_21 : decode cX2_fillsEnds 21 = .ok (.getfield 150, 3) := by decide +kernel
theorem dX2_fillsEnds_24 : decode cX2_fillsEnds 24 = .ok (.iconst 3, 1) := by decide +kernel
theorem dX2_fillsEnds_25 : decode cX2_fillsEnds 25 = .ok (.if_icmp .ne 40, 3) := by decide +kernel
theorem dX2_fillsEnds_28 : decode cX2_fillsEnds 28 = .ok (.aload_n 3, 1) := by decide +kernel
theorem dX2_fillsEnds_29 : decode cX2_fillsEnds 29 = .ok (.getfield 296, 3) := by decide +kernel
theorem dX2_fillsEnds_32 : decode cX2_fillsEnds 32 = .ok (.ifCond .eq 33, 3) := by decide +kernel
theorem dX2_fillsEnds_35 : decode cX2_fillsEnds 35 = .ok (.aload_n 0, 1) := by decide +kernel
theorem dX2_fillsEnds_36 : decode cX2_fillsEnds 36 = .ok (.iconst 4, 1) := by decide +kernel
theorem dX2_fillsEnds_37 : decode cX2_fillsEnds 37 = .ok (.iload_n 2, 1) := by decide +kernel
theorem dX2_fillsEnds_38 : decode cX2_fillsEnds 38 = .ok (.i2l, 1) := by decide +kernel
theorem dX2_fillsEnds_39 : decode cX2_fillsEnds 39 = .ok (.aload_n 3, 1) := by decide +kernel
theorem dX2_fillsEnds_40 : decode cX2_fillsEnds 40 = .ok (.getfield 299, 3) := by decide +kernel
theorem dX2_fillsEnds_43 : decode cX2_fillsEnds 43 = .ok (.aload_n 3, 1) := by decide +kernel
theorem dX2_fillsEnds_44 : decode cX2_fillsEnds 44 = .ok (.getfield 300, 3) := by decide +kernel
theorem dX2_fillsEnds_47 : decode cX2_fillsEnds 47 = .ok (.i2l, 1) := by decide +kernel
theorem dX2_fillsEnds_48 : decode cX2_fillsEnds 48 = .ok (.iload_n 1, 1) := by decide +kernel
theorem dX2_fillsEnds_49 : decode cX2_fillsEnds 49 = .ok (.invokevirtual 303, 3) := by decide +kernel
theorem dX2_fillsEnds_52 : decode cX2_fillsEnds 52 = .ok (.ifCond .ne 6, 3) := by decide +kernel
theorem dX2_fillsEnds_55 : decode cX2_fillsEnds 55 = .ok (.goto 10, 3) := by decide +kernel
theorem dX2_fillsEnds_58 : decode cX2_fillsEnds 58 = .ok (.aload_n 3, 1) := by decide +kernel
theorem dX2_fillsEnds_59 : decode cX2_fillsEnds 59 = .ok (.iconst 0, 1) := by decide +kernel
theorem dX2_fillsEnds_60 : decode cX2_fillsEnds 60 = .ok (.putfield 296, 3) := by decide +kernel
theorem dX2_fillsEnds_63 : decode cX2_fillsEnds 63 = .ok (.iconst 1, 1) := by decide +kernel
theorem dX2_fillsEnds_64 : decode cX2_fillsEnds 64 = .ok (.ireturn, 1) := by decide +kernel
theorem dX2_fillsEnds_65 : decode cX2_fillsEnds 65 = .ok (.iinc 2 1, 3) := by decide +kernel
theorem dX2_fillsEnds_68 : decode cX2_fillsEnds 68 = .ok (.goto (-66), 3) := by decide +kernel
theorem dX2_fillsEnds_71 : decode cX2_fillsEnds 71 = .ok (.iconst 0, 1) := by decide +kernel
theorem dX2_fillsEnds_72 : decode cX2_fillsEnds 72 = .ok (.istore_n 2, 1) := by decide +kernel
theorem dX2_fillsEnds_73 : decode cX2_fillsEnds 73 = .ok (.iload_n 2, 1) := by decide +kernel
theorem dX2_fillsEnds_74 : decode cX2_fillsEnds 74 = .ok (.sipush 256, 3) := by decide +kernel
theorem dX2_fillsEnds_77 : decode cX2_fillsEnds 77 = .ok (.if_icmp .ge 60, 3) := by decide +kernel
theorem dX2_fillsEnds_80 : decode cX2_fillsEnds 80 = .ok (.aload_n 0, 1) := by decide +kernel
theorem dX2_fillsEnds_81 : decode cX2_fillsEnds 81 = .ok (.getfield 19, 3) := by decide +kernel
theorem dX2_fillsEnds_84 : decode cX2_fillsEnds 84 = .ok (.iload_n 2, 1) := by decide +kernel
theorem dX2_fillsEnds_85 : decode cX2_fillsEnds 85 = .ok (.aaload, 1) := by decide +kernel
theorem dX2_fillsEnds_86 : decode cX2_fillsEnds 86 = .ok (.astore_n 3, 1) := by decide +kernel
theorem dX2_fillsEnds_87 : decode cX2_fillsEnds 87 = .ok (.aload_n 3, 1) := by decide +kernel
theorem dX2_fillsEnds_88 : decode cX2_fillsEnds 88 = .ok (.ifnull 43, 3) := by decide +kernel
theorem dX2_fillsEnds_91 : decode cX2_fillsEnds 91 = .ok (.aload_n 3, 1) := by decide +kernel
theorem dX2_fillsEnds_92 : decode cX2_fillsEnds 92 = .ok (.invokevirtual 170, 3) := by decide +kernel
theorem dX2_fillsEnds_95 : decode cX2_fillsEnds 95 = .ok (.ifCond .eq 36, 3) := by decide +kernel
theorem dX2_fillsEnds_98 : decode cX2_fillsEnds 98 = .ok (.aload_n 3, 1) := by decide +kernel
theorem dX2_fillsEnds_99 : decode cX2_fillsEnds 99 = .ok (.getfield 174, 3) := by decide +kernel
theorem dX2_fillsEnds_102 : decode cX2_fillsEnds 102 = .ok (.ifCond .eq 29, 3) := by decide +kernel
theorem dX2_fillsEnds_105 : decode cX2_fillsEnds 105 = .ok (.aload_n 0, 1) := by decide +kernel
theorem dX2_fillsEnds_106 : decode cX2_fillsEnds 106 = .ok (.iconst 5, 1) := by decide +kernel
theorem dX2_fillsEnds_107 : decode cX2_fillsEnds 107 = .ok (.iload_n 2, 1) := by decide +kernel
theorem dX2_fillsEnds_108 : decode cX2_fillsEnds 108 = .ok (.i2l, 1) := by decide +kernel
theorem dX2_fillsEnds_109 : decode cX2_fillsEnds 109 = .ok (.aload_n 3, 1) := by decide +kernel
theorem dX2_fillsEnds_110 : decode cX2_fillsEnds 110 = .ok (.getfield 177, 3) := by decide +kernel
theorem dX2_fillsEnds_113 : decode cX2_fillsEnds 113 = .ok (.lconst 0, 1) := by decide +kernel
theorem dX2_fillsEnds_114 : decode cX2_fillsEnds 114 = .ok (.iload_n 1, 1) := by decide +kernel
theorem dX2_fillsEnds_115 : decode cX2_fillsEnds 115 = .ok (.invokevirtual 303, 3) := by decide +kernel
theorem dX2_fillsEnds_118 : decode cX2_fillsEnds 118 = .ok (.ifCond .ne 6, 3) := by decide +kernel
theorem dX2_fillsEnds_121 : decode cX2_fillsEnds 121 = .ok (.goto 10, 3) := by decide +kernel
theorem dX2_fillsEnds_124 : decode cX2_fillsEnds 124 = .ok (.aload_n 3, 1) := by decide +kernel
theorem dX2_fillsEnds_125 : decode cX2_fillsEnds 125 = .ok (.iconst 0, 1) := by decide +kernel
theorem dX2_fillsEnds_126 : decode cX2_fillsEnds 126 = .ok (.putfield 174, 3) := by decide +kernel
theorem dX2_fillsEnds_129 : decode cX2_fillsEnds 129 = .ok (.iconst 1, 1) := by decide +kernel
theorem dX2_fillsEnds_130 : decode cX2_fillsEnds 130 = .ok (.ireturn, 1) := by decide +kernel
theorem dX2_fillsEnds_131 : decode cX2_fillsEnds 131 = .ok (.iinc 2 1, 3) := by decide +kernel
theorem dX2_fillsEnds_134 : decode cX2_fillsEnds 134 = .ok (.goto (-61), 3) := by decide +kernel
theorem dX2_fillsEnds_137 : decode cX2_fillsEnds 137 = .ok (.iconst 0, 1) := by decide +kernel
theorem dX2_fillsEnds_138 : decode cX2_fillsEnds 138 = .ok (.ireturn, 1) := by decide +kernel
theorem dX2_frame_0 : decode cX2_frame 0 = .ok (.iload_n 1, 1) := by decide +kernel
theorem dX2_frame_1 : decode cX2_frame 1 = .ok (.iconst 4, 1) := by decide +kernel
theorem dX2_frame_2 : decode cX2_frame 2 = .ok (.if_icmp .ne 7, 3) := by decide +kernel
theorem dX2_frame_5 : decode cX2_frame 5 = .ok (.iconst 3, 1) := by decide +kernel
theorem dX2_frame_6 : decode cX2_frame 6 = .ok (.goto 25, 3) := by decide +kernel
theorem dX2_frame_9 : decode cX2_frame 9 = .ok (.iload_n 1, 1) := by decide +kernel
theorem dX2_frame_10 : decode cX2_frame 10 = .ok (.iconst 5, 1) := by decide +kernel
theorem dX2_frame_11 : decode cX2_frame 11 = .ok (.if_icmp .eq 15, 3) := by decide +kernel
theorem dX2_frame_14 : decode cX2_frame 14 = .ok (.iload_n 1, 1) := by decide +kernel
theorem dX2_frame_15 : decode cX2_frame 15 = .ok (.bipush 17, 2) := by decide +kernel
theorem dX2_frame_17 : decode cX2_frame 17 = .ok (.if_icmp .eq 9, 3) := by decide +kernel
theorem dX2_frame_20 : decode cX2_frame 20 = .ok (.iload_n 1, 1) := by decide +kernel
theorem dX2_frame_21 : decode cX2_frame 21 = .ok (.bipush 21, 2) := by decide +kernel
theorem dX2_frame_23 : decode cX2_frame 23 = .ok (.if_icmp .ne 7, 3) := by decide +kernel
theorem dX2_frame_26 : decode cX2_frame 26 = .ok (.iconst 2, 1) := by decide +kernel
theorem dX2_frame_27 : decode cX2_frame 27 = .ok (.goto 4, 3) := by decide +kernel
theorem dX2_frame_30 : decode cX2_frame 30 = .ok (.iconst 1, 1) := by decide +kernel
theorem dX2_frame_31 : decode cX2_frame 31 = .ok (.istore 9, 2) := by decide +kernel
theorem dX2_frame_33 : decode cX2_frame 33 = .ok (.iconst 1, 1) := by decide +kernel
theorem dX2_frame_34 : decode cX2_frame 34 = .ok (.lload_n 2, 1) := by decide +kernel
theorem dX2_frame_35 : decode cX2_frame 35 = .ok (.invokestatic 267, 3) := by decide +kernel
theorem dX2_frame_38 : decode cX2_frame 38 = .ok (.iadd, 1) := by decide +kernel
theorem dX2_frame_39 : decode cX2_frame 39 = .ok (.iload 9, 2) := by decide +kernel
theorem dX2_frame_41 : decode cX2_frame 41 = .ok (.iconst 1, 1) := by decide +kernel
theorem dX2_frame_42 : decode cX2_frame 42 = .ok (.if_icmp .le 11, 3) := by decide +kernel
theorem dX2_frame_45 : decode cX2_frame 45 = .ok (.lload 4, 2) := by decide +kernel
theorem dX2_frame_47 : decode cX2_frame 47 = .ok (.invokestatic 267, 3) := by decide +kernel
theorem dX2_frame_50 : decode cX2_frame 50 = .ok (.goto 4, 3) := by decide +kernel
theorem dX2_frame_53 : decode cX2_frame 53 = .ok (.iconst 0, 1) := by decide +kernel
theorem dX2_frame_54 : decode cX2_frame 54 = .ok (.iadd, 1) := by decide +kernel
theorem dX2_frame_55 : decode cX2_frame 55 = .ok (.iload 9, 2) := by decide +kernel
theorem dX2_frame_57 : decode cX2_frame 57 = .ok (.iconst 2, 1) := by decide +kernel
theorem dX2_frame_58 : decode cX2_frame 58 = .ok (.if_icmp .le 11, 3) := by decide +kernel
theorem dX2_frame_61 : decode cX2_frame 61 = .ok (.lload 6, 2) := by decide +kernel
theorem dX2_frame_63 : decode cX2_frame 63 = .ok (.invokestatic 267, 3) := by decide +kernel
theorem dX2_frame_66 : decode cX2_frame 66 = .ok (.goto 4, 3) := by decide +kernel
theorem dX2_frame_69 : decode cX2_frame 69 = .ok (.iconst 0, 1) := by decide +kernel
theorem dX2_frame_70 : decode cX2_frame 70 = .ok (.iadd, 1) := by decide +kernel
theorem dX2_frame_71 : decode cX2_frame 71 = .ok (.istore 10, 2) := by decide +kernel
theorem dX2_frame_73 : decode cX2_frame 73 = .ok (.iload 10, 2) := by decide +kernel
theorem dX2_frame_75 : decode cX2_frame 75 = .ok (.iload 8, 2) := by decide +kernel
theorem dX2_frame_77 : decode cX2_frame 77 = .ok (.if_icmp .le 5, 3) := by decide +kernel
theorem dX2_frame_80 : decode cX2_frame 80 = .ok (.iconst 0, 1) := by decide +kernel
theorem dX2_frame_81 : decode cX2_frame 81 = .ok (.ireturn, 1) := by decide +kernel
theorem dX2_frame_82 : decode cX2_frame 82 = .ok (.aload_n 0, 1) := by decide +kernel
theorem dX2_frame_83 : decode cX2_frame 83 = .ok (.iload_n 1, 1) := by decide +kernel
theorem dX2_frame_84 : decode cX2_frame 84 = .ok (.putfield 271, 3) := by decide +kernel
theorem dX2_frame_87 : decode cX2_frame 87 = .ok (.aload_n 0, 1) := by decide +kernel
theorem dX2_frame_88 : decode cX2_frame 88 = .ok (.lload_n 2, 1) := by decide +kernel
theorem dX2_frame_89 : decode cX2_frame 89 = .ok (.putfield 274, 3) := by decide +kernel
theorem dX2_frame_92 : decode cX2_frame 92 = .ok (.aload_n 0, 1) := by decide +kernel
theorem dX2_frame_93 : decode cX2_frame 93 = .ok (.lload 4, 2) := by decide +kernel
theorem dX2_frame_95 : decode cX2_frame 95 = .ok (.putfield 277, 3) := by decide +kernel
theorem dX2_frame_98 : decode cX2_frame 98 = .ok (.aload_n 0, 1) := by decide +kernel
theorem dX2_frame_99 : decode cX2_frame 99 = .ok (.lload 6, 2) := by decide +kernel
theorem dX2_frame_101 : decode cX2_frame 101 = .ok (.putfield 280, 3) := by decide +kernel
theorem dX2_frame_104 : decode cX2_frame 104 = .ok (.aload_n 0, 1) := by decide +kernel
theorem dX2_frame_105 : decode cX2_frame 105 = .ok (.iconst 0, 1) := by decide +kernel
theorem dX2_frame_106 : decode cX2_frame 106 = .ok (.putfield 283, 3) := by decide +kernel
theorem dX2_frame_109 : decode cX2_frame 109 = .ok (.iconst 1, 1) := by decide +kernel
theorem dX2_frame_110 : decode cX2_frame 110 = .ok (.ireturn, 1) := by decide +kernel
theorem dX2_fillsGrants_0 : decode cX2_fillsGrants 0 = .ok (.aload_n 0, 1) := by decide +kernel
theorem dX2_fillsGrants_1 : decode cX2_fillsGrants 1 = .ok (.getfield 208, 3) := by decide +kernel
theorem dX2_fillsGrants_4 : decode cX2_fillsGrants 4 = .ok (.ifCond .eq 27, 3) := by decide +kernel
theorem dX2_fillsGrants_7 : decode cX2_fillsGrants 7 = .ok (.aload_n 0, 1) := by decide +kernel
theorem dX2_fillsGrants_8 : decode cX2_fillsGrants 8 = .ok (.bipush 16, 2) := by decide +kernel
theorem dX2_fillsGrants_10 : decode cX2_fillsGrants 10 = .ok (.aload_n 0, 1) := by decide +kernel
theorem dX2_fillsGrants_11 : decode cX2_fillsGrants 11 = .ok (.getfield 76, 3) := by decide +kernel
theorem dX2_fillsGrants_14 : decode cX2_fillsGrants 14 = .ok (.i2l, 1) := by decide +kernel
theorem dX2_fillsGrants_15 : decode cX2_fillsGrants 15 = .ok (.lconst 0, 1) := by decide +kernel
theorem dX2_fillsGrants_16 : decode cX2_fillsGrants 16 = .ok (.lconst 0, 1) := by decide +kernel
theorem dX2_fillsGrants_17 : decode cX2_fillsGrants 17 = .ok (.iload_n 1, 1) := by decide +kernel
theorem dX2_fillsGrants_18 : decode cX2_fillsGrants 18 = .ok (.invokevirtual 303, 3) := by decide +kernel
theorem dX2_fillsGrants_21 : decode cX2_fillsGrants 21 = .ok (.ifCond .eq 10, 3) := by decide +kernel
theorem dX2_fillsGrants_24 : decode cX2_fillsGrants 24 = .ok (.aload_n 0, 1) := by decide +kernel
theorem dX2_fillsGrants_25 : decode cX2_fillsGrants 25 = .ok (.iconst 0, 1) := by decide +kernel
theorem dX2_fillsGrants_26 : decode cX2_fillsGrants 26 = .ok (.putfield 208, 3) := by decide +kernel
theorem dX2_fillsGrants_29 : decode cX2_fillsGrants 29 = .ok (.iconst 1, 1) := by decide +kernel
theorem dX2_fillsGrants_30 : decode cX2_fillsGrants 30 = .ok (.ireturn, 1) := by decide +kernel
theorem dX2_fillsGrants_31 : decode cX2_fillsGrants 31 = .ok (.iconst 0, 1) := by decide +kernel
theorem dX2_fillsGrants_32 : decode cX2_fillsGrants 32 = .ok (.istore_n 2, 1) := by decide +kernel
theorem dX2_fillsGrants_33 : decode cX2_fillsGrants 33 = .ok (.iload_n 2, 1) := by decide +kernel
theorem dX2_fillsGrants_34 : decode cX2_fillsGrants 34 = .ok (.sipush 256, 3) := by decide +kernel
theorem dX2_fillsGrants_37 : decode cX2_fillsGrants 37 = .ok (.if_icmp .ge 62, 3) := by decide +kernel
theorem dX2_fillsGrants_40 : decode cX2_fillsGrants 40 = .ok (.aload_n 0, 1) := by decide +kernel
theorem dX2_fillsGrants_41 : decode cX2_fillsGrants 41 = .ok (.getfield 19, 3) := by decide +kernel
theorem dX2_fillsGrants_44 : decode cX2_fillsGrants 44 = .ok (.iload_n 2, 1) := by decide +kernel
theorem dX2_fillsGrants_45 : decode cX2_fillsGrants 45 = .ok (.aaload, 1) := by decide +kernel
theorem dX2_fillsGrants_46 : decode cX2_fillsGrants 46 = .ok (.astore_n 3, 1) := by decide +kernel
theorem dX2_fillsGrants_47 : decode cX2_fillsGrants 47 = .ok (.aload_n 3, 1) := by decide +kernel
theorem dX2_fillsGrants_48 : decode cX2_fillsGrants 48 = .ok (.ifnull 45, 3) := by decide +kernel
theorem dX2_fillsGrants_51 : decode cX2_fillsGrants 51 = .ok (.aload_n 3, 1) := by decide +kernel
theorem dX2_fillsGrants_52 : decode cX2_fillsGrants 52 = .ok (.getfield 180, 3) := by decide +kernel
theorem dX2_fillsGrants_55 : decode cX2_fillsGrants 55 = .ok (.ifCond .ne 38, 3) := by decide +kernel
theorem dX2_fillsGrants_58 : decode cX2_fillsGrants 58 = .ok (.aload_n 3, 1) := by decide +kernel
theorem dX2_fillsGrants_59 : decode cX2_fillsGrants 59 = .ok (.getfield 217, 3) := by decide +kernel
theorem dX2_fillsGrants_62 : decode cX2_fillsGrants 62 = .ok (.ifCond .eq 31, 3) := by decide +kernel
theorem dX2_fillsGrants_65 : decode cX2_fillsGrants 65 = .ok (.aload_n 0, 1) := by decide +kernel
theorem dX2_fillsGrants_66 : decode cX2_fillsGrants 66 = .ok (.bipush 17, 2) := by decide +kernel
theorem dX2_fillsGrants_68 : decode cX2_fillsGrants 68 = .ok (.iload_n 2, 1) := by decide +kernel
theorem dX2_fillsGrants_69 : decode cX2_fillsGrants 69 = .ok (.i2l, 1) := by decide +kernel
theorem dX2_fillsGrants_70 : decode cX2_fillsGrants 70 = .ok (.aload_n 3, 1) := by decide +kernel
theorem dX2_fillsGrants_71 : decode cX2_fillsGrants 71 = .ok (.getfield 214, 3) := by decide +kernel
theorem dX2_fillsGrants_74 : decode cX2_fillsGrants 74 = .ok (.i2l, 1) := by decide +kernel
theorem dX2_fillsGrants_75 : decode cX2_fillsGrants 75 = .ok (.lconst 0, 1) := by decide +kernel
theorem dX2_fillsGrants_76 : decode cX2_fillsGrants 76 = .ok (.iload_n 1, 1) := by decide +kernel
theorem dX2_fillsGrants_77 : decode cX2_fillsGrants 77 = .ok (.invokevirtual 303, 3) := by decide +kernel
theorem dX2_fillsGrants_80 : decode cX2_fillsGrants 80 = .ok (.ifCond .ne 6, 3) := by decide +kernel
theorem dX2_fillsGrants_83 : decode cX2_fillsGrants 83 = .ok (.goto 10, 3) := by decide +kernel
theorem dX2_fillsGrants_86 : decode cX2_fillsGrants 86 = .ok (.aload_n 3, 1) := by decide +kernel
theorem dX2_fillsGrants_87 : decode cX2_fillsGrants 87 = .ok (.iconst 0, 1) := by decide +kernel
theorem dX2_fillsGrants_88 : decode cX2_fillsGrants 88 = .ok (.putfield 217, 3) := by decide +kernel
theorem dX2_fillsGrants_91 : decode cX2_fillsGrants 91 = .ok (.iconst 1, 1) := by decide +kernel
theorem dX2_fillsGrants_92 : decode cX2_fillsGrants 92 = .ok (.ireturn, 1) := by decide +kernel
theorem dX2_fillsGrants_93 : decode cX2_fillsGrants 93 = .ok (.iinc 2 1, 3) := by decide +kernel
theorem dX2_fillsGrants_96 : decode cX2_fillsGrants 96 = .ok (.goto (-63), 3) := by decide +kernel
theorem dX2_fillsGrants_99 : decode cX2_fillsGrants 99 = .ok (.iconst 0, 1) := by decide +kernel
theorem dX2_fillsGrants_100 : decode cX2_fillsGrants 100 = .ok (.istore_n 2, 1) := by decide +kernel
theorem dX2_fillsGrants_101 : decode cX2_fillsGrants 101 = .ok (.iload_n 2, 1) := by decide +kernel
theorem dX2_fillsGrants_102 : decode cX2_fillsGrants 102 = .ok (.iconst 2, 1) := by decide +kernel
theorem dX2_fillsGrants_103 : decode cX2_fillsGrants 103 = .ok (.if_icmp .ge 60, 3) := by decide +kernel
theorem dX2_fillsGrants_106 : decode cX2_fillsGrants 106 = .ok (.aload_n 0, 1) := by decide +kernel
theorem dX2_fillsGrants_107 : decode cX2_fillsGrants 107 = .ok (.getfield 26, 3) := by decide +kernel
theorem dX2_fillsGrants_110 : decode cX2_fillsGrants 110 = .ok (.iload_n 2, 1) := by decide +kernel
theorem dX2_fillsGrants_111 : decode cX2_fillsGrants 111 = .ok (.aaload, 1) := by decide +kernel
theorem dX2_fillsGrants_112 : decode cX2_fillsGrants 112 = .ok (.getfield 135, 3) := by decide +kernel
theorem dX2_fillsGrants_115 : decode cX2_fillsGrants 115 = .ok (.ifCond .eq 42, 3) := by decide +kernel
theorem dX2_fillsGrants_118 : decode cX2_fillsGrants 118 = .ok (.aload_n 0, 1) := by decide +kernel
theorem dX2_fillsGrants_119 : decode cX2_fillsGrants 119 = .ok (.bipush 18, 2) := by decide +kernel
theorem dX2_fillsGrants_121 : decode cX2_fillsGrants 121 = .ok (.iload_n 2, 1) := by decide +kernel
theorem dX2_fillsGrants_122 : decode cX2_fillsGrants 122 = .ok (.iadd, 1) := by decide +kernel
theorem dX2_fillsGrants_123 : decode cX2_fillsGrants 123 = .ok (.aload_n 0, 1) := by decide +kernel
theorem dX2_fillsGrants_124 : decode cX2_fillsGrants 124 = .ok (.getfield 26, 3) := by decide +kernel
theorem dX2_fillsGrants_127 : decode cX2_fillsGrants 127 = .ok (.iload_n 2, 1) := by decide +kernel
theorem dX2_fillsGrants_128 : decode cX2_fillsGrants 128 = .ok (.aaload, 1) := by decide +kernel
theorem dX2_fillsGrants_129 : decode cX2_fillsGrants 129 = .ok (.getfield 79, 3) := by decide +kernel
theorem dX2_fillsGrants_132 : decode cX2_fillsGrants 132 = .ok (.i2l, 1) := by decide +kernel
theorem dX2_fillsGrants_133 : decode cX2_fillsGrants 133 = .ok (.lconst 0, 1) := by decide +kernel
theorem dX2_fillsGrants_134 : decode cX2_fillsGrants 134 = .ok (.lconst 0, 1) := by decide +kernel
theorem dX2_fillsGrants_135 : decode cX2_fillsGrants 135 = .ok (.iload_n 1, 1) := by decide +kernel
theorem dX2_fillsGrants_136 : decode cX2_fillsGrants 136 = .ok (.invokevirtual 303, 3) := by decide +kernel
theorem dX2_fillsGrants_139 : decode cX2_fillsGrants 139 = .ok (.ifCond .ne 6, 3) := by decide +kernel
theorem dX2_fillsGrants_142 : decode cX2_fillsGrants 142 = .ok (.goto 15, 3) := by decide +kernel
theorem dX2_fillsGrants_145 : decode cX2_fillsGrants 145 = .ok (.aload_n 0, 1) := by decide +kernel
theorem dX2_fillsGrants_146 : decode cX2_fillsGrants 146 = .ok (.getfield 26, 3) := by decide +kernel
theorem dX2_fillsGrants_149 : decode cX2_fillsGrants 149 = .ok (.iload_n 2, 1) := by decide +kernel
theorem dX2_fillsGrants_150 : decode cX2_fillsGrants 150 = .ok (.aaload, 1) := by decide +kernel
theorem dX2_fillsGrants_151 : decode cX2_fillsGrants 151 = .ok (.iconst 0, 1) := by decide +kernel
theorem dX2_fillsGrants_152 : decode cX2_fillsGrants 152 = .ok (.putfield 135, 3) := by decide +kernel
theorem dX2_fillsGrants_155 : decode cX2_fillsGrants 155 = .ok (.iconst 1, 1) := by decide +kernel
theorem dX2_fillsGrants_156 : decode cX2_fillsGrants 156 = .ok (.ireturn, 1) := by decide +kernel
theorem dX2_fillsGrants_157 : decode cX2_fillsGrants 157 = .ok (.iinc 2 1, 3) := by decide +kernel
theorem dX2_fillsGrants_160 : decode cX2_fillsGrants 160 = .ok (.goto (-59), 3) := by decide +kernel
theorem dX2_fillsGrants_163 : decode cX2_fillsGrants 163 = .ok (.iconst 0, 1) := by decide +kernel
theorem dX2_fillsGrants_164 : decode cX2_fillsGrants 164 = .ok (.ireturn, 1) := by decide +kernel
theorem dX2_fillsBlocked_0 : decode cX2_fillsBlocked 0 = .ok (.iconst 0, 1) := by decide +kernel
theorem dX2_fillsBlocked_1 : decode cX2_fillsBlocked 1 = .ok (.istore_n 2, 1) := by decide +kernel
theorem dX2_fillsBlocked_2 : decode cX2_fillsBlocked 2 = .ok (.iconst 0, 1) := by decide +kernel
theorem dX2_fillsBlocked_3 : decode cX2_fillsBlocked 3 = .ok (.istore_n 3, 1) := by decide +kernel
theorem dX2_fillsBlocked_4 : decode cX2_fillsBlocked 4 = .ok (.iload_n 3, 1) := by decide +kernel
theorem dX2_fillsBlocked_5 : decode cX2_fillsBlocked 5 = .ok (.sipush 256, 3) := by decide +kernel
theorem dX2_fillsBlocked_8 : decode cX2_fillsBlocked 8 = .ok (.if_icmp .ge 44, 3) := by decide +kernel
theorem dX2_fillsBlocked_11 : decode cX2_fillsBlocked 11 = .ok (.aload_n 0, 1) := by decide +kernel
theorem dX2_fillsBlocked_12 : decode cX2_fillsBlocked 12 = .ok (.getfield 310, 3) := by decide +kernel
theorem dX2_fillsBlocked_15 : decode cX2_fillsBlocked 15 = .ok (.i2l, 1) := by decide +kernel
theorem dX2_fillsBlocked_16 : decode cX2_fillsBlocked 16 = .ok (.aload_n 0, 1) := by decide +kernel
theorem dX2_fillsBlocked_17 : decode cX2_fillsBlocked 17 = .ok (.getfield 82, 3) := by decide +kernel
theorem dX2_fillsBlocked_20 : decode cX2_fillsBlocked 20 = .ok (.lcmp, 1) := by decide +kernel
theorem dX2_fillsBlocked_21 : decode cX2_fillsBlocked 21 = .ok (.ifCond .ne 31, 3) := by decide +kernel
theorem dX2_fillsBlocked_24 : decode cX2_fillsBlocked 24 = .ok (.iload_n 2, 1) := by decide +kernel
theorem dX2_fillsBlocked_25 : decode cX2_fillsBlocked 25 = .ok (.ifCond .ne 15, 3) := by decide +kernel
theorem dX2_fillsBlocked_28 : decode cX2_fillsBlocked 28 = .ok (.aload_n 0, 1) := by decide +kernel
theorem dX2_fillsBlocked_29 : decode cX2_fillsBlocked 29 = .ok (.getfield 11, 3) := by decide +kernel
theorem dX2_fillsBlocked_32 : decode cX2_fillsBlocked 32 = .ok (.iload_n 3, 1) := by decide +kernel
theorem dX2_fillsBlocked_33 : decode cX2_fillsBlocked 33 = .ok (.aaload, 1) := by decide +kernel
theorem dX2_fillsBlocked_34 : decode cX2_fillsBlocked 34 = .ok (.invokestatic 313, 3) := by decide +kernel
theorem dX2_fillsBlocked_37 : decode cX2_fillsBlocked 37 = .ok (.ifCond .eq 7, 3) := by decide +kernel
theorem dX2_fillsBlocked_40 : decode cX2_fillsBlocked 40 = .ok (.iconst 1, 1) := by decide +kernel
theorem dX2_fillsBlocked_41 : decode cX2_fillsBlocked 41 = .ok (.goto 4, 3) := by decide +kernel
theorem dX2_fillsBlocked_44 : decode cX2_fillsBlocked 44 = .ok (.iconst 0, 1) := by decide +kernel
theorem dX2_fillsBlocked_45 : decode cX2_fillsBlocked 45 = .ok (.istore_n 2, 1) := by decide +kernel
theorem dX2_fillsBlocked_46 : decode cX2_fillsBlocked 46 = .ok (.iinc 3 1, 3) := by decide +kernel
theorem dX2_fillsBlocked_49 : decode cX2_fillsBlocked 49 = .ok (.goto (-45), 3) := by decide +kernel
theorem dX2_fillsBlocked_52 : decode cX2_fillsBlocked 52 = .ok (.iload_n 2, 1) := by decide +kernel
theorem dX2_fillsBlocked_53 : decode cX2_fillsBlocked 53 = .ok (.ifCond .eq 41, 3) := by decide +kernel
theorem dX2_fillsBlocked_56 : decode cX2_fillsBlocked 56 = .ok (.aload_n 0, 1) := by decide +kernel
theorem dX2_fillsBlocked_57 : decode cX2_fillsBlocked 57 = .ok (.getfield 61, 3) := by decide +kernel
theorem dX2_fillsBlocked_60 : decode cX2_fillsBlocked 60 = .ok (.aload_n 0, 1) := by decide +kernel
theorem dX2_fillsBlocked_61 : decode cX2_fillsBlocked 61 = .ok (.getfield 82, 3) := by decide +kernel
theorem dX2_fillsBlocked_64 : decode cX2_fillsBlocked 64 = .ok (.lcmp, 1) := by decide +kernel
theorem dX2_fillsBlocked_65 : decode cX2_fillsBlocked 65 = .ok (.ifCond .eq 29, 3) := by decide +kernel
theorem dX2_fillsBlocked_68 : decode cX2_fillsBlocked 68 = .ok (.aload_n 0, 1) := by decide +kernel
theorem dX2_fillsBlocked_69 : decode cX2_fillsBlocked 69 = .ok (.bipush 20, 2) := by decide +kernel
theorem dX2_fillsBlocked_71 : decode cX2_fillsBlocked 71 = .ok (.aload_n 0, 1) := by decide +kernel
theorem dX2_fillsBlocked_72 : decode cX2_fillsBlocked 72 = .ok (.getfield 82, 3) := by decide +kernel
theorem dX2_fillsBlocked_75 : decode cX2_fillsBlocked 75 = .ok (.lconst 0, 1) := by decide +kernel
theorem dX2_fillsBlocked_76 : decode cX2_fillsBlocked 76 = .ok (.lconst 0, 1) := by decide +kernel
theorem dX2_fillsBlocked_77 : decode cX2_fillsBlocked 77 = .ok (.iload_n 1, 1) := by decide +kernel
theorem dX2_fillsBlocked_78 : decode cX2_fillsBlocked 78 = .ok (.invokevirtual 303, 3) := by decide +kernel
theorem dX2_fillsBlocked_81 : decode cX2_fillsBlocked 81 = .ok (.ifCond .eq 13, 3) := by decide +kernel
theorem dX2_fillsBlocked_84 : decode cX2_fillsBlocked 84 = .ok (.aload_n 0, 1) := by decide +kernel
theorem dX2_fillsBlocked_85 : decode cX2_fillsBlocked 85 = .ok (.aload_n 0, 1) := by decide +kernel
theorem dX2_fillsBlocked_86 : decode cX2_fillsBlocked 86 = .ok (.getfield 82, 3) := by decide +kernel
theorem dX2_fillsBlocked_89 : decode cX2_fillsBlocked 89 = .ok (.putfield 61, 3) := by decide +kernel
theorem dX2_fillsBlocked_92 : decode cX2_fillsBlocked 92 = .ok (.iconst 1, 1) := by decide +kernel
theorem dX2_fillsBlocked_93 : decode cX2_fillsBlocked 93 = .ok (.ireturn, 1) := by decide +kernel
theorem dX2_fillsBlocked_94 : decode cX2_fillsBlocked 94 = .ok (.iconst 0, 1) := by decide +kernel
theorem dX2_fillsBlocked_95 : decode cX2_fillsBlocked 95 = .ok (.istore_n 3, 1) := by decide +kernel
theorem dX2_fillsBlocked_96 : decode cX2_fillsBlocked 96 = .ok (.iload_n 3, 1) := by decide +kernel
theorem dX2_fillsBlocked_97 : decode cX2_fillsBlocked 97 = .ok (.sipush 256, 3) := by decide +kernel
theorem dX2_fillsBlocked_100 : decode cX2_fillsBlocked 100 = .ok (.if_icmp .ge 87, 3) := by decide +kernel
theorem dX2_fillsBlocked_103 : decode cX2_fillsBlocked 103 = .ok (.aload_n 0, 1) := by decide +kernel
theorem dX2_fillsBlocked_104 : decode cX2_fillsBlocked 104 = .ok (.getfield 11, 3) := by decide +kernel
theorem dX2_fillsBlocked_107 : decode cX2_fillsBlocked 107 = .ok (.iload_n 3, 1) := by decide +kernel
theorem dX2_fillsBlocked_108 : decode cX2_fillsBlocked 108 = .ok (.aaload, 1) := by decide +kernel
theorem dX2_fillsBlocked_109 : decode cX2_fillsBlocked 109 = .ok (.astore 4, 2) := by decide +kernel
theorem dX2_fillsBlocked_111 : decode cX2_fillsBlocked 111 = .ok (.aload 4, 2) := by decide +kernel
theorem dX2_fillsBlocked_113 : decode cX2_fillsBlocked 113 = .ok (.invokestatic 313, 3) := by decide +kernel
theorem dX2_fillsBlocked_116 : decode cX2_fillsBlocked 116 = .ok (.ifCond .eq 65, 3) := by decide +kernel
theorem dX2_fillsBlocked_119 : decode cX2_fillsBlocked 119 = .ok (.aload 4, 2) := by decide +kernel
theorem dX2_fillsBlocked_121 : decode cX2_fillsBlocked 121 = .ok (.getfield 300, 3) := by decide +kernel
theorem dX2_fillsBlocked_124 : decode cX2_fillsBlocked 124 = .ok (.i2l, 1) := by decide +kernel
theorem dX2_fillsBlocked_125 : decode cX2_fillsBlocked 125 = .ok (.aload 4, 2) := by decide +kernel
theorem dX2_fillsBlocked_127 : decode cX2_fillsBlocked 127 = .ok (.getfield 244, 3) := by decide +kernel
theorem dX2_fillsBlocked_130 : decode cX2_fillsBlocked 130 = .ok (.lcmp, 1) := by decide +kernel
theorem dX2_fillsBlocked_131 : decode cX2_fillsBlocked 131 = .ok (.ifCond .ne 50, 3) := by decide +kernel
theorem dX2_fillsBlocked_134 : decode cX2_fillsBlocked 134 = .ok (.aload 4, 2) := by decide +kernel
theorem dX2_fillsBlocked_136 : decode cX2_fillsBlocked 136 = .ok (.getfield 317, 3) := by decide +kernel
theorem dX2_fillsBlocked_139 : decode cX2_fillsBlocked 139 = .ok (.aload 4, 2) := by decide +kernel
theorem dX2_fillsBlocked_141 : decode cX2_fillsBlocked 141 = .ok (.getfield 244, 3) := by decide +kernel
theorem dX2_fillsBlocked_144 : decode cX2_fillsBlocked 144 = .ok (.lcmp, 1) := by decide +kernel
theorem dX2_fillsBlocked_145 : decode cX2_fillsBlocked 145 = .ok (.ifCond .eq 36, 3) := by decide +kernel
theorem dX2_fillsBlocked_148 : decode cX2_fillsBlocked 148 = .ok (.aload_n 0, 1) := by decide +kernel
theorem dX2_fillsBlocked_149 : decode cX2_fillsBlocked 149 = .ok (.bipush 21, 2) := by decide +kernel
theorem dX2_fillsBlocked_151 : decode cX2_fillsBlocked 151 = .ok (.iload_n 3, 1) := by decide +kernel
theorem dX2_fillsBlocked_152 : decode cX2_fillsBlocked 152 = .ok (.i2l, 1) := by decide +kernel
theorem dX2_fillsBlocked_153 : decode cX2_fillsBlocked 153 = .ok (.aload 4, 2) := by decide +kernel
theorem dX2_fillsBlocked_155 : decode cX2_fillsBlocked 155 = .ok (.getfield 244, 3) := by decide +kernel
theorem dX2_fillsBlocked_158 : decode cX2_fillsBlocked 158 = .ok (.lconst 0, 1) := by decide +kernel
theorem dX2_fillsBlocked_159 : decode cX2_fillsBlocked 159 = .ok (.iload_n 1, 1) := by decide +kernel
theorem dX2_fillsBlocked_160 : decode cX2_fillsBlocked 160 = .ok (.invokevirtual 303, 3) := by decide +kernel
theorem dX2_fillsBlocked_163 : decode cX2_fillsBlocked 163 = .ok (.ifCond .ne 6, 3) := by decide +kernel
theorem dX2_fillsBlocked_166 : decode cX2_fillsBlocked 166 = .ok (.goto 15, 3) := by decide +kernel
theorem dX2_fillsBlocked_169 : decode cX2_fillsBlocked 169 = .ok (.aload 4, 2) := by decide +kernel
theorem dX2_fillsBlocked_171 : decode cX2_fillsBlocked 171 = .ok (.aload 4, 2) := by decide +kernel
theorem dX2_fillsBlocked_173 : decode cX2_fillsBlocked 173 = .ok (.getfield 244, 3) := by decide +kernel
theorem dX2_fillsBlocked_176 : decode cX2_fillsBlocked 176 = .ok (.putfield 317, 3) := by decide +kernel
theorem dX2_fillsBlocked_179 : decode cX2_fillsBlocked 179 = .ok (.iconst 1, 1) := by decide +kernel
theorem dX2_fillsBlocked_180 : decode cX2_fillsBlocked 180 = .ok (.ireturn, 1) := by decide +kernel
theorem dX2_fillsBlocked_181 : decode cX2_fillsBlocked 181 = .ok (.iinc 3 1, 3) := by decide +kernel
theorem dX2_fillsBlocked_184 : decode cX2_fillsBlocked 184 = .ok (.goto (-88), 3) := by decide +kernel
theorem dX2_fillsBlocked_187 : decode cX2_fillsBlocked 187 = .ok (.iconst 0, 1) := by decide +kernel
theorem dX2_fillsBlocked_188 : decode cX2_fillsBlocked 188 = .ok (.istore_n 3, 1) := by decide +kernel
theorem dX2_fillsBlocked_189 : decode cX2_fillsBlocked 189 = .ok (.iload_n 3, 1) := by decide +kernel
theorem dX2_fillsBlocked_190 : decode cX2_fillsBlocked 190 = .ok (.iconst 2, 1) := by decide +kernel
theorem dX2_fillsBlocked_191 : decode cX2_fillsBlocked 191 = .ok (.if_icmp .ge 79, 3) := by decide +kernel
theorem dX2_fillsBlocked_194 : decode cX2_fillsBlocked 194 = .ok (.aload_n 0, 1) := by decide +kernel
theorem dX2_fillsBlocked_195 : decode cX2_fillsBlocked 195 = .ok (.getfield 26, 3) := by decide +kernel
theorem dX2_fillsBlocked_198 : decode cX2_fillsBlocked 198 = .ok (.iload_n 3, 1) := by decide +kernel
theorem dX2_fillsBlocked_199 : decode cX2_fillsBlocked 199 = .ok (.aaload, 1) := by decide +kernel
theorem dX2_fillsBlocked_200 : decode cX2_fillsBlocked 200 = .ok (.astore 4, 2) := by decide +kernel
theorem dX2_fillsBlocked_202 : decode cX2_fillsBlocked 202 = .ok (.aload 4, 2) := by decide +kernel
theorem dX2_fillsBlocked_204 : decode cX2_fillsBlocked 204 = .ok (.getfield 118, 3) := by decide +kernel
theorem dX2_fillsBlocked_207 : decode cX2_fillsBlocked 207 = .ok (.aload 4, 2) := by decide +kernel
theorem dX2_fillsBlocked_209 : decode cX2_fillsBlocked 209 = .ok (.getfield 93, 3) := by decide +kernel
theorem dX2_fillsBlocked_212 : decode cX2_fillsBlocked 212 = .ok (.lcmp, 1) := by decide +kernel
theorem dX2_fillsBlocked_213 : decode cX2_fillsBlocked 213 = .ok (.ifCond .ne 51, 3) := by decide +kernel
theorem dX2_fillsBlocked_216 : decode cX2_fillsBlocked 216 = .ok (.aload 4, 2) := by decide +kernel
theorem dX2_fillsBlocked_218 : decode cX2_fillsBlocked 218 = .ok (.getfield 318, 3) := by decide +kernel
theorem dX2_fillsBlocked_221 : decode cX2_fillsBlocked 221 = .ok (.aload 4, 2) := by decide +kernel
theorem dX2_fillsBlocked_223 : decode cX2_fillsBlocked 223 = .ok (.getfield 93, 3) := by decide +kernel
theorem dX2_fillsBlocked_226 : decode cX2_fillsBlocked 226 = .ok (.lcmp, 1) := by decide +kernel
theorem dX2_fillsBlocked_227 : decode cX2_fillsBlocked 227 = .ok (.ifCond .eq 37, 3) := by decide +kernel
theorem dX2_fillsBlocked_230 : decode cX2_fillsBlocked 230 = .ok (.aload_n 0, 1) := by decide +kernel
theorem dX2_fillsBlocked_231 : decode cX2_fillsBlocked 231 = .ok (.bipush 22, 2) := by decide +kernel
theorem dX2_fillsBlocked_233 : decode cX2_fillsBlocked 233 = .ok (.iload_n 3, 1) := by decide +kernel
theorem dX2_fillsBlocked_234 : decode cX2_fillsBlocked 234 = .ok (.iadd, 1) := by decide +kernel
theorem dX2_fillsBlocked_235 : decode cX2_fillsBlocked 235 = .ok (.aload 4, 2) := by decide +kernel
theorem dX2_fillsBlocked_237 : decode cX2_fillsBlocked 237 = .ok (.getfield 93, 3) := by decide +kernel
theorem dX2_fillsBlocked_240 : decode cX2_fillsBlocked 240 = .ok (.lconst 0, 1) := by decide +kernel
theorem dX2_fillsBlocked_241 : decode cX2_fillsBlocked 241 = .ok (.lconst 0, 1) := by decide +kernel
theorem dX2_fillsBlocked_242 : decode cX2_fillsBlocked 242 = .ok (.iload_n 1, 1) := by decide +kernel
theorem dX2_fillsBlocked_243 : decode cX2_fillsBlocked 243 = .ok (.invokevirtual 303, 3) := by decide +kernel
theorem dX2_fillsBlocked_246 : decode cX2_fillsBlocked 246 = .ok (.ifCond .ne 6, 3) := by decide +kernel
theorem dX2_fillsBlocked_249 : decode cX2_fillsBlocked 249 = .ok (.goto 15, 3) := by decide +kernel
theorem dX2_fillsBlocked_252 : decode cX2_fillsBlocked 252 = .ok (.aload 4, 2) := by decide +kernel
theorem dX2_fillsBlocked_254 : decode cX2_fillsBlocked 254 = .ok (.aload 4, 2) := by decide +kernel
theorem dX2_fillsBlocked_256 : decode cX2_fillsBlocked 256 = .ok (.getfield 93, 3) := by decide +kernel
theorem dX2_fillsBlocked_259 : decode cX2_fillsBlocked 259 = .ok (.putfield 318, 3) := by decide +kernel
theorem dX2_fillsBlocked_262 : decode cX2_fillsBlocked 262 = .ok (.iconst 1, 1) := by decide +kernel
theorem dX2_fillsBlocked_263 : decode cX2_fillsBlocked 263 = .ok (.ireturn, 1) := by decide +kernel
theorem dX2_fillsBlocked_264 : decode cX2_fillsBlocked 264 = .ok (.iinc 3 1, 3) := by decide +kernel
theorem dX2_fillsBlocked_267 : decode cX2_fillsBlocked 267 = .ok (.goto (-78), 3) := by decide +kernel
theorem dX2_fillsBlocked_270 : decode cX2_fillsBlocked 270 = .ok (.iconst 0, 1) := by decide +kernel
theorem dX2_fillsBlocked_271 : decode cX2_fillsBlocked 271 = .ok (.ireturn, 1) := by decide +kernel
theorem dX2_waits_0 : decode cX2_waits 0 = .ok (.aload_n 0, 1) := by decide +kernel
theorem dX2_waits_1 : decode cX2_waits 1 = .ok (.ifnull 25, 3) := by decide +kernel
theorem dX2_waits_4 : decode cX2_waits 4 = .ok (.aload_n 0, 1) := by decide +kernel
theorem dX2_waits_5 : decode cX2_waits 5 = .ok (.invokevirtual 160, 3) := by decide +kernel
theorem dX2_waits_8 : decode cX2_waits 8 = .ok (.ifCond .eq 18, 3) := by decide +kernel
theorem dX2_waits_11 : decode cX2_waits 11 = .ok (.aload_n 0, 1) := by decide +kernel
theorem dX2_waits_12 : decode cX2_waits 12 = .ok (.getfield 307, 3) := by decide +kernel
theorem dX2_waits_15 : decode cX2_waits 15 = .ok (.aload_n 0, 1) := by decide +kernel
theorem dX2_waits_16 : decode cX2_waits 16 = .ok (.getfield 300, 3) := by decide +kernel
theorem dX2_waits_19 : decode cX2_waits 19 = .ok (.if_icmp .le 7, 3) := by decide +kernel
theorem dX2_waits_22 : decode cX2_waits 22 = .ok (.iconst 1, 1) := by decide +kernel
theorem dX2_waits_23 : decode cX2_waits 23 = .ok (.goto 4, 3) := by decide +kernel
theorem dX2_waits_26 : decode cX2_waits 26 = .ok (.iconst 0, 1) := by decide +kernel
theorem dX2_waits_27 : decode cX2_waits 27 = .ok (.ireturn, 1) := by decide +kernel
theorem dX2_fillsStream_0 : decode cX2_fillsStream 0 = .ok (.iconst 1, 1) := by decide +kernel
theorem dX2_fillsStream_1 : decode cX2_fillsStream 1 = .ok (.istore_n 2, 1) := by decide +kernel
theorem dX2_fillsStream_2 : decode cX2_fillsStream 2 = .ok (.iload_n 2, 1) := by decide +kernel
theorem dX2_fillsStream_3 : decode cX2_fillsStream 3 = .ok (.sipush 256, 3) := by decide +kernel
theorem dX2_fillsStream_6 : decode cX2_fillsStream 6 = .ok (.if_icmp .gt 62, 3) := by decide +kernel
theorem dX2_fillsStream_9 : decode cX2_fillsStream 9 = .ok (.aload_n 0, 1) := by decide +kernel
theorem dX2_fillsStream_10 : decode cX2_fillsStream 10 = .ok (.getfield 65, 3) := by decide +kernel
theorem dX2_fillsStream_13 : decode cX2_fillsStream 13 = .ok (.iload_n 2, 1) := by decide +kernel
theorem dX2_fillsStream_14 : decode cX2_fillsStream 14 = .ok (.iadd, 1) := by decide +kernel
theorem dX2_fillsStream_15 : decode cX2_fillsStream 15 = .ok (.sipush 256, 3) := by decide +kernel
theorem dX2_fillsStream_18 : decode cX2_fillsStream 18 = .ok (.irem, 1) := by decide +kernel
theorem dX2_fillsStream_19 : decode cX2_fillsStream 19 = .ok (.istore_n 3, 1) := by decide +kernel
theorem dX2_fillsStream_20 : decode cX2_fillsStream 20 = .ok (.aload_n 0, 1) := by decide +kernel
theorem dX2_fillsStream_21 : decode cX2_fillsStream 21 = .ok (.getfield 11, 3) := by decide +kernel
theorem dX2_fillsStream_24 : decode cX2_fillsStream 24 = .ok (.iload_n 3, 1) := by decide +kernel
theorem dX2_fillsStream_25 : decode cX2_fillsStream 25 = .ok (.aaload, 1) := by decide +kernel
theorem dX2_fillsStream_26 : decode cX2_fillsStream 26 = .ok (.astore 4, 2) := by decide +kernel
theorem dX2_fillsStream_28 : decode cX2_fillsStream 28 = .ok (.aload 4, 2) := by decide +kernel
theorem dX2_fillsStream_30 : decode cX2_fillsStream 30 = .ok (.ifnull 32, 3) := by decide +kernel
theorem dX2_fillsStream_33 : decode cX2_fillsStream 33 = .ok (.aload 4, 2) := by decide +kernel
theorem dX2_fillsStream_35 : decode cX2_fillsStream 35 = .ok (.invokevirtual 160, 3) := by decide +kernel
theorem dX2_fillsStream_38 : decode cX2_fillsStream 38 = .ok (.ifCond .eq 24, 3) := by decide +kernel
theorem dX2_fillsStream_41 : decode cX2_fillsStream 41 = .ok (.aload_n 0, 1) := by decide +kernel
theorem dX2_fillsStream_42 : decode cX2_fillsStream 42 = .ok (.iload_n 3, 1) := by decide +kernel
theorem dX2_fillsStream_43 : decode cX2_fillsStream 43 = .ok (.aload 4, 2) := by decide +kernel
theorem dX2_fillsStream_45 : decode cX2_fillsStream 45 = .ok (.iload_n 1, 1) := by decide +kernel
theorem dX2_fillsStream_46 : decode cX2_fillsStream 46 = .ok (.invokevirtual 321, 3) := by decide +kernel
theorem dX2_fillsStream_49 : decode cX2_fillsStream 49 = .ok (.ifCond .ne 6, 3) := by decide +kernel
theorem dX2_fillsStream_52 : decode cX2_fillsStream 52 = .ok (.goto 10, 3) := by decide +kernel
theorem dX2_fillsStream_55 : decode cX2_fillsStream 55 = .ok (.aload_n 0, 1) := by decide +kernel
theorem dX2_fillsStream_56 : decode cX2_fillsStream 56 = .ok (.iload_n 3, 1) := by decide +kernel
theorem dX2_fillsStream_57 : decode cX2_fillsStream 57 = .ok (.putfield 65, 3) := by decide +kernel
theorem dX2_fillsStream_60 : decode cX2_fillsStream 60 = .ok (.iconst 1, 1) := by decide +kernel
theorem dX2_fillsStream_61 : decode cX2_fillsStream 61 = .ok (.ireturn, 1) := by decide +kernel
theorem dX2_fillsStream_62 : decode cX2_fillsStream 62 = .ok (.iinc 2 1, 3) := by decide +kernel
theorem dX2_fillsStream_65 : decode cX2_fillsStream 65 = .ok (.goto (-63), 3) := by decide +kernel
theorem dX2_fillsStream_68 : decode cX2_fillsStream 68 = .ok (.iconst 0, 1) := by decide +kernel
theorem dX2_fillsStream_69 : decode cX2_fillsStream 69 = .ok (.ireturn, 1) := by decide +kernel
theorem dX2_fills_0 : decode cX2_fills 0 = .ok (.aload_n 2, 1) := by decide +kernel
theorem dX2_fills_1 : decode cX2_fills 1 = .ok (.getfield 325, 3) := by decide +kernel
theorem dX2_fills_4 : decode cX2_fills 4 = .ok (.iconst (-1), 1) := by decide +kernel
theorem dX2_fills_5 : decode cX2_fills 5 = .ok (.if_icmp .eq 7, 3) := by decide +kernel
theorem dX2_fills_8 : decode cX2_fills 8 = .ok (.iconst 1, 1) := by decide +kernel
theorem dX2_fills_9 : decode cX2_fills 9 = .ok (.goto 4, 3) := by decide +kernel
theorem dX2_fills_12 : decode cX2_fills 12 = .ok (.iconst 0, 1) := by decide +kernel
theorem dX2_fills_13 : decode cX2_fills 13 = .ok (.istore 4, 2) := by decide +kernel
theorem dX2_fills_15 : decode cX2_fills 15 = .ok (.iload 4, 2) := by decide +kernel
theorem dX2_fills_17 : decode cX2_fills 17 = .ok (.ifCond .eq 18, 3) := by decide +kernel
theorem dX2_fills_20 : decode cX2_fills 20 = .ok (.aload_n 0, 1) := by decide +kernel
theorem dX2_fills_21 : decode cX2_fills 21 = .ok (.getfield 41, 3) := by decide +kernel
theorem dX2_fills_24 : decode cX2_fills 24 = .ok (.getfield 328, 3) := by decide +kernel
theorem dX2_fills_27 : decode cX2_fills 27 = .ok (.aload_n 2, 1) := by decide +kernel
theorem dX2_fills_28 : decode cX2_fills 28 = .ok (.getfield 325, 3) := by decide +kernel
theorem dX2_fills_31 : decode cX2_fills 31 = .ok (.iaload, 1) := by decide +kernel
theorem dX2_fills_32 : decode cX2_fills 32 = .ok (.goto 7, 3) := by decide +kernel
theorem dX2_fills_35 : decode cX2_fills 35 = .ok (.aload_n 2, 1) := by decide +kernel
theorem dX2_fills_36 : decode cX2_fills 36 = .ok (.getfield 300, 3) := by decide +kernel
theorem dX2_fills_39 : decode cX2_fills 39 = .ok (.istore 5, 2) := by decide +kernel
theorem dX2_fills_41 : decode cX2_fills 41 = .ok (.aload_n 2, 1) := by decide +kernel
theorem dX2_fills_42 : decode cX2_fills 42 = .ok (.getfield 307, 3) := by decide +kernel
theorem dX2_fills_45 : decode cX2_fills 45 = .ok (.i2l, 1) := by decide +kernel
theorem dX2_fills_46 : decode cX2_fills 46 = .ok (.aload_n 2, 1) := by decide +kernel
theorem dX2_fills_47 : decode cX2_fills 47 = .ok (.getfield 244, 3) := by decide +kernel
theorem dX2_fills_50 : decode cX2_fills 50 = .ok (.aload_n 2, 1) := by decide +kernel
theorem dX2_fills_51 : decode cX2_fills 51 = .ok (.getfield 300, 3) := by decide +kernel
theorem dX2_fills_54 : decode cX2_fills 54 = .ok (.i2l, 1) := by decide +kernel
theorem dX2_fills_55 : decode cX2_fills 55 = .ok (.aload_n 0, 1) := by decide +kernel
theorem dX2_fills_56 : decode cX2_fills 56 = .ok (.getfield 82, 3) := by decide +kernel
theorem dX2_fills_59 : decode cX2_fills 59 = .ok (.ladd, 1) := by decide +kernel
theorem dX2_fills_60 : decode cX2_fills 60 = .ok (.aload_n 0, 1) := by decide +kernel
theorem dX2_fills_61 : decode cX2_fills 61 = .ok (.getfield 310, 3) := by decide +kernel
theorem dX2_fills_64 : decode cX2_fills 64 = .ok (.i2l, 1) := by decide +kernel
theorem dX2_fills_65 : decode cX2_fills 65 = .ok (.lsub, 1) := by decide +kernel
theorem dX2_fills_66 : decode cX2_fills 66 = .ok (.invokestatic 87, 3) := by decide +kernel
theorem dX2_fills_69 : decode cX2_fills 69 = .ok (.invokestatic 87, 3) := by decide +kernel
theorem dX2_fills_72 : decode cX2_fills 72 = .ok (.lstore 6, 2) := by decide +kernel
theorem dX2_fills_74 : decode cX2_fills 74 = .ok (.iload 4, 2) := by decide +kernel
theorem dX2_fills_76 : decode cX2_fills 76 = .ok (.ifCond .eq 21, 3) := by decide +kernel
theorem dX2_fills_79 : decode cX2_fills 79 = .ok (.aload_n 0, 1) := by decide +kernel
theorem dX2_fills_80 : decode cX2_fills 80 = .ok (.getfield 41, 3) := by decide +kernel
theorem dX2_fills_83 : decode cX2_fills 83 = .ok (.getfield 331, 3) := by decide +kernel
theorem dX2_fills_86 : decode cX2_fills 86 = .ok (.aload_n 2, 1) := by decide +kernel
theorem dX2_fills_87 : decode cX2_fills 87 = .ok (.getfield 325, 3) := by decide +kernel
theorem dX2_fills_90 : decode cX2_fills 90 = .ok (.iaload, 1) := by decide +kernel
theorem dX2_fills_91 : decode cX2_fills 91 = .ok (.iload 5, 2) := by decide +kernel
theorem dX2_fills_93 : decode cX2_fills 93 = .ok (.isub, 1) := by decide +kernel
theorem dX2_fills_94 : decode cX2_fills 94 = .ok (.goto 16, 3) := by decide +kernel
theorem dX2_fills_97 : decode cX2_fills 97 = .ok (.lload 6, 2) := by decide +kernel
theorem dX2_fills_99 : decode cX2_fills 99 = .ok (.aload_n 2, 1) := by decide +kernel
theorem dX2_fills_100 : decode cX2_fills 100 = .ok (.getfield 300, 3) := by decide +kernel
theorem dX2_fills_103 : decode cX2_fills 103 = .ok (.i2l, 1) := by decide +kernel
theorem dX2_fills_104 : decode cX2_fills 104 = .ok (.lsub, 1) := by decide +kernel
theorem dX2_fills_105 : decode cX2_fills 105 = .ok (.lconst 0, 1) := by decide +kernel
theorem dX2_fills_106 : decode cX2_fills 106 = .ok (.invokestatic 229, 3) := by decide +kernel
theorem dX2_fills_109 : decode cX2_fills 109 = .ok (.l2i, 1) := by decide +kernel
theorem dX2_fills_110 : decode cX2_fills 110 = .ok (.istore 8, 2) := by decide +kernel
theorem dX2_fills_112 : decode cX2_fills 112 = .ok (.iload 8, 2) := by decide +kernel
theorem dX2_fills_114 : decode cX2_fills 114 = .ok (.ifCond .ne 34, 3) := by decide +kernel
theorem dX2_fills_117 : decode cX2_fills 117 = .ok (.aload_n 2, 1) := by decide +kernel
theorem dX2_fills_118 : decode cX2_fills 118 = .ok (.getfield 300, 3) := by decide +kernel
theorem dX2_fills_121 : decode cX2_fills 121 = .ok (.aload_n 2, 1) := by decide +kernel
theorem dX2_fills_122 : decode cX2_fills 122 = .ok (.getfield 307, 3) := by decide +kernel
theorem dX2_fills_125 : decode cX2_fills 125 = .ok (.if_icmp .ne 23, 3) := by decide +kernel
theorem dX2_fills_128 : decode cX2_fills 128 = .ok (.aload_n 2, 1) := by decide +kernel
theorem dX2_fills_129 : decode cX2_fills 129 = .ok (.getfield 157, 3) := by decide +kernel
theorem dX2_fills_132 : decode cX2_fills 132 = .ok (.iconst 1, 1) := by decide +kernel
theorem dX2_fills_133 : decode cX2_fills 133 = .ok (.if_icmp .eq 11, 3) := by decide +kernel
theorem dX2_fills_136 : decode cX2_fills 136 = .ok (.aload_n 2, 1) := by decide +kernel
theorem dX2_fills_137 : decode cX2_fills 137 = .ok (.getfield 157, 3) := by decide +kernel
theorem dX2_fills_140 : decode cX2_fills 140 = .ok (.iconst 3, 1) := by decide +kernel
theorem dX2_fills_141 : decode cX2_fills 141 = .ok (.if_icmp .ne 7, 3) := by decide +kernel
theorem dX2_fills_144 : decode cX2_fills 144 = .ok (.iconst 1, 1) := by decide +kernel
theorem dX2_fills_145 : decode cX2_fills 145 = .ok (.goto 4, 3) := by decide +kernel
theorem dX2_fills_148 : decode cX2_fills 148 = .ok (.iconst 0, 1) := by decide +kernel
theorem dX2_fills_149 : decode cX2_fills 149 = .ok (.istore 9, 2) := by decide +kernel
theorem dX2_fills_151 : decode cX2_fills 151 = .ok (.iload_n 3, 1) := by decide +kernel
theorem dX2_fills_152 : decode cX2_fills 152 = .ok (.iconst 1, 1) := by decide +kernel
theorem dX2_fills_153 : decode cX2_fills 153 = .ok (.isub, 1) := by decide +kernel
theorem dX2_fills_154 : decode cX2_fills 154 = .ok (.iload_n 1, 1) := by decide +kernel
theorem dX2_fills_155 : decode cX2_fills 155 = .ok (.i2l, 1) := by decide +kernel
theorem dX2_fills_156 : decode cX2_fills 156 = .ok (.invokestatic 267, 3) := by decide +kernel
theorem dX2_fills_159 : decode cX2_fills 159 = .ok (.isub, 1) := by decide +kernel
theorem dX2_fills_160 : decode cX2_fills 160 = .ok (.iload 5, 2) := by decide +kernel
theorem dX2_fills_162 : decode cX2_fills 162 = .ok (.ifCond .ne 7, 3) := by decide +kernel
theorem dX2_fills_165 : decode cX2_fills 165 = .ok (.iconst 0, 1) := by decide +kernel
theorem dX2_fills_166 : decode cX2_fills 166 = .ok (.goto 9, 3) := by decide +kernel
theorem dX2_fills_169 : decode cX2_fills 169 = .ok (.iload 5, 2) := by decide +kernel
theorem dX2_fills_171 : decode cX2_fills 171 = .ok (.i2l, 1) := by decide +kernel
theorem dX2_fills_172 : decode cX2_fills 172 = .ok (.invokestatic 267, 3) := by decide +kernel
theorem dX2_fills_175 : decode cX2_fills 175 = .ok (.isub, 1) := by decide +kernel
theorem dX2_fills_176 : decode cX2_fills 176 = .ok (.istore 10, 2) := by decide +kernel
theorem dX2_fills_178 : decode cX2_fills 178 = .ok (.iload 10, 2) := by decide +kernel
theorem dX2_fills_180 : decode cX2_fills 180 = .ok (.bipush 66, 2) := by decide +kernel
theorem dX2_fills_182 : decode cX2_fills 182 = .ok (.if_icmp .ge 15, 3) := by decide +kernel
theorem dX2_fills_185 : decode cX2_fills 185 = .ok (.iload 10, 2) := by decide +kernel
theorem dX2_fills_187 : decode cX2_fills 187 = .ok (.iconst 1, 1) := by decide +kernel
theorem dX2_fills_188 : decode cX2_fills 188 = .ok (.isub, 1) := by decide +kernel
theorem dX2_fills_189 : decode cX2_fills 189 = .ok (.bipush 63, 2) := by decide +kernel
theorem dX2_fills_191 : decode cX2_fills 191 = .ok (.invokestatic 139, 3) := by decide +kernel
theorem dX2_fills_194 : decode cX2_fills 194 = .ok (.goto 7, 3) := by decide +kernel
theorem dX2_fills_197 : decode cX2_fills 197 = .ok (.iload 10, 2) := by decide +kernel
theorem dX2_fills_199 : decode cX2_fills 199 = .ok (.iconst 2, 1) := by decide +kernel
theorem dX2_fills_200 : decode cX2_fills 200 = .ok (.isub, 1) := by decide +kernel
theorem dX2_fills_201 : decode cX2_fills 201 = .ok (.istore 11, 2) := by decide +kernel
theorem dX2_fills_203 : decode cX2_fills 203 = .ok (.iload 11, 2) := by decide +kernel
theorem dX2_fills_205 : decode cX2_fills 205 = .ok (.iload 9, 2) := by decide +kernel
theorem dX2_fills_207 : decode cX2_fills 207 = .ok (.ifCond .eq 7, 3) := by decide +kernel
theorem dX2_fills_210 : decode cX2_fills 210 = .ok (.iconst 0, 1) := by decide +kernel
theorem dX2_fills_211 : decode cX2_fills 211 = .ok (.goto 4, 3) := by decide +kernel
theorem dX2_fills_214 : decode cX2_fills 214 = .ok (.iconst 1, 1) := by decide +kernel
theorem dX2_fills_215 : decode cX2_fills 215 = .ok (.if_icmp .lt 13, 3) := by decide +kernel
theorem dX2_fills_218 : decode cX2_fills 218 = .ok (.iload 8, 2) := by decide +kernel
theorem dX2_fills_220 : decode cX2_fills 220 = .ok (.ifCond .ne 10, 3) := by decide +kernel
theorem dX2_fills_223 : decode cX2_fills 223 = .ok (.iload 9, 2) := by decide +kernel
theorem dX2_fills_225 : decode cX2_fills 225 = .ok (.ifCond .ne 5, 3) := by decide +kernel
theorem dX2_fills_228 : decode cX2_fills 228 = .ok (.iconst 0, 1) := by decide +kernel
theorem dX2_fills_229 : decode cX2_fills 229 = .ok (.ireturn, 1) := by decide +kernel
theorem dX2_fills_230 : decode cX2_fills 230 = .ok (.aload_n 0, 1) := by decide +kernel
theorem dX2_fills_231 : decode cX2_fills 231 = .ok (.bipush 8, 2) := by decide +kernel
theorem dX2_fills_233 : decode cX2_fills 233 = .ok (.putfield 271, 3) := by decide +kernel
theorem dX2_fills_236 : decode cX2_fills 236 = .ok (.aload_n 0, 1) := by decide +kernel
theorem dX2_fills_237 : decode cX2_fills 237 = .ok (.iload_n 1, 1) := by decide +kernel
theorem dX2_fills_238 : decode cX2_fills 238 = .ok (.i2l, 1) := by decide +kernel
theorem dX2_fills_239 : decode cX2_fills 239 = .ok (.putfield 274, 3) := by decide +kernel
theorem dX2_fills_242 : decode cX2_fills 242 = .ok (.aload_n 0, 1) := by decide +kernel
theorem dX2_fills_243 : decode cX2_fills 243 = .ok (.iload 5, 2) := by decide +kernel
theorem dX2_fills_245 : decode cX2_fills 245 = .ok (.i2l, 1) := by decide +kernel
theorem dX2_fills_246 : decode cX2_fills 246 = .ok (.putfield 277, 3) := by decide +kernel
theorem dX2_fills_249 : decode cX2_fills 249 = .ok (.aload_n 0, 1) := by decide +kernel
theorem dX2_fills_250 : decode cX2_fills 250 = .ok (.iload 8, 2) := by decide +kernel
theorem dX2_fills_252 : decode cX2_fills 252 = .ok (.iload 11, 2) := by decide +kernel
theorem dX2_fills_254 : decode cX2_fills 254 = .ok (.invokestatic 139, 3) := by decide +kernel
theorem dX2_fills_257 : decode cX2_fills 257 = .ok (.putfield 283, 3) := by decide +kernel
theorem dX2_fills_260 : decode cX2_fills 260 = .ok (.aload_n 0, 1) := by decide +kernel
theorem dX2_fills_261 : decode cX2_fills 261 = .ok (.getfield 48, 3) := by decide +kernel
theorem dX2_fills_264 : decode cX2_fills 264 = .ok (.aload_n 2, 1) := by decide +kernel
theorem dX2_fills_265 : decode cX2_fills 265 = .ok (.iload 5, 2) := by decide +kernel
theorem dX2_fills_267 : decode cX2_fills 267 = .ok (.aload_n 0, 1) := by decide +kernel
theorem dX2_fills_268 : decode cX2_fills 268 = .ok (.getfield 69, 3) := by decide +kernel
theorem dX2_fills_271 : decode cX2_fills 271 = .ok (.aload_n 0, 1) := by decide +kernel
theorem dX2_fills_272 : decode cX2_fills 272 = .ok (.getfield 283, 3) := by decide +kernel
theorem dX2_fills_275 : decode cX2_fills 275 = .ok (.invokevirtual 334, 3) := by decide +kernel
theorem dX2_fills_278 : decode cX2_fills 278 = .ok (.iload 5, 2) := by decide +kernel
theorem dX2_fills_280 : decode cX2_fills 280 = .ok (.aload_n 0, 1) := by decide +kernel
theorem dX2_fills_281 : decode cX2_fills 281 = .ok (.getfield 283, 3) := by decide +kernel
theorem dX2_fills_284 : decode cX2_fills 284 = .ok (.iadd, 1) := by decide +kernel
theorem dX2_fills_285 : decode cX2_fills 285 = .ok (.istore 12, 2) := by decide +kernel
theorem dX2_fills_287 : decode cX2_fills 287 = .ok (.aload_n 0, 1) := by decide +kernel
theorem dX2_fills_288 : decode cX2_fills 288 = .ok (.aload_n 2, 1) := by decide +kernel
theorem dX2_fills_289 : decode cX2_fills 289 = .ok (.getfield 150, 3) := by decide +kernel
theorem dX2_fills_292 : decode cX2_fills 292 = .ok (.iconst 1, 1) := by decide +kernel
theorem dX2_fills_293 : decode cX2_fills 293 = .ok (.if_icmp .ne 16, 3) := by decide +kernel
theorem dX2_fills_296 : decode cX2_fills 296 = .ok (.iload 12, 2) := by decide +kernel
theorem dX2_fills_298 : decode cX2_fills 298 = .ok (.aload_n 2, 1) := by decide +kernel
theorem dX2_fills_299 : decode cX2_fills 299 = .ok (.getfield 307, 3) := by decide +kernel
theorem dX2_fills_302 : decode cX2_fills 302 = .ok (.if_icmp .ne 7, 3) := by decide +kernel
theorem dX2_fills_305 : decode cX2_fills 305 = .ok (.lconst 1, 1) := by decide +kernel
theorem dX2_fills_306 : decode cX2_fills 306 = .ok (.goto 4, 3) := by decide +kernel
theorem dX2_fills_309 : decode cX2_fills 309 = .ok (.lconst 0, 1) := by decide +kernel
theorem dX2_fills_310 : decode cX2_fills 310 = .ok (.putfield 280, 3) := by decide +kernel
theorem dX2_fills_313 : decode cX2_fills 313 = .ok (.iload 4, 2) := by decide +kernel
theorem dX2_fills_315 : decode cX2_fills 315 = .ok (.ifCond .eq 22, 3) := by decide +kernel
theorem dX2_fills_318 : decode cX2_fills 318 = .ok (.aload_n 2, 1) := by decide +kernel
theorem dX2_fills_319 : decode cX2_fills 319 = .ok (.aload_n 0, 1) := by decide +kernel
theorem dX2_fills_320 : decode cX2_fills 320 = .ok (.getfield 41, 3) := by decide +kernel
theorem dX2_fills_323 : decode cX2_fills 323 = .ok (.aload_n 2, 1) := by decide +kernel
theorem dX2_fills_324 : decode cX2_fills 324 = .ok (.getfield 325, 3) := by decide +kernel
theorem dX2_fills_327 : decode cX2_fills 327 = .ok (.iload 5, 2) := by decide +kernel
theorem dX2_fills_329 : decode cX2_fills 329 = .ok (.iload 12, 2) := by decide +kernel
theorem dX2_fills_331 : decode cX2_fills 331 = .ok (.invokevirtual 338, 3) := by decide +kernel
theorem dX2_fills_334 : decode cX2_fills 334 = .ok (.putfield 325, 3) := by decide +kernel
theorem dX2_fills_337 : decode cX2_fills 337 = .ok (.aload_n 0, 1) := by decide +kernel
theorem dX2_fills_338 : decode cX2_fills 338 = .ok (.dup, 1) := by decide +kernel
theorem dX2_fills_339 : decode cX2_fills 339 = .ok (.getfield 310, 3) := by decide +kernel
theorem dX2_fills_342 : decode cX2_fills 342 = .ok (.iload 12, 2) := by decide +kernel
theorem dX2_fills_344 : decode cX2_fills 344 = .ok (.aload_n 2, 1) := by decide +kernel
theorem dX2_fills_345 : decode cX2_fills 345 = .ok (.getfield 300, 3) := by decide +kernel
theorem dX2_fills_348 : decode cX2_fills 348 = .ok (.isub, 1) := by decide +kernel
theorem dX2_fills_349 : decode cX2_fills 349 = .ok (.iconst 0, 1) := by decide +kernel
theorem dX2_fills_350 : decode cX2_fills 350 = .ok (.invokestatic 232, 3) := by decide +kernel
theorem dX2_fills_353 : decode cX2_fills 353 = .ok (.iadd, 1) := by decide +kernel
theorem dX2_fills_354 : decode cX2_fills 354 = .ok (.putfield 310, 3) := by decide +kernel
theorem dX2_fills_357 : decode cX2_fills 357 = .ok (.aload_n 2, 1) := by decide +kernel
theorem dX2_fills_358 : decode cX2_fills 358 = .ok (.aload_n 2, 1) := by decide +kernel
theorem dX2_fills_359 : decode cX2_fills 359 = .ok (.getfield 300, 3) := by decide +kernel
theorem dX2_fills_362 : decode cX2_fills 362 = .ok (.iload 12, 2) := by decide +kernel
theorem dX2_fills_364 : decode cX2_fills 364 = .ok (.invokestatic 232, 3) := by decide +kernel
theorem dX2_fills_367 : decode cX2_fills 367 = .ok (.putfield 300, 3) := by decide +kernel
theorem dX2_fills_370 : decode cX2_fills 370 = .ok (.aload_n 0, 1) := by decide +kernel
theorem dX2_fills_371 : decode cX2_fills 371 = .ok (.getfield 280, 3) := by decide +kernel
theorem dX2_fills_374 : decode cX2_fills 374 = .ok (.lconst 1, 1) := by decide +kernel
theorem dX2_fills_375 : decode cX2_fills 375 = .ok (.lcmp, 1) := by decide +kernel
theorem dX2_fills_376 : decode cX2_fills 376 = .ok (.ifCond .ne 16, 3) := by decide +kernel
theorem dX2_fills_379 : decode cX2_fills 379 = .ok (.aload_n 2, 1) := by decide +kernel
theorem dX2_fills_380 : decode cX2_fills 380 = .ok (.getfield 157, 3) := by decide +kernel
theorem dX2_fills_383 : decode cX2_fills 383 = .ok (.iconst 4, 1) := by decide +kernel
theorem dX2_fills_384 : decode cX2_fills 384 = .ok (.if_icmp .eq 8, 3) := by decide +kernel
theorem dX2_fills_387 : decode cX2_fills 387 = .ok (.aload_n 2, 1) := by decide +kernel
theorem dX2_fills_388 : decode cX2_fills 388 = .ok (.iconst 2, 1) := by decide +kernel
theorem dX2_fills_389 : decode cX2_fills 389 = .ok (.putfield 157, 3) := by decide +kernel
theorem dX2_fills_392 : decode cX2_fills 392 = .ok (.iconst 1, 1) := by decide +kernel
theorem dX2_fills_393 : decode cX2_fills 393 = .ok (.ireturn, 1) := by decide +kernel
theorem dX2_bytes_0 : decode cX2_bytes 0 = .ok (.aload_n 0, 1) := by decide +kernel
theorem dX2_bytes_1 : decode cX2_bytes 1 = .ok (.getfield 271, 3) := by decide +kernel
theorem dX2_bytes_4 : decode cX2_bytes 4 = .ok (.bipush 8, 2) := by decide +kernel
theorem dX2_bytes_6 : decode cX2_bytes 6 = .ok (.if_icmp .ne 48, 3) := by decide +kernel
theorem dX2_bytes_9 : decode cX2_bytes 9 = .ok (.iconst 1, 1) := by decide +kernel
theorem dX2_bytes_10 : decode cX2_bytes 10 = .ok (.aload_n 0, 1) := by decide +kernel
theorem dX2_bytes_11 : decode cX2_bytes 11 = .ok (.getfield 274, 3) := by decide +kernel
theorem dX2_bytes_14 : decode cX2_bytes 14 = .ok (.invokestatic 267, 3) := by decide +kernel
theorem dX2_bytes_17 : decode cX2_bytes 17 = .ok (.iadd, 1) := by decide +kernel
theorem dX2_bytes_18 : decode cX2_bytes 18 = .ok (.aload_n 0, 1) := by decide +kernel
theorem dX2_bytes_19 : decode cX2_bytes 19 = .ok (.getfield 277, 3) := by decide +kernel
theorem dX2_bytes_22 : decode cX2_bytes 22 = .ok (.lconst 0, 1) := by decide +kernel
theorem dX2_bytes_23 : decode cX2_bytes 23 = .ok (.lcmp, 1) := by decide +kernel
theorem dX2_bytes_24 : decode cX2_bytes 24 = .ok (.ifCond .ne 7, 3) := by decide +kernel
theorem dX2_bytes_27 : decode cX2_bytes 27 = .ok (.iconst 0, 1) := by decide +kernel
theorem dX2_bytes_28 : decode cX2_bytes 28 = .ok (.goto 10, 3) := by decide +kernel
theorem dX2_bytes_31 : decode cX2_bytes 31 = .ok (.aload_n 0, 1) := by decide +kernel
theorem dX2_bytes_32 : decode cX2_bytes 32 = .ok (.getfield 277, 3) := by decide +kernel
theorem dX2_bytes_35 : decode cX2_bytes 35 = .ok (.invokestatic 267, 3) := by decide +kernel
theorem dX2_bytes_38 : decode cX2_bytes 38 = .ok (.iadd, 1) := by decide +kernel
theorem dX2_bytes_39 : decode cX2_bytes 39 = .ok (.aload_n 0, 1) := by decide +kernel
theorem dX2_bytes_40 : decode cX2_bytes 40 = .ok (.getfield 283, 3) := by decide +kernel
theorem dX2_bytes_43 : decode cX2_bytes 43 = .ok (.i2l, 1) := by decide +kernel
theorem dX2_bytes_44 : decode cX2_bytes 44 = .ok (.invokestatic 267, 3) := by decide +kernel
theorem dX2_bytes_47 : decode cX2_bytes 47 = .ok (.iadd, 1) := by decide +kernel
theorem dX2_bytes_48 : decode cX2_bytes 48 = .ok (.aload_n 0, 1) := by decide +kernel
theorem dX2_bytes_49 : decode cX2_bytes 49 = .ok (.getfield 283, 3) := by decide +kernel
theorem dX2_bytes_52 : decode cX2_bytes 52 = .ok (.iadd, 1) := by decide +kernel
theorem dX2_bytes_53 : decode cX2_bytes 53 = .ok (.ireturn, 1) := by decide +kernel
theorem dX2_bytes_54 : decode cX2_bytes 54 = .ok (.iconst 1, 1) := by decide +kernel
theorem dX2_bytes_55 : decode cX2_bytes 55 = .ok (.aload_n 0, 1) := by decide +kernel
theorem dX2_bytes_56 : decode cX2_bytes 56 = .ok (.getfield 274, 3) := by decide +kernel
theorem dX2_bytes_59 : decode cX2_bytes 59 = .ok (.invokestatic 267, 3) := by decide +kernel
theorem dX2_bytes_62 : decode cX2_bytes 62 = .ok (.iadd, 1) := by decide +kernel
theorem dX2_bytes_63 : decode cX2_bytes 63 = .ok (.istore_n 1, 1) := by decide +kernel
theorem dX2_bytes_64 : decode cX2_bytes 64 = .ok (.aload_n 0, 1) := by decide +kernel
theorem dX2_bytes_65 : decode cX2_bytes 65 = .ok (.getfield 271, 3) := by decide +kernel
theorem dX2_bytes_68 : decode cX2_bytes 68 = .ok (.iconst 4, 1) := by decide +kernel
theorem dX2_bytes_69 : decode cX2_bytes 69 = .ok (.if_icmp .eq 29, 3) := by decide +kernel
theorem dX2_bytes_72 : decode cX2_bytes 72 = .ok (.aload_n 0, 1) := by decide +kernel
theorem dX2_bytes_73 : decode cX2_bytes 73 = .ok (.getfield 271, 3) := by decide +kernel
theorem dX2_bytes_76 : decode cX2_bytes 76 = .ok (.iconst 5, 1) := by decide +kernel
theorem dX2_bytes_77 : decode cX2_bytes 77 = .ok (.if_icmp .eq 21, 3) := by decide +kernel
theorem dX2_bytes_80 : decode cX2_bytes 80 = .ok (.aload_n 0, 1) := by decide +kernel
theorem dX2_bytes_81 : decode cX2_bytes 81 = .ok (.getfield 271, 3) := by decide +kernel
theorem dX2_bytes_84 : decode cX2_bytes 84 = .ok (.bipush 17, 2) := by decide +kernel
theorem dX2_bytes_86 : decode cX2_bytes 86 = .ok (.if_icmp .eq 12, 3) := by decide +kernel
theorem dX2_bytes_89 : decode cX2_bytes 89 = .ok (.aload_n 0, 1) := by decide +kernel
theorem dX2_bytes_90 : decode cX2_bytes 90 = .ok (.getfield 271, 3) := by decide +kernel
theorem dX2_bytes_93 : decode cX2_bytes 93 = .ok (.bipush 21, 2) := by decide +kernel
theorem dX2_bytes_95 : decode cX2_bytes 95 = .ok (.if_icmp .ne 13, 3) := by decide +kernel
theorem dX2_bytes_98 : decode cX2_bytes 98 = .ok (.iload_n 1, 1) := by decide +kernel
theorem dX2_bytes_99 : decode cX2_bytes 99 = .ok (.aload_n 0, 1) := by decide +kernel
theorem dX2_bytes_100 : decode cX2_bytes 100 = .ok (.getfield 277, 3) := by decide +kernel
theorem dX2_bytes_103 : decode cX2_bytes 103 = .ok (.invokestatic 267, 3) := by decide +kernel
theorem dX2_bytes_106 : decode cX2_bytes 106 = .ok (.iadd, 1) := by decide +kernel
theorem dX2_bytes_107 : decode cX2_bytes 107 = .ok (.istore_n 1, 1) := by decide +kernel
theorem dX2_bytes_108 : decode cX2_bytes 108 = .ok (.aload_n 0, 1) := by decide +kernel
theorem dX2_bytes_109 : decode cX2_bytes 109 = .ok (.getfield 271, 3) := by decide +kernel
theorem dX2_bytes_112 : decode cX2_bytes 112 = .ok (.iconst 4, 1) := by decide +kernel
theorem dX2_bytes_113 : decode cX2_bytes 113 = .ok (.if_icmp .ne 15, 3) := by decide +kernel
theorem dX2_bytes_116 : decode cX2_bytes 116 = .ok (.iload_n 1, 1) := by decide +kernel
theorem dX2_bytes_117 : decode cX2_bytes 117 = .ok (.aload_n 0, 1) := by decide +kernel
theorem dX2_bytes_118 : decode cX2_bytes 118 = .ok (.getfield 280, 3) := by decide +kernel
theorem dX2_bytes_121 : decode cX2_bytes 121 = .ok (.invokestatic 267, 3) := by decide +kernel
theorem dX2_bytes_124 : decode cX2_bytes 124 = .ok (.iadd, 1) := by decide +kernel
theorem dX2_bytes_125 : decode cX2_bytes 125 = .ok (.goto 4, 3) := by decide +kernel
theorem dX2_bytes_128 : decode cX2_bytes 128 = .ok (.iload_n 1, 1) := by decide +kernel
theorem dX2_bytes_129 : decode cX2_bytes 129 = .ok (.ireturn, 1) := by decide +kernel
theorem dX2_take_0 : decode cX2_take 0 = .ok (.iload_n 1, 1) := by decide +kernel
theorem dX2_take_1 : decode cX2_take 1 = .ok (.bipush 16, 2) := by decide +kernel
theorem dX2_take_3 : decode cX2_take 3 = .ok (.if_icmp .ne 15, 3) := by decide +kernel
theorem dX2_take_6 : decode cX2_take 6 = .ok (.aload_n 0, 1) := by decide +kernel
theorem dX2_take_7 : decode cX2_take 7 = .ok (.aload_n 0, 1) := by decide +kernel
theorem dX2_take_8 : decode cX2_take 8 = .ok (.getfield 82, 3) := by decide +kernel
theorem dX2_take_11 : decode cX2_take 11 = .ok (.lload_n 2, 1) := by decide +kernel
theorem dX2_take_12 : decode cX2_take 12 = .ok (.invokestatic 229, 3) := by decide +kernel
theorem dX2_take_15 : decode cX2_take 15 = .ok (.putfield 82, 3) := by decide +kernel
theorem dX2_take_18 : decode cX2_take 18 = .ok (.iload_n 1, 1) := by decide +kernel
theorem dX2_take_19 : decode cX2_take 19 = .ok (.bipush 18, 2) := by decide +kernel
theorem dX2_take_21 : decode cX2_take 21 = .ok (.if_icmp .eq 9, 3) := by decide +kernel
theorem dX2_take_24 : decode cX2_take 24 = .ok (.iload_n 1, 1) := by decide +kernel
theorem dX2_take_25 : decode cX2_take 25 = .ok (.bipush 19, 2) := by decide +kernel
theorem dX2_take_27 : decode cX2_take 27 = .ok (.if_icmp .ne 37, 3) := by decide +kernel
theorem dX2_take_30 : decode cX2_take 30 = .ok (.aload_n 0, 1) := by decide +kernel
theorem dX2_take_31 : decode cX2_take 31 = .ok (.getfield 26, 3) := by decide +kernel
theorem dX2_take_34 : decode cX2_take 34 = .ok (.iload_n 1, 1) := by decide +kernel
theorem dX2_take_35 : decode cX2_take 35 = .ok (.bipush 18, 2) := by decide +kernel
theorem dX2_take_37 : decode cX2_take 37 = .ok (.isub, 1) := by decide +kernel
theorem dX2_take_38 : decode cX2_take 38 = .ok (.aaload, 1) := by decide +kernel
theorem dX2_take_39 : decode cX2_take 39 = .ok (.aload_n 0, 1) := by decide +kernel
theorem dX2_take_40 : decode cX2_take 40 = .ok (.getfield 26, 3) := by decide +kernel
theorem dX2_take_43 : decode cX2_take 43 = .ok (.iload_n 1, 1) := by decide +kernel
theorem dX2_take_44 : decode cX2_take 44 = .ok (.bipush 18, 2) := by decide +kernel
theorem dX2_take_46 : decode cX2_take 46 = .ok (.isub, 1) := by decide +kernel
theorem dX2_take_47 : decode cX2_take 47 = .ok (.aaload, 1) := by decide +kernel
theorem dX2_take_48 : decode cX2_take 48 = .ok (.getfield 93, 3) := by decide +kernel
theorem dX2_take_51 : decode cX2_take 51 = .ok (.lload_n 2, 1) := by decide +kernel
theorem dX2_take_52 : decode cX2_take 52 = .ok (.ldc2_w 85, 3) := by decide +kernel
theorem dX2_take_55 : decode cX2_take 55 = .ok (.invokestatic 87, 3) := by decide +kernel
theorem dX2_take_58 : decode cX2_take 58 = .ok (.invokestatic 229, 3) := by decide +kernel
theorem dX2_take_61 : decode cX2_take 61 = .ok (.putfield 93, 3) := by decide +kernel
theorem dX2_take_64 : decode cX2_take 64 = .ok (.iload_n 1, 1) := by decide +kernel
theorem dX2_take_65 : decode cX2_take 65 = .ok (.iconst 4, 1) := by decide +kernel
theorem dX2_take_66 : decode cX2_take 66 = .ok (.if_icmp .eq 28, 3) := by decide +kernel
theorem dX2_take_69 : decode cX2_take 69 = .ok (.iload_n 1, 1) := by decide +kernel
theorem dX2_take_70 : decode cX2_take 70 = .ok (.iconst 5, 1) := by decide +kernel
theorem dX2_take_71 : decode cX2_take 71 = .ok (.if_icmp .eq 23, 3) := by decide +kernel
theorem dX2_take_74 : decode cX2_take 74 = .ok (.iload_n 1, 1) := by decide +kernel
theorem dX2_take_75 : decode cX2_take 75 = .ok (.bipush 8, 2) := by decide +kernel
theorem dX2_take_77 : decode cX2_take 77 = .ok (.if_icmp .eq 17, 3) := by decide +kernel
theorem dX2_take_80 : decode cX2_take 80 = .ok (.iload_n 1, 1) := by decide +kernel
theorem dX2_take_81 : decode cX2_take 81 = .ok (.bipush 17, 2) := by decide +kernel
theorem dX2_take_83 : decode cX2_take 83 = .ok (.if_icmp .eq 11, 3) := by decide +kernel
theorem dX2_take_86 : decode cX2_take 86 = .ok (.iload_n 1, 1) := by decide +kernel
theorem dX2_take_87 : decode cX2_take 87 = .ok (.bipush 21, 2) := by decide +kernel
theorem dX2_take_89 : decode cX2_take 89 = .ok (.if_icmp .eq 5, 3) := by decide +kernel
theorem dX2_take_92 : decode cX2_take 92 = .ok (.iconst 0, 1) := by decide +kernel
theorem dX2_take_93 : decode cX2_take 93 = .ok (.ireturn, 1) := by decide +kernel
theorem dX2_take_94 : decode cX2_take 94 = .ok (.aload_n 0, 1) := by decide +kernel
theorem dX2_take_95 : decode cX2_take 95 = .ok (.lload_n 2, 1) := by decide +kernel
theorem dX2_take_96 : decode cX2_take 96 = .ok (.iload_n 1, 1) := by decide +kernel
theorem dX2_take_97 : decode cX2_take 97 = .ok (.iconst 5, 1) := by decide +kernel
theorem dX2_take_98 : decode cX2_take 98 = .ok (.if_icmp .eq 9, 3) := by decide +kernel
theorem dX2_take_101 : decode cX2_take 101 = .ok (.iload_n 1, 1) := by decide +kernel
theorem dX2_take_102 : decode cX2_take 102 = .ok (.bipush 17, 2) := by decide +kernel
theorem dX2_take_104 : decode cX2_take 104 = .ok (.if_icmp .ne 7, 3) := by decide +kernel
theorem dX2_take_107 : decode cX2_take 107 = .ok (.iconst 1, 1) := by decide +kernel
theorem dX2_take_108 : decode cX2_take 108 = .ok (.goto 4, 3) := by decide +kernel
theorem dX2_take_111 : decode cX2_take 111 = .ok (.iconst 0, 1) := by decide +kernel
theorem dX2_take_112 : decode cX2_take 112 = .ok (.invokevirtual 234, 3) := by decide +kernel
theorem dX2_take_115 : decode cX2_take 115 = .ok (.istore 11, 2) := by decide +kernel
theorem dX2_take_117 : decode cX2_take 117 = .ok (.iload 11, 2) := by decide +kernel
theorem dX2_take_119 : decode cX2_take 119 = .ok (.ifCond .le 6, 3) := by decide +kernel
theorem dX2_take_122 : decode cX2_take 122 = .ok (.iload 11, 2) := by decide +kernel
theorem dX2_take_124 : decode cX2_take 124 = .ok (.ireturn, 1) := by decide +kernel
theorem dX2_take_125 : decode cX2_take 125 = .ok (.lload_n 2, 1) := by decide +kernel
theorem dX2_take_126 : decode cX2_take 126 = .ok (.l2i, 1) := by decide +kernel
theorem dX2_take_127 : decode cX2_take 127 = .ok (.istore 12, 2) := by decide +kernel
theorem dX2_take_129 : decode cX2_take 129 = .ok (.iload_n 1, 1) := by decide +kernel
theorem dX2_take_130 : decode cX2_take 130 = .ok (.bipush 8, 2) := by decide +kernel
theorem dX2_take_132 : decode cX2_take 132 = .ok (.if_icmp .ne 29, 3) := by decide +kernel
theorem dX2_take_135 : decode cX2_take 135 = .ok (.aload_n 0, 1) := by decide +kernel
theorem dX2_take_136 : decode cX2_take 136 = .ok (.iload 12, 2) := by decide +kernel
theorem dX2_take_138 : decode cX2_take 138 = .ok (.lload 4, 2) := by decide +kernel
theorem dX2_take_140 : decode cX2_take 140 = .ok (.iload 10, 2) := by decide +kernel
theorem dX2_take_142 : decode cX2_take 142 = .ok (.i2l, 1) := by decide +kernel
theorem dX2_take_143 : decode cX2_take 143 = .ok (.ladd, 1) := by decide +kernel
theorem dX2_take_144 : decode cX2_take 144 = .ok (.lload 6, 2) := by decide +kernel
theorem dX2_take_146 : decode cX2_take 146 = .ok (.lconst 1, 1) := by decide +kernel
theorem dX2_take_147 : decode cX2_take 147 = .ok (.lcmp, 1) := by decide +kernel
theorem dX2_take_148 : decode cX2_take 148 = .ok (.ifCond .ne 7, 3) := by decide +kernel
theorem dX2_take_151 : decode cX2_take 151 = .ok (.iconst 1, 1) := by decide +kernel
theorem dX2_take_152 : decode cX2_take 152 = .ok (.goto 4, 3) := by decide +kernel
theorem dX2_take_155 : decode cX2_take 155 = .ok (.iconst 0, 1) := by decide +kernel
theorem dX2_take_156 : decode cX2_take 156 = .ok (.invokevirtual 237, 3) := by decide +kernel
theorem dX2_take_159 : decode cX2_take 159 = .ok (.istore 11, 2) := by decide +kernel
theorem dX2_take_161 : decode cX2_take 161 = .ok (.iload_n 1, 1) := by decide +kernel
theorem dX2_take_162 : decode cX2_take 162 = .ok (.iconst 4, 1) := by decide +kernel
theorem dX2_take_163 : decode cX2_take 163 = .ok (.if_icmp .ne 14, 3) := by decide +kernel
theorem dX2_take_166 : decode cX2_take 166 = .ok (.aload_n 0, 1) := by decide +kernel
theorem dX2_take_167 : decode cX2_take 167 = .ok (.iload 12, 2) := by decide +kernel
theorem dX2_take_169 : decode cX2_take 169 = .ok (.lload 6, 2) := by decide +kernel
theorem dX2_take_171 : decode cX2_take 171 = .ok (.iconst 1, 1) := by decide +kernel
theorem dX2_take_172 : decode cX2_take 172 = .ok (.invokevirtual 237, 3) := by decide +kernel
theorem dX2_take_175 : decode cX2_take 175 = .ok (.istore 11, 2) := by decide +kernel
theorem dX2_take_177 : decode cX2_take 177 = .ok (.iload 11, 2) := by decide +kernel
theorem dX2_take_179 : decode cX2_take 179 = .ok (.ifCond .le 6, 3) := by decide +kernel
theorem dX2_take_182 : decode cX2_take 182 = .ok (.iload 11, 2) := by decide +kernel
theorem dX2_take_184 : decode cX2_take 184 = .ok (.ireturn, 1) := by decide +kernel
theorem dX2_take_185 : decode cX2_take 185 = .ok (.aload_n 0, 1) := by decide +kernel
theorem dX2_take_186 : decode cX2_take 186 = .ok (.iload 12, 2) := by decide +kernel
theorem dX2_take_188 : decode cX2_take 188 = .ok (.i2l, 1) := by decide +kernel
theorem dX2_take_189 : decode cX2_take 189 = .ok (.invokevirtual 102, 3) := by decide +kernel
theorem dX2_take_192 : decode cX2_take 192 = .ok (.ifCond .ne 9, 3) := by decide +kernel
theorem dX2_take_195 : decode cX2_take 195 = .ok (.aload_n 0, 1) := by decide +kernel
theorem dX2_take_196 : decode cX2_take 196 = .ok (.iload 12, 2) := by decide +kernel
theorem dX2_take_198 : decode cX2_take 198 = .ok (.invokevirtual 241, 3) := by decide +kernel
theorem dX2_take_201 : decode cX2_take 201 = .ok (.aload_n 0, 1) := by decide +kernel
theorem dX2_take_202 : decode cX2_take 202 = .ok (.iload 12, 2) := by decide +kernel
theorem dX2_take_204 : decode cX2_take 204 = .ok (.invokevirtual 131, 3) := by decide +kernel
theorem dX2_take_207 : decode cX2_take 207 = .ok (.istore 13, 2) := by decide +kernel
theorem dX2_take_209 : decode cX2_take 209 = .ok (.iload_n 1, 1) := by decide +kernel
theorem dX2_take_210 : decode cX2_take 210 = .ok (.bipush 17, 2) := by decide +kernel
theorem dX2_take_212 : decode cX2_take 212 = .ok (.if_icmp .ne 28, 3) := by decide +kernel
theorem dX2_take_215 : decode cX2_take 215 = .ok (.aload_n 0, 1) := by decide +kernel
theorem dX2_take_216 : decode cX2_take 216 = .ok (.getfield 11, 3) := by decide +kernel
theorem dX2_take_219 : decode cX2_take 219 = .ok (.iload 12, 2) := by decide +kernel
theorem dX2_take_221 : decode cX2_take 221 = .ok (.aaload, 1) := by decide +kernel
theorem dX2_take_222 : decode cX2_take 222 = .ok (.aload_n 0, 1) := by decide +kernel
theorem dX2_take_223 : decode cX2_take 223 = .ok (.getfield 11, 3) := by decide +kernel
theorem dX2_take_226 : decode cX2_take 226 = .ok (.iload 12, 2) := by decide +kernel
theorem dX2_take_228 : decode cX2_take 228 = .ok (.aaload, 1) := by decide +kernel
theorem dX2_take_229 : decode cX2_take 229 = .ok (.getfield 244, 3) := by decide +kernel
theorem dX2_take_232 : decode cX2_take 232 = .ok (.lload 4, 2) := by decide +kernel
theorem dX2_take_234 : decode cX2_take 234 = .ok (.invokestatic 229, 3) := by decide +kernel
theorem dX2_take_237 : decode cX2_take 237 = .ok (.putfield 244, 3) := by decide +kernel
theorem dX2_take_240 : decode cX2_take 240 = .ok (.iload_n 1, 1) := by decide +kernel
theorem dX2_take_241 : decode cX2_take 241 = .ok (.iconst 5, 1) := by decide +kernel
theorem dX2_take_242 : decode cX2_take 242 = .ok (.if_icmp .ne 28, 3) := by decide +kernel
theorem dX2_take_245 : decode cX2_take 245 = .ok (.aload_n 0, 1) := by decide +kernel
theorem dX2_take_246 : decode cX2_take 246 = .ok (.getfield 11, 3) := by decide +kernel
theorem dX2_take_249 : decode cX2_take 249 = .ok (.iload 12, 2) := by decide +kernel
theorem dX2_take_251 : decode cX2_take 251 = .ok (.aaload, 1) := by decide +kernel
theorem dX2_take_252 : decode cX2_take 252 = .ok (.invokevirtual 160, 3) := by decide +kernel
theorem dX2_take_255 : decode cX2_take 255 = .ok (.ifCond .eq 15, 3) := by decide +kernel
theorem dX2_take_258 : decode cX2_take 258 = .ok (.aload_n 0, 1) := by decide +kernel
theorem dX2_take_259 : decode cX2_take 259 = .ok (.getfield 11, 3) := by decide +kernel
theorem dX2_take_262 : decode cX2_take 262 = .ok (.iload 12, 2) := by decide +kernel
theorem dX2_take_264 : decode cX2_take 264 = .ok (.aaload, 1) := by decide +kernel
theorem dX2_take_265 : decode cX2_take 265 = .ok (.lload 4, 2) := by decide +kernel
theorem dX2_take_267 : decode cX2_take 267 = .ok (.invokevirtual 163, 3) := by decide +kernel
theorem dX2_take_270 : decode cX2_take 270 = .ok (.iload_n 1, 1) := by decide +kernel
theorem dX2_take_271 : decode cX2_take 271 = .ok (.bipush 8, 2) := by decide +kernel
theorem dX2_take_273 : decode cX2_take 273 = .ok (.if_icmp .ne 35, 3) := by decide +kernel
theorem dX2_take_276 : decode cX2_take 276 = .ok (.aload_n 0, 1) := by decide +kernel
theorem dX2_take_277 : decode cX2_take 277 = .ok (.aload_n 0, 1) := by decide +kernel
theorem dX2_take_278 : decode cX2_take 278 = .ok (.getfield 19, 3) := by decide +kernel
theorem dX2_take_281 : decode cX2_take 281 = .ok (.iload 12, 2) := by decide +kernel
theorem dX2_take_283 : decode cX2_take 283 = .ok (.aaload, 1) := by decide +kernel
theorem dX2_take_284 : decode cX2_take 284 = .ok (.lload 4, 2) := by decide +kernel
theorem dX2_take_286 : decode cX2_take 286 = .ok (.l2i, 1) := by decide +kernel
theorem dX2_take_287 : decode cX2_take 287 = .ok (.lload 6, 2) := by decide +kernel
theorem dX2_take_289 : decode cX2_take 289 = .ok (.lconst 1, 1) := by decide +kernel
theorem dX2_take_290 : decode cX2_take 290 = .ok (.lcmp, 1) := by decide +kernel
theorem dX2_take_291 : decode cX2_take 291 = .ok (.ifCond .ne 7, 3) := by decide +kernel
theorem dX2_take_294 : decode cX2_take 294 = .ok (.iconst 1, 1) := by decide +kernel
theorem dX2_take_295 : decode cX2_take 295 = .ok (.goto 4, 3) := by decide +kernel
theorem dX2_take_298 : decode cX2_take 298 = .ok (.iconst 0, 1) := by decide +kernel
theorem dX2_take_299 : decode cX2_take 299 = .ok (.aload 8, 2) := by decide +kernel
theorem dX2_take_301 : decode cX2_take 301 = .ok (.iload 9, 2) := by decide +kernel
theorem dX2_take_303 : decode cX2_take 303 = .ok (.iload 10, 2) := by decide +kernel
theorem dX2_take_305 : decode cX2_take 305 = .ok (.invokevirtual 245, 3) := by decide +kernel
theorem dX2_take_308 : decode cX2_take 308 = .ok (.iload_n 1, 1) := by decide +kernel
theorem dX2_take_309 : decode cX2_take 309 = .ok (.iconst 4, 1) := by decide +kernel
theorem dX2_take_310 : decode cX2_take 310 = .ok (.if_icmp .ne 19, 3) := by decide +kernel
theorem dX2_take_313 : decode cX2_take 313 = .ok (.aload_n 0, 1) := by decide +kernel
theorem dX2_take_314 : decode cX2_take 314 = .ok (.aload_n 0, 1) := by decide +kernel
theorem dX2_take_315 : decode cX2_take 315 = .ok (.getfield 19, 3) := by decide +kernel
theorem dX2_take_318 : decode cX2_take 318 = .ok (.iload 12, 2) := by decide +kernel
theorem dX2_take_320 : decode cX2_take 320 = .ok (.aaload, 1) := by decide +kernel
theorem dX2_take_321 : decode cX2_take 321 = .ok (.lload 4, 2) := by decide +kernel
theorem dX2_take_323 : decode cX2_take 323 = .ok (.lload 6, 2) := by decide +kernel
theorem dX2_take_325 : decode cX2_take 325 = .ok (.l2i, 1) := by decide +kernel
theorem dX2_take_326 : decode cX2_take 326 = .ok (.invokevirtual 249, 3) := by decide +kernel
theorem dX2_take_329 : decode cX2_take 329 = .ok (.aload_n 0, 1) := by decide +kernel
theorem dX2_take_330 : decode cX2_take 330 = .ok (.iload 12, 2) := by decide +kernel
theorem dX2_take_332 : decode cX2_take 332 = .ok (.iload 13, 2) := by decide +kernel
theorem dX2_take_334 : decode cX2_take 334 = .ok (.invokevirtual 203, 3) := by decide +kernel
theorem dX2_take_337 : decode cX2_take 337 = .ok (.iconst 0, 1) := by decide +kernel
theorem dX2_take_338 : decode cX2_take 338 = .ok (.ireturn, 1) := by decide +kernel
theorem dX2_allowed_0 : decode cX2_allowed 0 = .ok (.aload_n 0, 1) := by decide +kernel
theorem dX2_allowed_1 : decode cX2_allowed 1 = .ok (.lload_n 1, 1) := by decide +kernel
theorem dX2_allowed_2 : decode cX2_allowed 2 = .ok (.invokevirtual 102, 3) := by decide +kernel
theorem dX2_allowed_5 : decode cX2_allowed 5 = .ok (.ifCond .eq 29, 3) := by decide +kernel
theorem dX2_allowed_8 : decode cX2_allowed 8 = .ok (.lload_n 1, 1) := by decide +kernel
theorem dX2_allowed_9 : decode cX2_allowed 9 = .ok (.ldc2_w 218, 3) := by decide +kernel
theorem dX2_allowed_12 : decode cX2_allowed 12 = .ok (.ldiv, 1) := by decide +kernel
theorem dX2_allowed_13 : decode cX2_allowed 13 = .ok (.aload_n 0, 1) := by decide +kernel
theorem dX2_allowed_14 : decode cX2_allowed 14 = .ok (.lload_n 1, 1) := by decide +kernel
theorem dX2_allowed_15 : decode cX2_allowed 15 = .ok (.invokevirtual 124, 3) := by decide +kernel
theorem dX2_allowed_18 : decode cX2_allowed 18 = .ok (.getfield 115, 3) := by decide +kernel
theorem dX2_allowed_21 : decode cX2_allowed 21 = .ok (.i2l, 1) := by decide +kernel
theorem dX2_allowed_22 : decode cX2_allowed 22 = .ok (.lcmp, 1) := by decide +kernel
theorem dX2_allowed_23 : decode cX2_allowed 23 = .ok (.ifCond .ge 7, 3) := by decide +kernel
theorem dX2_allowed_26 : decode cX2_allowed 26 = .ok (.iconst 1, 1) := by decide +kernel
theorem dX2_allowed_27 : decode cX2_allowed 27 = .ok (.goto 8, 3) := by decide +kernel
theorem dX2_allowed_30 : decode cX2_allowed 30 = .ok (.iconst 0, 1) := by decide +kernel
theorem dX2_allowed_31 : decode cX2_allowed 31 = .ok (.goto 4, 3) := by decide +kernel
theorem dX2_allowed_34 : decode cX2_allowed 34 = .ok (.iconst 1, 1) := by decide +kernel
theorem dX2_allowed_35 : decode cX2_allowed 35 = .ok (.istore 4, 2) := by decide +kernel
theorem dX2_allowed_37 : decode cX2_allowed 37 = .ok (.lload_n 1, 1) := by decide +kernel
theorem dX2_allowed_38 : decode cX2_allowed 38 = .ok (.invokestatic 98, 3) := by decide +kernel
theorem dX2_allowed_41 : decode cX2_allowed 41 = .ok (.ifCond .eq 12, 3) := by decide +kernel
theorem dX2_allowed_44 : decode cX2_allowed 44 = .ok (.aload_n 0, 1) := by decide +kernel
theorem dX2_allowed_45 : decode cX2_allowed 45 = .ok (.lload_n 1, 1) := by decide +kernel
theorem dX2_allowed_46 : decode cX2_allowed 46 = .ok (.invokevirtual 102, 3) := by decide +kernel
theorem dX2_allowed_49 : decode cX2_allowed 49 = .ok (.iload_n 3, 1) := by decide +kernel
theorem dX2_allowed_50 : decode cX2_allowed 50 = .ok (.if_icmp .ne 7, 3) := by decide +kernel
theorem dX2_allowed_53 : decode cX2_allowed 53 = .ok (.iconst 1, 1) := by decide +kernel
theorem dX2_allowed_54 : decode cX2_allowed 54 = .ok (.goto 4, 3) := by decide +kernel
theorem dX2_allowed_57 : decode cX2_allowed 57 = .ok (.iconst 0, 1) := by decide +kernel
theorem dX2_allowed_58 : decode cX2_allowed 58 = .ok (.istore 5, 2) := by decide +kernel
theorem dX2_allowed_60 : decode cX2_allowed 60 = .ok (.iload 4, 2) := by decide +kernel
theorem dX2_allowed_62 : decode cX2_allowed 62 = .ok (.ifCond .eq 8, 3) := by decide +kernel
theorem dX2_allowed_65 : decode cX2_allowed 65 = .ok (.iload 5, 2) := by decide +kernel
theorem dX2_allowed_67 : decode cX2_allowed 67 = .ok (.ifCond .ne 7, 3) := by decide +kernel
theorem dX2_allowed_70 : decode cX2_allowed 70 = .ok (.iconst 5, 1) := by decide +kernel
theorem dX2_allowed_71 : decode cX2_allowed 71 = .ok (.goto 34, 3) := by decide +kernel
theorem dX2_allowed_74 : decode cX2_allowed 74 = .ok (.aload_n 0, 1) := by decide +kernel
theorem dX2_allowed_75 : decode cX2_allowed 75 = .ok (.lload_n 1, 1) := by decide +kernel
theorem dX2_allowed_76 : decode cX2_allowed 76 = .ok (.invokevirtual 102, 3) := by decide +kernel
theorem dX2_allowed_79 : decode cX2_allowed 79 = .ok (.ifCond .ne 25, 3) := by decide +kernel
theorem dX2_allowed_82 : decode cX2_allowed 82 = .ok (.lload_n 1, 1) := by decide +kernel
theorem dX2_allowed_83 : decode cX2_allowed 83 = .ok (.ldc2_w 218, 3) := by decide +kernel
theorem dX2_allowed_86 : decode cX2_allowed 86 = .ok (.ldiv, 1) := by decide +kernel
theorem dX2_allowed_87 : decode cX2_allowed 87 = .ok (.aload_n 0, 1) := by decide +kernel
theorem dX2_allowed_88 : decode cX2_allowed 88 = .ok (.lload_n 1, 1) := by decide +kernel
theorem dX2_allowed_89 : decode cX2_allowed 89 = .ok (.invokevirtual 124, 3) := by decide +kernel
theorem dX2_allowed_92 : decode cX2_allowed 92 = .ok (.getfield 79, 3) := by decide +kernel
theorem dX2_allowed_95 : decode cX2_allowed 95 = .ok (.i2l, 1) := by decide +kernel
theorem dX2_allowed_96 : decode cX2_allowed 96 = .ok (.lcmp, 1) := by decide +kernel
theorem dX2_allowed_97 : decode cX2_allowed 97 = .ok (.ifCond .lt 7, 3) := by decide +kernel
theorem dX2_allowed_100 : decode cX2_allowed 100 = .ok (.iconst 4, 1) := by decide +kernel
theorem dX2_allowed_101 : decode cX2_allowed 101 = .ok (.goto 4, 3) := by decide +kernel
theorem dX2_allowed_104 : decode cX2_allowed 104 = .ok (.iconst 0, 1) := by decide +kernel
theorem dX2_allowed_105 : decode cX2_allowed 105 = .ok (.ireturn, 1) := by decide +kernel
theorem dX2_fits_0 : decode cX2_fits 0 = .ok (.aload_n 0, 1) := by decide +kernel
theorem dX2_fits_1 : decode cX2_fits 1 = .ok (.getfield 19, 3) := by decide +kernel
theorem dX2_fits_4 : decode cX2_fits 4 = .ok (.iload_n 1, 1) := by decide +kernel
theorem dX2_fits_5 : decode cX2_fits 5 = .ok (.aaload, 1) := by decide +kernel
theorem dX2_fits_6 : decode cX2_fits 6 = .ok (.astore 5, 2) := by decide +kernel
theorem dX2_fits_8 : decode cX2_fits 8 = .ok (.aload 5, 2) := by decide +kernel
theorem dX2_fits_10 : decode cX2_fits 10 = .ok (.ifnonnull 7, 3) := by decide +kernel
theorem dX2_fits_13 : decode cX2_fits 13 = .ok (.iconst 0, 1) := by decide +kernel
theorem dX2_fits_14 : decode cX2_fits 14 = .ok (.goto 8, 3) := by decide +kernel
theorem dX2_fits_17 : decode cX2_fits 17 = .ok (.aload 5, 2) := by decide +kernel
theorem dX2_fits_19 : decode cX2_fits 19 = .ok (.getfield 220, 3) := by decide +kernel
theorem dX2_fits_22 : decode cX2_fits 22 = .ok (.istore 6, 2) := by decide +kernel
theorem dX2_fits_24 : decode cX2_fits 24 = .ok (.aload 5, 2) := by decide +kernel
theorem dX2_fits_26 : decode cX2_fits 26 = .ok (.ifnonnull 7, 3) := by decide +kernel
theorem dX2_fits_29 : decode cX2_fits 29 = .ok (.iconst (-1), 1) := by decide +kernel
theorem dX2_fits_30 : decode cX2_fits 30 = .ok (.goto 8, 3) := by decide +kernel
theorem dX2_fits_33 : decode cX2_fits 33 = .ok (.aload 5, 2) := by decide +kernel
theorem dX2_fits_35 : decode cX2_fits 35 = .ok (.getfield 223, 3) := by decide +kernel
theorem dX2_fits_38 : decode cX2_fits 38 = .ok (.istore 7, 2) := by decide +kernel
theorem dX2_fits_40 : decode cX2_fits 40 = .ok (.iload 7, 2) := by decide +kernel
theorem dX2_fits_42 : decode cX2_fits 42 = .ok (.ifCond .lt 24, 3) := by decide +kernel
theorem dX2_fits_45 : decode cX2_fits 45 = .ok (.lload_n 2, 1) := by decide +kernel
theorem dX2_fits_46 : decode cX2_fits 46 = .ok (.iload 7, 2) := by decide +kernel
theorem dX2_fits_48 : decode cX2_fits 48 = .ok (.i2l, 1) := by decide +kernel
theorem dX2_fits_49 : decode cX2_fits 49 = .ok (.lcmp, 1) := by decide +kernel
theorem dX2_fits_50 : decode cX2_fits 50 = .ok (.ifCond .gt 29, 3) := by decide +kernel
theorem dX2_fits_53 : decode cX2_fits 53 = .ok (.iload 4, 2) := by decide +kernel
theorem dX2_fits_55 : decode cX2_fits 55 = .ok (.ifCond .eq 11, 3) := by decide +kernel
theorem dX2_fits_58 : decode cX2_fits 58 = .ok (.lload_n 2, 1) := by decide +kernel
theorem dX2_fits_59 : decode cX2_fits 59 = .ok (.iload 7, 2) := by decide +kernel
theorem dX2_fits_61 : decode cX2_fits 61 = .ok (.i2l, 1) := by decide +kernel
theorem dX2_fits_62 : decode cX2_fits 62 = .ok (.lcmp, 1) := by decide +kernel
theorem dX2_fits_63 : decode cX2_fits 63 = .ok (.ifCond .ne 16, 3) := by decide +kernel
theorem dX2_fits_66 : decode cX2_fits 66 = .ok (.iload 4, 2) := by decide +kernel
theorem dX2_fits_68 : decode cX2_fits 68 = .ok (.ifCond .eq 14, 3) := by decide +kernel
theorem dX2_fits_71 : decode cX2_fits 71 = .ok (.lload_n 2, 1) := by decide +kernel
theorem dX2_fits_72 : decode cX2_fits 72 = .ok (.iload 6, 2) := by decide +kernel
theorem dX2_fits_74 : decode cX2_fits 74 = .ok (.i2l, 1) := by decide +kernel
theorem dX2_fits_75 : decode cX2_fits 75 = .ok (.lcmp, 1) := by decide +kernel
theorem dX2_fits_76 : decode cX2_fits 76 = .ok (.ifCond .ge 6, 3) := by decide +kernel
theorem dX2_fits_79 : decode cX2_fits 79 = .ok (.bipush 6, 2) := by decide +kernel
theorem dX2_fits_81 : decode cX2_fits 81 = .ok (.ireturn, 1) := by decide +kernel
theorem dX2_fits_82 : decode cX2_fits 82 = .ok (.aload 5, 2) := by decide +kernel
theorem dX2_fits_84 : decode cX2_fits 84 = .ok (.ifnonnull 18, 3) := by decide +kernel
theorem dX2_fits_87 : decode cX2_fits 87 = .ok (.aload_n 0, 1) := by decide +kernel
theorem dX2_fits_88 : decode cX2_fits 88 = .ok (.getfield 30, 3) := by decide +kernel
theorem dX2_fits_91 : decode cX2_fits 91 = .ok (.aload_n 0, 1) := by decide +kernel
theorem dX2_fits_92 : decode cX2_fits 92 = .ok (.iload_n 1, 1) := by decide +kernel
theorem dX2_fits_93 : decode cX2_fits 93 = .ok (.i2l, 1) := by decide +kernel
theorem dX2_fits_94 : decode cX2_fits 94 = .ok (.iconst 0, 1) := by decide +kernel
theorem dX2_fits_95 : decode cX2_fits 95 = .ok (.invokevirtual 105, 3) := by decide +kernel
theorem dX2_fits_98 : decode cX2_fits 98 = .ok (.iaload, 1) := by decide +kernel
theorem dX2_fits_99 : decode cX2_fits 99 = .ok (.goto 8, 3) := by decide +kernel
theorem dX2_fits_102 : decode cX2_fits 102 = .ok (.aload 5, 2) := by decide +kernel
theorem dX2_fits_104 : decode cX2_fits 104 = .ok (.getfield 214, 3) := by decide +kernel
theorem dX2_fits_107 : decode cX2_fits 107 = .ok (.istore 8, 2) := by decide +kernel
theorem dX2_fits_109 : decode cX2_fits 109 = .ok (.lload_n 2, 1) := by decide +kernel
theorem dX2_fits_110 : decode cX2_fits 110 = .ok (.iload 8, 2) := by decide +kernel
theorem dX2_fits_112 : decode cX2_fits 112 = .ok (.i2l, 1) := by decide +kernel
theorem dX2_fits_113 : decode cX2_fits 113 = .ok (.lcmp, 1) := by decide +kernel
theorem dX2_fits_114 : decode cX2_fits 114 = .ok (.ifCond .gt 27, 3) := by decide +kernel
theorem dX2_fits_117 : decode cX2_fits 117 = .ok (.aload_n 0, 1) := by decide +kernel
theorem dX2_fits_118 : decode cX2_fits 118 = .ok (.getfield 226, 3) := by decide +kernel
theorem dX2_fits_121 : decode cX2_fits 121 = .ok (.i2l, 1) := by decide +kernel
theorem dX2_fits_122 : decode cX2_fits 122 = .ok (.lload_n 2, 1) := by decide +kernel
theorem dX2_fits_123 : decode cX2_fits 123 = .ok (.iload 6, 2) := by decide +kernel
theorem dX2_fits_125 : decode cX2_fits 125 = .ok (.i2l, 1) := by decide +kernel
theorem dX2_fits_126 : decode cX2_fits 126 = .ok (.lsub, 1) := by decide +kernel
theorem dX2_fits_127 : decode cX2_fits 127 = .ok (.lconst 0, 1) := by decide +kernel
theorem dX2_fits_128 : decode cX2_fits 128 = .ok (.invokestatic 229, 3) := by decide +kernel
theorem dX2_fits_131 : decode cX2_fits 131 = .ok (.ladd, 1) := by decide +kernel
theorem dX2_fits_132 : decode cX2_fits 132 = .ok (.aload_n 0, 1) := by decide +kernel
theorem dX2_fits_133 : decode cX2_fits 133 = .ok (.getfield 76, 3) := by decide +kernel
theorem dX2_fits_136 : decode cX2_fits 136 = .ok (.i2l, 1) := by decide +kernel
theorem dX2_fits_137 : decode cX2_fits 137 = .ok (.lcmp, 1) := by decide +kernel
theorem dX2_fits_138 : decode cX2_fits 138 = .ok (.ifCond .le 7, 3) := by decide +kernel
theorem dX2_fits_141 : decode cX2_fits 141 = .ok (.iconst 3, 1) := by decide +kernel
theorem dX2_fits_142 : decode cX2_fits 142 = .ok (.goto 4, 3) := by decide +kernel
theorem dX2_fits_145 : decode cX2_fits 145 = .ok (.iconst 0, 1) := by decide +kernel
theorem dX2_fits_146 : decode cX2_fits 146 = .ok (.ireturn, 1) := by decide +kernel
theorem dX2_come_0 : decode cX2_come 0 = .ok (.aload_n 0, 1) := by decide +kernel
theorem dX2_come_1 : decode cX2_come 1 = .ok (.iload_n 1, 1) := by decide +kernel
theorem dX2_come_2 : decode cX2_come 2 = .ok (.i2l, 1) := by decide +kernel
theorem dX2_come_3 : decode cX2_come 3 = .ok (.invokevirtual 124, 3) := by decide +kernel
theorem dX2_come_6 : decode cX2_come 6 = .ok (.astore_n 2, 1) := by decide +kernel
theorem dX2_come_7 : decode cX2_come 7 = .ok (.aload_n 2, 1) := by decide +kernel
theorem dX2_come_8 : decode cX2_come 8 = .ok (.getfield 128, 3) := by decide +kernel
theorem dX2_come_11 : decode cX2_come 11 = .ok (.iload_n 1, 1) := by decide +kernel
theorem dX2_come_12 : decode cX2_come 12 = .ok (.iconst 4, 1) := by decide +kernel
theorem dX2_come_13 : decode cX2_come 13 = .ok (.idiv, 1) := by decide +kernel
theorem dX2_come_14 : decode cX2_come 14 = .ok (.if_icmp .gt 30, 3) := by decide +kernel
theorem dX2_come_17 : decode cX2_come 17 = .ok (.aload_n 0, 1) := by decide +kernel
theorem dX2_come_18 : decode cX2_come 18 = .ok (.iconst 4, 1) := by decide +kernel
theorem dX2_come_19 : decode cX2_come 19 = .ok (.aload_n 2, 1) := by decide +kernel
theorem dX2_come_20 : decode cX2_come 20 = .ok (.getfield 128, 3) := by decide +kernel
theorem dX2_come_23 : decode cX2_come 23 = .ok (.imul, 1) := by decide +kernel
theorem dX2_come_24 : decode cX2_come 24 = .ok (.iload_n 1, 1) := by decide +kernel
theorem dX2_come_25 : decode cX2_come 25 = .ok (.iconst 4, 1) := by decide +kernel
theorem dX2_come_26 : decode cX2_come 26 = .ok (.irem, 1) := by decide +kernel
theorem dX2_come_27 : decode cX2_come 27 = .ok (.iadd, 1) := by decide +kernel
theorem dX2_come_28 : decode cX2_come 28 = .ok (.invokevirtual 121, 3) := by decide +kernel
theorem dX2_come_31 : decode cX2_come 31 = .ok (.aload_n 2, 1) := by decide +kernel
theorem dX2_come_32 : decode cX2_come 32 = .ok (.dup, 1) := by decide +kernel
theorem dX2_come_33 : decode cX2_come 33 = .ok (.getfield 128, 3) := by decide +kernel
theorem dX2_come_36 : decode cX2_come 36 = .ok (.iconst 1, 1) := by decide +kernel
theorem dX2_come_37 : decode cX2_come 37 = .ok (.iadd, 1) := by decide +kernel
theorem dX2_come_38 : decode cX2_come 38 = .ok (.putfield 128, 3) := by decide +kernel
theorem dX2_come_41 : decode cX2_come 41 = .ok (.goto (-34), 3) := by decide +kernel
theorem dX2_come_44 : decode cX2_come 44 = .ok (.return_, 1) := by decide +kernel
theorem dX2_comes_0 : decode cX2_comes 0 = .ok (.aload_n 0, 1) := by decide +kernel
theorem dX2_comes_1 : decode cX2_comes 1 = .ok (.aload_n 1, 1) := by decide +kernel
theorem dX2_comes_2 : decode cX2_comes 2 = .ok (.iload_n 2, 1) := by decide +kernel
theorem dX2_comes_3 : decode cX2_comes 3 = .ok (.iload 6, 2) := by decide +kernel
theorem dX2_comes_5 : decode cX2_comes 5 = .ok (.iadd, 1) := by decide +kernel
theorem dX2_comes_6 : decode cX2_comes 6 = .ok (.invokevirtual 253, 3) := by decide +kernel
theorem dX2_comes_9 : decode cX2_comes 9 = .ok (.iload_n 3, 1) := by decide +kernel
theorem dX2_comes_10 : decode cX2_comes 10 = .ok (.ifCond .eq 11, 3) := by decide +kernel
theorem dX2_comes_13 : decode cX2_comes 13 = .ok (.aload_n 1, 1) := by decide +kernel
theorem dX2_comes_14 : decode cX2_comes 14 = .ok (.iload_n 2, 1) := by decide +kernel
theorem dX2_comes_15 : decode cX2_comes 15 = .ok (.iload 6, 2) := by decide +kernel
theorem dX2_comes_17 : decode cX2_comes 17 = .ok (.iadd, 1) := by decide +kernel
theorem dX2_comes_18 : decode cX2_comes 18 = .ok (.putfield 223, 3) := by decide +kernel
theorem dX2_comes_21 : decode cX2_comes 21 = .ok (.aload_n 1, 1) := by decide +kernel
theorem dX2_comes_22 : decode cX2_comes 22 = .ok (.invokevirtual 170, 3) := by decide +kernel
theorem dX2_comes_25 : decode cX2_comes 25 = .ok (.ifCond .ne 4, 3) := by decide +kernel
theorem dX2_comes_28 : decode cX2_comes 28 = .ok (.return_, 1) := by decide +kernel
theorem dX2_comes_29 : decode cX2_comes 29 = .ok (.aload_n 0, 1) := by decide +kernel
theorem dX2_comes_30 : decode cX2_comes 30 = .ok (.getfield 55, 3) := by decide +kernel
theorem dX2_comes_33 : decode cX2_comes 33 = .ok (.aload_n 1, 1) := by decide +kernel
theorem dX2_comes_34 : decode cX2_comes 34 = .ok (.iload_n 2, 1) := by decide +kernel
theorem dX2_comes_35 : decode cX2_comes 35 = .ok (.aload 4, 2) := by decide +kernel
theorem dX2_comes_37 : decode cX2_comes 37 = .ok (.iload 5, 2) := by decide +kernel
theorem dX2_comes_39 : decode cX2_comes 39 = .ok (.iload 6, 2) := by decide +kernel
theorem dX2_comes_41 : decode cX2_comes 41 = .ok (.invokevirtual 257, 3) := by decide +kernel
theorem dX2_comes_44 : decode cX2_comes 44 = .ok (.aload_n 1, 1) := by decide +kernel
theorem dX2_comes_45 : decode cX2_comes 45 = .ok (.invokevirtual 200, 3) := by decide +kernel
theorem dX2_comes_48 : decode cX2_comes 48 = .ok (.return_, 1) := by decide +kernel
theorem dX2_reach_0 : decode cX2_reach 0 = .ok (.aload_n 0, 1) := by decide +kernel
theorem dX2_reach_1 : decode cX2_reach 1 = .ok (.dup, 1) := by decide +kernel
theorem dX2_reach_2 : decode cX2_reach 2 = .ok (.getfield 226, 3) := by decide +kernel
theorem dX2_reach_5 : decode cX2_reach 5 = .ok (.iload_n 2, 1) := by decide +kernel
theorem dX2_reach_6 : decode cX2_reach 6 = .ok (.aload_n 1, 1) := by decide +kernel
theorem dX2_reach_7 : decode cX2_reach 7 = .ok (.getfield 220, 3) := by decide +kernel
theorem dX2_reach_10 : decode cX2_reach 10 = .ok (.isub, 1) := by decide +kernel
theorem dX2_reach_11 : decode cX2_reach 11 = .ok (.iconst 0, 1) := by decide +kernel
theorem dX2_reach_12 : decode cX2_reach 12 = .ok (.invokestatic 232, 3) := by decide +kernel
theorem dX2_reach_15 : decode cX2_reach 15 = .ok (.iadd, 1) := by decide +kernel
theorem dX2_reach_16 : decode cX2_reach 16 = .ok (.putfield 226, 3) := by decide +kernel
theorem dX2_reach_19 : decode cX2_reach 19 = .ok (.aload_n 1, 1) := by decide +kernel
theorem dX2_reach_20 : decode cX2_reach 20 = .ok (.aload_n 1, 1) := by decide +kernel
theorem dX2_reach_21 : decode cX2_reach 21 = .ok (.getfield 220, 3) := by decide +kernel
theorem dX2_reach_24 : decode cX2_reach 24 = .ok (.iload_n 2, 1) := by decide +kernel
theorem dX2_reach_25 : decode cX2_reach 25 = .ok (.invokestatic 232, 3) := by decide +kernel
theorem dX2_reach_28 : decode cX2_reach 28 = .ok (.putfield 220, 3) := by decide +kernel
theorem dX2_reach_31 : decode cX2_reach 31 = .ok (.return_, 1) := by decide +kernel
theorem dX2_isReset_0 : decode cX2_isReset 0 = .ok (.aload_n 0, 1) := by decide +kernel
theorem dX2_isReset_1 : decode cX2_isReset 1 = .ok (.aload_n 1, 1) := by decide +kernel
theorem dX2_isReset_2 : decode cX2_isReset 2 = .ok (.iload 4, 2) := by decide +kernel
theorem dX2_isReset_4 : decode cX2_isReset 4 = .ok (.invokevirtual 253, 3) := by decide +kernel
theorem dX2_isReset_7 : decode cX2_isReset 7 = .ok (.aload_n 1, 1) := by decide +kernel
theorem dX2_isReset_8 : decode cX2_isReset 8 = .ok (.invokevirtual 170, 3) := by decide +kernel
theorem dX2_isReset_11 : decode cX2_isReset 11 = .ok (.ifCond .ne 4, 3) := by decide +kernel
theorem dX2_isReset_14 : decode cX2_isReset 14 = .ok (.return_, 1) := by decide +kernel
theorem dX2_isReset_15 : decode cX2_isReset 15 = .ok (.aload_n 1, 1) := by decide +kernel
theorem dX2_isReset_16 : decode cX2_isReset 16 = .ok (.iconst 4, 1) := by decide +kernel
theorem dX2_isReset_17 : decode cX2_isReset 17 = .ok (.putfield 180, 3) := by decide +kernel
theorem dX2_isReset_20 : decode cX2_isReset 20 = .ok (.aload_n 1, 1) := by decide +kernel
theorem dX2_isReset_21 : decode cX2_isReset 21 = .ok (.lload_n 2, 1) := by decide +kernel
theorem dX2_isReset_22 : decode cX2_isReset 22 = .ok (.putfield 261, 3) := by decide +kernel
theorem dX2_isReset_25 : decode cX2_isReset 25 = .ok (.aload_n 1, 1) := by decide +kernel
theorem dX2_isReset_26 : decode cX2_isReset 26 = .ok (.iload 4, 2) := by decide +kernel
theorem dX2_isReset_28 : decode cX2_isReset 28 = .ok (.putfield 223, 3) := by decide +kernel
theorem dX2_isReset_31 : decode cX2_isReset 31 = .ok (.aload_n 0, 1) := by decide +kernel
theorem dX2_isReset_32 : decode cX2_isReset 32 = .ok (.dup, 1) := by decide +kernel
theorem dX2_isReset_33 : decode cX2_isReset 33 = .ok (.getfield 191, 3) := by decide +kernel
theorem dX2_isReset_36 : decode cX2_isReset 36 = .ok (.iload 4, 2) := by decide +kernel
theorem dX2_isReset_38 : decode cX2_isReset 38 = .ok (.aload_n 1, 1) := by decide +kernel
theorem dX2_isReset_39 : decode cX2_isReset 39 = .ok (.getfield 184, 3) := by decide +kernel
theorem dX2_isReset_42 : decode cX2_isReset 42 = .ok (.isub, 1) := by decide +kernel
theorem dX2_isReset_43 : decode cX2_isReset 43 = .ok (.iadd, 1) := by decide +kernel
theorem dX2_isReset_44 : decode cX2_isReset 44 = .ok (.putfield 191, 3) := by decide +kernel
theorem dX2_isReset_47 : decode cX2_isReset 47 = .ok (.aload_n 0, 1) := by decide +kernel
theorem dX2_isReset_48 : decode cX2_isReset 48 = .ok (.getfield 55, 3) := by decide +kernel
theorem dX2_isReset_51 : decode cX2_isReset 51 = .ok (.aload_n 1, 1) := by decide +kernel
theorem dX2_isReset_52 : decode cX2_isReset 52 = .ok (.invokevirtual 264, 3) := by decide +kernel
theorem dX2_isReset_55 : decode cX2_isReset 55 = .ok (.aload_n 0, 1) := by decide +kernel
theorem dX2_isReset_56 : decode cX2_isReset 56 = .ok (.invokevirtual 194, 3) := by decide +kernel
theorem dX2_isReset_59 : decode cX2_isReset 59 = .ok (.return_, 1) := by decide +kernel
theorem dX2_gone_0 : decode cX2_gone 0 = .ok (.lload_n 2, 1) := by decide +kernel
theorem dX2_gone_1 : decode cX2_gone 1 = .ok (.ldc2_w 342, 3) := by decide +kernel
theorem dX2_gone_4 : decode cX2_gone 4 = .ok (.lcmp, 1) := by decide +kernel
theorem dX2_gone_5 : decode cX2_gone 5 = .ok (.ifCond .ge 8, 3) := by decide +kernel
theorem dX2_gone_8 : decode cX2_gone 8 = .ok (.lload_n 2, 1) := by decide +kernel
theorem dX2_gone_9 : decode cX2_gone 9 = .ok (.l2i, 1) := by decide +kernel
theorem dX2_gone_10 : decode cX2_gone 10 = .ok (.goto 4, 3) := by decide +kernel
theorem dX2_gone_13 : decode cX2_gone 13 = .ok (.iconst 0, 1) := by decide +kernel
theorem dX2_gone_14 : decode cX2_gone 14 = .ok (.istore 10, 2) := by decide +kernel
theorem dX2_gone_16 : decode cX2_gone 16 = .ok (.iload_n 1, 1) := by decide +kernel
theorem dX2_gone_17 : decode cX2_gone 17 = .ok (.bipush 8, 2) := by decide +kernel
theorem dX2_gone_19 : decode cX2_gone 19 = .ok (.if_icmp .ne 52, 3) := by decide +kernel
theorem dX2_gone_22 : decode cX2_gone 22 = .ok (.aload_n 0, 1) := by decide +kernel
theorem dX2_gone_23 : decode cX2_gone 23 = .ok (.iload 10, 2) := by decide +kernel
theorem dX2_gone_25 : decode cX2_gone 25 = .ok (.invokevirtual 131, 3) := by decide +kernel
theorem dX2_gone_28 : decode cX2_gone 28 = .ok (.istore 11, 2) := by decide +kernel
theorem dX2_gone_30 : decode cX2_gone 30 = .ok (.aload_n 0, 1) := by decide +kernel
theorem dX2_gone_31 : decode cX2_gone 31 = .ok (.aload_n 0, 1) := by decide +kernel
theorem dX2_gone_32 : decode cX2_gone 32 = .ok (.getfield 11, 3) := by decide +kernel
theorem dX2_gone_35 : decode cX2_gone 35 = .ok (.iload 10, 2) := by decide +kernel
theorem dX2_gone_37 : decode cX2_gone 37 = .ok (.aaload, 1) := by decide +kernel
theorem dX2_gone_38 : decode cX2_gone 38 = .ok (.lload 4, 2) := by decide +kernel
theorem dX2_gone_40 : decode cX2_gone 40 = .ok (.l2i, 1) := by decide +kernel
theorem dX2_gone_41 : decode cX2_gone 41 = .ok (.iload 6, 2) := by decide +kernel
theorem dX2_gone_43 : decode cX2_gone 43 = .ok (.lload 7, 2) := by decide +kernel
theorem dX2_gone_45 : decode cX2_gone 45 = .ok (.lconst 1, 1) := by decide +kernel
theorem dX2_gone_46 : decode cX2_gone 46 = .ok (.lcmp, 1) := by decide +kernel
theorem dX2_gone_47 : decode cX2_gone 47 = .ok (.ifCond .ne 7, 3) := by decide +kernel
theorem dX2_gone_50 : decode cX2_gone 50 = .ok (.iconst 1, 1) := by decide +kernel
theorem dX2_gone_51 : decode cX2_gone 51 = .ok (.goto 4, 3) := by decide +kernel
theorem dX2_gone_54 : decode cX2_gone 54 = .ok (.iconst 0, 1) := by decide +kernel
theorem dX2_gone_55 : decode cX2_gone 55 = .ok (.iload 9, 2) := by decide +kernel
theorem dX2_gone_57 : decode cX2_gone 57 = .ok (.invokevirtual 344, 3) := by decide +kernel
theorem dX2_gone_60 : decode cX2_gone 60 = .ok (.aload_n 0, 1) := by decide +kernel
theorem dX2_gone_61 : decode cX2_gone 61 = .ok (.iload 10, 2) := by decide +kernel
theorem dX2_gone_63 : decode cX2_gone 63 = .ok (.iload 11, 2) := by decide +kernel
theorem dX2_gone_65 : decode cX2_gone 65 = .ok (.invokevirtual 203, 3) := by decide +kernel
theorem dX2_gone_68 : decode cX2_gone 68 = .ok (.goto 72, 3) := by decide +kernel
theorem dX2_gone_71 : decode cX2_gone 71 = .ok (.iload_n 1, 1) := by decide +kernel
theorem dX2_gone_72 : decode cX2_gone 72 = .ok (.iconst 4, 1) := by decide +kernel
theorem dX2_gone_73 : decode cX2_gone 73 = .ok (.if_icmp .ne 52, 3) := by decide +kernel
theorem dX2_gone_76 : decode cX2_gone 76 = .ok (.aload_n 0, 1) := by decide +kernel
theorem dX2_gone_77 : decode cX2_gone 77 = .ok (.iload 10, 2) := by decide +kernel
theorem dX2_gone_79 : decode cX2_gone 79 = .ok (.invokevirtual 131, 3) := by decide +kernel
theorem dX2_gone_82 : decode cX2_gone 82 = .ok (.istore 11, 2) := by decide +kernel
theorem dX2_gone_84 : decode cX2_gone 84 = .ok (.iload 9, 2) := by decide +kernel
theorem dX2_gone_86 : decode cX2_gone 86 = .ok (.ifCond .eq 17, 3) := by decide +kernel
theorem dX2_gone_89 : decode cX2_gone 89 = .ok (.aload_n 0, 1) := by decide +kernel
theorem dX2_gone_90 : decode cX2_gone 90 = .ok (.getfield 11, 3) := by decide +kernel
theorem dX2_gone_93 : decode cX2_gone 93 = .ok (.iload 10, 2) := by decide +kernel
theorem dX2_gone_95 : decode cX2_gone 95 = .ok (.aaload, 1) := by decide +kernel
theorem dX2_gone_96 : decode cX2_gone 96 = .ok (.iconst 4, 1) := by decide +kernel
theorem dX2_gone_97 : decode cX2_gone 97 = .ok (.putfield 150, 3) := by decide +kernel
theorem dX2_gone_100 : decode cX2_gone 100 = .ok (.goto 14, 3) := by decide +kernel
theorem dX2_gone_103 : decode cX2_gone 103 = .ok (.aload_n 0, 1) := by decide +kernel
theorem dX2_gone_104 : decode cX2_gone 104 = .ok (.getfield 11, 3) := by decide +kernel
theorem dX2_gone_107 : decode cX2_gone 107 = .ok (.iload 10, 2) := by decide +kernel
theorem dX2_gone_109 : decode cX2_gone 109 = .ok (.aaload, 1) := by decide +kernel
theorem dX2_gone_110 : decode cX2_gone 110 = .ok (.iconst 1, 1) := by decide +kernel
theorem dX2_gone_111 : decode cX2_gone 111 = .ok (.putfield 296, 3) := by decide +kernel
theorem dX2_gone_114 : decode cX2_gone 114 = .ok (.aload_n 0, 1) := by decide +kernel
theorem dX2_gone_115 : decode cX2_gone 115 = .ok (.iload 10, 2) := by decide +kernel
theorem dX2_gone_117 : decode cX2_gone 117 = .ok (.iload 11, 2) := by decide +kernel
theorem dX2_gone_119 : decode cX2_gone 119 = .ok (.invokevirtual 203, 3) := by decide +kernel
theorem dX2_gone_122 : decode cX2_gone 122 = .ok (.goto 18, 3) := by decide +kernel
theorem dX2_gone_125 : decode cX2_gone 125 = .ok (.iload 9, 2) := by decide +kernel
theorem dX2_gone_127 : decode cX2_gone 127 = .ok (.ifCond .ne 13, 3) := by decide +kernel
theorem dX2_gone_130 : decode cX2_gone 130 = .ok (.aload_n 0, 1) := by decide +kernel
theorem dX2_gone_131 : decode cX2_gone 131 = .ok (.iload_n 1, 1) := by decide +kernel
theorem dX2_gone_132 : decode cX2_gone 132 = .ok (.iload 10, 2) := by decide +kernel
theorem dX2_gone_134 : decode cX2_gone 134 = .ok (.lload_n 2, 1) := by decide +kernel
theorem dX2_gone_135 : decode cX2_gone 135 = .ok (.lload 4, 2) := by decide +kernel
theorem dX2_gone_137 : decode cX2_gone 137 = .ok (.invokevirtual 348, 3) := by decide +kernel
theorem dX2_gone_140 : decode cX2_gone 140 = .ok (.return_, 1) := by decide +kernel
theorem dX2_isGone_0 : decode cX2_isGone 0 = .ok (.iload 5, 2) := by decide +kernel
theorem dX2_isGone_2 : decode cX2_isGone 2 = .ok (.ifCond .eq 95, 3) := by decide +kernel
theorem dX2_isGone_5 : decode cX2_isGone 5 = .ok (.iload_n 3, 1) := by decide +kernel
theorem dX2_isGone_6 : decode cX2_isGone 6 = .ok (.ifCond .le 41, 3) := by decide +kernel
theorem dX2_isGone_9 : decode cX2_isGone 9 = .ok (.aload_n 1, 1) := by decide +kernel
theorem dX2_isGone_10 : decode cX2_isGone 10 = .ok (.aload_n 0, 1) := by decide +kernel
theorem dX2_isGone_11 : decode cX2_isGone 11 = .ok (.getfield 41, 3) := by decide +kernel
theorem dX2_isGone_14 : decode cX2_isGone 14 = .ok (.aload_n 1, 1) := by decide +kernel
theorem dX2_isGone_15 : decode cX2_isGone 15 = .ok (.getfield 352, 3) := by decide +kernel
theorem dX2_isGone_18 : decode cX2_isGone 18 = .ok (.iload_n 2, 1) := by decide +kernel
theorem dX2_isGone_19 : decode cX2_isGone 19 = .ok (.iload_n 2, 1) := by decide +kernel
theorem dX2_isGone_20 : decode cX2_isGone 20 = .ok (.iload_n 3, 1) := by decide +kernel
theorem dX2_isGone_21 : decode cX2_isGone 21 = .ok (.iadd, 1) := by decide +kernel
theorem dX2_isGone_22 : decode cX2_isGone 22 = .ok (.invokevirtual 355, 3) := by decide +kernel
theorem dX2_isGone_25 : decode cX2_isGone 25 = .ok (.putfield 352, 3) := by decide +kernel
theorem dX2_isGone_28 : decode cX2_isGone 28 = .ok (.aload_n 1, 1) := by decide +kernel
theorem dX2_isGone_29 : decode cX2_isGone 29 = .ok (.aload_n 0, 1) := by decide +kernel
theorem dX2_isGone_30 : decode cX2_isGone 30 = .ok (.getfield 41, 3) := by decide +kernel
theorem dX2_isGone_33 : decode cX2_isGone 33 = .ok (.aload_n 1, 1) := by decide +kernel
theorem dX2_isGone_34 : decode cX2_isGone 34 = .ok (.getfield 325, 3) := by decide +kernel
theorem dX2_isGone_37 : decode cX2_isGone 37 = .ok (.iload_n 2, 1) := by decide +kernel
theorem dX2_isGone_38 : decode cX2_isGone 38 = .ok (.iload_n 2, 1) := by decide +kernel
theorem dX2_isGone_39 : decode cX2_isGone 39 = .ok (.iload_n 3, 1) := by decide +kernel
theorem dX2_isGone_40 : decode cX2_isGone 40 = .ok (.iadd, 1) := by decide +kernel
theorem dX2_isGone_41 : decode cX2_isGone 41 = .ok (.invokevirtual 338, 3) := by decide +kernel
theorem dX2_isGone_44 : decode cX2_isGone 44 = .ok (.putfield 325, 3) := by decide +kernel
theorem dX2_isGone_47 : decode cX2_isGone 47 = .ok (.iload 4, 2) := by decide +kernel
theorem dX2_isGone_49 : decode cX2_isGone 49 = .ok (.ifCond .eq 8, 3) := by decide +kernel
theorem dX2_isGone_52 : decode cX2_isGone 52 = .ok (.aload_n 1, 1) := by decide +kernel
theorem dX2_isGone_53 : decode cX2_isGone 53 = .ok (.iconst 4, 1) := by decide +kernel
theorem dX2_isGone_54 : decode cX2_isGone 54 = .ok (.putfield 157, 3) := by decide +kernel
theorem dX2_isGone_57 : decode cX2_isGone 57 = .ok (.aload_n 1, 1) := by decide +kernel
theorem dX2_isGone_58 : decode cX2_isGone 58 = .ok (.getfield 150, 3) := by decide +kernel
theorem dX2_isGone_61 : decode cX2_isGone 61 = .ok (.iconst 1, 1) := by decide +kernel
theorem dX2_isGone_62 : decode cX2_isGone 62 = .ok (.if_icmp .ne 34, 3) := by decide +kernel
theorem dX2_isGone_65 : decode cX2_isGone 65 = .ok (.aload_n 1, 1) := by decide +kernel
theorem dX2_isGone_66 : decode cX2_isGone 66 = .ok (.getfield 157, 3) := by decide +kernel
theorem dX2_isGone_69 : decode cX2_isGone 69 = .ok (.iconst 4, 1) := by decide +kernel
theorem dX2_isGone_70 : decode cX2_isGone 70 = .ok (.if_icmp .ne 26, 3) := by decide +kernel
theorem dX2_isGone_73 : decode cX2_isGone 73 = .ok (.aload_n 0, 1) := by decide +kernel
theorem dX2_isGone_74 : decode cX2_isGone 74 = .ok (.getfield 41, 3) := by decide +kernel
theorem dX2_isGone_77 : decode cX2_isGone 77 = .ok (.aload_n 1, 1) := by decide +kernel
theorem dX2_isGone_78 : decode cX2_isGone 78 = .ok (.getfield 352, 3) := by decide +kernel
theorem dX2_isGone_81 : decode cX2_isGone 81 = .ok (.invokevirtual 357, 3) := by decide +kernel
theorem dX2_isGone_84 : decode cX2_isGone 84 = .ok (.aload_n 1, 1) := by decide +kernel
theorem dX2_isGone_85 : decode cX2_isGone 85 = .ok (.getfield 307, 3) := by decide +kernel
theorem dX2_isGone_88 : decode cX2_isGone 88 = .ok (.if_icmp .ne 8, 3) := by decide +kernel
theorem dX2_isGone_91 : decode cX2_isGone 91 = .ok (.aload_n 1, 1) := by decide +kernel
theorem dX2_isGone_92 : decode cX2_isGone 92 = .ok (.iconst 2, 1) := by decide +kernel
theorem dX2_isGone_93 : decode cX2_isGone 93 = .ok (.putfield 150, 3) := by decide +kernel
theorem dX2_isGone_96 : decode cX2_isGone 96 = .ok (.return_, 1) := by decide +kernel
theorem dX2_isGone_97 : decode cX2_isGone 97 = .ok (.iload_n 3, 1) := by decide +kernel
theorem dX2_isGone_98 : decode cX2_isGone 98 = .ok (.ifCond .le 22, 3) := by decide +kernel
theorem dX2_isGone_101 : decode cX2_isGone 101 = .ok (.aload_n 1, 1) := by decide +kernel
theorem dX2_isGone_102 : decode cX2_isGone 102 = .ok (.aload_n 0, 1) := by decide +kernel
theorem dX2_isGone_103 : decode cX2_isGone 103 = .ok (.getfield 41, 3) := by decide +kernel
theorem dX2_isGone_106 : decode cX2_isGone 106 = .ok (.aload_n 1, 1) := by decide +kernel
theorem dX2_isGone_107 : decode cX2_isGone 107 = .ok (.getfield 325, 3) := by decide +kernel
theorem dX2_isGone_110 : decode cX2_isGone 110 = .ok (.iload_n 2, 1) := by decide +kernel
theorem dX2_isGone_111 : decode cX2_isGone 111 = .ok (.iload_n 2, 1) := by decide +kernel
theorem dX2_isGone_112 : decode cX2_isGone 112 = .ok (.iload_n 3, 1) := by decide +kernel
theorem dX2_isGone_113 : decode cX2_isGone 113 = .ok (.iadd, 1) := by decide +kernel
theorem dX2_isGone_114 : decode cX2_isGone 114 = .ok (.invokevirtual 355, 3) := by decide +kernel
theorem dX2_isGone_117 : decode cX2_isGone 117 = .ok (.putfield 325, 3) := by decide +kernel
theorem dX2_isGone_120 : decode cX2_isGone 120 = .ok (.aload_n 1, 1) := by decide +kernel
theorem dX2_isGone_121 : decode cX2_isGone 121 = .ok (.getfield 352, 3) := by decide +kernel
theorem dX2_isGone_124 : decode cX2_isGone 124 = .ok (.istore 6, 2) := by decide +kernel
theorem dX2_isGone_126 : decode cX2_isGone 126 = .ok (.iload 6, 2) := by decide +kernel
theorem dX2_isGone_128 : decode cX2_isGone 128 = .ok (.iconst (-1), 1) := by decide +kernel
theorem dX2_isGone_129 : decode cX2_isGone 129 = .ok (.if_icmp .eq 57, 3) := by decide +kernel
theorem dX2_isGone_132 : decode cX2_isGone 132 = .ok (.iload_n 3, 1) := by decide +kernel
theorem dX2_isGone_133 : decode cX2_isGone 133 = .ok (.ifCond .le 53, 3) := by decide +kernel
theorem dX2_isGone_136 : decode cX2_isGone 136 = .ok (.aload_n 1, 1) := by decide +kernel
theorem dX2_isGone_137 : decode cX2_isGone 137 = .ok (.aload_n 0, 1) := by decide +kernel
theorem dX2_isGone_138 : decode cX2_isGone 138 = .ok (.getfield 41, 3) := by decide +kernel
theorem dX2_isGone_141 : decode cX2_isGone 141 = .ok (.aload_n 1, 1) := by decide +kernel
theorem dX2_isGone_142 : decode cX2_isGone 142 = .ok (.getfield 325, 3) := by decide +kernel
theorem dX2_isGone_145 : decode cX2_isGone 145 = .ok (.aload_n 0, 1) := by decide +kernel
theorem dX2_isGone_146 : decode cX2_isGone 146 = .ok (.getfield 41, 3) := by decide +kernel
theorem dX2_isGone_149 : decode cX2_isGone 149 = .ok (.getfield 328, 3) := by decide +kernel
theorem dX2_isGone_152 : decode cX2_isGone 152 = .ok (.iload 6, 2) := by decide +kernel
theorem dX2_isGone_154 : decode cX2_isGone 154 = .ok (.iaload, 1) := by decide +kernel
theorem dX2_isGone_155 : decode cX2_isGone 155 = .ok (.aload_n 0, 1) := by decide +kernel
theorem dX2_isGone_156 : decode cX2_isGone 156 = .ok (.getfield 41, 3) := by decide +kernel
theorem dX2_isGone_159 : decode cX2_isGone 159 = .ok (.getfield 331, 3) := by decide +kernel
theorem dX2_isGone_162 : decode cX2_isGone 162 = .ok (.iload 6, 2) := by decide +kernel
theorem dX2_isGone_164 : decode cX2_isGone 164 = .ok (.iaload, 1) := by decide +kernel
theorem dX2_isGone_165 : decode cX2_isGone 165 = .ok (.invokevirtual 338, 3) := by decide +kernel
theorem dX2_isGone_168 : decode cX2_isGone 168 = .ok (.putfield 325, 3) := by decide +kernel
theorem dX2_isGone_171 : decode cX2_isGone 171 = .ok (.aload_n 0, 1) := by decide +kernel
theorem dX2_isGone_172 : decode cX2_isGone 172 = .ok (.getfield 41, 3) := by decide +kernel
theorem dX2_isGone_175 : decode cX2_isGone 175 = .ok (.getfield 361, 3) := by decide +kernel
theorem dX2_isGone_178 : decode cX2_isGone 178 = .ok (.iload 6, 2) := by decide +kernel
theorem dX2_isGone_180 : decode cX2_isGone 180 = .ok (.iaload, 1) := by decide +kernel
theorem dX2_isGone_181 : decode cX2_isGone 181 = .ok (.istore 6, 2) := by decide +kernel
theorem dX2_isGone_183 : decode cX2_isGone 183 = .ok (.goto (-57), 3) := by decide +kernel
theorem dX2_isGone_186 : decode cX2_isGone 186 = .ok (.iload 4, 2) := by decide +kernel
theorem dX2_isGone_188 : decode cX2_isGone 188 = .ok (.ifCond .eq 16, 3) := by decide +kernel
theorem dX2_isGone_191 : decode cX2_isGone 191 = .ok (.aload_n 1, 1) := by decide +kernel
theorem dX2_isGone_192 : decode cX2_isGone 192 = .ok (.getfield 157, 3) := by decide +kernel
theorem dX2_isGone_195 : decode cX2_isGone 195 = .ok (.iconst 4, 1) := by decide +kernel
theorem dX2_isGone_196 : decode cX2_isGone 196 = .ok (.if_icmp .eq 8, 3) := by decide +kernel
theorem dX2_isGone_199 : decode cX2_isGone 199 = .ok (.aload_n 1, 1) := by decide +kernel
theorem dX2_isGone_200 : decode cX2_isGone 200 = .ok (.iconst 3, 1) := by decide +kernel
theorem dX2_isGone_201 : decode cX2_isGone 201 = .ok (.putfield 157, 3) := by decide +kernel
theorem dX2_isGone_204 : decode cX2_isGone 204 = .ok (.return_, 1) := by decide +kernel
theorem dX2_isLost_0 : decode cX2_isLost 0 = .ok (.iload_n 1, 1) := by decide +kernel
theorem dX2_isLost_1 : decode cX2_isLost 1 = .ok (.iconst 5, 1) := by decide +kernel
theorem dX2_isLost_2 : decode cX2_isLost 2 = .ok (.if_icmp .ne 13, 3) := by decide +kernel
theorem dX2_isLost_5 : decode cX2_isLost 5 = .ok (.aload_n 0, 1) := by decide +kernel
theorem dX2_isLost_6 : decode cX2_isLost 6 = .ok (.getfield 19, 3) := by decide +kernel
theorem dX2_isLost_9 : decode cX2_isLost 9 = .ok (.iload_n 2, 1) := by decide +kernel
theorem dX2_isLost_10 : decode cX2_isLost 10 = .ok (.aaload, 1) := by decide +kernel
theorem dX2_isLost_11 : decode cX2_isLost 11 = .ok (.iconst 1, 1) := by decide +kernel
theorem dX2_isLost_12 : decode cX2_isLost 12 = .ok (.putfield 174, 3) := by decide +kernel
theorem dX2_isLost_15 : decode cX2_isLost 15 = .ok (.iload_n 1, 1) := by decide +kernel
theorem dX2_isLost_16 : decode cX2_isLost 16 = .ok (.bipush 16, 2) := by decide +kernel
theorem dX2_isLost_18 : decode cX2_isLost 18 = .ok (.if_icmp .ne 18, 3) := by decide +kernel
theorem dX2_isLost_21 : decode cX2_isLost 21 = .ok (.lload_n 3, 1) := by decide +kernel
theorem dX2_isLost_22 : decode cX2_isLost 22 = .ok (.aload_n 0, 1) := by decide +kernel
theorem dX2_isLost_23 : decode cX2_isLost 23 = .ok (.getfield 76, 3) := by decide +kernel
theorem dX2_isLost_26 : decode cX2_isLost 26 = .ok (.i2l, 1) := by decide +kernel
theorem dX2_isLost_27 : decode cX2_isLost 27 = .ok (.lcmp, 1) := by decide +kernel
theorem dX2_isLost_28 : decode cX2_isLost 28 = .ok (.ifCond .ne 8, 3) := by decide +kernel
theorem dX2_isLost_31 : decode cX2_isLost 31 = .ok (.aload_n 0, 1) := by decide +kernel
theorem dX2_isLost_32 : decode cX2_isLost 32 = .ok (.iconst 1, 1) := by decide +kernel
theorem dX2_isLost_33 : decode cX2_isLost 33 = .ok (.putfield 208, 3) := by decide +kernel
theorem dX2_isLost_36 : decode cX2_isLost 36 = .ok (.iload_n 1, 1) := by decide +kernel
theorem dX2_isLost_37 : decode cX2_isLost 37 = .ok (.bipush 17, 2) := by decide +kernel
theorem dX2_isLost_39 : decode cX2_isLost 39 = .ok (.if_icmp .ne 29, 3) := by decide +kernel
theorem dX2_isLost_42 : decode cX2_isLost 42 = .ok (.lload 5, 2) := by decide +kernel
theorem dX2_isLost_44 : decode cX2_isLost 44 = .ok (.aload_n 0, 1) := by decide +kernel
theorem dX2_isLost_45 : decode cX2_isLost 45 = .ok (.getfield 19, 3) := by decide +kernel
theorem dX2_isLost_48 : decode cX2_isLost 48 = .ok (.iload_n 2, 1) := by decide +kernel
theorem dX2_isLost_49 : decode cX2_isLost 49 = .ok (.aaload, 1) := by decide +kernel
theorem dX2_isLost_50 : decode cX2_isLost 50 = .ok (.getfield 214, 3) := by decide +kernel
theorem dX2_isLost_53 : decode cX2_isLost 53 = .ok (.i2l, 1) := by decide +kernel
theorem dX2_isLost_54 : decode cX2_isLost 54 = .ok (.lcmp, 1) := by decide +kernel
theorem dX2_isLost_55 : decode cX2_isLost 55 = .ok (.ifCond .ne 13, 3) := by decide +kernel
theorem dX2_isLost_58 : decode cX2_isLost 58 = .ok (.aload_n 0, 1) := by decide +kernel
theorem dX2_isLost_59 : decode cX2_isLost 59 = .ok (.getfield 19, 3) := by decide +kernel
theorem dX2_isLost_62 : decode cX2_isLost 62 = .ok (.iload_n 2, 1) := by decide +kernel
theorem dX2_isLost_63 : decode cX2_isLost 63 = .ok (.aaload, 1) := by decide +kernel
theorem dX2_isLost_64 : decode cX2_isLost 64 = .ok (.iconst 1, 1) := by decide +kernel
theorem dX2_isLost_65 : decode cX2_isLost 65 = .ok (.putfield 217, 3) := by decide +kernel
theorem dX2_isLost_68 : decode cX2_isLost 68 = .ok (.iload_n 1, 1) := by decide +kernel
theorem dX2_isLost_69 : decode cX2_isLost 69 = .ok (.bipush 18, 2) := by decide +kernel
theorem dX2_isLost_71 : decode cX2_isLost 71 = .ok (.if_icmp .eq 9, 3) := by decide +kernel
theorem dX2_isLost_74 : decode cX2_isLost 74 = .ok (.iload_n 1, 1) := by decide +kernel
theorem dX2_isLost_75 : decode cX2_isLost 75 = .ok (.bipush 19, 2) := by decide +kernel
theorem dX2_isLost_77 : decode cX2_isLost 77 = .ok (.if_icmp .ne 34, 3) := by decide +kernel
theorem dX2_isLost_80 : decode cX2_isLost 80 = .ok (.lload_n 3, 1) := by decide +kernel
theorem dX2_isLost_81 : decode cX2_isLost 81 = .ok (.aload_n 0, 1) := by decide +kernel
theorem dX2_isLost_82 : decode cX2_isLost 82 = .ok (.getfield 26, 3) := by decide +kernel
theorem dX2_isLost_85 : decode cX2_isLost 85 = .ok (.iload_n 1, 1) := by decide +kernel
theorem dX2_isLost_86 : decode cX2_isLost 86 = .ok (.bipush 18, 2) := by decide +kernel
theorem dX2_isLost_88 : decode cX2_isLost 88 = .ok (.isub, 1) := by decide +kernel
theorem dX2_isLost_89 : decode cX2_isLost 89 = .ok (.aaload, 1) := by decide +kernel
theorem dX2_isLost_90 : decode cX2_isLost 90 = .ok (.getfield 79, 3) := by decide +kernel
theorem dX2_isLost_93 : decode cX2_isLost 93 = .ok (.i2l, 1) := by decide +kernel
theorem dX2_isLost_94 : decode cX2_isLost 94 = .ok (.lcmp, 1) := by decide +kernel
theorem dX2_isLost_95 : decode cX2_isLost 95 = .ok (.ifCond .ne 16, 3) := by decide +kernel
theorem dX2_isLost_98 : decode cX2_isLost 98 = .ok (.aload_n 0, 1) := by decide +kernel
theorem dX2_isLost_99 : decode cX2_isLost 99 = .ok (.getfield 26, 3) := by decide +kernel
theorem dX2_isLost_102 : decode cX2_isLost 102 = .ok (.iload_n 1, 1) := by decide +kernel
theorem dX2_isLost_103 : decode cX2_isLost 103 = .ok (.bipush 18, 2) := by decide +kernel
theorem dX2_isLost_105 : decode cX2_isLost 105 = .ok (.isub, 1) := by decide +kernel
theorem dX2_isLost_106 : decode cX2_isLost 106 = .ok (.aaload, 1) := by decide +kernel
theorem dX2_isLost_107 : decode cX2_isLost 107 = .ok (.iconst 1, 1) := by decide +kernel
theorem dX2_isLost_108 : decode cX2_isLost 108 = .ok (.putfield 135, 3) := by decide +kernel
theorem dX2_isLost_111 : decode cX2_isLost 111 = .ok (.iload_n 1, 1) := by decide +kernel
theorem dX2_isLost_112 : decode cX2_isLost 112 = .ok (.bipush 20, 2) := by decide +kernel
theorem dX2_isLost_114 : decode cX2_isLost 114 = .ok (.if_icmp .ne 19, 3) := by decide +kernel
theorem dX2_isLost_117 : decode cX2_isLost 117 = .ok (.lload_n 3, 1) := by decide +kernel
theorem dX2_isLost_118 : decode cX2_isLost 118 = .ok (.aload_n 0, 1) := by decide +kernel
theorem dX2_isLost_119 : decode cX2_isLost 119 = .ok (.getfield 61, 3) := by decide +kernel
theorem dX2_isLost_122 : decode cX2_isLost 122 = .ok (.lcmp, 1) := by decide +kernel
theorem dX2_isLost_123 : decode cX2_isLost 123 = .ok (.ifCond .ne 10, 3) := by decide +kernel
theorem dX2_isLost_126 : decode cX2_isLost 126 = .ok (.aload_n 0, 1) := by decide +kernel
theorem dX2_isLost_127 : decode cX2_isLost 127 = .ok (.ldc2_w 59, 3) := by decide +kernel
theorem dX2_isLost_130 : decode cX2_isLost 130 = .ok (.putfield 61, 3) := by decide +kernel
theorem dX2_isLost_133 : decode cX2_isLost 133 = .ok (.iload_n 1, 1) := by decide +kernel
theorem dX2_isLost_134 : decode cX2_isLost 134 = .ok (.bipush 21, 2) := by decide +kernel
theorem dX2_isLost_136 : decode cX2_isLost 136 = .ok (.if_icmp .ne 30, 3) := by decide +kernel
theorem dX2_isLost_139 : decode cX2_isLost 139 = .ok (.lload 5, 2) := by decide +kernel
theorem dX2_isLost_141 : decode cX2_isLost 141 = .ok (.aload_n 0, 1) := by decide +kernel
theorem dX2_isLost_142 : decode cX2_isLost 142 = .ok (.getfield 11, 3) := by decide +kernel
theorem dX2_isLost_145 : decode cX2_isLost 145 = .ok (.iload_n 2, 1) := by decide +kernel
theorem dX2_isLost_146 : decode cX2_isLost 146 = .ok (.aaload, 1) := by decide +kernel
theorem dX2_isLost_147 : decode cX2_isLost 147 = .ok (.getfield 317, 3) := by decide +kernel
theorem dX2_isLost_150 : decode cX2_isLost 150 = .ok (.lcmp, 1) := by decide +kernel
theorem dX2_isLost_151 : decode cX2_isLost 151 = .ok (.ifCond .ne 15, 3) := by decide +kernel
theorem dX2_isLost_154 : decode cX2_isLost 154 = .ok (.aload_n 0, 1) := by decide +kernel
theorem dX2_isLost_155 : decode cX2_isLost 155 = .ok (.getfield 11, 3) := by decide +kernel
theorem dX2_isLost_158 : decode cX2_isLost 158 = .ok (.iload_n 2, 1) := by decide +kernel
theorem dX2_isLost_159 : decode cX2_isLost 159 = .ok (.aaload, 1) := by decide +kernel
theorem dX2_isLost_160 : decode cX2_isLost 160 = .ok (.ldc2_w 59, 3) := by decide +kernel
theorem dX2_isLost_163 : decode cX2_isLost 163 = .ok (.putfield 317, 3) := by decide +kernel
theorem dX2_isLost_166 : decode cX2_isLost 166 = .ok (.iload_n 1, 1) := by decide +kernel
theorem dX2_isLost_167 : decode cX2_isLost 167 = .ok (.bipush 22, 2) := by decide +kernel
theorem dX2_isLost_169 : decode cX2_isLost 169 = .ok (.if_icmp .eq 9, 3) := by decide +kernel
theorem dX2_isLost_172 : decode cX2_isLost 172 = .ok (.iload_n 1, 1) := by decide +kernel
theorem dX2_isLost_173 : decode cX2_isLost 173 = .ok (.bipush 23, 2) := by decide +kernel
theorem dX2_isLost_175 : decode cX2_isLost 175 = .ok (.if_icmp .ne 50, 3) := by decide +kernel
theorem dX2_isLost_178 : decode cX2_isLost 178 = .ok (.aload_n 0, 1) := by decide +kernel
theorem dX2_isLost_179 : decode cX2_isLost 179 = .ok (.getfield 26, 3) := by decide +kernel
theorem dX2_isLost_182 : decode cX2_isLost 182 = .ok (.iload_n 1, 1) := by decide +kernel
theorem dX2_isLost_183 : decode cX2_isLost 183 = .ok (.bipush 22, 2) := by decide +kernel
theorem dX2_isLost_185 : decode cX2_isLost 185 = .ok (.isub, 1) := by decide +kernel
theorem dX2_isLost_186 : decode cX2_isLost 186 = .ok (.aaload, 1) := by decide +kernel
theorem dX2_isLost_187 : decode cX2_isLost 187 = .ok (.lload_n 3, 1) := by decide +kernel
theorem dX2_isLost_188 : decode cX2_isLost 188 = .ok (.aload_n 0, 1) := by decide +kernel
theorem dX2_isLost_189 : decode cX2_isLost 189 = .ok (.getfield 26, 3) := by decide +kernel
theorem dX2_isLost_192 : decode cX2_isLost 192 = .ok (.iload_n 1, 1) := by decide +kernel
theorem dX2_isLost_193 : decode cX2_isLost 193 = .ok (.bipush 22, 2) := by decide +kernel
theorem dX2_isLost_195 : decode cX2_isLost 195 = .ok (.isub, 1) := by decide +kernel
theorem dX2_isLost_196 : decode cX2_isLost 196 = .ok (.aaload, 1) := by decide +kernel
theorem dX2_isLost_197 : decode cX2_isLost 197 = .ok (.getfield 318, 3) := by decide +kernel
theorem dX2_isLost_200 : decode cX2_isLost 200 = .ok (.lcmp, 1) := by decide +kernel
theorem dX2_isLost_201 : decode cX2_isLost 201 = .ok (.ifCond .ne 9, 3) := by decide +kernel
theorem dX2_isLost_204 : decode cX2_isLost 204 = .ok (.ldc2_w 59, 3) := by decide +kernel
theorem dX2_isLost_207 : decode cX2_isLost 207 = .ok (.goto 15, 3) := by decide +kernel
theorem dX2_isLost_210 : decode cX2_isLost 210 = .ok (.aload_n 0, 1) := by decide +kernel
theorem dX2_isLost_211 : decode cX2_isLost 211 = .ok (.getfield 26, 3) := by decide +kernel
theorem dX2_isLost_214 : decode cX2_isLost 214 = .ok (.iload_n 1, 1) := by decide +kernel
theorem dX2_isLost_215 : decode cX2_isLost 215 = .ok (.bipush 22, 2) := by decide +kernel
theorem dX2_isLost_217 : decode cX2_isLost 217 = .ok (.isub, 1) := by decide +kernel
theorem dX2_isLost_218 : decode cX2_isLost 218 = .ok (.aaload, 1) := by decide +kernel
theorem dX2_isLost_219 : decode cX2_isLost 219 = .ok (.getfield 318, 3) := by decide +kernel
theorem dX2_isLost_222 : decode cX2_isLost 222 = .ok (.putfield 318, 3) := by decide +kernel
theorem dX2_isLost_225 : decode cX2_isLost 225 = .ok (.return_, 1) := by decide +kernel
theorem dX2_look_0 : decode cX2_look 0 = .ok (.aload_n 0, 1) := by decide +kernel
theorem dX2_look_1 : decode cX2_look 1 = .ok (.iload_n 1, 1) := by decide +kernel
theorem dX2_look_2 : decode cX2_look 2 = .ok (.invokevirtual 146, 3) := by decide +kernel
theorem dX2_look_5 : decode cX2_look 5 = .ok (.astore_n 3, 1) := by decide +kernel
theorem dX2_look_6 : decode cX2_look 6 = .ok (.aload_n 0, 1) := by decide +kernel
theorem dX2_look_7 : decode cX2_look 7 = .ok (.iload_n 1, 1) := by decide +kernel
theorem dX2_look_8 : decode cX2_look 8 = .ok (.invokevirtual 166, 3) := by decide +kernel
theorem dX2_look_11 : decode cX2_look 11 = .ok (.astore 4, 2) := by decide +kernel
theorem dX2_look_13 : decode cX2_look 13 = .ok (.iload_n 2, 1) := by decide +kernel
theorem dX2_look_14 : decode cX2_look 14 = .ok (.bipush 8, 2) := by decide +kernel
theorem dX2_look_16 : decode cX2_look 16 = .ok (.if_icmp .ge 10, 3) := by decide +kernel
theorem dX2_look_19 : decode cX2_look 19 = .ok (.aload_n 3, 1) := by decide +kernel
theorem dX2_look_20 : decode cX2_look 20 = .ok (.ifnonnull 15, 3) := by decide +kernel
theorem dX2_look_23 : decode cX2_look 23 = .ok (.goto 8, 3) := by decide +kernel
theorem dX2_look_26 : decode cX2_look 26 = .ok (.aload 4, 2) := by decide +kernel
theorem dX2_look_28 : decode cX2_look 28 = .ok (.ifnonnull 7, 3) := by decide +kernel
theorem dX2_look_31 : decode cX2_look 31 = .ok (.ldc2_w 59, 3) := by decide +kernel
theorem dX2_look_34 : decode cX2_look 34 = .ok (.lreturn, 1) := by decide +kernel
theorem dX2_look_35 : decode cX2_look 35 = .ok (.iload_n 2, 1) := by decide +kernel
theorem dX2_look_36 : decode cX2_look 36 = .ok (.tableswitch 174 0 13 #[72, 78, 84, 90, 95, 100, 113, 126, 132, 139, 146, 153, 160, 167], 72) := by decide +kernel
theorem dX2_look_108 : decode cX2_look 108 = .ok (.aload_n 3, 1) := by decide +kernel
theorem dX2_look_109 : decode cX2_look 109 = .ok (.getfield 150, 3) := by decide +kernel
theorem dX2_look_112 : decode cX2_look 112 = .ok (.i2l, 1) := by decide +kernel
theorem dX2_look_113 : decode cX2_look 113 = .ok (.lreturn, 1) := by decide +kernel
theorem dX2_look_114 : decode cX2_look 114 = .ok (.aload_n 3, 1) := by decide +kernel
theorem dX2_look_115 : decode cX2_look 115 = .ok (.getfield 307, 3) := by decide +kernel
theorem dX2_look_118 : decode cX2_look 118 = .ok (.i2l, 1) := by decide +kernel
theorem dX2_look_119 : decode cX2_look 119 = .ok (.lreturn, 1) := by decide +kernel
theorem dX2_look_120 : decode cX2_look 120 = .ok (.aload_n 3, 1) := by decide +kernel
theorem dX2_look_121 : decode cX2_look 121 = .ok (.getfield 300, 3) := by decide +kernel
theorem dX2_look_124 : decode cX2_look 124 = .ok (.i2l, 1) := by decide +kernel
theorem dX2_look_125 : decode cX2_look 125 = .ok (.lreturn, 1) := by decide +kernel
theorem dX2_look_126 : decode cX2_look 126 = .ok (.aload_n 3, 1) := by decide +kernel
theorem dX2_look_127 : decode cX2_look 127 = .ok (.getfield 244, 3) := by decide +kernel
theorem dX2_look_130 : decode cX2_look 130 = .ok (.lreturn, 1) := by decide +kernel
theorem dX2_look_131 : decode cX2_look 131 = .ok (.aload_n 3, 1) := by decide +kernel
theorem dX2_look_132 : decode cX2_look 132 = .ok (.getfield 299, 3) := by decide +kernel
theorem dX2_look_135 : decode cX2_look 135 = .ok (.lreturn, 1) := by decide +kernel
theorem dX2_look_136 : decode cX2_look 136 = .ok (.aload_n 0, 1) := by decide +kernel
theorem dX2_look_137 : decode cX2_look 137 = .ok (.getfield 41, 3) := by decide +kernel
theorem dX2_look_140 : decode cX2_look 140 = .ok (.aload_n 3, 1) := by decide +kernel
theorem dX2_look_141 : decode cX2_look 141 = .ok (.getfield 325, 3) := by decide +kernel
theorem dX2_look_144 : decode cX2_look 144 = .ok (.invokevirtual 357, 3) := by decide +kernel
theorem dX2_look_147 : decode cX2_look 147 = .ok (.i2l, 1) := by decide +kernel
theorem dX2_look_148 : decode cX2_look 148 = .ok (.lreturn, 1) := by decide +kernel
theorem dX2_look_149 : decode cX2_look 149 = .ok (.aload_n 0, 1) := by decide +kernel
theorem dX2_look_150 : decode cX2_look 150 = .ok (.getfield 41, 3) := by decide +kernel
theorem dX2_look_153 : decode cX2_look 153 = .ok (.aload_n 3, 1) := by decide +kernel
theorem dX2_look_154 : decode cX2_look 154 = .ok (.getfield 352, 3) := by decide +kernel
theorem dX2_look_157 : decode cX2_look 157 = .ok (.invokevirtual 357, 3) := by decide +kernel
theorem dX2_look_160 : decode cX2_look 160 = .ok (.i2l, 1) := by decide +kernel
theorem dX2_look_161 : decode cX2_look 161 = .ok (.lreturn, 1) := by decide +kernel
theorem dX2_look_162 : decode cX2_look 162 = .ok (.aload_n 3, 1) := by decide +kernel
theorem dX2_look_163 : decode cX2_look 163 = .ok (.getfield 157, 3) := by decide +kernel
theorem dX2_look_166 : decode cX2_look 166 = .ok (.i2l, 1) := by decide +kernel
theorem dX2_look_167 : decode cX2_look 167 = .ok (.lreturn, 1) := by decide +kernel
theorem dX2_look_168 : decode cX2_look 168 = .ok (.aload 4, 2) := by decide +kernel
theorem dX2_look_170 : decode cX2_look 170 = .ok (.getfield 180, 3) := by decide +kernel
theorem dX2_look_173 : decode cX2_look 173 = .ok (.i2l, 1) := by decide +kernel
theorem dX2_look_174 : decode cX2_look 174 = .ok (.lreturn, 1) := by decide +kernel
theorem dX2_look_175 : decode cX2_look 175 = .ok (.aload 4, 2) := by decide +kernel
theorem dX2_look_177 : decode cX2_look 177 = .ok (.getfield 184, 3) := by decide +kernel
theorem dX2_look_180 : decode cX2_look 180 = .ok (.i2l, 1) := by decide +kernel
theorem dX2_look_181 : decode cX2_look 181 = .ok (.lreturn, 1) := by decide +kernel
theorem dX2_look_182 : decode cX2_look 182 = .ok (.aload 4, 2) := by decide +kernel
theorem dX2_look_184 : decode cX2_look 184 = .ok (.getfield 181, 3) := by decide +kernel
theorem dX2_look_187 : decode cX2_look 187 = .ok (.i2l, 1) := by decide +kernel
theorem dX2_look_188 : decode cX2_look 188 = .ok (.lreturn, 1) := by decide +kernel
theorem dX2_look_189 : decode cX2_look 189 = .ok (.aload 4, 2) := by decide +kernel
theorem dX2_look_191 : decode cX2_look 191 = .ok (.getfield 220, 3) := by decide +kernel
theorem dX2_look_194 : decode cX2_look 194 = .ok (.i2l, 1) := by decide +kernel
theorem dX2_look_195 : decode cX2_look 195 = .ok (.lreturn, 1) := by decide +kernel
theorem dX2_look_196 : decode cX2_look 196 = .ok (.aload 4, 2) := by decide +kernel
theorem dX2_look_198 : decode cX2_look 198 = .ok (.getfield 223, 3) := by decide +kernel
theorem dX2_look_201 : decode cX2_look 201 = .ok (.i2l, 1) := by decide +kernel
theorem dX2_look_202 : decode cX2_look 202 = .ok (.lreturn, 1) := by decide +kernel
theorem dX2_look_203 : decode cX2_look 203 = .ok (.aload 4, 2) := by decide +kernel
theorem dX2_look_205 : decode cX2_look 205 = .ok (.getfield 214, 3) := by decide +kernel
theorem dX2_look_208 : decode cX2_look 208 = .ok (.i2l, 1) := by decide +kernel
theorem dX2_look_209 : decode cX2_look 209 = .ok (.lreturn, 1) := by decide +kernel
theorem dX2_look_210 : decode cX2_look 210 = .ok (.aload 4, 2) := by decide +kernel
theorem dX2_look_212 : decode cX2_look 212 = .ok (.getfield 261, 3) := by decide +kernel
theorem dX2_look_215 : decode cX2_look 215 = .ok (.lreturn, 1) := by decide +kernel
theorem dX2_look_2_0 : decode cX2_look_2 0 = .ok (.iload_n 1, 1) := by decide +kernel
theorem dX2_look_2_1 : decode cX2_look_2 1 = .ok (.tableswitch 109 0 13 #[71, 77, 82, 88, 94, 109, 109, 109, 109, 109, 109, 109, 109, 100], 71) := by decide +kernel
theorem dX2_look_2_72 : decode cX2_look_2 72 = .ok (.aload_n 0, 1) := by decide +kernel
theorem dX2_look_2_73 : decode cX2_look_2 73 = .ok (.getfield 310, 3) := by decide +kernel
theorem dX2_look_2_76 : decode cX2_look_2 76 = .ok (.i2l, 1) := by decide +kernel
theorem dX2_look_2_77 : decode cX2_look_2 77 = .ok (.lreturn, 1) := by decide +kernel
theorem dX2_look_2_78 : decode cX2_look_2 78 = .ok (.aload_n 0, 1) := by decide +kernel
theorem dX2_look_2_79 : decode cX2_look_2 79 = .ok (.getfield 82, 3) := by decide +kernel
theorem dX2_look_2_82 : decode cX2_look_2 82 = .ok (.lreturn, 1) := by decide +kernel
theorem dX2_look_2_83 : decode cX2_look_2 83 = .ok (.aload_n 0, 1) := by decide +kernel
theorem dX2_look_2_84 : decode cX2_look_2 84 = .ok (.getfield 226, 3) := by decide +kernel
theorem dX2_look_2_87 : decode cX2_look_2 87 = .ok (.i2l, 1) := by decide +kernel
theorem dX2_look_2_88 : decode cX2_look_2 88 = .ok (.lreturn, 1) := by decide +kernel
theorem dX2_look_2_89 : decode cX2_look_2 89 = .ok (.aload_n 0, 1) := by decide +kernel
theorem dX2_look_2_90 : decode cX2_look_2 90 = .ok (.getfield 191, 3) := by decide +kernel
theorem dX2_look_2_93 : decode cX2_look_2 93 = .ok (.i2l, 1) := by decide +kernel
theorem dX2_look_2_94 : decode cX2_look_2 94 = .ok (.lreturn, 1) := by decide +kernel
theorem dX2_look_2_95 : decode cX2_look_2 95 = .ok (.aload_n 0, 1) := by decide +kernel
theorem dX2_look_2_96 : decode cX2_look_2 96 = .ok (.getfield 76, 3) := by decide +kernel
theorem dX2_look_2_99 : decode cX2_look_2 99 = .ok (.i2l, 1) := by decide +kernel
theorem dX2_look_2_100 : decode cX2_look_2 100 = .ok (.lreturn, 1) := by decide +kernel
theorem dX2_look_2_101 : decode cX2_look_2 101 = .ok (.aload_n 0, 1) := by decide +kernel
theorem dX2_look_2_102 : decode cX2_look_2 102 = .ok (.getfield 48, 3) := by decide +kernel
theorem dX2_look_2_105 : decode cX2_look_2 105 = .ok (.getfield 364, 3) := by decide +kernel
theorem dX2_look_2_108 : decode cX2_look_2 108 = .ok (.i2l, 1) := by decide +kernel
theorem dX2_look_2_109 : decode cX2_look_2 109 = .ok (.lreturn, 1) := by decide +kernel
theorem dX2_look_2_110 : decode cX2_look_2 110 = .ok (.aload_n 0, 1) := by decide +kernel
theorem dX2_look_2_111 : decode cX2_look_2 111 = .ok (.getfield 26, 3) := by decide +kernel
theorem dX2_look_2_114 : decode cX2_look_2 114 = .ok (.iload_n 1, 1) := by decide +kernel
theorem dX2_look_2_115 : decode cX2_look_2 115 = .ok (.iconst 5, 1) := by decide +kernel
theorem dX2_look_2_116 : decode cX2_look_2 116 = .ok (.isub, 1) := by decide +kernel
theorem dX2_look_2_117 : decode cX2_look_2 117 = .ok (.iconst 2, 1) := by decide +kernel
theorem dX2_look_2_118 : decode cX2_look_2 118 = .ok (.irem, 1) := by decide +kernel
theorem dX2_look_2_119 : decode cX2_look_2 119 = .ok (.aaload, 1) := by decide +kernel
theorem dX2_look_2_120 : decode cX2_look_2 120 = .ok (.astore_n 2, 1) := by decide +kernel
theorem dX2_look_2_121 : decode cX2_look_2 121 = .ok (.iload_n 1, 1) := by decide +kernel
theorem dX2_look_2_122 : decode cX2_look_2 122 = .ok (.bipush 7, 2) := by decide +kernel
theorem dX2_look_2_124 : decode cX2_look_2 124 = .ok (.if_icmp .ge 11, 3) := by decide +kernel
theorem dX2_look_2_127 : decode cX2_look_2 127 = .ok (.aload_n 2, 1) := by decide +kernel
theorem dX2_look_2_128 : decode cX2_look_2 128 = .ok (.getfield 115, 3) := by decide +kernel
theorem dX2_look_2_131 : decode cX2_look_2 131 = .ok (.i2l, 1) := by decide +kernel
theorem dX2_look_2_132 : decode cX2_look_2 132 = .ok (.goto 35, 3) := by decide +kernel
theorem dX2_look_2_135 : decode cX2_look_2 135 = .ok (.iload_n 1, 1) := by decide +kernel
theorem dX2_look_2_136 : decode cX2_look_2 136 = .ok (.bipush 9, 2) := by decide +kernel
theorem dX2_look_2_138 : decode cX2_look_2 138 = .ok (.if_icmp .ge 10, 3) := by decide +kernel
theorem dX2_look_2_141 : decode cX2_look_2 141 = .ok (.aload_n 2, 1) := by decide +kernel
theorem dX2_look_2_142 : decode cX2_look_2 142 = .ok (.getfield 93, 3) := by decide +kernel
theorem dX2_look_2_145 : decode cX2_look_2 145 = .ok (.goto 22, 3) := by decide +kernel
theorem dX2_look_2_148 : decode cX2_look_2 148 = .ok (.iload_n 1, 1) := by decide +kernel
theorem dX2_look_2_149 : decode cX2_look_2 149 = .ok (.bipush 11, 2) := by decide +kernel
theorem dX2_look_2_151 : decode cX2_look_2 151 = .ok (.if_icmp .ge 11, 3) := by decide +kernel
theorem dX2_look_2_154 : decode cX2_look_2 154 = .ok (.aload_n 2, 1) := by decide +kernel
theorem dX2_look_2_155 : decode cX2_look_2 155 = .ok (.getfield 128, 3) := by decide +kernel
theorem dX2_look_2_158 : decode cX2_look_2 158 = .ok (.i2l, 1) := by decide +kernel
theorem dX2_look_2_159 : decode cX2_look_2 159 = .ok (.goto 8, 3) := by decide +kernel
theorem dX2_look_2_162 : decode cX2_look_2 162 = .ok (.aload_n 2, 1) := by decide +kernel
theorem dX2_look_2_163 : decode cX2_look_2 163 = .ok (.getfield 79, 3) := by decide +kernel
theorem dX2_look_2_166 : decode cX2_look_2 166 = .ok (.i2l, 1) := by decide +kernel
theorem dX2_look_2_167 : decode cX2_look_2 167 = .ok (.lreturn, 1) := by decide +kernel
