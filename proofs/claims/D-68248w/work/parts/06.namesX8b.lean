section
set_option maxRecDepth 100000
abbrev cX8_across : ByteArray := prog_9_method_8_code
def yX8_across : MethodName := ⟨RX8, "across", "(III)V"⟩
theorem dX8_across_0 : decode cX8_across 0 = .ok (.aload_n 0, 1) := by decide +kernel
theorem dX8_across_1 : decode cX8_across 1 = .ok (.getfield 19, 3) := by decide +kernel
theorem dX8_across_4 : decode cX8_across 4 = .ok (.iload_n 2, 1) := by decide +kernel
theorem dX8_across_5 : decode cX8_across 5 = .ok (.laload, 1) := by decide +kernel
theorem dX8_across_6 : decode cX8_across 6 = .ok (.aload_n 0, 1) := by decide +kernel
theorem dX8_across_7 : decode cX8_across 7 = .ok (.getfield 19, 3) := by decide +kernel
theorem dX8_across_10 : decode cX8_across 10 = .ok (.iload_n 1, 1) := by decide +kernel
theorem dX8_across_11 : decode cX8_across 11 = .ok (.laload, 1) := by decide +kernel
theorem dX8_across_12 : decode cX8_across 12 = .ok (.lsub, 1) := by decide +kernel
theorem dX8_across_13 : decode cX8_across 13 = .ok (.lstore 4, 2) := by decide +kernel
theorem dX8_across_15 : decode cX8_across 15 = .ok (.aload_n 0, 1) := by decide +kernel
theorem dX8_across_16 : decode cX8_across 16 = .ok (.getfield 23, 3) := by decide +kernel
theorem dX8_across_19 : decode cX8_across 19 = .ok (.iload_n 2, 1) := by decide +kernel
theorem dX8_across_20 : decode cX8_across 20 = .ok (.laload, 1) := by decide +kernel
theorem dX8_across_21 : decode cX8_across 21 = .ok (.aload_n 0, 1) := by decide +kernel
theorem dX8_across_22 : decode cX8_across 22 = .ok (.getfield 23, 3) := by decide +kernel
theorem dX8_across_25 : decode cX8_across 25 = .ok (.iload_n 1, 1) := by decide +kernel
theorem dX8_across_26 : decode cX8_across 26 = .ok (.laload, 1) := by decide +kernel
theorem dX8_across_27 : decode cX8_across 27 = .ok (.lsub, 1) := by decide +kernel
theorem dX8_across_28 : decode cX8_across 28 = .ok (.lstore 6, 2) := by decide +kernel
theorem dX8_across_30 : decode cX8_across 30 = .ok (.aload_n 0, 1) := by decide +kernel
theorem dX8_across_31 : decode cX8_across 31 = .ok (.getfield 26, 3) := by decide +kernel
theorem dX8_across_34 : decode cX8_across 34 = .ok (.iload_n 2, 1) := by decide +kernel
theorem dX8_across_35 : decode cX8_across 35 = .ok (.laload, 1) := by decide +kernel
theorem dX8_across_36 : decode cX8_across 36 = .ok (.aload_n 0, 1) := by decide +kernel
theorem dX8_across_37 : decode cX8_across 37 = .ok (.getfield 26, 3) := by decide +kernel
theorem dX8_across_40 : decode cX8_across 40 = .ok (.iload_n 1, 1) := by decide +kernel
theorem dX8_across_41 : decode cX8_across 41 = .ok (.laload, 1) := by decide +kernel
theorem dX8_across_42 : decode cX8_across 42 = .ok (.lsub, 1) := by decide +kernel
theorem dX8_across_43 : decode cX8_across 43 = .ok (.lstore 8, 2) := by decide +kernel
theorem dX8_across_45 : decode cX8_across 45 = .ok (.aload_n 0, 1) := by decide +kernel
theorem dX8_across_46 : decode cX8_across 46 = .ok (.getfield 19, 3) := by decide +kernel
theorem dX8_across_49 : decode cX8_across 49 = .ok (.iload_n 3, 1) := by decide +kernel
theorem dX8_across_50 : decode cX8_across 50 = .ok (.laload, 1) := by decide +kernel
theorem dX8_across_51 : decode cX8_across 51 = .ok (.aload_n 0, 1) := by decide +kernel
theorem dX8_across_52 : decode cX8_across 52 = .ok (.getfield 19, 3) := by decide +kernel
theorem dX8_across_55 : decode cX8_across 55 = .ok (.iload_n 1, 1) := by decide +kernel
theorem dX8_across_56 : decode cX8_across 56 = .ok (.laload, 1) := by decide +kernel
theorem dX8_across_57 : decode cX8_across 57 = .ok (.lsub, 1) := by decide +kernel
theorem dX8_across_58 : decode cX8_across 58 = .ok (.lstore 10, 2) := by decide +kernel
theorem dX8_across_60 : decode cX8_across 60 = .ok (.aload_n 0, 1) := by decide +kernel
theorem dX8_across_61 : decode cX8_across 61 = .ok (.getfield 23, 3) := by decide +kernel
theorem dX8_across_64 : decode cX8_across 64 = .ok (.iload_n 3, 1) := by decide +kernel
theorem dX8_across_65 : decode cX8_across 65 = .ok (.laload, 1) := by decide +kernel
theorem dX8_across_66 : decode cX8_across 66 = .ok (.aload_n 0, 1) := by decide +kernel
theorem dX8_across_67 : decode cX8_across 67 = .ok (.getfield 23, 3) := by decide +kernel
theorem dX8_across_70 : decode cX8_across 70 = .ok (.iload_n 1, 1) := by decide +kernel
theorem dX8_across_71 : decode cX8_across 71 = .ok (.laload, 1) := by decide +kernel
theorem dX8_across_72 : decode cX8_across 72 = .ok (.lsub, 1) := by decide +kernel
theorem dX8_across_73 : decode cX8_across 73 = .ok (.lstore 12, 2) := by decide +kernel
theorem dX8_across_75 : decode cX8_across 75 = .ok (.aload_n 0, 1) := by decide +kernel
theorem dX8_across_76 : decode cX8_across 76 = .ok (.getfield 26, 3) := by decide +kernel
theorem dX8_across_79 : decode cX8_across 79 = .ok (.iload_n 3, 1) := by decide +kernel
theorem dX8_across_80 : decode cX8_across 80 = .ok (.laload, 1) := by decide +kernel
theorem dX8_across_81 : decode cX8_across 81 = .ok (.aload_n 0, 1) := by decide +kernel
theorem dX8_across_82 : decode cX8_across 82 = .ok (.getfield 26, 3) := by decide +kernel
theorem dX8_across_85 : decode cX8_across 85 = .ok (.iload_n 1, 1) := by decide +kernel
theorem dX8_across_86 : decode cX8_across 86 = .ok (.laload, 1) := by decide +kernel
theorem dX8_across_87 : decode cX8_across 87 = .ok (.lsub, 1) := by decide +kernel
theorem dX8_across_88 : decode cX8_across 88 = .ok (.lstore 14, 2) := by decide +kernel
theorem dX8_across_90 : decode cX8_across 90 = .ok (.aload_n 0, 1) := by decide +kernel
theorem dX8_across_91 : decode cX8_across 91 = .ok (.lload 6, 2) := by decide +kernel
theorem dX8_across_93 : decode cX8_across 93 = .ok (.lload 14, 2) := by decide +kernel
theorem dX8_across_95 : decode cX8_across 95 = .ok (.lmul, 1) := by decide +kernel
theorem dX8_across_96 : decode cX8_across 96 = .ok (.lload 8, 2) := by decide +kernel
theorem dX8_across_98 : decode cX8_across 98 = .ok (.lload 12, 2) := by decide +kernel
theorem dX8_across_100 : decode cX8_across 100 = .ok (.lmul, 1) := by decide +kernel
theorem dX8_across_101 : decode cX8_across 101 = .ok (.lsub, 1) := by decide +kernel
theorem dX8_across_102 : decode cX8_across 102 = .ok (.putfield 81, 3) := by decide +kernel
theorem dX8_across_105 : decode cX8_across 105 = .ok (.aload_n 0, 1) := by decide +kernel
theorem dX8_across_106 : decode cX8_across 106 = .ok (.lload 8, 2) := by decide +kernel
theorem dX8_across_108 : decode cX8_across 108 = .ok (.lload 10, 2) := by decide +kernel
theorem dX8_across_110 : decode cX8_across 110 = .ok (.lmul, 1) := by decide +kernel
theorem dX8_across_111 : decode cX8_across 111 = .ok (.lload 4, 2) := by decide +kernel
theorem dX8_across_113 : decode cX8_across 113 = .ok (.lload 14, 2) := by decide +kernel
theorem dX8_across_115 : decode cX8_across 115 = .ok (.lmul, 1) := by decide +kernel
theorem dX8_across_116 : decode cX8_across 116 = .ok (.lsub, 1) := by decide +kernel
theorem dX8_across_117 : decode cX8_across 117 = .ok (.putfield 85, 3) := by decide +kernel
theorem dX8_across_120 : decode cX8_across 120 = .ok (.aload_n 0, 1) := by decide +kernel
theorem dX8_across_121 : decode cX8_across 121 = .ok (.lload 4, 2) := by decide +kernel
theorem dX8_across_123 : decode cX8_across 123 = .ok (.lload 12, 2) := by decide +kernel
theorem dX8_across_125 : decode cX8_across 125 = .ok (.lmul, 1) := by decide +kernel
theorem dX8_across_126 : decode cX8_across 126 = .ok (.lload 6, 2) := by decide +kernel
theorem dX8_across_128 : decode cX8_across 128 = .ok (.lload 10, 2) := by decide +kernel
theorem dX8_across_130 : decode cX8_across 130 = .ok (.lmul, 1) := by decide +kernel
theorem dX8_across_131 : decode cX8_across 131 = .ok (.lsub, 1) := by decide +kernel
theorem dX8_across_132 : decode cX8_across 132 = .ok (.putfield 88, 3) := by decide +kernel
theorem dX8_across_135 : decode cX8_across 135 = .ok (.return_, 1) := by decide +kernel
abbrev cX8_above : ByteArray := prog_9_method_9_code
def yX8_above : MethodName := ⟨RX8, "above", "(II)J"⟩
theorem dX8_above_0 : decode cX8_above 0 = .ok (.aload_n 0, 1) := by decide +kernel
theorem dX8_above_1 : decode cX8_above 1 = .ok (.getfield 81, 3) := by decide +kernel
theorem dX8_above_4 : decode cX8_above 4 = .ok (.aload_n 0, 1) := by decide +kernel
theorem dX8_above_5 : decode cX8_above 5 = .ok (.getfield 19, 3) := by decide +kernel
theorem dX8_above_8 : decode cX8_above 8 = .ok (.iload_n 2, 1) := by decide +kernel
theorem dX8_above_9 : decode cX8_above 9 = .ok (.laload, 1) := by decide +kernel
theorem dX8_above_10 : decode cX8_above 10 = .ok (.aload_n 0, 1) := by decide +kernel
theorem dX8_above_11 : decode cX8_above 11 = .ok (.getfield 19, 3) := by decide +kernel
theorem dX8_above_14 : decode cX8_above 14 = .ok (.iload_n 1, 1) := by decide +kernel
theorem dX8_above_15 : decode cX8_above 15 = .ok (.laload, 1) := by decide +kernel
theorem dX8_above_16 : decode cX8_above 16 = .ok (.lsub, 1) := by decide +kernel
theorem dX8_above_17 : decode cX8_above 17 = .ok (.lmul, 1) := by decide +kernel
theorem dX8_above_18 : decode cX8_above 18 = .ok (.aload_n 0, 1) := by decide +kernel
theorem dX8_above_19 : decode cX8_above 19 = .ok (.getfield 85, 3) := by decide +kernel
theorem dX8_above_22 : decode cX8_above 22 = .ok (.aload_n 0, 1) := by decide +kernel
theorem dX8_above_23 : decode cX8_above 23 = .ok (.getfield 23, 3) := by decide +kernel
theorem dX8_above_26 : decode cX8_above 26 = .ok (.iload_n 2, 1) := by decide +kernel
theorem dX8_above_27 : decode cX8_above 27 = .ok (.laload, 1) := by decide +kernel
theorem dX8_above_28 : decode cX8_above 28 = .ok (.aload_n 0, 1) := by decide +kernel
theorem dX8_above_29 : decode cX8_above 29 = .ok (.getfield 23, 3) := by decide +kernel
theorem dX8_above_32 : decode cX8_above 32 = .ok (.iload_n 1, 1) := by decide +kernel
theorem dX8_above_33 : decode cX8_above 33 = .ok (.laload, 1) := by decide +kernel
theorem dX8_above_34 : decode cX8_above 34 = .ok (.lsub, 1) := by decide +kernel
theorem dX8_above_35 : decode cX8_above 35 = .ok (.lmul, 1) := by decide +kernel
theorem dX8_above_36 : decode cX8_above 36 = .ok (.ladd, 1) := by decide +kernel
theorem dX8_above_37 : decode cX8_above 37 = .ok (.aload_n 0, 1) := by decide +kernel
theorem dX8_above_38 : decode cX8_above 38 = .ok (.getfield 88, 3) := by decide +kernel
theorem dX8_above_41 : decode cX8_above 41 = .ok (.aload_n 0, 1) := by decide +kernel
theorem dX8_above_42 : decode cX8_above 42 = .ok (.getfield 26, 3) := by decide +kernel
theorem dX8_above_45 : decode cX8_above 45 = .ok (.iload_n 2, 1) := by decide +kernel
theorem dX8_above_46 : decode cX8_above 46 = .ok (.laload, 1) := by decide +kernel
theorem dX8_above_47 : decode cX8_above 47 = .ok (.aload_n 0, 1) := by decide +kernel
theorem dX8_above_48 : decode cX8_above 48 = .ok (.getfield 26, 3) := by decide +kernel
theorem dX8_above_51 : decode cX8_above 51 = .ok (.iload_n 1, 1) := by decide +kernel
theorem dX8_above_52 : decode cX8_above 52 = .ok (.laload, 1) := by decide +kernel
theorem dX8_above_53 : decode cX8_above 53 = .ok (.lsub, 1) := by decide +kernel
theorem dX8_above_54 : decode cX8_above 54 = .ok (.lmul, 1) := by decide +kernel
theorem dX8_above_55 : decode cX8_above 55 = .ok (.ladd, 1) := by decide +kernel
theorem dX8_above_56 : decode cX8_above 56 = .ok (.lreturn, 1) := by decide +kernel
abbrev cX8_common : ByteArray := prog_9_method_10_code
def yX8_common : MethodName := ⟨RX8, "common", "(JJ)J"⟩
theorem dX8_common_0 : decode cX8_common 0 = .ok (.lload_n 0, 1) := by decide +kernel
theorem dX8_common_1 : decode cX8_common 1 = .ok (.lconst 0, 1) := by decide +kernel
theorem dX8_common_2 : decode cX8_common 2 = .ok (.lcmp, 1) := by decide +kernel
theorem dX8_common_3 : decode cX8_common 3 = .ok (.ifCond .ge 9, 3) := by decide +kernel
theorem dX8_common_6 : decode cX8_common 6 = .ok (.lconst 0, 1) := by decide +kernel
theorem dX8_common_7 : decode cX8_common 7 = .ok (.lload_n 0, 1) := by decide +kernel
theorem dX8_common_8 : decode cX8_common 8 = .ok (.lsub, 1) := by decide +kernel
theorem dX8_common_9 : decode cX8_common 9 = .ok (.goto 4, 3) := by decide +kernel
theorem dX8_common_12 : decode cX8_common 12 = .ok (.lload_n 0, 1) := by decide +kernel
theorem dX8_common_13 : decode cX8_common 13 = .ok (.lstore 4, 2) := by decide +kernel
theorem dX8_common_15 : decode cX8_common 15 = .ok (.lload_n 2, 1) := by decide +kernel
theorem dX8_common_16 : decode cX8_common 16 = .ok (.lconst 0, 1) := by decide +kernel
theorem dX8_common_17 : decode cX8_common 17 = .ok (.lcmp, 1) := by decide +kernel
theorem dX8_common_18 : decode cX8_common 18 = .ok (.ifCond .ge 9, 3) := by decide +kernel
theorem dX8_common_21 : decode cX8_common 21 = .ok (.lconst 0, 1) := by decide +kernel
theorem dX8_common_22 : decode cX8_common 22 = .ok (.lload_n 2, 1) := by decide +kernel
theorem dX8_common_23 : decode cX8_common 23 = .ok (.lsub, 1) := by decide +kernel
theorem dX8_common_24 : decode cX8_common 24 = .ok (.goto 4, 3) := by decide +kernel
theorem dX8_common_27 : decode cX8_common 27 = .ok (.lload_n 2, 1) := by decide +kernel
theorem dX8_common_28 : decode cX8_common 28 = .ok (.lstore 6, 2) := by decide +kernel
theorem dX8_common_30 : decode cX8_common 30 = .ok (.iconst 0, 1) := by decide +kernel
theorem dX8_common_31 : decode cX8_common 31 = .ok (.istore 8, 2) := by decide +kernel
theorem dX8_common_33 : decode cX8_common 33 = .ok (.iload 8, 2) := by decide +kernel
theorem dX8_common_35 : decode cX8_common 35 = .ok (.bipush 64, 2) := by decide +kernel
theorem dX8_common_37 : decode cX8_common 37 = .ok (.if_icmp .ge 31, 3) := by decide +kernel
theorem dX8_common_40 : decode cX8_common 40 = .ok (.lload 6, 2) := by decide +kernel
theorem dX8_common_42 : decode cX8_common 42 = .ok (.lconst 0, 1) := by decide +kernel
theorem dX8_common_43 : decode cX8_common 43 = .ok (.lcmp, 1) := by decide +kernel
theorem dX8_common_44 : decode cX8_common 44 = .ok (.ifCond .le 24, 3) := by decide +kernel
theorem dX8_common_47 : decode cX8_common 47 = .ok (.lload 4, 2) := by decide +kernel
theorem dX8_common_49 : decode cX8_common 49 = .ok (.lload 6, 2) := by decide +kernel
theorem dX8_common_51 : decode cX8_common 51 = .ok (.lrem, 1) := by decide +kernel
theorem dX8_common_52 : decode cX8_common 52 = .ok (.lstore 9, 2) := by decide +kernel
theorem dX8_common_54 : decode cX8_common 54 = .ok (.lload 6, 2) := by decide +kernel
theorem dX8_common_56 : decode cX8_common 56 = .ok (.lstore 4, 2) := by decide +kernel
theorem dX8_common_58 : decode cX8_common 58 = .ok (.lload 9, 2) := by decide +kernel
theorem dX8_common_60 : decode cX8_common 60 = .ok (.lstore 6, 2) := by decide +kernel
theorem dX8_common_62 : decode cX8_common 62 = .ok (.iinc 8 1, 3) := by decide +kernel
theorem dX8_common_65 : decode cX8_common 65 = .ok (.goto (-32), 3) := by decide +kernel
theorem dX8_common_68 : decode cX8_common 68 = .ok (.lload 4, 2) := by decide +kernel
theorem dX8_common_70 : decode cX8_common 70 = .ok (.lreturn, 1) := by decide +kernel
abbrev cX8_addFace : ByteArray := prog_9_method_13_code
def yX8_addFace : MethodName := ⟨RX8, "addFace", "(J)V"⟩
theorem dX8_addFace_0 : decode cX8_addFace 0 = .ok (.aload_n 0, 1) := by decide +kernel
theorem dX8_addFace_1 : decode cX8_addFace 1 = .ok (.lload_n 1, 1) := by decide +kernel
theorem dX8_addFace_2 : decode cX8_addFace 2 = .ok (.invokevirtual 115, 3) := by decide +kernel
theorem dX8_addFace_5 : decode cX8_addFace 5 = .ok (.ifCond .ne 62, 3) := by decide +kernel
theorem dX8_addFace_8 : decode cX8_addFace 8 = .ok (.aload_n 0, 1) := by decide +kernel
theorem dX8_addFace_9 : decode cX8_addFace 9 = .ok (.getfield 29, 3) := by decide +kernel
theorem dX8_addFace_12 : decode cX8_addFace 12 = .ok (.aload_n 0, 1) := by decide +kernel
theorem dX8_addFace_13 : decode cX8_addFace 13 = .ok (.getfield 91, 3) := by decide +kernel
theorem dX8_addFace_16 : decode cX8_addFace 16 = .ok (.aload_n 0, 1) := by decide +kernel
theorem dX8_addFace_17 : decode cX8_addFace 17 = .ok (.getfield 81, 3) := by decide +kernel
theorem dX8_addFace_20 : decode cX8_addFace 20 = .ok (.lastore, 1) := by decide +kernel
theorem dX8_addFace_21 : decode cX8_addFace 21 = .ok (.aload_n 0, 1) := by decide +kernel
theorem dX8_addFace_22 : decode cX8_addFace 22 = .ok (.getfield 32, 3) := by decide +kernel
theorem dX8_addFace_25 : decode cX8_addFace 25 = .ok (.aload_n 0, 1) := by decide +kernel
theorem dX8_addFace_26 : decode cX8_addFace 26 = .ok (.getfield 91, 3) := by decide +kernel
theorem dX8_addFace_29 : decode cX8_addFace 29 = .ok (.aload_n 0, 1) := by decide +kernel
theorem dX8_addFace_30 : decode cX8_addFace 30 = .ok (.getfield 85, 3) := by decide +kernel
theorem dX8_addFace_33 : decode cX8_addFace 33 = .ok (.lastore, 1) := by decide +kernel
theorem dX8_addFace_34 : decode cX8_addFace 34 = .ok (.aload_n 0, 1) := by decide +kernel
theorem dX8_addFace_35 : decode cX8_addFace 35 = .ok (.getfield 35, 3) := by decide +kernel
theorem dX8_addFace_38 : decode cX8_addFace 38 = .ok (.aload_n 0, 1) := by decide +kernel
theorem dX8_addFace_39 : decode cX8_addFace 39 = .ok (.getfield 91, 3) := by decide +kernel
theorem dX8_addFace_42 : decode cX8_addFace 42 = .ok (.aload_n 0, 1) := by decide +kernel
theorem dX8_addFace_43 : decode cX8_addFace 43 = .ok (.getfield 88, 3) := by decide +kernel
theorem dX8_addFace_46 : decode cX8_addFace 46 = .ok (.lastore, 1) := by decide +kernel
theorem dX8_addFace_47 : decode cX8_addFace 47 = .ok (.aload_n 0, 1) := by decide +kernel
theorem dX8_addFace_48 : decode cX8_addFace 48 = .ok (.getfield 38, 3) := by decide +kernel
theorem dX8_addFace_51 : decode cX8_addFace 51 = .ok (.aload_n 0, 1) := by decide +kernel
theorem dX8_addFace_52 : decode cX8_addFace 52 = .ok (.getfield 91, 3) := by decide +kernel
theorem dX8_addFace_55 : decode cX8_addFace 55 = .ok (.lload_n 1, 1) := by decide +kernel
theorem dX8_addFace_56 : decode cX8_addFace 56 = .ok (.lastore, 1) := by decide +kernel
theorem dX8_addFace_57 : decode cX8_addFace 57 = .ok (.aload_n 0, 1) := by decide +kernel
theorem dX8_addFace_58 : decode cX8_addFace 58 = .ok (.dup, 1) := by decide +kernel
theorem dX8_addFace_59 : decode cX8_addFace 59 = .ok (.getfield 91, 3) := by decide +kernel
theorem dX8_addFace_62 : decode cX8_addFace 62 = .ok (.iconst 1, 1) := by decide +kernel
theorem dX8_addFace_63 : decode cX8_addFace 63 = .ok (.iadd, 1) := by decide +kernel
theorem dX8_addFace_64 : decode cX8_addFace 64 = .ok (.putfield 91, 3) := by decide +kernel
theorem dX8_addFace_67 : decode cX8_addFace 67 = .ok (.return_, 1) := by decide +kernel
abbrev cX8_knownFace : ByteArray := prog_9_method_11_code
def yX8_knownFace : MethodName := ⟨RX8, "knownFace", "(J)Z"⟩
theorem dX8_knownFace_0 : decode cX8_knownFace 0 = .ok (.iconst 0, 1) := by decide +kernel
theorem dX8_knownFace_1 : decode cX8_knownFace 1 = .ok (.istore_n 3, 1) := by decide +kernel
theorem dX8_knownFace_2 : decode cX8_knownFace 2 = .ok (.iconst 0, 1) := by decide +kernel
theorem dX8_knownFace_3 : decode cX8_knownFace 3 = .ok (.istore 4, 2) := by decide +kernel
theorem dX8_knownFace_5 : decode cX8_knownFace 5 = .ok (.iload 4, 2) := by decide +kernel
theorem dX8_knownFace_7 : decode cX8_knownFace 7 = .ok (.aload_n 0, 1) := by decide +kernel
theorem dX8_knownFace_8 : decode cX8_knownFace 8 = .ok (.getfield 91, 3) := by decide +kernel
theorem dX8_knownFace_11 : decode cX8_knownFace 11 = .ok (.if_icmp .ge 76, 3) := by decide +kernel
theorem dX8_knownFace_14 : decode cX8_knownFace 14 = .ok (.iload_n 3, 1) := by decide +kernel
theorem dX8_knownFace_15 : decode cX8_knownFace 15 = .ok (.ifCond .ne 60, 3) := by decide +kernel
theorem dX8_knownFace_18 : decode cX8_knownFace 18 = .ok (.aload_n 0, 1) := by decide +kernel
theorem dX8_knownFace_19 : decode cX8_knownFace 19 = .ok (.getfield 29, 3) := by decide +kernel
theorem dX8_knownFace_22 : decode cX8_knownFace 22 = .ok (.iload 4, 2) := by decide +kernel
theorem dX8_knownFace_24 : decode cX8_knownFace 24 = .ok (.laload, 1) := by decide +kernel
theorem dX8_knownFace_25 : decode cX8_knownFace 25 = .ok (.aload_n 0, 1) := by decide +kernel
theorem dX8_knownFace_26 : decode cX8_knownFace 26 = .ok (.getfield 81, 3) := by decide +kernel
theorem dX8_knownFace_29 : decode cX8_knownFace 29 = .ok (.lcmp, 1) := by decide +kernel
theorem dX8_knownFace_30 : decode cX8_knownFace 30 = .ok (.ifCond .ne 49, 3) := by decide +kernel
theorem dX8_knownFace_33 : decode cX8_knownFace 33 = .ok (.aload_n 0, 1) := by decide +kernel
theorem dX8_knownFace_34 : decode cX8_knownFace 34 = .ok (.getfield 32, 3) := by decide +kernel
theorem dX8_knownFace_37 : decode cX8_knownFace 37 = .ok (.iload 4, 2) := by decide +kernel
theorem dX8_knownFace_39 : decode cX8_knownFace 39 = .ok (.laload, 1) := by decide +kernel
theorem dX8_knownFace_40 : decode cX8_knownFace 40 = .ok (.aload_n 0, 1) := by decide +kernel
theorem dX8_knownFace_41 : decode cX8_knownFace 41 = .ok (.getfield 85, 3) := by decide +kernel
theorem dX8_knownFace_44 : decode cX8_knownFace 44 = .ok (.lcmp, 1) := by decide +kernel
theorem dX8_knownFace_45 : decode cX8_knownFace 45 = .ok (.ifCond .ne 34, 3) := by decide +kernel
theorem dX8_knownFace_48 : decode cX8_knownFace 48 = .ok (.aload_n 0, 1) := by decide +kernel
theorem dX8_knownFace_49 : decode cX8_knownFace 49 = .ok (.getfield 35, 3) := by decide +kernel
theorem dX8_knownFace_52 : decode cX8_knownFace 52 = .ok (.iload 4, 2) := by decide +kernel
theorem dX8_knownFace_54 : decode cX8_knownFace 54 = .ok (.laload, 1) := by decide +kernel
theorem dX8_knownFace_55 : decode cX8_knownFace 55 = .ok (.aload_n 0, 1) := by decide +kernel
theorem dX8_knownFace_56 : decode cX8_knownFace 56 = .ok (.getfield 88, 3) := by decide +kernel
theorem dX8_knownFace_59 : decode cX8_knownFace 59 = .ok (.lcmp, 1) := by decide +kernel
theorem dX8_knownFace_60 : decode cX8_knownFace 60 = .ok (.ifCond .ne 19, 3) := by decide +kernel
theorem dX8_knownFace_63 : decode cX8_knownFace 63 = .ok (.aload_n 0, 1) := by decide +kernel
theorem dX8_knownFace_64 : decode cX8_knownFace 64 = .ok (.getfield 38, 3) := by decide +kernel
theorem dX8_knownFace_67 : decode cX8_knownFace 67 = .ok (.iload 4, 2) := by decide +kernel
theorem dX8_knownFace_69 : decode cX8_knownFace 69 = .ok (.laload, 1) := by decide +kernel
theorem dX8_knownFace_70 : decode cX8_knownFace 70 = .ok (.lload_n 1, 1) := by decide +kernel
theorem dX8_knownFace_71 : decode cX8_knownFace 71 = .ok (.lcmp, 1) := by decide +kernel
theorem dX8_knownFace_72 : decode cX8_knownFace 72 = .ok (.ifCond .ne 7, 3) := by decide +kernel
theorem dX8_knownFace_75 : decode cX8_knownFace 75 = .ok (.iconst 1, 1) := by decide +kernel
theorem dX8_knownFace_76 : decode cX8_knownFace 76 = .ok (.goto 4, 3) := by decide +kernel
theorem dX8_knownFace_79 : decode cX8_knownFace 79 = .ok (.iconst 0, 1) := by decide +kernel
theorem dX8_knownFace_80 : decode cX8_knownFace 80 = .ok (.istore_n 3, 1) := by decide +kernel
theorem dX8_knownFace_81 : decode cX8_knownFace 81 = .ok (.iinc 4 1, 3) := by decide +kernel
theorem dX8_knownFace_84 : decode cX8_knownFace 84 = .ok (.goto (-79), 3) := by decide +kernel
theorem dX8_knownFace_87 : decode cX8_knownFace 87 = .ok (.iload_n 3, 1) := by decide +kernel
theorem dX8_knownFace_88 : decode cX8_knownFace 88 = .ok (.ireturn, 1) := by decide +kernel
abbrev cX8_walk : ByteArray := prog_9_method_17_code
def yX8_walk : MethodName := ⟨RX8, "walk", "(I)V"⟩
theorem dX8_walk_0 : decode cX8_walk 0 = .ok (.iconst 0, 1) := by decide +kernel
theorem dX8_walk_1 : decode cX8_walk 1 = .ok (.istore_n 2, 1) := by decide +kernel
theorem dX8_walk_2 : decode cX8_walk 2 = .ok (.aload_n 0, 1) := by decide +kernel
theorem dX8_walk_3 : decode cX8_walk 3 = .ok (.iload_n 1, 1) := by decide +kernel
theorem dX8_walk_4 : decode cX8_walk 4 = .ok (.iload_n 2, 1) := by decide +kernel
theorem dX8_walk_5 : decode cX8_walk 5 = .ok (.invokevirtual 119, 3) := by decide +kernel
theorem dX8_walk_8 : decode cX8_walk 8 = .ok (.ifCond .eq 12, 3) := by decide +kernel
theorem dX8_walk_11 : decode cX8_walk 11 = .ok (.aload_n 0, 1) := by decide +kernel
theorem dX8_walk_12 : decode cX8_walk 12 = .ok (.iload_n 1, 1) := by decide +kernel
theorem dX8_walk_13 : decode cX8_walk 13 = .ok (.iload_n 2, 1) := by decide +kernel
theorem dX8_walk_14 : decode cX8_walk 14 = .ok (.invokevirtual 125, 3) := by decide +kernel
theorem dX8_walk_17 : decode cX8_walk 17 = .ok (.ifCond .ge 9, 3) := by decide +kernel
theorem dX8_walk_20 : decode cX8_walk 20 = .ok (.iinc 2 1, 3) := by decide +kernel
theorem dX8_walk_23 : decode cX8_walk 23 = .ok (.goto (-21), 3) := by decide +kernel
theorem dX8_walk_26 : decode cX8_walk 26 = .ok (.iconst 0, 1) := by decide +kernel
theorem dX8_walk_27 : decode cX8_walk 27 = .ok (.istore_n 3, 1) := by decide +kernel
theorem dX8_walk_28 : decode cX8_walk 28 = .ok (.iload_n 2, 1) := by decide +kernel
theorem dX8_walk_29 : decode cX8_walk 29 = .ok (.istore 4, 2) := by decide +kernel
theorem dX8_walk_31 : decode cX8_walk 31 = .ok (.iconst 0, 1) := by decide +kernel
theorem dX8_walk_32 : decode cX8_walk 32 = .ok (.istore 5, 2) := by decide +kernel
theorem dX8_walk_34 : decode cX8_walk 34 = .ok (.iload 5, 2) := by decide +kernel
theorem dX8_walk_36 : decode cX8_walk 36 = .ok (.bipush 24, 2) := by decide +kernel
theorem dX8_walk_38 : decode cX8_walk 38 = .ok (.if_icmp .ge 44, 3) := by decide +kernel
theorem dX8_walk_41 : decode cX8_walk 41 = .ok (.iload_n 3, 1) := by decide +kernel
theorem dX8_walk_42 : decode cX8_walk 42 = .ok (.ifCond .eq 9, 3) := by decide +kernel
theorem dX8_walk_45 : decode cX8_walk 45 = .ok (.iload 4, 2) := by decide +kernel
theorem dX8_walk_47 : decode cX8_walk 47 = .ok (.iload_n 2, 1) := by decide +kernel
theorem dX8_walk_48 : decode cX8_walk 48 = .ok (.if_icmp .eq 34, 3) := by decide +kernel
theorem dX8_walk_51 : decode cX8_walk 51 = .ok (.aload_n 0, 1) := by decide +kernel
theorem dX8_walk_52 : decode cX8_walk 52 = .ok (.getfield 44, 3) := by decide +kernel
theorem dX8_walk_55 : decode cX8_walk 55 = .ok (.bipush 24, 2) := by decide +kernel
theorem dX8_walk_57 : decode cX8_walk 57 = .ok (.iload_n 1, 1) := by decide +kernel
theorem dX8_walk_58 : decode cX8_walk 58 = .ok (.imul, 1) := by decide +kernel
theorem dX8_walk_59 : decode cX8_walk 59 = .ok (.iload_n 3, 1) := by decide +kernel
theorem dX8_walk_60 : decode cX8_walk 60 = .ok (.iadd, 1) := by decide +kernel
theorem dX8_walk_61 : decode cX8_walk 61 = .ok (.iload 4, 2) := by decide +kernel
theorem dX8_walk_63 : decode cX8_walk 63 = .ok (.iastore, 1) := by decide +kernel
theorem dX8_walk_64 : decode cX8_walk 64 = .ok (.iinc 3 1, 3) := by decide +kernel
theorem dX8_walk_67 : decode cX8_walk 67 = .ok (.aload_n 0, 1) := by decide +kernel
theorem dX8_walk_68 : decode cX8_walk 68 = .ok (.iload_n 1, 1) := by decide +kernel
theorem dX8_walk_69 : decode cX8_walk 69 = .ok (.iload 4, 2) := by decide +kernel
theorem dX8_walk_71 : decode cX8_walk 71 = .ok (.invokevirtual 125, 3) := by decide +kernel
theorem dX8_walk_74 : decode cX8_walk 74 = .ok (.istore 4, 2) := by decide +kernel
theorem dX8_walk_76 : decode cX8_walk 76 = .ok (.iinc 5 1, 3) := by decide +kernel
theorem dX8_walk_79 : decode cX8_walk 79 = .ok (.goto (-45), 3) := by decide +kernel
theorem dX8_walk_82 : decode cX8_walk 82 = .ok (.aload_n 0, 1) := by decide +kernel
theorem dX8_walk_83 : decode cX8_walk 83 = .ok (.getfield 41, 3) := by decide +kernel
theorem dX8_walk_86 : decode cX8_walk 86 = .ok (.iload_n 1, 1) := by decide +kernel
theorem dX8_walk_87 : decode cX8_walk 87 = .ok (.iload_n 3, 1) := by decide +kernel
theorem dX8_walk_88 : decode cX8_walk 88 = .ok (.iastore, 1) := by decide +kernel
theorem dX8_walk_89 : decode cX8_walk 89 = .ok (.return_, 1) := by decide +kernel
abbrev cX8_in : ByteArray := prog_9_method_14_code
def yX8_in : MethodName := ⟨RX8, "in", "(II)Z"⟩
theorem dX8_in_0 : decode cX8_in 0 = .ok (.aload_n 0, 1) := by decide +kernel
theorem dX8_in_1 : decode cX8_in 1 = .ok (.getfield 29, 3) := by decide +kernel
theorem dX8_in_4 : decode cX8_in 4 = .ok (.iload_n 1, 1) := by decide +kernel
theorem dX8_in_5 : decode cX8_in 5 = .ok (.laload, 1) := by decide +kernel
theorem dX8_in_6 : decode cX8_in 6 = .ok (.aload_n 0, 1) := by decide +kernel
theorem dX8_in_7 : decode cX8_in 7 = .ok (.getfield 19, 3) := by decide +kernel
theorem dX8_in_10 : decode cX8_in 10 = .ok (.iload_n 2, 1) := by decide +kernel
theorem dX8_in_11 : decode cX8_in 11 = .ok (.laload, 1) := by decide +kernel
theorem dX8_in_12 : decode cX8_in 12 = .ok (.lmul, 1) := by decide +kernel
theorem dX8_in_13 : decode cX8_in 13 = .ok (.aload_n 0, 1) := by decide +kernel
theorem dX8_in_14 : decode cX8_in 14 = .ok (.getfield 32, 3) := by decide +kernel
theorem dX8_in_17 : decode cX8_in 17 = .ok (.iload_n 1, 1) := by decide +kernel
theorem dX8_in_18 : decode cX8_in 18 = .ok (.laload, 1) := by decide +kernel
theorem dX8_in_19 : decode cX8_in 19 = .ok (.aload_n 0, 1) := by decide +kernel
theorem dX8_in_20 : decode cX8_in 20 = .ok (.getfield 23, 3) := by decide +kernel
theorem dX8_in_23 : decode cX8_in 23 = .ok (.iload_n 2, 1) := by decide +kernel
theorem dX8_in_24 : decode cX8_in 24 = .ok (.laload, 1) := by decide +kernel
theorem dX8_in_25 : decode cX8_in 25 = .ok (.lmul, 1) := by decide +kernel
theorem dX8_in_26 : decode cX8_in 26 = .ok (.ladd, 1) := by decide +kernel
theorem dX8_in_27 : decode cX8_in 27 = .ok (.aload_n 0, 1) := by decide +kernel
theorem dX8_in_28 : decode cX8_in 28 = .ok (.getfield 35, 3) := by decide +kernel
theorem dX8_in_31 : decode cX8_in 31 = .ok (.iload_n 1, 1) := by decide +kernel
theorem dX8_in_32 : decode cX8_in 32 = .ok (.laload, 1) := by decide +kernel
theorem dX8_in_33 : decode cX8_in 33 = .ok (.aload_n 0, 1) := by decide +kernel
theorem dX8_in_34 : decode cX8_in 34 = .ok (.getfield 26, 3) := by decide +kernel
theorem dX8_in_37 : decode cX8_in 37 = .ok (.iload_n 2, 1) := by decide +kernel
theorem dX8_in_38 : decode cX8_in 38 = .ok (.laload, 1) := by decide +kernel
theorem dX8_in_39 : decode cX8_in 39 = .ok (.lmul, 1) := by decide +kernel
theorem dX8_in_40 : decode cX8_in 40 = .ok (.ladd, 1) := by decide +kernel
theorem dX8_in_41 : decode cX8_in 41 = .ok (.aload_n 0, 1) := by decide +kernel
theorem dX8_in_42 : decode cX8_in 42 = .ok (.getfield 38, 3) := by decide +kernel
theorem dX8_in_45 : decode cX8_in 45 = .ok (.iload_n 1, 1) := by decide +kernel
theorem dX8_in_46 : decode cX8_in 46 = .ok (.laload, 1) := by decide +kernel
theorem dX8_in_47 : decode cX8_in 47 = .ok (.lcmp, 1) := by decide +kernel
theorem dX8_in_48 : decode cX8_in 48 = .ok (.ifCond .ne 7, 3) := by decide +kernel
theorem dX8_in_51 : decode cX8_in 51 = .ok (.iconst 1, 1) := by decide +kernel
theorem dX8_in_52 : decode cX8_in 52 = .ok (.goto 4, 3) := by decide +kernel
theorem dX8_in_55 : decode cX8_in 55 = .ok (.iconst 0, 1) := by decide +kernel
theorem dX8_in_56 : decode cX8_in 56 = .ok (.ireturn, 1) := by decide +kernel
abbrev cX8_behind : ByteArray := prog_9_method_16_code
def yX8_behind : MethodName := ⟨RX8, "behind", "(II)I"⟩
theorem dX8_behind_0 : decode cX8_behind 0 = .ok (.iconst 0, 1) := by decide +kernel
theorem dX8_behind_1 : decode cX8_behind 1 = .ok (.istore_n 3, 1) := by decide +kernel
theorem dX8_behind_2 : decode cX8_behind 2 = .ok (.iload_n 3, 1) := by decide +kernel
theorem dX8_behind_3 : decode cX8_behind 3 = .ok (.aload_n 0, 1) := by decide +kernel
theorem dX8_behind_4 : decode cX8_behind 4 = .ok (.getfield 98, 3) := by decide +kernel
theorem dX8_behind_7 : decode cX8_behind 7 = .ok (.if_icmp .ge 30, 3) := by decide +kernel
theorem dX8_behind_10 : decode cX8_behind 10 = .ok (.aload_n 0, 1) := by decide +kernel
theorem dX8_behind_11 : decode cX8_behind 11 = .ok (.iload_n 1, 1) := by decide +kernel
theorem dX8_behind_12 : decode cX8_behind 12 = .ok (.iload_n 3, 1) := by decide +kernel
theorem dX8_behind_13 : decode cX8_behind 13 = .ok (.invokevirtual 119, 3) := by decide +kernel
theorem dX8_behind_16 : decode cX8_behind 16 = .ok (.ifCond .eq 15, 3) := by decide +kernel
theorem dX8_behind_19 : decode cX8_behind 19 = .ok (.aload_n 0, 1) := by decide +kernel
theorem dX8_behind_20 : decode cX8_behind 20 = .ok (.iload_n 1, 1) := by decide +kernel
theorem dX8_behind_21 : decode cX8_behind 21 = .ok (.iload_n 2, 1) := by decide +kernel
theorem dX8_behind_22 : decode cX8_behind 22 = .ok (.iload_n 3, 1) := by decide +kernel
theorem dX8_behind_23 : decode cX8_behind 23 = .ok (.invokevirtual 122, 3) := by decide +kernel
theorem dX8_behind_26 : decode cX8_behind 26 = .ok (.ifCond .eq 5, 3) := by decide +kernel
theorem dX8_behind_29 : decode cX8_behind 29 = .ok (.iload_n 3, 1) := by decide +kernel
theorem dX8_behind_30 : decode cX8_behind 30 = .ok (.ireturn, 1) := by decide +kernel
theorem dX8_behind_31 : decode cX8_behind 31 = .ok (.iinc 3 1, 3) := by decide +kernel
theorem dX8_behind_34 : decode cX8_behind 34 = .ok (.goto (-32), 3) := by decide +kernel
theorem dX8_behind_37 : decode cX8_behind 37 = .ok (.iconst (-1), 1) := by decide +kernel
theorem dX8_behind_38 : decode cX8_behind 38 = .ok (.ireturn, 1) := by decide +kernel
abbrev cX8_goesOn : ByteArray := prog_9_method_15_code
def yX8_goesOn : MethodName := ⟨RX8, "goesOn", "(III)Z"⟩
theorem dX8_goesOn_0 : decode cX8_goesOn 0 = .ok (.iload_n 2, 1) := by decide +kernel
theorem dX8_goesOn_1 : decode cX8_goesOn 1 = .ok (.iload_n 3, 1) := by decide +kernel
theorem dX8_goesOn_2 : decode cX8_goesOn 2 = .ok (.if_icmp .eq 7, 3) := by decide +kernel
theorem dX8_goesOn_5 : decode cX8_goesOn 5 = .ok (.iconst 1, 1) := by decide +kernel
theorem dX8_goesOn_6 : decode cX8_goesOn 6 = .ok (.goto 4, 3) := by decide +kernel
theorem dX8_goesOn_9 : decode cX8_goesOn 9 = .ok (.iconst 0, 1) := by decide +kernel
theorem dX8_goesOn_10 : decode cX8_goesOn 10 = .ok (.istore 4, 2) := by decide +kernel
theorem dX8_goesOn_12 : decode cX8_goesOn 12 = .ok (.iconst 0, 1) := by decide +kernel
theorem dX8_goesOn_13 : decode cX8_goesOn 13 = .ok (.istore 5, 2) := by decide +kernel
theorem dX8_goesOn_15 : decode cX8_goesOn 15 = .ok (.iload 5, 2) := by decide +kernel
theorem dX8_goesOn_17 : decode cX8_goesOn 17 = .ok (.aload_n 0, 1) := by decide +kernel
theorem dX8_goesOn_18 : decode cX8_goesOn 18 = .ok (.getfield 98, 3) := by decide +kernel
theorem dX8_goesOn_21 : decode cX8_goesOn 21 = .ok (.if_icmp .ge 200, 3) := by decide +kernel
theorem dX8_goesOn_24 : decode cX8_goesOn 24 = .ok (.iload 4, 2) := by decide +kernel
theorem dX8_goesOn_26 : decode cX8_goesOn 26 = .ok (.ifCond .eq 195, 3) := by decide +kernel
theorem dX8_goesOn_29 : decode cX8_goesOn 29 = .ok (.iload 5, 2) := by decide +kernel
theorem dX8_goesOn_31 : decode cX8_goesOn 31 = .ok (.iload_n 2, 1) := by decide +kernel
theorem dX8_goesOn_32 : decode cX8_goesOn 32 = .ok (.if_icmp .eq 183, 3) := by decide +kernel
theorem dX8_goesOn_35 : decode cX8_goesOn 35 = .ok (.iload 5, 2) := by decide +kernel
theorem dX8_goesOn_37 : decode cX8_goesOn 37 = .ok (.iload_n 3, 1) := by decide +kernel
theorem dX8_goesOn_38 : decode cX8_goesOn 38 = .ok (.if_icmp .eq 177, 3) := by decide +kernel
theorem dX8_goesOn_41 : decode cX8_goesOn 41 = .ok (.aload_n 0, 1) := by decide +kernel
theorem dX8_goesOn_42 : decode cX8_goesOn 42 = .ok (.iload_n 1, 1) := by decide +kernel
theorem dX8_goesOn_43 : decode cX8_goesOn 43 = .ok (.iload 5, 2) := by decide +kernel
theorem dX8_goesOn_45 : decode cX8_goesOn 45 = .ok (.invokevirtual 119, 3) := by decide +kernel
theorem dX8_goesOn_48 : decode cX8_goesOn 48 = .ok (.ifCond .eq 167, 3) := by decide +kernel
theorem dX8_goesOn_51 : decode cX8_goesOn 51 = .ok (.aload_n 0, 1) := by decide +kernel
theorem dX8_goesOn_52 : decode cX8_goesOn 52 = .ok (.iload_n 2, 1) := by decide +kernel
theorem dX8_goesOn_53 : decode cX8_goesOn 53 = .ok (.iload_n 3, 1) := by decide +kernel
theorem dX8_goesOn_54 : decode cX8_goesOn 54 = .ok (.iload 5, 2) := by decide +kernel
theorem dX8_goesOn_56 : decode cX8_goesOn 56 = .ok (.invokevirtual 94, 3) := by decide +kernel
theorem dX8_goesOn_59 : decode cX8_goesOn 59 = .ok (.aload_n 0, 1) := by decide +kernel
theorem dX8_goesOn_60 : decode cX8_goesOn 60 = .ok (.getfield 81, 3) := by decide +kernel
theorem dX8_goesOn_63 : decode cX8_goesOn 63 = .ok (.aload_n 0, 1) := by decide +kernel
theorem dX8_goesOn_64 : decode cX8_goesOn 64 = .ok (.getfield 29, 3) := by decide +kernel
theorem dX8_goesOn_67 : decode cX8_goesOn 67 = .ok (.iload_n 1, 1) := by decide +kernel
theorem dX8_goesOn_68 : decode cX8_goesOn 68 = .ok (.laload, 1) := by decide +kernel
theorem dX8_goesOn_69 : decode cX8_goesOn 69 = .ok (.lmul, 1) := by decide +kernel
theorem dX8_goesOn_70 : decode cX8_goesOn 70 = .ok (.aload_n 0, 1) := by decide +kernel
theorem dX8_goesOn_71 : decode cX8_goesOn 71 = .ok (.getfield 85, 3) := by decide +kernel
theorem dX8_goesOn_74 : decode cX8_goesOn 74 = .ok (.aload_n 0, 1) := by decide +kernel
theorem dX8_goesOn_75 : decode cX8_goesOn 75 = .ok (.getfield 32, 3) := by decide +kernel
theorem dX8_goesOn_78 : decode cX8_goesOn 78 = .ok (.iload_n 1, 1) := by decide +kernel
theorem dX8_goesOn_79 : decode cX8_goesOn 79 = .ok (.laload, 1) := by decide +kernel
theorem dX8_goesOn_80 : decode cX8_goesOn 80 = .ok (.lmul, 1) := by decide +kernel
theorem dX8_goesOn_81 : decode cX8_goesOn 81 = .ok (.ladd, 1) := by decide +kernel
theorem dX8_goesOn_82 : decode cX8_goesOn 82 = .ok (.aload_n 0, 1) := by decide +kernel
theorem dX8_goesOn_83 : decode cX8_goesOn 83 = .ok (.getfield 88, 3) := by decide +kernel
theorem dX8_goesOn_86 : decode cX8_goesOn 86 = .ok (.aload_n 0, 1) := by decide +kernel
theorem dX8_goesOn_87 : decode cX8_goesOn 87 = .ok (.getfield 35, 3) := by decide +kernel
theorem dX8_goesOn_90 : decode cX8_goesOn 90 = .ok (.iload_n 1, 1) := by decide +kernel
theorem dX8_goesOn_91 : decode cX8_goesOn 91 = .ok (.laload, 1) := by decide +kernel
theorem dX8_goesOn_92 : decode cX8_goesOn 92 = .ok (.lmul, 1) := by decide +kernel
theorem dX8_goesOn_93 : decode cX8_goesOn 93 = .ok (.ladd, 1) := by decide +kernel
theorem dX8_goesOn_94 : decode cX8_goesOn 94 = .ok (.lstore 6, 2) := by decide +kernel
theorem dX8_goesOn_96 : decode cX8_goesOn 96 = .ok (.aload_n 0, 1) := by decide +kernel
theorem dX8_goesOn_97 : decode cX8_goesOn 97 = .ok (.getfield 19, 3) := by decide +kernel
theorem dX8_goesOn_100 : decode cX8_goesOn 100 = .ok (.iload 5, 2) := by decide +kernel
theorem dX8_goesOn_102 : decode cX8_goesOn 102 = .ok (.laload, 1) := by decide +kernel
theorem dX8_goesOn_103 : decode cX8_goesOn 103 = .ok (.aload_n 0, 1) := by decide +kernel
theorem dX8_goesOn_104 : decode cX8_goesOn 104 = .ok (.getfield 19, 3) := by decide +kernel
theorem dX8_goesOn_107 : decode cX8_goesOn 107 = .ok (.iload_n 2, 1) := by decide +kernel
theorem dX8_goesOn_108 : decode cX8_goesOn 108 = .ok (.laload, 1) := by decide +kernel
theorem dX8_goesOn_109 : decode cX8_goesOn 109 = .ok (.lsub, 1) := by decide +kernel
theorem dX8_goesOn_110 : decode cX8_goesOn 110 = .ok (.aload_n 0, 1) := by decide +kernel
theorem dX8_goesOn_111 : decode cX8_goesOn 111 = .ok (.getfield 19, 3) := by decide +kernel
theorem dX8_goesOn_114 : decode cX8_goesOn 114 = .ok (.iload 5, 2) := by decide +kernel
theorem dX8_goesOn_116 : decode cX8_goesOn 116 = .ok (.laload, 1) := by decide +kernel
theorem dX8_goesOn_117 : decode cX8_goesOn 117 = .ok (.aload_n 0, 1) := by decide +kernel
theorem dX8_goesOn_118 : decode cX8_goesOn 118 = .ok (.getfield 19, 3) := by decide +kernel
theorem dX8_goesOn_121 : decode cX8_goesOn 121 = .ok (.iload_n 3, 1) := by decide +kernel
theorem dX8_goesOn_122 : decode cX8_goesOn 122 = .ok (.laload, 1) := by decide +kernel
theorem dX8_goesOn_123 : decode cX8_goesOn 123 = .ok (.lsub, 1) := by decide +kernel
theorem dX8_goesOn_124 : decode cX8_goesOn 124 = .ok (.lmul, 1) := by decide +kernel
theorem dX8_goesOn_125 : decode cX8_goesOn 125 = .ok (.aload_n 0, 1) := by decide +kernel
theorem dX8_goesOn_126 : decode cX8_goesOn 126 = .ok (.getfield 23, 3) := by decide +kernel
theorem dX8_goesOn_129 : decode cX8_goesOn 129 = .ok (.iload 5, 2) := by decide +kernel
theorem dX8_goesOn_131 : decode cX8_goesOn 131 = .ok (.laload, 1) := by decide +kernel
theorem dX8_goesOn_132 : decode cX8_goesOn 132 = .ok (.aload_n 0, 1) := by decide +kernel
theorem dX8_goesOn_133 : decode cX8_goesOn 133 = .ok (.getfield 23, 3) := by decide +kernel
theorem dX8_goesOn_136 : decode cX8_goesOn 136 = .ok (.iload_n 2, 1) := by decide +kernel
theorem dX8_goesOn_137 : decode cX8_goesOn 137 = .ok (.laload, 1) := by decide +kernel
theorem dX8_goesOn_138 : decode cX8_goesOn 138 = .ok (.lsub, 1) := by decide +kernel
theorem dX8_goesOn_139 : decode cX8_goesOn 139 = .ok (.aload_n 0, 1) := by decide +kernel
theorem dX8_goesOn_140 : decode cX8_goesOn 140 = .ok (.getfield 23, 3) := by decide +kernel
theorem dX8_goesOn_143 : decode cX8_goesOn 143 = .ok (.iload 5, 2) := by decide +kernel
theorem dX8_goesOn_145 : decode cX8_goesOn 145 = .ok (.laload, 1) := by decide +kernel
theorem dX8_goesOn_146 : decode cX8_goesOn 146 = .ok (.aload_n 0, 1) := by decide +kernel
theorem dX8_goesOn_147 : decode cX8_goesOn 147 = .ok (.getfield 23, 3) := by decide +kernel
theorem dX8_goesOn_150 : decode cX8_goesOn 150 = .ok (.iload_n 3, 1) := by decide +kernel
theorem dX8_goesOn_151 : decode cX8_goesOn 151 = .ok (.laload, 1) := by decide +kernel
theorem dX8_goesOn_152 : decode cX8_goesOn 152 = .ok (.lsub, 1) := by decide +kernel
theorem dX8_goesOn_153 : decode cX8_goesOn 153 = .ok (.lmul, 1) := by decide +kernel
theorem dX8_goesOn_154 : decode cX8_goesOn 154 = .ok (.ladd, 1) := by decide +kernel
theorem dX8_goesOn_155 : decode cX8_goesOn 155 = .ok (.aload_n 0, 1) := by decide +kernel
theorem dX8_goesOn_156 : decode cX8_goesOn 156 = .ok (.getfield 26, 3) := by decide +kernel
theorem dX8_goesOn_159 : decode cX8_goesOn 159 = .ok (.iload 5, 2) := by decide +kernel
theorem dX8_goesOn_161 : decode cX8_goesOn 161 = .ok (.laload, 1) := by decide +kernel
theorem dX8_goesOn_162 : decode cX8_goesOn 162 = .ok (.aload_n 0, 1) := by decide +kernel
theorem dX8_goesOn_163 : decode cX8_goesOn 163 = .ok (.getfield 26, 3) := by decide +kernel
theorem dX8_goesOn_166 : decode cX8_goesOn 166 = .ok (.iload_n 2, 1) := by decide +kernel
theorem dX8_goesOn_167 : decode cX8_goesOn 167 = .ok (.laload, 1) := by decide +kernel
theorem dX8_goesOn_168 : decode cX8_goesOn 168 = .ok (.lsub, 1) := by decide +kernel
theorem dX8_goesOn_169 : decode cX8_goesOn 169 = .ok (.aload_n 0, 1) := by decide +kernel
theorem dX8_goesOn_170 : decode cX8_goesOn 170 = .ok (.getfield 26, 3) := by decide +kernel
theorem dX8_goesOn_173 : decode cX8_goesOn 173 = .ok (.iload 5, 2) := by decide +kernel
theorem dX8_goesOn_175 : decode cX8_goesOn 175 = .ok (.laload, 1) := by decide +kernel
theorem dX8_goesOn_176 : decode cX8_goesOn 176 = .ok (.aload_n 0, 1) := by decide +kernel
theorem dX8_goesOn_177 : decode cX8_goesOn 177 = .ok (.getfield 26, 3) := by decide +kernel
theorem dX8_goesOn_180 : decode cX8_goesOn 180 = .ok (.iload_n 3, 1) := by decide +kernel
theorem dX8_goesOn_181 : decode cX8_goesOn 181 = .ok (.laload, 1) := by decide +kernel
theorem dX8_goesOn_182 : decode cX8_goesOn 182 = .ok (.lsub, 1) := by decide +kernel
theorem dX8_goesOn_183 : decode cX8_goesOn 183 = .ok (.lmul, 1) := by decide +kernel
theorem dX8_goesOn_184 : decode cX8_goesOn 184 = .ok (.ladd, 1) := by decide +kernel
theorem dX8_goesOn_185 : decode cX8_goesOn 185 = .ok (.lstore 8, 2) := by decide +kernel
theorem dX8_goesOn_187 : decode cX8_goesOn 187 = .ok (.lload 6, 2) := by decide +kernel
theorem dX8_goesOn_189 : decode cX8_goesOn 189 = .ok (.lconst 0, 1) := by decide +kernel
theorem dX8_goesOn_190 : decode cX8_goesOn 190 = .ok (.lcmp, 1) := by decide +kernel
theorem dX8_goesOn_191 : decode cX8_goesOn 191 = .ok (.ifCond .gt 17, 3) := by decide +kernel
theorem dX8_goesOn_194 : decode cX8_goesOn 194 = .ok (.lload 6, 2) := by decide +kernel
theorem dX8_goesOn_196 : decode cX8_goesOn 196 = .ok (.lconst 0, 1) := by decide +kernel
theorem dX8_goesOn_197 : decode cX8_goesOn 197 = .ok (.lcmp, 1) := by decide +kernel
theorem dX8_goesOn_198 : decode cX8_goesOn 198 = .ok (.ifCond .ne 14, 3) := by decide +kernel
theorem dX8_goesOn_201 : decode cX8_goesOn 201 = .ok (.lload 8, 2) := by decide +kernel
theorem dX8_goesOn_203 : decode cX8_goesOn 203 = .ok (.lconst 0, 1) := by decide +kernel
theorem dX8_goesOn_204 : decode cX8_goesOn 204 = .ok (.lcmp, 1) := by decide +kernel
theorem dX8_goesOn_205 : decode cX8_goesOn 205 = .ok (.ifCond .ge 7, 3) := by decide +kernel
theorem dX8_goesOn_208 : decode cX8_goesOn 208 = .ok (.iconst 1, 1) := by decide +kernel
theorem dX8_goesOn_209 : decode cX8_goesOn 209 = .ok (.goto 4, 3) := by decide +kernel
theorem dX8_goesOn_212 : decode cX8_goesOn 212 = .ok (.iconst 0, 1) := by decide +kernel
theorem dX8_goesOn_213 : decode cX8_goesOn 213 = .ok (.istore 4, 2) := by decide +kernel
theorem dX8_goesOn_215 : decode cX8_goesOn 215 = .ok (.iinc 5 1, 3) := by decide +kernel
theorem dX8_goesOn_218 : decode cX8_goesOn 218 = .ok (.goto (-203), 3) := by decide +kernel
theorem dX8_goesOn_221 : decode cX8_goesOn 221 = .ok (.iload 4, 2) := by decide +kernel
theorem dX8_goesOn_223 : decode cX8_goesOn 223 = .ok (.ireturn, 1) := by decide +kernel
abbrev cX8_orderFaces : ByteArray := prog_9_method_19_code
def yX8_orderFaces : MethodName := ⟨RX8, "orderFaces", "()V"⟩
theorem dX8_orderFaces_0 : decode cX8_orderFaces 0 = .ok (.iconst 0, 1) := by decide +kernel
theorem dX8_orderFaces_1 : decode cX8_orderFaces 1 = .ok (.istore_n 1, 1) := by decide +kernel
theorem dX8_orderFaces_2 : decode cX8_orderFaces 2 = .ok (.iload_n 1, 1) := by decide +kernel
theorem dX8_orderFaces_3 : decode cX8_orderFaces 3 = .ok (.aload_n 0, 1) := by decide +kernel
theorem dX8_orderFaces_4 : decode cX8_orderFaces 4 = .ok (.getfield 91, 3) := by decide +kernel
theorem dX8_orderFaces_7 : decode cX8_orderFaces 7 = .ok (.if_icmp .ge 58, 3) := by decide +kernel
theorem dX8_orderFaces_10 : decode cX8_orderFaces 10 = .ok (.iload_n 1, 1) := by decide +kernel
theorem dX8_orderFaces_11 : decode cX8_orderFaces 11 = .ok (.istore_n 2, 1) := by decide +kernel
theorem dX8_orderFaces_12 : decode cX8_orderFaces 12 = .ok (.iload_n 2, 1) := by decide +kernel
theorem dX8_orderFaces_13 : decode cX8_orderFaces 13 = .ok (.ifCond .le 39, 3) := by decide +kernel
theorem dX8_orderFaces_16 : decode cX8_orderFaces 16 = .ok (.aload_n 0, 1) := by decide +kernel
theorem dX8_orderFaces_17 : decode cX8_orderFaces 17 = .ok (.iload_n 1, 1) := by decide +kernel
theorem dX8_orderFaces_18 : decode cX8_orderFaces 18 = .ok (.aload_n 0, 1) := by decide +kernel
theorem dX8_orderFaces_19 : decode cX8_orderFaces 19 = .ok (.getfield 47, 3) := by decide +kernel
theorem dX8_orderFaces_22 : decode cX8_orderFaces 22 = .ok (.iload_n 2, 1) := by decide +kernel
theorem dX8_orderFaces_23 : decode cX8_orderFaces 23 = .ok (.iconst 1, 1) := by decide +kernel
theorem dX8_orderFaces_24 : decode cX8_orderFaces 24 = .ok (.isub, 1) := by decide +kernel
theorem dX8_orderFaces_25 : decode cX8_orderFaces 25 = .ok (.iaload, 1) := by decide +kernel
theorem dX8_orderFaces_26 : decode cX8_orderFaces 26 = .ok (.invokevirtual 129, 3) := by decide +kernel
theorem dX8_orderFaces_29 : decode cX8_orderFaces 29 = .ok (.ifCond .eq 23, 3) := by decide +kernel
theorem dX8_orderFaces_32 : decode cX8_orderFaces 32 = .ok (.aload_n 0, 1) := by decide +kernel
theorem dX8_orderFaces_33 : decode cX8_orderFaces 33 = .ok (.getfield 47, 3) := by decide +kernel
theorem dX8_orderFaces_36 : decode cX8_orderFaces 36 = .ok (.iload_n 2, 1) := by decide +kernel
theorem dX8_orderFaces_37 : decode cX8_orderFaces 37 = .ok (.aload_n 0, 1) := by decide +kernel
theorem dX8_orderFaces_38 : decode cX8_orderFaces 38 = .ok (.getfield 47, 3) := by decide +kernel
theorem dX8_orderFaces_41 : decode cX8_orderFaces 41 = .ok (.iload_n 2, 1) := by decide +kernel
theorem dX8_orderFaces_42 : decode cX8_orderFaces 42 = .ok (.iconst 1, 1) := by decide +kernel
theorem dX8_orderFaces_43 : decode cX8_orderFaces 43 = .ok (.isub, 1) := by decide +kernel
theorem dX8_orderFaces_44 : decode cX8_orderFaces 44 = .ok (.iaload, 1) := by decide +kernel
theorem dX8_orderFaces_45 : decode cX8_orderFaces 45 = .ok (.iastore, 1) := by decide +kernel
theorem dX8_orderFaces_46 : decode cX8_orderFaces 46 = .ok (.iinc 2 (-1), 3) := by decide +kernel
theorem dX8_orderFaces_49 : decode cX8_orderFaces 49 = .ok (.goto (-37), 3) := by decide +kernel
theorem dX8_orderFaces_52 : decode cX8_orderFaces 52 = .ok (.aload_n 0, 1) := by decide +kernel
theorem dX8_orderFaces_53 : decode cX8_orderFaces 53 = .ok (.getfield 47, 3) := by decide +kernel
theorem dX8_orderFaces_56 : decode cX8_orderFaces 56 = .ok (.iload_n 2, 1) := by decide +kernel
theorem dX8_orderFaces_57 : decode cX8_orderFaces 57 = .ok (.iload_n 1, 1) := by decide +kernel
theorem dX8_orderFaces_58 : decode cX8_orderFaces 58 = .ok (.iastore, 1) := by decide +kernel
theorem dX8_orderFaces_59 : decode cX8_orderFaces 59 = .ok (.iinc 1 1, 3) := by decide +kernel
theorem dX8_orderFaces_62 : decode cX8_orderFaces 62 = .ok (.goto (-60), 3) := by decide +kernel
theorem dX8_orderFaces_65 : decode cX8_orderFaces 65 = .ok (.return_, 1) := by decide +kernel
abbrev cX8_earlier : ByteArray := prog_9_method_18_code
def yX8_earlier : MethodName := ⟨RX8, "earlier", "(II)Z"⟩
theorem dX8_earlier_0 : decode cX8_earlier 0 = .ok (.bipush 32, 2) := by decide +kernel
theorem dX8_earlier_2 : decode cX8_earlier 2 = .ok (.aload_n 0, 1) := by decide +kernel
theorem dX8_earlier_3 : decode cX8_earlier 3 = .ok (.getfield 44, 3) := by decide +kernel
theorem dX8_earlier_6 : decode cX8_earlier 6 = .ok (.bipush 24, 2) := by decide +kernel
theorem dX8_earlier_8 : decode cX8_earlier 8 = .ok (.iload_n 1, 1) := by decide +kernel
theorem dX8_earlier_9 : decode cX8_earlier 9 = .ok (.imul, 1) := by decide +kernel
theorem dX8_earlier_10 : decode cX8_earlier 10 = .ok (.iaload, 1) := by decide +kernel
theorem dX8_earlier_11 : decode cX8_earlier 11 = .ok (.imul, 1) := by decide +kernel
theorem dX8_earlier_12 : decode cX8_earlier 12 = .ok (.aload_n 0, 1) := by decide +kernel
theorem dX8_earlier_13 : decode cX8_earlier 13 = .ok (.getfield 44, 3) := by decide +kernel
theorem dX8_earlier_16 : decode cX8_earlier 16 = .ok (.bipush 24, 2) := by decide +kernel
theorem dX8_earlier_18 : decode cX8_earlier 18 = .ok (.iload_n 1, 1) := by decide +kernel
theorem dX8_earlier_19 : decode cX8_earlier 19 = .ok (.imul, 1) := by decide +kernel
theorem dX8_earlier_20 : decode cX8_earlier 20 = .ok (.iconst 1, 1) := by decide +kernel
theorem dX8_earlier_21 : decode cX8_earlier 21 = .ok (.iadd, 1) := by decide +kernel
theorem dX8_earlier_22 : decode cX8_earlier 22 = .ok (.iaload, 1) := by decide +kernel
theorem dX8_earlier_23 : decode cX8_earlier 23 = .ok (.iadd, 1) := by decide +kernel
theorem dX8_earlier_24 : decode cX8_earlier 24 = .ok (.istore_n 3, 1) := by decide +kernel
theorem dX8_earlier_25 : decode cX8_earlier 25 = .ok (.bipush 32, 2) := by decide +kernel
theorem dX8_earlier_27 : decode cX8_earlier 27 = .ok (.aload_n 0, 1) := by decide +kernel
theorem dX8_earlier_28 : decode cX8_earlier 28 = .ok (.getfield 44, 3) := by decide +kernel
theorem dX8_earlier_31 : decode cX8_earlier 31 = .ok (.bipush 24, 2) := by decide +kernel
theorem dX8_earlier_33 : decode cX8_earlier 33 = .ok (.iload_n 2, 1) := by decide +kernel
theorem dX8_earlier_34 : decode cX8_earlier 34 = .ok (.imul, 1) := by decide +kernel
theorem dX8_earlier_35 : decode cX8_earlier 35 = .ok (.iaload, 1) := by decide +kernel
theorem dX8_earlier_36 : decode cX8_earlier 36 = .ok (.imul, 1) := by decide +kernel
theorem dX8_earlier_37 : decode cX8_earlier 37 = .ok (.aload_n 0, 1) := by decide +kernel
theorem dX8_earlier_38 : decode cX8_earlier 38 = .ok (.getfield 44, 3) := by decide +kernel
theorem dX8_earlier_41 : decode cX8_earlier 41 = .ok (.bipush 24, 2) := by decide +kernel
theorem dX8_earlier_43 : decode cX8_earlier 43 = .ok (.iload_n 2, 1) := by decide +kernel
theorem dX8_earlier_44 : decode cX8_earlier 44 = .ok (.imul, 1) := by decide +kernel
theorem dX8_earlier_45 : decode cX8_earlier 45 = .ok (.iconst 1, 1) := by decide +kernel
theorem dX8_earlier_46 : decode cX8_earlier 46 = .ok (.iadd, 1) := by decide +kernel
theorem dX8_earlier_47 : decode cX8_earlier 47 = .ok (.iaload, 1) := by decide +kernel
theorem dX8_earlier_48 : decode cX8_earlier 48 = .ok (.iadd, 1) := by decide +kernel
theorem dX8_earlier_49 : decode cX8_earlier 49 = .ok (.istore 4, 2) := by decide +kernel
theorem dX8_earlier_51 : decode cX8_earlier 51 = .ok (.iload_n 3, 1) := by decide +kernel
theorem dX8_earlier_52 : decode cX8_earlier 52 = .ok (.iload 4, 2) := by decide +kernel
theorem dX8_earlier_54 : decode cX8_earlier 54 = .ok (.if_icmp .ge 7, 3) := by decide +kernel
theorem dX8_earlier_57 : decode cX8_earlier 57 = .ok (.iconst 1, 1) := by decide +kernel
theorem dX8_earlier_58 : decode cX8_earlier 58 = .ok (.goto 4, 3) := by decide +kernel
theorem dX8_earlier_61 : decode cX8_earlier 61 = .ok (.iconst 0, 1) := by decide +kernel
theorem dX8_earlier_62 : decode cX8_earlier 62 = .ok (.ireturn, 1) := by decide +kernel
abbrev cX8_findEdges : ByteArray := prog_9_method_21_code
def yX8_findEdges : MethodName := ⟨RX8, "findEdges", "()V"⟩
theorem dX8_findEdges_0 : decode cX8_findEdges 0 = .ok (.aload_n 0, 1) := by decide +kernel
theorem dX8_findEdges_1 : decode cX8_findEdges 1 = .ok (.iconst 0, 1) := by decide +kernel
theorem dX8_findEdges_2 : decode cX8_findEdges 2 = .ok (.putfield 132, 3) := by decide +kernel
theorem dX8_findEdges_5 : decode cX8_findEdges 5 = .ok (.iconst 0, 1) := by decide +kernel
theorem dX8_findEdges_6 : decode cX8_findEdges 6 = .ok (.istore_n 1, 1) := by decide +kernel
theorem dX8_findEdges_7 : decode cX8_findEdges 7 = .ok (.iload_n 1, 1) := by decide +kernel
theorem dX8_findEdges_8 : decode cX8_findEdges 8 = .ok (.aload_n 0, 1) := by decide +kernel
theorem dX8_findEdges_9 : decode cX8_findEdges 9 = .ok (.getfield 98, 3) := by decide +kernel
theorem dX8_findEdges_12 : decode cX8_findEdges 12 = .ok (.if_icmp .ge 88, 3) := by decide +kernel
theorem dX8_findEdges_15 : decode cX8_findEdges 15 = .ok (.iload_n 1, 1) := by decide +kernel
theorem dX8_findEdges_16 : decode cX8_findEdges 16 = .ok (.iconst 1, 1) := by decide +kernel
theorem dX8_findEdges_17 : decode cX8_findEdges 17 = .ok (.iadd, 1) := by decide +kernel
theorem dX8_findEdges_18 : decode cX8_findEdges 18 = .ok (.istore_n 2, 1) := by decide +kernel
theorem dX8_findEdges_19 : decode cX8_findEdges 19 = .ok (.iload_n 2, 1) := by decide +kernel
theorem dX8_findEdges_20 : decode cX8_findEdges 20 = .ok (.aload_n 0, 1) := by decide +kernel
theorem dX8_findEdges_21 : decode cX8_findEdges 21 = .ok (.getfield 98, 3) := by decide +kernel
theorem dX8_findEdges_24 : decode cX8_findEdges 24 = .ok (.if_icmp .ge 70, 3) := by decide +kernel
theorem dX8_findEdges_27 : decode cX8_findEdges 27 = .ok (.aload_n 0, 1) := by decide +kernel
theorem dX8_findEdges_28 : decode cX8_findEdges 28 = .ok (.iload_n 1, 1) := by decide +kernel
theorem dX8_findEdges_29 : decode cX8_findEdges 29 = .ok (.iload_n 2, 1) := by decide +kernel
theorem dX8_findEdges_30 : decode cX8_findEdges 30 = .ok (.invokevirtual 135, 3) := by decide +kernel
theorem dX8_findEdges_33 : decode cX8_findEdges 33 = .ok (.istore_n 3, 1) := by decide +kernel
theorem dX8_findEdges_34 : decode cX8_findEdges 34 = .ok (.iload_n 3, 1) := by decide +kernel
theorem dX8_findEdges_35 : decode cX8_findEdges 35 = .ok (.ifCond .lt 53, 3) := by decide +kernel
theorem dX8_findEdges_38 : decode cX8_findEdges 38 = .ok (.aload_n 0, 1) := by decide +kernel
theorem dX8_findEdges_39 : decode cX8_findEdges 39 = .ok (.getfield 50, 3) := by decide +kernel
theorem dX8_findEdges_42 : decode cX8_findEdges 42 = .ok (.aload_n 0, 1) := by decide +kernel
theorem dX8_findEdges_43 : decode cX8_findEdges 43 = .ok (.getfield 132, 3) := by decide +kernel
theorem dX8_findEdges_46 : decode cX8_findEdges 46 = .ok (.bipush 32, 2) := by decide +kernel
theorem dX8_findEdges_48 : decode cX8_findEdges 48 = .ok (.iload_n 1, 1) := by decide +kernel
theorem dX8_findEdges_49 : decode cX8_findEdges 49 = .ok (.imul, 1) := by decide +kernel
theorem dX8_findEdges_50 : decode cX8_findEdges 50 = .ok (.iload_n 2, 1) := by decide +kernel
theorem dX8_findEdges_51 : decode cX8_findEdges 51 = .ok (.iadd, 1) := by decide +kernel
theorem dX8_findEdges_52 : decode cX8_findEdges 52 = .ok (.iastore, 1) := by decide +kernel
theorem dX8_findEdges_53 : decode cX8_findEdges 53 = .ok (.aload_n 0, 1) := by decide +kernel
theorem dX8_findEdges_54 : decode cX8_findEdges 54 = .ok (.getfield 53, 3) := by decide +kernel
theorem dX8_findEdges_57 : decode cX8_findEdges 57 = .ok (.aload_n 0, 1) := by decide +kernel
theorem dX8_findEdges_58 : decode cX8_findEdges 58 = .ok (.getfield 132, 3) := by decide +kernel
theorem dX8_findEdges_61 : decode cX8_findEdges 61 = .ok (.iload_n 3, 1) := by decide +kernel
theorem dX8_findEdges_62 : decode cX8_findEdges 62 = .ok (.iastore, 1) := by decide +kernel
theorem dX8_findEdges_63 : decode cX8_findEdges 63 = .ok (.aload_n 0, 1) := by decide +kernel
theorem dX8_findEdges_64 : decode cX8_findEdges 64 = .ok (.getfield 56, 3) := by decide +kernel
theorem dX8_findEdges_67 : decode cX8_findEdges 67 = .ok (.aload_n 0, 1) := by decide +kernel
theorem dX8_findEdges_68 : decode cX8_findEdges 68 = .ok (.getfield 132, 3) := by decide +kernel
theorem dX8_findEdges_71 : decode cX8_findEdges 71 = .ok (.aload_n 0, 1) := by decide +kernel
theorem dX8_findEdges_72 : decode cX8_findEdges 72 = .ok (.iload_n 2, 1) := by decide +kernel
theorem dX8_findEdges_73 : decode cX8_findEdges 73 = .ok (.iload_n 1, 1) := by decide +kernel
theorem dX8_findEdges_74 : decode cX8_findEdges 74 = .ok (.invokevirtual 135, 3) := by decide +kernel
theorem dX8_findEdges_77 : decode cX8_findEdges 77 = .ok (.iastore, 1) := by decide +kernel
theorem dX8_findEdges_78 : decode cX8_findEdges 78 = .ok (.aload_n 0, 1) := by decide +kernel
theorem dX8_findEdges_79 : decode cX8_findEdges 79 = .ok (.dup, 1) := by decide +kernel
theorem dX8_findEdges_80 : decode cX8_findEdges 80 = .ok (.getfield 132, 3) := by decide +kernel
theorem dX8_findEdges_83 : decode cX8_findEdges 83 = .ok (.iconst 1, 1) := by decide +kernel
theorem dX8_findEdges_84 : decode cX8_findEdges 84 = .ok (.iadd, 1) := by decide +kernel
theorem dX8_findEdges_85 : decode cX8_findEdges 85 = .ok (.putfield 132, 3) := by decide +kernel
theorem dX8_findEdges_88 : decode cX8_findEdges 88 = .ok (.iinc 2 1, 3) := by decide +kernel
theorem dX8_findEdges_91 : decode cX8_findEdges 91 = .ok (.goto (-72), 3) := by decide +kernel
theorem dX8_findEdges_94 : decode cX8_findEdges 94 = .ok (.iinc 1 1, 3) := by decide +kernel
theorem dX8_findEdges_97 : decode cX8_findEdges 97 = .ok (.goto (-90), 3) := by decide +kernel
theorem dX8_findEdges_100 : decode cX8_findEdges 100 = .ok (.return_, 1) := by decide +kernel
abbrev cX8_faceFrom : ByteArray := prog_9_method_20_code
def yX8_faceFrom : MethodName := ⟨RX8, "faceFrom", "(II)I"⟩
theorem dX8_faceFrom_0 : decode cX8_faceFrom 0 = .ok (.iconst (-1), 1) := by decide +kernel
theorem dX8_faceFrom_1 : decode cX8_faceFrom 1 = .ok (.istore_n 3, 1) := by decide +kernel
theorem dX8_faceFrom_2 : decode cX8_faceFrom 2 = .ok (.iconst 0, 1) := by decide +kernel
theorem dX8_faceFrom_3 : decode cX8_faceFrom 3 = .ok (.istore 4, 2) := by decide +kernel
theorem dX8_faceFrom_5 : decode cX8_faceFrom 5 = .ok (.iload 4, 2) := by decide +kernel
theorem dX8_faceFrom_7 : decode cX8_faceFrom 7 = .ok (.aload_n 0, 1) := by decide +kernel
theorem dX8_faceFrom_8 : decode cX8_faceFrom 8 = .ok (.getfield 91, 3) := by decide +kernel
theorem dX8_faceFrom_11 : decode cX8_faceFrom 11 = .ok (.if_icmp .ge 102, 3) := by decide +kernel
theorem dX8_faceFrom_14 : decode cX8_faceFrom 14 = .ok (.aload_n 0, 1) := by decide +kernel
theorem dX8_faceFrom_15 : decode cX8_faceFrom 15 = .ok (.getfield 47, 3) := by decide +kernel
theorem dX8_faceFrom_18 : decode cX8_faceFrom 18 = .ok (.iload 4, 2) := by decide +kernel
theorem dX8_faceFrom_20 : decode cX8_faceFrom 20 = .ok (.iaload, 1) := by decide +kernel
theorem dX8_faceFrom_21 : decode cX8_faceFrom 21 = .ok (.istore 5, 2) := by decide +kernel
theorem dX8_faceFrom_23 : decode cX8_faceFrom 23 = .ok (.iconst 0, 1) := by decide +kernel
theorem dX8_faceFrom_24 : decode cX8_faceFrom 24 = .ok (.istore 6, 2) := by decide +kernel
theorem dX8_faceFrom_26 : decode cX8_faceFrom 26 = .ok (.iload 6, 2) := by decide +kernel
theorem dX8_faceFrom_28 : decode cX8_faceFrom 28 = .ok (.aload_n 0, 1) := by decide +kernel
theorem dX8_faceFrom_29 : decode cX8_faceFrom 29 = .ok (.getfield 41, 3) := by decide +kernel
theorem dX8_faceFrom_32 : decode cX8_faceFrom 32 = .ok (.iload 5, 2) := by decide +kernel
theorem dX8_faceFrom_34 : decode cX8_faceFrom 34 = .ok (.iaload, 1) := by decide +kernel
theorem dX8_faceFrom_35 : decode cX8_faceFrom 35 = .ok (.if_icmp .ge 72, 3) := by decide +kernel
theorem dX8_faceFrom_38 : decode cX8_faceFrom 38 = .ok (.aload_n 0, 1) := by decide +kernel
theorem dX8_faceFrom_39 : decode cX8_faceFrom 39 = .ok (.getfield 44, 3) := by decide +kernel
theorem dX8_faceFrom_42 : decode cX8_faceFrom 42 = .ok (.bipush 24, 2) := by decide +kernel
theorem dX8_faceFrom_44 : decode cX8_faceFrom 44 = .ok (.iload 5, 2) := by decide +kernel
theorem dX8_faceFrom_46 : decode cX8_faceFrom 46 = .ok (.imul, 1) := by decide +kernel
theorem dX8_faceFrom_47 : decode cX8_faceFrom 47 = .ok (.iload 6, 2) := by decide +kernel
theorem dX8_faceFrom_49 : decode cX8_faceFrom 49 = .ok (.iadd, 1) := by decide +kernel
theorem dX8_faceFrom_50 : decode cX8_faceFrom 50 = .ok (.iaload, 1) := by decide +kernel
theorem dX8_faceFrom_51 : decode cX8_faceFrom 51 = .ok (.iload_n 1, 1) := by decide +kernel
theorem dX8_faceFrom_52 : decode cX8_faceFrom 52 = .ok (.if_icmp .ne 34, 3) := by decide +kernel
theorem dX8_faceFrom_55 : decode cX8_faceFrom 55 = .ok (.aload_n 0, 1) := by decide +kernel
theorem dX8_faceFrom_56 : decode cX8_faceFrom 56 = .ok (.getfield 44, 3) := by decide +kernel
theorem dX8_faceFrom_59 : decode cX8_faceFrom 59 = .ok (.bipush 24, 2) := by decide +kernel
theorem dX8_faceFrom_61 : decode cX8_faceFrom 61 = .ok (.iload 5, 2) := by decide +kernel
theorem dX8_faceFrom_63 : decode cX8_faceFrom 63 = .ok (.imul, 1) := by decide +kernel
theorem dX8_faceFrom_64 : decode cX8_faceFrom 64 = .ok (.iload 6, 2) := by decide +kernel
theorem dX8_faceFrom_66 : decode cX8_faceFrom 66 = .ok (.iconst 1, 1) := by decide +kernel
theorem dX8_faceFrom_67 : decode cX8_faceFrom 67 = .ok (.iadd, 1) := by decide +kernel
theorem dX8_faceFrom_68 : decode cX8_faceFrom 68 = .ok (.aload_n 0, 1) := by decide +kernel
theorem dX8_faceFrom_69 : decode cX8_faceFrom 69 = .ok (.getfield 41, 3) := by decide +kernel
theorem dX8_faceFrom_72 : decode cX8_faceFrom 72 = .ok (.iload 5, 2) := by decide +kernel
theorem dX8_faceFrom_74 : decode cX8_faceFrom 74 = .ok (.iaload, 1) := by decide +kernel
theorem dX8_faceFrom_75 : decode cX8_faceFrom 75 = .ok (.irem, 1) := by decide +kernel
theorem dX8_faceFrom_76 : decode cX8_faceFrom 76 = .ok (.iadd, 1) := by decide +kernel
theorem dX8_faceFrom_77 : decode cX8_faceFrom 77 = .ok (.iaload, 1) := by decide +kernel
theorem dX8_faceFrom_78 : decode cX8_faceFrom 78 = .ok (.iload_n 2, 1) := by decide +kernel
theorem dX8_faceFrom_79 : decode cX8_faceFrom 79 = .ok (.if_icmp .ne 7, 3) := by decide +kernel
theorem dX8_faceFrom_82 : decode cX8_faceFrom 82 = .ok (.iconst 1, 1) := by decide +kernel
theorem dX8_faceFrom_83 : decode cX8_faceFrom 83 = .ok (.goto 4, 3) := by decide +kernel
theorem dX8_faceFrom_86 : decode cX8_faceFrom 86 = .ok (.iconst 0, 1) := by decide +kernel
theorem dX8_faceFrom_87 : decode cX8_faceFrom 87 = .ok (.istore 7, 2) := by decide +kernel
theorem dX8_faceFrom_89 : decode cX8_faceFrom 89 = .ok (.iload 7, 2) := by decide +kernel
theorem dX8_faceFrom_91 : decode cX8_faceFrom 91 = .ok (.ifCond .eq 8, 3) := by decide +kernel
theorem dX8_faceFrom_94 : decode cX8_faceFrom 94 = .ok (.iload 4, 2) := by decide +kernel
theorem dX8_faceFrom_96 : decode cX8_faceFrom 96 = .ok (.goto 4, 3) := by decide +kernel
theorem dX8_faceFrom_99 : decode cX8_faceFrom 99 = .ok (.iload_n 3, 1) := by decide +kernel
theorem dX8_faceFrom_100 : decode cX8_faceFrom 100 = .ok (.istore_n 3, 1) := by decide +kernel
theorem dX8_faceFrom_101 : decode cX8_faceFrom 101 = .ok (.iinc 6 1, 3) := by decide +kernel
theorem dX8_faceFrom_104 : decode cX8_faceFrom 104 = .ok (.goto (-78), 3) := by decide +kernel
theorem dX8_faceFrom_107 : decode cX8_faceFrom 107 = .ok (.iinc 4 1, 3) := by decide +kernel
theorem dX8_faceFrom_110 : decode cX8_faceFrom 110 = .ok (.goto (-105), 3) := by decide +kernel
theorem dX8_faceFrom_113 : decode cX8_faceFrom 113 = .ok (.iload_n 3, 1) := by decide +kernel
theorem dX8_faceFrom_114 : decode cX8_faceFrom 114 = .ok (.ireturn, 1) := by decide +kernel
abbrev cX8_of : ByteArray := prog_9_method_25_code
def yX8_of : MethodName := ⟨RX8, "of", "(II)I"⟩
theorem dX8_of_0 : decode cX8_of 0 = .ok (.aload_n 0, 1) := by decide +kernel
theorem dX8_of_1 : decode cX8_of 1 = .ok (.iload_n 1, 1) := by decide +kernel
theorem dX8_of_2 : decode cX8_of 2 = .ok (.ifCond .lt 24, 3) := by decide +kernel
theorem dX8_of_5 : decode cX8_of 5 = .ok (.iload_n 1, 1) := by decide +kernel
theorem dX8_of_6 : decode cX8_of 6 = .ok (.aload_n 0, 1) := by decide +kernel
theorem dX8_of_7 : decode cX8_of 7 = .ok (.getfield 66, 3) := by decide +kernel
theorem dX8_of_10 : decode cX8_of 10 = .ok (.if_icmp .ge 16, 3) := by decide +kernel
theorem dX8_of_13 : decode cX8_of 13 = .ok (.iload_n 2, 1) := by decide +kernel
theorem dX8_of_14 : decode cX8_of 14 = .ok (.ifCond .lt 12, 3) := by decide +kernel
theorem dX8_of_17 : decode cX8_of 17 = .ok (.iload_n 2, 1) := by decide +kernel
theorem dX8_of_18 : decode cX8_of 18 = .ok (.iconst 2, 1) := by decide +kernel
theorem dX8_of_19 : decode cX8_of 19 = .ok (.if_icmp .gt 7, 3) := by decide +kernel
theorem dX8_of_22 : decode cX8_of 22 = .ok (.iconst 1, 1) := by decide +kernel
theorem dX8_of_23 : decode cX8_of 23 = .ok (.goto 4, 3) := by decide +kernel
theorem dX8_of_26 : decode cX8_of 26 = .ok (.iconst 0, 1) := by decide +kernel
theorem dX8_of_27 : decode cX8_of 27 = .ok (.iconst 1, 1) := by decide +kernel
theorem dX8_of_28 : decode cX8_of 28 = .ok (.invokevirtual 77, 3) := by decide +kernel
theorem dX8_of_31 : decode cX8_of 31 = .ok (.ifCond .ne 5, 3) := by decide +kernel
theorem dX8_of_34 : decode cX8_of 34 = .ok (.iconst 0, 1) := by decide +kernel
theorem dX8_of_35 : decode cX8_of 35 = .ok (.ireturn, 1) := by decide +kernel
theorem dX8_of_36 : decode cX8_of 36 = .ok (.iload_n 2, 1) := by decide +kernel
theorem dX8_of_37 : decode cX8_of 37 = .ok (.ifCond .ne 12, 3) := by decide +kernel
theorem dX8_of_40 : decode cX8_of 40 = .ok (.aload_n 0, 1) := by decide +kernel
theorem dX8_of_41 : decode cX8_of 41 = .ok (.getfield 7, 3) := by decide +kernel
theorem dX8_of_44 : decode cX8_of 44 = .ok (.iload_n 1, 1) := by decide +kernel
theorem dX8_of_45 : decode cX8_of 45 = .ok (.iaload, 1) := by decide +kernel
theorem dX8_of_46 : decode cX8_of 46 = .ok (.goto 23, 3) := by decide +kernel
theorem dX8_of_49 : decode cX8_of 49 = .ok (.iload_n 2, 1) := by decide +kernel
theorem dX8_of_50 : decode cX8_of 50 = .ok (.iconst 1, 1) := by decide +kernel
theorem dX8_of_51 : decode cX8_of 51 = .ok (.if_icmp .ne 12, 3) := by decide +kernel
theorem dX8_of_54 : decode cX8_of 54 = .ok (.aload_n 0, 1) := by decide +kernel
theorem dX8_of_55 : decode cX8_of 55 = .ok (.getfield 13, 3) := by decide +kernel
theorem dX8_of_58 : decode cX8_of 58 = .ok (.iload_n 1, 1) := by decide +kernel
theorem dX8_of_59 : decode cX8_of 59 = .ok (.iaload, 1) := by decide +kernel
theorem dX8_of_60 : decode cX8_of 60 = .ok (.goto 9, 3) := by decide +kernel
theorem dX8_of_63 : decode cX8_of 63 = .ok (.aload_n 0, 1) := by decide +kernel
theorem dX8_of_64 : decode cX8_of 64 = .ok (.getfield 16, 3) := by decide +kernel
theorem dX8_of_67 : decode cX8_of 67 = .ok (.iload_n 1, 1) := by decide +kernel
theorem dX8_of_68 : decode cX8_of 68 = .ok (.iaload, 1) := by decide +kernel
theorem dX8_of_69 : decode cX8_of 69 = .ok (.ireturn, 1) := by decide +kernel
abbrev cX8_face : ByteArray := prog_9_method_27_code
def yX8_face : MethodName := ⟨RX8, "face", "(II)I"⟩
theorem dX8_face_0 : decode cX8_face 0 = .ok (.aload_n 0, 1) := by decide +kernel
theorem dX8_face_1 : decode cX8_face 1 = .ok (.aload_n 0, 1) := by decide +kernel
theorem dX8_face_2 : decode cX8_face 2 = .ok (.getfield 159, 3) := by decide +kernel
theorem dX8_face_5 : decode cX8_face 5 = .ok (.aload_n 0, 1) := by decide +kernel
theorem dX8_face_6 : decode cX8_face 6 = .ok (.iload_n 1, 1) := by decide +kernel
theorem dX8_face_7 : decode cX8_face 7 = .ok (.invokevirtual 166, 3) := by decide +kernel
theorem dX8_face_10 : decode cX8_face 10 = .ok (.ifCond .eq 16, 3) := by decide +kernel
theorem dX8_face_13 : decode cX8_face 13 = .ok (.iload_n 2, 1) := by decide +kernel
theorem dX8_face_14 : decode cX8_face 14 = .ok (.ifCond .lt 12, 3) := by decide +kernel
theorem dX8_face_17 : decode cX8_face 17 = .ok (.iload_n 2, 1) := by decide +kernel
theorem dX8_face_18 : decode cX8_face 18 = .ok (.iconst 3, 1) := by decide +kernel
theorem dX8_face_19 : decode cX8_face 19 = .ok (.if_icmp .gt 7, 3) := by decide +kernel
theorem dX8_face_22 : decode cX8_face 22 = .ok (.iconst 1, 1) := by decide +kernel
theorem dX8_face_23 : decode cX8_face 23 = .ok (.goto 4, 3) := by decide +kernel
theorem dX8_face_26 : decode cX8_face 26 = .ok (.iconst 0, 1) := by decide +kernel
theorem dX8_face_27 : decode cX8_face 27 = .ok (.invokevirtual 77, 3) := by decide +kernel
theorem dX8_face_30 : decode cX8_face 30 = .ok (.ifCond .ne 5, 3) := by decide +kernel
theorem dX8_face_33 : decode cX8_face 33 = .ok (.iconst 0, 1) := by decide +kernel
theorem dX8_face_34 : decode cX8_face 34 = .ok (.ireturn, 1) := by decide +kernel
theorem dX8_face_35 : decode cX8_face 35 = .ok (.aload_n 0, 1) := by decide +kernel
theorem dX8_face_36 : decode cX8_face 36 = .ok (.getfield 47, 3) := by decide +kernel
theorem dX8_face_39 : decode cX8_face 39 = .ok (.iload_n 1, 1) := by decide +kernel
theorem dX8_face_40 : decode cX8_face 40 = .ok (.iaload, 1) := by decide +kernel
theorem dX8_face_41 : decode cX8_face 41 = .ok (.istore_n 3, 1) := by decide +kernel
theorem dX8_face_42 : decode cX8_face 42 = .ok (.iload_n 2, 1) := by decide +kernel
theorem dX8_face_43 : decode cX8_face 43 = .ok (.ifCond .ne 12, 3) := by decide +kernel
theorem dX8_face_46 : decode cX8_face 46 = .ok (.aload_n 0, 1) := by decide +kernel
theorem dX8_face_47 : decode cX8_face 47 = .ok (.getfield 41, 3) := by decide +kernel
theorem dX8_face_50 : decode cX8_face 50 = .ok (.iload_n 3, 1) := by decide +kernel
theorem dX8_face_51 : decode cX8_face 51 = .ok (.iaload, 1) := by decide +kernel
theorem dX8_face_52 : decode cX8_face 52 = .ok (.goto 38, 3) := by decide +kernel
theorem dX8_face_55 : decode cX8_face 55 = .ok (.iload_n 2, 1) := by decide +kernel
theorem dX8_face_56 : decode cX8_face 56 = .ok (.iconst 1, 1) := by decide +kernel
theorem dX8_face_57 : decode cX8_face 57 = .ok (.if_icmp .ne 12, 3) := by decide +kernel
theorem dX8_face_60 : decode cX8_face 60 = .ok (.aload_n 0, 1) := by decide +kernel
theorem dX8_face_61 : decode cX8_face 61 = .ok (.getfield 29, 3) := by decide +kernel
theorem dX8_face_64 : decode cX8_face 64 = .ok (.iload_n 3, 1) := by decide +kernel
theorem dX8_face_65 : decode cX8_face 65 = .ok (.laload, 1) := by decide +kernel
theorem dX8_face_66 : decode cX8_face 66 = .ok (.goto 23, 3) := by decide +kernel
theorem dX8_face_69 : decode cX8_face 69 = .ok (.iload_n 2, 1) := by decide +kernel
theorem dX8_face_70 : decode cX8_face 70 = .ok (.iconst 2, 1) := by decide +kernel
theorem dX8_face_71 : decode cX8_face 71 = .ok (.if_icmp .ne 12, 3) := by decide +kernel
theorem dX8_face_74 : decode cX8_face 74 = .ok (.aload_n 0, 1) := by decide +kernel
theorem dX8_face_75 : decode cX8_face 75 = .ok (.getfield 32, 3) := by decide +kernel
theorem dX8_face_78 : decode cX8_face 78 = .ok (.iload_n 3, 1) := by decide +kernel
theorem dX8_face_79 : decode cX8_face 79 = .ok (.laload, 1) := by decide +kernel
theorem dX8_face_80 : decode cX8_face 80 = .ok (.goto 9, 3) := by decide +kernel
theorem dX8_face_83 : decode cX8_face 83 = .ok (.aload_n 0, 1) := by decide +kernel
theorem dX8_face_84 : decode cX8_face 84 = .ok (.getfield 35, 3) := by decide +kernel
theorem dX8_face_87 : decode cX8_face 87 = .ok (.iload_n 3, 1) := by decide +kernel
theorem dX8_face_88 : decode cX8_face 88 = .ok (.laload, 1) := by decide +kernel
theorem dX8_face_89 : decode cX8_face 89 = .ok (.l2i, 1) := by decide +kernel
theorem dX8_face_90 : decode cX8_face 90 = .ok (.ireturn, 1) := by decide +kernel
end
