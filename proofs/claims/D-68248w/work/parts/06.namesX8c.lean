section
set_option maxRecDepth 100000
abbrev cX8_there : ByteArray := prog_9_method_26_code
def yX8_there : MethodName := ⟨RX8, "there", "(I)Z"⟩
theorem dX8_there_0 : decode cX8_there 0 = .ok (.iload_n 1, 1) := by decide +kernel
theorem dX8_there_1 : decode cX8_there 1 = .ok (.ifCond .lt 15, 3) := by decide +kernel
theorem dX8_there_4 : decode cX8_there 4 = .ok (.iload_n 1, 1) := by decide +kernel
theorem dX8_there_5 : decode cX8_there 5 = .ok (.aload_n 0, 1) := by decide +kernel
theorem dX8_there_6 : decode cX8_there 6 = .ok (.getfield 91, 3) := by decide +kernel
theorem dX8_there_9 : decode cX8_there 9 = .ok (.if_icmp .ge 7, 3) := by decide +kernel
theorem dX8_there_12 : decode cX8_there 12 = .ok (.iconst 1, 1) := by decide +kernel
theorem dX8_there_13 : decode cX8_there 13 = .ok (.goto 4, 3) := by decide +kernel
theorem dX8_there_16 : decode cX8_there 16 = .ok (.iconst 0, 1) := by decide +kernel
theorem dX8_there_17 : decode cX8_there 17 = .ok (.ireturn, 1) := by decide +kernel
abbrev cX8_offset : ByteArray := prog_9_method_28_code
def yX8_offset : MethodName := ⟨RX8, "offset", "(I)J"⟩
theorem dX8_offset_0 : decode cX8_offset 0 = .ok (.aload_n 0, 1) := by decide +kernel
theorem dX8_offset_1 : decode cX8_offset 1 = .ok (.aload_n 0, 1) := by decide +kernel
theorem dX8_offset_2 : decode cX8_offset 2 = .ok (.getfield 159, 3) := by decide +kernel
theorem dX8_offset_5 : decode cX8_offset 5 = .ok (.aload_n 0, 1) := by decide +kernel
theorem dX8_offset_6 : decode cX8_offset 6 = .ok (.iload_n 1, 1) := by decide +kernel
theorem dX8_offset_7 : decode cX8_offset 7 = .ok (.invokevirtual 166, 3) := by decide +kernel
theorem dX8_offset_10 : decode cX8_offset 10 = .ok (.invokevirtual 77, 3) := by decide +kernel
theorem dX8_offset_13 : decode cX8_offset 13 = .ok (.ifCond .eq 17, 3) := by decide +kernel
theorem dX8_offset_16 : decode cX8_offset 16 = .ok (.aload_n 0, 1) := by decide +kernel
theorem dX8_offset_17 : decode cX8_offset 17 = .ok (.getfield 38, 3) := by decide +kernel
theorem dX8_offset_20 : decode cX8_offset 20 = .ok (.aload_n 0, 1) := by decide +kernel
theorem dX8_offset_21 : decode cX8_offset 21 = .ok (.getfield 47, 3) := by decide +kernel
theorem dX8_offset_24 : decode cX8_offset 24 = .ok (.iload_n 1, 1) := by decide +kernel
theorem dX8_offset_25 : decode cX8_offset 25 = .ok (.iaload, 1) := by decide +kernel
theorem dX8_offset_26 : decode cX8_offset 26 = .ok (.laload, 1) := by decide +kernel
theorem dX8_offset_27 : decode cX8_offset 27 = .ok (.goto 4, 3) := by decide +kernel
theorem dX8_offset_30 : decode cX8_offset 30 = .ok (.lconst 0, 1) := by decide +kernel
theorem dX8_offset_31 : decode cX8_offset 31 = .ok (.lreturn, 1) := by decide +kernel
abbrev cX8_corner : ByteArray := prog_9_method_29_code
def yX8_corner : MethodName := ⟨RX8, "corner", "(II)I"⟩
theorem dX8_corner_0 : decode cX8_corner 0 = .ok (.aload_n 0, 1) := by decide +kernel
theorem dX8_corner_1 : decode cX8_corner 1 = .ok (.aload_n 0, 1) := by decide +kernel
theorem dX8_corner_2 : decode cX8_corner 2 = .ok (.getfield 159, 3) := by decide +kernel
theorem dX8_corner_5 : decode cX8_corner 5 = .ok (.aload_n 0, 1) := by decide +kernel
theorem dX8_corner_6 : decode cX8_corner 6 = .ok (.iload_n 1, 1) := by decide +kernel
theorem dX8_corner_7 : decode cX8_corner 7 = .ok (.invokevirtual 166, 3) := by decide +kernel
theorem dX8_corner_10 : decode cX8_corner 10 = .ok (.ifCond .eq 26, 3) := by decide +kernel
theorem dX8_corner_13 : decode cX8_corner 13 = .ok (.iload_n 2, 1) := by decide +kernel
theorem dX8_corner_14 : decode cX8_corner 14 = .ok (.ifCond .lt 22, 3) := by decide +kernel
theorem dX8_corner_17 : decode cX8_corner 17 = .ok (.iload_n 2, 1) := by decide +kernel
theorem dX8_corner_18 : decode cX8_corner 18 = .ok (.aload_n 0, 1) := by decide +kernel
theorem dX8_corner_19 : decode cX8_corner 19 = .ok (.getfield 41, 3) := by decide +kernel
theorem dX8_corner_22 : decode cX8_corner 22 = .ok (.aload_n 0, 1) := by decide +kernel
theorem dX8_corner_23 : decode cX8_corner 23 = .ok (.getfield 47, 3) := by decide +kernel
theorem dX8_corner_26 : decode cX8_corner 26 = .ok (.iload_n 1, 1) := by decide +kernel
theorem dX8_corner_27 : decode cX8_corner 27 = .ok (.iaload, 1) := by decide +kernel
theorem dX8_corner_28 : decode cX8_corner 28 = .ok (.iaload, 1) := by decide +kernel
theorem dX8_corner_29 : decode cX8_corner 29 = .ok (.if_icmp .ge 7, 3) := by decide +kernel
theorem dX8_corner_32 : decode cX8_corner 32 = .ok (.iconst 1, 1) := by decide +kernel
theorem dX8_corner_33 : decode cX8_corner 33 = .ok (.goto 4, 3) := by decide +kernel
theorem dX8_corner_36 : decode cX8_corner 36 = .ok (.iconst 0, 1) := by decide +kernel
theorem dX8_corner_37 : decode cX8_corner 37 = .ok (.invokevirtual 77, 3) := by decide +kernel
theorem dX8_corner_40 : decode cX8_corner 40 = .ok (.ifCond .ne 5, 3) := by decide +kernel
theorem dX8_corner_43 : decode cX8_corner 43 = .ok (.iconst 0, 1) := by decide +kernel
theorem dX8_corner_44 : decode cX8_corner 44 = .ok (.ireturn, 1) := by decide +kernel
theorem dX8_corner_45 : decode cX8_corner 45 = .ok (.aload_n 0, 1) := by decide +kernel
theorem dX8_corner_46 : decode cX8_corner 46 = .ok (.getfield 44, 3) := by decide +kernel
theorem dX8_corner_49 : decode cX8_corner 49 = .ok (.bipush 24, 2) := by decide +kernel
theorem dX8_corner_51 : decode cX8_corner 51 = .ok (.aload_n 0, 1) := by decide +kernel
theorem dX8_corner_52 : decode cX8_corner 52 = .ok (.getfield 47, 3) := by decide +kernel
theorem dX8_corner_55 : decode cX8_corner 55 = .ok (.iload_n 1, 1) := by decide +kernel
theorem dX8_corner_56 : decode cX8_corner 56 = .ok (.iaload, 1) := by decide +kernel
theorem dX8_corner_57 : decode cX8_corner 57 = .ok (.imul, 1) := by decide +kernel
theorem dX8_corner_58 : decode cX8_corner 58 = .ok (.iload_n 2, 1) := by decide +kernel
theorem dX8_corner_59 : decode cX8_corner 59 = .ok (.iadd, 1) := by decide +kernel
theorem dX8_corner_60 : decode cX8_corner 60 = .ok (.iaload, 1) := by decide +kernel
theorem dX8_corner_61 : decode cX8_corner 61 = .ok (.ireturn, 1) := by decide +kernel
abbrev cX8_edge : ByteArray := prog_9_method_30_code
def yX8_edge : MethodName := ⟨RX8, "edge", "(II)I"⟩
theorem dX8_edge_0 : decode cX8_edge 0 = .ok (.aload_n 0, 1) := by decide +kernel
theorem dX8_edge_1 : decode cX8_edge 1 = .ok (.aload_n 0, 1) := by decide +kernel
theorem dX8_edge_2 : decode cX8_edge 2 = .ok (.getfield 159, 3) := by decide +kernel
theorem dX8_edge_5 : decode cX8_edge 5 = .ok (.iload_n 1, 1) := by decide +kernel
theorem dX8_edge_6 : decode cX8_edge 6 = .ok (.ifCond .lt 24, 3) := by decide +kernel
theorem dX8_edge_9 : decode cX8_edge 9 = .ok (.iload_n 1, 1) := by decide +kernel
theorem dX8_edge_10 : decode cX8_edge 10 = .ok (.aload_n 0, 1) := by decide +kernel
theorem dX8_edge_11 : decode cX8_edge 11 = .ok (.getfield 132, 3) := by decide +kernel
theorem dX8_edge_14 : decode cX8_edge 14 = .ok (.if_icmp .ge 16, 3) := by decide +kernel
theorem dX8_edge_17 : decode cX8_edge 17 = .ok (.iload_n 2, 1) := by decide +kernel
theorem dX8_edge_18 : decode cX8_edge 18 = .ok (.ifCond .lt 12, 3) := by decide +kernel
theorem dX8_edge_21 : decode cX8_edge 21 = .ok (.iload_n 2, 1) := by decide +kernel
theorem dX8_edge_22 : decode cX8_edge 22 = .ok (.iconst 3, 1) := by decide +kernel
theorem dX8_edge_23 : decode cX8_edge 23 = .ok (.if_icmp .gt 7, 3) := by decide +kernel
theorem dX8_edge_26 : decode cX8_edge 26 = .ok (.iconst 1, 1) := by decide +kernel
theorem dX8_edge_27 : decode cX8_edge 27 = .ok (.goto 4, 3) := by decide +kernel
theorem dX8_edge_30 : decode cX8_edge 30 = .ok (.iconst 0, 1) := by decide +kernel
theorem dX8_edge_31 : decode cX8_edge 31 = .ok (.invokevirtual 77, 3) := by decide +kernel
theorem dX8_edge_34 : decode cX8_edge 34 = .ok (.ifCond .ne 5, 3) := by decide +kernel
theorem dX8_edge_37 : decode cX8_edge 37 = .ok (.iconst 0, 1) := by decide +kernel
theorem dX8_edge_38 : decode cX8_edge 38 = .ok (.ireturn, 1) := by decide +kernel
theorem dX8_edge_39 : decode cX8_edge 39 = .ok (.iload_n 2, 1) := by decide +kernel
theorem dX8_edge_40 : decode cX8_edge 40 = .ok (.ifCond .ne 15, 3) := by decide +kernel
theorem dX8_edge_43 : decode cX8_edge 43 = .ok (.aload_n 0, 1) := by decide +kernel
theorem dX8_edge_44 : decode cX8_edge 44 = .ok (.getfield 50, 3) := by decide +kernel
theorem dX8_edge_47 : decode cX8_edge 47 = .ok (.iload_n 1, 1) := by decide +kernel
theorem dX8_edge_48 : decode cX8_edge 48 = .ok (.iaload, 1) := by decide +kernel
theorem dX8_edge_49 : decode cX8_edge 49 = .ok (.bipush 32, 2) := by decide +kernel
theorem dX8_edge_51 : decode cX8_edge 51 = .ok (.idiv, 1) := by decide +kernel
theorem dX8_edge_52 : decode cX8_edge 52 = .ok (.goto 40, 3) := by decide +kernel
theorem dX8_edge_55 : decode cX8_edge 55 = .ok (.iload_n 2, 1) := by decide +kernel
theorem dX8_edge_56 : decode cX8_edge 56 = .ok (.iconst 1, 1) := by decide +kernel
theorem dX8_edge_57 : decode cX8_edge 57 = .ok (.if_icmp .ne 15, 3) := by decide +kernel
theorem dX8_edge_60 : decode cX8_edge 60 = .ok (.aload_n 0, 1) := by decide +kernel
theorem dX8_edge_61 : decode cX8_edge 61 = .ok (.getfield 50, 3) := by decide +kernel
theorem dX8_edge_64 : decode cX8_edge 64 = .ok (.iload_n 1, 1) := by decide +kernel
theorem dX8_edge_65 : decode cX8_edge 65 = .ok (.iaload, 1) := by decide +kernel
theorem dX8_edge_66 : decode cX8_edge 66 = .ok (.bipush 32, 2) := by decide +kernel
theorem dX8_edge_68 : decode cX8_edge 68 = .ok (.irem, 1) := by decide +kernel
theorem dX8_edge_69 : decode cX8_edge 69 = .ok (.goto 23, 3) := by decide +kernel
theorem dX8_edge_72 : decode cX8_edge 72 = .ok (.iload_n 2, 1) := by decide +kernel
theorem dX8_edge_73 : decode cX8_edge 73 = .ok (.iconst 2, 1) := by decide +kernel
theorem dX8_edge_74 : decode cX8_edge 74 = .ok (.if_icmp .ne 12, 3) := by decide +kernel
theorem dX8_edge_77 : decode cX8_edge 77 = .ok (.aload_n 0, 1) := by decide +kernel
theorem dX8_edge_78 : decode cX8_edge 78 = .ok (.getfield 53, 3) := by decide +kernel
theorem dX8_edge_81 : decode cX8_edge 81 = .ok (.iload_n 1, 1) := by decide +kernel
theorem dX8_edge_82 : decode cX8_edge 82 = .ok (.iaload, 1) := by decide +kernel
theorem dX8_edge_83 : decode cX8_edge 83 = .ok (.goto 9, 3) := by decide +kernel
theorem dX8_edge_86 : decode cX8_edge 86 = .ok (.aload_n 0, 1) := by decide +kernel
theorem dX8_edge_87 : decode cX8_edge 87 = .ok (.getfield 56, 3) := by decide +kernel
theorem dX8_edge_90 : decode cX8_edge 90 = .ok (.iload_n 1, 1) := by decide +kernel
theorem dX8_edge_91 : decode cX8_edge 91 = .ok (.iaload, 1) := by decide +kernel
theorem dX8_edge_92 : decode cX8_edge 92 = .ok (.ireturn, 1) := by decide +kernel
abbrev cX8_support : ByteArray := prog_9_method_32_code
def yX8_support : MethodName := ⟨RX8, "support", "(III)I"⟩
theorem dX8_support_0 : decode cX8_support 0 = .ok (.aload_n 0, 1) := by decide +kernel
theorem dX8_support_1 : decode cX8_support 1 = .ok (.aload_n 0, 1) := by decide +kernel
theorem dX8_support_2 : decode cX8_support 2 = .ok (.getfield 159, 3) := by decide +kernel
theorem dX8_support_5 : decode cX8_support 5 = .ok (.iload_n 1, 1) := by decide +kernel
theorem dX8_support_6 : decode cX8_support 6 = .ok (.ldc 170, 2) := by decide +kernel
theorem dX8_support_8 : decode cX8_support 8 = .ok (.invokestatic 69, 3) := by decide +kernel
theorem dX8_support_11 : decode cX8_support 11 = .ok (.ifCond .eq 25, 3) := by decide +kernel
theorem dX8_support_14 : decode cX8_support 14 = .ok (.iload_n 2, 1) := by decide +kernel
theorem dX8_support_15 : decode cX8_support 15 = .ok (.ldc 170, 2) := by decide +kernel
theorem dX8_support_17 : decode cX8_support 17 = .ok (.invokestatic 69, 3) := by decide +kernel
theorem dX8_support_20 : decode cX8_support 20 = .ok (.ifCond .eq 16, 3) := by decide +kernel
theorem dX8_support_23 : decode cX8_support 23 = .ok (.iload_n 3, 1) := by decide +kernel
theorem dX8_support_24 : decode cX8_support 24 = .ok (.ldc 170, 2) := by decide +kernel
theorem dX8_support_26 : decode cX8_support 26 = .ok (.invokestatic 69, 3) := by decide +kernel
theorem dX8_support_29 : decode cX8_support 29 = .ok (.ifCond .eq 7, 3) := by decide +kernel
theorem dX8_support_32 : decode cX8_support 32 = .ok (.iconst 1, 1) := by decide +kernel
theorem dX8_support_33 : decode cX8_support 33 = .ok (.goto 4, 3) := by decide +kernel
theorem dX8_support_36 : decode cX8_support 36 = .ok (.iconst 0, 1) := by decide +kernel
theorem dX8_support_37 : decode cX8_support 37 = .ok (.invokevirtual 77, 3) := by decide +kernel
theorem dX8_support_40 : decode cX8_support 40 = .ok (.ifCond .ne 5, 3) := by decide +kernel
theorem dX8_support_43 : decode cX8_support 43 = .ok (.iconst 0, 1) := by decide +kernel
theorem dX8_support_44 : decode cX8_support 44 = .ok (.ireturn, 1) := by decide +kernel
theorem dX8_support_45 : decode cX8_support 45 = .ok (.iconst (-1), 1) := by decide +kernel
theorem dX8_support_46 : decode cX8_support 46 = .ok (.istore 4, 2) := by decide +kernel
theorem dX8_support_48 : decode cX8_support 48 = .ok (.lconst 0, 1) := by decide +kernel
theorem dX8_support_49 : decode cX8_support 49 = .ok (.lstore 5, 2) := by decide +kernel
theorem dX8_support_51 : decode cX8_support 51 = .ok (.iconst 0, 1) := by decide +kernel
theorem dX8_support_52 : decode cX8_support 52 = .ok (.istore 7, 2) := by decide +kernel
theorem dX8_support_54 : decode cX8_support 54 = .ok (.iload 7, 2) := by decide +kernel
theorem dX8_support_56 : decode cX8_support 56 = .ok (.aload_n 0, 1) := by decide +kernel
theorem dX8_support_57 : decode cX8_support 57 = .ok (.getfield 98, 3) := by decide +kernel
theorem dX8_support_60 : decode cX8_support 60 = .ok (.if_icmp .ge 73, 3) := by decide +kernel
theorem dX8_support_63 : decode cX8_support 63 = .ok (.iload_n 1, 1) := by decide +kernel
theorem dX8_support_64 : decode cX8_support 64 = .ok (.i2l, 1) := by decide +kernel
theorem dX8_support_65 : decode cX8_support 65 = .ok (.aload_n 0, 1) := by decide +kernel
theorem dX8_support_66 : decode cX8_support 66 = .ok (.getfield 19, 3) := by decide +kernel
theorem dX8_support_69 : decode cX8_support 69 = .ok (.iload 7, 2) := by decide +kernel
theorem dX8_support_71 : decode cX8_support 71 = .ok (.laload, 1) := by decide +kernel
theorem dX8_support_72 : decode cX8_support 72 = .ok (.lmul, 1) := by decide +kernel
theorem dX8_support_73 : decode cX8_support 73 = .ok (.iload_n 2, 1) := by decide +kernel
theorem dX8_support_74 : decode cX8_support 74 = .ok (.i2l, 1) := by decide +kernel
theorem dX8_support_75 : decode cX8_support 75 = .ok (.aload_n 0, 1) := by decide +kernel
theorem dX8_support_76 : decode cX8_support 76 = .ok (.getfield 23, 3) := by decide +kernel
theorem dX8_support_79 : decode cX8_support 79 = .ok (.iload 7, 2) := by decide +kernel
theorem dX8_support_81 : decode cX8_support 81 = .ok (.laload, 1) := by decide +kernel
theorem dX8_support_82 : decode cX8_support 82 = .ok (.lmul, 1) := by decide +kernel
theorem dX8_support_83 : decode cX8_support 83 = .ok (.ladd, 1) := by decide +kernel
theorem dX8_support_84 : decode cX8_support 84 = .ok (.iload_n 3, 1) := by decide +kernel
theorem dX8_support_85 : decode cX8_support 85 = .ok (.i2l, 1) := by decide +kernel
theorem dX8_support_86 : decode cX8_support 86 = .ok (.aload_n 0, 1) := by decide +kernel
theorem dX8_support_87 : decode cX8_support 87 = .ok (.getfield 26, 3) := by decide +kernel
theorem dX8_support_90 : decode cX8_support 90 = .ok (.iload 7, 2) := by decide +kernel
theorem dX8_support_92 : decode cX8_support 92 = .ok (.laload, 1) := by decide +kernel
theorem dX8_support_93 : decode cX8_support 93 = .ok (.lmul, 1) := by decide +kernel
theorem dX8_support_94 : decode cX8_support 94 = .ok (.ladd, 1) := by decide +kernel
theorem dX8_support_95 : decode cX8_support 95 = .ok (.lstore 8, 2) := by decide +kernel
theorem dX8_support_97 : decode cX8_support 97 = .ok (.aload_n 0, 1) := by decide +kernel
theorem dX8_support_98 : decode cX8_support 98 = .ok (.iload 7, 2) := by decide +kernel
theorem dX8_support_100 : decode cX8_support 100 = .ok (.invokevirtual 171, 3) := by decide +kernel
theorem dX8_support_103 : decode cX8_support 103 = .ok (.ifCond .eq 24, 3) := by decide +kernel
theorem dX8_support_106 : decode cX8_support 106 = .ok (.iload 4, 2) := by decide +kernel
theorem dX8_support_108 : decode cX8_support 108 = .ok (.ifCond .lt 11, 3) := by decide +kernel
theorem dX8_support_111 : decode cX8_support 111 = .ok (.lload 8, 2) := by decide +kernel
theorem dX8_support_113 : decode cX8_support 113 = .ok (.lload 5, 2) := by decide +kernel
theorem dX8_support_115 : decode cX8_support 115 = .ok (.lcmp, 1) := by decide +kernel
theorem dX8_support_116 : decode cX8_support 116 = .ok (.ifCond .le 11, 3) := by decide +kernel
theorem dX8_support_119 : decode cX8_support 119 = .ok (.iload 7, 2) := by decide +kernel
theorem dX8_support_121 : decode cX8_support 121 = .ok (.istore 4, 2) := by decide +kernel
theorem dX8_support_123 : decode cX8_support 123 = .ok (.lload 8, 2) := by decide +kernel
theorem dX8_support_125 : decode cX8_support 125 = .ok (.lstore 5, 2) := by decide +kernel
theorem dX8_support_127 : decode cX8_support 127 = .ok (.iinc 7 1, 3) := by decide +kernel
theorem dX8_support_130 : decode cX8_support 130 = .ok (.goto (-76), 3) := by decide +kernel
theorem dX8_support_133 : decode cX8_support 133 = .ok (.iload 4, 2) := by decide +kernel
theorem dX8_support_135 : decode cX8_support 135 = .ok (.ireturn, 1) := by decide +kernel
abbrev cX8_isCorner : ByteArray := prog_9_method_31_code
def yX8_isCorner : MethodName := ⟨RX8, "isCorner", "(I)Z"⟩
theorem dX8_isCorner_0 : decode cX8_isCorner 0 = .ok (.iconst 0, 1) := by decide +kernel
theorem dX8_isCorner_1 : decode cX8_isCorner 1 = .ok (.istore_n 2, 1) := by decide +kernel
theorem dX8_isCorner_2 : decode cX8_isCorner 2 = .ok (.iconst 0, 1) := by decide +kernel
theorem dX8_isCorner_3 : decode cX8_isCorner 3 = .ok (.istore_n 3, 1) := by decide +kernel
theorem dX8_isCorner_4 : decode cX8_isCorner 4 = .ok (.iload_n 3, 1) := by decide +kernel
theorem dX8_isCorner_5 : decode cX8_isCorner 5 = .ok (.aload_n 0, 1) := by decide +kernel
theorem dX8_isCorner_6 : decode cX8_isCorner 6 = .ok (.getfield 132, 3) := by decide +kernel
theorem dX8_isCorner_9 : decode cX8_isCorner 9 = .ok (.if_icmp .ge 45, 3) := by decide +kernel
theorem dX8_isCorner_12 : decode cX8_isCorner 12 = .ok (.iload_n 2, 1) := by decide +kernel
theorem dX8_isCorner_13 : decode cX8_isCorner 13 = .ok (.ifCond .ne 29, 3) := by decide +kernel
theorem dX8_isCorner_16 : decode cX8_isCorner 16 = .ok (.aload_n 0, 1) := by decide +kernel
theorem dX8_isCorner_17 : decode cX8_isCorner 17 = .ok (.getfield 50, 3) := by decide +kernel
theorem dX8_isCorner_20 : decode cX8_isCorner 20 = .ok (.iload_n 3, 1) := by decide +kernel
theorem dX8_isCorner_21 : decode cX8_isCorner 21 = .ok (.iaload, 1) := by decide +kernel
theorem dX8_isCorner_22 : decode cX8_isCorner 22 = .ok (.bipush 32, 2) := by decide +kernel
theorem dX8_isCorner_24 : decode cX8_isCorner 24 = .ok (.idiv, 1) := by decide +kernel
theorem dX8_isCorner_25 : decode cX8_isCorner 25 = .ok (.iload_n 1, 1) := by decide +kernel
theorem dX8_isCorner_26 : decode cX8_isCorner 26 = .ok (.if_icmp .eq 16, 3) := by decide +kernel
theorem dX8_isCorner_29 : decode cX8_isCorner 29 = .ok (.aload_n 0, 1) := by decide +kernel
theorem dX8_isCorner_30 : decode cX8_isCorner 30 = .ok (.getfield 50, 3) := by decide +kernel
theorem dX8_isCorner_33 : decode cX8_isCorner 33 = .ok (.iload_n 3, 1) := by decide +kernel
theorem dX8_isCorner_34 : decode cX8_isCorner 34 = .ok (.iaload, 1) := by decide +kernel
theorem dX8_isCorner_35 : decode cX8_isCorner 35 = .ok (.bipush 32, 2) := by decide +kernel
theorem dX8_isCorner_37 : decode cX8_isCorner 37 = .ok (.irem, 1) := by decide +kernel
theorem dX8_isCorner_38 : decode cX8_isCorner 38 = .ok (.iload_n 1, 1) := by decide +kernel
theorem dX8_isCorner_39 : decode cX8_isCorner 39 = .ok (.if_icmp .ne 7, 3) := by decide +kernel
theorem dX8_isCorner_42 : decode cX8_isCorner 42 = .ok (.iconst 1, 1) := by decide +kernel
theorem dX8_isCorner_43 : decode cX8_isCorner 43 = .ok (.goto 4, 3) := by decide +kernel
theorem dX8_isCorner_46 : decode cX8_isCorner 46 = .ok (.iconst 0, 1) := by decide +kernel
theorem dX8_isCorner_47 : decode cX8_isCorner 47 = .ok (.istore_n 2, 1) := by decide +kernel
theorem dX8_isCorner_48 : decode cX8_isCorner 48 = .ok (.iinc 3 1, 3) := by decide +kernel
theorem dX8_isCorner_51 : decode cX8_isCorner 51 = .ok (.goto (-47), 3) := by decide +kernel
theorem dX8_isCorner_54 : decode cX8_isCorner 54 = .ok (.iload_n 2, 1) := by decide +kernel
theorem dX8_isCorner_55 : decode cX8_isCorner 55 = .ok (.ireturn, 1) := by decide +kernel
abbrev cX8_steps : ByteArray := prog_9_method_33_code
def yX8_steps : MethodName := ⟨RX8, "steps", "(II)I"⟩
theorem dX8_steps_0 : decode cX8_steps 0 = .ok (.aload_n 0, 1) := by decide +kernel
theorem dX8_steps_1 : decode cX8_steps 1 = .ok (.getfield 159, 3) := by decide +kernel
theorem dX8_steps_4 : decode cX8_steps 4 = .ok (.ifCond .eq 47, 3) := by decide +kernel
theorem dX8_steps_7 : decode cX8_steps 7 = .ok (.iload_n 1, 1) := by decide +kernel
theorem dX8_steps_8 : decode cX8_steps 8 = .ok (.ifCond .lt 43, 3) := by decide +kernel
theorem dX8_steps_11 : decode cX8_steps 11 = .ok (.iload_n 1, 1) := by decide +kernel
theorem dX8_steps_12 : decode cX8_steps 12 = .ok (.aload_n 0, 1) := by decide +kernel
theorem dX8_steps_13 : decode cX8_steps 13 = .ok (.getfield 98, 3) := by decide +kernel
theorem dX8_steps_16 : decode cX8_steps 16 = .ok (.if_icmp .ge 35, 3) := by decide +kernel
theorem dX8_steps_19 : decode cX8_steps 19 = .ok (.iload_n 2, 1) := by decide +kernel
theorem dX8_steps_20 : decode cX8_steps 20 = .ok (.ifCond .lt 31, 3) := by decide +kernel
theorem dX8_steps_23 : decode cX8_steps 23 = .ok (.iload_n 2, 1) := by decide +kernel
theorem dX8_steps_24 : decode cX8_steps 24 = .ok (.aload_n 0, 1) := by decide +kernel
theorem dX8_steps_25 : decode cX8_steps 25 = .ok (.getfield 98, 3) := by decide +kernel
theorem dX8_steps_28 : decode cX8_steps 28 = .ok (.if_icmp .ge 23, 3) := by decide +kernel
theorem dX8_steps_31 : decode cX8_steps 31 = .ok (.aload_n 0, 1) := by decide +kernel
theorem dX8_steps_32 : decode cX8_steps 32 = .ok (.iload_n 1, 1) := by decide +kernel
theorem dX8_steps_33 : decode cX8_steps 33 = .ok (.invokevirtual 171, 3) := by decide +kernel
theorem dX8_steps_36 : decode cX8_steps 36 = .ok (.ifCond .eq 15, 3) := by decide +kernel
theorem dX8_steps_39 : decode cX8_steps 39 = .ok (.aload_n 0, 1) := by decide +kernel
theorem dX8_steps_40 : decode cX8_steps 40 = .ok (.iload_n 2, 1) := by decide +kernel
theorem dX8_steps_41 : decode cX8_steps 41 = .ok (.invokevirtual 171, 3) := by decide +kernel
theorem dX8_steps_44 : decode cX8_steps 44 = .ok (.ifCond .eq 7, 3) := by decide +kernel
theorem dX8_steps_47 : decode cX8_steps 47 = .ok (.iconst 1, 1) := by decide +kernel
theorem dX8_steps_48 : decode cX8_steps 48 = .ok (.goto 4, 3) := by decide +kernel
theorem dX8_steps_51 : decode cX8_steps 51 = .ok (.iconst 0, 1) := by decide +kernel
theorem dX8_steps_52 : decode cX8_steps 52 = .ok (.istore_n 3, 1) := by decide +kernel
theorem dX8_steps_53 : decode cX8_steps 53 = .ok (.aload_n 0, 1) := by decide +kernel
theorem dX8_steps_54 : decode cX8_steps 54 = .ok (.aload_n 0, 1) := by decide +kernel
theorem dX8_steps_55 : decode cX8_steps 55 = .ok (.getfield 159, 3) := by decide +kernel
theorem dX8_steps_58 : decode cX8_steps 58 = .ok (.iload_n 3, 1) := by decide +kernel
theorem dX8_steps_59 : decode cX8_steps 59 = .ok (.invokevirtual 77, 3) := by decide +kernel
theorem dX8_steps_62 : decode cX8_steps 62 = .ok (.ifCond .ne 5, 3) := by decide +kernel
theorem dX8_steps_65 : decode cX8_steps 65 = .ok (.iconst 0, 1) := by decide +kernel
theorem dX8_steps_66 : decode cX8_steps 66 = .ok (.ireturn, 1) := by decide +kernel
theorem dX8_steps_67 : decode cX8_steps 67 = .ok (.iconst 0, 1) := by decide +kernel
theorem dX8_steps_68 : decode cX8_steps 68 = .ok (.istore 4, 2) := by decide +kernel
theorem dX8_steps_70 : decode cX8_steps 70 = .ok (.iload 4, 2) := by decide +kernel
theorem dX8_steps_72 : decode cX8_steps 72 = .ok (.aload_n 0, 1) := by decide +kernel
theorem dX8_steps_73 : decode cX8_steps 73 = .ok (.getfield 98, 3) := by decide +kernel
theorem dX8_steps_76 : decode cX8_steps 76 = .ok (.if_icmp .ge 28, 3) := by decide +kernel
theorem dX8_steps_79 : decode cX8_steps 79 = .ok (.aload_n 0, 1) := by decide +kernel
theorem dX8_steps_80 : decode cX8_steps 80 = .ok (.getfield 59, 3) := by decide +kernel
theorem dX8_steps_83 : decode cX8_steps 83 = .ok (.iload 4, 2) := by decide +kernel
theorem dX8_steps_85 : decode cX8_steps 85 = .ok (.iload 4, 2) := by decide +kernel
theorem dX8_steps_87 : decode cX8_steps 87 = .ok (.iload_n 1, 1) := by decide +kernel
theorem dX8_steps_88 : decode cX8_steps 88 = .ok (.if_icmp .ne 7, 3) := by decide +kernel
theorem dX8_steps_91 : decode cX8_steps 91 = .ok (.iconst 0, 1) := by decide +kernel
theorem dX8_steps_92 : decode cX8_steps 92 = .ok (.goto 5, 3) := by decide +kernel
theorem dX8_steps_95 : decode cX8_steps 95 = .ok (.bipush 99, 2) := by decide +kernel
theorem dX8_steps_97 : decode cX8_steps 97 = .ok (.iastore, 1) := by decide +kernel
theorem dX8_steps_98 : decode cX8_steps 98 = .ok (.iinc 4 1, 3) := by decide +kernel
theorem dX8_steps_101 : decode cX8_steps 101 = .ok (.goto (-31), 3) := by decide +kernel
theorem dX8_steps_104 : decode cX8_steps 104 = .ok (.iconst 0, 1) := by decide +kernel
theorem dX8_steps_105 : decode cX8_steps 105 = .ok (.istore 4, 2) := by decide +kernel
theorem dX8_steps_107 : decode cX8_steps 107 = .ok (.iload 4, 2) := by decide +kernel
theorem dX8_steps_109 : decode cX8_steps 109 = .ok (.aload_n 0, 1) := by decide +kernel
theorem dX8_steps_110 : decode cX8_steps 110 = .ok (.getfield 98, 3) := by decide +kernel
theorem dX8_steps_113 : decode cX8_steps 113 = .ok (.if_icmp .ge 141, 3) := by decide +kernel
theorem dX8_steps_116 : decode cX8_steps 116 = .ok (.iconst 0, 1) := by decide +kernel
theorem dX8_steps_117 : decode cX8_steps 117 = .ok (.istore 5, 2) := by decide +kernel
theorem dX8_steps_119 : decode cX8_steps 119 = .ok (.iload 5, 2) := by decide +kernel
theorem dX8_steps_121 : decode cX8_steps 121 = .ok (.aload_n 0, 1) := by decide +kernel
theorem dX8_steps_122 : decode cX8_steps 122 = .ok (.getfield 132, 3) := by decide +kernel
theorem dX8_steps_125 : decode cX8_steps 125 = .ok (.if_icmp .ge 123, 3) := by decide +kernel
theorem dX8_steps_128 : decode cX8_steps 128 = .ok (.aload_n 0, 1) := by decide +kernel
theorem dX8_steps_129 : decode cX8_steps 129 = .ok (.getfield 50, 3) := by decide +kernel
theorem dX8_steps_132 : decode cX8_steps 132 = .ok (.iload 5, 2) := by decide +kernel
theorem dX8_steps_134 : decode cX8_steps 134 = .ok (.iaload, 1) := by decide +kernel
theorem dX8_steps_135 : decode cX8_steps 135 = .ok (.bipush 32, 2) := by decide +kernel
theorem dX8_steps_137 : decode cX8_steps 137 = .ok (.idiv, 1) := by decide +kernel
theorem dX8_steps_138 : decode cX8_steps 138 = .ok (.istore 6, 2) := by decide +kernel
theorem dX8_steps_140 : decode cX8_steps 140 = .ok (.aload_n 0, 1) := by decide +kernel
theorem dX8_steps_141 : decode cX8_steps 141 = .ok (.getfield 50, 3) := by decide +kernel
theorem dX8_steps_144 : decode cX8_steps 144 = .ok (.iload 5, 2) := by decide +kernel
theorem dX8_steps_146 : decode cX8_steps 146 = .ok (.iaload, 1) := by decide +kernel
theorem dX8_steps_147 : decode cX8_steps 147 = .ok (.bipush 32, 2) := by decide +kernel
theorem dX8_steps_149 : decode cX8_steps 149 = .ok (.irem, 1) := by decide +kernel
theorem dX8_steps_150 : decode cX8_steps 150 = .ok (.istore 7, 2) := by decide +kernel
theorem dX8_steps_152 : decode cX8_steps 152 = .ok (.aload_n 0, 1) := by decide +kernel
theorem dX8_steps_153 : decode cX8_steps 153 = .ok (.getfield 59, 3) := by decide +kernel
theorem dX8_steps_156 : decode cX8_steps 156 = .ok (.iload 6, 2) := by decide +kernel
theorem dX8_steps_158 : decode cX8_steps 158 = .ok (.aload_n 0, 1) := by decide +kernel
theorem dX8_steps_159 : decode cX8_steps 159 = .ok (.getfield 59, 3) := by decide +kernel
theorem dX8_steps_162 : decode cX8_steps 162 = .ok (.iload 7, 2) := by decide +kernel
theorem dX8_steps_164 : decode cX8_steps 164 = .ok (.iaload, 1) := by decide +kernel
theorem dX8_steps_165 : decode cX8_steps 165 = .ok (.iconst 1, 1) := by decide +kernel
theorem dX8_steps_166 : decode cX8_steps 166 = .ok (.iadd, 1) := by decide +kernel
theorem dX8_steps_167 : decode cX8_steps 167 = .ok (.aload_n 0, 1) := by decide +kernel
theorem dX8_steps_168 : decode cX8_steps 168 = .ok (.getfield 59, 3) := by decide +kernel
theorem dX8_steps_171 : decode cX8_steps 171 = .ok (.iload 6, 2) := by decide +kernel
theorem dX8_steps_173 : decode cX8_steps 173 = .ok (.iaload, 1) := by decide +kernel
theorem dX8_steps_174 : decode cX8_steps 174 = .ok (.if_icmp .ge 15, 3) := by decide +kernel
theorem dX8_steps_177 : decode cX8_steps 177 = .ok (.aload_n 0, 1) := by decide +kernel
theorem dX8_steps_178 : decode cX8_steps 178 = .ok (.getfield 59, 3) := by decide +kernel
theorem dX8_steps_181 : decode cX8_steps 181 = .ok (.iload 7, 2) := by decide +kernel
theorem dX8_steps_183 : decode cX8_steps 183 = .ok (.iaload, 1) := by decide +kernel
theorem dX8_steps_184 : decode cX8_steps 184 = .ok (.iconst 1, 1) := by decide +kernel
theorem dX8_steps_185 : decode cX8_steps 185 = .ok (.iadd, 1) := by decide +kernel
theorem dX8_steps_186 : decode cX8_steps 186 = .ok (.goto 10, 3) := by decide +kernel
theorem dX8_steps_189 : decode cX8_steps 189 = .ok (.aload_n 0, 1) := by decide +kernel
theorem dX8_steps_190 : decode cX8_steps 190 = .ok (.getfield 59, 3) := by decide +kernel
theorem dX8_steps_193 : decode cX8_steps 193 = .ok (.iload 6, 2) := by decide +kernel
theorem dX8_steps_195 : decode cX8_steps 195 = .ok (.iaload, 1) := by decide +kernel
theorem dX8_steps_196 : decode cX8_steps 196 = .ok (.iastore, 1) := by decide +kernel
theorem dX8_steps_197 : decode cX8_steps 197 = .ok (.aload_n 0, 1) := by decide +kernel
theorem dX8_steps_198 : decode cX8_steps 198 = .ok (.getfield 59, 3) := by decide +kernel
theorem dX8_steps_201 : decode cX8_steps 201 = .ok (.iload 7, 2) := by decide +kernel
theorem dX8_steps_203 : decode cX8_steps 203 = .ok (.aload_n 0, 1) := by decide +kernel
theorem dX8_steps_204 : decode cX8_steps 204 = .ok (.getfield 59, 3) := by decide +kernel
theorem dX8_steps_207 : decode cX8_steps 207 = .ok (.iload 6, 2) := by decide +kernel
theorem dX8_steps_209 : decode cX8_steps 209 = .ok (.iaload, 1) := by decide +kernel
theorem dX8_steps_210 : decode cX8_steps 210 = .ok (.iconst 1, 1) := by decide +kernel
theorem dX8_steps_211 : decode cX8_steps 211 = .ok (.iadd, 1) := by decide +kernel
theorem dX8_steps_212 : decode cX8_steps 212 = .ok (.aload_n 0, 1) := by decide +kernel
theorem dX8_steps_213 : decode cX8_steps 213 = .ok (.getfield 59, 3) := by decide +kernel
theorem dX8_steps_216 : decode cX8_steps 216 = .ok (.iload 7, 2) := by decide +kernel
theorem dX8_steps_218 : decode cX8_steps 218 = .ok (.iaload, 1) := by decide +kernel
theorem dX8_steps_219 : decode cX8_steps 219 = .ok (.if_icmp .ge 15, 3) := by decide +kernel
theorem dX8_steps_222 : decode cX8_steps 222 = .ok (.aload_n 0, 1) := by decide +kernel
theorem dX8_steps_223 : decode cX8_steps 223 = .ok (.getfield 59, 3) := by decide +kernel
theorem dX8_steps_226 : decode cX8_steps 226 = .ok (.iload 6, 2) := by decide +kernel
theorem dX8_steps_228 : decode cX8_steps 228 = .ok (.iaload, 1) := by decide +kernel
theorem dX8_steps_229 : decode cX8_steps 229 = .ok (.iconst 1, 1) := by decide +kernel
theorem dX8_steps_230 : decode cX8_steps 230 = .ok (.iadd, 1) := by decide +kernel
theorem dX8_steps_231 : decode cX8_steps 231 = .ok (.goto 10, 3) := by decide +kernel
theorem dX8_steps_234 : decode cX8_steps 234 = .ok (.aload_n 0, 1) := by decide +kernel
theorem dX8_steps_235 : decode cX8_steps 235 = .ok (.getfield 59, 3) := by decide +kernel
theorem dX8_steps_238 : decode cX8_steps 238 = .ok (.iload 7, 2) := by decide +kernel
theorem dX8_steps_240 : decode cX8_steps 240 = .ok (.iaload, 1) := by decide +kernel
theorem dX8_steps_241 : decode cX8_steps 241 = .ok (.iastore, 1) := by decide +kernel
theorem dX8_steps_242 : decode cX8_steps 242 = .ok (.iinc 5 1, 3) := by decide +kernel
theorem dX8_steps_245 : decode cX8_steps 245 = .ok (.goto (-126), 3) := by decide +kernel
theorem dX8_steps_248 : decode cX8_steps 248 = .ok (.iinc 4 1, 3) := by decide +kernel
theorem dX8_steps_251 : decode cX8_steps 251 = .ok (.goto (-144), 3) := by decide +kernel
theorem dX8_steps_254 : decode cX8_steps 254 = .ok (.aload_n 0, 1) := by decide +kernel
theorem dX8_steps_255 : decode cX8_steps 255 = .ok (.getfield 59, 3) := by decide +kernel
theorem dX8_steps_258 : decode cX8_steps 258 = .ok (.iload_n 2, 1) := by decide +kernel
theorem dX8_steps_259 : decode cX8_steps 259 = .ok (.iaload, 1) := by decide +kernel
theorem dX8_steps_260 : decode cX8_steps 260 = .ok (.ireturn, 1) := by decide +kernel
abbrev cX8_side : ByteArray := prog_9_method_34_code
def yX8_side : MethodName := ⟨RX8, "side", "(III)I"⟩
theorem dX8_side_0 : decode cX8_side 0 = .ok (.aload_n 0, 1) := by decide +kernel
theorem dX8_side_1 : decode cX8_side 1 = .ok (.aload_n 0, 1) := by decide +kernel
theorem dX8_side_2 : decode cX8_side 2 = .ok (.getfield 159, 3) := by decide +kernel
theorem dX8_side_5 : decode cX8_side 5 = .ok (.iload_n 1, 1) := by decide +kernel
theorem dX8_side_6 : decode cX8_side 6 = .ok (.ldc 170, 2) := by decide +kernel
theorem dX8_side_8 : decode cX8_side 8 = .ok (.invokestatic 69, 3) := by decide +kernel
theorem dX8_side_11 : decode cX8_side 11 = .ok (.ifCond .eq 25, 3) := by decide +kernel
theorem dX8_side_14 : decode cX8_side 14 = .ok (.iload_n 2, 1) := by decide +kernel
theorem dX8_side_15 : decode cX8_side 15 = .ok (.ldc 170, 2) := by decide +kernel
theorem dX8_side_17 : decode cX8_side 17 = .ok (.invokestatic 69, 3) := by decide +kernel
theorem dX8_side_20 : decode cX8_side 20 = .ok (.ifCond .eq 16, 3) := by decide +kernel
theorem dX8_side_23 : decode cX8_side 23 = .ok (.iload_n 3, 1) := by decide +kernel
theorem dX8_side_24 : decode cX8_side 24 = .ok (.ldc 170, 2) := by decide +kernel
theorem dX8_side_26 : decode cX8_side 26 = .ok (.invokestatic 69, 3) := by decide +kernel
theorem dX8_side_29 : decode cX8_side 29 = .ok (.ifCond .eq 7, 3) := by decide +kernel
theorem dX8_side_32 : decode cX8_side 32 = .ok (.iconst 1, 1) := by decide +kernel
theorem dX8_side_33 : decode cX8_side 33 = .ok (.goto 4, 3) := by decide +kernel
theorem dX8_side_36 : decode cX8_side 36 = .ok (.iconst 0, 1) := by decide +kernel
theorem dX8_side_37 : decode cX8_side 37 = .ok (.invokevirtual 77, 3) := by decide +kernel
theorem dX8_side_40 : decode cX8_side 40 = .ok (.ifCond .ne 5, 3) := by decide +kernel
theorem dX8_side_43 : decode cX8_side 43 = .ok (.iconst 0, 1) := by decide +kernel
theorem dX8_side_44 : decode cX8_side 44 = .ok (.ireturn, 1) := by decide +kernel
theorem dX8_side_45 : decode cX8_side 45 = .ok (.iconst 1, 1) := by decide +kernel
theorem dX8_side_46 : decode cX8_side 46 = .ok (.istore 4, 2) := by decide +kernel
theorem dX8_side_48 : decode cX8_side 48 = .ok (.iconst 0, 1) := by decide +kernel
theorem dX8_side_49 : decode cX8_side 49 = .ok (.istore 5, 2) := by decide +kernel
theorem dX8_side_51 : decode cX8_side 51 = .ok (.iload 5, 2) := by decide +kernel
theorem dX8_side_53 : decode cX8_side 53 = .ok (.aload_n 0, 1) := by decide +kernel
theorem dX8_side_54 : decode cX8_side 54 = .ok (.getfield 91, 3) := by decide +kernel
theorem dX8_side_57 : decode cX8_side 57 = .ok (.if_icmp .ge 83, 3) := by decide +kernel
theorem dX8_side_60 : decode cX8_side 60 = .ok (.aload_n 0, 1) := by decide +kernel
theorem dX8_side_61 : decode cX8_side 61 = .ok (.getfield 29, 3) := by decide +kernel
theorem dX8_side_64 : decode cX8_side 64 = .ok (.iload 5, 2) := by decide +kernel
theorem dX8_side_66 : decode cX8_side 66 = .ok (.laload, 1) := by decide +kernel
theorem dX8_side_67 : decode cX8_side 67 = .ok (.iload_n 1, 1) := by decide +kernel
theorem dX8_side_68 : decode cX8_side 68 = .ok (.i2l, 1) := by decide +kernel
theorem dX8_side_69 : decode cX8_side 69 = .ok (.lmul, 1) := by decide +kernel
theorem dX8_side_70 : decode cX8_side 70 = .ok (.aload_n 0, 1) := by decide +kernel
theorem dX8_side_71 : decode cX8_side 71 = .ok (.getfield 32, 3) := by decide +kernel
theorem dX8_side_74 : decode cX8_side 74 = .ok (.iload 5, 2) := by decide +kernel
theorem dX8_side_76 : decode cX8_side 76 = .ok (.laload, 1) := by decide +kernel
theorem dX8_side_77 : decode cX8_side 77 = .ok (.iload_n 2, 1) := by decide +kernel
theorem dX8_side_78 : decode cX8_side 78 = .ok (.i2l, 1) := by decide +kernel
theorem dX8_side_79 : decode cX8_side 79 = .ok (.lmul, 1) := by decide +kernel
theorem dX8_side_80 : decode cX8_side 80 = .ok (.ladd, 1) := by decide +kernel
theorem dX8_side_81 : decode cX8_side 81 = .ok (.aload_n 0, 1) := by decide +kernel
theorem dX8_side_82 : decode cX8_side 82 = .ok (.getfield 35, 3) := by decide +kernel
theorem dX8_side_85 : decode cX8_side 85 = .ok (.iload 5, 2) := by decide +kernel
theorem dX8_side_87 : decode cX8_side 87 = .ok (.laload, 1) := by decide +kernel
theorem dX8_side_88 : decode cX8_side 88 = .ok (.iload_n 3, 1) := by decide +kernel
theorem dX8_side_89 : decode cX8_side 89 = .ok (.i2l, 1) := by decide +kernel
theorem dX8_side_90 : decode cX8_side 90 = .ok (.lmul, 1) := by decide +kernel
theorem dX8_side_91 : decode cX8_side 91 = .ok (.ladd, 1) := by decide +kernel
theorem dX8_side_92 : decode cX8_side 92 = .ok (.aload_n 0, 1) := by decide +kernel
theorem dX8_side_93 : decode cX8_side 93 = .ok (.getfield 38, 3) := by decide +kernel
theorem dX8_side_96 : decode cX8_side 96 = .ok (.iload 5, 2) := by decide +kernel
theorem dX8_side_98 : decode cX8_side 98 = .ok (.laload, 1) := by decide +kernel
theorem dX8_side_99 : decode cX8_side 99 = .ok (.lsub, 1) := by decide +kernel
theorem dX8_side_100 : decode cX8_side 100 = .ok (.lstore 6, 2) := by decide +kernel
theorem dX8_side_102 : decode cX8_side 102 = .ok (.lload 6, 2) := by decide +kernel
theorem dX8_side_104 : decode cX8_side 104 = .ok (.lconst 0, 1) := by decide +kernel
theorem dX8_side_105 : decode cX8_side 105 = .ok (.lcmp, 1) := by decide +kernel
theorem dX8_side_106 : decode cX8_side 106 = .ok (.ifCond .le 7, 3) := by decide +kernel
theorem dX8_side_109 : decode cX8_side 109 = .ok (.iconst (-1), 1) := by decide +kernel
theorem dX8_side_110 : decode cX8_side 110 = .ok (.goto 22, 3) := by decide +kernel
theorem dX8_side_113 : decode cX8_side 113 = .ok (.lload 6, 2) := by decide +kernel
theorem dX8_side_115 : decode cX8_side 115 = .ok (.lconst 0, 1) := by decide +kernel
theorem dX8_side_116 : decode cX8_side 116 = .ok (.lcmp, 1) := by decide +kernel
theorem dX8_side_117 : decode cX8_side 117 = .ok (.ifCond .ne 13, 3) := by decide +kernel
theorem dX8_side_120 : decode cX8_side 120 = .ok (.iload 4, 2) := by decide +kernel
theorem dX8_side_122 : decode cX8_side 122 = .ok (.iconst 1, 1) := by decide +kernel
theorem dX8_side_123 : decode cX8_side 123 = .ok (.if_icmp .ne 7, 3) := by decide +kernel
theorem dX8_side_126 : decode cX8_side 126 = .ok (.iconst 0, 1) := by decide +kernel
theorem dX8_side_127 : decode cX8_side 127 = .ok (.goto 5, 3) := by decide +kernel
theorem dX8_side_130 : decode cX8_side 130 = .ok (.iload 4, 2) := by decide +kernel
theorem dX8_side_132 : decode cX8_side 132 = .ok (.istore 4, 2) := by decide +kernel
theorem dX8_side_134 : decode cX8_side 134 = .ok (.iinc 5 1, 3) := by decide +kernel
theorem dX8_side_137 : decode cX8_side 137 = .ok (.goto (-86), 3) := by decide +kernel
theorem dX8_side_140 : decode cX8_side 140 = .ok (.iload 4, 2) := by decide +kernel
theorem dX8_side_142 : decode cX8_side 142 = .ok (.ireturn, 1) := by decide +kernel
abbrev cX8_volume : ByteArray := prog_9_method_36_code
def yX8_volume : MethodName := ⟨RX8, "volume", "()J"⟩
theorem dX8_volume_0 : decode cX8_volume 0 = .ok (.aload_n 0, 1) := by decide +kernel
theorem dX8_volume_1 : decode cX8_volume 1 = .ok (.aload_n 0, 1) := by decide +kernel
theorem dX8_volume_2 : decode cX8_volume 2 = .ok (.getfield 159, 3) := by decide +kernel
theorem dX8_volume_5 : decode cX8_volume 5 = .ok (.iconst 1, 1) := by decide +kernel
theorem dX8_volume_6 : decode cX8_volume 6 = .ok (.invokevirtual 77, 3) := by decide +kernel
theorem dX8_volume_9 : decode cX8_volume 9 = .ok (.ifCond .eq 11, 3) := by decide +kernel
theorem dX8_volume_12 : decode cX8_volume 12 = .ok (.aload_n 0, 1) := by decide +kernel
theorem dX8_volume_13 : decode cX8_volume 13 = .ok (.iconst (-1), 1) := by decide +kernel
theorem dX8_volume_14 : decode cX8_volume 14 = .ok (.invokevirtual 174, 3) := by decide +kernel
theorem dX8_volume_17 : decode cX8_volume 17 = .ok (.goto 4, 3) := by decide +kernel
theorem dX8_volume_20 : decode cX8_volume 20 = .ok (.lconst 0, 1) := by decide +kernel
theorem dX8_volume_21 : decode cX8_volume 21 = .ok (.lreturn, 1) := by decide +kernel
abbrev cX8_sum : ByteArray := prog_9_method_35_code
def yX8_sum : MethodName := ⟨RX8, "sum", "(I)J"⟩
theorem dX8_sum_0 : decode cX8_sum 0 = .ok (.lconst 0, 1) := by decide +kernel
theorem dX8_sum_1 : decode cX8_sum 1 = .ok (.lstore_n 2, 1) := by decide +kernel
theorem dX8_sum_2 : decode cX8_sum 2 = .ok (.iconst 0, 1) := by decide +kernel
theorem dX8_sum_3 : decode cX8_sum 3 = .ok (.istore 4, 2) := by decide +kernel
theorem dX8_sum_5 : decode cX8_sum 5 = .ok (.iload 4, 2) := by decide +kernel
theorem dX8_sum_7 : decode cX8_sum 7 = .ok (.aload_n 0, 1) := by decide +kernel
theorem dX8_sum_8 : decode cX8_sum 8 = .ok (.getfield 91, 3) := by decide +kernel
theorem dX8_sum_11 : decode cX8_sum 11 = .ok (.if_icmp .ge 299, 3) := by decide +kernel
theorem dX8_sum_14 : decode cX8_sum 14 = .ok (.aload_n 0, 1) := by decide +kernel
theorem dX8_sum_15 : decode cX8_sum 15 = .ok (.getfield 44, 3) := by decide +kernel
theorem dX8_sum_18 : decode cX8_sum 18 = .ok (.bipush 24, 2) := by decide +kernel
theorem dX8_sum_20 : decode cX8_sum 20 = .ok (.iload 4, 2) := by decide +kernel
theorem dX8_sum_22 : decode cX8_sum 22 = .ok (.imul, 1) := by decide +kernel
theorem dX8_sum_23 : decode cX8_sum 23 = .ok (.iaload, 1) := by decide +kernel
theorem dX8_sum_24 : decode cX8_sum 24 = .ok (.istore 5, 2) := by decide +kernel
theorem dX8_sum_26 : decode cX8_sum 26 = .ok (.iconst 1, 1) := by decide +kernel
theorem dX8_sum_27 : decode cX8_sum 27 = .ok (.istore 6, 2) := by decide +kernel
theorem dX8_sum_29 : decode cX8_sum 29 = .ok (.iload 6, 2) := by decide +kernel
theorem dX8_sum_31 : decode cX8_sum 31 = .ok (.iconst 1, 1) := by decide +kernel
theorem dX8_sum_32 : decode cX8_sum 32 = .ok (.iadd, 1) := by decide +kernel
theorem dX8_sum_33 : decode cX8_sum 33 = .ok (.aload_n 0, 1) := by decide +kernel
theorem dX8_sum_34 : decode cX8_sum 34 = .ok (.getfield 41, 3) := by decide +kernel
theorem dX8_sum_37 : decode cX8_sum 37 = .ok (.iload 4, 2) := by decide +kernel
theorem dX8_sum_39 : decode cX8_sum 39 = .ok (.iaload, 1) := by decide +kernel
theorem dX8_sum_40 : decode cX8_sum 40 = .ok (.if_icmp .ge 264, 3) := by decide +kernel
theorem dX8_sum_43 : decode cX8_sum 43 = .ok (.aload_n 0, 1) := by decide +kernel
theorem dX8_sum_44 : decode cX8_sum 44 = .ok (.getfield 44, 3) := by decide +kernel
theorem dX8_sum_47 : decode cX8_sum 47 = .ok (.bipush 24, 2) := by decide +kernel
theorem dX8_sum_49 : decode cX8_sum 49 = .ok (.iload 4, 2) := by decide +kernel
theorem dX8_sum_51 : decode cX8_sum 51 = .ok (.imul, 1) := by decide +kernel
theorem dX8_sum_52 : decode cX8_sum 52 = .ok (.iload 6, 2) := by decide +kernel
theorem dX8_sum_54 : decode cX8_sum 54 = .ok (.iadd, 1) := by decide +kernel
theorem dX8_sum_55 : decode cX8_sum 55 = .ok (.iaload, 1) := by decide +kernel
theorem dX8_sum_56 : decode cX8_sum 56 = .ok (.istore 7, 2) := by decide +kernel
theorem dX8_sum_58 : decode cX8_sum 58 = .ok (.aload_n 0, 1) := by decide +kernel
theorem dX8_sum_59 : decode cX8_sum 59 = .ok (.getfield 44, 3) := by decide +kernel
theorem dX8_sum_62 : decode cX8_sum 62 = .ok (.bipush 24, 2) := by decide +kernel
theorem dX8_sum_64 : decode cX8_sum 64 = .ok (.iload 4, 2) := by decide +kernel
theorem dX8_sum_66 : decode cX8_sum 66 = .ok (.imul, 1) := by decide +kernel
theorem dX8_sum_67 : decode cX8_sum 67 = .ok (.iload 6, 2) := by decide +kernel
theorem dX8_sum_69 : decode cX8_sum 69 = .ok (.iadd, 1) := by decide +kernel
theorem dX8_sum_70 : decode cX8_sum 70 = .ok (.iconst 1, 1) := by decide +kernel
theorem dX8_sum_71 : decode cX8_sum 71 = .ok (.iadd, 1) := by decide +kernel
theorem dX8_sum_72 : decode cX8_sum 72 = .ok (.iaload, 1) := by decide +kernel
theorem dX8_sum_73 : decode cX8_sum 73 = .ok (.istore 8, 2) := by decide +kernel
theorem dX8_sum_75 : decode cX8_sum 75 = .ok (.aload_n 0, 1) := by decide +kernel
theorem dX8_sum_76 : decode cX8_sum 76 = .ok (.getfield 19, 3) := by decide +kernel
theorem dX8_sum_79 : decode cX8_sum 79 = .ok (.iload 5, 2) := by decide +kernel
theorem dX8_sum_81 : decode cX8_sum 81 = .ok (.laload, 1) := by decide +kernel
theorem dX8_sum_82 : decode cX8_sum 82 = .ok (.aload_n 0, 1) := by decide +kernel
theorem dX8_sum_83 : decode cX8_sum 83 = .ok (.getfield 23, 3) := by decide +kernel
theorem dX8_sum_86 : decode cX8_sum 86 = .ok (.iload 7, 2) := by decide +kernel
theorem dX8_sum_88 : decode cX8_sum 88 = .ok (.laload, 1) := by decide +kernel
theorem dX8_sum_89 : decode cX8_sum 89 = .ok (.aload_n 0, 1) := by decide +kernel
theorem dX8_sum_90 : decode cX8_sum 90 = .ok (.getfield 26, 3) := by decide +kernel
theorem dX8_sum_93 : decode cX8_sum 93 = .ok (.iload 8, 2) := by decide +kernel
theorem dX8_sum_95 : decode cX8_sum 95 = .ok (.laload, 1) := by decide +kernel
theorem dX8_sum_96 : decode cX8_sum 96 = .ok (.lmul, 1) := by decide +kernel
theorem dX8_sum_97 : decode cX8_sum 97 = .ok (.aload_n 0, 1) := by decide +kernel
theorem dX8_sum_98 : decode cX8_sum 98 = .ok (.getfield 26, 3) := by decide +kernel
theorem dX8_sum_101 : decode cX8_sum 101 = .ok (.iload 7, 2) := by decide +kernel
theorem dX8_sum_103 : decode cX8_sum 103 = .ok (.laload, 1) := by decide +kernel
theorem dX8_sum_104 : decode cX8_sum 104 = .ok (.aload_n 0, 1) := by decide +kernel
theorem dX8_sum_105 : decode cX8_sum 105 = .ok (.getfield 23, 3) := by decide +kernel
theorem dX8_sum_108 : decode cX8_sum 108 = .ok (.iload 8, 2) := by decide +kernel
theorem dX8_sum_110 : decode cX8_sum 110 = .ok (.laload, 1) := by decide +kernel
theorem dX8_sum_111 : decode cX8_sum 111 = .ok (.lmul, 1) := by decide +kernel
theorem dX8_sum_112 : decode cX8_sum 112 = .ok (.lsub, 1) := by decide +kernel
theorem dX8_sum_113 : decode cX8_sum 113 = .ok (.lmul, 1) := by decide +kernel
theorem dX8_sum_114 : decode cX8_sum 114 = .ok (.aload_n 0, 1) := by decide +kernel
theorem dX8_sum_115 : decode cX8_sum 115 = .ok (.getfield 23, 3) := by decide +kernel
theorem dX8_sum_118 : decode cX8_sum 118 = .ok (.iload 5, 2) := by decide +kernel
theorem dX8_sum_120 : decode cX8_sum 120 = .ok (.laload, 1) := by decide +kernel
theorem dX8_sum_121 : decode cX8_sum 121 = .ok (.aload_n 0, 1) := by decide +kernel
theorem dX8_sum_122 : decode cX8_sum 122 = .ok (.getfield 26, 3) := by decide +kernel
theorem dX8_sum_125 : decode cX8_sum 125 = .ok (.iload 7, 2) := by decide +kernel
theorem dX8_sum_127 : decode cX8_sum 127 = .ok (.laload, 1) := by decide +kernel
theorem dX8_sum_128 : decode cX8_sum 128 = .ok (.aload_n 0, 1) := by decide +kernel
theorem dX8_sum_129 : decode cX8_sum 129 = .ok (.getfield 19, 3) := by decide +kernel
theorem dX8_sum_132 : decode cX8_sum 132 = .ok (.iload 8, 2) := by decide +kernel
theorem dX8_sum_134 : decode cX8_sum 134 = .ok (.laload, 1) := by decide +kernel
theorem dX8_sum_135 : decode cX8_sum 135 = .ok (.lmul, 1) := by decide +kernel
theorem dX8_sum_136 : decode cX8_sum 136 = .ok (.aload_n 0, 1) := by decide +kernel
theorem dX8_sum_137 : decode cX8_sum 137 = .ok (.getfield 19, 3) := by decide +kernel
theorem dX8_sum_140 : decode cX8_sum 140 = .ok (.iload 7, 2) := by decide +kernel
theorem dX8_sum_142 : decode cX8_sum 142 = .ok (.laload, 1) := by decide +kernel
theorem dX8_sum_143 : decode cX8_sum 143 = .ok (.aload_n 0, 1) := by decide +kernel
theorem dX8_sum_144 : decode cX8_sum 144 = .ok (.getfield 26, 3) := by decide +kernel
theorem dX8_sum_147 : decode cX8_sum 147 = .ok (.iload 8, 2) := by decide +kernel
theorem dX8_sum_149 : decode cX8_sum 149 = .ok (.laload, 1) := by decide +kernel
theorem dX8_sum_150 : decode cX8_sum 150 = .ok (.lmul, 1) := by decide +kernel
theorem dX8_sum_151 : decode cX8_sum 151 = .ok (.lsub, 1) := by decide +kernel
theorem dX8_sum_152 : decode cX8_sum 152 = .ok (.lmul, 1) := by decide +kernel
theorem dX8_sum_153 : decode cX8_sum 153 = .ok (.ladd, 1) := by decide +kernel
theorem dX8_sum_154 : decode cX8_sum 154 = .ok (.aload_n 0, 1) := by decide +kernel
theorem dX8_sum_155 : decode cX8_sum 155 = .ok (.getfield 26, 3) := by decide +kernel
theorem dX8_sum_158 : decode cX8_sum 158 = .ok (.iload 5, 2) := by decide +kernel
theorem dX8_sum_160 : decode cX8_sum 160 = .ok (.laload, 1) := by decide +kernel
theorem dX8_sum_161 : decode cX8_sum 161 = .ok (.aload_n 0, 1) := by decide +kernel
theorem dX8_sum_162 : decode cX8_sum 162 = .ok (.getfield 19, 3) := by decide +kernel
theorem dX8_sum_165 : decode cX8_sum 165 = .ok (.iload 7, 2) := by decide +kernel
theorem dX8_sum_167 : decode cX8_sum 167 = .ok (.laload, 1) := by decide +kernel
theorem dX8_sum_168 : decode cX8_sum 168 = .ok (.aload_n 0, 1) := by decide +kernel
theorem dX8_sum_169 : decode cX8_sum 169 = .ok (.getfield 23, 3) := by decide +kernel
theorem dX8_sum_172 : decode cX8_sum 172 = .ok (.iload 8, 2) := by decide +kernel
theorem dX8_sum_174 : decode cX8_sum 174 = .ok (.laload, 1) := by decide +kernel
theorem dX8_sum_175 : decode cX8_sum 175 = .ok (.lmul, 1) := by decide +kernel
theorem dX8_sum_176 : decode cX8_sum 176 = .ok (.aload_n 0, 1) := by decide +kernel
theorem dX8_sum_177 : decode cX8_sum 177 = .ok (.getfield 23, 3) := by decide +kernel
theorem dX8_sum_180 : decode cX8_sum 180 = .ok (.iload 7, 2) := by decide +kernel
theorem dX8_sum_182 : decode cX8_sum 182 = .ok (.laload, 1) := by decide +kernel
theorem dX8_sum_183 : decode cX8_sum 183 = .ok (.aload_n 0, 1) := by decide +kernel
theorem dX8_sum_184 : decode cX8_sum 184 = .ok (.getfield 19, 3) := by decide +kernel
theorem dX8_sum_187 : decode cX8_sum 187 = .ok (.iload 8, 2) := by decide +kernel
theorem dX8_sum_189 : decode cX8_sum 189 = .ok (.laload, 1) := by decide +kernel
theorem dX8_sum_190 : decode cX8_sum 190 = .ok (.lmul, 1) := by decide +kernel
theorem dX8_sum_191 : decode cX8_sum 191 = .ok (.lsub, 1) := by decide +kernel
theorem dX8_sum_192 : decode cX8_sum 192 = .ok (.lmul, 1) := by decide +kernel
theorem dX8_sum_193 : decode cX8_sum 193 = .ok (.ladd, 1) := by decide +kernel
theorem dX8_sum_194 : decode cX8_sum 194 = .ok (.lstore 9, 2) := by decide +kernel
theorem dX8_sum_196 : decode cX8_sum 196 = .ok (.iload_n 1, 1) := by decide +kernel
theorem dX8_sum_197 : decode cX8_sum 197 = .ok (.ifCond .ge 7, 3) := by decide +kernel
theorem dX8_sum_200 : decode cX8_sum 200 = .ok (.lconst 1, 1) := by decide +kernel
theorem dX8_sum_201 : decode cX8_sum 201 = .ok (.goto 87, 3) := by decide +kernel
theorem dX8_sum_204 : decode cX8_sum 204 = .ok (.iload_n 1, 1) := by decide +kernel
theorem dX8_sum_205 : decode cX8_sum 205 = .ok (.ifCond .ne 29, 3) := by decide +kernel
theorem dX8_sum_208 : decode cX8_sum 208 = .ok (.aload_n 0, 1) := by decide +kernel
theorem dX8_sum_209 : decode cX8_sum 209 = .ok (.getfield 19, 3) := by decide +kernel
theorem dX8_sum_212 : decode cX8_sum 212 = .ok (.iload 5, 2) := by decide +kernel
theorem dX8_sum_214 : decode cX8_sum 214 = .ok (.laload, 1) := by decide +kernel
theorem dX8_sum_215 : decode cX8_sum 215 = .ok (.aload_n 0, 1) := by decide +kernel
theorem dX8_sum_216 : decode cX8_sum 216 = .ok (.getfield 19, 3) := by decide +kernel
theorem dX8_sum_219 : decode cX8_sum 219 = .ok (.iload 7, 2) := by decide +kernel
theorem dX8_sum_221 : decode cX8_sum 221 = .ok (.laload, 1) := by decide +kernel
theorem dX8_sum_222 : decode cX8_sum 222 = .ok (.ladd, 1) := by decide +kernel
theorem dX8_sum_223 : decode cX8_sum 223 = .ok (.aload_n 0, 1) := by decide +kernel
theorem dX8_sum_224 : decode cX8_sum 224 = .ok (.getfield 19, 3) := by decide +kernel
theorem dX8_sum_227 : decode cX8_sum 227 = .ok (.iload 8, 2) := by decide +kernel
theorem dX8_sum_229 : decode cX8_sum 229 = .ok (.laload, 1) := by decide +kernel
theorem dX8_sum_230 : decode cX8_sum 230 = .ok (.ladd, 1) := by decide +kernel
theorem dX8_sum_231 : decode cX8_sum 231 = .ok (.goto 57, 3) := by decide +kernel
theorem dX8_sum_234 : decode cX8_sum 234 = .ok (.iload_n 1, 1) := by decide +kernel
theorem dX8_sum_235 : decode cX8_sum 235 = .ok (.iconst 1, 1) := by decide +kernel
theorem dX8_sum_236 : decode cX8_sum 236 = .ok (.if_icmp .ne 29, 3) := by decide +kernel
theorem dX8_sum_239 : decode cX8_sum 239 = .ok (.aload_n 0, 1) := by decide +kernel
theorem dX8_sum_240 : decode cX8_sum 240 = .ok (.getfield 23, 3) := by decide +kernel
theorem dX8_sum_243 : decode cX8_sum 243 = .ok (.iload 5, 2) := by decide +kernel
theorem dX8_sum_245 : decode cX8_sum 245 = .ok (.laload, 1) := by decide +kernel
theorem dX8_sum_246 : decode cX8_sum 246 = .ok (.aload_n 0, 1) := by decide +kernel
theorem dX8_sum_247 : decode cX8_sum 247 = .ok (.getfield 23, 3) := by decide +kernel
theorem dX8_sum_250 : decode cX8_sum 250 = .ok (.iload 7, 2) := by decide +kernel
theorem dX8_sum_252 : decode cX8_sum 252 = .ok (.laload, 1) := by decide +kernel
theorem dX8_sum_253 : decode cX8_sum 253 = .ok (.ladd, 1) := by decide +kernel
theorem dX8_sum_254 : decode cX8_sum 254 = .ok (.aload_n 0, 1) := by decide +kernel
theorem dX8_sum_255 : decode cX8_sum 255 = .ok (.getfield 23, 3) := by decide +kernel
theorem dX8_sum_258 : decode cX8_sum 258 = .ok (.iload 8, 2) := by decide +kernel
theorem dX8_sum_260 : decode cX8_sum 260 = .ok (.laload, 1) := by decide +kernel
theorem dX8_sum_261 : decode cX8_sum 261 = .ok (.ladd, 1) := by decide +kernel
theorem dX8_sum_262 : decode cX8_sum 262 = .ok (.goto 26, 3) := by decide +kernel
theorem dX8_sum_265 : decode cX8_sum 265 = .ok (.aload_n 0, 1) := by decide +kernel
theorem dX8_sum_266 : decode cX8_sum 266 = .ok (.getfield 26, 3) := by decide +kernel
theorem dX8_sum_269 : decode cX8_sum 269 = .ok (.iload 5, 2) := by decide +kernel
theorem dX8_sum_271 : decode cX8_sum 271 = .ok (.laload, 1) := by decide +kernel
theorem dX8_sum_272 : decode cX8_sum 272 = .ok (.aload_n 0, 1) := by decide +kernel
theorem dX8_sum_273 : decode cX8_sum 273 = .ok (.getfield 26, 3) := by decide +kernel
theorem dX8_sum_276 : decode cX8_sum 276 = .ok (.iload 7, 2) := by decide +kernel
theorem dX8_sum_278 : decode cX8_sum 278 = .ok (.laload, 1) := by decide +kernel
theorem dX8_sum_279 : decode cX8_sum 279 = .ok (.ladd, 1) := by decide +kernel
theorem dX8_sum_280 : decode cX8_sum 280 = .ok (.aload_n 0, 1) := by decide +kernel
theorem dX8_sum_281 : decode cX8_sum 281 = .ok (.getfield 26, 3) := by decide +kernel
theorem dX8_sum_284 : decode cX8_sum 284 = .ok (.iload 8, 2) := by decide +kernel
theorem dX8_sum_286 : decode cX8_sum 286 = .ok (.laload, 1) := by decide +kernel
theorem dX8_sum_287 : decode cX8_sum 287 = .ok (.ladd, 1) := by decide +kernel
theorem dX8_sum_288 : decode cX8_sum 288 = .ok (.lstore 11, 2) := by decide +kernel
theorem dX8_sum_290 : decode cX8_sum 290 = .ok (.lload_n 2, 1) := by decide +kernel
theorem dX8_sum_291 : decode cX8_sum 291 = .ok (.lload 9, 2) := by decide +kernel
theorem dX8_sum_293 : decode cX8_sum 293 = .ok (.lload 11, 2) := by decide +kernel
theorem dX8_sum_295 : decode cX8_sum 295 = .ok (.lmul, 1) := by decide +kernel
theorem dX8_sum_296 : decode cX8_sum 296 = .ok (.ladd, 1) := by decide +kernel
theorem dX8_sum_297 : decode cX8_sum 297 = .ok (.lstore_n 2, 1) := by decide +kernel
theorem dX8_sum_298 : decode cX8_sum 298 = .ok (.iinc 6 1, 3) := by decide +kernel
theorem dX8_sum_301 : decode cX8_sum 301 = .ok (.goto (-272), 3) := by decide +kernel
theorem dX8_sum_304 : decode cX8_sum 304 = .ok (.iinc 4 1, 3) := by decide +kernel
theorem dX8_sum_307 : decode cX8_sum 307 = .ok (.goto (-302), 3) := by decide +kernel
theorem dX8_sum_310 : decode cX8_sum 310 = .ok (.lload_n 2, 1) := by decide +kernel
theorem dX8_sum_311 : decode cX8_sum 311 = .ok (.lreturn, 1) := by decide +kernel
abbrev cX8_centre : ByteArray := prog_9_method_37_code
def yX8_centre : MethodName := ⟨RX8, "centre", "(I)J"⟩
theorem dX8_centre_0 : decode cX8_centre 0 = .ok (.aload_n 0, 1) := by decide +kernel
theorem dX8_centre_1 : decode cX8_centre 1 = .ok (.aload_n 0, 1) := by decide +kernel
theorem dX8_centre_2 : decode cX8_centre 2 = .ok (.getfield 159, 3) := by decide +kernel
theorem dX8_centre_5 : decode cX8_centre 5 = .ok (.iload_n 1, 1) := by decide +kernel
theorem dX8_centre_6 : decode cX8_centre 6 = .ok (.ifCond .lt 12, 3) := by decide +kernel
theorem dX8_centre_9 : decode cX8_centre 9 = .ok (.iload_n 1, 1) := by decide +kernel
theorem dX8_centre_10 : decode cX8_centre 10 = .ok (.iconst 2, 1) := by decide +kernel
theorem dX8_centre_11 : decode cX8_centre 11 = .ok (.if_icmp .gt 7, 3) := by decide +kernel
theorem dX8_centre_14 : decode cX8_centre 14 = .ok (.iconst 1, 1) := by decide +kernel
theorem dX8_centre_15 : decode cX8_centre 15 = .ok (.goto 4, 3) := by decide +kernel
theorem dX8_centre_18 : decode cX8_centre 18 = .ok (.iconst 0, 1) := by decide +kernel
theorem dX8_centre_19 : decode cX8_centre 19 = .ok (.invokevirtual 77, 3) := by decide +kernel
theorem dX8_centre_22 : decode cX8_centre 22 = .ok (.ifCond .eq 11, 3) := by decide +kernel
theorem dX8_centre_25 : decode cX8_centre 25 = .ok (.aload_n 0, 1) := by decide +kernel
theorem dX8_centre_26 : decode cX8_centre 26 = .ok (.iload_n 1, 1) := by decide +kernel
theorem dX8_centre_27 : decode cX8_centre 27 = .ok (.invokevirtual 174, 3) := by decide +kernel
theorem dX8_centre_30 : decode cX8_centre 30 = .ok (.goto 4, 3) := by decide +kernel
theorem dX8_centre_33 : decode cX8_centre 33 = .ok (.lconst 0, 1) := by decide +kernel
theorem dX8_centre_34 : decode cX8_centre 34 = .ok (.lreturn, 1) := by decide +kernel
abbrev cX8_middle : ByteArray := prog_9_method_38_code
def yX8_middle : MethodName := ⟨RX8, "middle", "(I)D"⟩
theorem dX8_middle_0 : decode cX8_middle 0 = .ok (.aload_n 0, 1) := by decide +kernel
theorem dX8_middle_1 : decode cX8_middle 1 = .ok (.aload_n 0, 1) := by decide +kernel
theorem dX8_middle_2 : decode cX8_middle 2 = .ok (.getfield 159, 3) := by decide +kernel
theorem dX8_middle_5 : decode cX8_middle 5 = .ok (.iload_n 1, 1) := by decide +kernel
theorem dX8_middle_6 : decode cX8_middle 6 = .ok (.ifCond .lt 12, 3) := by decide +kernel
theorem dX8_middle_9 : decode cX8_middle 9 = .ok (.iload_n 1, 1) := by decide +kernel
theorem dX8_middle_10 : decode cX8_middle 10 = .ok (.iconst 2, 1) := by decide +kernel
theorem dX8_middle_11 : decode cX8_middle 11 = .ok (.if_icmp .gt 7, 3) := by decide +kernel
theorem dX8_middle_14 : decode cX8_middle 14 = .ok (.iconst 1, 1) := by decide +kernel
theorem dX8_middle_15 : decode cX8_middle 15 = .ok (.goto 4, 3) := by decide +kernel
theorem dX8_middle_18 : decode cX8_middle 18 = .ok (.iconst 0, 1) := by decide +kernel
theorem dX8_middle_19 : decode cX8_middle 19 = .ok (.invokevirtual 77, 3) := by decide +kernel
theorem dX8_middle_22 : decode cX8_middle 22 = .ok (.ifCond .ne 5, 3) := by decide +kernel
theorem dX8_middle_25 : decode cX8_middle 25 = .ok (.dconst 0, 1) := by decide +kernel
theorem dX8_middle_26 : decode cX8_middle 26 = .ok (.dreturn, 1) := by decide +kernel
theorem dX8_middle_27 : decode cX8_middle 27 = .ok (.aload_n 0, 1) := by decide +kernel
theorem dX8_middle_28 : decode cX8_middle 28 = .ok (.iload_n 1, 1) := by decide +kernel
theorem dX8_middle_29 : decode cX8_middle 29 = .ok (.invokevirtual 174, 3) := by decide +kernel
theorem dX8_middle_32 : decode cX8_middle 32 = .ok (.l2d, 1) := by decide +kernel
theorem dX8_middle_33 : decode cX8_middle 33 = .ok (.dstore_n 2, 1) := by decide +kernel
theorem dX8_middle_34 : decode cX8_middle 34 = .ok (.ldc2_w 178, 3) := by decide +kernel
theorem dX8_middle_37 : decode cX8_middle 37 = .ok (.aload_n 0, 1) := by decide +kernel
theorem dX8_middle_38 : decode cX8_middle 38 = .ok (.iconst (-1), 1) := by decide +kernel
theorem dX8_middle_39 : decode cX8_middle 39 = .ok (.invokevirtual 174, 3) := by decide +kernel
theorem dX8_middle_42 : decode cX8_middle 42 = .ok (.lmul, 1) := by decide +kernel
theorem dX8_middle_43 : decode cX8_middle 43 = .ok (.l2d, 1) := by decide +kernel
theorem dX8_middle_44 : decode cX8_middle 44 = .ok (.dstore 4, 2) := by decide +kernel
theorem dX8_middle_46 : decode cX8_middle 46 = .ok (.dload_n 2, 1) := by decide +kernel
theorem dX8_middle_47 : decode cX8_middle 47 = .ok (.dload 4, 2) := by decide +kernel
theorem dX8_middle_49 : decode cX8_middle 49 = .ok (.ddiv, 1) := by decide +kernel
theorem dX8_middle_50 : decode cX8_middle 50 = .ok (.dreturn, 1) := by decide +kernel
abbrev cX8_count : ByteArray := prog_9_method_39_code
def yX8_count : MethodName := ⟨RX8, "count", "(I)I"⟩
theorem dX8_count_0 : decode cX8_count 0 = .ok (.aload_n 0, 1) := by decide +kernel
theorem dX8_count_1 : decode cX8_count 1 = .ok (.iload_n 1, 1) := by decide +kernel
theorem dX8_count_2 : decode cX8_count 2 = .ok (.ifCond .lt 12, 3) := by decide +kernel
theorem dX8_count_5 : decode cX8_count 5 = .ok (.iload_n 1, 1) := by decide +kernel
theorem dX8_count_6 : decode cX8_count 6 = .ok (.iconst 4, 1) := by decide +kernel
theorem dX8_count_7 : decode cX8_count 7 = .ok (.if_icmp .gt 7, 3) := by decide +kernel
theorem dX8_count_10 : decode cX8_count 10 = .ok (.iconst 1, 1) := by decide +kernel
theorem dX8_count_11 : decode cX8_count 11 = .ok (.goto 4, 3) := by decide +kernel
theorem dX8_count_14 : decode cX8_count 14 = .ok (.iconst 0, 1) := by decide +kernel
theorem dX8_count_15 : decode cX8_count 15 = .ok (.iconst 1, 1) := by decide +kernel
theorem dX8_count_16 : decode cX8_count 16 = .ok (.invokevirtual 77, 3) := by decide +kernel
theorem dX8_count_19 : decode cX8_count 19 = .ok (.ifCond .ne 5, 3) := by decide +kernel
theorem dX8_count_22 : decode cX8_count 22 = .ok (.iconst 0, 1) := by decide +kernel
theorem dX8_count_23 : decode cX8_count 23 = .ok (.ireturn, 1) := by decide +kernel
theorem dX8_count_24 : decode cX8_count 24 = .ok (.iconst 0, 1) := by decide +kernel
theorem dX8_count_25 : decode cX8_count 25 = .ok (.istore_n 2, 1) := by decide +kernel
theorem dX8_count_26 : decode cX8_count 26 = .ok (.iconst 0, 1) := by decide +kernel
theorem dX8_count_27 : decode cX8_count 27 = .ok (.istore_n 3, 1) := by decide +kernel
theorem dX8_count_28 : decode cX8_count 28 = .ok (.iload_n 3, 1) := by decide +kernel
theorem dX8_count_29 : decode cX8_count 29 = .ok (.aload_n 0, 1) := by decide +kernel
theorem dX8_count_30 : decode cX8_count 30 = .ok (.getfield 98, 3) := by decide +kernel
theorem dX8_count_33 : decode cX8_count 33 = .ok (.if_icmp .ge 25, 3) := by decide +kernel
theorem dX8_count_36 : decode cX8_count 36 = .ok (.aload_n 0, 1) := by decide +kernel
theorem dX8_count_37 : decode cX8_count 37 = .ok (.iload_n 3, 1) := by decide +kernel
theorem dX8_count_38 : decode cX8_count 38 = .ok (.invokevirtual 171, 3) := by decide +kernel
theorem dX8_count_41 : decode cX8_count 41 = .ok (.ifCond .eq 9, 3) := by decide +kernel
theorem dX8_count_44 : decode cX8_count 44 = .ok (.iload_n 2, 1) := by decide +kernel
theorem dX8_count_45 : decode cX8_count 45 = .ok (.iconst 1, 1) := by decide +kernel
theorem dX8_count_46 : decode cX8_count 46 = .ok (.iadd, 1) := by decide +kernel
theorem dX8_count_47 : decode cX8_count 47 = .ok (.goto 4, 3) := by decide +kernel
theorem dX8_count_50 : decode cX8_count 50 = .ok (.iload_n 2, 1) := by decide +kernel
theorem dX8_count_51 : decode cX8_count 51 = .ok (.istore_n 2, 1) := by decide +kernel
theorem dX8_count_52 : decode cX8_count 52 = .ok (.iinc 3 1, 3) := by decide +kernel
theorem dX8_count_55 : decode cX8_count 55 = .ok (.goto (-27), 3) := by decide +kernel
theorem dX8_count_58 : decode cX8_count 58 = .ok (.iload_n 1, 1) := by decide +kernel
theorem dX8_count_59 : decode cX8_count 59 = .ok (.tableswitch 79 0 3 #[29, 34, 50, 66], 29) := by decide +kernel
theorem dX8_count_88 : decode cX8_count 88 = .ok (.aload_n 0, 1) := by decide +kernel
theorem dX8_count_89 : decode cX8_count 89 = .ok (.getfield 66, 3) := by decide +kernel
theorem dX8_count_92 : decode cX8_count 92 = .ok (.ireturn, 1) := by decide +kernel
theorem dX8_count_93 : decode cX8_count 93 = .ok (.aload_n 0, 1) := by decide +kernel
theorem dX8_count_94 : decode cX8_count 94 = .ok (.getfield 159, 3) := by decide +kernel
theorem dX8_count_97 : decode cX8_count 97 = .ok (.ifCond .eq 10, 3) := by decide +kernel
theorem dX8_count_100 : decode cX8_count 100 = .ok (.aload_n 0, 1) := by decide +kernel
theorem dX8_count_101 : decode cX8_count 101 = .ok (.getfield 91, 3) := by decide +kernel
theorem dX8_count_104 : decode cX8_count 104 = .ok (.goto 4, 3) := by decide +kernel
theorem dX8_count_107 : decode cX8_count 107 = .ok (.iconst 0, 1) := by decide +kernel
theorem dX8_count_108 : decode cX8_count 108 = .ok (.ireturn, 1) := by decide +kernel
theorem dX8_count_109 : decode cX8_count 109 = .ok (.aload_n 0, 1) := by decide +kernel
theorem dX8_count_110 : decode cX8_count 110 = .ok (.getfield 159, 3) := by decide +kernel
theorem dX8_count_113 : decode cX8_count 113 = .ok (.ifCond .eq 10, 3) := by decide +kernel
theorem dX8_count_116 : decode cX8_count 116 = .ok (.aload_n 0, 1) := by decide +kernel
theorem dX8_count_117 : decode cX8_count 117 = .ok (.getfield 132, 3) := by decide +kernel
theorem dX8_count_120 : decode cX8_count 120 = .ok (.goto 4, 3) := by decide +kernel
theorem dX8_count_123 : decode cX8_count 123 = .ok (.iconst 0, 1) := by decide +kernel
theorem dX8_count_124 : decode cX8_count 124 = .ok (.ireturn, 1) := by decide +kernel
theorem dX8_count_125 : decode cX8_count 125 = .ok (.aload_n 0, 1) := by decide +kernel
theorem dX8_count_126 : decode cX8_count 126 = .ok (.getfield 159, 3) := by decide +kernel
theorem dX8_count_129 : decode cX8_count 129 = .ok (.ifCond .eq 7, 3) := by decide +kernel
theorem dX8_count_132 : decode cX8_count 132 = .ok (.iload_n 2, 1) := by decide +kernel
theorem dX8_count_133 : decode cX8_count 133 = .ok (.goto 4, 3) := by decide +kernel
theorem dX8_count_136 : decode cX8_count 136 = .ok (.iconst 0, 1) := by decide +kernel
theorem dX8_count_137 : decode cX8_count 137 = .ok (.ireturn, 1) := by decide +kernel
theorem dX8_count_138 : decode cX8_count 138 = .ok (.aload_n 0, 1) := by decide +kernel
theorem dX8_count_139 : decode cX8_count 139 = .ok (.getfield 163, 3) := by decide +kernel
theorem dX8_count_142 : decode cX8_count 142 = .ok (.ireturn, 1) := by decide +kernel
theorem q43 : (Jvm.Cond.initialized "HullBuilderModel") ∈ lw_all := lw_g (lw_at lw_m1 8 rfl) rfl
theorem q666 : (Jvm.Cond.instantiable "HullBuilderModel" (27 : Nat)) ∈ lw_all := lw_g (lw_at lw_m3 151 rfl) rfl
theorem q668 : (Jvm.Cond.instanceMethod ({ cls := "HullBuilderModel", name := "<init>", desc := "()V" } : Jvm.MethodName)) ∈ lw_all := lw_g (lw_at lw_m3 153 rfl) rfl
theorem q669 : (Jvm.Cond.code ({ cls := "HullBuilderModel", name := "<init>", desc := "()V" } : Jvm.MethodName) prog_9_method_1_code (1 : Nat) (Option.none : Option Jvm.ClassFile.FieldType)) ∈ lw_all := lw_g (lw_at lw_m3 154 rfl) rfl
theorem q670 : (Jvm.Cond.methodLink "HullBuilderModel" (1 : Nat) ({ cls := "java/lang/Object", name := "<init>", desc := "()V" } : Jvm.MethodName)) ∈ lw_all := lw_g (lw_at lw_m3 155 rfl) rfl
theorem q671 : (Jvm.Cond.fieldLink "HullBuilderModel" (62 : Nat) "HullBuilderModel" "thrown" "I") ∈ lw_all := lw_g (lw_at lw_m3 156 rfl) rfl
theorem q672 : (Jvm.Cond.fieldLink "HullBuilderModel" (66 : Nat) "HullBuilderModel" "points" "I") ∈ lw_all := lw_g (lw_at lw_m3 157 rfl) rfl
theorem q673 : (Jvm.Cond.fieldLink "HullBuilderModel" (7 : Nat) "HullBuilderModel" "xs" "[I") ∈ lw_all := lw_g (lw_at lw_m3 158 rfl) rfl
theorem q674 : (Jvm.Cond.fieldLink "HullBuilderModel" (13 : Nat) "HullBuilderModel" "ys" "[I") ∈ lw_all := lw_g (lw_at lw_m3 159 rfl) rfl
theorem q675 : (Jvm.Cond.fieldLink "HullBuilderModel" (16 : Nat) "HullBuilderModel" "zs" "[I") ∈ lw_all := lw_g (lw_at lw_m3 160 rfl) rfl
theorem q676 : (Jvm.Cond.fieldLink "HullBuilderModel" (159 : Nat) "HullBuilderModel" "built" "Z") ∈ lw_all := lw_g (lw_at lw_m3 161 rfl) rfl
theorem q677 : (Jvm.Cond.fieldLink "HullBuilderModel" (163 : Nat) "HullBuilderModel" "builds" "I") ∈ lw_all := lw_g (lw_at lw_m3 162 rfl) rfl
theorem q678 : (Jvm.Cond.fieldLink "HullBuilderModel" (98 : Nat) "HullBuilderModel" "held" "I") ∈ lw_all := lw_g (lw_at lw_m3 163 rfl) rfl
theorem q679 : (Jvm.Cond.fieldLink "HullBuilderModel" (19 : Nat) "HullBuilderModel" "hx" "[J") ∈ lw_all := lw_g (lw_at lw_m3 164 rfl) rfl
theorem q680 : (Jvm.Cond.fieldLink "HullBuilderModel" (23 : Nat) "HullBuilderModel" "hy" "[J") ∈ lw_all := lw_g (lw_at lw_m3 165 rfl) rfl
theorem q681 : (Jvm.Cond.fieldLink "HullBuilderModel" (26 : Nat) "HullBuilderModel" "hz" "[J") ∈ lw_all := lw_g (lw_at lw_m3 166 rfl) rfl
theorem q682 : (Jvm.Cond.fieldLink "HullBuilderModel" (91 : Nat) "HullBuilderModel" "faces" "I") ∈ lw_all := lw_g (lw_at lw_m3 167 rfl) rfl
theorem q683 : (Jvm.Cond.fieldLink "HullBuilderModel" (29 : Nat) "HullBuilderModel" "nx" "[J") ∈ lw_all := lw_g (lw_at lw_m3 168 rfl) rfl
theorem q684 : (Jvm.Cond.fieldLink "HullBuilderModel" (32 : Nat) "HullBuilderModel" "ny" "[J") ∈ lw_all := lw_g (lw_at lw_m3 169 rfl) rfl
theorem q685 : (Jvm.Cond.fieldLink "HullBuilderModel" (35 : Nat) "HullBuilderModel" "nz" "[J") ∈ lw_all := lw_g (lw_at lw_m3 170 rfl) rfl
theorem q686 : (Jvm.Cond.fieldLink "HullBuilderModel" (38 : Nat) "HullBuilderModel" "offsets" "[J") ∈ lw_all := lw_g (lw_at lw_m3 171 rfl) rfl
theorem q687 : (Jvm.Cond.fieldLink "HullBuilderModel" (41 : Nat) "HullBuilderModel" "sizes" "[I") ∈ lw_all := lw_g (lw_at lw_m3 172 rfl) rfl
theorem q688 : (Jvm.Cond.fieldLink "HullBuilderModel" (44 : Nat) "HullBuilderModel" "corners" "[I") ∈ lw_all := lw_g (lw_at lw_m3 173 rfl) rfl
theorem q689 : (Jvm.Cond.fieldLink "HullBuilderModel" (47 : Nat) "HullBuilderModel" "order" "[I") ∈ lw_all := lw_g (lw_at lw_m3 174 rfl) rfl
theorem q690 : (Jvm.Cond.fieldLink "HullBuilderModel" (132 : Nat) "HullBuilderModel" "edges" "I") ∈ lw_all := lw_g (lw_at lw_m3 175 rfl) rfl
theorem q691 : (Jvm.Cond.fieldLink "HullBuilderModel" (50 : Nat) "HullBuilderModel" "ends" "[I") ∈ lw_all := lw_g (lw_at lw_m3 176 rfl) rfl
theorem q692 : (Jvm.Cond.fieldLink "HullBuilderModel" (53 : Nat) "HullBuilderModel" "lefts" "[I") ∈ lw_all := lw_g (lw_at lw_m3 177 rfl) rfl
theorem q693 : (Jvm.Cond.fieldLink "HullBuilderModel" (56 : Nat) "HullBuilderModel" "rights" "[I") ∈ lw_all := lw_g (lw_at lw_m3 178 rfl) rfl
theorem q694 : (Jvm.Cond.fieldLink "HullBuilderModel" (81 : Nat) "HullBuilderModel" "tx" "J") ∈ lw_all := lw_g (lw_at lw_m3 179 rfl) rfl
theorem q695 : (Jvm.Cond.fieldLink "HullBuilderModel" (85 : Nat) "HullBuilderModel" "ty" "J") ∈ lw_all := lw_g (lw_at lw_m3 180 rfl) rfl
theorem q696 : (Jvm.Cond.fieldLink "HullBuilderModel" (88 : Nat) "HullBuilderModel" "tz" "J") ∈ lw_all := lw_g (lw_at lw_m3 181 rfl) rfl
theorem q697 : (Jvm.Cond.fieldLink "HullBuilderModel" (59 : Nat) "HullBuilderModel" "far" "[I") ∈ lw_all := lw_g (lw_at lw_m3 182 rfl) rfl
theorem q698 : (Jvm.Cond.lays "HullBuilderModel" "HullBuilderModel" "thrown" "I") ∈ lw_all := lw_g (lw_at lw_m3 183 rfl) rfl
theorem q699 : (Jvm.Cond.soleField "HullBuilderModel" "thrown") ∈ lw_all := lw_g (lw_at lw_m3 184 rfl) rfl
theorem q700 : (Jvm.Cond.lays "HullBuilderModel" "HullBuilderModel" "points" "I") ∈ lw_all := lw_g (lw_at lw_m3 185 rfl) rfl
theorem q701 : (Jvm.Cond.soleField "HullBuilderModel" "points") ∈ lw_all := lw_g (lw_at lw_m3 186 rfl) rfl
theorem q702 : (Jvm.Cond.laysFinal "HullBuilderModel" "HullBuilderModel" "xs" "[I") ∈ lw_all := lw_g (lw_at lw_m3 187 rfl) rfl
theorem q703 : (Jvm.Cond.soleField "HullBuilderModel" "xs") ∈ lw_all := lw_g (lw_at lw_m3 188 rfl) rfl
theorem q704 : (Jvm.Cond.laysFinal "HullBuilderModel" "HullBuilderModel" "ys" "[I") ∈ lw_all := lw_g (lw_at lw_m3 189 rfl) rfl
theorem q705 : (Jvm.Cond.soleField "HullBuilderModel" "ys") ∈ lw_all := lw_g (lw_at lw_m3 190 rfl) rfl
theorem q706 : (Jvm.Cond.laysFinal "HullBuilderModel" "HullBuilderModel" "zs" "[I") ∈ lw_all := lw_g (lw_at lw_m3 191 rfl) rfl
theorem q707 : (Jvm.Cond.soleField "HullBuilderModel" "zs") ∈ lw_all := lw_g (lw_at lw_m3 192 rfl) rfl
theorem q708 : (Jvm.Cond.lays "HullBuilderModel" "HullBuilderModel" "built" "Z") ∈ lw_all := lw_g (lw_at lw_m3 193 rfl) rfl
theorem q709 : (Jvm.Cond.soleField "HullBuilderModel" "built") ∈ lw_all := lw_g (lw_at lw_m3 194 rfl) rfl
theorem q710 : (Jvm.Cond.lays "HullBuilderModel" "HullBuilderModel" "builds" "I") ∈ lw_all := lw_g (lw_at lw_m3 195 rfl) rfl
theorem q711 : (Jvm.Cond.soleField "HullBuilderModel" "builds") ∈ lw_all := lw_g (lw_at lw_m3 196 rfl) rfl
theorem q712 : (Jvm.Cond.lays "HullBuilderModel" "HullBuilderModel" "held" "I") ∈ lw_all := lw_g (lw_at lw_m3 197 rfl) rfl
theorem q713 : (Jvm.Cond.soleField "HullBuilderModel" "held") ∈ lw_all := lw_g (lw_at lw_m3 198 rfl) rfl
theorem q714 : (Jvm.Cond.laysFinal "HullBuilderModel" "HullBuilderModel" "hx" "[J") ∈ lw_all := lw_g (lw_at lw_m3 199 rfl) rfl
theorem q715 : (Jvm.Cond.soleField "HullBuilderModel" "hx") ∈ lw_all := lw_g (lw_at lw_m3 200 rfl) rfl
theorem q716 : (Jvm.Cond.laysFinal "HullBuilderModel" "HullBuilderModel" "hy" "[J") ∈ lw_all := lw_g (lw_at lw_m3 201 rfl) rfl
theorem q717 : (Jvm.Cond.soleField "HullBuilderModel" "hy") ∈ lw_all := lw_g (lw_at lw_m3 202 rfl) rfl
theorem q718 : (Jvm.Cond.laysFinal "HullBuilderModel" "HullBuilderModel" "hz" "[J") ∈ lw_all := lw_g (lw_at lw_m3 203 rfl) rfl
theorem q719 : (Jvm.Cond.soleField "HullBuilderModel" "hz") ∈ lw_all := lw_g (lw_at lw_m3 204 rfl) rfl
theorem q720 : (Jvm.Cond.lays "HullBuilderModel" "HullBuilderModel" "faces" "I") ∈ lw_all := lw_g (lw_at lw_m3 205 rfl) rfl
theorem q721 : (Jvm.Cond.soleField "HullBuilderModel" "faces") ∈ lw_all := lw_g (lw_at lw_m3 206 rfl) rfl
theorem q722 : (Jvm.Cond.laysFinal "HullBuilderModel" "HullBuilderModel" "nx" "[J") ∈ lw_all := lw_g (lw_at lw_m3 207 rfl) rfl
theorem q723 : (Jvm.Cond.soleField "HullBuilderModel" "nx") ∈ lw_all := lw_g (lw_at lw_m3 208 rfl) rfl
theorem q724 : (Jvm.Cond.laysFinal "HullBuilderModel" "HullBuilderModel" "ny" "[J") ∈ lw_all := lw_g (lw_at lw_m3 209 rfl) rfl
theorem q725 : (Jvm.Cond.soleField "HullBuilderModel" "ny") ∈ lw_all := lw_g (lw_at lw_m3 210 rfl) rfl
theorem q726 : (Jvm.Cond.laysFinal "HullBuilderModel" "HullBuilderModel" "nz" "[J") ∈ lw_all := lw_g (lw_at lw_m3 211 rfl) rfl
theorem q727 : (Jvm.Cond.soleField "HullBuilderModel" "nz") ∈ lw_all := lw_g (lw_at lw_m3 212 rfl) rfl
theorem q728 : (Jvm.Cond.laysFinal "HullBuilderModel" "HullBuilderModel" "offsets" "[J") ∈ lw_all := lw_g (lw_at lw_m3 213 rfl) rfl
theorem q729 : (Jvm.Cond.soleField "HullBuilderModel" "offsets") ∈ lw_all := lw_g (lw_at lw_m3 214 rfl) rfl
theorem q730 : (Jvm.Cond.laysFinal "HullBuilderModel" "HullBuilderModel" "sizes" "[I") ∈ lw_all := lw_g (lw_at lw_m3 215 rfl) rfl
theorem q731 : (Jvm.Cond.soleField "HullBuilderModel" "sizes") ∈ lw_all := lw_g (lw_at lw_m3 216 rfl) rfl
theorem q732 : (Jvm.Cond.laysFinal "HullBuilderModel" "HullBuilderModel" "corners" "[I") ∈ lw_all := lw_g (lw_at lw_m3 217 rfl) rfl
theorem q733 : (Jvm.Cond.soleField "HullBuilderModel" "corners") ∈ lw_all := lw_g (lw_at lw_m3 218 rfl) rfl
theorem q734 : (Jvm.Cond.laysFinal "HullBuilderModel" "HullBuilderModel" "order" "[I") ∈ lw_all := lw_g (lw_at lw_m3 219 rfl) rfl
theorem q735 : (Jvm.Cond.soleField "HullBuilderModel" "order") ∈ lw_all := lw_g (lw_at lw_m3 220 rfl) rfl
theorem q736 : (Jvm.Cond.lays "HullBuilderModel" "HullBuilderModel" "edges" "I") ∈ lw_all := lw_g (lw_at lw_m3 221 rfl) rfl
theorem q737 : (Jvm.Cond.soleField "HullBuilderModel" "edges") ∈ lw_all := lw_g (lw_at lw_m3 222 rfl) rfl
theorem q738 : (Jvm.Cond.laysFinal "HullBuilderModel" "HullBuilderModel" "ends" "[I") ∈ lw_all := lw_g (lw_at lw_m3 223 rfl) rfl
theorem q739 : (Jvm.Cond.soleField "HullBuilderModel" "ends") ∈ lw_all := lw_g (lw_at lw_m3 224 rfl) rfl
theorem q740 : (Jvm.Cond.laysFinal "HullBuilderModel" "HullBuilderModel" "lefts" "[I") ∈ lw_all := lw_g (lw_at lw_m3 225 rfl) rfl
theorem q741 : (Jvm.Cond.soleField "HullBuilderModel" "lefts") ∈ lw_all := lw_g (lw_at lw_m3 226 rfl) rfl
theorem q742 : (Jvm.Cond.laysFinal "HullBuilderModel" "HullBuilderModel" "rights" "[I") ∈ lw_all := lw_g (lw_at lw_m3 227 rfl) rfl
theorem q743 : (Jvm.Cond.soleField "HullBuilderModel" "rights") ∈ lw_all := lw_g (lw_at lw_m3 228 rfl) rfl
theorem q744 : (Jvm.Cond.lays "HullBuilderModel" "HullBuilderModel" "tx" "J") ∈ lw_all := lw_g (lw_at lw_m3 229 rfl) rfl
theorem q745 : (Jvm.Cond.soleField "HullBuilderModel" "tx") ∈ lw_all := lw_g (lw_at lw_m3 230 rfl) rfl
theorem q746 : (Jvm.Cond.lays "HullBuilderModel" "HullBuilderModel" "ty" "J") ∈ lw_all := lw_g (lw_at lw_m3 231 rfl) rfl
theorem q747 : (Jvm.Cond.soleField "HullBuilderModel" "ty") ∈ lw_all := lw_g (lw_at lw_m3 232 rfl) rfl
theorem q748 : (Jvm.Cond.lays "HullBuilderModel" "HullBuilderModel" "tz" "J") ∈ lw_all := lw_g (lw_at lw_m3 233 rfl) rfl
theorem q749 : (Jvm.Cond.soleField "HullBuilderModel" "tz") ∈ lw_all := lw_g (lw_at lw_m3 234 rfl) rfl
theorem q750 : (Jvm.Cond.laysFinal "HullBuilderModel" "HullBuilderModel" "far" "[I") ∈ lw_all := lw_g (lw_at lw_m3 235 rfl) rfl
theorem q751 : (Jvm.Cond.soleField "HullBuilderModel" "far") ∈ lw_all := lw_g (lw_at lw_m3 236 rfl) rfl
theorem q752 : (Jvm.Cond.superclass "HullBuilderModel" "java/lang/Object") ∈ lw_all := lw_g (lw_at lw_m3 237 rfl) rfl
theorem q755 : (Jvm.Cond.instanceMethod ({ cls := "HullBuilderModel", name := "thrown", desc := "()I" } : Jvm.MethodName)) ∈ lw_all := lw_g (lw_at lw_m4 0 rfl) rfl
theorem q756 : (Jvm.Cond.selects "HullBuilderModel" ({ cls := "HullBuilderModel", name := "thrown", desc := "()I" } : Jvm.MethodName) ({ cls := "HullBuilderModel", name := "thrown", desc := "()I" } : Jvm.MethodName)) ∈ lw_all := lw_g (lw_at lw_m4 1 rfl) rfl
theorem q757 : (Jvm.Cond.code ({ cls := "HullBuilderModel", name := "thrown", desc := "()I" } : Jvm.MethodName) prog_9_method_2_code (1 : Nat) (Option.some Jvm.ClassFile.FieldType.int)) ∈ lw_all := lw_g (lw_at lw_m4 2 rfl) rfl
theorem q759 : (Jvm.Cond.instanceMethod ({ cls := "HullBuilderModel", name := "point", desc := "(III)I" } : Jvm.MethodName)) ∈ lw_all := lw_g (lw_at lw_m4 4 rfl) rfl
theorem q760 : (Jvm.Cond.selects "HullBuilderModel" ({ cls := "HullBuilderModel", name := "point", desc := "(III)I" } : Jvm.MethodName) ({ cls := "HullBuilderModel", name := "point", desc := "(III)I" } : Jvm.MethodName)) ∈ lw_all := lw_g (lw_at lw_m4 5 rfl) rfl
theorem q761 : (Jvm.Cond.code ({ cls := "HullBuilderModel", name := "point", desc := "(III)I" } : Jvm.MethodName) prog_9_method_6_code (5 : Nat) (Option.some Jvm.ClassFile.FieldType.int)) ∈ lw_all := lw_g (lw_at lw_m4 6 rfl) rfl
theorem q762 : (Jvm.Cond.methodLink "HullBuilderModel" (69 : Nat) ({ cls := "HullBuilderModel", name := "within", desc := "(II)Z" } : Jvm.MethodName)) ∈ lw_all := lw_g (lw_at lw_m4 7 rfl) rfl
theorem q763 : (Jvm.Cond.static ({ cls := "HullBuilderModel", name := "within", desc := "(II)Z" } : Jvm.MethodName)) ∈ lw_all := lw_g (lw_at lw_m4 8 rfl) rfl
theorem q764 : (Jvm.Cond.code ({ cls := "HullBuilderModel", name := "within", desc := "(II)Z" } : Jvm.MethodName) prog_9_method_4_code (2 : Nat) (Option.some Jvm.ClassFile.FieldType.boolean)) ∈ lw_all := lw_g (lw_at lw_m4 9 rfl) rfl
theorem q765 : (Jvm.Cond.methodLink "HullBuilderModel" (73 : Nat) ({ cls := "HullBuilderModel", name := "taken", desc := "(III)Z" } : Jvm.MethodName)) ∈ lw_all := lw_g (lw_at lw_m4 10 rfl) rfl
theorem q766 : (Jvm.Cond.privateMethod ({ cls := "HullBuilderModel", name := "taken", desc := "(III)Z" } : Jvm.MethodName)) ∈ lw_tbl := lw_at lw_m4 11 rfl
theorem q767 : (Jvm.Cond.instanceMethod ({ cls := "HullBuilderModel", name := "taken", desc := "(III)Z" } : Jvm.MethodName)) ∈ lw_all := lw_g (lw_at lw_m4 12 rfl) rfl
theorem q768 : (Jvm.Cond.code ({ cls := "HullBuilderModel", name := "taken", desc := "(III)Z" } : Jvm.MethodName) prog_9_method_5_code (6 : Nat) (Option.some Jvm.ClassFile.FieldType.boolean)) ∈ lw_all := lw_g (lw_at lw_m4 13 rfl) rfl
theorem q769 : (Jvm.Cond.methodLink "HullBuilderModel" (77 : Nat) ({ cls := "HullBuilderModel", name := "goes", desc := "(ZZ)Z" } : Jvm.MethodName)) ∈ lw_all := lw_g (lw_at lw_m4 14 rfl) rfl
theorem q770 : (Jvm.Cond.privateMethod ({ cls := "HullBuilderModel", name := "goes", desc := "(ZZ)Z" } : Jvm.MethodName)) ∈ lw_tbl := lw_at lw_m4 15 rfl
theorem q771 : (Jvm.Cond.instanceMethod ({ cls := "HullBuilderModel", name := "goes", desc := "(ZZ)Z" } : Jvm.MethodName)) ∈ lw_all := lw_g (lw_at lw_m4 16 rfl) rfl
theorem q772 : (Jvm.Cond.code ({ cls := "HullBuilderModel", name := "goes", desc := "(ZZ)Z" } : Jvm.MethodName) prog_9_method_3_code (3 : Nat) (Option.some Jvm.ClassFile.FieldType.boolean)) ∈ lw_all := lw_g (lw_at lw_m4 17 rfl) rfl
theorem q774 : (Jvm.Cond.instanceMethod ({ cls := "HullBuilderModel", name := "take", desc := "(I)I" } : Jvm.MethodName)) ∈ lw_all := lw_g (lw_at lw_m4 19 rfl) rfl
theorem q775 : (Jvm.Cond.selects "HullBuilderModel" ({ cls := "HullBuilderModel", name := "take", desc := "(I)I" } : Jvm.MethodName) ({ cls := "HullBuilderModel", name := "take", desc := "(I)I" } : Jvm.MethodName)) ∈ lw_all := lw_g (lw_at lw_m4 20 rfl) rfl
theorem q776 : (Jvm.Cond.code ({ cls := "HullBuilderModel", name := "take", desc := "(I)I" } : Jvm.MethodName) prog_9_method_7_code (3 : Nat) (Option.some Jvm.ClassFile.FieldType.int)) ∈ lw_all := lw_g (lw_at lw_m4 21 rfl) rfl
theorem q778 : (Jvm.Cond.instanceMethod ({ cls := "HullBuilderModel", name := "build", desc := "()I" } : Jvm.MethodName)) ∈ lw_all := lw_g (lw_at lw_m4 23 rfl) rfl
theorem q779 : (Jvm.Cond.selects "HullBuilderModel" ({ cls := "HullBuilderModel", name := "build", desc := "()I" } : Jvm.MethodName) ({ cls := "HullBuilderModel", name := "build", desc := "()I" } : Jvm.MethodName)) ∈ lw_all := lw_g (lw_at lw_m4 24 rfl) rfl
theorem q780 : (Jvm.Cond.code ({ cls := "HullBuilderModel", name := "build", desc := "()I" } : Jvm.MethodName) prog_9_method_24_code (5 : Nat) (Option.some Jvm.ClassFile.FieldType.int)) ∈ lw_all := lw_g (lw_at lw_m4 25 rfl) rfl
theorem q781 : (Jvm.Cond.methodLink "HullBuilderModel" (142 : Nat) ({ cls := "HullBuilderModel", name := "solid", desc := "()Z" } : Jvm.MethodName)) ∈ lw_all := lw_g (lw_at lw_m4 26 rfl) rfl
theorem q782 : (Jvm.Cond.privateMethod ({ cls := "HullBuilderModel", name := "solid", desc := "()Z" } : Jvm.MethodName)) ∈ lw_tbl := lw_at lw_m4 27 rfl
theorem q783 : (Jvm.Cond.instanceMethod ({ cls := "HullBuilderModel", name := "solid", desc := "()Z" } : Jvm.MethodName)) ∈ lw_all := lw_g (lw_at lw_m4 28 rfl) rfl
theorem q784 : (Jvm.Cond.code ({ cls := "HullBuilderModel", name := "solid", desc := "()Z" } : Jvm.MethodName) prog_9_method_22_code (6 : Nat) (Option.some Jvm.ClassFile.FieldType.boolean)) ∈ lw_all := lw_g (lw_at lw_m4 29 rfl) rfl
theorem q785 : (Jvm.Cond.methodLink "HullBuilderModel" (138 : Nat) ({ cls := "HullBuilderModel", name := "volumeOf", desc := "(IIII)J" } : Jvm.MethodName)) ∈ lw_all := lw_g (lw_at lw_m4 30 rfl) rfl
theorem q786 : (Jvm.Cond.privateMethod ({ cls := "HullBuilderModel", name := "volumeOf", desc := "(IIII)J" } : Jvm.MethodName)) ∈ lw_tbl := lw_at lw_m4 31 rfl
theorem q787 : (Jvm.Cond.instanceMethod ({ cls := "HullBuilderModel", name := "volumeOf", desc := "(IIII)J" } : Jvm.MethodName)) ∈ lw_all := lw_g (lw_at lw_m4 32 rfl) rfl
theorem q788 : (Jvm.Cond.code ({ cls := "HullBuilderModel", name := "volumeOf", desc := "(IIII)J" } : Jvm.MethodName) prog_9_method_23_code (23 : Nat) (Option.some Jvm.ClassFile.FieldType.long)) ∈ lw_all := lw_g (lw_at lw_m4 33 rfl) rfl
theorem q789 : (Jvm.Cond.methodLink "HullBuilderModel" (146 : Nat) ({ cls := "HullBuilderModel", name := "tries", desc := "(III)Z" } : Jvm.MethodName)) ∈ lw_all := lw_g (lw_at lw_m4 34 rfl) rfl
theorem q790 : (Jvm.Cond.privateMethod ({ cls := "HullBuilderModel", name := "tries", desc := "(III)Z" } : Jvm.MethodName)) ∈ lw_tbl := lw_at lw_m4 35 rfl
theorem q791 : (Jvm.Cond.instanceMethod ({ cls := "HullBuilderModel", name := "tries", desc := "(III)Z" } : Jvm.MethodName)) ∈ lw_all := lw_g (lw_at lw_m4 36 rfl) rfl
theorem q792 : (Jvm.Cond.code ({ cls := "HullBuilderModel", name := "tries", desc := "(III)Z" } : Jvm.MethodName) prog_9_method_12_code (10 : Nat) (Option.some Jvm.ClassFile.FieldType.boolean)) ∈ lw_all := lw_g (lw_at lw_m4 37 rfl) rfl
theorem q793 : (Jvm.Cond.methodLink "HullBuilderModel" (94 : Nat) ({ cls := "HullBuilderModel", name := "across", desc := "(III)V" } : Jvm.MethodName)) ∈ lw_all := lw_g (lw_at lw_m4 38 rfl) rfl
theorem q794 : (Jvm.Cond.privateMethod ({ cls := "HullBuilderModel", name := "across", desc := "(III)V" } : Jvm.MethodName)) ∈ lw_tbl := lw_at lw_m4 39 rfl
theorem q795 : (Jvm.Cond.instanceMethod ({ cls := "HullBuilderModel", name := "across", desc := "(III)V" } : Jvm.MethodName)) ∈ lw_all := lw_g (lw_at lw_m4 40 rfl) rfl
theorem q796 : (Jvm.Cond.code ({ cls := "HullBuilderModel", name := "across", desc := "(III)V" } : Jvm.MethodName) prog_9_method_8_code (16 : Nat) (Option.none : Option Jvm.ClassFile.FieldType)) ∈ lw_all := lw_g (lw_at lw_m4 41 rfl) rfl
theorem q797 : (Jvm.Cond.methodLink "HullBuilderModel" (101 : Nat) ({ cls := "HullBuilderModel", name := "above", desc := "(II)J" } : Jvm.MethodName)) ∈ lw_all := lw_g (lw_at lw_m4 42 rfl) rfl
theorem q798 : (Jvm.Cond.privateMethod ({ cls := "HullBuilderModel", name := "above", desc := "(II)J" } : Jvm.MethodName)) ∈ lw_tbl := lw_at lw_m4 43 rfl
theorem q799 : (Jvm.Cond.instanceMethod ({ cls := "HullBuilderModel", name := "above", desc := "(II)J" } : Jvm.MethodName)) ∈ lw_all := lw_g (lw_at lw_m4 44 rfl) rfl
theorem q800 : (Jvm.Cond.code ({ cls := "HullBuilderModel", name := "above", desc := "(II)J" } : Jvm.MethodName) prog_9_method_9_code (3 : Nat) (Option.some Jvm.ClassFile.FieldType.long)) ∈ lw_all := lw_g (lw_at lw_m4 45 rfl) rfl
theorem q801 : (Jvm.Cond.constantLong "HullBuilderModel" (105 : Nat) (-1 : Int64)) ∈ lw_all := lw_g (lw_at lw_m4 46 rfl) rfl
theorem q802 : (Jvm.Cond.methodLink "HullBuilderModel" (107 : Nat) ({ cls := "HullBuilderModel", name := "common", desc := "(JJ)J" } : Jvm.MethodName)) ∈ lw_all := lw_g (lw_at lw_m4 47 rfl) rfl
theorem q803 : (Jvm.Cond.static ({ cls := "HullBuilderModel", name := "common", desc := "(JJ)J" } : Jvm.MethodName)) ∈ lw_all := lw_g (lw_at lw_m4 48 rfl) rfl
theorem q804 : (Jvm.Cond.code ({ cls := "HullBuilderModel", name := "common", desc := "(JJ)J" } : Jvm.MethodName) prog_9_method_10_code (11 : Nat) (Option.some Jvm.ClassFile.FieldType.long)) ∈ lw_all := lw_g (lw_at lw_m4 49 rfl) rfl
theorem q805 : (Jvm.Cond.methodLink "HullBuilderModel" (111 : Nat) ({ cls := "HullBuilderModel", name := "addFace", desc := "(J)V" } : Jvm.MethodName)) ∈ lw_all := lw_g (lw_at lw_m4 50 rfl) rfl
theorem q806 : (Jvm.Cond.privateMethod ({ cls := "HullBuilderModel", name := "addFace", desc := "(J)V" } : Jvm.MethodName)) ∈ lw_tbl := lw_at lw_m4 51 rfl
theorem q807 : (Jvm.Cond.instanceMethod ({ cls := "HullBuilderModel", name := "addFace", desc := "(J)V" } : Jvm.MethodName)) ∈ lw_all := lw_g (lw_at lw_m4 52 rfl) rfl
theorem q808 : (Jvm.Cond.code ({ cls := "HullBuilderModel", name := "addFace", desc := "(J)V" } : Jvm.MethodName) prog_9_method_13_code (3 : Nat) (Option.none : Option Jvm.ClassFile.FieldType)) ∈ lw_all := lw_g (lw_at lw_m4 53 rfl) rfl
theorem q809 : (Jvm.Cond.methodLink "HullBuilderModel" (115 : Nat) ({ cls := "HullBuilderModel", name := "knownFace", desc := "(J)Z" } : Jvm.MethodName)) ∈ lw_all := lw_g (lw_at lw_m4 54 rfl) rfl
theorem q810 : (Jvm.Cond.privateMethod ({ cls := "HullBuilderModel", name := "knownFace", desc := "(J)Z" } : Jvm.MethodName)) ∈ lw_tbl := lw_at lw_m4 55 rfl
theorem q811 : (Jvm.Cond.instanceMethod ({ cls := "HullBuilderModel", name := "knownFace", desc := "(J)Z" } : Jvm.MethodName)) ∈ lw_all := lw_g (lw_at lw_m4 56 rfl) rfl
theorem q812 : (Jvm.Cond.code ({ cls := "HullBuilderModel", name := "knownFace", desc := "(J)Z" } : Jvm.MethodName) prog_9_method_11_code (5 : Nat) (Option.some Jvm.ClassFile.FieldType.boolean)) ∈ lw_all := lw_g (lw_at lw_m4 57 rfl) rfl
theorem q813 : (Jvm.Cond.methodLink "HullBuilderModel" (149 : Nat) ({ cls := "HullBuilderModel", name := "walk", desc := "(I)V" } : Jvm.MethodName)) ∈ lw_all := lw_g (lw_at lw_m4 58 rfl) rfl
theorem q814 : (Jvm.Cond.privateMethod ({ cls := "HullBuilderModel", name := "walk", desc := "(I)V" } : Jvm.MethodName)) ∈ lw_tbl := lw_at lw_m4 59 rfl
theorem q815 : (Jvm.Cond.instanceMethod ({ cls := "HullBuilderModel", name := "walk", desc := "(I)V" } : Jvm.MethodName)) ∈ lw_all := lw_g (lw_at lw_m4 60 rfl) rfl
theorem q816 : (Jvm.Cond.code ({ cls := "HullBuilderModel", name := "walk", desc := "(I)V" } : Jvm.MethodName) prog_9_method_17_code (6 : Nat) (Option.none : Option Jvm.ClassFile.FieldType)) ∈ lw_all := lw_g (lw_at lw_m4 61 rfl) rfl
theorem q817 : (Jvm.Cond.methodLink "HullBuilderModel" (119 : Nat) ({ cls := "HullBuilderModel", name := "in", desc := "(II)Z" } : Jvm.MethodName)) ∈ lw_all := lw_g (lw_at lw_m4 62 rfl) rfl
theorem q818 : (Jvm.Cond.privateMethod ({ cls := "HullBuilderModel", name := "in", desc := "(II)Z" } : Jvm.MethodName)) ∈ lw_tbl := lw_at lw_m4 63 rfl
theorem q819 : (Jvm.Cond.instanceMethod ({ cls := "HullBuilderModel", name := "in", desc := "(II)Z" } : Jvm.MethodName)) ∈ lw_all := lw_g (lw_at lw_m4 64 rfl) rfl
theorem q820 : (Jvm.Cond.code ({ cls := "HullBuilderModel", name := "in", desc := "(II)Z" } : Jvm.MethodName) prog_9_method_14_code (3 : Nat) (Option.some Jvm.ClassFile.FieldType.boolean)) ∈ lw_all := lw_g (lw_at lw_m4 65 rfl) rfl
theorem q821 : (Jvm.Cond.methodLink "HullBuilderModel" (125 : Nat) ({ cls := "HullBuilderModel", name := "behind", desc := "(II)I" } : Jvm.MethodName)) ∈ lw_all := lw_g (lw_at lw_m4 66 rfl) rfl
theorem q822 : (Jvm.Cond.privateMethod ({ cls := "HullBuilderModel", name := "behind", desc := "(II)I" } : Jvm.MethodName)) ∈ lw_tbl := lw_at lw_m4 67 rfl
theorem q823 : (Jvm.Cond.instanceMethod ({ cls := "HullBuilderModel", name := "behind", desc := "(II)I" } : Jvm.MethodName)) ∈ lw_all := lw_g (lw_at lw_m4 68 rfl) rfl
theorem q824 : (Jvm.Cond.code ({ cls := "HullBuilderModel", name := "behind", desc := "(II)I" } : Jvm.MethodName) prog_9_method_16_code (4 : Nat) (Option.some Jvm.ClassFile.FieldType.int)) ∈ lw_all := lw_g (lw_at lw_m4 69 rfl) rfl
theorem q825 : (Jvm.Cond.methodLink "HullBuilderModel" (122 : Nat) ({ cls := "HullBuilderModel", name := "goesOn", desc := "(III)Z" } : Jvm.MethodName)) ∈ lw_all := lw_g (lw_at lw_m4 70 rfl) rfl
theorem q826 : (Jvm.Cond.privateMethod ({ cls := "HullBuilderModel", name := "goesOn", desc := "(III)Z" } : Jvm.MethodName)) ∈ lw_tbl := lw_at lw_m4 71 rfl
theorem q827 : (Jvm.Cond.instanceMethod ({ cls := "HullBuilderModel", name := "goesOn", desc := "(III)Z" } : Jvm.MethodName)) ∈ lw_all := lw_g (lw_at lw_m4 72 rfl) rfl
theorem q828 : (Jvm.Cond.code ({ cls := "HullBuilderModel", name := "goesOn", desc := "(III)Z" } : Jvm.MethodName) prog_9_method_15_code (10 : Nat) (Option.some Jvm.ClassFile.FieldType.boolean)) ∈ lw_all := lw_g (lw_at lw_m4 73 rfl) rfl
theorem q829 : (Jvm.Cond.methodLink "HullBuilderModel" (153 : Nat) ({ cls := "HullBuilderModel", name := "orderFaces", desc := "()V" } : Jvm.MethodName)) ∈ lw_all := lw_g (lw_at lw_m4 74 rfl) rfl
theorem q830 : (Jvm.Cond.privateMethod ({ cls := "HullBuilderModel", name := "orderFaces", desc := "()V" } : Jvm.MethodName)) ∈ lw_tbl := lw_at lw_m4 75 rfl
theorem q831 : (Jvm.Cond.instanceMethod ({ cls := "HullBuilderModel", name := "orderFaces", desc := "()V" } : Jvm.MethodName)) ∈ lw_all := lw_g (lw_at lw_m4 76 rfl) rfl
theorem q832 : (Jvm.Cond.code ({ cls := "HullBuilderModel", name := "orderFaces", desc := "()V" } : Jvm.MethodName) prog_9_method_19_code (3 : Nat) (Option.none : Option Jvm.ClassFile.FieldType)) ∈ lw_all := lw_g (lw_at lw_m4 77 rfl) rfl
theorem q833 : (Jvm.Cond.methodLink "HullBuilderModel" (129 : Nat) ({ cls := "HullBuilderModel", name := "earlier", desc := "(II)Z" } : Jvm.MethodName)) ∈ lw_all := lw_g (lw_at lw_m4 78 rfl) rfl
theorem q834 : (Jvm.Cond.privateMethod ({ cls := "HullBuilderModel", name := "earlier", desc := "(II)Z" } : Jvm.MethodName)) ∈ lw_tbl := lw_at lw_m4 79 rfl
theorem q835 : (Jvm.Cond.instanceMethod ({ cls := "HullBuilderModel", name := "earlier", desc := "(II)Z" } : Jvm.MethodName)) ∈ lw_all := lw_g (lw_at lw_m4 80 rfl) rfl
theorem q836 : (Jvm.Cond.code ({ cls := "HullBuilderModel", name := "earlier", desc := "(II)Z" } : Jvm.MethodName) prog_9_method_18_code (5 : Nat) (Option.some Jvm.ClassFile.FieldType.boolean)) ∈ lw_all := lw_g (lw_at lw_m4 81 rfl) rfl
theorem q837 : (Jvm.Cond.methodLink "HullBuilderModel" (156 : Nat) ({ cls := "HullBuilderModel", name := "findEdges", desc := "()V" } : Jvm.MethodName)) ∈ lw_all := lw_g (lw_at lw_m4 82 rfl) rfl
theorem q838 : (Jvm.Cond.privateMethod ({ cls := "HullBuilderModel", name := "findEdges", desc := "()V" } : Jvm.MethodName)) ∈ lw_tbl := lw_at lw_m4 83 rfl
theorem q839 : (Jvm.Cond.instanceMethod ({ cls := "HullBuilderModel", name := "findEdges", desc := "()V" } : Jvm.MethodName)) ∈ lw_all := lw_g (lw_at lw_m4 84 rfl) rfl
theorem q840 : (Jvm.Cond.code ({ cls := "HullBuilderModel", name := "findEdges", desc := "()V" } : Jvm.MethodName) prog_9_method_21_code (4 : Nat) (Option.none : Option Jvm.ClassFile.FieldType)) ∈ lw_all := lw_g (lw_at lw_m4 85 rfl) rfl
theorem q841 : (Jvm.Cond.methodLink "HullBuilderModel" (135 : Nat) ({ cls := "HullBuilderModel", name := "faceFrom", desc := "(II)I" } : Jvm.MethodName)) ∈ lw_all := lw_g (lw_at lw_m4 86 rfl) rfl
theorem q842 : (Jvm.Cond.privateMethod ({ cls := "HullBuilderModel", name := "faceFrom", desc := "(II)I" } : Jvm.MethodName)) ∈ lw_tbl := lw_at lw_m4 87 rfl
theorem q843 : (Jvm.Cond.instanceMethod ({ cls := "HullBuilderModel", name := "faceFrom", desc := "(II)I" } : Jvm.MethodName)) ∈ lw_all := lw_g (lw_at lw_m4 88 rfl) rfl
theorem q844 : (Jvm.Cond.code ({ cls := "HullBuilderModel", name := "faceFrom", desc := "(II)I" } : Jvm.MethodName) prog_9_method_20_code (8 : Nat) (Option.some Jvm.ClassFile.FieldType.int)) ∈ lw_all := lw_g (lw_at lw_m4 89 rfl) rfl
theorem q846 : (Jvm.Cond.instanceMethod ({ cls := "HullBuilderModel", name := "of", desc := "(II)I" } : Jvm.MethodName)) ∈ lw_all := lw_g (lw_at lw_m4 91 rfl) rfl
theorem q847 : (Jvm.Cond.selects "HullBuilderModel" ({ cls := "HullBuilderModel", name := "of", desc := "(II)I" } : Jvm.MethodName) ({ cls := "HullBuilderModel", name := "of", desc := "(II)I" } : Jvm.MethodName)) ∈ lw_all := lw_g (lw_at lw_m4 92 rfl) rfl
theorem q848 : (Jvm.Cond.code ({ cls := "HullBuilderModel", name := "of", desc := "(II)I" } : Jvm.MethodName) prog_9_method_25_code (3 : Nat) (Option.some Jvm.ClassFile.FieldType.int)) ∈ lw_all := lw_g (lw_at lw_m4 93 rfl) rfl
theorem q850 : (Jvm.Cond.instanceMethod ({ cls := "HullBuilderModel", name := "face", desc := "(II)I" } : Jvm.MethodName)) ∈ lw_all := lw_g (lw_at lw_m4 95 rfl) rfl
theorem q851 : (Jvm.Cond.selects "HullBuilderModel" ({ cls := "HullBuilderModel", name := "face", desc := "(II)I" } : Jvm.MethodName) ({ cls := "HullBuilderModel", name := "face", desc := "(II)I" } : Jvm.MethodName)) ∈ lw_all := lw_g (lw_at lw_m4 96 rfl) rfl
theorem q852 : (Jvm.Cond.code ({ cls := "HullBuilderModel", name := "face", desc := "(II)I" } : Jvm.MethodName) prog_9_method_27_code (4 : Nat) (Option.some Jvm.ClassFile.FieldType.int)) ∈ lw_all := lw_g (lw_at lw_m4 97 rfl) rfl
theorem q853 : (Jvm.Cond.methodLink "HullBuilderModel" (166 : Nat) ({ cls := "HullBuilderModel", name := "there", desc := "(I)Z" } : Jvm.MethodName)) ∈ lw_all := lw_g (lw_at lw_m4 98 rfl) rfl
theorem q854 : (Jvm.Cond.privateMethod ({ cls := "HullBuilderModel", name := "there", desc := "(I)Z" } : Jvm.MethodName)) ∈ lw_tbl := lw_at lw_m4 99 rfl
theorem q855 : (Jvm.Cond.instanceMethod ({ cls := "HullBuilderModel", name := "there", desc := "(I)Z" } : Jvm.MethodName)) ∈ lw_all := lw_g (lw_at lw_m4 100 rfl) rfl
theorem q856 : (Jvm.Cond.code ({ cls := "HullBuilderModel", name := "there", desc := "(I)Z" } : Jvm.MethodName) prog_9_method_26_code (2 : Nat) (Option.some Jvm.ClassFile.FieldType.boolean)) ∈ lw_all := lw_g (lw_at lw_m4 101 rfl) rfl
theorem q858 : (Jvm.Cond.instanceMethod ({ cls := "HullBuilderModel", name := "offset", desc := "(I)J" } : Jvm.MethodName)) ∈ lw_all := lw_g (lw_at lw_m4 103 rfl) rfl
theorem q859 : (Jvm.Cond.selects "HullBuilderModel" ({ cls := "HullBuilderModel", name := "offset", desc := "(I)J" } : Jvm.MethodName) ({ cls := "HullBuilderModel", name := "offset", desc := "(I)J" } : Jvm.MethodName)) ∈ lw_all := lw_g (lw_at lw_m4 104 rfl) rfl
theorem q860 : (Jvm.Cond.code ({ cls := "HullBuilderModel", name := "offset", desc := "(I)J" } : Jvm.MethodName) prog_9_method_28_code (2 : Nat) (Option.some Jvm.ClassFile.FieldType.long)) ∈ lw_all := lw_g (lw_at lw_m4 105 rfl) rfl
theorem q862 : (Jvm.Cond.instanceMethod ({ cls := "HullBuilderModel", name := "corner", desc := "(II)I" } : Jvm.MethodName)) ∈ lw_all := lw_g (lw_at lw_m4 107 rfl) rfl
theorem q863 : (Jvm.Cond.selects "HullBuilderModel" ({ cls := "HullBuilderModel", name := "corner", desc := "(II)I" } : Jvm.MethodName) ({ cls := "HullBuilderModel", name := "corner", desc := "(II)I" } : Jvm.MethodName)) ∈ lw_all := lw_g (lw_at lw_m4 108 rfl) rfl
theorem q864 : (Jvm.Cond.code ({ cls := "HullBuilderModel", name := "corner", desc := "(II)I" } : Jvm.MethodName) prog_9_method_29_code (3 : Nat) (Option.some Jvm.ClassFile.FieldType.int)) ∈ lw_all := lw_g (lw_at lw_m4 109 rfl) rfl
theorem q866 : (Jvm.Cond.instanceMethod ({ cls := "HullBuilderModel", name := "edge", desc := "(II)I" } : Jvm.MethodName)) ∈ lw_all := lw_g (lw_at lw_m4 111 rfl) rfl
theorem q867 : (Jvm.Cond.selects "HullBuilderModel" ({ cls := "HullBuilderModel", name := "edge", desc := "(II)I" } : Jvm.MethodName) ({ cls := "HullBuilderModel", name := "edge", desc := "(II)I" } : Jvm.MethodName)) ∈ lw_all := lw_g (lw_at lw_m4 112 rfl) rfl
theorem q868 : (Jvm.Cond.code ({ cls := "HullBuilderModel", name := "edge", desc := "(II)I" } : Jvm.MethodName) prog_9_method_30_code (3 : Nat) (Option.some Jvm.ClassFile.FieldType.int)) ∈ lw_all := lw_g (lw_at lw_m4 113 rfl) rfl
theorem q870 : (Jvm.Cond.instanceMethod ({ cls := "HullBuilderModel", name := "support", desc := "(III)I" } : Jvm.MethodName)) ∈ lw_all := lw_g (lw_at lw_m4 115 rfl) rfl
theorem q871 : (Jvm.Cond.selects "HullBuilderModel" ({ cls := "HullBuilderModel", name := "support", desc := "(III)I" } : Jvm.MethodName) ({ cls := "HullBuilderModel", name := "support", desc := "(III)I" } : Jvm.MethodName)) ∈ lw_all := lw_g (lw_at lw_m4 116 rfl) rfl
theorem q872 : (Jvm.Cond.code ({ cls := "HullBuilderModel", name := "support", desc := "(III)I" } : Jvm.MethodName) prog_9_method_32_code (10 : Nat) (Option.some Jvm.ClassFile.FieldType.int)) ∈ lw_all := lw_g (lw_at lw_m4 117 rfl) rfl
theorem q873 : (Jvm.Cond.constant "HullBuilderModel" (170 : Nat) (65536 : Int32)) ∈ lw_all := lw_g (lw_at lw_m4 118 rfl) rfl
theorem q874 : (Jvm.Cond.methodLink "HullBuilderModel" (171 : Nat) ({ cls := "HullBuilderModel", name := "isCorner", desc := "(I)Z" } : Jvm.MethodName)) ∈ lw_all := lw_g (lw_at lw_m4 119 rfl) rfl
theorem q875 : (Jvm.Cond.privateMethod ({ cls := "HullBuilderModel", name := "isCorner", desc := "(I)Z" } : Jvm.MethodName)) ∈ lw_tbl := lw_at lw_m4 120 rfl
theorem q876 : (Jvm.Cond.instanceMethod ({ cls := "HullBuilderModel", name := "isCorner", desc := "(I)Z" } : Jvm.MethodName)) ∈ lw_all := lw_g (lw_at lw_m4 121 rfl) rfl
theorem q877 : (Jvm.Cond.code ({ cls := "HullBuilderModel", name := "isCorner", desc := "(I)Z" } : Jvm.MethodName) prog_9_method_31_code (4 : Nat) (Option.some Jvm.ClassFile.FieldType.boolean)) ∈ lw_all := lw_g (lw_at lw_m4 122 rfl) rfl
theorem q879 : (Jvm.Cond.instanceMethod ({ cls := "HullBuilderModel", name := "steps", desc := "(II)I" } : Jvm.MethodName)) ∈ lw_all := lw_g (lw_at lw_m4 124 rfl) rfl
theorem q880 : (Jvm.Cond.selects "HullBuilderModel" ({ cls := "HullBuilderModel", name := "steps", desc := "(II)I" } : Jvm.MethodName) ({ cls := "HullBuilderModel", name := "steps", desc := "(II)I" } : Jvm.MethodName)) ∈ lw_all := lw_g (lw_at lw_m4 125 rfl) rfl
theorem q881 : (Jvm.Cond.code ({ cls := "HullBuilderModel", name := "steps", desc := "(II)I" } : Jvm.MethodName) prog_9_method_33_code (8 : Nat) (Option.some Jvm.ClassFile.FieldType.int)) ∈ lw_all := lw_g (lw_at lw_m4 126 rfl) rfl
theorem q883 : (Jvm.Cond.instanceMethod ({ cls := "HullBuilderModel", name := "side", desc := "(III)I" } : Jvm.MethodName)) ∈ lw_all := lw_g (lw_at lw_m4 128 rfl) rfl
theorem q884 : (Jvm.Cond.selects "HullBuilderModel" ({ cls := "HullBuilderModel", name := "side", desc := "(III)I" } : Jvm.MethodName) ({ cls := "HullBuilderModel", name := "side", desc := "(III)I" } : Jvm.MethodName)) ∈ lw_all := lw_g (lw_at lw_m4 129 rfl) rfl
theorem q885 : (Jvm.Cond.code ({ cls := "HullBuilderModel", name := "side", desc := "(III)I" } : Jvm.MethodName) prog_9_method_34_code (8 : Nat) (Option.some Jvm.ClassFile.FieldType.int)) ∈ lw_all := lw_g (lw_at lw_m4 130 rfl) rfl
theorem q887 : (Jvm.Cond.instanceMethod ({ cls := "HullBuilderModel", name := "volume", desc := "()J" } : Jvm.MethodName)) ∈ lw_all := lw_g (lw_at lw_m4 132 rfl) rfl
theorem q888 : (Jvm.Cond.selects "HullBuilderModel" ({ cls := "HullBuilderModel", name := "volume", desc := "()J" } : Jvm.MethodName) ({ cls := "HullBuilderModel", name := "volume", desc := "()J" } : Jvm.MethodName)) ∈ lw_all := lw_g (lw_at lw_m4 133 rfl) rfl
theorem q889 : (Jvm.Cond.code ({ cls := "HullBuilderModel", name := "volume", desc := "()J" } : Jvm.MethodName) prog_9_method_36_code (1 : Nat) (Option.some Jvm.ClassFile.FieldType.long)) ∈ lw_all := lw_g (lw_at lw_m4 134 rfl) rfl
theorem q890 : (Jvm.Cond.methodLink "HullBuilderModel" (174 : Nat) ({ cls := "HullBuilderModel", name := "sum", desc := "(I)J" } : Jvm.MethodName)) ∈ lw_all := lw_g (lw_at lw_m4 135 rfl) rfl
theorem q891 : (Jvm.Cond.privateMethod ({ cls := "HullBuilderModel", name := "sum", desc := "(I)J" } : Jvm.MethodName)) ∈ lw_tbl := lw_at lw_m4 136 rfl
theorem q892 : (Jvm.Cond.instanceMethod ({ cls := "HullBuilderModel", name := "sum", desc := "(I)J" } : Jvm.MethodName)) ∈ lw_all := lw_g (lw_at lw_m4 137 rfl) rfl
theorem q893 : (Jvm.Cond.code ({ cls := "HullBuilderModel", name := "sum", desc := "(I)J" } : Jvm.MethodName) prog_9_method_35_code (13 : Nat) (Option.some Jvm.ClassFile.FieldType.long)) ∈ lw_all := lw_g (lw_at lw_m4 138 rfl) rfl
theorem q895 : (Jvm.Cond.instanceMethod ({ cls := "HullBuilderModel", name := "centre", desc := "(I)J" } : Jvm.MethodName)) ∈ lw_all := lw_g (lw_at lw_m4 140 rfl) rfl
theorem q896 : (Jvm.Cond.selects "HullBuilderModel" ({ cls := "HullBuilderModel", name := "centre", desc := "(I)J" } : Jvm.MethodName) ({ cls := "HullBuilderModel", name := "centre", desc := "(I)J" } : Jvm.MethodName)) ∈ lw_all := lw_g (lw_at lw_m4 141 rfl) rfl
theorem q897 : (Jvm.Cond.code ({ cls := "HullBuilderModel", name := "centre", desc := "(I)J" } : Jvm.MethodName) prog_9_method_37_code (2 : Nat) (Option.some Jvm.ClassFile.FieldType.long)) ∈ lw_all := lw_g (lw_at lw_m4 142 rfl) rfl
theorem q899 : (Jvm.Cond.instanceMethod ({ cls := "HullBuilderModel", name := "middle", desc := "(I)D" } : Jvm.MethodName)) ∈ lw_all := lw_g (lw_at lw_m4 144 rfl) rfl
theorem q900 : (Jvm.Cond.selects "HullBuilderModel" ({ cls := "HullBuilderModel", name := "middle", desc := "(I)D" } : Jvm.MethodName) ({ cls := "HullBuilderModel", name := "middle", desc := "(I)D" } : Jvm.MethodName)) ∈ lw_all := lw_g (lw_at lw_m4 145 rfl) rfl
theorem q901 : (Jvm.Cond.code ({ cls := "HullBuilderModel", name := "middle", desc := "(I)D" } : Jvm.MethodName) prog_9_method_38_code (6 : Nat) (Option.some Jvm.ClassFile.FieldType.double)) ∈ lw_all := lw_g (lw_at lw_m4 146 rfl) rfl
theorem q902 : (Jvm.Cond.constantLong "HullBuilderModel" (178 : Nat) (4 : Int64)) ∈ lw_all := lw_g (lw_at lw_m4 147 rfl) rfl
theorem q904 : (Jvm.Cond.instanceMethod ({ cls := "HullBuilderModel", name := "count", desc := "(I)I" } : Jvm.MethodName)) ∈ lw_all := lw_g (lw_at lw_m4 149 rfl) rfl
theorem q905 : (Jvm.Cond.selects "HullBuilderModel" ({ cls := "HullBuilderModel", name := "count", desc := "(I)I" } : Jvm.MethodName) ({ cls := "HullBuilderModel", name := "count", desc := "(I)I" } : Jvm.MethodName)) ∈ lw_all := lw_g (lw_at lw_m4 150 rfl) rfl
theorem q906 : (Jvm.Cond.code ({ cls := "HullBuilderModel", name := "count", desc := "(I)I" } : Jvm.MethodName) prog_9_method_39_code (4 : Nat) (Option.some Jvm.ClassFile.FieldType.int)) ∈ lw_all := lw_g (lw_at lw_m4 151 rfl) rfl
theorem in_X8 : ∀ w ∈ wsX80, w ∈ lw_all := lw_in wsX80 [698, 700, 702, 704, 706, 708, 710, 712, 714, 716, 718, 720, 722, 724, 726, 728, 730, 732, 734, 736, 738, 740, 742, 744, 746, 748, 750] (by decide +kernel) (by decide +kernel)
end
