section
set_option maxRecDepth 100000
abbrev cX2_within : ByteArray := prog_4_method_7_code
def yX2_within : MethodName := ⟨RX2, "within", "(LHullBuilder$Plane;II)Z"⟩
theorem dX2_within_0 : decode cX2_within 0 = .ok (.iconst 0, 1) := by decide +kernel
theorem dX2_within_1 : decode cX2_within 1 = .ok (.istore 4, 2) := by decide +kernel
theorem dX2_within_3 : decode cX2_within 3 = .ok (.iload 4, 2) := by decide +kernel
theorem dX2_within_5 : decode cX2_within 5 = .ok (.aload_n 0, 1) := by decide +kernel
theorem dX2_within_6 : decode cX2_within 6 = .ok (.getfield 68, 3) := by decide +kernel
theorem dX2_within_9 : decode cX2_within 9 = .ok (.if_icmp .ge 56, 3) := by decide +kernel
theorem dX2_within_12 : decode cX2_within 12 = .ok (.aload_n 0, 1) := by decide +kernel
theorem dX2_within_13 : decode cX2_within 13 = .ok (.getfield 19, 3) := by decide +kernel
theorem dX2_within_16 : decode cX2_within 16 = .ok (.iload 4, 2) := by decide +kernel
theorem dX2_within_18 : decode cX2_within 18 = .ok (.aaload, 1) := by decide +kernel
theorem dX2_within_19 : decode cX2_within 19 = .ok (.getfield 72, 3) := by decide +kernel
theorem dX2_within_22 : decode cX2_within 22 = .ok (.ifCond .eq 37, 3) := by decide +kernel
theorem dX2_within_25 : decode cX2_within 25 = .ok (.aload_n 0, 1) := by decide +kernel
theorem dX2_within_26 : decode cX2_within 26 = .ok (.getfield 19, 3) := by decide +kernel
theorem dX2_within_29 : decode cX2_within 29 = .ok (.iload 4, 2) := by decide +kernel
theorem dX2_within_31 : decode cX2_within 31 = .ok (.aaload, 1) := by decide +kernel
theorem dX2_within_32 : decode cX2_within 32 = .ok (.getfield 88, 3) := by decide +kernel
theorem dX2_within_35 : decode cX2_within 35 = .ok (.aload_n 1, 1) := by decide +kernel
theorem dX2_within_36 : decode cX2_within 36 = .ok (.invokevirtual 125, 3) := by decide +kernel
theorem dX2_within_39 : decode cX2_within 39 = .ok (.ifCond .eq 20, 3) := by decide +kernel
theorem dX2_within_42 : decode cX2_within 42 = .ok (.aload_n 0, 1) := by decide +kernel
theorem dX2_within_43 : decode cX2_within 43 = .ok (.getfield 19, 3) := by decide +kernel
theorem dX2_within_46 : decode cX2_within 46 = .ok (.iload 4, 2) := by decide +kernel
theorem dX2_within_48 : decode cX2_within 48 = .ok (.aaload, 1) := by decide +kernel
theorem dX2_within_49 : decode cX2_within 49 = .ok (.iload_n 2, 1) := by decide +kernel
theorem dX2_within_50 : decode cX2_within 50 = .ok (.iload_n 3, 1) := by decide +kernel
theorem dX2_within_51 : decode cX2_within 51 = .ok (.invokevirtual 104, 3) := by decide +kernel
theorem dX2_within_54 : decode cX2_within 54 = .ok (.ifCond .eq 5, 3) := by decide +kernel
theorem dX2_within_57 : decode cX2_within 57 = .ok (.iconst 1, 1) := by decide +kernel
theorem dX2_within_58 : decode cX2_within 58 = .ok (.ireturn, 1) := by decide +kernel
theorem dX2_within_59 : decode cX2_within 59 = .ok (.iinc 4 1, 3) := by decide +kernel
theorem dX2_within_62 : decode cX2_within 62 = .ok (.goto (-59), 3) := by decide +kernel
theorem dX2_within_65 : decode cX2_within 65 = .ok (.iconst 0, 1) := by decide +kernel
theorem dX2_within_66 : decode cX2_within 66 = .ok (.ireturn, 1) := by decide +kernel
abbrev cX2_order : ByteArray := prog_4_method_8_code
def yX2_order : MethodName := ⟨RX2, "order", "()V"⟩
theorem dX2_order_0 : decode cX2_order 0 = .ok (.iconst 1, 1) := by decide +kernel
theorem dX2_order_1 : decode cX2_order 1 = .ok (.istore_n 1, 1) := by decide +kernel
theorem dX2_order_2 : decode cX2_order 2 = .ok (.iload_n 1, 1) := by decide +kernel
theorem dX2_order_3 : decode cX2_order 3 = .ok (.aload_n 0, 1) := by decide +kernel
theorem dX2_order_4 : decode cX2_order 4 = .ok (.getfield 117, 3) := by decide +kernel
theorem dX2_order_7 : decode cX2_order 7 = .ok (.if_icmp .ge 64, 3) := by decide +kernel
theorem dX2_order_10 : decode cX2_order 10 = .ok (.aload_n 0, 1) := by decide +kernel
theorem dX2_order_11 : decode cX2_order 11 = .ok (.getfield 25, 3) := by decide +kernel
theorem dX2_order_14 : decode cX2_order 14 = .ok (.iload_n 1, 1) := by decide +kernel
theorem dX2_order_15 : decode cX2_order 15 = .ok (.aaload, 1) := by decide +kernel
theorem dX2_order_16 : decode cX2_order 16 = .ok (.astore_n 2, 1) := by decide +kernel
theorem dX2_order_17 : decode cX2_order 17 = .ok (.iload_n 1, 1) := by decide +kernel
theorem dX2_order_18 : decode cX2_order 18 = .ok (.istore_n 3, 1) := by decide +kernel
theorem dX2_order_19 : decode cX2_order 19 = .ok (.iload_n 3, 1) := by decide +kernel
theorem dX2_order_20 : decode cX2_order 20 = .ok (.ifCond .le 38, 3) := by decide +kernel
theorem dX2_order_23 : decode cX2_order 23 = .ok (.aload_n 2, 1) := by decide +kernel
theorem dX2_order_24 : decode cX2_order 24 = .ok (.aload_n 0, 1) := by decide +kernel
theorem dX2_order_25 : decode cX2_order 25 = .ok (.getfield 25, 3) := by decide +kernel
theorem dX2_order_28 : decode cX2_order 28 = .ok (.iload_n 3, 1) := by decide +kernel
theorem dX2_order_29 : decode cX2_order 29 = .ok (.iconst 1, 1) := by decide +kernel
theorem dX2_order_30 : decode cX2_order 30 = .ok (.isub, 1) := by decide +kernel
theorem dX2_order_31 : decode cX2_order 31 = .ok (.aaload, 1) := by decide +kernel
theorem dX2_order_32 : decode cX2_order 32 = .ok (.invokevirtual 143, 3) := by decide +kernel
theorem dX2_order_35 : decode cX2_order 35 = .ok (.ifCond .eq 23, 3) := by decide +kernel
theorem dX2_order_38 : decode cX2_order 38 = .ok (.aload_n 0, 1) := by decide +kernel
theorem dX2_order_39 : decode cX2_order 39 = .ok (.getfield 25, 3) := by decide +kernel
theorem dX2_order_42 : decode cX2_order 42 = .ok (.iload_n 3, 1) := by decide +kernel
theorem dX2_order_43 : decode cX2_order 43 = .ok (.aload_n 0, 1) := by decide +kernel
theorem dX2_order_44 : decode cX2_order 44 = .ok (.getfield 25, 3) := by decide +kernel
theorem dX2_order_47 : decode cX2_order 47 = .ok (.iload_n 3, 1) := by decide +kernel
theorem dX2_order_48 : decode cX2_order 48 = .ok (.iconst 1, 1) := by decide +kernel
theorem dX2_order_49 : decode cX2_order 49 = .ok (.isub, 1) := by decide +kernel
theorem dX2_order_50 : decode cX2_order 50 = .ok (.aaload, 1) := by decide +kernel
theorem dX2_order_51 : decode cX2_order 51 = .ok (.aastore, 1) := by decide +kernel
theorem dX2_order_52 : decode cX2_order 52 = .ok (.iinc 3 (-1), 3) := by decide +kernel
theorem dX2_order_55 : decode cX2_order 55 = .ok (.goto (-36), 3) := by decide +kernel
theorem dX2_order_58 : decode cX2_order 58 = .ok (.aload_n 0, 1) := by decide +kernel
theorem dX2_order_59 : decode cX2_order 59 = .ok (.getfield 25, 3) := by decide +kernel
theorem dX2_order_62 : decode cX2_order 62 = .ok (.iload_n 3, 1) := by decide +kernel
theorem dX2_order_63 : decode cX2_order 63 = .ok (.aload_n 2, 1) := by decide +kernel
theorem dX2_order_64 : decode cX2_order 64 = .ok (.aastore, 1) := by decide +kernel
theorem dX2_order_65 : decode cX2_order 65 = .ok (.iinc 1 1, 3) := by decide +kernel
theorem dX2_order_68 : decode cX2_order 68 = .ok (.goto (-66), 3) := by decide +kernel
theorem dX2_order_71 : decode cX2_order 71 = .ok (.return_, 1) := by decide +kernel
abbrev cX2_join : ByteArray := prog_4_method_10_code
def yX2_join : MethodName := ⟨RX2, "join", "()V"⟩
theorem dX2_join_0 : decode cX2_join 0 = .ok (.iconst 0, 1) := by decide +kernel
theorem dX2_join_1 : decode cX2_join 1 = .ok (.istore_n 1, 1) := by decide +kernel
theorem dX2_join_2 : decode cX2_join 2 = .ok (.iload_n 1, 1) := by decide +kernel
theorem dX2_join_3 : decode cX2_join 3 = .ok (.bipush 24, 2) := by decide +kernel
theorem dX2_join_5 : decode cX2_join 5 = .ok (.if_icmp .ge 39, 3) := by decide +kernel
theorem dX2_join_8 : decode cX2_join 8 = .ok (.aload_n 0, 1) := by decide +kernel
theorem dX2_join_9 : decode cX2_join 9 = .ok (.getfield 48, 3) := by decide +kernel
theorem dX2_join_12 : decode cX2_join 12 = .ok (.iload_n 1, 1) := by decide +kernel
theorem dX2_join_13 : decode cX2_join 13 = .ok (.iconst 0, 1) := by decide +kernel
theorem dX2_join_14 : decode cX2_join 14 = .ok (.bastore, 1) := by decide +kernel
theorem dX2_join_15 : decode cX2_join 15 = .ok (.iconst 0, 1) := by decide +kernel
theorem dX2_join_16 : decode cX2_join 16 = .ok (.istore_n 2, 1) := by decide +kernel
theorem dX2_join_17 : decode cX2_join 17 = .ok (.iload_n 2, 1) := by decide +kernel
theorem dX2_join_18 : decode cX2_join 18 = .ok (.bipush 24, 2) := by decide +kernel
theorem dX2_join_20 : decode cX2_join 20 = .ok (.if_icmp .ge 18, 3) := by decide +kernel
theorem dX2_join_23 : decode cX2_join 23 = .ok (.aload_n 0, 1) := by decide +kernel
theorem dX2_join_24 : decode cX2_join 24 = .ok (.getfield 54, 3) := by decide +kernel
theorem dX2_join_27 : decode cX2_join 27 = .ok (.iload_n 1, 1) := by decide +kernel
theorem dX2_join_28 : decode cX2_join 28 = .ok (.aaload, 1) := by decide +kernel
theorem dX2_join_29 : decode cX2_join 29 = .ok (.iload_n 2, 1) := by decide +kernel
theorem dX2_join_30 : decode cX2_join 30 = .ok (.iconst 0, 1) := by decide +kernel
theorem dX2_join_31 : decode cX2_join 31 = .ok (.bastore, 1) := by decide +kernel
theorem dX2_join_32 : decode cX2_join 32 = .ok (.iinc 2 1, 3) := by decide +kernel
theorem dX2_join_35 : decode cX2_join 35 = .ok (.goto (-18), 3) := by decide +kernel
theorem dX2_join_38 : decode cX2_join 38 = .ok (.iinc 1 1, 3) := by decide +kernel
theorem dX2_join_41 : decode cX2_join 41 = .ok (.goto (-39), 3) := by decide +kernel
theorem dX2_join_44 : decode cX2_join 44 = .ok (.iconst 0, 1) := by decide +kernel
theorem dX2_join_45 : decode cX2_join 45 = .ok (.istore_n 1, 1) := by decide +kernel
theorem dX2_join_46 : decode cX2_join 46 = .ok (.iload_n 1, 1) := by decide +kernel
theorem dX2_join_47 : decode cX2_join 47 = .ok (.aload_n 0, 1) := by decide +kernel
theorem dX2_join_48 : decode cX2_join 48 = .ok (.getfield 117, 3) := by decide +kernel
theorem dX2_join_51 : decode cX2_join 51 = .ok (.if_icmp .ge 75, 3) := by decide +kernel
theorem dX2_join_54 : decode cX2_join 54 = .ok (.iconst 0, 1) := by decide +kernel
theorem dX2_join_55 : decode cX2_join 55 = .ok (.istore_n 2, 1) := by decide +kernel
theorem dX2_join_56 : decode cX2_join 56 = .ok (.iload_n 2, 1) := by decide +kernel
theorem dX2_join_57 : decode cX2_join 57 = .ok (.aload_n 0, 1) := by decide +kernel
theorem dX2_join_58 : decode cX2_join 58 = .ok (.getfield 25, 3) := by decide +kernel
theorem dX2_join_61 : decode cX2_join 61 = .ok (.iload_n 1, 1) := by decide +kernel
theorem dX2_join_62 : decode cX2_join 62 = .ok (.aaload, 1) := by decide +kernel
theorem dX2_join_63 : decode cX2_join 63 = .ok (.getfield 133, 3) := by decide +kernel
theorem dX2_join_66 : decode cX2_join 66 = .ok (.if_icmp .ge 54, 3) := by decide +kernel
theorem dX2_join_69 : decode cX2_join 69 = .ok (.aload_n 0, 1) := by decide +kernel
theorem dX2_join_70 : decode cX2_join 70 = .ok (.getfield 48, 3) := by decide +kernel
theorem dX2_join_73 : decode cX2_join 73 = .ok (.aload_n 0, 1) := by decide +kernel
theorem dX2_join_74 : decode cX2_join 74 = .ok (.getfield 25, 3) := by decide +kernel
theorem dX2_join_77 : decode cX2_join 77 = .ok (.iload_n 1, 1) := by decide +kernel
theorem dX2_join_78 : decode cX2_join 78 = .ok (.aaload, 1) := by decide +kernel
theorem dX2_join_79 : decode cX2_join 79 = .ok (.getfield 136, 3) := by decide +kernel
theorem dX2_join_82 : decode cX2_join 82 = .ok (.iload_n 2, 1) := by decide +kernel
theorem dX2_join_83 : decode cX2_join 83 = .ok (.iaload, 1) := by decide +kernel
theorem dX2_join_84 : decode cX2_join 84 = .ok (.iconst 1, 1) := by decide +kernel
theorem dX2_join_85 : decode cX2_join 85 = .ok (.bastore, 1) := by decide +kernel
theorem dX2_join_86 : decode cX2_join 86 = .ok (.aload_n 0, 1) := by decide +kernel
theorem dX2_join_87 : decode cX2_join 87 = .ok (.getfield 54, 3) := by decide +kernel
theorem dX2_join_90 : decode cX2_join 90 = .ok (.aload_n 0, 1) := by decide +kernel
theorem dX2_join_91 : decode cX2_join 91 = .ok (.getfield 25, 3) := by decide +kernel
theorem dX2_join_94 : decode cX2_join 94 = .ok (.iload_n 1, 1) := by decide +kernel
theorem dX2_join_95 : decode cX2_join 95 = .ok (.aaload, 1) := by decide +kernel
theorem dX2_join_96 : decode cX2_join 96 = .ok (.getfield 136, 3) := by decide +kernel
theorem dX2_join_99 : decode cX2_join 99 = .ok (.iload_n 2, 1) := by decide +kernel
theorem dX2_join_100 : decode cX2_join 100 = .ok (.iaload, 1) := by decide +kernel
theorem dX2_join_101 : decode cX2_join 101 = .ok (.aaload, 1) := by decide +kernel
theorem dX2_join_102 : decode cX2_join 102 = .ok (.aload_n 0, 1) := by decide +kernel
theorem dX2_join_103 : decode cX2_join 103 = .ok (.getfield 25, 3) := by decide +kernel
theorem dX2_join_106 : decode cX2_join 106 = .ok (.iload_n 1, 1) := by decide +kernel
theorem dX2_join_107 : decode cX2_join 107 = .ok (.aaload, 1) := by decide +kernel
theorem dX2_join_108 : decode cX2_join 108 = .ok (.iload_n 2, 1) := by decide +kernel
theorem dX2_join_109 : decode cX2_join 109 = .ok (.invokevirtual 147, 3) := by decide +kernel
theorem dX2_join_112 : decode cX2_join 112 = .ok (.iconst 1, 1) := by decide +kernel
theorem dX2_join_113 : decode cX2_join 113 = .ok (.bastore, 1) := by decide +kernel
theorem dX2_join_114 : decode cX2_join 114 = .ok (.iinc 2 1, 3) := by decide +kernel
theorem dX2_join_117 : decode cX2_join 117 = .ok (.goto (-61), 3) := by decide +kernel
theorem dX2_join_120 : decode cX2_join 120 = .ok (.iinc 1 1, 3) := by decide +kernel
theorem dX2_join_123 : decode cX2_join 123 = .ok (.goto (-77), 3) := by decide +kernel
theorem dX2_join_126 : decode cX2_join 126 = .ok (.aload_n 0, 1) := by decide +kernel
theorem dX2_join_127 : decode cX2_join 127 = .ok (.iconst 0, 1) := by decide +kernel
theorem dX2_join_128 : decode cX2_join 128 = .ok (.putfield 149, 3) := by decide +kernel
theorem dX2_join_131 : decode cX2_join 131 = .ok (.aload_n 0, 1) := by decide +kernel
theorem dX2_join_132 : decode cX2_join 132 = .ok (.iconst 0, 1) := by decide +kernel
theorem dX2_join_133 : decode cX2_join 133 = .ok (.putfield 152, 3) := by decide +kernel
theorem dX2_join_136 : decode cX2_join 136 = .ok (.iconst 0, 1) := by decide +kernel
theorem dX2_join_137 : decode cX2_join 137 = .ok (.istore_n 1, 1) := by decide +kernel
theorem dX2_join_138 : decode cX2_join 138 = .ok (.iload_n 1, 1) := by decide +kernel
theorem dX2_join_139 : decode cX2_join 139 = .ok (.bipush 24, 2) := by decide +kernel
theorem dX2_join_141 : decode cX2_join 141 = .ok (.if_icmp .ge 108, 3) := by decide +kernel
theorem dX2_join_144 : decode cX2_join 144 = .ok (.aload_n 0, 1) := by decide +kernel
theorem dX2_join_145 : decode cX2_join 145 = .ok (.getfield 48, 3) := by decide +kernel
theorem dX2_join_148 : decode cX2_join 148 = .ok (.iload_n 1, 1) := by decide +kernel
theorem dX2_join_149 : decode cX2_join 149 = .ok (.baload, 1) := by decide +kernel
theorem dX2_join_150 : decode cX2_join 150 = .ok (.ifCond .eq 13, 3) := by decide +kernel
theorem dX2_join_153 : decode cX2_join 153 = .ok (.aload_n 0, 1) := by decide +kernel
theorem dX2_join_154 : decode cX2_join 154 = .ok (.dup, 1) := by decide +kernel
theorem dX2_join_155 : decode cX2_join 155 = .ok (.getfield 152, 3) := by decide +kernel
theorem dX2_join_158 : decode cX2_join 158 = .ok (.iconst 1, 1) := by decide +kernel
theorem dX2_join_159 : decode cX2_join 159 = .ok (.iadd, 1) := by decide +kernel
theorem dX2_join_160 : decode cX2_join 160 = .ok (.putfield 152, 3) := by decide +kernel
theorem dX2_join_163 : decode cX2_join 163 = .ok (.iload_n 1, 1) := by decide +kernel
theorem dX2_join_164 : decode cX2_join 164 = .ok (.iconst 1, 1) := by decide +kernel
theorem dX2_join_165 : decode cX2_join 165 = .ok (.iadd, 1) := by decide +kernel
theorem dX2_join_166 : decode cX2_join 166 = .ok (.istore_n 2, 1) := by decide +kernel
theorem dX2_join_167 : decode cX2_join 167 = .ok (.iload_n 2, 1) := by decide +kernel
theorem dX2_join_168 : decode cX2_join 168 = .ok (.bipush 24, 2) := by decide +kernel
theorem dX2_join_170 : decode cX2_join 170 = .ok (.if_icmp .ge 73, 3) := by decide +kernel
theorem dX2_join_173 : decode cX2_join 173 = .ok (.aload_n 0, 1) := by decide +kernel
theorem dX2_join_174 : decode cX2_join 174 = .ok (.getfield 54, 3) := by decide +kernel
theorem dX2_join_177 : decode cX2_join 177 = .ok (.iload_n 1, 1) := by decide +kernel
theorem dX2_join_178 : decode cX2_join 178 = .ok (.aaload, 1) := by decide +kernel
theorem dX2_join_179 : decode cX2_join 179 = .ok (.iload_n 2, 1) := by decide +kernel
theorem dX2_join_180 : decode cX2_join 180 = .ok (.baload, 1) := by decide +kernel
theorem dX2_join_181 : decode cX2_join 181 = .ok (.ifCond .ne 6, 3) := by decide +kernel
theorem dX2_join_184 : decode cX2_join 184 = .ok (.goto 53, 3) := by decide +kernel
theorem dX2_join_187 : decode cX2_join 187 = .ok (.aload_n 0, 1) := by decide +kernel
theorem dX2_join_188 : decode cX2_join 188 = .ok (.getfield 31, 3) := by decide +kernel
theorem dX2_join_191 : decode cX2_join 191 = .ok (.aload_n 0, 1) := by decide +kernel
theorem dX2_join_192 : decode cX2_join 192 = .ok (.getfield 149, 3) := by decide +kernel
theorem dX2_join_195 : decode cX2_join 195 = .ok (.aaload, 1) := by decide +kernel
theorem dX2_join_196 : decode cX2_join 196 = .ok (.astore_n 3, 1) := by decide +kernel
theorem dX2_join_197 : decode cX2_join 197 = .ok (.aload_n 3, 1) := by decide +kernel
theorem dX2_join_198 : decode cX2_join 198 = .ok (.iload_n 1, 1) := by decide +kernel
theorem dX2_join_199 : decode cX2_join 199 = .ok (.putfield 154, 3) := by decide +kernel
theorem dX2_join_202 : decode cX2_join 202 = .ok (.aload_n 3, 1) := by decide +kernel
theorem dX2_join_203 : decode cX2_join 203 = .ok (.iload_n 2, 1) := by decide +kernel
theorem dX2_join_204 : decode cX2_join 204 = .ok (.putfield 155, 3) := by decide +kernel
theorem dX2_join_207 : decode cX2_join 207 = .ok (.aload_n 3, 1) := by decide +kernel
theorem dX2_join_208 : decode cX2_join 208 = .ok (.aload_n 0, 1) := by decide +kernel
theorem dX2_join_209 : decode cX2_join 209 = .ok (.iload_n 1, 1) := by decide +kernel
theorem dX2_join_210 : decode cX2_join 210 = .ok (.iload_n 2, 1) := by decide +kernel
theorem dX2_join_211 : decode cX2_join 211 = .ok (.invokevirtual 156, 3) := by decide +kernel
theorem dX2_join_214 : decode cX2_join 214 = .ok (.putfield 160, 3) := by decide +kernel
theorem dX2_join_217 : decode cX2_join 217 = .ok (.aload_n 3, 1) := by decide +kernel
theorem dX2_join_218 : decode cX2_join 218 = .ok (.aload_n 0, 1) := by decide +kernel
theorem dX2_join_219 : decode cX2_join 219 = .ok (.iload_n 2, 1) := by decide +kernel
theorem dX2_join_220 : decode cX2_join 220 = .ok (.iload_n 1, 1) := by decide +kernel
theorem dX2_join_221 : decode cX2_join 221 = .ok (.invokevirtual 156, 3) := by decide +kernel
theorem dX2_join_224 : decode cX2_join 224 = .ok (.putfield 163, 3) := by decide +kernel
theorem dX2_join_227 : decode cX2_join 227 = .ok (.aload_n 0, 1) := by decide +kernel
theorem dX2_join_228 : decode cX2_join 228 = .ok (.dup, 1) := by decide +kernel
theorem dX2_join_229 : decode cX2_join 229 = .ok (.getfield 149, 3) := by decide +kernel
theorem dX2_join_232 : decode cX2_join 232 = .ok (.iconst 1, 1) := by decide +kernel
theorem dX2_join_233 : decode cX2_join 233 = .ok (.iadd, 1) := by decide +kernel
theorem dX2_join_234 : decode cX2_join 234 = .ok (.putfield 149, 3) := by decide +kernel
theorem dX2_join_237 : decode cX2_join 237 = .ok (.iinc 2 1, 3) := by decide +kernel
theorem dX2_join_240 : decode cX2_join 240 = .ok (.goto (-73), 3) := by decide +kernel
theorem dX2_join_243 : decode cX2_join 243 = .ok (.iinc 1 1, 3) := by decide +kernel
theorem dX2_join_246 : decode cX2_join 246 = .ok (.goto (-108), 3) := by decide +kernel
theorem dX2_join_249 : decode cX2_join 249 = .ok (.return_, 1) := by decide +kernel
abbrev cX2_faceOf : ByteArray := prog_4_method_9_code
def yX2_faceOf : MethodName := ⟨RX2, "faceOf", "(II)I"⟩
theorem dX2_faceOf_0 : decode cX2_faceOf 0 = .ok (.iconst 0, 1) := by decide +kernel
theorem dX2_faceOf_1 : decode cX2_faceOf 1 = .ok (.istore_n 3, 1) := by decide +kernel
theorem dX2_faceOf_2 : decode cX2_faceOf 2 = .ok (.iload_n 3, 1) := by decide +kernel
theorem dX2_faceOf_3 : decode cX2_faceOf 3 = .ok (.aload_n 0, 1) := by decide +kernel
theorem dX2_faceOf_4 : decode cX2_faceOf 4 = .ok (.getfield 117, 3) := by decide +kernel
theorem dX2_faceOf_7 : decode cX2_faceOf 7 = .ok (.if_icmp .ge 65, 3) := by decide +kernel
theorem dX2_faceOf_10 : decode cX2_faceOf 10 = .ok (.iconst 0, 1) := by decide +kernel
theorem dX2_faceOf_11 : decode cX2_faceOf 11 = .ok (.istore 4, 2) := by decide +kernel
theorem dX2_faceOf_13 : decode cX2_faceOf 13 = .ok (.iload 4, 2) := by decide +kernel
theorem dX2_faceOf_15 : decode cX2_faceOf 15 = .ok (.aload_n 0, 1) := by decide +kernel
theorem dX2_faceOf_16 : decode cX2_faceOf 16 = .ok (.getfield 25, 3) := by decide +kernel
theorem dX2_faceOf_19 : decode cX2_faceOf 19 = .ok (.iload_n 3, 1) := by decide +kernel
theorem dX2_faceOf_20 : decode cX2_faceOf 20 = .ok (.aaload, 1) := by decide +kernel
theorem dX2_faceOf_21 : decode cX2_faceOf 21 = .ok (.getfield 133, 3) := by decide +kernel
theorem dX2_faceOf_24 : decode cX2_faceOf 24 = .ok (.if_icmp .ge 42, 3) := by decide +kernel
theorem dX2_faceOf_27 : decode cX2_faceOf 27 = .ok (.aload_n 0, 1) := by decide +kernel
theorem dX2_faceOf_28 : decode cX2_faceOf 28 = .ok (.getfield 25, 3) := by decide +kernel
theorem dX2_faceOf_31 : decode cX2_faceOf 31 = .ok (.iload_n 3, 1) := by decide +kernel
theorem dX2_faceOf_32 : decode cX2_faceOf 32 = .ok (.aaload, 1) := by decide +kernel
theorem dX2_faceOf_33 : decode cX2_faceOf 33 = .ok (.getfield 136, 3) := by decide +kernel
theorem dX2_faceOf_36 : decode cX2_faceOf 36 = .ok (.iload 4, 2) := by decide +kernel
theorem dX2_faceOf_38 : decode cX2_faceOf 38 = .ok (.iaload, 1) := by decide +kernel
theorem dX2_faceOf_39 : decode cX2_faceOf 39 = .ok (.iload_n 1, 1) := by decide +kernel
theorem dX2_faceOf_40 : decode cX2_faceOf 40 = .ok (.if_icmp .ne 20, 3) := by decide +kernel
theorem dX2_faceOf_43 : decode cX2_faceOf 43 = .ok (.aload_n 0, 1) := by decide +kernel
theorem dX2_faceOf_44 : decode cX2_faceOf 44 = .ok (.getfield 25, 3) := by decide +kernel
theorem dX2_faceOf_47 : decode cX2_faceOf 47 = .ok (.iload_n 3, 1) := by decide +kernel
theorem dX2_faceOf_48 : decode cX2_faceOf 48 = .ok (.aaload, 1) := by decide +kernel
theorem dX2_faceOf_49 : decode cX2_faceOf 49 = .ok (.iload 4, 2) := by decide +kernel
theorem dX2_faceOf_51 : decode cX2_faceOf 51 = .ok (.invokevirtual 147, 3) := by decide +kernel
theorem dX2_faceOf_54 : decode cX2_faceOf 54 = .ok (.iload_n 2, 1) := by decide +kernel
theorem dX2_faceOf_55 : decode cX2_faceOf 55 = .ok (.if_icmp .ne 5, 3) := by decide +kernel
theorem dX2_faceOf_58 : decode cX2_faceOf 58 = .ok (.iload_n 3, 1) := by decide +kernel
theorem dX2_faceOf_59 : decode cX2_faceOf 59 = .ok (.ireturn, 1) := by decide +kernel
theorem dX2_faceOf_60 : decode cX2_faceOf 60 = .ok (.iinc 4 1, 3) := by decide +kernel
theorem dX2_faceOf_63 : decode cX2_faceOf 63 = .ok (.goto (-50), 3) := by decide +kernel
theorem dX2_faceOf_66 : decode cX2_faceOf 66 = .ok (.iinc 3 1, 3) := by decide +kernel
theorem dX2_faceOf_69 : decode cX2_faceOf 69 = .ok (.goto (-67), 3) := by decide +kernel
theorem dX2_faceOf_72 : decode cX2_faceOf 72 = .ok (.iconst (-1), 1) := by decide +kernel
theorem dX2_faceOf_73 : decode cX2_faceOf 73 = .ok (.ireturn, 1) := by decide +kernel
abbrev cX2_support : ByteArray := prog_4_method_13_code
def yX2_support : MethodName := ⟨RX2, "support", "(JJJ)I"⟩
theorem dX2_support_0 : decode cX2_support 0 = .ok (.aload_n 0, 1) := by decide +kernel
theorem dX2_support_1 : decode cX2_support 1 = .ok (.getfield 25, 3) := by decide +kernel
theorem dX2_support_4 : decode cX2_support 4 = .ok (.iconst 0, 1) := by decide +kernel
theorem dX2_support_5 : decode cX2_support 5 = .ok (.aaload, 1) := by decide +kernel
theorem dX2_support_6 : decode cX2_support 6 = .ok (.getfield 136, 3) := by decide +kernel
theorem dX2_support_9 : decode cX2_support 9 = .ok (.iconst 0, 1) := by decide +kernel
theorem dX2_support_10 : decode cX2_support 10 = .ok (.iaload, 1) := by decide +kernel
theorem dX2_support_11 : decode cX2_support 11 = .ok (.istore 7, 2) := by decide +kernel
theorem dX2_support_13 : decode cX2_support 13 = .ok (.iconst 1, 1) := by decide +kernel
theorem dX2_support_14 : decode cX2_support 14 = .ok (.istore 8, 2) := by decide +kernel
theorem dX2_support_16 : decode cX2_support 16 = .ok (.iload 8, 2) := by decide +kernel
theorem dX2_support_18 : decode cX2_support 18 = .ok (.ifCond .eq 74, 3) := by decide +kernel
theorem dX2_support_21 : decode cX2_support 21 = .ok (.iconst 0, 1) := by decide +kernel
theorem dX2_support_22 : decode cX2_support 22 = .ok (.istore 8, 2) := by decide +kernel
theorem dX2_support_24 : decode cX2_support 24 = .ok (.iconst 0, 1) := by decide +kernel
theorem dX2_support_25 : decode cX2_support 25 = .ok (.istore 9, 2) := by decide +kernel
theorem dX2_support_27 : decode cX2_support 27 = .ok (.iload 9, 2) := by decide +kernel
theorem dX2_support_29 : decode cX2_support 29 = .ok (.bipush 24, 2) := by decide +kernel
theorem dX2_support_31 : decode cX2_support 31 = .ok (.if_icmp .ge 58, 3) := by decide +kernel
theorem dX2_support_34 : decode cX2_support 34 = .ok (.iload 8, 2) := by decide +kernel
theorem dX2_support_36 : decode cX2_support 36 = .ok (.ifCond .ne 53, 3) := by decide +kernel
theorem dX2_support_39 : decode cX2_support 39 = .ok (.aload_n 0, 1) := by decide +kernel
theorem dX2_support_40 : decode cX2_support 40 = .ok (.getfield 54, 3) := by decide +kernel
theorem dX2_support_43 : decode cX2_support 43 = .ok (.iload 7, 2) := by decide +kernel
theorem dX2_support_45 : decode cX2_support 45 = .ok (.aaload, 1) := by decide +kernel
theorem dX2_support_46 : decode cX2_support 46 = .ok (.iload 9, 2) := by decide +kernel
theorem dX2_support_48 : decode cX2_support 48 = .ok (.baload, 1) := by decide +kernel
theorem dX2_support_49 : decode cX2_support 49 = .ok (.ifCond .eq 34, 3) := by decide +kernel
theorem dX2_support_52 : decode cX2_support 52 = .ok (.aload_n 0, 1) := by decide +kernel
theorem dX2_support_53 : decode cX2_support 53 = .ok (.iload 9, 2) := by decide +kernel
theorem dX2_support_55 : decode cX2_support 55 = .ok (.lload_n 1, 1) := by decide +kernel
theorem dX2_support_56 : decode cX2_support 56 = .ok (.lload_n 3, 1) := by decide +kernel
theorem dX2_support_57 : decode cX2_support 57 = .ok (.lload 5, 2) := by decide +kernel
theorem dX2_support_59 : decode cX2_support 59 = .ok (.invokevirtual 195, 3) := by decide +kernel
theorem dX2_support_62 : decode cX2_support 62 = .ok (.aload_n 0, 1) := by decide +kernel
theorem dX2_support_63 : decode cX2_support 63 = .ok (.iload 7, 2) := by decide +kernel
theorem dX2_support_65 : decode cX2_support 65 = .ok (.lload_n 1, 1) := by decide +kernel
theorem dX2_support_66 : decode cX2_support 66 = .ok (.lload_n 3, 1) := by decide +kernel
theorem dX2_support_67 : decode cX2_support 67 = .ok (.lload 5, 2) := by decide +kernel
theorem dX2_support_69 : decode cX2_support 69 = .ok (.invokevirtual 195, 3) := by decide +kernel
theorem dX2_support_72 : decode cX2_support 72 = .ok (.lcmp, 1) := by decide +kernel
theorem dX2_support_73 : decode cX2_support 73 = .ok (.ifCond .le 10, 3) := by decide +kernel
theorem dX2_support_76 : decode cX2_support 76 = .ok (.iload 9, 2) := by decide +kernel
theorem dX2_support_78 : decode cX2_support 78 = .ok (.istore 7, 2) := by decide +kernel
theorem dX2_support_80 : decode cX2_support 80 = .ok (.iconst 1, 1) := by decide +kernel
theorem dX2_support_81 : decode cX2_support 81 = .ok (.istore 8, 2) := by decide +kernel
theorem dX2_support_83 : decode cX2_support 83 = .ok (.iinc 9 1, 3) := by decide +kernel
theorem dX2_support_86 : decode cX2_support 86 = .ok (.goto (-59), 3) := by decide +kernel
theorem dX2_support_89 : decode cX2_support 89 = .ok (.goto (-73), 3) := by decide +kernel
theorem dX2_support_92 : decode cX2_support 92 = .ok (.aload_n 0, 1) := by decide +kernel
theorem dX2_support_93 : decode cX2_support 93 = .ok (.iload 7, 2) := by decide +kernel
theorem dX2_support_95 : decode cX2_support 95 = .ok (.lload_n 1, 1) := by decide +kernel
theorem dX2_support_96 : decode cX2_support 96 = .ok (.lload_n 3, 1) := by decide +kernel
theorem dX2_support_97 : decode cX2_support 97 = .ok (.lload 5, 2) := by decide +kernel
theorem dX2_support_99 : decode cX2_support 99 = .ok (.invokevirtual 195, 3) := by decide +kernel
theorem dX2_support_102 : decode cX2_support 102 = .ok (.lstore 9, 2) := by decide +kernel
theorem dX2_support_104 : decode cX2_support 104 = .ok (.iconst 0, 1) := by decide +kernel
theorem dX2_support_105 : decode cX2_support 105 = .ok (.istore 11, 2) := by decide +kernel
theorem dX2_support_107 : decode cX2_support 107 = .ok (.iload 11, 2) := by decide +kernel
theorem dX2_support_109 : decode cX2_support 109 = .ok (.bipush 24, 2) := by decide +kernel
theorem dX2_support_111 : decode cX2_support 111 = .ok (.if_icmp .ge 17, 3) := by decide +kernel
theorem dX2_support_114 : decode cX2_support 114 = .ok (.aload_n 0, 1) := by decide +kernel
theorem dX2_support_115 : decode cX2_support 115 = .ok (.getfield 42, 3) := by decide +kernel
theorem dX2_support_118 : decode cX2_support 118 = .ok (.iload 11, 2) := by decide +kernel
theorem dX2_support_120 : decode cX2_support 120 = .ok (.iconst (-1), 1) := by decide +kernel
theorem dX2_support_121 : decode cX2_support 121 = .ok (.iastore, 1) := by decide +kernel
theorem dX2_support_122 : decode cX2_support 122 = .ok (.iinc 11 1, 3) := by decide +kernel
theorem dX2_support_125 : decode cX2_support 125 = .ok (.goto (-18), 3) := by decide +kernel
theorem dX2_support_128 : decode cX2_support 128 = .ok (.aload_n 0, 1) := by decide +kernel
theorem dX2_support_129 : decode cX2_support 129 = .ok (.getfield 42, 3) := by decide +kernel
theorem dX2_support_132 : decode cX2_support 132 = .ok (.iload 7, 2) := by decide +kernel
theorem dX2_support_134 : decode cX2_support 134 = .ok (.iconst 0, 1) := by decide +kernel
theorem dX2_support_135 : decode cX2_support 135 = .ok (.iastore, 1) := by decide +kernel
theorem dX2_support_136 : decode cX2_support 136 = .ok (.aload_n 0, 1) := by decide +kernel
theorem dX2_support_137 : decode cX2_support 137 = .ok (.getfield 45, 3) := by decide +kernel
theorem dX2_support_140 : decode cX2_support 140 = .ok (.iconst 0, 1) := by decide +kernel
theorem dX2_support_141 : decode cX2_support 141 = .ok (.iload 7, 2) := by decide +kernel
theorem dX2_support_143 : decode cX2_support 143 = .ok (.iastore, 1) := by decide +kernel
theorem dX2_support_144 : decode cX2_support 144 = .ok (.iload 7, 2) := by decide +kernel
theorem dX2_support_146 : decode cX2_support 146 = .ok (.istore 11, 2) := by decide +kernel
theorem dX2_support_148 : decode cX2_support 148 = .ok (.iconst 1, 1) := by decide +kernel
theorem dX2_support_149 : decode cX2_support 149 = .ok (.istore 12, 2) := by decide +kernel
theorem dX2_support_151 : decode cX2_support 151 = .ok (.iconst 0, 1) := by decide +kernel
theorem dX2_support_152 : decode cX2_support 152 = .ok (.istore 13, 2) := by decide +kernel
theorem dX2_support_154 : decode cX2_support 154 = .ok (.iload 13, 2) := by decide +kernel
theorem dX2_support_156 : decode cX2_support 156 = .ok (.iload 12, 2) := by decide +kernel
theorem dX2_support_158 : decode cX2_support 158 = .ok (.if_icmp .ge 103, 3) := by decide +kernel
theorem dX2_support_161 : decode cX2_support 161 = .ok (.iconst 0, 1) := by decide +kernel
theorem dX2_support_162 : decode cX2_support 162 = .ok (.istore 14, 2) := by decide +kernel
theorem dX2_support_164 : decode cX2_support 164 = .ok (.iload 14, 2) := by decide +kernel
theorem dX2_support_166 : decode cX2_support 166 = .ok (.bipush 24, 2) := by decide +kernel
theorem dX2_support_168 : decode cX2_support 168 = .ok (.if_icmp .ge 87, 3) := by decide +kernel
theorem dX2_support_171 : decode cX2_support 171 = .ok (.aload_n 0, 1) := by decide +kernel
theorem dX2_support_172 : decode cX2_support 172 = .ok (.getfield 54, 3) := by decide +kernel
theorem dX2_support_175 : decode cX2_support 175 = .ok (.aload_n 0, 1) := by decide +kernel
theorem dX2_support_176 : decode cX2_support 176 = .ok (.getfield 45, 3) := by decide +kernel
theorem dX2_support_179 : decode cX2_support 179 = .ok (.iload 13, 2) := by decide +kernel
theorem dX2_support_181 : decode cX2_support 181 = .ok (.iaload, 1) := by decide +kernel
theorem dX2_support_182 : decode cX2_support 182 = .ok (.aaload, 1) := by decide +kernel
theorem dX2_support_183 : decode cX2_support 183 = .ok (.iload 14, 2) := by decide +kernel
theorem dX2_support_185 : decode cX2_support 185 = .ok (.baload, 1) := by decide +kernel
theorem dX2_support_186 : decode cX2_support 186 = .ok (.ifCond .eq 63, 3) := by decide +kernel
theorem dX2_support_189 : decode cX2_support 189 = .ok (.aload_n 0, 1) := by decide +kernel
theorem dX2_support_190 : decode cX2_support 190 = .ok (.getfield 42, 3) := by decide +kernel
theorem dX2_support_193 : decode cX2_support 193 = .ok (.iload 14, 2) := by decide +kernel
theorem dX2_support_195 : decode cX2_support 195 = .ok (.iaload, 1) := by decide +kernel
theorem dX2_support_196 : decode cX2_support 196 = .ok (.ifCond .ge 53, 3) := by decide +kernel
theorem dX2_support_199 : decode cX2_support 199 = .ok (.aload_n 0, 1) := by decide +kernel
theorem dX2_support_200 : decode cX2_support 200 = .ok (.iload 14, 2) := by decide +kernel
theorem dX2_support_202 : decode cX2_support 202 = .ok (.lload_n 1, 1) := by decide +kernel
theorem dX2_support_203 : decode cX2_support 203 = .ok (.lload_n 3, 1) := by decide +kernel
theorem dX2_support_204 : decode cX2_support 204 = .ok (.lload 5, 2) := by decide +kernel
theorem dX2_support_206 : decode cX2_support 206 = .ok (.invokevirtual 195, 3) := by decide +kernel
theorem dX2_support_209 : decode cX2_support 209 = .ok (.lload 9, 2) := by decide +kernel
theorem dX2_support_211 : decode cX2_support 211 = .ok (.lcmp, 1) := by decide +kernel
theorem dX2_support_212 : decode cX2_support 212 = .ok (.ifCond .eq 6, 3) := by decide +kernel
theorem dX2_support_215 : decode cX2_support 215 = .ok (.goto 34, 3) := by decide +kernel
theorem dX2_support_218 : decode cX2_support 218 = .ok (.aload_n 0, 1) := by decide +kernel
theorem dX2_support_219 : decode cX2_support 219 = .ok (.getfield 42, 3) := by decide +kernel
theorem dX2_support_222 : decode cX2_support 222 = .ok (.iload 14, 2) := by decide +kernel
theorem dX2_support_224 : decode cX2_support 224 = .ok (.iconst 0, 1) := by decide +kernel
theorem dX2_support_225 : decode cX2_support 225 = .ok (.iastore, 1) := by decide +kernel
theorem dX2_support_226 : decode cX2_support 226 = .ok (.aload_n 0, 1) := by decide +kernel
theorem dX2_support_227 : decode cX2_support 227 = .ok (.getfield 45, 3) := by decide +kernel
theorem dX2_support_230 : decode cX2_support 230 = .ok (.iload 12, 2) := by decide +kernel
theorem dX2_support_232 : decode cX2_support 232 = .ok (.iinc 12 1, 3) := by decide +kernel
theorem dX2_support_235 : decode cX2_support 235 = .ok (.iload 14, 2) := by decide +kernel
theorem dX2_support_237 : decode cX2_support 237 = .ok (.iastore, 1) := by decide +kernel
theorem dX2_support_238 : decode cX2_support 238 = .ok (.iload 14, 2) := by decide +kernel
theorem dX2_support_240 : decode cX2_support 240 = .ok (.iload 11, 2) := by decide +kernel
theorem dX2_support_242 : decode cX2_support 242 = .ok (.if_icmp .ge 7, 3) := by decide +kernel
theorem dX2_support_245 : decode cX2_support 245 = .ok (.iload 14, 2) := by decide +kernel
theorem dX2_support_247 : decode cX2_support 247 = .ok (.istore 11, 2) := by decide +kernel
theorem dX2_support_249 : decode cX2_support 249 = .ok (.iinc 14 1, 3) := by decide +kernel
theorem dX2_support_252 : decode cX2_support 252 = .ok (.goto (-88), 3) := by decide +kernel
theorem dX2_support_255 : decode cX2_support 255 = .ok (.iinc 13 1, 3) := by decide +kernel
theorem dX2_support_258 : decode cX2_support 258 = .ok (.goto (-104), 3) := by decide +kernel
theorem dX2_support_261 : decode cX2_support 261 = .ok (.iload 11, 2) := by decide +kernel
theorem dX2_support_263 : decode cX2_support 263 = .ok (.ireturn, 1) := by decide +kernel
abbrev cX2_along : ByteArray := prog_4_method_12_code
def yX2_along : MethodName := ⟨RX2, "along", "(IJJJ)J"⟩
theorem dX2_along_0 : decode cX2_along 0 = .ok (.lload_n 2, 1) := by decide +kernel
theorem dX2_along_1 : decode cX2_along 1 = .ok (.aload_n 0, 1) := by decide +kernel
theorem dX2_along_2 : decode cX2_along 2 = .ok (.getfield 11, 3) := by decide +kernel
theorem dX2_along_5 : decode cX2_along 5 = .ok (.iload_n 1, 1) := by decide +kernel
theorem dX2_along_6 : decode cX2_along 6 = .ok (.aaload, 1) := by decide +kernel
theorem dX2_along_7 : decode cX2_along 7 = .ok (.getfield 186, 3) := by decide +kernel
theorem dX2_along_10 : decode cX2_along 10 = .ok (.i2l, 1) := by decide +kernel
theorem dX2_along_11 : decode cX2_along 11 = .ok (.lmul, 1) := by decide +kernel
theorem dX2_along_12 : decode cX2_along 12 = .ok (.lload 4, 2) := by decide +kernel
theorem dX2_along_14 : decode cX2_along 14 = .ok (.aload_n 0, 1) := by decide +kernel
theorem dX2_along_15 : decode cX2_along 15 = .ok (.getfield 11, 3) := by decide +kernel
theorem dX2_along_18 : decode cX2_along 18 = .ok (.iload_n 1, 1) := by decide +kernel
theorem dX2_along_19 : decode cX2_along 19 = .ok (.aaload, 1) := by decide +kernel
theorem dX2_along_20 : decode cX2_along 20 = .ok (.getfield 189, 3) := by decide +kernel
theorem dX2_along_23 : decode cX2_along 23 = .ok (.i2l, 1) := by decide +kernel
theorem dX2_along_24 : decode cX2_along 24 = .ok (.lmul, 1) := by decide +kernel
theorem dX2_along_25 : decode cX2_along 25 = .ok (.ladd, 1) := by decide +kernel
theorem dX2_along_26 : decode cX2_along 26 = .ok (.lload 6, 2) := by decide +kernel
theorem dX2_along_28 : decode cX2_along 28 = .ok (.aload_n 0, 1) := by decide +kernel
theorem dX2_along_29 : decode cX2_along 29 = .ok (.getfield 11, 3) := by decide +kernel
theorem dX2_along_32 : decode cX2_along 32 = .ok (.iload_n 1, 1) := by decide +kernel
theorem dX2_along_33 : decode cX2_along 33 = .ok (.aaload, 1) := by decide +kernel
theorem dX2_along_34 : decode cX2_along 34 = .ok (.getfield 192, 3) := by decide +kernel
theorem dX2_along_37 : decode cX2_along 37 = .ok (.i2l, 1) := by decide +kernel
theorem dX2_along_38 : decode cX2_along 38 = .ok (.lmul, 1) := by decide +kernel
theorem dX2_along_39 : decode cX2_along 39 = .ok (.ladd, 1) := by decide +kernel
theorem dX2_along_40 : decode cX2_along 40 = .ok (.lreturn, 1) := by decide +kernel
abbrev cX2_walk : ByteArray := prog_4_method_14_code
def yX2_walk : MethodName := ⟨RX2, "walk", "(I)V"⟩
theorem dX2_walk_0 : decode cX2_walk 0 = .ok (.iconst 0, 1) := by decide +kernel
theorem dX2_walk_1 : decode cX2_walk 1 = .ok (.istore_n 2, 1) := by decide +kernel
theorem dX2_walk_2 : decode cX2_walk 2 = .ok (.iload_n 2, 1) := by decide +kernel
theorem dX2_walk_3 : decode cX2_walk 3 = .ok (.bipush 24, 2) := by decide +kernel
theorem dX2_walk_5 : decode cX2_walk 5 = .ok (.if_icmp .ge 16, 3) := by decide +kernel
theorem dX2_walk_8 : decode cX2_walk 8 = .ok (.aload_n 0, 1) := by decide +kernel
theorem dX2_walk_9 : decode cX2_walk 9 = .ok (.getfield 42, 3) := by decide +kernel
theorem dX2_walk_12 : decode cX2_walk 12 = .ok (.iload_n 2, 1) := by decide +kernel
theorem dX2_walk_13 : decode cX2_walk 13 = .ok (.iconst (-1), 1) := by decide +kernel
theorem dX2_walk_14 : decode cX2_walk 14 = .ok (.iastore, 1) := by decide +kernel
theorem dX2_walk_15 : decode cX2_walk 15 = .ok (.iinc 2 1, 3) := by decide +kernel
theorem dX2_walk_18 : decode cX2_walk 18 = .ok (.goto (-16), 3) := by decide +kernel
theorem dX2_walk_21 : decode cX2_walk 21 = .ok (.aload_n 0, 1) := by decide +kernel
theorem dX2_walk_22 : decode cX2_walk 22 = .ok (.getfield 42, 3) := by decide +kernel
theorem dX2_walk_25 : decode cX2_walk 25 = .ok (.iload_n 1, 1) := by decide +kernel
theorem dX2_walk_26 : decode cX2_walk 26 = .ok (.iconst 0, 1) := by decide +kernel
theorem dX2_walk_27 : decode cX2_walk 27 = .ok (.iastore, 1) := by decide +kernel
theorem dX2_walk_28 : decode cX2_walk 28 = .ok (.aload_n 0, 1) := by decide +kernel
theorem dX2_walk_29 : decode cX2_walk 29 = .ok (.getfield 45, 3) := by decide +kernel
theorem dX2_walk_32 : decode cX2_walk 32 = .ok (.iconst 0, 1) := by decide +kernel
theorem dX2_walk_33 : decode cX2_walk 33 = .ok (.iload_n 1, 1) := by decide +kernel
theorem dX2_walk_34 : decode cX2_walk 34 = .ok (.iastore, 1) := by decide +kernel
theorem dX2_walk_35 : decode cX2_walk 35 = .ok (.iconst 1, 1) := by decide +kernel
theorem dX2_walk_36 : decode cX2_walk 36 = .ok (.istore_n 2, 1) := by decide +kernel
theorem dX2_walk_37 : decode cX2_walk 37 = .ok (.iconst 0, 1) := by decide +kernel
theorem dX2_walk_38 : decode cX2_walk 38 = .ok (.istore_n 3, 1) := by decide +kernel
theorem dX2_walk_39 : decode cX2_walk 39 = .ok (.iload_n 3, 1) := by decide +kernel
theorem dX2_walk_40 : decode cX2_walk 40 = .ok (.iload_n 2, 1) := by decide +kernel
theorem dX2_walk_41 : decode cX2_walk 41 = .ok (.if_icmp .ge 86, 3) := by decide +kernel
theorem dX2_walk_44 : decode cX2_walk 44 = .ok (.iconst 0, 1) := by decide +kernel
theorem dX2_walk_45 : decode cX2_walk 45 = .ok (.istore 4, 2) := by decide +kernel
theorem dX2_walk_47 : decode cX2_walk 47 = .ok (.iload 4, 2) := by decide +kernel
theorem dX2_walk_49 : decode cX2_walk 49 = .ok (.bipush 24, 2) := by decide +kernel
theorem dX2_walk_51 : decode cX2_walk 51 = .ok (.if_icmp .ge 70, 3) := by decide +kernel
theorem dX2_walk_54 : decode cX2_walk 54 = .ok (.aload_n 0, 1) := by decide +kernel
theorem dX2_walk_55 : decode cX2_walk 55 = .ok (.getfield 54, 3) := by decide +kernel
theorem dX2_walk_58 : decode cX2_walk 58 = .ok (.aload_n 0, 1) := by decide +kernel
theorem dX2_walk_59 : decode cX2_walk 59 = .ok (.getfield 45, 3) := by decide +kernel
theorem dX2_walk_62 : decode cX2_walk 62 = .ok (.iload_n 3, 1) := by decide +kernel
theorem dX2_walk_63 : decode cX2_walk 63 = .ok (.iaload, 1) := by decide +kernel
theorem dX2_walk_64 : decode cX2_walk 64 = .ok (.aaload, 1) := by decide +kernel
theorem dX2_walk_65 : decode cX2_walk 65 = .ok (.iload 4, 2) := by decide +kernel
theorem dX2_walk_67 : decode cX2_walk 67 = .ok (.baload, 1) := by decide +kernel
theorem dX2_walk_68 : decode cX2_walk 68 = .ok (.ifCond .eq 47, 3) := by decide +kernel
theorem dX2_walk_71 : decode cX2_walk 71 = .ok (.aload_n 0, 1) := by decide +kernel
theorem dX2_walk_72 : decode cX2_walk 72 = .ok (.getfield 42, 3) := by decide +kernel
theorem dX2_walk_75 : decode cX2_walk 75 = .ok (.iload 4, 2) := by decide +kernel
theorem dX2_walk_77 : decode cX2_walk 77 = .ok (.iaload, 1) := by decide +kernel
theorem dX2_walk_78 : decode cX2_walk 78 = .ok (.ifCond .lt 6, 3) := by decide +kernel
theorem dX2_walk_81 : decode cX2_walk 81 = .ok (.goto 34, 3) := by decide +kernel
theorem dX2_walk_84 : decode cX2_walk 84 = .ok (.aload_n 0, 1) := by decide +kernel
theorem dX2_walk_85 : decode cX2_walk 85 = .ok (.getfield 42, 3) := by decide +kernel
theorem dX2_walk_88 : decode cX2_walk 88 = .ok (.iload 4, 2) := by decide +kernel
theorem dX2_walk_90 : decode cX2_walk 90 = .ok (.aload_n 0, 1) := by decide +kernel
theorem dX2_walk_91 : decode cX2_walk 91 = .ok (.getfield 42, 3) := by decide +kernel
theorem dX2_walk_94 : decode cX2_walk 94 = .ok (.aload_n 0, 1) := by decide +kernel
theorem dX2_walk_95 : decode cX2_walk 95 = .ok (.getfield 45, 3) := by decide +kernel
theorem dX2_walk_98 : decode cX2_walk 98 = .ok (.iload_n 3, 1) := by decide +kernel
theorem dX2_walk_99 : decode cX2_walk 99 = .ok (.iaload, 1) := by decide +kernel
theorem dX2_walk_100 : decode cX2_walk 100 = .ok (.iaload, 1) := by decide +kernel
theorem dX2_walk_101 : decode cX2_walk 101 = .ok (.iconst 1, 1) := by decide +kernel
theorem dX2_walk_102 : decode cX2_walk 102 = .ok (.iadd, 1) := by decide +kernel
theorem dX2_walk_103 : decode cX2_walk 103 = .ok (.iastore, 1) := by decide +kernel
theorem dX2_walk_104 : decode cX2_walk 104 = .ok (.aload_n 0, 1) := by decide +kernel
theorem dX2_walk_105 : decode cX2_walk 105 = .ok (.getfield 45, 3) := by decide +kernel
theorem dX2_walk_108 : decode cX2_walk 108 = .ok (.iload_n 2, 1) := by decide +kernel
theorem dX2_walk_109 : decode cX2_walk 109 = .ok (.iinc 2 1, 3) := by decide +kernel
theorem dX2_walk_112 : decode cX2_walk 112 = .ok (.iload 4, 2) := by decide +kernel
theorem dX2_walk_114 : decode cX2_walk 114 = .ok (.iastore, 1) := by decide +kernel
theorem dX2_walk_115 : decode cX2_walk 115 = .ok (.iinc 4 1, 3) := by decide +kernel
theorem dX2_walk_118 : decode cX2_walk 118 = .ok (.goto (-71), 3) := by decide +kernel
theorem dX2_walk_121 : decode cX2_walk 121 = .ok (.iinc 3 1, 3) := by decide +kernel
theorem dX2_walk_124 : decode cX2_walk 124 = .ok (.goto (-85), 3) := by decide +kernel
theorem dX2_walk_127 : decode cX2_walk 127 = .ok (.return_, 1) := by decide +kernel
abbrev cX2_side : ByteArray := prog_4_method_15_code
def yX2_side : MethodName := ⟨RX2, "side", "(JJJ)I"⟩
theorem dX2_side_0 : decode cX2_side 0 = .ok (.iconst 1, 1) := by decide +kernel
theorem dX2_side_1 : decode cX2_side 1 = .ok (.istore 7, 2) := by decide +kernel
theorem dX2_side_3 : decode cX2_side 3 = .ok (.iconst 0, 1) := by decide +kernel
theorem dX2_side_4 : decode cX2_side 4 = .ok (.istore 8, 2) := by decide +kernel
theorem dX2_side_6 : decode cX2_side 6 = .ok (.iload 8, 2) := by decide +kernel
theorem dX2_side_8 : decode cX2_side 8 = .ok (.aload_n 0, 1) := by decide +kernel
theorem dX2_side_9 : decode cX2_side 9 = .ok (.getfield 117, 3) := by decide +kernel
theorem dX2_side_12 : decode cX2_side 12 = .ok (.if_icmp .ge 47, 3) := by decide +kernel
theorem dX2_side_15 : decode cX2_side 15 = .ok (.aload_n 0, 1) := by decide +kernel
theorem dX2_side_16 : decode cX2_side 16 = .ok (.getfield 25, 3) := by decide +kernel
theorem dX2_side_19 : decode cX2_side 19 = .ok (.iload 8, 2) := by decide +kernel
theorem dX2_side_21 : decode cX2_side 21 = .ok (.aaload, 1) := by decide +kernel
theorem dX2_side_22 : decode cX2_side 22 = .ok (.getfield 120, 3) := by decide +kernel
theorem dX2_side_25 : decode cX2_side 25 = .ok (.lload_n 1, 1) := by decide +kernel
theorem dX2_side_26 : decode cX2_side 26 = .ok (.lload_n 3, 1) := by decide +kernel
theorem dX2_side_27 : decode cX2_side 27 = .ok (.lload 5, 2) := by decide +kernel
theorem dX2_side_29 : decode cX2_side 29 = .ok (.invokevirtual 199, 3) := by decide +kernel
theorem dX2_side_32 : decode cX2_side 32 = .ok (.lstore 9, 2) := by decide +kernel
theorem dX2_side_34 : decode cX2_side 34 = .ok (.lload 9, 2) := by decide +kernel
theorem dX2_side_36 : decode cX2_side 36 = .ok (.lconst 0, 1) := by decide +kernel
theorem dX2_side_37 : decode cX2_side 37 = .ok (.lcmp, 1) := by decide +kernel
theorem dX2_side_38 : decode cX2_side 38 = .ok (.ifCond .le 5, 3) := by decide +kernel
theorem dX2_side_41 : decode cX2_side 41 = .ok (.iconst (-1), 1) := by decide +kernel
theorem dX2_side_42 : decode cX2_side 42 = .ok (.ireturn, 1) := by decide +kernel
theorem dX2_side_43 : decode cX2_side 43 = .ok (.lload 9, 2) := by decide +kernel
theorem dX2_side_45 : decode cX2_side 45 = .ok (.lconst 0, 1) := by decide +kernel
theorem dX2_side_46 : decode cX2_side 46 = .ok (.lcmp, 1) := by decide +kernel
theorem dX2_side_47 : decode cX2_side 47 = .ok (.ifCond .ne 6, 3) := by decide +kernel
theorem dX2_side_50 : decode cX2_side 50 = .ok (.iconst 0, 1) := by decide +kernel
theorem dX2_side_51 : decode cX2_side 51 = .ok (.istore 7, 2) := by decide +kernel
theorem dX2_side_53 : decode cX2_side 53 = .ok (.iinc 8 1, 3) := by decide +kernel
theorem dX2_side_56 : decode cX2_side 56 = .ok (.goto (-50), 3) := by decide +kernel
theorem dX2_side_59 : decode cX2_side 59 = .ok (.iload 7, 2) := by decide +kernel
theorem dX2_side_61 : decode cX2_side 61 = .ok (.ireturn, 1) := by decide +kernel
abbrev cX2_moment : ByteArray := prog_4_method_17_code
def yX2_moment : MethodName := ⟨RX2, "moment", "(I)J"⟩
theorem dX2_moment_0 : decode cX2_moment 0 = .ok (.lconst 0, 1) := by decide +kernel
theorem dX2_moment_1 : decode cX2_moment 1 = .ok (.lstore_n 2, 1) := by decide +kernel
theorem dX2_moment_2 : decode cX2_moment 2 = .ok (.iconst 0, 1) := by decide +kernel
theorem dX2_moment_3 : decode cX2_moment 3 = .ok (.istore 4, 2) := by decide +kernel
theorem dX2_moment_5 : decode cX2_moment 5 = .ok (.iload 4, 2) := by decide +kernel
theorem dX2_moment_7 : decode cX2_moment 7 = .ok (.aload_n 0, 1) := by decide +kernel
theorem dX2_moment_8 : decode cX2_moment 8 = .ok (.getfield 117, 3) := by decide +kernel
theorem dX2_moment_11 : decode cX2_moment 11 = .ok (.if_icmp .ge 136, 3) := by decide +kernel
theorem dX2_moment_14 : decode cX2_moment 14 = .ok (.aload_n 0, 1) := by decide +kernel
theorem dX2_moment_15 : decode cX2_moment 15 = .ok (.getfield 25, 3) := by decide +kernel
theorem dX2_moment_18 : decode cX2_moment 18 = .ok (.iload 4, 2) := by decide +kernel
theorem dX2_moment_20 : decode cX2_moment 20 = .ok (.aaload, 1) := by decide +kernel
theorem dX2_moment_21 : decode cX2_moment 21 = .ok (.astore 5, 2) := by decide +kernel
theorem dX2_moment_23 : decode cX2_moment 23 = .ok (.aload_n 0, 1) := by decide +kernel
theorem dX2_moment_24 : decode cX2_moment 24 = .ok (.getfield 11, 3) := by decide +kernel
theorem dX2_moment_27 : decode cX2_moment 27 = .ok (.aload 5, 2) := by decide +kernel
theorem dX2_moment_29 : decode cX2_moment 29 = .ok (.getfield 136, 3) := by decide +kernel
theorem dX2_moment_32 : decode cX2_moment 32 = .ok (.iconst 0, 1) := by decide +kernel
theorem dX2_moment_33 : decode cX2_moment 33 = .ok (.iaload, 1) := by decide +kernel
theorem dX2_moment_34 : decode cX2_moment 34 = .ok (.aaload, 1) := by decide +kernel
theorem dX2_moment_35 : decode cX2_moment 35 = .ok (.astore 6, 2) := by decide +kernel
theorem dX2_moment_37 : decode cX2_moment 37 = .ok (.iconst 1, 1) := by decide +kernel
theorem dX2_moment_38 : decode cX2_moment 38 = .ok (.istore 7, 2) := by decide +kernel
theorem dX2_moment_40 : decode cX2_moment 40 = .ok (.iload 7, 2) := by decide +kernel
theorem dX2_moment_42 : decode cX2_moment 42 = .ok (.iconst 1, 1) := by decide +kernel
theorem dX2_moment_43 : decode cX2_moment 43 = .ok (.iadd, 1) := by decide +kernel
theorem dX2_moment_44 : decode cX2_moment 44 = .ok (.aload 5, 2) := by decide +kernel
theorem dX2_moment_46 : decode cX2_moment 46 = .ok (.getfield 133, 3) := by decide +kernel
theorem dX2_moment_49 : decode cX2_moment 49 = .ok (.if_icmp .ge 92, 3) := by decide +kernel
theorem dX2_moment_52 : decode cX2_moment 52 = .ok (.aload_n 0, 1) := by decide +kernel
theorem dX2_moment_53 : decode cX2_moment 53 = .ok (.getfield 11, 3) := by decide +kernel
theorem dX2_moment_56 : decode cX2_moment 56 = .ok (.aload 5, 2) := by decide +kernel
theorem dX2_moment_58 : decode cX2_moment 58 = .ok (.getfield 136, 3) := by decide +kernel
theorem dX2_moment_61 : decode cX2_moment 61 = .ok (.iload 7, 2) := by decide +kernel
theorem dX2_moment_63 : decode cX2_moment 63 = .ok (.iaload, 1) := by decide +kernel
theorem dX2_moment_64 : decode cX2_moment 64 = .ok (.aaload, 1) := by decide +kernel
theorem dX2_moment_65 : decode cX2_moment 65 = .ok (.astore 8, 2) := by decide +kernel
theorem dX2_moment_67 : decode cX2_moment 67 = .ok (.aload_n 0, 1) := by decide +kernel
theorem dX2_moment_68 : decode cX2_moment 68 = .ok (.getfield 11, 3) := by decide +kernel
theorem dX2_moment_71 : decode cX2_moment 71 = .ok (.aload 5, 2) := by decide +kernel
theorem dX2_moment_73 : decode cX2_moment 73 = .ok (.getfield 136, 3) := by decide +kernel
theorem dX2_moment_76 : decode cX2_moment 76 = .ok (.iload 7, 2) := by decide +kernel
theorem dX2_moment_78 : decode cX2_moment 78 = .ok (.iconst 1, 1) := by decide +kernel
theorem dX2_moment_79 : decode cX2_moment 79 = .ok (.iadd, 1) := by decide +kernel
theorem dX2_moment_80 : decode cX2_moment 80 = .ok (.iaload, 1) := by decide +kernel
theorem dX2_moment_81 : decode cX2_moment 81 = .ok (.aaload, 1) := by decide +kernel
theorem dX2_moment_82 : decode cX2_moment 82 = .ok (.astore 9, 2) := by decide +kernel
theorem dX2_moment_84 : decode cX2_moment 84 = .ok (.aload_n 0, 1) := by decide +kernel
theorem dX2_moment_85 : decode cX2_moment 85 = .ok (.aload 6, 2) := by decide +kernel
theorem dX2_moment_87 : decode cX2_moment 87 = .ok (.aload 8, 2) := by decide +kernel
theorem dX2_moment_89 : decode cX2_moment 89 = .ok (.aload 9, 2) := by decide +kernel
theorem dX2_moment_91 : decode cX2_moment 91 = .ok (.invokevirtual 202, 3) := by decide +kernel
theorem dX2_moment_94 : decode cX2_moment 94 = .ok (.lstore 10, 2) := by decide +kernel
theorem dX2_moment_96 : decode cX2_moment 96 = .ok (.lload_n 2, 1) := by decide +kernel
theorem dX2_moment_97 : decode cX2_moment 97 = .ok (.iload_n 1, 1) := by decide +kernel
theorem dX2_moment_98 : decode cX2_moment 98 = .ok (.iconst 3, 1) := by decide +kernel
theorem dX2_moment_99 : decode cX2_moment 99 = .ok (.if_icmp .ne 8, 3) := by decide +kernel
theorem dX2_moment_102 : decode cX2_moment 102 = .ok (.lload 10, 2) := by decide +kernel
theorem dX2_moment_104 : decode cX2_moment 104 = .ok (.goto 29, 3) := by decide +kernel
theorem dX2_moment_107 : decode cX2_moment 107 = .ok (.lload 10, 2) := by decide +kernel
theorem dX2_moment_109 : decode cX2_moment 109 = .ok (.aload 6, 2) := by decide +kernel
theorem dX2_moment_111 : decode cX2_moment 111 = .ok (.iload_n 1, 1) := by decide +kernel
theorem dX2_moment_112 : decode cX2_moment 112 = .ok (.invokevirtual 206, 3) := by decide +kernel
theorem dX2_moment_115 : decode cX2_moment 115 = .ok (.i2l, 1) := by decide +kernel
theorem dX2_moment_116 : decode cX2_moment 116 = .ok (.aload 8, 2) := by decide +kernel
theorem dX2_moment_118 : decode cX2_moment 118 = .ok (.iload_n 1, 1) := by decide +kernel
theorem dX2_moment_119 : decode cX2_moment 119 = .ok (.invokevirtual 206, 3) := by decide +kernel
theorem dX2_moment_122 : decode cX2_moment 122 = .ok (.i2l, 1) := by decide +kernel
theorem dX2_moment_123 : decode cX2_moment 123 = .ok (.ladd, 1) := by decide +kernel
theorem dX2_moment_124 : decode cX2_moment 124 = .ok (.aload 9, 2) := by decide +kernel
theorem dX2_moment_126 : decode cX2_moment 126 = .ok (.iload_n 1, 1) := by decide +kernel
theorem dX2_moment_127 : decode cX2_moment 127 = .ok (.invokevirtual 206, 3) := by decide +kernel
theorem dX2_moment_130 : decode cX2_moment 130 = .ok (.i2l, 1) := by decide +kernel
theorem dX2_moment_131 : decode cX2_moment 131 = .ok (.ladd, 1) := by decide +kernel
theorem dX2_moment_132 : decode cX2_moment 132 = .ok (.lmul, 1) := by decide +kernel
theorem dX2_moment_133 : decode cX2_moment 133 = .ok (.ladd, 1) := by decide +kernel
theorem dX2_moment_134 : decode cX2_moment 134 = .ok (.lstore_n 2, 1) := by decide +kernel
theorem dX2_moment_135 : decode cX2_moment 135 = .ok (.iinc 7 1, 3) := by decide +kernel
theorem dX2_moment_138 : decode cX2_moment 138 = .ok (.goto (-98), 3) := by decide +kernel
theorem dX2_moment_141 : decode cX2_moment 141 = .ok (.iinc 4 1, 3) := by decide +kernel
theorem dX2_moment_144 : decode cX2_moment 144 = .ok (.goto (-139), 3) := by decide +kernel
theorem dX2_moment_147 : decode cX2_moment 147 = .ok (.lload_n 2, 1) := by decide +kernel
theorem dX2_moment_148 : decode cX2_moment 148 = .ok (.lreturn, 1) := by decide +kernel
abbrev cX2_tetrahedron : ByteArray := prog_4_method_16_code
def yX2_tetrahedron : MethodName := ⟨RX2, "tetrahedron", "(LHullBuilder$Point;LHullBuilder$Point;LHullBuilder$Point;)J"⟩
theorem dX2_tetrahedron_0 : decode cX2_tetrahedron 0 = .ok (.aload_n 1, 1) := by decide +kernel
theorem dX2_tetrahedron_1 : decode cX2_tetrahedron 1 = .ok (.getfield 189, 3) := by decide +kernel
theorem dX2_tetrahedron_4 : decode cX2_tetrahedron 4 = .ok (.i2l, 1) := by decide +kernel
theorem dX2_tetrahedron_5 : decode cX2_tetrahedron 5 = .ok (.aload_n 2, 1) := by decide +kernel
theorem dX2_tetrahedron_6 : decode cX2_tetrahedron 6 = .ok (.getfield 192, 3) := by decide +kernel
theorem dX2_tetrahedron_9 : decode cX2_tetrahedron 9 = .ok (.i2l, 1) := by decide +kernel
theorem dX2_tetrahedron_10 : decode cX2_tetrahedron 10 = .ok (.lmul, 1) := by decide +kernel
theorem dX2_tetrahedron_11 : decode cX2_tetrahedron 11 = .ok (.aload_n 1, 1) := by decide +kernel
theorem dX2_tetrahedron_12 : decode cX2_tetrahedron 12 = .ok (.getfield 192, 3) := by decide +kernel
theorem dX2_tetrahedron_15 : decode cX2_tetrahedron 15 = .ok (.i2l, 1) := by decide +kernel
theorem dX2_tetrahedron_16 : decode cX2_tetrahedron 16 = .ok (.aload_n 2, 1) := by decide +kernel
theorem dX2_tetrahedron_17 : decode cX2_tetrahedron 17 = .ok (.getfield 189, 3) := by decide +kernel
theorem dX2_tetrahedron_20 : decode cX2_tetrahedron 20 = .ok (.i2l, 1) := by decide +kernel
theorem dX2_tetrahedron_21 : decode cX2_tetrahedron 21 = .ok (.lmul, 1) := by decide +kernel
theorem dX2_tetrahedron_22 : decode cX2_tetrahedron 22 = .ok (.lsub, 1) := by decide +kernel
theorem dX2_tetrahedron_23 : decode cX2_tetrahedron 23 = .ok (.lstore 4, 2) := by decide +kernel
theorem dX2_tetrahedron_25 : decode cX2_tetrahedron 25 = .ok (.aload_n 1, 1) := by decide +kernel
theorem dX2_tetrahedron_26 : decode cX2_tetrahedron 26 = .ok (.getfield 192, 3) := by decide +kernel
theorem dX2_tetrahedron_29 : decode cX2_tetrahedron 29 = .ok (.i2l, 1) := by decide +kernel
theorem dX2_tetrahedron_30 : decode cX2_tetrahedron 30 = .ok (.aload_n 2, 1) := by decide +kernel
theorem dX2_tetrahedron_31 : decode cX2_tetrahedron 31 = .ok (.getfield 186, 3) := by decide +kernel
theorem dX2_tetrahedron_34 : decode cX2_tetrahedron 34 = .ok (.i2l, 1) := by decide +kernel
theorem dX2_tetrahedron_35 : decode cX2_tetrahedron 35 = .ok (.lmul, 1) := by decide +kernel
theorem dX2_tetrahedron_36 : decode cX2_tetrahedron 36 = .ok (.aload_n 1, 1) := by decide +kernel
theorem dX2_tetrahedron_37 : decode cX2_tetrahedron 37 = .ok (.getfield 186, 3) := by decide +kernel
theorem dX2_tetrahedron_40 : decode cX2_tetrahedron 40 = .ok (.i2l, 1) := by decide +kernel
theorem dX2_tetrahedron_41 : decode cX2_tetrahedron 41 = .ok (.aload_n 2, 1) := by decide +kernel
theorem dX2_tetrahedron_42 : decode cX2_tetrahedron 42 = .ok (.getfield 192, 3) := by decide +kernel
theorem dX2_tetrahedron_45 : decode cX2_tetrahedron 45 = .ok (.i2l, 1) := by decide +kernel
theorem dX2_tetrahedron_46 : decode cX2_tetrahedron 46 = .ok (.lmul, 1) := by decide +kernel
theorem dX2_tetrahedron_47 : decode cX2_tetrahedron 47 = .ok (.lsub, 1) := by decide +kernel
theorem dX2_tetrahedron_48 : decode cX2_tetrahedron 48 = .ok (.lstore 6, 2) := by decide +kernel
theorem dX2_tetrahedron_50 : decode cX2_tetrahedron 50 = .ok (.aload_n 1, 1) := by decide +kernel
theorem dX2_tetrahedron_51 : decode cX2_tetrahedron 51 = .ok (.getfield 186, 3) := by decide +kernel
theorem dX2_tetrahedron_54 : decode cX2_tetrahedron 54 = .ok (.i2l, 1) := by decide +kernel
theorem dX2_tetrahedron_55 : decode cX2_tetrahedron 55 = .ok (.aload_n 2, 1) := by decide +kernel
theorem dX2_tetrahedron_56 : decode cX2_tetrahedron 56 = .ok (.getfield 189, 3) := by decide +kernel
theorem dX2_tetrahedron_59 : decode cX2_tetrahedron 59 = .ok (.i2l, 1) := by decide +kernel
theorem dX2_tetrahedron_60 : decode cX2_tetrahedron 60 = .ok (.lmul, 1) := by decide +kernel
theorem dX2_tetrahedron_61 : decode cX2_tetrahedron 61 = .ok (.aload_n 1, 1) := by decide +kernel
theorem dX2_tetrahedron_62 : decode cX2_tetrahedron 62 = .ok (.getfield 189, 3) := by decide +kernel
theorem dX2_tetrahedron_65 : decode cX2_tetrahedron 65 = .ok (.i2l, 1) := by decide +kernel
theorem dX2_tetrahedron_66 : decode cX2_tetrahedron 66 = .ok (.aload_n 2, 1) := by decide +kernel
theorem dX2_tetrahedron_67 : decode cX2_tetrahedron 67 = .ok (.getfield 186, 3) := by decide +kernel
theorem dX2_tetrahedron_70 : decode cX2_tetrahedron 70 = .ok (.i2l, 1) := by decide +kernel
theorem dX2_tetrahedron_71 : decode cX2_tetrahedron 71 = .ok (.lmul, 1) := by decide +kernel
theorem dX2_tetrahedron_72 : decode cX2_tetrahedron 72 = .ok (.lsub, 1) := by decide +kernel
theorem dX2_tetrahedron_73 : decode cX2_tetrahedron 73 = .ok (.lstore 8, 2) := by decide +kernel
theorem dX2_tetrahedron_75 : decode cX2_tetrahedron 75 = .ok (.lload 4, 2) := by decide +kernel
theorem dX2_tetrahedron_77 : decode cX2_tetrahedron 77 = .ok (.aload_n 3, 1) := by decide +kernel
theorem dX2_tetrahedron_78 : decode cX2_tetrahedron 78 = .ok (.getfield 186, 3) := by decide +kernel
theorem dX2_tetrahedron_81 : decode cX2_tetrahedron 81 = .ok (.i2l, 1) := by decide +kernel
theorem dX2_tetrahedron_82 : decode cX2_tetrahedron 82 = .ok (.lmul, 1) := by decide +kernel
theorem dX2_tetrahedron_83 : decode cX2_tetrahedron 83 = .ok (.lload 6, 2) := by decide +kernel
theorem dX2_tetrahedron_85 : decode cX2_tetrahedron 85 = .ok (.aload_n 3, 1) := by decide +kernel
theorem dX2_tetrahedron_86 : decode cX2_tetrahedron 86 = .ok (.getfield 189, 3) := by decide +kernel
theorem dX2_tetrahedron_89 : decode cX2_tetrahedron 89 = .ok (.i2l, 1) := by decide +kernel
theorem dX2_tetrahedron_90 : decode cX2_tetrahedron 90 = .ok (.lmul, 1) := by decide +kernel
theorem dX2_tetrahedron_91 : decode cX2_tetrahedron 91 = .ok (.ladd, 1) := by decide +kernel
theorem dX2_tetrahedron_92 : decode cX2_tetrahedron 92 = .ok (.lload 8, 2) := by decide +kernel
theorem dX2_tetrahedron_94 : decode cX2_tetrahedron 94 = .ok (.aload_n 3, 1) := by decide +kernel
theorem dX2_tetrahedron_95 : decode cX2_tetrahedron 95 = .ok (.getfield 192, 3) := by decide +kernel
theorem dX2_tetrahedron_98 : decode cX2_tetrahedron 98 = .ok (.i2l, 1) := by decide +kernel
theorem dX2_tetrahedron_99 : decode cX2_tetrahedron 99 = .ok (.lmul, 1) := by decide +kernel
theorem dX2_tetrahedron_100 : decode cX2_tetrahedron 100 = .ok (.ladd, 1) := by decide +kernel
theorem dX2_tetrahedron_101 : decode cX2_tetrahedron 101 = .ok (.lreturn, 1) := by decide +kernel
theorem q37 : (Jvm.Cond.initialized "HullBuilder$Hull") ∈ lw_all := lw_g (lw_at lw_m1 2 rfl) rfl
theorem q64 : (Jvm.Cond.instantiable "HullBuilder$Hull" (16 : Nat)) ∈ lw_all := lw_g (lw_at lw_m1 29 rfl) rfl
theorem q66 : (Jvm.Cond.instanceMethod ({ cls := "HullBuilder$Hull", name := "<init>", desc := "()V" } : Jvm.MethodName)) ∈ lw_all := lw_g (lw_at lw_m1 31 rfl) rfl
theorem q67 : (Jvm.Cond.code ({ cls := "HullBuilder$Hull", name := "<init>", desc := "()V" } : Jvm.MethodName) prog_4_method_1_code (2 : Nat) (Option.none : Option Jvm.ClassFile.FieldType)) ∈ lw_all := lw_g (lw_at lw_m1 32 rfl) rfl
theorem q68 : (Jvm.Cond.methodLink "HullBuilder$Hull" (3 : Nat) ({ cls := "java/lang/Object", name := "<init>", desc := "()V" } : Jvm.MethodName)) ∈ lw_all := lw_g (lw_at lw_m1 33 rfl) rfl
theorem q69 : (Jvm.Cond.classLink "HullBuilder$Hull" (9 : Nat) "HullBuilder$Point") ∈ lw_all := lw_g (lw_at lw_m1 34 rfl) rfl
theorem q70 : (Jvm.Cond.classLink "HullBuilder$Hull" (17 : Nat) "HullBuilder$Triangle") ∈ lw_all := lw_g (lw_at lw_m1 35 rfl) rfl
theorem q72 : (Jvm.Cond.classLink "HullBuilder$Hull" (23 : Nat) "HullBuilder$Face") ∈ lw_all := lw_g (lw_at lw_m1 37 rfl) rfl
theorem q74 : (Jvm.Cond.classLink "HullBuilder$Hull" (29 : Nat) "HullBuilder$Edge") ∈ lw_all := lw_g (lw_at lw_m1 39 rfl) rfl
theorem q76 : (Jvm.Cond.classLink "HullBuilder$Hull" (52 : Nat) "[[Z") ∈ lw_all := lw_g (lw_at lw_m1 41 rfl) rfl
theorem q78 : (Jvm.Cond.classLink "HullBuilder$Hull" (57 : Nat) "HullBuilder$Plane") ∈ lw_all := lw_g (lw_at lw_m1 43 rfl) rfl
theorem q80 : (Jvm.Cond.methodLinkNest "HullBuilder$Hull" (59 : Nat) ({ cls := "HullBuilder$Plane", name := "<init>", desc := "()V" } : Jvm.MethodName) "HullBuilder") ∈ lw_tbl := lw_at lw_m1 45 rfl
theorem q104 : (Jvm.Cond.methodLinkNest "HullBuilder$Hull" (64 : Nat) ({ cls := "HullBuilder$Point", name := "<init>", desc := "()V" } : Jvm.MethodName) "HullBuilder") ∈ lw_tbl := lw_at lw_m1 69 rfl
theorem q110 : (Jvm.Cond.fieldLink "HullBuilder$Hull" (186 : Nat) "HullBuilder$Point" "x" "I") ∈ lw_all := lw_g (lw_at lw_m1 75 rfl) rfl
theorem q113 : (Jvm.Cond.fieldLink "HullBuilder$Hull" (189 : Nat) "HullBuilder$Point" "y" "I") ∈ lw_all := lw_g (lw_at lw_m1 78 rfl) rfl
theorem q116 : (Jvm.Cond.fieldLink "HullBuilder$Hull" (192 : Nat) "HullBuilder$Point" "z" "I") ∈ lw_all := lw_g (lw_at lw_m1 81 rfl) rfl
theorem q125 : (Jvm.Cond.methodLinkNest "HullBuilder$Hull" (65 : Nat) ({ cls := "HullBuilder$Triangle", name := "<init>", desc := "()V" } : Jvm.MethodName) "HullBuilder") ∈ lw_tbl := lw_at lw_m1 90 rfl
theorem q132 : (Jvm.Cond.fieldLink "HullBuilder$Hull" (88 : Nat) "HullBuilder$Triangle" "plane" "LHullBuilder$Plane;") ∈ lw_all := lw_g (lw_at lw_m1 97 rfl) rfl
theorem q134 : (Jvm.Cond.fieldLink "HullBuilder$Hull" (76 : Nat) "HullBuilder$Triangle" "a" "I") ∈ lw_all := lw_g (lw_at lw_m1 99 rfl) rfl
theorem q136 : (Jvm.Cond.fieldLink "HullBuilder$Hull" (79 : Nat) "HullBuilder$Triangle" "b" "I") ∈ lw_all := lw_g (lw_at lw_m1 101 rfl) rfl
theorem q138 : (Jvm.Cond.fieldLink "HullBuilder$Hull" (82 : Nat) "HullBuilder$Triangle" "c" "I") ∈ lw_all := lw_g (lw_at lw_m1 103 rfl) rfl
theorem q139 : (Jvm.Cond.fieldLink "HullBuilder$Hull" (72 : Nat) "HullBuilder$Triangle" "lives" "Z") ∈ lw_all := lw_g (lw_at lw_m1 104 rfl) rfl
theorem q140 : (Jvm.Cond.fieldLink "HullBuilder$Hull" (85 : Nat) "HullBuilder$Triangle" "seen" "Z") ∈ lw_all := lw_g (lw_at lw_m1 105 rfl) rfl
theorem q155 : (Jvm.Cond.methodLinkNest "HullBuilder$Hull" (66 : Nat) ({ cls := "HullBuilder$Face", name := "<init>", desc := "()V" } : Jvm.MethodName) "HullBuilder") ∈ lw_tbl := lw_at lw_m1 120 rfl
theorem q162 : (Jvm.Cond.fieldLink "HullBuilder$Hull" (120 : Nat) "HullBuilder$Face" "plane" "LHullBuilder$Plane;") ∈ lw_all := lw_g (lw_at lw_m1 127 rfl) rfl
theorem q165 : (Jvm.Cond.fieldLink "HullBuilder$Hull" (136 : Nat) "HullBuilder$Face" "corners" "[I") ∈ lw_all := lw_g (lw_at lw_m1 130 rfl) rfl
theorem q168 : (Jvm.Cond.fieldLink "HullBuilder$Hull" (133 : Nat) "HullBuilder$Face" "size" "I") ∈ lw_all := lw_g (lw_at lw_m1 133 rfl) rfl
theorem q178 : (Jvm.Cond.methodLinkNest "HullBuilder$Hull" (67 : Nat) ({ cls := "HullBuilder$Edge", name := "<init>", desc := "()V" } : Jvm.MethodName) "HullBuilder") ∈ lw_tbl := lw_at lw_m1 143 rfl
theorem q183 : (Jvm.Cond.fieldLink "HullBuilder$Hull" (154 : Nat) "HullBuilder$Edge" "a" "I") ∈ lw_all := lw_g (lw_at lw_m1 148 rfl) rfl
theorem q185 : (Jvm.Cond.fieldLink "HullBuilder$Hull" (155 : Nat) "HullBuilder$Edge" "b" "I") ∈ lw_all := lw_g (lw_at lw_m1 150 rfl) rfl
theorem q187 : (Jvm.Cond.fieldLink "HullBuilder$Hull" (160 : Nat) "HullBuilder$Edge" "left" "I") ∈ lw_all := lw_g (lw_at lw_m1 152 rfl) rfl
theorem q189 : (Jvm.Cond.fieldLink "HullBuilder$Hull" (163 : Nat) "HullBuilder$Edge" "right" "I") ∈ lw_all := lw_g (lw_at lw_m1 154 rfl) rfl
theorem q199 : (Jvm.Cond.fieldLink "HullBuilder$Hull" (11 : Nat) "HullBuilder$Hull" "points" "[LHullBuilder$Point;") ∈ lw_all := lw_g (lw_at lw_m1 164 rfl) rfl
theorem q200 : (Jvm.Cond.fieldLink "HullBuilder$Hull" (19 : Nat) "HullBuilder$Hull" "triangles" "[LHullBuilder$Triangle;") ∈ lw_all := lw_g (lw_at lw_m1 165 rfl) rfl
theorem q201 : (Jvm.Cond.fieldLink "HullBuilder$Hull" (25 : Nat) "HullBuilder$Hull" "faces" "[LHullBuilder$Face;") ∈ lw_all := lw_g (lw_at lw_m1 166 rfl) rfl
theorem q203 : (Jvm.Cond.fieldLink "HullBuilder$Hull" (31 : Nat) "HullBuilder$Hull" "edges" "[LHullBuilder$Edge;") ∈ lw_all := lw_g (lw_at lw_m1 168 rfl) rfl
theorem q205 : (Jvm.Cond.fieldLink "HullBuilder$Hull" (35 : Nat) "HullBuilder$Hull" "next" "[I") ∈ lw_all := lw_g (lw_at lw_m1 170 rfl) rfl
theorem q206 : (Jvm.Cond.fieldLink "HullBuilder$Hull" (39 : Nat) "HullBuilder$Hull" "spare" "[I") ∈ lw_all := lw_g (lw_at lw_m1 171 rfl) rfl
theorem q207 : (Jvm.Cond.fieldLink "HullBuilder$Hull" (42 : Nat) "HullBuilder$Hull" "distance" "[I") ∈ lw_all := lw_g (lw_at lw_m1 172 rfl) rfl
theorem q209 : (Jvm.Cond.fieldLink "HullBuilder$Hull" (45 : Nat) "HullBuilder$Hull" "row" "[I") ∈ lw_all := lw_g (lw_at lw_m1 174 rfl) rfl
theorem q210 : (Jvm.Cond.fieldLink "HullBuilder$Hull" (48 : Nat) "HullBuilder$Hull" "isCorner" "[Z") ∈ lw_all := lw_g (lw_at lw_m1 175 rfl) rfl
theorem q212 : (Jvm.Cond.fieldLink "HullBuilder$Hull" (54 : Nat) "HullBuilder$Hull" "joined" "[[Z") ∈ lw_all := lw_g (lw_at lw_m1 177 rfl) rfl
theorem q213 : (Jvm.Cond.fieldLink "HullBuilder$Hull" (60 : Nat) "HullBuilder$Hull" "plane" "LHullBuilder$Plane;") ∈ lw_all := lw_g (lw_at lw_m1 178 rfl) rfl
theorem q214 : (Jvm.Cond.fieldLink "HullBuilder$Hull" (93 : Nat) "HullBuilder$Hull" "many" "I") ∈ lw_all := lw_g (lw_at lw_m1 179 rfl) rfl
theorem q215 : (Jvm.Cond.fieldLink "HullBuilder$Hull" (68 : Nat) "HullBuilder$Hull" "made" "I") ∈ lw_all := lw_g (lw_at lw_m1 180 rfl) rfl
theorem q216 : (Jvm.Cond.fieldLink "HullBuilder$Hull" (117 : Nat) "HullBuilder$Hull" "faceCount" "I") ∈ lw_all := lw_g (lw_at lw_m1 181 rfl) rfl
theorem q218 : (Jvm.Cond.fieldLink "HullBuilder$Hull" (149 : Nat) "HullBuilder$Hull" "edgeCount" "I") ∈ lw_all := lw_g (lw_at lw_m1 183 rfl) rfl
theorem q220 : (Jvm.Cond.fieldLink "HullBuilder$Hull" (152 : Nat) "HullBuilder$Hull" "corners" "I") ∈ lw_all := lw_g (lw_at lw_m1 185 rfl) rfl
theorem q222 : (Jvm.Cond.laysFinal "HullBuilder$Hull" "HullBuilder$Hull" "points" "[LHullBuilder$Point;") ∈ lw_all := lw_g (lw_at lw_m1 187 rfl) rfl
theorem q223 : (Jvm.Cond.soleField "HullBuilder$Hull" "points") ∈ lw_all := lw_g (lw_at lw_m1 188 rfl) rfl
theorem q224 : (Jvm.Cond.laysFinal "HullBuilder$Hull" "HullBuilder$Hull" "triangles" "[LHullBuilder$Triangle;") ∈ lw_all := lw_g (lw_at lw_m1 189 rfl) rfl
theorem q225 : (Jvm.Cond.soleField "HullBuilder$Hull" "triangles") ∈ lw_all := lw_g (lw_at lw_m1 190 rfl) rfl
theorem q226 : (Jvm.Cond.laysFinal "HullBuilder$Hull" "HullBuilder$Hull" "faces" "[LHullBuilder$Face;") ∈ lw_all := lw_g (lw_at lw_m1 191 rfl) rfl
theorem q227 : (Jvm.Cond.soleField "HullBuilder$Hull" "faces") ∈ lw_all := lw_g (lw_at lw_m1 192 rfl) rfl
theorem q228 : (Jvm.Cond.laysFinal "HullBuilder$Hull" "HullBuilder$Hull" "edges" "[LHullBuilder$Edge;") ∈ lw_all := lw_g (lw_at lw_m1 193 rfl) rfl
theorem q229 : (Jvm.Cond.soleField "HullBuilder$Hull" "edges") ∈ lw_all := lw_g (lw_at lw_m1 194 rfl) rfl
theorem q230 : (Jvm.Cond.laysFinal "HullBuilder$Hull" "HullBuilder$Hull" "next" "[I") ∈ lw_all := lw_g (lw_at lw_m1 195 rfl) rfl
theorem q231 : (Jvm.Cond.soleField "HullBuilder$Hull" "next") ∈ lw_all := lw_g (lw_at lw_m1 196 rfl) rfl
theorem q232 : (Jvm.Cond.laysFinal "HullBuilder$Hull" "HullBuilder$Hull" "spare" "[I") ∈ lw_all := lw_g (lw_at lw_m1 197 rfl) rfl
theorem q233 : (Jvm.Cond.soleField "HullBuilder$Hull" "spare") ∈ lw_all := lw_g (lw_at lw_m1 198 rfl) rfl
theorem q234 : (Jvm.Cond.laysFinal "HullBuilder$Hull" "HullBuilder$Hull" "distance" "[I") ∈ lw_all := lw_g (lw_at lw_m1 199 rfl) rfl
theorem q235 : (Jvm.Cond.soleField "HullBuilder$Hull" "distance") ∈ lw_all := lw_g (lw_at lw_m1 200 rfl) rfl
theorem q236 : (Jvm.Cond.laysFinal "HullBuilder$Hull" "HullBuilder$Hull" "row" "[I") ∈ lw_all := lw_g (lw_at lw_m1 201 rfl) rfl
theorem q237 : (Jvm.Cond.soleField "HullBuilder$Hull" "row") ∈ lw_all := lw_g (lw_at lw_m1 202 rfl) rfl
theorem q238 : (Jvm.Cond.laysFinal "HullBuilder$Hull" "HullBuilder$Hull" "isCorner" "[Z") ∈ lw_all := lw_g (lw_at lw_m1 203 rfl) rfl
theorem q239 : (Jvm.Cond.soleField "HullBuilder$Hull" "isCorner") ∈ lw_all := lw_g (lw_at lw_m1 204 rfl) rfl
theorem q240 : (Jvm.Cond.laysFinal "HullBuilder$Hull" "HullBuilder$Hull" "joined" "[[Z") ∈ lw_all := lw_g (lw_at lw_m1 205 rfl) rfl
theorem q241 : (Jvm.Cond.soleField "HullBuilder$Hull" "joined") ∈ lw_all := lw_g (lw_at lw_m1 206 rfl) rfl
theorem q242 : (Jvm.Cond.laysFinal "HullBuilder$Hull" "HullBuilder$Hull" "plane" "LHullBuilder$Plane;") ∈ lw_all := lw_g (lw_at lw_m1 207 rfl) rfl
theorem q243 : (Jvm.Cond.soleField "HullBuilder$Hull" "plane") ∈ lw_all := lw_g (lw_at lw_m1 208 rfl) rfl
theorem q244 : (Jvm.Cond.lays "HullBuilder$Hull" "HullBuilder$Hull" "many" "I") ∈ lw_all := lw_g (lw_at lw_m1 209 rfl) rfl
theorem q245 : (Jvm.Cond.soleField "HullBuilder$Hull" "many") ∈ lw_all := lw_g (lw_at lw_m1 210 rfl) rfl
theorem q246 : (Jvm.Cond.lays "HullBuilder$Hull" "HullBuilder$Hull" "made" "I") ∈ lw_all := lw_g (lw_at lw_m1 211 rfl) rfl
theorem q247 : (Jvm.Cond.soleField "HullBuilder$Hull" "made") ∈ lw_all := lw_g (lw_at lw_m1 212 rfl) rfl
theorem q248 : (Jvm.Cond.lays "HullBuilder$Hull" "HullBuilder$Hull" "faceCount" "I") ∈ lw_all := lw_g (lw_at lw_m1 213 rfl) rfl
theorem q249 : (Jvm.Cond.soleField "HullBuilder$Hull" "faceCount") ∈ lw_all := lw_g (lw_at lw_m1 214 rfl) rfl
theorem q250 : (Jvm.Cond.lays "HullBuilder$Hull" "HullBuilder$Hull" "edgeCount" "I") ∈ lw_all := lw_g (lw_at lw_m1 215 rfl) rfl
theorem q251 : (Jvm.Cond.soleField "HullBuilder$Hull" "edgeCount") ∈ lw_all := lw_g (lw_at lw_m1 216 rfl) rfl
theorem q252 : (Jvm.Cond.lays "HullBuilder$Hull" "HullBuilder$Hull" "corners" "I") ∈ lw_all := lw_g (lw_at lw_m1 217 rfl) rfl
theorem q253 : (Jvm.Cond.soleField "HullBuilder$Hull" "corners") ∈ lw_all := lw_g (lw_at lw_m1 218 rfl) rfl
theorem q254 : (Jvm.Cond.superclass "HullBuilder$Hull" "java/lang/Object") ∈ lw_all := lw_g (lw_at lw_m1 219 rfl) rfl
theorem q444 : (Jvm.Cond.instanceMethod ({ cls := "HullBuilder$Hull", name := "build", desc := "([LHullBuilder$Point;I)Z" } : Jvm.MethodName)) ∈ lw_all := lw_g (lw_at lw_m2 169 rfl) rfl
theorem q445 : (Jvm.Cond.selects "HullBuilder$Hull" ({ cls := "HullBuilder$Hull", name := "build", desc := "([LHullBuilder$Point;I)Z" } : Jvm.MethodName) ({ cls := "HullBuilder$Hull", name := "build", desc := "([LHullBuilder$Point;I)Z" } : Jvm.MethodName)) ∈ lw_all := lw_g (lw_at lw_m2 170 rfl) rfl
theorem q446 : (Jvm.Cond.code ({ cls := "HullBuilder$Hull", name := "build", desc := "([LHullBuilder$Point;I)Z" } : Jvm.MethodName) prog_4_method_11_code (6 : Nat) (Option.some Jvm.ClassFile.FieldType.boolean)) ∈ lw_all := lw_g (lw_at lw_m2 171 rfl) rfl
theorem q447 : (Jvm.Cond.methodLink "HullBuilder$Hull" (166 : Nat) ({ cls := "HullBuilder$Point", name := "copy", desc := "(LHullBuilder$Point;)V" } : Jvm.MethodName)) ∈ lw_all := lw_g (lw_at lw_m2 172 rfl) rfl
theorem q448 : (Jvm.Cond.methodLink "HullBuilder$Hull" (169 : Nat) ({ cls := "HullBuilder$Hull", name := "begin", desc := "()I" } : Jvm.MethodName)) ∈ lw_all := lw_g (lw_at lw_m2 173 rfl) rfl
theorem q449 : (Jvm.Cond.privateMethod ({ cls := "HullBuilder$Hull", name := "begin", desc := "()I" } : Jvm.MethodName)) ∈ lw_tbl := lw_at lw_m2 174 rfl
theorem q450 : (Jvm.Cond.instanceMethod ({ cls := "HullBuilder$Hull", name := "begin", desc := "()I" } : Jvm.MethodName)) ∈ lw_all := lw_g (lw_at lw_m2 175 rfl) rfl
theorem q451 : (Jvm.Cond.code ({ cls := "HullBuilder$Hull", name := "begin", desc := "()I" } : Jvm.MethodName) prog_4_method_3_code (7 : Nat) (Option.some Jvm.ClassFile.FieldType.int)) ∈ lw_all := lw_g (lw_at lw_m2 176 rfl) rfl
theorem q452 : (Jvm.Cond.methodLink "HullBuilder$Hull" (89 : Nat) ({ cls := "HullBuilder$Plane", name := "through", desc := "(LHullBuilder$Point;LHullBuilder$Point;LHullBuilder$Point;)Z" } : Jvm.MethodName)) ∈ lw_all := lw_g (lw_at lw_m2 177 rfl) rfl
theorem q459 : (Jvm.Cond.methodLink "HullBuilder$Hull" (96 : Nat) ({ cls := "HullBuilder$Plane", name := "above", desc := "(LHullBuilder$Point;)J" } : Jvm.MethodName)) ∈ lw_all := lw_g (lw_at lw_m2 184 rfl) rfl
theorem q467 : (Jvm.Cond.methodLink "HullBuilder$Hull" (100 : Nat) ({ cls := "HullBuilder$Hull", name := "triangle", desc := "(III)V" } : Jvm.MethodName)) ∈ lw_all := lw_g (lw_at lw_m2 192 rfl) rfl
theorem q468 : (Jvm.Cond.privateMethod ({ cls := "HullBuilder$Hull", name := "triangle", desc := "(III)V" } : Jvm.MethodName)) ∈ lw_tbl := lw_at lw_m2 193 rfl
theorem q469 : (Jvm.Cond.instanceMethod ({ cls := "HullBuilder$Hull", name := "triangle", desc := "(III)V" } : Jvm.MethodName)) ∈ lw_all := lw_g (lw_at lw_m2 194 rfl) rfl
theorem q470 : (Jvm.Cond.code ({ cls := "HullBuilder$Hull", name := "triangle", desc := "(III)V" } : Jvm.MethodName) prog_4_method_2_code (6 : Nat) (Option.none : Option Jvm.ClassFile.FieldType)) ∈ lw_all := lw_g (lw_at lw_m2 195 rfl) rfl
theorem q471 : (Jvm.Cond.methodLink "HullBuilder$Hull" (173 : Nat) ({ cls := "HullBuilder$Hull", name := "add", desc := "(I)V" } : Jvm.MethodName)) ∈ lw_all := lw_g (lw_at lw_m2 196 rfl) rfl
theorem q472 : (Jvm.Cond.privateMethod ({ cls := "HullBuilder$Hull", name := "add", desc := "(I)V" } : Jvm.MethodName)) ∈ lw_tbl := lw_at lw_m2 197 rfl
theorem q473 : (Jvm.Cond.instanceMethod ({ cls := "HullBuilder$Hull", name := "add", desc := "(I)V" } : Jvm.MethodName)) ∈ lw_all := lw_g (lw_at lw_m2 198 rfl) rfl
theorem q474 : (Jvm.Cond.code ({ cls := "HullBuilder$Hull", name := "add", desc := "(I)V" } : Jvm.MethodName) prog_4_method_5_code (7 : Nat) (Option.none : Option Jvm.ClassFile.FieldType)) ∈ lw_all := lw_g (lw_at lw_m2 199 rfl) rfl
theorem q475 : (Jvm.Cond.constantLong "HullBuilder$Hull" (108 : Nat) (-1 : Int64)) ∈ lw_all := lw_g (lw_at lw_m2 200 rfl) rfl
theorem q476 : (Jvm.Cond.methodLink "HullBuilder$Hull" (110 : Nat) ({ cls := "HullBuilder$Triangle", name := "get", desc := "(I)I" } : Jvm.MethodName)) ∈ lw_all := lw_g (lw_at lw_m2 201 rfl) rfl
theorem q480 : (Jvm.Cond.methodLink "HullBuilder$Hull" (114 : Nat) ({ cls := "HullBuilder$Hull", name := "stays", desc := "(II)Z" } : Jvm.MethodName)) ∈ lw_all := lw_g (lw_at lw_m2 205 rfl) rfl
theorem q481 : (Jvm.Cond.privateMethod ({ cls := "HullBuilder$Hull", name := "stays", desc := "(II)Z" } : Jvm.MethodName)) ∈ lw_tbl := lw_at lw_m2 206 rfl
theorem q482 : (Jvm.Cond.instanceMethod ({ cls := "HullBuilder$Hull", name := "stays", desc := "(II)Z" } : Jvm.MethodName)) ∈ lw_all := lw_g (lw_at lw_m2 207 rfl) rfl
theorem q483 : (Jvm.Cond.code ({ cls := "HullBuilder$Hull", name := "stays", desc := "(II)Z" } : Jvm.MethodName) prog_4_method_4_code (4 : Nat) (Option.some Jvm.ClassFile.FieldType.boolean)) ∈ lw_all := lw_g (lw_at lw_m2 208 rfl) rfl
theorem q484 : (Jvm.Cond.methodLink "HullBuilder$Hull" (104 : Nat) ({ cls := "HullBuilder$Triangle", name := "goes", desc := "(II)Z" } : Jvm.MethodName)) ∈ lw_all := lw_g (lw_at lw_m2 209 rfl) rfl
theorem q488 : (Jvm.Cond.methodLink "HullBuilder$Hull" (177 : Nat) ({ cls := "HullBuilder$Hull", name := "unite", desc := "(I)V" } : Jvm.MethodName)) ∈ lw_all := lw_g (lw_at lw_m2 213 rfl) rfl
theorem q489 : (Jvm.Cond.privateMethod ({ cls := "HullBuilder$Hull", name := "unite", desc := "(I)V" } : Jvm.MethodName)) ∈ lw_tbl := lw_at lw_m2 214 rfl
theorem q490 : (Jvm.Cond.instanceMethod ({ cls := "HullBuilder$Hull", name := "unite", desc := "(I)V" } : Jvm.MethodName)) ∈ lw_all := lw_g (lw_at lw_m2 215 rfl) rfl
theorem q491 : (Jvm.Cond.code ({ cls := "HullBuilder$Hull", name := "unite", desc := "(I)V" } : Jvm.MethodName) prog_4_method_6_code (8 : Nat) (Option.none : Option Jvm.ClassFile.FieldType)) ∈ lw_all := lw_g (lw_at lw_m2 216 rfl) rfl
theorem q492 : (Jvm.Cond.methodLink "HullBuilder$Hull" (121 : Nat) ({ cls := "HullBuilder$Plane", name := "copy", desc := "(LHullBuilder$Plane;)V" } : Jvm.MethodName)) ∈ lw_all := lw_g (lw_at lw_m2 217 rfl) rfl
theorem q496 : (Jvm.Cond.methodLink "HullBuilder$Hull" (125 : Nat) ({ cls := "HullBuilder$Plane", name := "same", desc := "(LHullBuilder$Plane;)Z" } : Jvm.MethodName)) ∈ lw_all := lw_g (lw_at lw_m2 221 rfl) rfl
theorem q500 : (Jvm.Cond.methodLink "HullBuilder$Hull" (129 : Nat) ({ cls := "HullBuilder$Hull", name := "within", desc := "(LHullBuilder$Plane;II)Z" } : Jvm.MethodName)) ∈ lw_all := lw_g (lw_at lw_m2 225 rfl) rfl
theorem q501 : (Jvm.Cond.privateMethod ({ cls := "HullBuilder$Hull", name := "within", desc := "(LHullBuilder$Plane;II)Z" } : Jvm.MethodName)) ∈ lw_tbl := lw_at lw_m2 226 rfl
theorem q502 : (Jvm.Cond.instanceMethod ({ cls := "HullBuilder$Hull", name := "within", desc := "(LHullBuilder$Plane;II)Z" } : Jvm.MethodName)) ∈ lw_all := lw_g (lw_at lw_m2 227 rfl) rfl
theorem q503 : (Jvm.Cond.code ({ cls := "HullBuilder$Hull", name := "within", desc := "(LHullBuilder$Plane;II)Z" } : Jvm.MethodName) prog_4_method_7_code (5 : Nat) (Option.some Jvm.ClassFile.FieldType.boolean)) ∈ lw_all := lw_g (lw_at lw_m2 228 rfl) rfl
theorem q504 : (Jvm.Cond.methodLink "HullBuilder$Hull" (139 : Nat) ({ cls := "HullBuilder$Face", name := "rotate", desc := "([I)V" } : Jvm.MethodName)) ∈ lw_all := lw_g (lw_at lw_m2 229 rfl) rfl
theorem q511 : (Jvm.Cond.methodLink "HullBuilder$Hull" (180 : Nat) ({ cls := "HullBuilder$Hull", name := "order", desc := "()V" } : Jvm.MethodName)) ∈ lw_all := lw_g (lw_at lw_m2 236 rfl) rfl
theorem q512 : (Jvm.Cond.privateMethod ({ cls := "HullBuilder$Hull", name := "order", desc := "()V" } : Jvm.MethodName)) ∈ lw_tbl := lw_at lw_m2 237 rfl
theorem q513 : (Jvm.Cond.instanceMethod ({ cls := "HullBuilder$Hull", name := "order", desc := "()V" } : Jvm.MethodName)) ∈ lw_all := lw_g (lw_at lw_m2 238 rfl) rfl
theorem q514 : (Jvm.Cond.code ({ cls := "HullBuilder$Hull", name := "order", desc := "()V" } : Jvm.MethodName) prog_4_method_8_code (4 : Nat) (Option.none : Option Jvm.ClassFile.FieldType)) ∈ lw_all := lw_g (lw_at lw_m2 239 rfl) rfl
theorem q515 : (Jvm.Cond.methodLink "HullBuilder$Hull" (143 : Nat) ({ cls := "HullBuilder$Face", name := "before", desc := "(LHullBuilder$Face;)Z" } : Jvm.MethodName)) ∈ lw_all := lw_g (lw_at lw_m3 0 rfl) rfl
theorem q519 : (Jvm.Cond.methodLink "HullBuilder$Hull" (183 : Nat) ({ cls := "HullBuilder$Hull", name := "join", desc := "()V" } : Jvm.MethodName)) ∈ lw_all := lw_g (lw_at lw_m3 4 rfl) rfl
theorem q520 : (Jvm.Cond.privateMethod ({ cls := "HullBuilder$Hull", name := "join", desc := "()V" } : Jvm.MethodName)) ∈ lw_tbl := lw_at lw_m3 5 rfl
theorem q521 : (Jvm.Cond.instanceMethod ({ cls := "HullBuilder$Hull", name := "join", desc := "()V" } : Jvm.MethodName)) ∈ lw_all := lw_g (lw_at lw_m3 6 rfl) rfl
theorem q522 : (Jvm.Cond.code ({ cls := "HullBuilder$Hull", name := "join", desc := "()V" } : Jvm.MethodName) prog_4_method_10_code (4 : Nat) (Option.none : Option Jvm.ClassFile.FieldType)) ∈ lw_all := lw_g (lw_at lw_m3 7 rfl) rfl
theorem q523 : (Jvm.Cond.methodLink "HullBuilder$Hull" (147 : Nat) ({ cls := "HullBuilder$Face", name := "next", desc := "(I)I" } : Jvm.MethodName)) ∈ lw_all := lw_g (lw_at lw_m3 8 rfl) rfl
theorem q527 : (Jvm.Cond.methodLink "HullBuilder$Hull" (156 : Nat) ({ cls := "HullBuilder$Hull", name := "faceOf", desc := "(II)I" } : Jvm.MethodName)) ∈ lw_all := lw_g (lw_at lw_m3 12 rfl) rfl
theorem q528 : (Jvm.Cond.privateMethod ({ cls := "HullBuilder$Hull", name := "faceOf", desc := "(II)I" } : Jvm.MethodName)) ∈ lw_tbl := lw_at lw_m3 13 rfl
theorem q529 : (Jvm.Cond.instanceMethod ({ cls := "HullBuilder$Hull", name := "faceOf", desc := "(II)I" } : Jvm.MethodName)) ∈ lw_all := lw_g (lw_at lw_m3 14 rfl) rfl
theorem q530 : (Jvm.Cond.code ({ cls := "HullBuilder$Hull", name := "faceOf", desc := "(II)I" } : Jvm.MethodName) prog_4_method_9_code (5 : Nat) (Option.some Jvm.ClassFile.FieldType.int)) ∈ lw_all := lw_g (lw_at lw_m3 15 rfl) rfl
theorem q594 : (Jvm.Cond.instanceMethod ({ cls := "HullBuilder$Hull", name := "support", desc := "(JJJ)I" } : Jvm.MethodName)) ∈ lw_all := lw_g (lw_at lw_m3 79 rfl) rfl
theorem q595 : (Jvm.Cond.selects "HullBuilder$Hull" ({ cls := "HullBuilder$Hull", name := "support", desc := "(JJJ)I" } : Jvm.MethodName) ({ cls := "HullBuilder$Hull", name := "support", desc := "(JJJ)I" } : Jvm.MethodName)) ∈ lw_all := lw_g (lw_at lw_m3 80 rfl) rfl
theorem q596 : (Jvm.Cond.code ({ cls := "HullBuilder$Hull", name := "support", desc := "(JJJ)I" } : Jvm.MethodName) prog_4_method_13_code (15 : Nat) (Option.some Jvm.ClassFile.FieldType.int)) ∈ lw_all := lw_g (lw_at lw_m3 81 rfl) rfl
theorem q597 : (Jvm.Cond.methodLink "HullBuilder$Hull" (195 : Nat) ({ cls := "HullBuilder$Hull", name := "along", desc := "(IJJJ)J" } : Jvm.MethodName)) ∈ lw_all := lw_g (lw_at lw_m3 82 rfl) rfl
theorem q598 : (Jvm.Cond.privateMethod ({ cls := "HullBuilder$Hull", name := "along", desc := "(IJJJ)J" } : Jvm.MethodName)) ∈ lw_tbl := lw_at lw_m3 83 rfl
theorem q599 : (Jvm.Cond.instanceMethod ({ cls := "HullBuilder$Hull", name := "along", desc := "(IJJJ)J" } : Jvm.MethodName)) ∈ lw_all := lw_g (lw_at lw_m3 84 rfl) rfl
theorem q600 : (Jvm.Cond.code ({ cls := "HullBuilder$Hull", name := "along", desc := "(IJJJ)J" } : Jvm.MethodName) prog_4_method_12_code (8 : Nat) (Option.some Jvm.ClassFile.FieldType.long)) ∈ lw_all := lw_g (lw_at lw_m3 85 rfl) rfl
theorem q612 : (Jvm.Cond.instanceMethod ({ cls := "HullBuilder$Hull", name := "walk", desc := "(I)V" } : Jvm.MethodName)) ∈ lw_all := lw_g (lw_at lw_m3 97 rfl) rfl
theorem q613 : (Jvm.Cond.selects "HullBuilder$Hull" ({ cls := "HullBuilder$Hull", name := "walk", desc := "(I)V" } : Jvm.MethodName) ({ cls := "HullBuilder$Hull", name := "walk", desc := "(I)V" } : Jvm.MethodName)) ∈ lw_all := lw_g (lw_at lw_m3 98 rfl) rfl
theorem q614 : (Jvm.Cond.code ({ cls := "HullBuilder$Hull", name := "walk", desc := "(I)V" } : Jvm.MethodName) prog_4_method_14_code (5 : Nat) (Option.none : Option Jvm.ClassFile.FieldType)) ∈ lw_all := lw_g (lw_at lw_m3 99 rfl) rfl
theorem q623 : (Jvm.Cond.instanceMethod ({ cls := "HullBuilder$Hull", name := "side", desc := "(JJJ)I" } : Jvm.MethodName)) ∈ lw_all := lw_g (lw_at lw_m3 108 rfl) rfl
theorem q624 : (Jvm.Cond.selects "HullBuilder$Hull" ({ cls := "HullBuilder$Hull", name := "side", desc := "(JJJ)I" } : Jvm.MethodName) ({ cls := "HullBuilder$Hull", name := "side", desc := "(JJJ)I" } : Jvm.MethodName)) ∈ lw_all := lw_g (lw_at lw_m3 109 rfl) rfl
theorem q625 : (Jvm.Cond.code ({ cls := "HullBuilder$Hull", name := "side", desc := "(JJJ)I" } : Jvm.MethodName) prog_4_method_15_code (11 : Nat) (Option.some Jvm.ClassFile.FieldType.int)) ∈ lw_all := lw_g (lw_at lw_m3 110 rfl) rfl
theorem q626 : (Jvm.Cond.methodLink "HullBuilder$Hull" (199 : Nat) ({ cls := "HullBuilder$Plane", name := "above", desc := "(JJJ)J" } : Jvm.MethodName)) ∈ lw_all := lw_g (lw_at lw_m3 111 rfl) rfl
theorem q635 : (Jvm.Cond.instanceMethod ({ cls := "HullBuilder$Hull", name := "moment", desc := "(I)J" } : Jvm.MethodName)) ∈ lw_all := lw_g (lw_at lw_m3 120 rfl) rfl
theorem q636 : (Jvm.Cond.selects "HullBuilder$Hull" ({ cls := "HullBuilder$Hull", name := "moment", desc := "(I)J" } : Jvm.MethodName) ({ cls := "HullBuilder$Hull", name := "moment", desc := "(I)J" } : Jvm.MethodName)) ∈ lw_all := lw_g (lw_at lw_m3 121 rfl) rfl
theorem q637 : (Jvm.Cond.code ({ cls := "HullBuilder$Hull", name := "moment", desc := "(I)J" } : Jvm.MethodName) prog_4_method_17_code (12 : Nat) (Option.some Jvm.ClassFile.FieldType.long)) ∈ lw_all := lw_g (lw_at lw_m3 122 rfl) rfl
theorem q638 : (Jvm.Cond.methodLink "HullBuilder$Hull" (202 : Nat) ({ cls := "HullBuilder$Hull", name := "tetrahedron", desc := "(LHullBuilder$Point;LHullBuilder$Point;LHullBuilder$Point;)J" } : Jvm.MethodName)) ∈ lw_all := lw_g (lw_at lw_m3 123 rfl) rfl
theorem q639 : (Jvm.Cond.privateMethod ({ cls := "HullBuilder$Hull", name := "tetrahedron", desc := "(LHullBuilder$Point;LHullBuilder$Point;LHullBuilder$Point;)J" } : Jvm.MethodName)) ∈ lw_tbl := lw_at lw_m3 124 rfl
theorem q640 : (Jvm.Cond.instanceMethod ({ cls := "HullBuilder$Hull", name := "tetrahedron", desc := "(LHullBuilder$Point;LHullBuilder$Point;LHullBuilder$Point;)J" } : Jvm.MethodName)) ∈ lw_all := lw_g (lw_at lw_m3 125 rfl) rfl
theorem q641 : (Jvm.Cond.code ({ cls := "HullBuilder$Hull", name := "tetrahedron", desc := "(LHullBuilder$Point;LHullBuilder$Point;LHullBuilder$Point;)J" } : Jvm.MethodName) prog_4_method_16_code (10 : Nat) (Option.some Jvm.ClassFile.FieldType.long)) ∈ lw_all := lw_g (lw_at lw_m3 126 rfl) rfl
theorem q642 : (Jvm.Cond.methodLink "HullBuilder$Hull" (206 : Nat) ({ cls := "HullBuilder$Point", name := "get", desc := "(I)I" } : Jvm.MethodName)) ∈ lw_all := lw_g (lw_at lw_m3 127 rfl) rfl
theorem in_X2 : ∀ w ∈ wsX20, w ∈ lw_all := lw_in wsX20 [222, 224, 226, 228, 230, 232, 234, 236, 238, 240, 242, 244, 246, 248, 250, 252] (by decide +kernel) (by decide +kernel)
end
