section
/-! HullBuilder$Plane -/
set_option maxRecDepth 100000
def RX3 : String := "HullBuilder$Plane"
def TX3 : u_T := fun k => match k with
  | 0 => ("HullBuilder$Plane", "x", "J", false)
  | 1 => ("HullBuilder$Plane", "y", "J", false)
  | 2 => ("HullBuilder$Plane", "z", "J", false)
  | _ => ("HullBuilder$Plane", "offset", "J", false)
def tyX3 : Nat → FieldType := fun k => match k with
  | 0 => .long
  | 1 => .long
  | 2 => .long
  | _ => .long
abbrev wsX30 : List Cond := u_ws RX3 TX3 4
theorem nmX3 : ∀ a, a < 4 → ∀ b, b < 4 → a ≠ b → (TX3 a).2.1 ≠ (TX3 b).2.1 := by decide +kernel
theorem tyX3_ok : ∀ k, k < 4 → parseFieldDescriptor (TX3 k).2.2.1 = some (tyX3 k) := by decide +kernel
abbrev cX3_init : ByteArray := prog_5_method_1_code
def yX3_init : MethodName := ⟨RX3, "<init>", "()V"⟩
theorem dX3_init_0 : decode cX3_init 0 = .ok (.aload_n 0, 1) := by decide +kernel
theorem dX3_init_1 : decode cX3_init 1 = .ok (.invokespecial 1, 3) := by decide +kernel
theorem dX3_init_4 : decode cX3_init 4 = .ok (.return_, 1) := by decide +kernel
abbrev cX3_through : ByteArray := prog_5_method_3_code
def yX3_through : MethodName := ⟨RX3, "through", "(LHullBuilder$Point;LHullBuilder$Point;LHullBuilder$Point;)Z"⟩
theorem dX3_through_0 : decode cX3_through 0 = .ok (.aload_n 2, 1) := by decide +kernel
theorem dX3_through_1 : decode cX3_through 1 = .ok (.getfield 7, 3) := by decide +kernel
theorem dX3_through_4 : decode cX3_through 4 = .ok (.aload_n 1, 1) := by decide +kernel
theorem dX3_through_5 : decode cX3_through 5 = .ok (.getfield 7, 3) := by decide +kernel
theorem dX3_through_8 : decode cX3_through 8 = .ok (.isub, 1) := by decide +kernel
theorem dX3_through_9 : decode cX3_through 9 = .ok (.i2l, 1) := by decide +kernel
theorem dX3_through_10 : decode cX3_through 10 = .ok (.lstore 4, 2) := by decide +kernel
theorem dX3_through_12 : decode cX3_through 12 = .ok (.aload_n 2, 1) := by decide +kernel
theorem dX3_through_13 : decode cX3_through 13 = .ok (.getfield 13, 3) := by decide +kernel
theorem dX3_through_16 : decode cX3_through 16 = .ok (.aload_n 1, 1) := by decide +kernel
theorem dX3_through_17 : decode cX3_through 17 = .ok (.getfield 13, 3) := by decide +kernel
theorem dX3_through_20 : decode cX3_through 20 = .ok (.isub, 1) := by decide +kernel
theorem dX3_through_21 : decode cX3_through 21 = .ok (.i2l, 1) := by decide +kernel
theorem dX3_through_22 : decode cX3_through 22 = .ok (.lstore 6, 2) := by decide +kernel
theorem dX3_through_24 : decode cX3_through 24 = .ok (.aload_n 2, 1) := by decide +kernel
theorem dX3_through_25 : decode cX3_through 25 = .ok (.getfield 16, 3) := by decide +kernel
theorem dX3_through_28 : decode cX3_through 28 = .ok (.aload_n 1, 1) := by decide +kernel
theorem dX3_through_29 : decode cX3_through 29 = .ok (.getfield 16, 3) := by decide +kernel
theorem dX3_through_32 : decode cX3_through 32 = .ok (.isub, 1) := by decide +kernel
theorem dX3_through_33 : decode cX3_through 33 = .ok (.i2l, 1) := by decide +kernel
theorem dX3_through_34 : decode cX3_through 34 = .ok (.lstore 8, 2) := by decide +kernel
theorem dX3_through_36 : decode cX3_through 36 = .ok (.aload_n 3, 1) := by decide +kernel
theorem dX3_through_37 : decode cX3_through 37 = .ok (.getfield 7, 3) := by decide +kernel
theorem dX3_through_40 : decode cX3_through 40 = .ok (.aload_n 1, 1) := by decide +kernel
theorem dX3_through_41 : decode cX3_through 41 = .ok (.getfield 7, 3) := by decide +kernel
theorem dX3_through_44 : decode cX3_through 44 = .ok (.isub, 1) := by decide +kernel
theorem dX3_through_45 : decode cX3_through 45 = .ok (.i2l, 1) := by decide +kernel
theorem dX3_through_46 : decode cX3_through 46 = .ok (.lstore 10, 2) := by decide +kernel
theorem dX3_through_48 : decode cX3_through 48 = .ok (.aload_n 3, 1) := by decide +kernel
theorem dX3_through_49 : decode cX3_through 49 = .ok (.getfield 13, 3) := by decide +kernel
theorem dX3_through_52 : decode cX3_through 52 = .ok (.aload_n 1, 1) := by decide +kernel
theorem dX3_through_53 : decode cX3_through 53 = .ok (.getfield 13, 3) := by decide +kernel
theorem dX3_through_56 : decode cX3_through 56 = .ok (.isub, 1) := by decide +kernel
theorem dX3_through_57 : decode cX3_through 57 = .ok (.i2l, 1) := by decide +kernel
theorem dX3_through_58 : decode cX3_through 58 = .ok (.lstore 12, 2) := by decide +kernel
theorem dX3_through_60 : decode cX3_through 60 = .ok (.aload_n 3, 1) := by decide +kernel
theorem dX3_through_61 : decode cX3_through 61 = .ok (.getfield 16, 3) := by decide +kernel
theorem dX3_through_64 : decode cX3_through 64 = .ok (.aload_n 1, 1) := by decide +kernel
theorem dX3_through_65 : decode cX3_through 65 = .ok (.getfield 16, 3) := by decide +kernel
theorem dX3_through_68 : decode cX3_through 68 = .ok (.isub, 1) := by decide +kernel
theorem dX3_through_69 : decode cX3_through 69 = .ok (.i2l, 1) := by decide +kernel
theorem dX3_through_70 : decode cX3_through 70 = .ok (.lstore 14, 2) := by decide +kernel
theorem dX3_through_72 : decode cX3_through 72 = .ok (.aload_n 0, 1) := by decide +kernel
theorem dX3_through_73 : decode cX3_through 73 = .ok (.lload 6, 2) := by decide +kernel
theorem dX3_through_75 : decode cX3_through 75 = .ok (.lload 14, 2) := by decide +kernel
theorem dX3_through_77 : decode cX3_through 77 = .ok (.lmul, 1) := by decide +kernel
theorem dX3_through_78 : decode cX3_through 78 = .ok (.lload 8, 2) := by decide +kernel
theorem dX3_through_80 : decode cX3_through 80 = .ok (.lload 12, 2) := by decide +kernel
theorem dX3_through_82 : decode cX3_through 82 = .ok (.lmul, 1) := by decide +kernel
theorem dX3_through_83 : decode cX3_through 83 = .ok (.lsub, 1) := by decide +kernel
theorem dX3_through_84 : decode cX3_through 84 = .ok (.putfield 19, 3) := by decide +kernel
theorem dX3_through_87 : decode cX3_through 87 = .ok (.aload_n 0, 1) := by decide +kernel
theorem dX3_through_88 : decode cX3_through 88 = .ok (.lload 8, 2) := by decide +kernel
theorem dX3_through_90 : decode cX3_through 90 = .ok (.lload 10, 2) := by decide +kernel
theorem dX3_through_92 : decode cX3_through 92 = .ok (.lmul, 1) := by decide +kernel
theorem dX3_through_93 : decode cX3_through 93 = .ok (.lload 4, 2) := by decide +kernel
theorem dX3_through_95 : decode cX3_through 95 = .ok (.lload 14, 2) := by decide +kernel
theorem dX3_through_97 : decode cX3_through 97 = .ok (.lmul, 1) := by decide +kernel
theorem dX3_through_98 : decode cX3_through 98 = .ok (.lsub, 1) := by decide +kernel
theorem dX3_through_99 : decode cX3_through 99 = .ok (.putfield 24, 3) := by decide +kernel
theorem dX3_through_102 : decode cX3_through 102 = .ok (.aload_n 0, 1) := by decide +kernel
theorem dX3_through_103 : decode cX3_through 103 = .ok (.lload 4, 2) := by decide +kernel
theorem dX3_through_105 : decode cX3_through 105 = .ok (.lload 12, 2) := by decide +kernel
theorem dX3_through_107 : decode cX3_through 107 = .ok (.lmul, 1) := by decide +kernel
theorem dX3_through_108 : decode cX3_through 108 = .ok (.lload 6, 2) := by decide +kernel
theorem dX3_through_110 : decode cX3_through 110 = .ok (.lload 10, 2) := by decide +kernel
theorem dX3_through_112 : decode cX3_through 112 = .ok (.lmul, 1) := by decide +kernel
theorem dX3_through_113 : decode cX3_through 113 = .ok (.lsub, 1) := by decide +kernel
theorem dX3_through_114 : decode cX3_through 114 = .ok (.putfield 26, 3) := by decide +kernel
theorem dX3_through_117 : decode cX3_through 117 = .ok (.aload_n 0, 1) := by decide +kernel
theorem dX3_through_118 : decode cX3_through 118 = .ok (.getfield 19, 3) := by decide +kernel
theorem dX3_through_121 : decode cX3_through 121 = .ok (.aload_n 0, 1) := by decide +kernel
theorem dX3_through_122 : decode cX3_through 122 = .ok (.getfield 24, 3) := by decide +kernel
theorem dX3_through_125 : decode cX3_through 125 = .ok (.invokestatic 28, 3) := by decide +kernel
theorem dX3_through_128 : decode cX3_through 128 = .ok (.aload_n 0, 1) := by decide +kernel
theorem dX3_through_129 : decode cX3_through 129 = .ok (.getfield 26, 3) := by decide +kernel
theorem dX3_through_132 : decode cX3_through 132 = .ok (.invokestatic 28, 3) := by decide +kernel
theorem dX3_through_135 : decode cX3_through 135 = .ok (.lstore 16, 2) := by decide +kernel
theorem dX3_through_137 : decode cX3_through 137 = .ok (.lload 16, 2) := by decide +kernel
theorem dX3_through_139 : decode cX3_through 139 = .ok (.lconst 0, 1) := by decide +kernel
theorem dX3_through_140 : decode cX3_through 140 = .ok (.lcmp, 1) := by decide +kernel
theorem dX3_through_141 : decode cX3_through 141 = .ok (.ifCond .ne 5, 3) := by decide +kernel
theorem dX3_through_144 : decode cX3_through 144 = .ok (.iconst 0, 1) := by decide +kernel
theorem dX3_through_145 : decode cX3_through 145 = .ok (.ireturn, 1) := by decide +kernel
theorem dX3_through_146 : decode cX3_through 146 = .ok (.aload_n 0, 1) := by decide +kernel
theorem dX3_through_147 : decode cX3_through 147 = .ok (.dup, 1) := by decide +kernel
theorem dX3_through_148 : decode cX3_through 148 = .ok (.getfield 19, 3) := by decide +kernel
theorem dX3_through_151 : decode cX3_through 151 = .ok (.lload 16, 2) := by decide +kernel
theorem dX3_through_153 : decode cX3_through 153 = .ok (.ldiv, 1) := by decide +kernel
theorem dX3_through_154 : decode cX3_through 154 = .ok (.putfield 19, 3) := by decide +kernel
theorem dX3_through_157 : decode cX3_through 157 = .ok (.aload_n 0, 1) := by decide +kernel
theorem dX3_through_158 : decode cX3_through 158 = .ok (.dup, 1) := by decide +kernel
theorem dX3_through_159 : decode cX3_through 159 = .ok (.getfield 24, 3) := by decide +kernel
theorem dX3_through_162 : decode cX3_through 162 = .ok (.lload 16, 2) := by decide +kernel
theorem dX3_through_164 : decode cX3_through 164 = .ok (.ldiv, 1) := by decide +kernel
theorem dX3_through_165 : decode cX3_through 165 = .ok (.putfield 24, 3) := by decide +kernel
theorem dX3_through_168 : decode cX3_through 168 = .ok (.aload_n 0, 1) := by decide +kernel
theorem dX3_through_169 : decode cX3_through 169 = .ok (.dup, 1) := by decide +kernel
theorem dX3_through_170 : decode cX3_through 170 = .ok (.getfield 26, 3) := by decide +kernel
theorem dX3_through_173 : decode cX3_through 173 = .ok (.lload 16, 2) := by decide +kernel
theorem dX3_through_175 : decode cX3_through 175 = .ok (.ldiv, 1) := by decide +kernel
theorem dX3_through_176 : decode cX3_through 176 = .ok (.putfield 26, 3) := by decide +kernel
theorem dX3_through_179 : decode cX3_through 179 = .ok (.aload_n 0, 1) := by decide +kernel
theorem dX3_through_180 : decode cX3_through 180 = .ok (.aload_n 0, 1) := by decide +kernel
theorem dX3_through_181 : decode cX3_through 181 = .ok (.getfield 19, 3) := by decide +kernel
theorem dX3_through_184 : decode cX3_through 184 = .ok (.aload_n 1, 1) := by decide +kernel
theorem dX3_through_185 : decode cX3_through 185 = .ok (.getfield 7, 3) := by decide +kernel
theorem dX3_through_188 : decode cX3_through 188 = .ok (.i2l, 1) := by decide +kernel
theorem dX3_through_189 : decode cX3_through 189 = .ok (.lmul, 1) := by decide +kernel
theorem dX3_through_190 : decode cX3_through 190 = .ok (.aload_n 0, 1) := by decide +kernel
theorem dX3_through_191 : decode cX3_through 191 = .ok (.getfield 24, 3) := by decide +kernel
theorem dX3_through_194 : decode cX3_through 194 = .ok (.aload_n 1, 1) := by decide +kernel
theorem dX3_through_195 : decode cX3_through 195 = .ok (.getfield 13, 3) := by decide +kernel
theorem dX3_through_198 : decode cX3_through 198 = .ok (.i2l, 1) := by decide +kernel
theorem dX3_through_199 : decode cX3_through 199 = .ok (.lmul, 1) := by decide +kernel
theorem dX3_through_200 : decode cX3_through 200 = .ok (.ladd, 1) := by decide +kernel
theorem dX3_through_201 : decode cX3_through 201 = .ok (.aload_n 0, 1) := by decide +kernel
theorem dX3_through_202 : decode cX3_through 202 = .ok (.getfield 26, 3) := by decide +kernel
theorem dX3_through_205 : decode cX3_through 205 = .ok (.aload_n 1, 1) := by decide +kernel
theorem dX3_through_206 : decode cX3_through 206 = .ok (.getfield 16, 3) := by decide +kernel
theorem dX3_through_209 : decode cX3_through 209 = .ok (.i2l, 1) := by decide +kernel
theorem dX3_through_210 : decode cX3_through 210 = .ok (.lmul, 1) := by decide +kernel
theorem dX3_through_211 : decode cX3_through 211 = .ok (.ladd, 1) := by decide +kernel
theorem dX3_through_212 : decode cX3_through 212 = .ok (.putfield 32, 3) := by decide +kernel
theorem dX3_through_215 : decode cX3_through 215 = .ok (.iconst 1, 1) := by decide +kernel
theorem dX3_through_216 : decode cX3_through 216 = .ok (.ireturn, 1) := by decide +kernel
abbrev cX3_divisor : ByteArray := prog_5_method_2_code
def yX3_divisor : MethodName := ⟨RX3, "divisor", "(JJ)J"⟩
theorem dX3_divisor_0 : decode cX3_divisor 0 = .ok (.lload_n 0, 1) := by decide +kernel
theorem dX3_divisor_1 : decode cX3_divisor 1 = .ok (.lconst 0, 1) := by decide +kernel
theorem dX3_divisor_2 : decode cX3_divisor 2 = .ok (.lcmp, 1) := by decide +kernel
theorem dX3_divisor_3 : decode cX3_divisor 3 = .ok (.ifCond .ge 8, 3) := by decide +kernel
theorem dX3_divisor_6 : decode cX3_divisor 6 = .ok (.lload_n 0, 1) := by decide +kernel
theorem dX3_divisor_7 : decode cX3_divisor 7 = .ok (.lneg, 1) := by decide +kernel
theorem dX3_divisor_8 : decode cX3_divisor 8 = .ok (.goto 4, 3) := by decide +kernel
theorem dX3_divisor_11 : decode cX3_divisor 11 = .ok (.lload_n 0, 1) := by decide +kernel
theorem dX3_divisor_12 : decode cX3_divisor 12 = .ok (.lstore 4, 2) := by decide +kernel
theorem dX3_divisor_14 : decode cX3_divisor 14 = .ok (.lload_n 2, 1) := by decide +kernel
theorem dX3_divisor_15 : decode cX3_divisor 15 = .ok (.lconst 0, 1) := by decide +kernel
theorem dX3_divisor_16 : decode cX3_divisor 16 = .ok (.lcmp, 1) := by decide +kernel
theorem dX3_divisor_17 : decode cX3_divisor 17 = .ok (.ifCond .ge 8, 3) := by decide +kernel
theorem dX3_divisor_20 : decode cX3_divisor 20 = .ok (.lload_n 2, 1) := by decide +kernel
theorem dX3_divisor_21 : decode cX3_divisor 21 = .ok (.lneg, 1) := by decide +kernel
theorem dX3_divisor_22 : decode cX3_divisor 22 = .ok (.goto 4, 3) := by decide +kernel
theorem dX3_divisor_25 : decode cX3_divisor 25 = .ok (.lload_n 2, 1) := by decide +kernel
theorem dX3_divisor_26 : decode cX3_divisor 26 = .ok (.lstore 6, 2) := by decide +kernel
theorem dX3_divisor_28 : decode cX3_divisor 28 = .ok (.lload 6, 2) := by decide +kernel
theorem dX3_divisor_30 : decode cX3_divisor 30 = .ok (.lconst 0, 1) := by decide +kernel
theorem dX3_divisor_31 : decode cX3_divisor 31 = .ok (.lcmp, 1) := by decide +kernel
theorem dX3_divisor_32 : decode cX3_divisor 32 = .ok (.ifCond .le 21, 3) := by decide +kernel
theorem dX3_divisor_35 : decode cX3_divisor 35 = .ok (.lload 4, 2) := by decide +kernel
theorem dX3_divisor_37 : decode cX3_divisor 37 = .ok (.lload 6, 2) := by decide +kernel
theorem dX3_divisor_39 : decode cX3_divisor 39 = .ok (.lrem, 1) := by decide +kernel
theorem dX3_divisor_40 : decode cX3_divisor 40 = .ok (.lstore 8, 2) := by decide +kernel
theorem dX3_divisor_42 : decode cX3_divisor 42 = .ok (.lload 6, 2) := by decide +kernel
theorem dX3_divisor_44 : decode cX3_divisor 44 = .ok (.lstore 4, 2) := by decide +kernel
theorem dX3_divisor_46 : decode cX3_divisor 46 = .ok (.lload 8, 2) := by decide +kernel
theorem dX3_divisor_48 : decode cX3_divisor 48 = .ok (.lstore 6, 2) := by decide +kernel
theorem dX3_divisor_50 : decode cX3_divisor 50 = .ok (.goto (-22), 3) := by decide +kernel
theorem dX3_divisor_53 : decode cX3_divisor 53 = .ok (.lload 4, 2) := by decide +kernel
theorem dX3_divisor_55 : decode cX3_divisor 55 = .ok (.lreturn, 1) := by decide +kernel
abbrev cX3_above : ByteArray := prog_5_method_7_code
def yX3_above : MethodName := ⟨RX3, "above", "(LHullBuilder$Point;)J"⟩
theorem dX3_above_0 : decode cX3_above 0 = .ok (.aload_n 0, 1) := by decide +kernel
theorem dX3_above_1 : decode cX3_above 1 = .ok (.aload_n 1, 1) := by decide +kernel
theorem dX3_above_2 : decode cX3_above 2 = .ok (.getfield 7, 3) := by decide +kernel
theorem dX3_above_5 : decode cX3_above 5 = .ok (.i2l, 1) := by decide +kernel
theorem dX3_above_6 : decode cX3_above 6 = .ok (.aload_n 1, 1) := by decide +kernel
theorem dX3_above_7 : decode cX3_above 7 = .ok (.getfield 13, 3) := by decide +kernel
theorem dX3_above_10 : decode cX3_above 10 = .ok (.i2l, 1) := by decide +kernel
theorem dX3_above_11 : decode cX3_above 11 = .ok (.aload_n 1, 1) := by decide +kernel
theorem dX3_above_12 : decode cX3_above 12 = .ok (.getfield 16, 3) := by decide +kernel
theorem dX3_above_15 : decode cX3_above 15 = .ok (.i2l, 1) := by decide +kernel
theorem dX3_above_16 : decode cX3_above 16 = .ok (.invokevirtual 35, 3) := by decide +kernel
theorem dX3_above_19 : decode cX3_above 19 = .ok (.lreturn, 1) := by decide +kernel
abbrev cX3_above_2 : ByteArray := prog_5_method_6_code
def yX3_above_2 : MethodName := ⟨RX3, "above", "(JJJ)J"⟩
theorem dX3_above_2_0 : decode cX3_above_2 0 = .ok (.aload_n 0, 1) := by decide +kernel
theorem dX3_above_2_1 : decode cX3_above_2 1 = .ok (.getfield 19, 3) := by decide +kernel
theorem dX3_above_2_4 : decode cX3_above_2 4 = .ok (.lload_n 1, 1) := by decide +kernel
theorem dX3_above_2_5 : decode cX3_above_2 5 = .ok (.lmul, 1) := by decide +kernel
theorem dX3_above_2_6 : decode cX3_above_2 6 = .ok (.aload_n 0, 1) := by decide +kernel
theorem dX3_above_2_7 : decode cX3_above_2 7 = .ok (.getfield 24, 3) := by decide +kernel
theorem dX3_above_2_10 : decode cX3_above_2 10 = .ok (.lload_n 3, 1) := by decide +kernel
theorem dX3_above_2_11 : decode cX3_above_2 11 = .ok (.lmul, 1) := by decide +kernel
theorem dX3_above_2_12 : decode cX3_above_2 12 = .ok (.ladd, 1) := by decide +kernel
theorem dX3_above_2_13 : decode cX3_above_2 13 = .ok (.aload_n 0, 1) := by decide +kernel
theorem dX3_above_2_14 : decode cX3_above_2 14 = .ok (.getfield 26, 3) := by decide +kernel
theorem dX3_above_2_17 : decode cX3_above_2 17 = .ok (.lload 5, 2) := by decide +kernel
theorem dX3_above_2_19 : decode cX3_above_2 19 = .ok (.lmul, 1) := by decide +kernel
theorem dX3_above_2_20 : decode cX3_above_2 20 = .ok (.ladd, 1) := by decide +kernel
theorem dX3_above_2_21 : decode cX3_above_2 21 = .ok (.aload_n 0, 1) := by decide +kernel
theorem dX3_above_2_22 : decode cX3_above_2 22 = .ok (.getfield 32, 3) := by decide +kernel
theorem dX3_above_2_25 : decode cX3_above_2 25 = .ok (.lsub, 1) := by decide +kernel
theorem dX3_above_2_26 : decode cX3_above_2 26 = .ok (.lreturn, 1) := by decide +kernel
abbrev cX3_copy : ByteArray := prog_5_method_5_code
def yX3_copy : MethodName := ⟨RX3, "copy", "(LHullBuilder$Plane;)V"⟩
theorem dX3_copy_0 : decode cX3_copy 0 = .ok (.aload_n 0, 1) := by decide +kernel
theorem dX3_copy_1 : decode cX3_copy 1 = .ok (.aload_n 1, 1) := by decide +kernel
theorem dX3_copy_2 : decode cX3_copy 2 = .ok (.getfield 19, 3) := by decide +kernel
theorem dX3_copy_5 : decode cX3_copy 5 = .ok (.putfield 19, 3) := by decide +kernel
theorem dX3_copy_8 : decode cX3_copy 8 = .ok (.aload_n 0, 1) := by decide +kernel
theorem dX3_copy_9 : decode cX3_copy 9 = .ok (.aload_n 1, 1) := by decide +kernel
theorem dX3_copy_10 : decode cX3_copy 10 = .ok (.getfield 24, 3) := by decide +kernel
theorem dX3_copy_13 : decode cX3_copy 13 = .ok (.putfield 24, 3) := by decide +kernel
theorem dX3_copy_16 : decode cX3_copy 16 = .ok (.aload_n 0, 1) := by decide +kernel
theorem dX3_copy_17 : decode cX3_copy 17 = .ok (.aload_n 1, 1) := by decide +kernel
theorem dX3_copy_18 : decode cX3_copy 18 = .ok (.getfield 26, 3) := by decide +kernel
theorem dX3_copy_21 : decode cX3_copy 21 = .ok (.putfield 26, 3) := by decide +kernel
theorem dX3_copy_24 : decode cX3_copy 24 = .ok (.aload_n 0, 1) := by decide +kernel
theorem dX3_copy_25 : decode cX3_copy 25 = .ok (.aload_n 1, 1) := by decide +kernel
theorem dX3_copy_26 : decode cX3_copy 26 = .ok (.getfield 32, 3) := by decide +kernel
theorem dX3_copy_29 : decode cX3_copy 29 = .ok (.putfield 32, 3) := by decide +kernel
theorem dX3_copy_32 : decode cX3_copy 32 = .ok (.return_, 1) := by decide +kernel
abbrev cX3_same : ByteArray := prog_5_method_8_code
def yX3_same : MethodName := ⟨RX3, "same", "(LHullBuilder$Plane;)Z"⟩
theorem dX3_same_0 : decode cX3_same 0 = .ok (.aload_n 0, 1) := by decide +kernel
theorem dX3_same_1 : decode cX3_same 1 = .ok (.getfield 19, 3) := by decide +kernel
theorem dX3_same_4 : decode cX3_same 4 = .ok (.aload_n 1, 1) := by decide +kernel
theorem dX3_same_5 : decode cX3_same 5 = .ok (.getfield 19, 3) := by decide +kernel
theorem dX3_same_8 : decode cX3_same 8 = .ok (.lcmp, 1) := by decide +kernel
theorem dX3_same_9 : decode cX3_same 9 = .ok (.ifCond .ne 43, 3) := by decide +kernel
theorem dX3_same_12 : decode cX3_same 12 = .ok (.aload_n 0, 1) := by decide +kernel
theorem dX3_same_13 : decode cX3_same 13 = .ok (.getfield 24, 3) := by decide +kernel
theorem dX3_same_16 : decode cX3_same 16 = .ok (.aload_n 1, 1) := by decide +kernel
theorem dX3_same_17 : decode cX3_same 17 = .ok (.getfield 24, 3) := by decide +kernel
theorem dX3_same_20 : decode cX3_same 20 = .ok (.lcmp, 1) := by decide +kernel
theorem dX3_same_21 : decode cX3_same 21 = .ok (.ifCond .ne 31, 3) := by decide +kernel
theorem dX3_same_24 : decode cX3_same 24 = .ok (.aload_n 0, 1) := by decide +kernel
theorem dX3_same_25 : decode cX3_same 25 = .ok (.getfield 26, 3) := by decide +kernel
theorem dX3_same_28 : decode cX3_same 28 = .ok (.aload_n 1, 1) := by decide +kernel
theorem dX3_same_29 : decode cX3_same 29 = .ok (.getfield 26, 3) := by decide +kernel
theorem dX3_same_32 : decode cX3_same 32 = .ok (.lcmp, 1) := by decide +kernel
theorem dX3_same_33 : decode cX3_same 33 = .ok (.ifCond .ne 19, 3) := by decide +kernel
theorem dX3_same_36 : decode cX3_same 36 = .ok (.aload_n 0, 1) := by decide +kernel
theorem dX3_same_37 : decode cX3_same 37 = .ok (.getfield 32, 3) := by decide +kernel
theorem dX3_same_40 : decode cX3_same 40 = .ok (.aload_n 1, 1) := by decide +kernel
theorem dX3_same_41 : decode cX3_same 41 = .ok (.getfield 32, 3) := by decide +kernel
theorem dX3_same_44 : decode cX3_same 44 = .ok (.lcmp, 1) := by decide +kernel
theorem dX3_same_45 : decode cX3_same 45 = .ok (.ifCond .ne 7, 3) := by decide +kernel
theorem dX3_same_48 : decode cX3_same 48 = .ok (.iconst 1, 1) := by decide +kernel
theorem dX3_same_49 : decode cX3_same 49 = .ok (.goto 4, 3) := by decide +kernel
theorem dX3_same_52 : decode cX3_same 52 = .ok (.iconst 0, 1) := by decide +kernel
theorem dX3_same_53 : decode cX3_same 53 = .ok (.ireturn, 1) := by decide +kernel
theorem q38 : (Jvm.Cond.initialized "HullBuilder$Plane") ∈ lw_all := lw_g (lw_at lw_m1 3 rfl) rfl
theorem q79 : (Jvm.Cond.instantiable "HullBuilder$Plane" (4 : Nat)) ∈ lw_all := lw_g (lw_at lw_m1 44 rfl) rfl
theorem q81 : (Jvm.Cond.instanceMethod ({ cls := "HullBuilder$Plane", name := "<init>", desc := "()V" } : Jvm.MethodName)) ∈ lw_all := lw_g (lw_at lw_m1 46 rfl) rfl
theorem q82 : (Jvm.Cond.code ({ cls := "HullBuilder$Plane", name := "<init>", desc := "()V" } : Jvm.MethodName) prog_5_method_1_code (1 : Nat) (Option.none : Option Jvm.ClassFile.FieldType)) ∈ lw_all := lw_g (lw_at lw_m1 47 rfl) rfl
theorem q83 : (Jvm.Cond.methodLink "HullBuilder$Plane" (1 : Nat) ({ cls := "java/lang/Object", name := "<init>", desc := "()V" } : Jvm.MethodName)) ∈ lw_all := lw_g (lw_at lw_m1 48 rfl) rfl
theorem q84 : (Jvm.Cond.fieldLink "HullBuilder$Plane" (19 : Nat) "HullBuilder$Plane" "x" "J") ∈ lw_all := lw_g (lw_at lw_m1 49 rfl) rfl
theorem q86 : (Jvm.Cond.fieldLink "HullBuilder$Plane" (24 : Nat) "HullBuilder$Plane" "y" "J") ∈ lw_all := lw_g (lw_at lw_m1 51 rfl) rfl
theorem q88 : (Jvm.Cond.fieldLink "HullBuilder$Plane" (26 : Nat) "HullBuilder$Plane" "z" "J") ∈ lw_all := lw_g (lw_at lw_m1 53 rfl) rfl
theorem q90 : (Jvm.Cond.fieldLink "HullBuilder$Plane" (32 : Nat) "HullBuilder$Plane" "offset" "J") ∈ lw_all := lw_g (lw_at lw_m1 55 rfl) rfl
theorem q92 : (Jvm.Cond.lays "HullBuilder$Plane" "HullBuilder$Plane" "x" "J") ∈ lw_all := lw_g (lw_at lw_m1 57 rfl) rfl
theorem q93 : (Jvm.Cond.soleField "HullBuilder$Plane" "x") ∈ lw_all := lw_g (lw_at lw_m1 58 rfl) rfl
theorem q94 : (Jvm.Cond.lays "HullBuilder$Plane" "HullBuilder$Plane" "y" "J") ∈ lw_all := lw_g (lw_at lw_m1 59 rfl) rfl
theorem q95 : (Jvm.Cond.soleField "HullBuilder$Plane" "y") ∈ lw_all := lw_g (lw_at lw_m1 60 rfl) rfl
theorem q96 : (Jvm.Cond.lays "HullBuilder$Plane" "HullBuilder$Plane" "z" "J") ∈ lw_all := lw_g (lw_at lw_m1 61 rfl) rfl
theorem q97 : (Jvm.Cond.soleField "HullBuilder$Plane" "z") ∈ lw_all := lw_g (lw_at lw_m1 62 rfl) rfl
theorem q98 : (Jvm.Cond.lays "HullBuilder$Plane" "HullBuilder$Plane" "offset" "J") ∈ lw_all := lw_g (lw_at lw_m1 63 rfl) rfl
theorem q99 : (Jvm.Cond.soleField "HullBuilder$Plane" "offset") ∈ lw_all := lw_g (lw_at lw_m1 64 rfl) rfl
theorem q100 : (Jvm.Cond.superclass "HullBuilder$Plane" "java/lang/Object") ∈ lw_all := lw_g (lw_at lw_m1 65 rfl) rfl
theorem q109 : (Jvm.Cond.fieldLink "HullBuilder$Plane" (7 : Nat) "HullBuilder$Point" "x" "I") ∈ lw_all := lw_g (lw_at lw_m1 74 rfl) rfl
theorem q112 : (Jvm.Cond.fieldLink "HullBuilder$Plane" (13 : Nat) "HullBuilder$Point" "y" "I") ∈ lw_all := lw_g (lw_at lw_m1 77 rfl) rfl
theorem q115 : (Jvm.Cond.fieldLink "HullBuilder$Plane" (16 : Nat) "HullBuilder$Point" "z" "I") ∈ lw_all := lw_g (lw_at lw_m1 80 rfl) rfl
theorem q453 : (Jvm.Cond.instanceMethod ({ cls := "HullBuilder$Plane", name := "through", desc := "(LHullBuilder$Point;LHullBuilder$Point;LHullBuilder$Point;)Z" } : Jvm.MethodName)) ∈ lw_all := lw_g (lw_at lw_m2 178 rfl) rfl
theorem q454 : (Jvm.Cond.selects "HullBuilder$Plane" ({ cls := "HullBuilder$Plane", name := "through", desc := "(LHullBuilder$Point;LHullBuilder$Point;LHullBuilder$Point;)Z" } : Jvm.MethodName) ({ cls := "HullBuilder$Plane", name := "through", desc := "(LHullBuilder$Point;LHullBuilder$Point;LHullBuilder$Point;)Z" } : Jvm.MethodName)) ∈ lw_all := lw_g (lw_at lw_m2 179 rfl) rfl
theorem q455 : (Jvm.Cond.code ({ cls := "HullBuilder$Plane", name := "through", desc := "(LHullBuilder$Point;LHullBuilder$Point;LHullBuilder$Point;)Z" } : Jvm.MethodName) prog_5_method_3_code (18 : Nat) (Option.some Jvm.ClassFile.FieldType.boolean)) ∈ lw_all := lw_g (lw_at lw_m2 180 rfl) rfl
theorem q456 : (Jvm.Cond.methodLink "HullBuilder$Plane" (28 : Nat) ({ cls := "HullBuilder$Plane", name := "divisor", desc := "(JJ)J" } : Jvm.MethodName)) ∈ lw_all := lw_g (lw_at lw_m2 181 rfl) rfl
theorem q457 : (Jvm.Cond.static ({ cls := "HullBuilder$Plane", name := "divisor", desc := "(JJ)J" } : Jvm.MethodName)) ∈ lw_all := lw_g (lw_at lw_m2 182 rfl) rfl
theorem q458 : (Jvm.Cond.code ({ cls := "HullBuilder$Plane", name := "divisor", desc := "(JJ)J" } : Jvm.MethodName) prog_5_method_2_code (10 : Nat) (Option.some Jvm.ClassFile.FieldType.long)) ∈ lw_all := lw_g (lw_at lw_m2 183 rfl) rfl
theorem q460 : (Jvm.Cond.instanceMethod ({ cls := "HullBuilder$Plane", name := "above", desc := "(LHullBuilder$Point;)J" } : Jvm.MethodName)) ∈ lw_all := lw_g (lw_at lw_m2 185 rfl) rfl
theorem q461 : (Jvm.Cond.selects "HullBuilder$Plane" ({ cls := "HullBuilder$Plane", name := "above", desc := "(LHullBuilder$Point;)J" } : Jvm.MethodName) ({ cls := "HullBuilder$Plane", name := "above", desc := "(LHullBuilder$Point;)J" } : Jvm.MethodName)) ∈ lw_all := lw_g (lw_at lw_m2 186 rfl) rfl
theorem q462 : (Jvm.Cond.code ({ cls := "HullBuilder$Plane", name := "above", desc := "(LHullBuilder$Point;)J" } : Jvm.MethodName) prog_5_method_7_code (2 : Nat) (Option.some Jvm.ClassFile.FieldType.long)) ∈ lw_all := lw_g (lw_at lw_m2 187 rfl) rfl
theorem q463 : (Jvm.Cond.methodLink "HullBuilder$Plane" (35 : Nat) ({ cls := "HullBuilder$Plane", name := "above", desc := "(JJJ)J" } : Jvm.MethodName)) ∈ lw_all := lw_g (lw_at lw_m2 188 rfl) rfl
theorem q464 : (Jvm.Cond.instanceMethod ({ cls := "HullBuilder$Plane", name := "above", desc := "(JJJ)J" } : Jvm.MethodName)) ∈ lw_all := lw_g (lw_at lw_m2 189 rfl) rfl
theorem q465 : (Jvm.Cond.selects "HullBuilder$Plane" ({ cls := "HullBuilder$Plane", name := "above", desc := "(JJJ)J" } : Jvm.MethodName) ({ cls := "HullBuilder$Plane", name := "above", desc := "(JJJ)J" } : Jvm.MethodName)) ∈ lw_all := lw_g (lw_at lw_m2 190 rfl) rfl
theorem q466 : (Jvm.Cond.code ({ cls := "HullBuilder$Plane", name := "above", desc := "(JJJ)J" } : Jvm.MethodName) prog_5_method_6_code (7 : Nat) (Option.some Jvm.ClassFile.FieldType.long)) ∈ lw_all := lw_g (lw_at lw_m2 191 rfl) rfl
theorem q493 : (Jvm.Cond.instanceMethod ({ cls := "HullBuilder$Plane", name := "copy", desc := "(LHullBuilder$Plane;)V" } : Jvm.MethodName)) ∈ lw_all := lw_g (lw_at lw_m2 218 rfl) rfl
theorem q494 : (Jvm.Cond.selects "HullBuilder$Plane" ({ cls := "HullBuilder$Plane", name := "copy", desc := "(LHullBuilder$Plane;)V" } : Jvm.MethodName) ({ cls := "HullBuilder$Plane", name := "copy", desc := "(LHullBuilder$Plane;)V" } : Jvm.MethodName)) ∈ lw_all := lw_g (lw_at lw_m2 219 rfl) rfl
theorem q495 : (Jvm.Cond.code ({ cls := "HullBuilder$Plane", name := "copy", desc := "(LHullBuilder$Plane;)V" } : Jvm.MethodName) prog_5_method_5_code (2 : Nat) (Option.none : Option Jvm.ClassFile.FieldType)) ∈ lw_all := lw_g (lw_at lw_m2 220 rfl) rfl
theorem q497 : (Jvm.Cond.instanceMethod ({ cls := "HullBuilder$Plane", name := "same", desc := "(LHullBuilder$Plane;)Z" } : Jvm.MethodName)) ∈ lw_all := lw_g (lw_at lw_m2 222 rfl) rfl
theorem q498 : (Jvm.Cond.selects "HullBuilder$Plane" ({ cls := "HullBuilder$Plane", name := "same", desc := "(LHullBuilder$Plane;)Z" } : Jvm.MethodName) ({ cls := "HullBuilder$Plane", name := "same", desc := "(LHullBuilder$Plane;)Z" } : Jvm.MethodName)) ∈ lw_all := lw_g (lw_at lw_m2 223 rfl) rfl
theorem q499 : (Jvm.Cond.code ({ cls := "HullBuilder$Plane", name := "same", desc := "(LHullBuilder$Plane;)Z" } : Jvm.MethodName) prog_5_method_8_code (2 : Nat) (Option.some Jvm.ClassFile.FieldType.boolean)) ∈ lw_all := lw_g (lw_at lw_m2 224 rfl) rfl
theorem in_X3 : ∀ w ∈ wsX30, w ∈ lw_all := lw_in wsX30 [92, 94, 96, 98] (by decide +kernel) (by decide +kernel)
end

section
/-! HullBuilder$Point -/
set_option maxRecDepth 100000
def RX4 : String := "HullBuilder$Point"
def TX4 : u_T := fun k => match k with
  | 0 => ("HullBuilder$Point", "x", "I", false)
  | 1 => ("HullBuilder$Point", "y", "I", false)
  | _ => ("HullBuilder$Point", "z", "I", false)
def tyX4 : Nat → FieldType := fun k => match k with
  | 0 => .int
  | 1 => .int
  | _ => .int
abbrev wsX40 : List Cond := u_ws RX4 TX4 3
theorem nmX4 : ∀ a, a < 3 → ∀ b, b < 3 → a ≠ b → (TX4 a).2.1 ≠ (TX4 b).2.1 := by decide +kernel
theorem tyX4_ok : ∀ k, k < 3 → parseFieldDescriptor (TX4 k).2.2.1 = some (tyX4 k) := by decide +kernel
abbrev cX4_init : ByteArray := prog_6_method_1_code
def yX4_init : MethodName := ⟨RX4, "<init>", "()V"⟩
theorem dX4_init_0 : decode cX4_init 0 = .ok (.aload_n 0, 1) := by decide +kernel
theorem dX4_init_1 : decode cX4_init 1 = .ok (.invokespecial 1, 3) := by decide +kernel
theorem dX4_init_4 : decode cX4_init 4 = .ok (.return_, 1) := by decide +kernel
abbrev cX4_at : ByteArray := prog_6_method_4_code
def yX4_at : MethodName := ⟨RX4, "at", "(III)Z"⟩
theorem dX4_at_0 : decode cX4_at 0 = .ok (.aload_n 0, 1) := by decide +kernel
theorem dX4_at_1 : decode cX4_at 1 = .ok (.getfield 7, 3) := by decide +kernel
theorem dX4_at_4 : decode cX4_at 4 = .ok (.iload_n 1, 1) := by decide +kernel
theorem dX4_at_5 : decode cX4_at 5 = .ok (.if_icmp .ne 23, 3) := by decide +kernel
theorem dX4_at_8 : decode cX4_at 8 = .ok (.aload_n 0, 1) := by decide +kernel
theorem dX4_at_9 : decode cX4_at 9 = .ok (.getfield 13, 3) := by decide +kernel
theorem dX4_at_12 : decode cX4_at 12 = .ok (.iload_n 2, 1) := by decide +kernel
theorem dX4_at_13 : decode cX4_at 13 = .ok (.if_icmp .ne 15, 3) := by decide +kernel
theorem dX4_at_16 : decode cX4_at 16 = .ok (.aload_n 0, 1) := by decide +kernel
theorem dX4_at_17 : decode cX4_at 17 = .ok (.getfield 16, 3) := by decide +kernel
theorem dX4_at_20 : decode cX4_at 20 = .ok (.iload_n 3, 1) := by decide +kernel
theorem dX4_at_21 : decode cX4_at 21 = .ok (.if_icmp .ne 7, 3) := by decide +kernel
theorem dX4_at_24 : decode cX4_at 24 = .ok (.iconst 1, 1) := by decide +kernel
theorem dX4_at_25 : decode cX4_at 25 = .ok (.goto 4, 3) := by decide +kernel
theorem dX4_at_28 : decode cX4_at 28 = .ok (.iconst 0, 1) := by decide +kernel
theorem dX4_at_29 : decode cX4_at 29 = .ok (.ireturn, 1) := by decide +kernel
abbrev cX4_set : ByteArray := prog_6_method_2_code
def yX4_set : MethodName := ⟨RX4, "set", "(III)V"⟩
theorem dX4_set_0 : decode cX4_set 0 = .ok (.aload_n 0, 1) := by decide +kernel
theorem dX4_set_1 : decode cX4_set 1 = .ok (.iload_n 1, 1) := by decide +kernel
theorem dX4_set_2 : decode cX4_set 2 = .ok (.putfield 7, 3) := by decide +kernel
theorem dX4_set_5 : decode cX4_set 5 = .ok (.aload_n 0, 1) := by decide +kernel
theorem dX4_set_6 : decode cX4_set 6 = .ok (.iload_n 2, 1) := by decide +kernel
theorem dX4_set_7 : decode cX4_set 7 = .ok (.putfield 13, 3) := by decide +kernel
theorem dX4_set_10 : decode cX4_set 10 = .ok (.aload_n 0, 1) := by decide +kernel
theorem dX4_set_11 : decode cX4_set 11 = .ok (.iload_n 3, 1) := by decide +kernel
theorem dX4_set_12 : decode cX4_set 12 = .ok (.putfield 16, 3) := by decide +kernel
theorem dX4_set_15 : decode cX4_set 15 = .ok (.return_, 1) := by decide +kernel
abbrev cX4_copy : ByteArray := prog_6_method_3_code
def yX4_copy : MethodName := ⟨RX4, "copy", "(LHullBuilder$Point;)V"⟩
theorem dX4_copy_0 : decode cX4_copy 0 = .ok (.aload_n 0, 1) := by decide +kernel
theorem dX4_copy_1 : decode cX4_copy 1 = .ok (.aload_n 1, 1) := by decide +kernel
theorem dX4_copy_2 : decode cX4_copy 2 = .ok (.getfield 7, 3) := by decide +kernel
theorem dX4_copy_5 : decode cX4_copy 5 = .ok (.aload_n 1, 1) := by decide +kernel
theorem dX4_copy_6 : decode cX4_copy 6 = .ok (.getfield 13, 3) := by decide +kernel
theorem dX4_copy_9 : decode cX4_copy 9 = .ok (.aload_n 1, 1) := by decide +kernel
theorem dX4_copy_10 : decode cX4_copy 10 = .ok (.getfield 16, 3) := by decide +kernel
theorem dX4_copy_13 : decode cX4_copy 13 = .ok (.invokevirtual 19, 3) := by decide +kernel
theorem dX4_copy_16 : decode cX4_copy 16 = .ok (.return_, 1) := by decide +kernel
abbrev cX4_get : ByteArray := prog_6_method_5_code
def yX4_get : MethodName := ⟨RX4, "get", "(I)I"⟩
theorem dX4_get_0 : decode cX4_get 0 = .ok (.iload_n 1, 1) := by decide +kernel
theorem dX4_get_1 : decode cX4_get 1 = .ok (.ifCond .ne 10, 3) := by decide +kernel
theorem dX4_get_4 : decode cX4_get 4 = .ok (.aload_n 0, 1) := by decide +kernel
theorem dX4_get_5 : decode cX4_get 5 = .ok (.getfield 7, 3) := by decide +kernel
theorem dX4_get_8 : decode cX4_get 8 = .ok (.goto 19, 3) := by decide +kernel
theorem dX4_get_11 : decode cX4_get 11 = .ok (.iload_n 1, 1) := by decide +kernel
theorem dX4_get_12 : decode cX4_get 12 = .ok (.iconst 1, 1) := by decide +kernel
theorem dX4_get_13 : decode cX4_get 13 = .ok (.if_icmp .ne 10, 3) := by decide +kernel
theorem dX4_get_16 : decode cX4_get 16 = .ok (.aload_n 0, 1) := by decide +kernel
theorem dX4_get_17 : decode cX4_get 17 = .ok (.getfield 13, 3) := by decide +kernel
theorem dX4_get_20 : decode cX4_get 20 = .ok (.goto 7, 3) := by decide +kernel
theorem dX4_get_23 : decode cX4_get 23 = .ok (.aload_n 0, 1) := by decide +kernel
theorem dX4_get_24 : decode cX4_get 24 = .ok (.getfield 16, 3) := by decide +kernel
theorem dX4_get_27 : decode cX4_get 27 = .ok (.ireturn, 1) := by decide +kernel
theorem q39 : (Jvm.Cond.initialized "HullBuilder$Point") ∈ lw_all := lw_g (lw_at lw_m1 4 rfl) rfl
theorem q103 : (Jvm.Cond.instantiable "HullBuilder$Point" (3 : Nat)) ∈ lw_all := lw_g (lw_at lw_m1 68 rfl) rfl
theorem q105 : (Jvm.Cond.instanceMethod ({ cls := "HullBuilder$Point", name := "<init>", desc := "()V" } : Jvm.MethodName)) ∈ lw_all := lw_g (lw_at lw_m1 70 rfl) rfl
theorem q106 : (Jvm.Cond.code ({ cls := "HullBuilder$Point", name := "<init>", desc := "()V" } : Jvm.MethodName) prog_6_method_1_code (1 : Nat) (Option.none : Option Jvm.ClassFile.FieldType)) ∈ lw_all := lw_g (lw_at lw_m1 71 rfl) rfl
theorem q107 : (Jvm.Cond.methodLink "HullBuilder$Point" (1 : Nat) ({ cls := "java/lang/Object", name := "<init>", desc := "()V" } : Jvm.MethodName)) ∈ lw_all := lw_g (lw_at lw_m1 72 rfl) rfl
theorem q108 : (Jvm.Cond.fieldLink "HullBuilder$Point" (7 : Nat) "HullBuilder$Point" "x" "I") ∈ lw_all := lw_g (lw_at lw_m1 73 rfl) rfl
theorem q111 : (Jvm.Cond.fieldLink "HullBuilder$Point" (13 : Nat) "HullBuilder$Point" "y" "I") ∈ lw_all := lw_g (lw_at lw_m1 76 rfl) rfl
theorem q114 : (Jvm.Cond.fieldLink "HullBuilder$Point" (16 : Nat) "HullBuilder$Point" "z" "I") ∈ lw_all := lw_g (lw_at lw_m1 79 rfl) rfl
theorem q117 : (Jvm.Cond.lays "HullBuilder$Point" "HullBuilder$Point" "x" "I") ∈ lw_all := lw_g (lw_at lw_m1 82 rfl) rfl
theorem q118 : (Jvm.Cond.soleField "HullBuilder$Point" "x") ∈ lw_all := lw_g (lw_at lw_m1 83 rfl) rfl
theorem q119 : (Jvm.Cond.lays "HullBuilder$Point" "HullBuilder$Point" "y" "I") ∈ lw_all := lw_g (lw_at lw_m1 84 rfl) rfl
theorem q120 : (Jvm.Cond.soleField "HullBuilder$Point" "y") ∈ lw_all := lw_g (lw_at lw_m1 85 rfl) rfl
theorem q121 : (Jvm.Cond.lays "HullBuilder$Point" "HullBuilder$Point" "z" "I") ∈ lw_all := lw_g (lw_at lw_m1 86 rfl) rfl
theorem q122 : (Jvm.Cond.soleField "HullBuilder$Point" "z") ∈ lw_all := lw_g (lw_at lw_m1 87 rfl) rfl
theorem q123 : (Jvm.Cond.superclass "HullBuilder$Point" "java/lang/Object") ∈ lw_all := lw_g (lw_at lw_m1 88 rfl) rfl
theorem q350 : (Jvm.Cond.instanceMethod ({ cls := "HullBuilder$Point", name := "at", desc := "(III)Z" } : Jvm.MethodName)) ∈ lw_all := lw_g (lw_at lw_m2 75 rfl) rfl
theorem q351 : (Jvm.Cond.selects "HullBuilder$Point" ({ cls := "HullBuilder$Point", name := "at", desc := "(III)Z" } : Jvm.MethodName) ({ cls := "HullBuilder$Point", name := "at", desc := "(III)Z" } : Jvm.MethodName)) ∈ lw_all := lw_g (lw_at lw_m2 76 rfl) rfl
theorem q352 : (Jvm.Cond.code ({ cls := "HullBuilder$Point", name := "at", desc := "(III)Z" } : Jvm.MethodName) prog_6_method_4_code (4 : Nat) (Option.some Jvm.ClassFile.FieldType.boolean)) ∈ lw_all := lw_g (lw_at lw_m2 77 rfl) rfl
theorem q369 : (Jvm.Cond.instanceMethod ({ cls := "HullBuilder$Point", name := "set", desc := "(III)V" } : Jvm.MethodName)) ∈ lw_all := lw_g (lw_at lw_m2 94 rfl) rfl
theorem q370 : (Jvm.Cond.selects "HullBuilder$Point" ({ cls := "HullBuilder$Point", name := "set", desc := "(III)V" } : Jvm.MethodName) ({ cls := "HullBuilder$Point", name := "set", desc := "(III)V" } : Jvm.MethodName)) ∈ lw_all := lw_g (lw_at lw_m2 95 rfl) rfl
theorem q371 : (Jvm.Cond.code ({ cls := "HullBuilder$Point", name := "set", desc := "(III)V" } : Jvm.MethodName) prog_6_method_2_code (4 : Nat) (Option.none : Option Jvm.ClassFile.FieldType)) ∈ lw_all := lw_g (lw_at lw_m2 96 rfl) rfl
theorem q432 : (Jvm.Cond.instanceMethod ({ cls := "HullBuilder$Point", name := "copy", desc := "(LHullBuilder$Point;)V" } : Jvm.MethodName)) ∈ lw_all := lw_g (lw_at lw_m2 157 rfl) rfl
theorem q433 : (Jvm.Cond.selects "HullBuilder$Point" ({ cls := "HullBuilder$Point", name := "copy", desc := "(LHullBuilder$Point;)V" } : Jvm.MethodName) ({ cls := "HullBuilder$Point", name := "copy", desc := "(LHullBuilder$Point;)V" } : Jvm.MethodName)) ∈ lw_all := lw_g (lw_at lw_m2 158 rfl) rfl
theorem q434 : (Jvm.Cond.code ({ cls := "HullBuilder$Point", name := "copy", desc := "(LHullBuilder$Point;)V" } : Jvm.MethodName) prog_6_method_3_code (2 : Nat) (Option.none : Option Jvm.ClassFile.FieldType)) ∈ lw_all := lw_g (lw_at lw_m2 159 rfl) rfl
theorem q435 : (Jvm.Cond.methodLink "HullBuilder$Point" (19 : Nat) ({ cls := "HullBuilder$Point", name := "set", desc := "(III)V" } : Jvm.MethodName)) ∈ lw_all := lw_g (lw_at lw_m2 160 rfl) rfl
theorem q542 : (Jvm.Cond.instanceMethod ({ cls := "HullBuilder$Point", name := "get", desc := "(I)I" } : Jvm.MethodName)) ∈ lw_all := lw_g (lw_at lw_m3 27 rfl) rfl
theorem q543 : (Jvm.Cond.selects "HullBuilder$Point" ({ cls := "HullBuilder$Point", name := "get", desc := "(I)I" } : Jvm.MethodName) ({ cls := "HullBuilder$Point", name := "get", desc := "(I)I" } : Jvm.MethodName)) ∈ lw_all := lw_g (lw_at lw_m3 28 rfl) rfl
theorem q544 : (Jvm.Cond.code ({ cls := "HullBuilder$Point", name := "get", desc := "(I)I" } : Jvm.MethodName) prog_6_method_5_code (2 : Nat) (Option.some Jvm.ClassFile.FieldType.int)) ∈ lw_all := lw_g (lw_at lw_m3 29 rfl) rfl
theorem in_X4 : ∀ w ∈ wsX40, w ∈ lw_all := lw_in wsX40 [117, 119, 121] (by decide +kernel) (by decide +kernel)
end

section
/-! HullBuilder$Triangle -/
set_option maxRecDepth 100000
def RX5 : String := "HullBuilder$Triangle"
def TX5 : u_T := fun k => match k with
  | 0 => ("HullBuilder$Triangle", "plane", "LHullBuilder$Plane;", true)
  | 1 => ("HullBuilder$Triangle", "a", "I", false)
  | 2 => ("HullBuilder$Triangle", "b", "I", false)
  | 3 => ("HullBuilder$Triangle", "c", "I", false)
  | 4 => ("HullBuilder$Triangle", "lives", "Z", false)
  | _ => ("HullBuilder$Triangle", "seen", "Z", false)
def tyX5 : Nat → FieldType := fun k => match k with
  | 0 => .object "HullBuilder$Plane"
  | 1 => .int
  | 2 => .int
  | 3 => .int
  | 4 => .boolean
  | _ => .boolean
abbrev wsX50 : List Cond := u_ws RX5 TX5 6
theorem nmX5 : ∀ a, a < 6 → ∀ b, b < 6 → a ≠ b → (TX5 a).2.1 ≠ (TX5 b).2.1 := by decide +kernel
theorem tyX5_ok : ∀ k, k < 6 → parseFieldDescriptor (TX5 k).2.2.1 = some (tyX5 k) := by decide +kernel
abbrev cX5_init : ByteArray := prog_7_method_1_code
def yX5_init : MethodName := ⟨RX5, "<init>", "()V"⟩
theorem dX5_init_0 : decode cX5_init 0 = .ok (.aload_n 0, 1) := by decide +kernel
theorem dX5_init_1 : decode cX5_init 1 = .ok (.invokespecial 1, 3) := by decide +kernel
theorem dX5_init_4 : decode cX5_init 4 = .ok (.aload_n 0, 1) := by decide +kernel
theorem dX5_init_5 : decode cX5_init 5 = .ok (.new 7, 3) := by decide +kernel
theorem dX5_init_8 : decode cX5_init 8 = .ok (.dup, 1) := by decide +kernel
theorem dX5_init_9 : decode cX5_init 9 = .ok (.invokespecial 9, 3) := by decide +kernel
theorem dX5_init_12 : decode cX5_init 12 = .ok (.putfield 10, 3) := by decide +kernel
theorem dX5_init_15 : decode cX5_init 15 = .ok (.return_, 1) := by decide +kernel
abbrev cX5_get : ByteArray := prog_7_method_2_code
def yX5_get : MethodName := ⟨RX5, "get", "(I)I"⟩
theorem dX5_get_0 : decode cX5_get 0 = .ok (.iload_n 1, 1) := by decide +kernel
theorem dX5_get_1 : decode cX5_get 1 = .ok (.iconst 3, 1) := by decide +kernel
theorem dX5_get_2 : decode cX5_get 2 = .ok (.irem, 1) := by decide +kernel
theorem dX5_get_3 : decode cX5_get 3 = .ok (.ifCond .ne 10, 3) := by decide +kernel
theorem dX5_get_6 : decode cX5_get 6 = .ok (.aload_n 0, 1) := by decide +kernel
theorem dX5_get_7 : decode cX5_get 7 = .ok (.getfield 16, 3) := by decide +kernel
theorem dX5_get_10 : decode cX5_get 10 = .ok (.goto 21, 3) := by decide +kernel
theorem dX5_get_13 : decode cX5_get 13 = .ok (.iload_n 1, 1) := by decide +kernel
theorem dX5_get_14 : decode cX5_get 14 = .ok (.iconst 3, 1) := by decide +kernel
theorem dX5_get_15 : decode cX5_get 15 = .ok (.irem, 1) := by decide +kernel
theorem dX5_get_16 : decode cX5_get 16 = .ok (.iconst 1, 1) := by decide +kernel
theorem dX5_get_17 : decode cX5_get 17 = .ok (.if_icmp .ne 10, 3) := by decide +kernel
theorem dX5_get_20 : decode cX5_get 20 = .ok (.aload_n 0, 1) := by decide +kernel
theorem dX5_get_21 : decode cX5_get 21 = .ok (.getfield 20, 3) := by decide +kernel
theorem dX5_get_24 : decode cX5_get 24 = .ok (.goto 7, 3) := by decide +kernel
theorem dX5_get_27 : decode cX5_get 27 = .ok (.aload_n 0, 1) := by decide +kernel
theorem dX5_get_28 : decode cX5_get 28 = .ok (.getfield 23, 3) := by decide +kernel
theorem dX5_get_31 : decode cX5_get 31 = .ok (.ireturn, 1) := by decide +kernel
abbrev cX5_goes : ByteArray := prog_7_method_3_code
def yX5_goes : MethodName := ⟨RX5, "goes", "(II)Z"⟩
theorem dX5_goes_0 : decode cX5_goes 0 = .ok (.aload_n 0, 1) := by decide +kernel
theorem dX5_goes_1 : decode cX5_goes 1 = .ok (.getfield 16, 3) := by decide +kernel
theorem dX5_goes_4 : decode cX5_goes 4 = .ok (.iload_n 1, 1) := by decide +kernel
theorem dX5_goes_5 : decode cX5_goes 5 = .ok (.if_icmp .ne 11, 3) := by decide +kernel
theorem dX5_goes_8 : decode cX5_goes 8 = .ok (.aload_n 0, 1) := by decide +kernel
theorem dX5_goes_9 : decode cX5_goes 9 = .ok (.getfield 20, 3) := by decide +kernel
theorem dX5_goes_12 : decode cX5_goes 12 = .ok (.iload_n 2, 1) := by decide +kernel
theorem dX5_goes_13 : decode cX5_goes 13 = .ok (.if_icmp .eq 35, 3) := by decide +kernel
theorem dX5_goes_16 : decode cX5_goes 16 = .ok (.aload_n 0, 1) := by decide +kernel
theorem dX5_goes_17 : decode cX5_goes 17 = .ok (.getfield 20, 3) := by decide +kernel
theorem dX5_goes_20 : decode cX5_goes 20 = .ok (.iload_n 1, 1) := by decide +kernel
theorem dX5_goes_21 : decode cX5_goes 21 = .ok (.if_icmp .ne 11, 3) := by decide +kernel
theorem dX5_goes_24 : decode cX5_goes 24 = .ok (.aload_n 0, 1) := by decide +kernel
theorem dX5_goes_25 : decode cX5_goes 25 = .ok (.getfield 23, 3) := by decide +kernel
theorem dX5_goes_28 : decode cX5_goes 28 = .ok (.iload_n 2, 1) := by decide +kernel
theorem dX5_goes_29 : decode cX5_goes 29 = .ok (.if_icmp .eq 19, 3) := by decide +kernel
theorem dX5_goes_32 : decode cX5_goes 32 = .ok (.aload_n 0, 1) := by decide +kernel
theorem dX5_goes_33 : decode cX5_goes 33 = .ok (.getfield 23, 3) := by decide +kernel
theorem dX5_goes_36 : decode cX5_goes 36 = .ok (.iload_n 1, 1) := by decide +kernel
theorem dX5_goes_37 : decode cX5_goes 37 = .ok (.if_icmp .ne 15, 3) := by decide +kernel
theorem dX5_goes_40 : decode cX5_goes 40 = .ok (.aload_n 0, 1) := by decide +kernel
theorem dX5_goes_41 : decode cX5_goes 41 = .ok (.getfield 16, 3) := by decide +kernel
theorem dX5_goes_44 : decode cX5_goes 44 = .ok (.iload_n 2, 1) := by decide +kernel
theorem dX5_goes_45 : decode cX5_goes 45 = .ok (.if_icmp .ne 7, 3) := by decide +kernel
theorem dX5_goes_48 : decode cX5_goes 48 = .ok (.iconst 1, 1) := by decide +kernel
theorem dX5_goes_49 : decode cX5_goes 49 = .ok (.goto 4, 3) := by decide +kernel
theorem dX5_goes_52 : decode cX5_goes 52 = .ok (.iconst 0, 1) := by decide +kernel
theorem dX5_goes_53 : decode cX5_goes 53 = .ok (.ireturn, 1) := by decide +kernel
theorem q40 : (Jvm.Cond.initialized "HullBuilder$Triangle") ∈ lw_all := lw_g (lw_at lw_m1 5 rfl) rfl
theorem q124 : (Jvm.Cond.instantiable "HullBuilder$Triangle" (6 : Nat)) ∈ lw_all := lw_g (lw_at lw_m1 89 rfl) rfl
theorem q126 : (Jvm.Cond.instanceMethod ({ cls := "HullBuilder$Triangle", name := "<init>", desc := "()V" } : Jvm.MethodName)) ∈ lw_all := lw_g (lw_at lw_m1 91 rfl) rfl
theorem q127 : (Jvm.Cond.code ({ cls := "HullBuilder$Triangle", name := "<init>", desc := "()V" } : Jvm.MethodName) prog_7_method_1_code (1 : Nat) (Option.none : Option Jvm.ClassFile.FieldType)) ∈ lw_all := lw_g (lw_at lw_m1 92 rfl) rfl
theorem q128 : (Jvm.Cond.methodLink "HullBuilder$Triangle" (1 : Nat) ({ cls := "java/lang/Object", name := "<init>", desc := "()V" } : Jvm.MethodName)) ∈ lw_all := lw_g (lw_at lw_m1 93 rfl) rfl
theorem q129 : (Jvm.Cond.classLink "HullBuilder$Triangle" (7 : Nat) "HullBuilder$Plane") ∈ lw_all := lw_g (lw_at lw_m1 94 rfl) rfl
theorem q130 : (Jvm.Cond.methodLinkNest "HullBuilder$Triangle" (9 : Nat) ({ cls := "HullBuilder$Plane", name := "<init>", desc := "()V" } : Jvm.MethodName) "HullBuilder") ∈ lw_tbl := lw_at lw_m1 95 rfl
theorem q131 : (Jvm.Cond.fieldLink "HullBuilder$Triangle" (10 : Nat) "HullBuilder$Triangle" "plane" "LHullBuilder$Plane;") ∈ lw_all := lw_g (lw_at lw_m1 96 rfl) rfl
theorem q133 : (Jvm.Cond.fieldLink "HullBuilder$Triangle" (16 : Nat) "HullBuilder$Triangle" "a" "I") ∈ lw_all := lw_g (lw_at lw_m1 98 rfl) rfl
theorem q135 : (Jvm.Cond.fieldLink "HullBuilder$Triangle" (20 : Nat) "HullBuilder$Triangle" "b" "I") ∈ lw_all := lw_g (lw_at lw_m1 100 rfl) rfl
theorem q137 : (Jvm.Cond.fieldLink "HullBuilder$Triangle" (23 : Nat) "HullBuilder$Triangle" "c" "I") ∈ lw_all := lw_g (lw_at lw_m1 102 rfl) rfl
theorem q141 : (Jvm.Cond.laysFinal "HullBuilder$Triangle" "HullBuilder$Triangle" "plane" "LHullBuilder$Plane;") ∈ lw_all := lw_g (lw_at lw_m1 106 rfl) rfl
theorem q142 : (Jvm.Cond.soleField "HullBuilder$Triangle" "plane") ∈ lw_all := lw_g (lw_at lw_m1 107 rfl) rfl
theorem q143 : (Jvm.Cond.lays "HullBuilder$Triangle" "HullBuilder$Triangle" "a" "I") ∈ lw_all := lw_g (lw_at lw_m1 108 rfl) rfl
theorem q144 : (Jvm.Cond.soleField "HullBuilder$Triangle" "a") ∈ lw_all := lw_g (lw_at lw_m1 109 rfl) rfl
theorem q145 : (Jvm.Cond.lays "HullBuilder$Triangle" "HullBuilder$Triangle" "b" "I") ∈ lw_all := lw_g (lw_at lw_m1 110 rfl) rfl
theorem q146 : (Jvm.Cond.soleField "HullBuilder$Triangle" "b") ∈ lw_all := lw_g (lw_at lw_m1 111 rfl) rfl
theorem q147 : (Jvm.Cond.lays "HullBuilder$Triangle" "HullBuilder$Triangle" "c" "I") ∈ lw_all := lw_g (lw_at lw_m1 112 rfl) rfl
theorem q148 : (Jvm.Cond.soleField "HullBuilder$Triangle" "c") ∈ lw_all := lw_g (lw_at lw_m1 113 rfl) rfl
theorem q149 : (Jvm.Cond.lays "HullBuilder$Triangle" "HullBuilder$Triangle" "lives" "Z") ∈ lw_all := lw_g (lw_at lw_m1 114 rfl) rfl
theorem q150 : (Jvm.Cond.soleField "HullBuilder$Triangle" "lives") ∈ lw_all := lw_g (lw_at lw_m1 115 rfl) rfl
theorem q151 : (Jvm.Cond.lays "HullBuilder$Triangle" "HullBuilder$Triangle" "seen" "Z") ∈ lw_all := lw_g (lw_at lw_m1 116 rfl) rfl
theorem q152 : (Jvm.Cond.soleField "HullBuilder$Triangle" "seen") ∈ lw_all := lw_g (lw_at lw_m1 117 rfl) rfl
theorem q153 : (Jvm.Cond.superclass "HullBuilder$Triangle" "java/lang/Object") ∈ lw_all := lw_g (lw_at lw_m1 118 rfl) rfl
theorem q477 : (Jvm.Cond.instanceMethod ({ cls := "HullBuilder$Triangle", name := "get", desc := "(I)I" } : Jvm.MethodName)) ∈ lw_all := lw_g (lw_at lw_m2 202 rfl) rfl
theorem q478 : (Jvm.Cond.selects "HullBuilder$Triangle" ({ cls := "HullBuilder$Triangle", name := "get", desc := "(I)I" } : Jvm.MethodName) ({ cls := "HullBuilder$Triangle", name := "get", desc := "(I)I" } : Jvm.MethodName)) ∈ lw_all := lw_g (lw_at lw_m2 203 rfl) rfl
theorem q479 : (Jvm.Cond.code ({ cls := "HullBuilder$Triangle", name := "get", desc := "(I)I" } : Jvm.MethodName) prog_7_method_2_code (2 : Nat) (Option.some Jvm.ClassFile.FieldType.int)) ∈ lw_all := lw_g (lw_at lw_m2 204 rfl) rfl
theorem q485 : (Jvm.Cond.instanceMethod ({ cls := "HullBuilder$Triangle", name := "goes", desc := "(II)Z" } : Jvm.MethodName)) ∈ lw_all := lw_g (lw_at lw_m2 210 rfl) rfl
theorem q486 : (Jvm.Cond.selects "HullBuilder$Triangle" ({ cls := "HullBuilder$Triangle", name := "goes", desc := "(II)Z" } : Jvm.MethodName) ({ cls := "HullBuilder$Triangle", name := "goes", desc := "(II)Z" } : Jvm.MethodName)) ∈ lw_all := lw_g (lw_at lw_m2 211 rfl) rfl
theorem q487 : (Jvm.Cond.code ({ cls := "HullBuilder$Triangle", name := "goes", desc := "(II)Z" } : Jvm.MethodName) prog_7_method_3_code (3 : Nat) (Option.some Jvm.ClassFile.FieldType.boolean)) ∈ lw_all := lw_g (lw_at lw_m2 212 rfl) rfl
theorem in_X5 : ∀ w ∈ wsX50, w ∈ lw_all := lw_in wsX50 [141, 143, 145, 147, 149, 151] (by decide +kernel) (by decide +kernel)
end

section
/-! HullBuilder$Face -/
set_option maxRecDepth 100000
def RX6 : String := "HullBuilder$Face"
def TX6 : u_T := fun k => match k with
  | 0 => ("HullBuilder$Face", "plane", "LHullBuilder$Plane;", true)
  | 1 => ("HullBuilder$Face", "corners", "[I", true)
  | _ => ("HullBuilder$Face", "size", "I", false)
def tyX6 : Nat → FieldType := fun k => match k with
  | 0 => .object "HullBuilder$Plane"
  | 1 => .array .int
  | _ => .int
abbrev wsX60 : List Cond := u_ws RX6 TX6 3
theorem nmX6 : ∀ a, a < 3 → ∀ b, b < 3 → a ≠ b → (TX6 a).2.1 ≠ (TX6 b).2.1 := by decide +kernel
theorem tyX6_ok : ∀ k, k < 3 → parseFieldDescriptor (TX6 k).2.2.1 = some (tyX6 k) := by decide +kernel
abbrev cX6_init : ByteArray := prog_3_method_1_code
def yX6_init : MethodName := ⟨RX6, "<init>", "()V"⟩
theorem dX6_init_0 : decode cX6_init 0 = .ok (.aload_n 0, 1) := by decide +kernel
theorem dX6_init_1 : decode cX6_init 1 = .ok (.invokespecial 3, 3) := by decide +kernel
theorem dX6_init_4 : decode cX6_init 4 = .ok (.aload_n 0, 1) := by decide +kernel
theorem dX6_init_5 : decode cX6_init 5 = .ok (.new 9, 3) := by decide +kernel
theorem dX6_init_8 : decode cX6_init 8 = .ok (.dup, 1) := by decide +kernel
theorem dX6_init_9 : decode cX6_init 9 = .ok (.invokespecial 11, 3) := by decide +kernel
theorem dX6_init_12 : decode cX6_init 12 = .ok (.putfield 12, 3) := by decide +kernel
theorem dX6_init_15 : decode cX6_init 15 = .ok (.aload_n 0, 1) := by decide +kernel
theorem dX6_init_16 : decode cX6_init 16 = .ok (.bipush 24, 2) := by decide +kernel
theorem dX6_init_18 : decode cX6_init 18 = .ok (.newarray .int, 2) := by decide +kernel
theorem dX6_init_20 : decode cX6_init 20 = .ok (.putfield 18, 3) := by decide +kernel
theorem dX6_init_23 : decode cX6_init 23 = .ok (.return_, 1) := by decide +kernel
abbrev cX6_rotate : ByteArray := prog_3_method_3_code
def yX6_rotate : MethodName := ⟨RX6, "rotate", "([I)V"⟩
theorem dX6_rotate_0 : decode cX6_rotate 0 = .ok (.iconst 0, 1) := by decide +kernel
theorem dX6_rotate_1 : decode cX6_rotate 1 = .ok (.istore_n 2, 1) := by decide +kernel
theorem dX6_rotate_2 : decode cX6_rotate 2 = .ok (.iconst 1, 1) := by decide +kernel
theorem dX6_rotate_3 : decode cX6_rotate 3 = .ok (.istore_n 3, 1) := by decide +kernel
theorem dX6_rotate_4 : decode cX6_rotate 4 = .ok (.iload_n 3, 1) := by decide +kernel
theorem dX6_rotate_5 : decode cX6_rotate 5 = .ok (.aload_n 0, 1) := by decide +kernel
theorem dX6_rotate_6 : decode cX6_rotate 6 = .ok (.getfield 22, 3) := by decide +kernel
theorem dX6_rotate_9 : decode cX6_rotate 9 = .ok (.if_icmp .ge 26, 3) := by decide +kernel
theorem dX6_rotate_12 : decode cX6_rotate 12 = .ok (.aload_n 0, 1) := by decide +kernel
theorem dX6_rotate_13 : decode cX6_rotate 13 = .ok (.getfield 18, 3) := by decide +kernel
theorem dX6_rotate_16 : decode cX6_rotate 16 = .ok (.iload_n 3, 1) := by decide +kernel
theorem dX6_rotate_17 : decode cX6_rotate 17 = .ok (.iaload, 1) := by decide +kernel
theorem dX6_rotate_18 : decode cX6_rotate 18 = .ok (.aload_n 0, 1) := by decide +kernel
theorem dX6_rotate_19 : decode cX6_rotate 19 = .ok (.getfield 18, 3) := by decide +kernel
theorem dX6_rotate_22 : decode cX6_rotate 22 = .ok (.iload_n 2, 1) := by decide +kernel
theorem dX6_rotate_23 : decode cX6_rotate 23 = .ok (.iaload, 1) := by decide +kernel
theorem dX6_rotate_24 : decode cX6_rotate 24 = .ok (.if_icmp .ge 5, 3) := by decide +kernel
theorem dX6_rotate_27 : decode cX6_rotate 27 = .ok (.iload_n 3, 1) := by decide +kernel
theorem dX6_rotate_28 : decode cX6_rotate 28 = .ok (.istore_n 2, 1) := by decide +kernel
theorem dX6_rotate_29 : decode cX6_rotate 29 = .ok (.iinc 3 1, 3) := by decide +kernel
theorem dX6_rotate_32 : decode cX6_rotate 32 = .ok (.goto (-28), 3) := by decide +kernel
theorem dX6_rotate_35 : decode cX6_rotate 35 = .ok (.iconst 0, 1) := by decide +kernel
theorem dX6_rotate_36 : decode cX6_rotate 36 = .ok (.istore_n 3, 1) := by decide +kernel
theorem dX6_rotate_37 : decode cX6_rotate 37 = .ok (.iload_n 3, 1) := by decide +kernel
theorem dX6_rotate_38 : decode cX6_rotate 38 = .ok (.aload_n 0, 1) := by decide +kernel
theorem dX6_rotate_39 : decode cX6_rotate 39 = .ok (.getfield 22, 3) := by decide +kernel
theorem dX6_rotate_42 : decode cX6_rotate 42 = .ok (.if_icmp .ge 25, 3) := by decide +kernel
theorem dX6_rotate_45 : decode cX6_rotate 45 = .ok (.aload_n 1, 1) := by decide +kernel
theorem dX6_rotate_46 : decode cX6_rotate 46 = .ok (.iload_n 3, 1) := by decide +kernel
theorem dX6_rotate_47 : decode cX6_rotate 47 = .ok (.aload_n 0, 1) := by decide +kernel
theorem dX6_rotate_48 : decode cX6_rotate 48 = .ok (.getfield 18, 3) := by decide +kernel
theorem dX6_rotate_51 : decode cX6_rotate 51 = .ok (.iload_n 2, 1) := by decide +kernel
theorem dX6_rotate_52 : decode cX6_rotate 52 = .ok (.iload_n 3, 1) := by decide +kernel
theorem dX6_rotate_53 : decode cX6_rotate 53 = .ok (.iadd, 1) := by decide +kernel
theorem dX6_rotate_54 : decode cX6_rotate 54 = .ok (.aload_n 0, 1) := by decide +kernel
theorem dX6_rotate_55 : decode cX6_rotate 55 = .ok (.getfield 22, 3) := by decide +kernel
theorem dX6_rotate_58 : decode cX6_rotate 58 = .ok (.irem, 1) := by decide +kernel
theorem dX6_rotate_59 : decode cX6_rotate 59 = .ok (.iaload, 1) := by decide +kernel
theorem dX6_rotate_60 : decode cX6_rotate 60 = .ok (.iastore, 1) := by decide +kernel
theorem dX6_rotate_61 : decode cX6_rotate 61 = .ok (.iinc 3 1, 3) := by decide +kernel
theorem dX6_rotate_64 : decode cX6_rotate 64 = .ok (.goto (-27), 3) := by decide +kernel
theorem dX6_rotate_67 : decode cX6_rotate 67 = .ok (.aload_n 1, 1) := by decide +kernel
theorem dX6_rotate_68 : decode cX6_rotate 68 = .ok (.iconst 0, 1) := by decide +kernel
theorem dX6_rotate_69 : decode cX6_rotate 69 = .ok (.aload_n 0, 1) := by decide +kernel
theorem dX6_rotate_70 : decode cX6_rotate 70 = .ok (.getfield 18, 3) := by decide +kernel
theorem dX6_rotate_73 : decode cX6_rotate 73 = .ok (.iconst 0, 1) := by decide +kernel
theorem dX6_rotate_74 : decode cX6_rotate 74 = .ok (.aload_n 0, 1) := by decide +kernel
theorem dX6_rotate_75 : decode cX6_rotate 75 = .ok (.getfield 22, 3) := by decide +kernel
theorem dX6_rotate_78 : decode cX6_rotate 78 = .ok (.invokestatic 26, 3) := by decide +kernel
theorem dX6_rotate_81 : decode cX6_rotate 81 = .ok (.return_, 1) := by decide +kernel
abbrev cX6_before : ByteArray := prog_3_method_4_code
def yX6_before : MethodName := ⟨RX6, "before", "(LHullBuilder$Face;)Z"⟩
theorem dX6_before_0 : decode cX6_before 0 = .ok (.aload_n 0, 1) := by decide +kernel
theorem dX6_before_1 : decode cX6_before 1 = .ok (.getfield 18, 3) := by decide +kernel
theorem dX6_before_4 : decode cX6_before 4 = .ok (.iconst 0, 1) := by decide +kernel
theorem dX6_before_5 : decode cX6_before 5 = .ok (.iaload, 1) := by decide +kernel
theorem dX6_before_6 : decode cX6_before 6 = .ok (.aload_n 1, 1) := by decide +kernel
theorem dX6_before_7 : decode cX6_before 7 = .ok (.getfield 18, 3) := by decide +kernel
theorem dX6_before_10 : decode cX6_before 10 = .ok (.iconst 0, 1) := by decide +kernel
theorem dX6_before_11 : decode cX6_before 11 = .ok (.iaload, 1) := by decide +kernel
theorem dX6_before_12 : decode cX6_before 12 = .ok (.if_icmp .lt 33, 3) := by decide +kernel
theorem dX6_before_15 : decode cX6_before 15 = .ok (.aload_n 0, 1) := by decide +kernel
theorem dX6_before_16 : decode cX6_before 16 = .ok (.getfield 18, 3) := by decide +kernel
theorem dX6_before_19 : decode cX6_before 19 = .ok (.iconst 0, 1) := by decide +kernel
theorem dX6_before_20 : decode cX6_before 20 = .ok (.iaload, 1) := by decide +kernel
theorem dX6_before_21 : decode cX6_before 21 = .ok (.aload_n 1, 1) := by decide +kernel
theorem dX6_before_22 : decode cX6_before 22 = .ok (.getfield 18, 3) := by decide +kernel
theorem dX6_before_25 : decode cX6_before 25 = .ok (.iconst 0, 1) := by decide +kernel
theorem dX6_before_26 : decode cX6_before 26 = .ok (.iaload, 1) := by decide +kernel
theorem dX6_before_27 : decode cX6_before 27 = .ok (.if_icmp .ne 22, 3) := by decide +kernel
theorem dX6_before_30 : decode cX6_before 30 = .ok (.aload_n 0, 1) := by decide +kernel
theorem dX6_before_31 : decode cX6_before 31 = .ok (.getfield 18, 3) := by decide +kernel
theorem dX6_before_34 : decode cX6_before 34 = .ok (.iconst 1, 1) := by decide +kernel
theorem dX6_before_35 : decode cX6_before 35 = .ok (.iaload, 1) := by decide +kernel
theorem dX6_before_36 : decode cX6_before 36 = .ok (.aload_n 1, 1) := by decide +kernel
theorem dX6_before_37 : decode cX6_before 37 = .ok (.getfield 18, 3) := by decide +kernel
theorem dX6_before_40 : decode cX6_before 40 = .ok (.iconst 1, 1) := by decide +kernel
theorem dX6_before_41 : decode cX6_before 41 = .ok (.iaload, 1) := by decide +kernel
theorem dX6_before_42 : decode cX6_before 42 = .ok (.if_icmp .ge 7, 3) := by decide +kernel
theorem dX6_before_45 : decode cX6_before 45 = .ok (.iconst 1, 1) := by decide +kernel
theorem dX6_before_46 : decode cX6_before 46 = .ok (.goto 4, 3) := by decide +kernel
theorem dX6_before_49 : decode cX6_before 49 = .ok (.iconst 0, 1) := by decide +kernel
theorem dX6_before_50 : decode cX6_before 50 = .ok (.ireturn, 1) := by decide +kernel
abbrev cX6_next : ByteArray := prog_3_method_2_code
def yX6_next : MethodName := ⟨RX6, "next", "(I)I"⟩
theorem dX6_next_0 : decode cX6_next 0 = .ok (.aload_n 0, 1) := by decide +kernel
theorem dX6_next_1 : decode cX6_next 1 = .ok (.getfield 18, 3) := by decide +kernel
theorem dX6_next_4 : decode cX6_next 4 = .ok (.iload_n 1, 1) := by decide +kernel
theorem dX6_next_5 : decode cX6_next 5 = .ok (.iconst 1, 1) := by decide +kernel
theorem dX6_next_6 : decode cX6_next 6 = .ok (.iadd, 1) := by decide +kernel
theorem dX6_next_7 : decode cX6_next 7 = .ok (.aload_n 0, 1) := by decide +kernel
theorem dX6_next_8 : decode cX6_next 8 = .ok (.getfield 22, 3) := by decide +kernel
theorem dX6_next_11 : decode cX6_next 11 = .ok (.if_icmp .ne 7, 3) := by decide +kernel
theorem dX6_next_14 : decode cX6_next 14 = .ok (.iconst 0, 1) := by decide +kernel
theorem dX6_next_15 : decode cX6_next 15 = .ok (.goto 6, 3) := by decide +kernel
theorem dX6_next_18 : decode cX6_next 18 = .ok (.iload_n 1, 1) := by decide +kernel
theorem dX6_next_19 : decode cX6_next 19 = .ok (.iconst 1, 1) := by decide +kernel
theorem dX6_next_20 : decode cX6_next 20 = .ok (.iadd, 1) := by decide +kernel
theorem dX6_next_21 : decode cX6_next 21 = .ok (.iaload, 1) := by decide +kernel
theorem dX6_next_22 : decode cX6_next 22 = .ok (.ireturn, 1) := by decide +kernel
theorem q41 : (Jvm.Cond.initialized "HullBuilder$Face") ∈ lw_all := lw_g (lw_at lw_m1 6 rfl) rfl
theorem q154 : (Jvm.Cond.instantiable "HullBuilder$Face" (3 : Nat)) ∈ lw_all := lw_g (lw_at lw_m1 119 rfl) rfl
theorem q156 : (Jvm.Cond.instanceMethod ({ cls := "HullBuilder$Face", name := "<init>", desc := "()V" } : Jvm.MethodName)) ∈ lw_all := lw_g (lw_at lw_m1 121 rfl) rfl
theorem q157 : (Jvm.Cond.code ({ cls := "HullBuilder$Face", name := "<init>", desc := "()V" } : Jvm.MethodName) prog_3_method_1_code (1 : Nat) (Option.none : Option Jvm.ClassFile.FieldType)) ∈ lw_all := lw_g (lw_at lw_m1 122 rfl) rfl
theorem q158 : (Jvm.Cond.methodLink "HullBuilder$Face" (3 : Nat) ({ cls := "java/lang/Object", name := "<init>", desc := "()V" } : Jvm.MethodName)) ∈ lw_all := lw_g (lw_at lw_m1 123 rfl) rfl
theorem q159 : (Jvm.Cond.classLink "HullBuilder$Face" (9 : Nat) "HullBuilder$Plane") ∈ lw_all := lw_g (lw_at lw_m1 124 rfl) rfl
theorem q160 : (Jvm.Cond.methodLinkNest "HullBuilder$Face" (11 : Nat) ({ cls := "HullBuilder$Plane", name := "<init>", desc := "()V" } : Jvm.MethodName) "HullBuilder") ∈ lw_tbl := lw_at lw_m1 125 rfl
theorem q161 : (Jvm.Cond.fieldLink "HullBuilder$Face" (12 : Nat) "HullBuilder$Face" "plane" "LHullBuilder$Plane;") ∈ lw_all := lw_g (lw_at lw_m1 126 rfl) rfl
theorem q164 : (Jvm.Cond.fieldLink "HullBuilder$Face" (18 : Nat) "HullBuilder$Face" "corners" "[I") ∈ lw_all := lw_g (lw_at lw_m1 129 rfl) rfl
theorem q167 : (Jvm.Cond.fieldLink "HullBuilder$Face" (22 : Nat) "HullBuilder$Face" "size" "I") ∈ lw_all := lw_g (lw_at lw_m1 132 rfl) rfl
theorem q170 : (Jvm.Cond.laysFinal "HullBuilder$Face" "HullBuilder$Face" "plane" "LHullBuilder$Plane;") ∈ lw_all := lw_g (lw_at lw_m1 135 rfl) rfl
theorem q171 : (Jvm.Cond.soleField "HullBuilder$Face" "plane") ∈ lw_all := lw_g (lw_at lw_m1 136 rfl) rfl
theorem q172 : (Jvm.Cond.laysFinal "HullBuilder$Face" "HullBuilder$Face" "corners" "[I") ∈ lw_all := lw_g (lw_at lw_m1 137 rfl) rfl
theorem q173 : (Jvm.Cond.soleField "HullBuilder$Face" "corners") ∈ lw_all := lw_g (lw_at lw_m1 138 rfl) rfl
theorem q174 : (Jvm.Cond.lays "HullBuilder$Face" "HullBuilder$Face" "size" "I") ∈ lw_all := lw_g (lw_at lw_m1 139 rfl) rfl
theorem q175 : (Jvm.Cond.soleField "HullBuilder$Face" "size") ∈ lw_all := lw_g (lw_at lw_m1 140 rfl) rfl
theorem q176 : (Jvm.Cond.superclass "HullBuilder$Face" "java/lang/Object") ∈ lw_all := lw_g (lw_at lw_m1 141 rfl) rfl
theorem q505 : (Jvm.Cond.instanceMethod ({ cls := "HullBuilder$Face", name := "rotate", desc := "([I)V" } : Jvm.MethodName)) ∈ lw_all := lw_g (lw_at lw_m2 230 rfl) rfl
theorem q506 : (Jvm.Cond.selects "HullBuilder$Face" ({ cls := "HullBuilder$Face", name := "rotate", desc := "([I)V" } : Jvm.MethodName) ({ cls := "HullBuilder$Face", name := "rotate", desc := "([I)V" } : Jvm.MethodName)) ∈ lw_all := lw_g (lw_at lw_m2 231 rfl) rfl
theorem q507 : (Jvm.Cond.code ({ cls := "HullBuilder$Face", name := "rotate", desc := "([I)V" } : Jvm.MethodName) prog_3_method_3_code (4 : Nat) (Option.none : Option Jvm.ClassFile.FieldType)) ∈ lw_all := lw_g (lw_at lw_m2 232 rfl) rfl
theorem q508 : (Jvm.Cond.methodLink "HullBuilder$Face" (26 : Nat) ({ cls := "java/lang/System", name := "arraycopy", desc := "(Ljava/lang/Object;ILjava/lang/Object;II)V" } : Jvm.MethodName)) ∈ lw_all := lw_g (lw_at lw_m2 233 rfl) rfl
theorem q516 : (Jvm.Cond.instanceMethod ({ cls := "HullBuilder$Face", name := "before", desc := "(LHullBuilder$Face;)Z" } : Jvm.MethodName)) ∈ lw_all := lw_g (lw_at lw_m3 1 rfl) rfl
theorem q517 : (Jvm.Cond.selects "HullBuilder$Face" ({ cls := "HullBuilder$Face", name := "before", desc := "(LHullBuilder$Face;)Z" } : Jvm.MethodName) ({ cls := "HullBuilder$Face", name := "before", desc := "(LHullBuilder$Face;)Z" } : Jvm.MethodName)) ∈ lw_all := lw_g (lw_at lw_m3 2 rfl) rfl
theorem q518 : (Jvm.Cond.code ({ cls := "HullBuilder$Face", name := "before", desc := "(LHullBuilder$Face;)Z" } : Jvm.MethodName) prog_3_method_4_code (2 : Nat) (Option.some Jvm.ClassFile.FieldType.boolean)) ∈ lw_all := lw_g (lw_at lw_m3 3 rfl) rfl
theorem q524 : (Jvm.Cond.instanceMethod ({ cls := "HullBuilder$Face", name := "next", desc := "(I)I" } : Jvm.MethodName)) ∈ lw_all := lw_g (lw_at lw_m3 9 rfl) rfl
theorem q525 : (Jvm.Cond.selects "HullBuilder$Face" ({ cls := "HullBuilder$Face", name := "next", desc := "(I)I" } : Jvm.MethodName) ({ cls := "HullBuilder$Face", name := "next", desc := "(I)I" } : Jvm.MethodName)) ∈ lw_all := lw_g (lw_at lw_m3 10 rfl) rfl
theorem q526 : (Jvm.Cond.code ({ cls := "HullBuilder$Face", name := "next", desc := "(I)I" } : Jvm.MethodName) prog_3_method_2_code (2 : Nat) (Option.some Jvm.ClassFile.FieldType.int)) ∈ lw_all := lw_g (lw_at lw_m3 11 rfl) rfl
theorem in_X6 : ∀ w ∈ wsX60, w ∈ lw_all := lw_in wsX60 [170, 172, 174] (by decide +kernel) (by decide +kernel)
end

section
/-! HullBuilder$Edge -/
set_option maxRecDepth 100000
def RX7 : String := "HullBuilder$Edge"
def TX7 : u_T := fun k => match k with
  | 0 => ("HullBuilder$Edge", "a", "I", false)
  | 1 => ("HullBuilder$Edge", "b", "I", false)
  | 2 => ("HullBuilder$Edge", "left", "I", false)
  | _ => ("HullBuilder$Edge", "right", "I", false)
def tyX7 : Nat → FieldType := fun k => match k with
  | 0 => .int
  | 1 => .int
  | 2 => .int
  | _ => .int
abbrev wsX70 : List Cond := u_ws RX7 TX7 4
theorem nmX7 : ∀ a, a < 4 → ∀ b, b < 4 → a ≠ b → (TX7 a).2.1 ≠ (TX7 b).2.1 := by decide +kernel
theorem tyX7_ok : ∀ k, k < 4 → parseFieldDescriptor (TX7 k).2.2.1 = some (tyX7 k) := by decide +kernel
abbrev cX7_init : ByteArray := prog_2_method_1_code
def yX7_init : MethodName := ⟨RX7, "<init>", "()V"⟩
theorem dX7_init_0 : decode cX7_init 0 = .ok (.aload_n 0, 1) := by decide +kernel
theorem dX7_init_1 : decode cX7_init 1 = .ok (.invokespecial 1, 3) := by decide +kernel
theorem dX7_init_4 : decode cX7_init 4 = .ok (.return_, 1) := by decide +kernel
abbrev cX7_get : ByteArray := prog_2_method_2_code
def yX7_get : MethodName := ⟨RX7, "get", "(I)I"⟩
theorem dX7_get_0 : decode cX7_get 0 = .ok (.iload_n 1, 1) := by decide +kernel
theorem dX7_get_1 : decode cX7_get 1 = .ok (.ifCond .ne 10, 3) := by decide +kernel
theorem dX7_get_4 : decode cX7_get 4 = .ok (.aload_n 0, 1) := by decide +kernel
theorem dX7_get_5 : decode cX7_get 5 = .ok (.getfield 7, 3) := by decide +kernel
theorem dX7_get_8 : decode cX7_get 8 = .ok (.goto 31, 3) := by decide +kernel
theorem dX7_get_11 : decode cX7_get 11 = .ok (.iload_n 1, 1) := by decide +kernel
theorem dX7_get_12 : decode cX7_get 12 = .ok (.iconst 1, 1) := by decide +kernel
theorem dX7_get_13 : decode cX7_get 13 = .ok (.if_icmp .ne 10, 3) := by decide +kernel
theorem dX7_get_16 : decode cX7_get 16 = .ok (.aload_n 0, 1) := by decide +kernel
theorem dX7_get_17 : decode cX7_get 17 = .ok (.getfield 13, 3) := by decide +kernel
theorem dX7_get_20 : decode cX7_get 20 = .ok (.goto 19, 3) := by decide +kernel
theorem dX7_get_23 : decode cX7_get 23 = .ok (.iload_n 1, 1) := by decide +kernel
theorem dX7_get_24 : decode cX7_get 24 = .ok (.iconst 2, 1) := by decide +kernel
theorem dX7_get_25 : decode cX7_get 25 = .ok (.if_icmp .ne 10, 3) := by decide +kernel
theorem dX7_get_28 : decode cX7_get 28 = .ok (.aload_n 0, 1) := by decide +kernel
theorem dX7_get_29 : decode cX7_get 29 = .ok (.getfield 16, 3) := by decide +kernel
theorem dX7_get_32 : decode cX7_get 32 = .ok (.goto 7, 3) := by decide +kernel
theorem dX7_get_35 : decode cX7_get 35 = .ok (.aload_n 0, 1) := by decide +kernel
theorem dX7_get_36 : decode cX7_get 36 = .ok (.getfield 19, 3) := by decide +kernel
theorem dX7_get_39 : decode cX7_get 39 = .ok (.ireturn, 1) := by decide +kernel
theorem q42 : (Jvm.Cond.initialized "HullBuilder$Edge") ∈ lw_all := lw_g (lw_at lw_m1 7 rfl) rfl
theorem q177 : (Jvm.Cond.instantiable "HullBuilder$Edge" (4 : Nat)) ∈ lw_all := lw_g (lw_at lw_m1 142 rfl) rfl
theorem q179 : (Jvm.Cond.instanceMethod ({ cls := "HullBuilder$Edge", name := "<init>", desc := "()V" } : Jvm.MethodName)) ∈ lw_all := lw_g (lw_at lw_m1 144 rfl) rfl
theorem q180 : (Jvm.Cond.code ({ cls := "HullBuilder$Edge", name := "<init>", desc := "()V" } : Jvm.MethodName) prog_2_method_1_code (1 : Nat) (Option.none : Option Jvm.ClassFile.FieldType)) ∈ lw_all := lw_g (lw_at lw_m1 145 rfl) rfl
theorem q181 : (Jvm.Cond.methodLink "HullBuilder$Edge" (1 : Nat) ({ cls := "java/lang/Object", name := "<init>", desc := "()V" } : Jvm.MethodName)) ∈ lw_all := lw_g (lw_at lw_m1 146 rfl) rfl
theorem q182 : (Jvm.Cond.fieldLink "HullBuilder$Edge" (7 : Nat) "HullBuilder$Edge" "a" "I") ∈ lw_all := lw_g (lw_at lw_m1 147 rfl) rfl
theorem q184 : (Jvm.Cond.fieldLink "HullBuilder$Edge" (13 : Nat) "HullBuilder$Edge" "b" "I") ∈ lw_all := lw_g (lw_at lw_m1 149 rfl) rfl
theorem q186 : (Jvm.Cond.fieldLink "HullBuilder$Edge" (16 : Nat) "HullBuilder$Edge" "left" "I") ∈ lw_all := lw_g (lw_at lw_m1 151 rfl) rfl
theorem q188 : (Jvm.Cond.fieldLink "HullBuilder$Edge" (19 : Nat) "HullBuilder$Edge" "right" "I") ∈ lw_all := lw_g (lw_at lw_m1 153 rfl) rfl
theorem q190 : (Jvm.Cond.lays "HullBuilder$Edge" "HullBuilder$Edge" "a" "I") ∈ lw_all := lw_g (lw_at lw_m1 155 rfl) rfl
theorem q191 : (Jvm.Cond.soleField "HullBuilder$Edge" "a") ∈ lw_all := lw_g (lw_at lw_m1 156 rfl) rfl
theorem q192 : (Jvm.Cond.lays "HullBuilder$Edge" "HullBuilder$Edge" "b" "I") ∈ lw_all := lw_g (lw_at lw_m1 157 rfl) rfl
theorem q193 : (Jvm.Cond.soleField "HullBuilder$Edge" "b") ∈ lw_all := lw_g (lw_at lw_m1 158 rfl) rfl
theorem q194 : (Jvm.Cond.lays "HullBuilder$Edge" "HullBuilder$Edge" "left" "I") ∈ lw_all := lw_g (lw_at lw_m1 159 rfl) rfl
theorem q195 : (Jvm.Cond.soleField "HullBuilder$Edge" "left") ∈ lw_all := lw_g (lw_at lw_m1 160 rfl) rfl
theorem q196 : (Jvm.Cond.lays "HullBuilder$Edge" "HullBuilder$Edge" "right" "I") ∈ lw_all := lw_g (lw_at lw_m1 161 rfl) rfl
theorem q197 : (Jvm.Cond.soleField "HullBuilder$Edge" "right") ∈ lw_all := lw_g (lw_at lw_m1 162 rfl) rfl
theorem q198 : (Jvm.Cond.superclass "HullBuilder$Edge" "java/lang/Object") ∈ lw_all := lw_g (lw_at lw_m1 163 rfl) rfl
theorem q582 : (Jvm.Cond.instanceMethod ({ cls := "HullBuilder$Edge", name := "get", desc := "(I)I" } : Jvm.MethodName)) ∈ lw_all := lw_g (lw_at lw_m3 67 rfl) rfl
theorem q583 : (Jvm.Cond.selects "HullBuilder$Edge" ({ cls := "HullBuilder$Edge", name := "get", desc := "(I)I" } : Jvm.MethodName) ({ cls := "HullBuilder$Edge", name := "get", desc := "(I)I" } : Jvm.MethodName)) ∈ lw_all := lw_g (lw_at lw_m3 68 rfl) rfl
theorem q584 : (Jvm.Cond.code ({ cls := "HullBuilder$Edge", name := "get", desc := "(I)I" } : Jvm.MethodName) prog_2_method_2_code (2 : Nat) (Option.some Jvm.ClassFile.FieldType.int)) ∈ lw_all := lw_g (lw_at lw_m3 69 rfl) rfl
theorem in_X7 : ∀ w ∈ wsX70, w ∈ lw_all := lw_in wsX70 [190, 192, 194, 196] (by decide +kernel) (by decide +kernel)
end
