section
set_option maxRecDepth 100000
/-! HullBuilder$Hull -/
set_option maxRecDepth 100000
def RX2 : String := "HullBuilder$Hull"
def TX2 : u_T := fun k => match k with
  | 0 => ("HullBuilder$Hull", "points", "[LHullBuilder$Point;", true)
  | 1 => ("HullBuilder$Hull", "triangles", "[LHullBuilder$Triangle;", true)
  | 2 => ("HullBuilder$Hull", "faces", "[LHullBuilder$Face;", true)
  | 3 => ("HullBuilder$Hull", "edges", "[LHullBuilder$Edge;", true)
  | 4 => ("HullBuilder$Hull", "next", "[I", true)
  | 5 => ("HullBuilder$Hull", "spare", "[I", true)
  | 6 => ("HullBuilder$Hull", "distance", "[I", true)
  | 7 => ("HullBuilder$Hull", "row", "[I", true)
  | 8 => ("HullBuilder$Hull", "isCorner", "[Z", true)
  | 9 => ("HullBuilder$Hull", "joined", "[[Z", true)
  | 10 => ("HullBuilder$Hull", "plane", "LHullBuilder$Plane;", true)
  | 11 => ("HullBuilder$Hull", "many", "I", false)
  | 12 => ("HullBuilder$Hull", "made", "I", false)
  | 13 => ("HullBuilder$Hull", "faceCount", "I", false)
  | 14 => ("HullBuilder$Hull", "edgeCount", "I", false)
  | _ => ("HullBuilder$Hull", "corners", "I", false)
def tyX2 : Nat → FieldType := fun k => match k with
  | 0 => .array (.object "HullBuilder$Point")
  | 1 => .array (.object "HullBuilder$Triangle")
  | 2 => .array (.object "HullBuilder$Face")
  | 3 => .array (.object "HullBuilder$Edge")
  | 4 => .array .int
  | 5 => .array .int
  | 6 => .array .int
  | 7 => .array .int
  | 8 => .array .boolean
  | 9 => .array (.array .boolean)
  | 10 => .object "HullBuilder$Plane"
  | 11 => .int
  | 12 => .int
  | 13 => .int
  | 14 => .int
  | _ => .int
abbrev wsX20 : List Cond := u_ws RX2 TX2 16
set_option maxRecDepth 100000 in
theorem nmX2 : ∀ a, a < 16 → ∀ b, b < 16 → a ≠ b → (TX2 a).2.1 ≠ (TX2 b).2.1 := by decide +kernel
set_option maxRecDepth 100000 in
theorem tyX2_ok : ∀ k, k < 16 → parseFieldDescriptor (TX2 k).2.2.1 = some (tyX2 k) := by decide +kernel
abbrev cX2_init : ByteArray := prog_4_method_1_code
def yX2_init : MethodName := ⟨RX2, "<init>", "()V"⟩
theorem dX2_init_0 : decode cX2_init 0 = .ok (.aload_n 0, 1) := by decide +kernel
theorem dX2_init_1 : decode cX2_init 1 = .ok (.invokespecial 3, 3) := by decide +kernel
theorem dX2_init_4 : decode cX2_init 4 = .ok (.aload_n 0, 1) := by decide +kernel
theorem dX2_init_5 : decode cX2_init 5 = .ok (.bipush 24, 2) := by decide +kernel
theorem dX2_init_7 : decode cX2_init 7 = .ok (.anewarray 9, 3) := by decide +kernel
theorem dX2_init_10 : decode cX2_init 10 = .ok (.putfield 11, 3) := by decide +kernel
theorem dX2_init_13 : decode cX2_init 13 = .ok (.aload_n 0, 1) := by decide +kernel
theorem dX2_init_14 : decode cX2_init 14 = .ok (.sipush 128, 3) := by decide +kernel
theorem dX2_init_17 : decode cX2_init 17 = .ok (.anewarray 17, 3) := by decide +kernel
theorem dX2_init_20 : decode cX2_init 20 = .ok (.putfield 19, 3) := by decide +kernel
theorem dX2_init_23 : decode cX2_init 23 = .ok (.aload_n 0, 1) := by decide +kernel
theorem dX2_init_24 : decode cX2_init 24 = .ok (.bipush 44, 2) := by decide +kernel
theorem dX2_init_26 : decode cX2_init 26 = .ok (.anewarray 23, 3) := by decide +kernel
theorem dX2_init_29 : decode cX2_init 29 = .ok (.putfield 25, 3) := by decide +kernel
theorem dX2_init_32 : decode cX2_init 32 = .ok (.aload_n 0, 1) := by decide +kernel
theorem dX2_init_33 : decode cX2_init 33 = .ok (.bipush 66, 2) := by decide +kernel
theorem dX2_init_35 : decode cX2_init 35 = .ok (.anewarray 29, 3) := by decide +kernel
theorem dX2_init_38 : decode cX2_init 38 = .ok (.putfield 31, 3) := by decide +kernel
theorem dX2_init_41 : decode cX2_init 41 = .ok (.aload_n 0, 1) := by decide +kernel
theorem dX2_init_42 : decode cX2_init 42 = .ok (.bipush 24, 2) := by decide +kernel
theorem dX2_init_44 : decode cX2_init 44 = .ok (.newarray .int, 2) := by decide +kernel
theorem dX2_init_46 : decode cX2_init 46 = .ok (.putfield 35, 3) := by decide +kernel
theorem dX2_init_49 : decode cX2_init 49 = .ok (.aload_n 0, 1) := by decide +kernel
theorem dX2_init_50 : decode cX2_init 50 = .ok (.bipush 24, 2) := by decide +kernel
theorem dX2_init_52 : decode cX2_init 52 = .ok (.newarray .int, 2) := by decide +kernel
theorem dX2_init_54 : decode cX2_init 54 = .ok (.putfield 39, 3) := by decide +kernel
theorem dX2_init_57 : decode cX2_init 57 = .ok (.aload_n 0, 1) := by decide +kernel
theorem dX2_init_58 : decode cX2_init 58 = .ok (.bipush 24, 2) := by decide +kernel
theorem dX2_init_60 : decode cX2_init 60 = .ok (.newarray .int, 2) := by decide +kernel
theorem dX2_init_62 : decode cX2_init 62 = .ok (.putfield 42, 3) := by decide +kernel
theorem dX2_init_65 : decode cX2_init 65 = .ok (.aload_n 0, 1) := by decide +kernel
theorem dX2_init_66 : decode cX2_init 66 = .ok (.bipush 24, 2) := by decide +kernel
theorem dX2_init_68 : decode cX2_init 68 = .ok (.newarray .int, 2) := by decide +kernel
theorem dX2_init_70 : decode cX2_init 70 = .ok (.putfield 45, 3) := by decide +kernel
theorem dX2_init_73 : decode cX2_init 73 = .ok (.aload_n 0, 1) := by decide +kernel
theorem dX2_init_74 : decode cX2_init 74 = .ok (.bipush 24, 2) := by decide +kernel
theorem dX2_init_76 : decode cX2_init 76 = .ok (.newarray .boolean, 2) := by decide +kernel
theorem dX2_init_78 : decode cX2_init 78 = .ok (.putfield 48, 3) := by decide +kernel
theorem dX2_init_81 : decode cX2_init 81 = .ok (.aload_n 0, 1) := by decide +kernel
theorem dX2_init_82 : decode cX2_init 82 = .ok (.bipush 24, 2) := by decide +kernel
theorem dX2_init_84 : decode cX2_init 84 = .ok (.bipush 24, 2) := by decide +kernel
theorem dX2_init_86 : decode cX2_init 86 = .ok (.multianewarray 52 2, 4) := by decide +kernel
theorem dX2_init_90 : decode cX2_init 90 = .ok (.putfield 54, 3) := by decide +kernel
theorem dX2_init_93 : decode cX2_init 93 = .ok (.aload_n 0, 1) := by decide +kernel
theorem dX2_init_94 : decode cX2_init 94 = .ok (.new 57, 3) := by decide +kernel
theorem dX2_init_97 : decode cX2_init 97 = .ok (.dup, 1) := by decide +kernel
theorem dX2_init_98 : decode cX2_init 98 = .ok (.invokespecial 59, 3) := by decide +kernel
theorem dX2_init_101 : decode cX2_init 101 = .ok (.putfield 60, 3) := by decide +kernel
theorem dX2_init_104 : decode cX2_init 104 = .ok (.iconst 0, 1) := by decide +kernel
theorem dX2_init_105 : decode cX2_init 105 = .ok (.istore_n 1, 1) := by decide +kernel
theorem dX2_init_106 : decode cX2_init 106 = .ok (.iload_n 1, 1) := by decide +kernel
theorem dX2_init_107 : decode cX2_init 107 = .ok (.bipush 24, 2) := by decide +kernel
theorem dX2_init_109 : decode cX2_init 109 = .ok (.if_icmp .ge 22, 3) := by decide +kernel
theorem dX2_init_112 : decode cX2_init 112 = .ok (.aload_n 0, 1) := by decide +kernel
theorem dX2_init_113 : decode cX2_init 113 = .ok (.getfield 11, 3) := by decide +kernel
theorem dX2_init_116 : decode cX2_init 116 = .ok (.iload_n 1, 1) := by decide +kernel
theorem dX2_init_117 : decode cX2_init 117 = .ok (.new 9, 3) := by decide +kernel
theorem dX2_init_120 : decode cX2_init 120 = .ok (.dup, 1) := by decide +kernel
theorem dX2_init_121 : decode cX2_init 121 = .ok (.invokespecial 64, 3) := by decide +kernel
theorem dX2_init_124 : decode cX2_init 124 = .ok (.aastore, 1) := by decide +kernel
theorem dX2_init_125 : decode cX2_init 125 = .ok (.iinc 1 1, 3) := by decide +kernel
theorem dX2_init_128 : decode cX2_init 128 = .ok (.goto (-22), 3) := by decide +kernel
theorem dX2_init_131 : decode cX2_init 131 = .ok (.iconst 0, 1) := by decide +kernel
theorem dX2_init_132 : decode cX2_init 132 = .ok (.istore_n 1, 1) := by decide +kernel
theorem dX2_init_133 : decode cX2_init 133 = .ok (.iload_n 1, 1) := by decide +kernel
theorem dX2_init_134 : decode cX2_init 134 = .ok (.sipush 128, 3) := by decide +kernel
theorem dX2_init_137 : decode cX2_init 137 = .ok (.if_icmp .ge 22, 3) := by decide +kernel
theorem dX2_init_140 : decode cX2_init 140 = .ok (.aload_n 0, 1) := by decide +kernel
theorem dX2_init_141 : decode cX2_init 141 = .ok (.getfield 19, 3) := by decide +kernel
theorem dX2_init_144 : decode cX2_init 144 = .ok (.iload_n 1, 1) := by decide +kernel
theorem dX2_init_145 : decode cX2_init 145 = .ok (.new 17, 3) := by decide +kernel
theorem dX2_init_148 : decode cX2_init 148 = .ok (.dup, 1) := by decide +kernel
theorem dX2_init_149 : decode cX2_init 149 = .ok (.invokespecial 65, 3) := by decide +kernel
theorem dX2_init_152 : decode cX2_init 152 = .ok (.aastore, 1) := by decide +kernel
theorem dX2_init_153 : decode cX2_init 153 = .ok (.iinc 1 1, 3) := by decide +kernel
theorem dX2_init_156 : decode cX2_init 156 = .ok (.goto (-23), 3) := by decide +kernel
theorem dX2_init_159 : decode cX2_init 159 = .ok (.iconst 0, 1) := by decide +kernel
theorem dX2_init_160 : decode cX2_init 160 = .ok (.istore_n 1, 1) := by decide +kernel
theorem dX2_init_161 : decode cX2_init 161 = .ok (.iload_n 1, 1) := by decide +kernel
theorem dX2_init_162 : decode cX2_init 162 = .ok (.bipush 44, 2) := by decide +kernel
theorem dX2_init_164 : decode cX2_init 164 = .ok (.if_icmp .ge 22, 3) := by decide +kernel
theorem dX2_init_167 : decode cX2_init 167 = .ok (.aload_n 0, 1) := by decide +kernel
theorem dX2_init_168 : decode cX2_init 168 = .ok (.getfield 25, 3) := by decide +kernel
theorem dX2_init_171 : decode cX2_init 171 = .ok (.iload_n 1, 1) := by decide +kernel
theorem dX2_init_172 : decode cX2_init 172 = .ok (.new 23, 3) := by decide +kernel
theorem dX2_init_175 : decode cX2_init 175 = .ok (.dup, 1) := by decide +kernel
theorem dX2_init_176 : decode cX2_init 176 = .ok (.invokespecial 66, 3) := by decide +kernel
theorem dX2_init_179 : decode cX2_init 179 = .ok (.aastore, 1) := by decide +kernel
theorem dX2_init_180 : decode cX2_init 180 = .ok (.iinc 1 1, 3) := by decide +kernel
theorem dX2_init_183 : decode cX2_init 183 = .ok (.goto (-22), 3) := by decide +kernel
theorem dX2_init_186 : decode cX2_init 186 = .ok (.iconst 0, 1) := by decide +kernel
theorem dX2_init_187 : decode cX2_init 187 = .ok (.istore_n 1, 1) := by decide +kernel
theorem dX2_init_188 : decode cX2_init 188 = .ok (.iload_n 1, 1) := by decide +kernel
theorem dX2_init_189 : decode cX2_init 189 = .ok (.bipush 66, 2) := by decide +kernel
theorem dX2_init_191 : decode cX2_init 191 = .ok (.if_icmp .ge 22, 3) := by decide +kernel
theorem dX2_init_194 : decode cX2_init 194 = .ok (.aload_n 0, 1) := by decide +kernel
theorem dX2_init_195 : decode cX2_init 195 = .ok (.getfield 31, 3) := by decide +kernel
theorem dX2_init_198 : decode cX2_init 198 = .ok (.iload_n 1, 1) := by decide +kernel
theorem dX2_init_199 : decode cX2_init 199 = .ok (.new 29, 3) := by decide +kernel
theorem dX2_init_202 : decode cX2_init 202 = .ok (.dup, 1) := by decide +kernel
theorem dX2_init_203 : decode cX2_init 203 = .ok (.invokespecial 67, 3) := by decide +kernel
theorem dX2_init_206 : decode cX2_init 206 = .ok (.aastore, 1) := by decide +kernel
theorem dX2_init_207 : decode cX2_init 207 = .ok (.iinc 1 1, 3) := by decide +kernel
theorem dX2_init_210 : decode cX2_init 210 = .ok (.goto (-22), 3) := by decide +kernel
theorem dX2_init_213 : decode cX2_init 213 = .ok (.return_, 1) := by decide +kernel
abbrev cX2_build : ByteArray := prog_4_method_11_code
def yX2_build : MethodName := ⟨RX2, "build", "([LHullBuilder$Point;I)Z"⟩
theorem dX2_build_0 : decode cX2_build 0 = .ok (.aload_n 0, 1) := by decide +kernel
theorem dX2_build_1 : decode cX2_build 1 = .ok (.iload_n 2, 1) := by decide +kernel
theorem dX2_build_2 : decode cX2_build 2 = .ok (.putfield 93, 3) := by decide +kernel
theorem dX2_build_5 : decode cX2_build 5 = .ok (.iconst 0, 1) := by decide +kernel
theorem dX2_build_6 : decode cX2_build 6 = .ok (.istore_n 3, 1) := by decide +kernel
theorem dX2_build_7 : decode cX2_build 7 = .ok (.iload_n 3, 1) := by decide +kernel
theorem dX2_build_8 : decode cX2_build 8 = .ok (.iload_n 2, 1) := by decide +kernel
theorem dX2_build_9 : decode cX2_build 9 = .ok (.if_icmp .ge 21, 3) := by decide +kernel
theorem dX2_build_12 : decode cX2_build 12 = .ok (.aload_n 0, 1) := by decide +kernel
theorem dX2_build_13 : decode cX2_build 13 = .ok (.getfield 11, 3) := by decide +kernel
theorem dX2_build_16 : decode cX2_build 16 = .ok (.iload_n 3, 1) := by decide +kernel
theorem dX2_build_17 : decode cX2_build 17 = .ok (.aaload, 1) := by decide +kernel
theorem dX2_build_18 : decode cX2_build 18 = .ok (.aload_n 1, 1) := by decide +kernel
theorem dX2_build_19 : decode cX2_build 19 = .ok (.iload_n 3, 1) := by decide +kernel
theorem dX2_build_20 : decode cX2_build 20 = .ok (.aaload, 1) := by decide +kernel
theorem dX2_build_21 : decode cX2_build 21 = .ok (.invokevirtual 166, 3) := by decide +kernel
theorem dX2_build_24 : decode cX2_build 24 = .ok (.iinc 3 1, 3) := by decide +kernel
theorem dX2_build_27 : decode cX2_build 27 = .ok (.goto (-20), 3) := by decide +kernel
theorem dX2_build_30 : decode cX2_build 30 = .ok (.iconst 0, 1) := by decide +kernel
theorem dX2_build_31 : decode cX2_build 31 = .ok (.istore_n 3, 1) := by decide +kernel
theorem dX2_build_32 : decode cX2_build 32 = .ok (.iload_n 3, 1) := by decide +kernel
theorem dX2_build_33 : decode cX2_build 33 = .ok (.sipush 128, 3) := by decide +kernel
theorem dX2_build_36 : decode cX2_build 36 = .ok (.if_icmp .ge 19, 3) := by decide +kernel
theorem dX2_build_39 : decode cX2_build 39 = .ok (.aload_n 0, 1) := by decide +kernel
theorem dX2_build_40 : decode cX2_build 40 = .ok (.getfield 19, 3) := by decide +kernel
theorem dX2_build_43 : decode cX2_build 43 = .ok (.iload_n 3, 1) := by decide +kernel
theorem dX2_build_44 : decode cX2_build 44 = .ok (.aaload, 1) := by decide +kernel
theorem dX2_build_45 : decode cX2_build 45 = .ok (.iconst 0, 1) := by decide +kernel
theorem dX2_build_46 : decode cX2_build 46 = .ok (.putfield 72, 3) := by decide +kernel
theorem dX2_build_49 : decode cX2_build 49 = .ok (.iinc 3 1, 3) := by decide +kernel
theorem dX2_build_52 : decode cX2_build 52 = .ok (.goto (-20), 3) := by decide +kernel
theorem dX2_build_55 : decode cX2_build 55 = .ok (.aload_n 0, 1) := by decide +kernel
theorem dX2_build_56 : decode cX2_build 56 = .ok (.iconst 0, 1) := by decide +kernel
theorem dX2_build_57 : decode cX2_build 57 = .ok (.putfield 68, 3) := by decide +kernel
theorem dX2_build_60 : decode cX2_build 60 = .ok (.iload_n 2, 1) := by decide +kernel
theorem dX2_build_61 : decode cX2_build 61 = .ok (.iconst 4, 1) := by decide +kernel
theorem dX2_build_62 : decode cX2_build 62 = .ok (.if_icmp .ge 7, 3) := by decide +kernel
theorem dX2_build_65 : decode cX2_build 65 = .ok (.iconst (-1), 1) := by decide +kernel
theorem dX2_build_66 : decode cX2_build 66 = .ok (.goto 7, 3) := by decide +kernel
theorem dX2_build_69 : decode cX2_build 69 = .ok (.aload_n 0, 1) := by decide +kernel
theorem dX2_build_70 : decode cX2_build 70 = .ok (.invokevirtual 169, 3) := by decide +kernel
theorem dX2_build_73 : decode cX2_build 73 = .ok (.istore_n 3, 1) := by decide +kernel
theorem dX2_build_74 : decode cX2_build 74 = .ok (.iload_n 3, 1) := by decide +kernel
theorem dX2_build_75 : decode cX2_build 75 = .ok (.ifCond .ge 5, 3) := by decide +kernel
theorem dX2_build_78 : decode cX2_build 78 = .ok (.iconst 0, 1) := by decide +kernel
theorem dX2_build_79 : decode cX2_build 79 = .ok (.ireturn, 1) := by decide +kernel
theorem dX2_build_80 : decode cX2_build 80 = .ok (.aload_n 0, 1) := by decide +kernel
theorem dX2_build_81 : decode cX2_build 81 = .ok (.getfield 39, 3) := by decide +kernel
theorem dX2_build_84 : decode cX2_build 84 = .ok (.iconst 0, 1) := by decide +kernel
theorem dX2_build_85 : decode cX2_build 85 = .ok (.iaload, 1) := by decide +kernel
theorem dX2_build_86 : decode cX2_build 86 = .ok (.istore 4, 2) := by decide +kernel
theorem dX2_build_88 : decode cX2_build 88 = .ok (.iconst 2, 1) := by decide +kernel
theorem dX2_build_89 : decode cX2_build 89 = .ok (.istore 5, 2) := by decide +kernel
theorem dX2_build_91 : decode cX2_build 91 = .ok (.iload 5, 2) := by decide +kernel
theorem dX2_build_93 : decode cX2_build 93 = .ok (.iload_n 2, 1) := by decide +kernel
theorem dX2_build_94 : decode cX2_build 94 = .ok (.if_icmp .ge 28, 3) := by decide +kernel
theorem dX2_build_97 : decode cX2_build 97 = .ok (.iload 5, 2) := by decide +kernel
theorem dX2_build_99 : decode cX2_build 99 = .ok (.iload 4, 2) := by decide +kernel
theorem dX2_build_101 : decode cX2_build 101 = .ok (.if_icmp .eq 15, 3) := by decide +kernel
theorem dX2_build_104 : decode cX2_build 104 = .ok (.iload 5, 2) := by decide +kernel
theorem dX2_build_106 : decode cX2_build 106 = .ok (.iload_n 3, 1) := by decide +kernel
theorem dX2_build_107 : decode cX2_build 107 = .ok (.if_icmp .eq 9, 3) := by decide +kernel
theorem dX2_build_110 : decode cX2_build 110 = .ok (.aload_n 0, 1) := by decide +kernel
theorem dX2_build_111 : decode cX2_build 111 = .ok (.iload 5, 2) := by decide +kernel
theorem dX2_build_113 : decode cX2_build 113 = .ok (.invokevirtual 173, 3) := by decide +kernel
theorem dX2_build_116 : decode cX2_build 116 = .ok (.iinc 5 1, 3) := by decide +kernel
theorem dX2_build_119 : decode cX2_build 119 = .ok (.goto (-28), 3) := by decide +kernel
theorem dX2_build_122 : decode cX2_build 122 = .ok (.aload_n 0, 1) := by decide +kernel
theorem dX2_build_123 : decode cX2_build 123 = .ok (.iconst 0, 1) := by decide +kernel
theorem dX2_build_124 : decode cX2_build 124 = .ok (.putfield 117, 3) := by decide +kernel
theorem dX2_build_127 : decode cX2_build 127 = .ok (.iconst 0, 1) := by decide +kernel
theorem dX2_build_128 : decode cX2_build 128 = .ok (.istore 5, 2) := by decide +kernel
theorem dX2_build_130 : decode cX2_build 130 = .ok (.iload 5, 2) := by decide +kernel
theorem dX2_build_132 : decode cX2_build 132 = .ok (.aload_n 0, 1) := by decide +kernel
theorem dX2_build_133 : decode cX2_build 133 = .ok (.getfield 68, 3) := by decide +kernel
theorem dX2_build_136 : decode cX2_build 136 = .ok (.if_icmp .ge 20, 3) := by decide +kernel
theorem dX2_build_139 : decode cX2_build 139 = .ok (.aload_n 0, 1) := by decide +kernel
theorem dX2_build_140 : decode cX2_build 140 = .ok (.getfield 19, 3) := by decide +kernel
theorem dX2_build_143 : decode cX2_build 143 = .ok (.iload 5, 2) := by decide +kernel
theorem dX2_build_145 : decode cX2_build 145 = .ok (.aaload, 1) := by decide +kernel
theorem dX2_build_146 : decode cX2_build 146 = .ok (.iconst 0, 1) := by decide +kernel
theorem dX2_build_147 : decode cX2_build 147 = .ok (.putfield 85, 3) := by decide +kernel
theorem dX2_build_150 : decode cX2_build 150 = .ok (.iinc 5 1, 3) := by decide +kernel
theorem dX2_build_153 : decode cX2_build 153 = .ok (.goto (-23), 3) := by decide +kernel
theorem dX2_build_156 : decode cX2_build 156 = .ok (.iconst 0, 1) := by decide +kernel
theorem dX2_build_157 : decode cX2_build 157 = .ok (.istore 5, 2) := by decide +kernel
theorem dX2_build_159 : decode cX2_build 159 = .ok (.iload 5, 2) := by decide +kernel
theorem dX2_build_161 : decode cX2_build 161 = .ok (.aload_n 0, 1) := by decide +kernel
theorem dX2_build_162 : decode cX2_build 162 = .ok (.getfield 68, 3) := by decide +kernel
theorem dX2_build_165 : decode cX2_build 165 = .ok (.if_icmp .ge 41, 3) := by decide +kernel
theorem dX2_build_168 : decode cX2_build 168 = .ok (.aload_n 0, 1) := by decide +kernel
theorem dX2_build_169 : decode cX2_build 169 = .ok (.getfield 19, 3) := by decide +kernel
theorem dX2_build_172 : decode cX2_build 172 = .ok (.iload 5, 2) := by decide +kernel
theorem dX2_build_174 : decode cX2_build 174 = .ok (.aaload, 1) := by decide +kernel
theorem dX2_build_175 : decode cX2_build 175 = .ok (.getfield 72, 3) := by decide +kernel
theorem dX2_build_178 : decode cX2_build 178 = .ok (.ifCond .eq 22, 3) := by decide +kernel
theorem dX2_build_181 : decode cX2_build 181 = .ok (.aload_n 0, 1) := by decide +kernel
theorem dX2_build_182 : decode cX2_build 182 = .ok (.getfield 19, 3) := by decide +kernel
theorem dX2_build_185 : decode cX2_build 185 = .ok (.iload 5, 2) := by decide +kernel
theorem dX2_build_187 : decode cX2_build 187 = .ok (.aaload, 1) := by decide +kernel
theorem dX2_build_188 : decode cX2_build 188 = .ok (.getfield 85, 3) := by decide +kernel
theorem dX2_build_191 : decode cX2_build 191 = .ok (.ifCond .ne 9, 3) := by decide +kernel
theorem dX2_build_194 : decode cX2_build 194 = .ok (.aload_n 0, 1) := by decide +kernel
theorem dX2_build_195 : decode cX2_build 195 = .ok (.iload 5, 2) := by decide +kernel
theorem dX2_build_197 : decode cX2_build 197 = .ok (.invokevirtual 177, 3) := by decide +kernel
theorem dX2_build_200 : decode cX2_build 200 = .ok (.iinc 5 1, 3) := by decide +kernel
theorem dX2_build_203 : decode cX2_build 203 = .ok (.goto (-44), 3) := by decide +kernel
theorem dX2_build_206 : decode cX2_build 206 = .ok (.aload_n 0, 1) := by decide +kernel
theorem dX2_build_207 : decode cX2_build 207 = .ok (.invokevirtual 180, 3) := by decide +kernel
theorem dX2_build_210 : decode cX2_build 210 = .ok (.aload_n 0, 1) := by decide +kernel
theorem dX2_build_211 : decode cX2_build 211 = .ok (.invokevirtual 183, 3) := by decide +kernel
theorem dX2_build_214 : decode cX2_build 214 = .ok (.iconst 1, 1) := by decide +kernel
theorem dX2_build_215 : decode cX2_build 215 = .ok (.ireturn, 1) := by decide +kernel
abbrev cX2_begin : ByteArray := prog_4_method_3_code
def yX2_begin : MethodName := ⟨RX2, "begin", "()I"⟩
theorem dX2_begin_0 : decode cX2_begin 0 = .ok (.iconst 1, 1) := by decide +kernel
theorem dX2_begin_1 : decode cX2_begin 1 = .ok (.istore_n 1, 1) := by decide +kernel
theorem dX2_begin_2 : decode cX2_begin 2 = .ok (.iconst 2, 1) := by decide +kernel
theorem dX2_begin_3 : decode cX2_begin 3 = .ok (.istore_n 2, 1) := by decide +kernel
theorem dX2_begin_4 : decode cX2_begin 4 = .ok (.iload_n 2, 1) := by decide +kernel
theorem dX2_begin_5 : decode cX2_begin 5 = .ok (.aload_n 0, 1) := by decide +kernel
theorem dX2_begin_6 : decode cX2_begin 6 = .ok (.getfield 93, 3) := by decide +kernel
theorem dX2_begin_9 : decode cX2_begin 9 = .ok (.if_icmp .ge 37, 3) := by decide +kernel
theorem dX2_begin_12 : decode cX2_begin 12 = .ok (.aload_n 0, 1) := by decide +kernel
theorem dX2_begin_13 : decode cX2_begin 13 = .ok (.getfield 60, 3) := by decide +kernel
theorem dX2_begin_16 : decode cX2_begin 16 = .ok (.aload_n 0, 1) := by decide +kernel
theorem dX2_begin_17 : decode cX2_begin 17 = .ok (.getfield 11, 3) := by decide +kernel
theorem dX2_begin_20 : decode cX2_begin 20 = .ok (.iconst 0, 1) := by decide +kernel
theorem dX2_begin_21 : decode cX2_begin 21 = .ok (.aaload, 1) := by decide +kernel
theorem dX2_begin_22 : decode cX2_begin 22 = .ok (.aload_n 0, 1) := by decide +kernel
theorem dX2_begin_23 : decode cX2_begin 23 = .ok (.getfield 11, 3) := by decide +kernel
theorem dX2_begin_26 : decode cX2_begin 26 = .ok (.iload_n 1, 1) := by decide +kernel
theorem dX2_begin_27 : decode cX2_begin 27 = .ok (.aaload, 1) := by decide +kernel
theorem dX2_begin_28 : decode cX2_begin 28 = .ok (.aload_n 0, 1) := by decide +kernel
theorem dX2_begin_29 : decode cX2_begin 29 = .ok (.getfield 11, 3) := by decide +kernel
theorem dX2_begin_32 : decode cX2_begin 32 = .ok (.iload_n 2, 1) := by decide +kernel
theorem dX2_begin_33 : decode cX2_begin 33 = .ok (.aaload, 1) := by decide +kernel
theorem dX2_begin_34 : decode cX2_begin 34 = .ok (.invokevirtual 89, 3) := by decide +kernel
theorem dX2_begin_37 : decode cX2_begin 37 = .ok (.ifCond .ne 9, 3) := by decide +kernel
theorem dX2_begin_40 : decode cX2_begin 40 = .ok (.iinc 2 1, 3) := by decide +kernel
theorem dX2_begin_43 : decode cX2_begin 43 = .ok (.goto (-39), 3) := by decide +kernel
theorem dX2_begin_46 : decode cX2_begin 46 = .ok (.iload_n 2, 1) := by decide +kernel
theorem dX2_begin_47 : decode cX2_begin 47 = .ok (.aload_n 0, 1) := by decide +kernel
theorem dX2_begin_48 : decode cX2_begin 48 = .ok (.getfield 93, 3) := by decide +kernel
theorem dX2_begin_51 : decode cX2_begin 51 = .ok (.if_icmp .lt 5, 3) := by decide +kernel
theorem dX2_begin_54 : decode cX2_begin 54 = .ok (.iconst (-1), 1) := by decide +kernel
theorem dX2_begin_55 : decode cX2_begin 55 = .ok (.ireturn, 1) := by decide +kernel
theorem dX2_begin_56 : decode cX2_begin 56 = .ok (.iconst 2, 1) := by decide +kernel
theorem dX2_begin_57 : decode cX2_begin 57 = .ok (.istore_n 3, 1) := by decide +kernel
theorem dX2_begin_58 : decode cX2_begin 58 = .ok (.iload_n 3, 1) := by decide +kernel
theorem dX2_begin_59 : decode cX2_begin 59 = .ok (.aload_n 0, 1) := by decide +kernel
theorem dX2_begin_60 : decode cX2_begin 60 = .ok (.getfield 93, 3) := by decide +kernel
theorem dX2_begin_63 : decode cX2_begin 63 = .ok (.if_icmp .ge 27, 3) := by decide +kernel
theorem dX2_begin_66 : decode cX2_begin 66 = .ok (.aload_n 0, 1) := by decide +kernel
theorem dX2_begin_67 : decode cX2_begin 67 = .ok (.getfield 60, 3) := by decide +kernel
theorem dX2_begin_70 : decode cX2_begin 70 = .ok (.aload_n 0, 1) := by decide +kernel
theorem dX2_begin_71 : decode cX2_begin 71 = .ok (.getfield 11, 3) := by decide +kernel
theorem dX2_begin_74 : decode cX2_begin 74 = .ok (.iload_n 3, 1) := by decide +kernel
theorem dX2_begin_75 : decode cX2_begin 75 = .ok (.aaload, 1) := by decide +kernel
theorem dX2_begin_76 : decode cX2_begin 76 = .ok (.invokevirtual 96, 3) := by decide +kernel
theorem dX2_begin_79 : decode cX2_begin 79 = .ok (.lconst 0, 1) := by decide +kernel
theorem dX2_begin_80 : decode cX2_begin 80 = .ok (.lcmp, 1) := by decide +kernel
theorem dX2_begin_81 : decode cX2_begin 81 = .ok (.ifCond .ne 9, 3) := by decide +kernel
theorem dX2_begin_84 : decode cX2_begin 84 = .ok (.iinc 3 1, 3) := by decide +kernel
theorem dX2_begin_87 : decode cX2_begin 87 = .ok (.goto (-29), 3) := by decide +kernel
theorem dX2_begin_90 : decode cX2_begin 90 = .ok (.iload_n 3, 1) := by decide +kernel
theorem dX2_begin_91 : decode cX2_begin 91 = .ok (.aload_n 0, 1) := by decide +kernel
theorem dX2_begin_92 : decode cX2_begin 92 = .ok (.getfield 93, 3) := by decide +kernel
theorem dX2_begin_95 : decode cX2_begin 95 = .ok (.if_icmp .lt 5, 3) := by decide +kernel
theorem dX2_begin_98 : decode cX2_begin 98 = .ok (.iconst (-1), 1) := by decide +kernel
theorem dX2_begin_99 : decode cX2_begin 99 = .ok (.ireturn, 1) := by decide +kernel
theorem dX2_begin_100 : decode cX2_begin 100 = .ok (.aload_n 0, 1) := by decide +kernel
theorem dX2_begin_101 : decode cX2_begin 101 = .ok (.getfield 60, 3) := by decide +kernel
theorem dX2_begin_104 : decode cX2_begin 104 = .ok (.aload_n 0, 1) := by decide +kernel
theorem dX2_begin_105 : decode cX2_begin 105 = .ok (.getfield 11, 3) := by decide +kernel
theorem dX2_begin_108 : decode cX2_begin 108 = .ok (.iload_n 3, 1) := by decide +kernel
theorem dX2_begin_109 : decode cX2_begin 109 = .ok (.aaload, 1) := by decide +kernel
theorem dX2_begin_110 : decode cX2_begin 110 = .ok (.invokevirtual 96, 3) := by decide +kernel
theorem dX2_begin_113 : decode cX2_begin 113 = .ok (.lconst 0, 1) := by decide +kernel
theorem dX2_begin_114 : decode cX2_begin 114 = .ok (.lcmp, 1) := by decide +kernel
theorem dX2_begin_115 : decode cX2_begin 115 = .ok (.ifCond .le 7, 3) := by decide +kernel
theorem dX2_begin_118 : decode cX2_begin 118 = .ok (.iconst 1, 1) := by decide +kernel
theorem dX2_begin_119 : decode cX2_begin 119 = .ok (.goto 4, 3) := by decide +kernel
theorem dX2_begin_122 : decode cX2_begin 122 = .ok (.iconst 0, 1) := by decide +kernel
theorem dX2_begin_123 : decode cX2_begin 123 = .ok (.istore 4, 2) := by decide +kernel
theorem dX2_begin_125 : decode cX2_begin 125 = .ok (.iload 4, 2) := by decide +kernel
theorem dX2_begin_127 : decode cX2_begin 127 = .ok (.ifCond .eq 7, 3) := by decide +kernel
theorem dX2_begin_130 : decode cX2_begin 130 = .ok (.iload_n 2, 1) := by decide +kernel
theorem dX2_begin_131 : decode cX2_begin 131 = .ok (.goto 4, 3) := by decide +kernel
theorem dX2_begin_134 : decode cX2_begin 134 = .ok (.iload_n 1, 1) := by decide +kernel
theorem dX2_begin_135 : decode cX2_begin 135 = .ok (.istore 5, 2) := by decide +kernel
theorem dX2_begin_137 : decode cX2_begin 137 = .ok (.iload 4, 2) := by decide +kernel
theorem dX2_begin_139 : decode cX2_begin 139 = .ok (.ifCond .eq 7, 3) := by decide +kernel
theorem dX2_begin_142 : decode cX2_begin 142 = .ok (.iload_n 1, 1) := by decide +kernel
theorem dX2_begin_143 : decode cX2_begin 143 = .ok (.goto 4, 3) := by decide +kernel
theorem dX2_begin_146 : decode cX2_begin 146 = .ok (.iload_n 2, 1) := by decide +kernel
theorem dX2_begin_147 : decode cX2_begin 147 = .ok (.istore 6, 2) := by decide +kernel
theorem dX2_begin_149 : decode cX2_begin 149 = .ok (.aload_n 0, 1) := by decide +kernel
theorem dX2_begin_150 : decode cX2_begin 150 = .ok (.iconst 0, 1) := by decide +kernel
theorem dX2_begin_151 : decode cX2_begin 151 = .ok (.iload 5, 2) := by decide +kernel
theorem dX2_begin_153 : decode cX2_begin 153 = .ok (.iload 6, 2) := by decide +kernel
theorem dX2_begin_155 : decode cX2_begin 155 = .ok (.invokevirtual 100, 3) := by decide +kernel
theorem dX2_begin_158 : decode cX2_begin 158 = .ok (.aload_n 0, 1) := by decide +kernel
theorem dX2_begin_159 : decode cX2_begin 159 = .ok (.iconst 0, 1) := by decide +kernel
theorem dX2_begin_160 : decode cX2_begin 160 = .ok (.iload 6, 2) := by decide +kernel
theorem dX2_begin_162 : decode cX2_begin 162 = .ok (.iload_n 3, 1) := by decide +kernel
theorem dX2_begin_163 : decode cX2_begin 163 = .ok (.invokevirtual 100, 3) := by decide +kernel
theorem dX2_begin_166 : decode cX2_begin 166 = .ok (.aload_n 0, 1) := by decide +kernel
theorem dX2_begin_167 : decode cX2_begin 167 = .ok (.iload 6, 2) := by decide +kernel
theorem dX2_begin_169 : decode cX2_begin 169 = .ok (.iload 5, 2) := by decide +kernel
theorem dX2_begin_171 : decode cX2_begin 171 = .ok (.iload_n 3, 1) := by decide +kernel
theorem dX2_begin_172 : decode cX2_begin 172 = .ok (.invokevirtual 100, 3) := by decide +kernel
theorem dX2_begin_175 : decode cX2_begin 175 = .ok (.aload_n 0, 1) := by decide +kernel
theorem dX2_begin_176 : decode cX2_begin 176 = .ok (.iload 5, 2) := by decide +kernel
theorem dX2_begin_178 : decode cX2_begin 178 = .ok (.iconst 0, 1) := by decide +kernel
theorem dX2_begin_179 : decode cX2_begin 179 = .ok (.iload_n 3, 1) := by decide +kernel
theorem dX2_begin_180 : decode cX2_begin 180 = .ok (.invokevirtual 100, 3) := by decide +kernel
theorem dX2_begin_183 : decode cX2_begin 183 = .ok (.aload_n 0, 1) := by decide +kernel
theorem dX2_begin_184 : decode cX2_begin 184 = .ok (.getfield 39, 3) := by decide +kernel
theorem dX2_begin_187 : decode cX2_begin 187 = .ok (.iconst 0, 1) := by decide +kernel
theorem dX2_begin_188 : decode cX2_begin 188 = .ok (.iload_n 2, 1) := by decide +kernel
theorem dX2_begin_189 : decode cX2_begin 189 = .ok (.iastore, 1) := by decide +kernel
theorem dX2_begin_190 : decode cX2_begin 190 = .ok (.iload_n 3, 1) := by decide +kernel
theorem dX2_begin_191 : decode cX2_begin 191 = .ok (.ireturn, 1) := by decide +kernel
abbrev cX2_triangle : ByteArray := prog_4_method_2_code
def yX2_triangle : MethodName := ⟨RX2, "triangle", "(III)V"⟩
theorem dX2_triangle_0 : decode cX2_triangle 0 = .ok (.iconst 0, 1) := by decide +kernel
theorem dX2_triangle_1 : decode cX2_triangle 1 = .ok (.istore 4, 2) := by decide +kernel
theorem dX2_triangle_3 : decode cX2_triangle 3 = .ok (.iload 4, 2) := by decide +kernel
theorem dX2_triangle_5 : decode cX2_triangle 5 = .ok (.aload_n 0, 1) := by decide +kernel
theorem dX2_triangle_6 : decode cX2_triangle 6 = .ok (.getfield 68, 3) := by decide +kernel
theorem dX2_triangle_9 : decode cX2_triangle 9 = .ok (.if_icmp .ge 22, 3) := by decide +kernel
theorem dX2_triangle_12 : decode cX2_triangle 12 = .ok (.aload_n 0, 1) := by decide +kernel
theorem dX2_triangle_13 : decode cX2_triangle 13 = .ok (.getfield 19, 3) := by decide +kernel
theorem dX2_triangle_16 : decode cX2_triangle 16 = .ok (.iload 4, 2) := by decide +kernel
theorem dX2_triangle_18 : decode cX2_triangle 18 = .ok (.aaload, 1) := by decide +kernel
theorem dX2_triangle_19 : decode cX2_triangle 19 = .ok (.getfield 72, 3) := by decide +kernel
theorem dX2_triangle_22 : decode cX2_triangle 22 = .ok (.ifCond .eq 9, 3) := by decide +kernel
theorem dX2_triangle_25 : decode cX2_triangle 25 = .ok (.iinc 4 1, 3) := by decide +kernel
theorem dX2_triangle_28 : decode cX2_triangle 28 = .ok (.goto (-25), 3) := by decide +kernel
theorem dX2_triangle_31 : decode cX2_triangle 31 = .ok (.iload 4, 2) := by decide +kernel
theorem dX2_triangle_33 : decode cX2_triangle 33 = .ok (.aload_n 0, 1) := by decide +kernel
theorem dX2_triangle_34 : decode cX2_triangle 34 = .ok (.getfield 68, 3) := by decide +kernel
theorem dX2_triangle_37 : decode cX2_triangle 37 = .ok (.if_icmp .ne 13, 3) := by decide +kernel
theorem dX2_triangle_40 : decode cX2_triangle 40 = .ok (.aload_n 0, 1) := by decide +kernel
theorem dX2_triangle_41 : decode cX2_triangle 41 = .ok (.dup, 1) := by decide +kernel
theorem dX2_triangle_42 : decode cX2_triangle 42 = .ok (.getfield 68, 3) := by decide +kernel
theorem dX2_triangle_45 : decode cX2_triangle 45 = .ok (.iconst 1, 1) := by decide +kernel
theorem dX2_triangle_46 : decode cX2_triangle 46 = .ok (.iadd, 1) := by decide +kernel
theorem dX2_triangle_47 : decode cX2_triangle 47 = .ok (.putfield 68, 3) := by decide +kernel
theorem dX2_triangle_50 : decode cX2_triangle 50 = .ok (.aload_n 0, 1) := by decide +kernel
theorem dX2_triangle_51 : decode cX2_triangle 51 = .ok (.getfield 19, 3) := by decide +kernel
theorem dX2_triangle_54 : decode cX2_triangle 54 = .ok (.iload 4, 2) := by decide +kernel
theorem dX2_triangle_56 : decode cX2_triangle 56 = .ok (.aaload, 1) := by decide +kernel
theorem dX2_triangle_57 : decode cX2_triangle 57 = .ok (.astore 5, 2) := by decide +kernel
theorem dX2_triangle_59 : decode cX2_triangle 59 = .ok (.aload 5, 2) := by decide +kernel
theorem dX2_triangle_61 : decode cX2_triangle 61 = .ok (.iload_n 1, 1) := by decide +kernel
theorem dX2_triangle_62 : decode cX2_triangle 62 = .ok (.putfield 76, 3) := by decide +kernel
theorem dX2_triangle_65 : decode cX2_triangle 65 = .ok (.aload 5, 2) := by decide +kernel
theorem dX2_triangle_67 : decode cX2_triangle 67 = .ok (.iload_n 2, 1) := by decide +kernel
theorem dX2_triangle_68 : decode cX2_triangle 68 = .ok (.putfield 79, 3) := by decide +kernel
theorem dX2_triangle_71 : decode cX2_triangle 71 = .ok (.aload 5, 2) := by decide +kernel
theorem dX2_triangle_73 : decode cX2_triangle 73 = .ok (.iload_n 3, 1) := by decide +kernel
theorem dX2_triangle_74 : decode cX2_triangle 74 = .ok (.putfield 82, 3) := by decide +kernel
theorem dX2_triangle_77 : decode cX2_triangle 77 = .ok (.aload 5, 2) := by decide +kernel
theorem dX2_triangle_79 : decode cX2_triangle 79 = .ok (.iconst 1, 1) := by decide +kernel
theorem dX2_triangle_80 : decode cX2_triangle 80 = .ok (.putfield 72, 3) := by decide +kernel
theorem dX2_triangle_83 : decode cX2_triangle 83 = .ok (.aload 5, 2) := by decide +kernel
theorem dX2_triangle_85 : decode cX2_triangle 85 = .ok (.iconst 0, 1) := by decide +kernel
theorem dX2_triangle_86 : decode cX2_triangle 86 = .ok (.putfield 85, 3) := by decide +kernel
theorem dX2_triangle_89 : decode cX2_triangle 89 = .ok (.aload 5, 2) := by decide +kernel
theorem dX2_triangle_91 : decode cX2_triangle 91 = .ok (.getfield 88, 3) := by decide +kernel
theorem dX2_triangle_94 : decode cX2_triangle 94 = .ok (.aload_n 0, 1) := by decide +kernel
theorem dX2_triangle_95 : decode cX2_triangle 95 = .ok (.getfield 11, 3) := by decide +kernel
theorem dX2_triangle_98 : decode cX2_triangle 98 = .ok (.iload_n 1, 1) := by decide +kernel
theorem dX2_triangle_99 : decode cX2_triangle 99 = .ok (.aaload, 1) := by decide +kernel
theorem dX2_triangle_100 : decode cX2_triangle 100 = .ok (.aload_n 0, 1) := by decide +kernel
theorem dX2_triangle_101 : decode cX2_triangle 101 = .ok (.getfield 11, 3) := by decide +kernel
theorem dX2_triangle_104 : decode cX2_triangle 104 = .ok (.iload_n 2, 1) := by decide +kernel
theorem dX2_triangle_105 : decode cX2_triangle 105 = .ok (.aaload, 1) := by decide +kernel
theorem dX2_triangle_106 : decode cX2_triangle 106 = .ok (.aload_n 0, 1) := by decide +kernel
theorem dX2_triangle_107 : decode cX2_triangle 107 = .ok (.getfield 11, 3) := by decide +kernel
theorem dX2_triangle_110 : decode cX2_triangle 110 = .ok (.iload_n 3, 1) := by decide +kernel
theorem dX2_triangle_111 : decode cX2_triangle 111 = .ok (.aaload, 1) := by decide +kernel
theorem dX2_triangle_112 : decode cX2_triangle 112 = .ok (.invokevirtual 89, 3) := by decide +kernel
theorem dX2_triangle_115 : decode cX2_triangle 115 = .ok (.pop, 1) := by decide +kernel
theorem dX2_triangle_116 : decode cX2_triangle 116 = .ok (.return_, 1) := by decide +kernel
abbrev cX2_add : ByteArray := prog_4_method_5_code
def yX2_add : MethodName := ⟨RX2, "add", "(I)V"⟩
theorem dX2_add_0 : decode cX2_add 0 = .ok (.iconst 0, 1) := by decide +kernel
theorem dX2_add_1 : decode cX2_add 1 = .ok (.istore_n 2, 1) := by decide +kernel
theorem dX2_add_2 : decode cX2_add 2 = .ok (.iconst 0, 1) := by decide +kernel
theorem dX2_add_3 : decode cX2_add 3 = .ok (.istore_n 3, 1) := by decide +kernel
theorem dX2_add_4 : decode cX2_add 4 = .ok (.iload_n 3, 1) := by decide +kernel
theorem dX2_add_5 : decode cX2_add 5 = .ok (.aload_n 0, 1) := by decide +kernel
theorem dX2_add_6 : decode cX2_add 6 = .ok (.getfield 68, 3) := by decide +kernel
theorem dX2_add_9 : decode cX2_add 9 = .ok (.if_icmp .ge 81, 3) := by decide +kernel
theorem dX2_add_12 : decode cX2_add 12 = .ok (.aload_n 0, 1) := by decide +kernel
theorem dX2_add_13 : decode cX2_add 13 = .ok (.getfield 19, 3) := by decide +kernel
theorem dX2_add_16 : decode cX2_add 16 = .ok (.iload_n 3, 1) := by decide +kernel
theorem dX2_add_17 : decode cX2_add 17 = .ok (.aaload, 1) := by decide +kernel
theorem dX2_add_18 : decode cX2_add 18 = .ok (.astore 4, 2) := by decide +kernel
theorem dX2_add_20 : decode cX2_add 20 = .ok (.aload 4, 2) := by decide +kernel
theorem dX2_add_22 : decode cX2_add 22 = .ok (.getfield 72, 3) := by decide +kernel
theorem dX2_add_25 : decode cX2_add 25 = .ok (.ifCond .eq 20, 3) := by decide +kernel
theorem dX2_add_28 : decode cX2_add 28 = .ok (.aload 4, 2) := by decide +kernel
theorem dX2_add_30 : decode cX2_add 30 = .ok (.getfield 88, 3) := by decide +kernel
theorem dX2_add_33 : decode cX2_add 33 = .ok (.aload_n 0, 1) := by decide +kernel
theorem dX2_add_34 : decode cX2_add 34 = .ok (.getfield 11, 3) := by decide +kernel
theorem dX2_add_37 : decode cX2_add 37 = .ok (.iload_n 1, 1) := by decide +kernel
theorem dX2_add_38 : decode cX2_add 38 = .ok (.aaload, 1) := by decide +kernel
theorem dX2_add_39 : decode cX2_add 39 = .ok (.invokevirtual 96, 3) := by decide +kernel
theorem dX2_add_42 : decode cX2_add 42 = .ok (.goto 6, 3) := by decide +kernel
theorem dX2_add_45 : decode cX2_add 45 = .ok (.ldc2_w 108, 3) := by decide +kernel
theorem dX2_add_48 : decode cX2_add 48 = .ok (.lstore 5, 2) := by decide +kernel
theorem dX2_add_50 : decode cX2_add 50 = .ok (.aload 4, 2) := by decide +kernel
theorem dX2_add_52 : decode cX2_add 52 = .ok (.lload 5, 2) := by decide +kernel
theorem dX2_add_54 : decode cX2_add 54 = .ok (.lconst 0, 1) := by decide +kernel
theorem dX2_add_55 : decode cX2_add 55 = .ok (.lcmp, 1) := by decide +kernel
theorem dX2_add_56 : decode cX2_add 56 = .ok (.ifCond .lt 7, 3) := by decide +kernel
theorem dX2_add_59 : decode cX2_add 59 = .ok (.iconst 1, 1) := by decide +kernel
theorem dX2_add_60 : decode cX2_add 60 = .ok (.goto 4, 3) := by decide +kernel
theorem dX2_add_63 : decode cX2_add 63 = .ok (.iconst 0, 1) := by decide +kernel
theorem dX2_add_64 : decode cX2_add 64 = .ok (.putfield 85, 3) := by decide +kernel
theorem dX2_add_67 : decode cX2_add 67 = .ok (.iload_n 2, 1) := by decide +kernel
theorem dX2_add_68 : decode cX2_add 68 = .ok (.ifCond .ne 10, 3) := by decide +kernel
theorem dX2_add_71 : decode cX2_add 71 = .ok (.lload 5, 2) := by decide +kernel
theorem dX2_add_73 : decode cX2_add 73 = .ok (.lconst 0, 1) := by decide +kernel
theorem dX2_add_74 : decode cX2_add 74 = .ok (.lcmp, 1) := by decide +kernel
theorem dX2_add_75 : decode cX2_add 75 = .ok (.ifCond .le 7, 3) := by decide +kernel
theorem dX2_add_78 : decode cX2_add 78 = .ok (.iconst 1, 1) := by decide +kernel
theorem dX2_add_79 : decode cX2_add 79 = .ok (.goto 4, 3) := by decide +kernel
theorem dX2_add_82 : decode cX2_add 82 = .ok (.iconst 0, 1) := by decide +kernel
theorem dX2_add_83 : decode cX2_add 83 = .ok (.istore_n 2, 1) := by decide +kernel
theorem dX2_add_84 : decode cX2_add 84 = .ok (.iinc 3 1, 3) := by decide +kernel
theorem dX2_add_87 : decode cX2_add 87 = .ok (.goto (-83), 3) := by decide +kernel
theorem dX2_add_90 : decode cX2_add 90 = .ok (.iload_n 2, 1) := by decide +kernel
theorem dX2_add_91 : decode cX2_add 91 = .ok (.ifCond .ne 30, 3) := by decide +kernel
theorem dX2_add_94 : decode cX2_add 94 = .ok (.iconst 0, 1) := by decide +kernel
theorem dX2_add_95 : decode cX2_add 95 = .ok (.istore_n 3, 1) := by decide +kernel
theorem dX2_add_96 : decode cX2_add 96 = .ok (.iload_n 3, 1) := by decide +kernel
theorem dX2_add_97 : decode cX2_add 97 = .ok (.aload_n 0, 1) := by decide +kernel
theorem dX2_add_98 : decode cX2_add 98 = .ok (.getfield 68, 3) := by decide +kernel
theorem dX2_add_101 : decode cX2_add 101 = .ok (.if_icmp .ge 19, 3) := by decide +kernel
theorem dX2_add_104 : decode cX2_add 104 = .ok (.aload_n 0, 1) := by decide +kernel
theorem dX2_add_105 : decode cX2_add 105 = .ok (.getfield 19, 3) := by decide +kernel
theorem dX2_add_108 : decode cX2_add 108 = .ok (.iload_n 3, 1) := by decide +kernel
theorem dX2_add_109 : decode cX2_add 109 = .ok (.aaload, 1) := by decide +kernel
theorem dX2_add_110 : decode cX2_add 110 = .ok (.iconst 0, 1) := by decide +kernel
theorem dX2_add_111 : decode cX2_add 111 = .ok (.putfield 85, 3) := by decide +kernel
theorem dX2_add_114 : decode cX2_add 114 = .ok (.iinc 3 1, 3) := by decide +kernel
theorem dX2_add_117 : decode cX2_add 117 = .ok (.goto (-21), 3) := by decide +kernel
theorem dX2_add_120 : decode cX2_add 120 = .ok (.return_, 1) := by decide +kernel
theorem dX2_add_121 : decode cX2_add 121 = .ok (.iconst 0, 1) := by decide +kernel
theorem dX2_add_122 : decode cX2_add 122 = .ok (.istore_n 3, 1) := by decide +kernel
theorem dX2_add_123 : decode cX2_add 123 = .ok (.iconst 0, 1) := by decide +kernel
theorem dX2_add_124 : decode cX2_add 124 = .ok (.istore 4, 2) := by decide +kernel
theorem dX2_add_126 : decode cX2_add 126 = .ok (.iload 4, 2) := by decide +kernel
theorem dX2_add_128 : decode cX2_add 128 = .ok (.aload_n 0, 1) := by decide +kernel
theorem dX2_add_129 : decode cX2_add 129 = .ok (.getfield 68, 3) := by decide +kernel
theorem dX2_add_132 : decode cX2_add 132 = .ok (.if_icmp .ge 109, 3) := by decide +kernel
theorem dX2_add_135 : decode cX2_add 135 = .ok (.aload_n 0, 1) := by decide +kernel
theorem dX2_add_136 : decode cX2_add 136 = .ok (.getfield 19, 3) := by decide +kernel
theorem dX2_add_139 : decode cX2_add 139 = .ok (.iload 4, 2) := by decide +kernel
theorem dX2_add_141 : decode cX2_add 141 = .ok (.aaload, 1) := by decide +kernel
theorem dX2_add_142 : decode cX2_add 142 = .ok (.astore 5, 2) := by decide +kernel
theorem dX2_add_144 : decode cX2_add 144 = .ok (.iconst 0, 1) := by decide +kernel
theorem dX2_add_145 : decode cX2_add 145 = .ok (.istore 6, 2) := by decide +kernel
theorem dX2_add_147 : decode cX2_add 147 = .ok (.iload 6, 2) := by decide +kernel
theorem dX2_add_149 : decode cX2_add 149 = .ok (.iconst 3, 1) := by decide +kernel
theorem dX2_add_150 : decode cX2_add 150 = .ok (.if_icmp .ge 85, 3) := by decide +kernel
theorem dX2_add_153 : decode cX2_add 153 = .ok (.aload 5, 2) := by decide +kernel
theorem dX2_add_155 : decode cX2_add 155 = .ok (.getfield 72, 3) := by decide +kernel
theorem dX2_add_158 : decode cX2_add 158 = .ok (.ifCond .eq 77, 3) := by decide +kernel
theorem dX2_add_161 : decode cX2_add 161 = .ok (.aload 5, 2) := by decide +kernel
theorem dX2_add_163 : decode cX2_add 163 = .ok (.getfield 85, 3) := by decide +kernel
theorem dX2_add_166 : decode cX2_add 166 = .ok (.ifCond .eq 69, 3) := by decide +kernel
theorem dX2_add_169 : decode cX2_add 169 = .ok (.aload_n 0, 1) := by decide +kernel
theorem dX2_add_170 : decode cX2_add 170 = .ok (.aload 5, 2) := by decide +kernel
theorem dX2_add_172 : decode cX2_add 172 = .ok (.iload 6, 2) := by decide +kernel
theorem dX2_add_174 : decode cX2_add 174 = .ok (.iconst 1, 1) := by decide +kernel
theorem dX2_add_175 : decode cX2_add 175 = .ok (.iadd, 1) := by decide +kernel
theorem dX2_add_176 : decode cX2_add 176 = .ok (.invokevirtual 110, 3) := by decide +kernel
theorem dX2_add_179 : decode cX2_add 179 = .ok (.aload 5, 2) := by decide +kernel
theorem dX2_add_181 : decode cX2_add 181 = .ok (.iload 6, 2) := by decide +kernel
theorem dX2_add_183 : decode cX2_add 183 = .ok (.invokevirtual 110, 3) := by decide +kernel
theorem dX2_add_186 : decode cX2_add 186 = .ok (.invokevirtual 114, 3) := by decide +kernel
theorem dX2_add_189 : decode cX2_add 189 = .ok (.ifCond .eq 40, 3) := by decide +kernel
theorem dX2_add_192 : decode cX2_add 192 = .ok (.aload_n 0, 1) := by decide +kernel
theorem dX2_add_193 : decode cX2_add 193 = .ok (.getfield 35, 3) := by decide +kernel
theorem dX2_add_196 : decode cX2_add 196 = .ok (.aload 5, 2) := by decide +kernel
theorem dX2_add_198 : decode cX2_add 198 = .ok (.iload 6, 2) := by decide +kernel
theorem dX2_add_200 : decode cX2_add 200 = .ok (.invokevirtual 110, 3) := by decide +kernel
theorem dX2_add_203 : decode cX2_add 203 = .ok (.aload 5, 2) := by decide +kernel
theorem dX2_add_205 : decode cX2_add 205 = .ok (.iload 6, 2) := by decide +kernel
theorem dX2_add_207 : decode cX2_add 207 = .ok (.iconst 1, 1) := by decide +kernel
theorem dX2_add_208 : decode cX2_add 208 = .ok (.iadd, 1) := by decide +kernel
theorem dX2_add_209 : decode cX2_add 209 = .ok (.invokevirtual 110, 3) := by decide +kernel
theorem dX2_add_212 : decode cX2_add 212 = .ok (.iastore, 1) := by decide +kernel
theorem dX2_add_213 : decode cX2_add 213 = .ok (.aload_n 0, 1) := by decide +kernel
theorem dX2_add_214 : decode cX2_add 214 = .ok (.getfield 39, 3) := by decide +kernel
theorem dX2_add_217 : decode cX2_add 217 = .ok (.iload_n 3, 1) := by decide +kernel
theorem dX2_add_218 : decode cX2_add 218 = .ok (.aload 5, 2) := by decide +kernel
theorem dX2_add_220 : decode cX2_add 220 = .ok (.iload 6, 2) := by decide +kernel
theorem dX2_add_222 : decode cX2_add 222 = .ok (.invokevirtual 110, 3) := by decide +kernel
theorem dX2_add_225 : decode cX2_add 225 = .ok (.iastore, 1) := by decide +kernel
theorem dX2_add_226 : decode cX2_add 226 = .ok (.iinc 3 1, 3) := by decide +kernel
theorem dX2_add_229 : decode cX2_add 229 = .ok (.iinc 6 1, 3) := by decide +kernel
theorem dX2_add_232 : decode cX2_add 232 = .ok (.goto (-85), 3) := by decide +kernel
theorem dX2_add_235 : decode cX2_add 235 = .ok (.iinc 4 1, 3) := by decide +kernel
theorem dX2_add_238 : decode cX2_add 238 = .ok (.goto (-112), 3) := by decide +kernel
theorem dX2_add_241 : decode cX2_add 241 = .ok (.iconst 0, 1) := by decide +kernel
theorem dX2_add_242 : decode cX2_add 242 = .ok (.istore 4, 2) := by decide +kernel
theorem dX2_add_244 : decode cX2_add 244 = .ok (.iload 4, 2) := by decide +kernel
theorem dX2_add_246 : decode cX2_add 246 = .ok (.aload_n 0, 1) := by decide +kernel
theorem dX2_add_247 : decode cX2_add 247 = .ok (.getfield 68, 3) := by decide +kernel
theorem dX2_add_250 : decode cX2_add 250 = .ok (.if_icmp .ge 44, 3) := by decide +kernel
theorem dX2_add_253 : decode cX2_add 253 = .ok (.aload_n 0, 1) := by decide +kernel
theorem dX2_add_254 : decode cX2_add 254 = .ok (.getfield 19, 3) := by decide +kernel
theorem dX2_add_257 : decode cX2_add 257 = .ok (.iload 4, 2) := by decide +kernel
theorem dX2_add_259 : decode cX2_add 259 = .ok (.aaload, 1) := by decide +kernel
theorem dX2_add_260 : decode cX2_add 260 = .ok (.getfield 85, 3) := by decide +kernel
theorem dX2_add_263 : decode cX2_add 263 = .ok (.ifCond .eq 14, 3) := by decide +kernel
theorem dX2_add_266 : decode cX2_add 266 = .ok (.aload_n 0, 1) := by decide +kernel
theorem dX2_add_267 : decode cX2_add 267 = .ok (.getfield 19, 3) := by decide +kernel
theorem dX2_add_270 : decode cX2_add 270 = .ok (.iload 4, 2) := by decide +kernel
theorem dX2_add_272 : decode cX2_add 272 = .ok (.aaload, 1) := by decide +kernel
theorem dX2_add_273 : decode cX2_add 273 = .ok (.iconst 0, 1) := by decide +kernel
theorem dX2_add_274 : decode cX2_add 274 = .ok (.putfield 72, 3) := by decide +kernel
theorem dX2_add_277 : decode cX2_add 277 = .ok (.aload_n 0, 1) := by decide +kernel
theorem dX2_add_278 : decode cX2_add 278 = .ok (.getfield 19, 3) := by decide +kernel
theorem dX2_add_281 : decode cX2_add 281 = .ok (.iload 4, 2) := by decide +kernel
theorem dX2_add_283 : decode cX2_add 283 = .ok (.aaload, 1) := by decide +kernel
theorem dX2_add_284 : decode cX2_add 284 = .ok (.iconst 0, 1) := by decide +kernel
theorem dX2_add_285 : decode cX2_add 285 = .ok (.putfield 85, 3) := by decide +kernel
theorem dX2_add_288 : decode cX2_add 288 = .ok (.iinc 4 1, 3) := by decide +kernel
theorem dX2_add_291 : decode cX2_add 291 = .ok (.goto (-47), 3) := by decide +kernel
theorem dX2_add_294 : decode cX2_add 294 = .ok (.iconst 0, 1) := by decide +kernel
theorem dX2_add_295 : decode cX2_add 295 = .ok (.istore 4, 2) := by decide +kernel
theorem dX2_add_297 : decode cX2_add 297 = .ok (.iload 4, 2) := by decide +kernel
theorem dX2_add_299 : decode cX2_add 299 = .ok (.iload_n 3, 1) := by decide +kernel
theorem dX2_add_300 : decode cX2_add 300 = .ok (.if_icmp .ge 33, 3) := by decide +kernel
theorem dX2_add_303 : decode cX2_add 303 = .ok (.aload_n 0, 1) := by decide +kernel
theorem dX2_add_304 : decode cX2_add 304 = .ok (.aload_n 0, 1) := by decide +kernel
theorem dX2_add_305 : decode cX2_add 305 = .ok (.getfield 39, 3) := by decide +kernel
theorem dX2_add_308 : decode cX2_add 308 = .ok (.iload 4, 2) := by decide +kernel
theorem dX2_add_310 : decode cX2_add 310 = .ok (.iaload, 1) := by decide +kernel
theorem dX2_add_311 : decode cX2_add 311 = .ok (.aload_n 0, 1) := by decide +kernel
theorem dX2_add_312 : decode cX2_add 312 = .ok (.getfield 35, 3) := by decide +kernel
theorem dX2_add_315 : decode cX2_add 315 = .ok (.aload_n 0, 1) := by decide +kernel
theorem dX2_add_316 : decode cX2_add 316 = .ok (.getfield 39, 3) := by decide +kernel
theorem dX2_add_319 : decode cX2_add 319 = .ok (.iload 4, 2) := by decide +kernel
theorem dX2_add_321 : decode cX2_add 321 = .ok (.iaload, 1) := by decide +kernel
theorem dX2_add_322 : decode cX2_add 322 = .ok (.iaload, 1) := by decide +kernel
theorem dX2_add_323 : decode cX2_add 323 = .ok (.iload_n 1, 1) := by decide +kernel
theorem dX2_add_324 : decode cX2_add 324 = .ok (.invokevirtual 100, 3) := by decide +kernel
theorem dX2_add_327 : decode cX2_add 327 = .ok (.iinc 4 1, 3) := by decide +kernel
theorem dX2_add_330 : decode cX2_add 330 = .ok (.goto (-33), 3) := by decide +kernel
theorem dX2_add_333 : decode cX2_add 333 = .ok (.return_, 1) := by decide +kernel
abbrev cX2_stays : ByteArray := prog_4_method_4_code
def yX2_stays : MethodName := ⟨RX2, "stays", "(II)Z"⟩
theorem dX2_stays_0 : decode cX2_stays 0 = .ok (.iconst 0, 1) := by decide +kernel
theorem dX2_stays_1 : decode cX2_stays 1 = .ok (.istore_n 3, 1) := by decide +kernel
theorem dX2_stays_2 : decode cX2_stays 2 = .ok (.iload_n 3, 1) := by decide +kernel
theorem dX2_stays_3 : decode cX2_stays 3 = .ok (.aload_n 0, 1) := by decide +kernel
theorem dX2_stays_4 : decode cX2_stays 4 = .ok (.getfield 68, 3) := by decide +kernel
theorem dX2_stays_7 : decode cX2_stays 7 = .ok (.if_icmp .ge 49, 3) := by decide +kernel
theorem dX2_stays_10 : decode cX2_stays 10 = .ok (.aload_n 0, 1) := by decide +kernel
theorem dX2_stays_11 : decode cX2_stays 11 = .ok (.getfield 19, 3) := by decide +kernel
theorem dX2_stays_14 : decode cX2_stays 14 = .ok (.iload_n 3, 1) := by decide +kernel
theorem dX2_stays_15 : decode cX2_stays 15 = .ok (.aaload, 1) := by decide +kernel
theorem dX2_stays_16 : decode cX2_stays 16 = .ok (.getfield 72, 3) := by decide +kernel
theorem dX2_stays_19 : decode cX2_stays 19 = .ok (.ifCond .eq 31, 3) := by decide +kernel
theorem dX2_stays_22 : decode cX2_stays 22 = .ok (.aload_n 0, 1) := by decide +kernel
theorem dX2_stays_23 : decode cX2_stays 23 = .ok (.getfield 19, 3) := by decide +kernel
theorem dX2_stays_26 : decode cX2_stays 26 = .ok (.iload_n 3, 1) := by decide +kernel
theorem dX2_stays_27 : decode cX2_stays 27 = .ok (.aaload, 1) := by decide +kernel
theorem dX2_stays_28 : decode cX2_stays 28 = .ok (.getfield 85, 3) := by decide +kernel
theorem dX2_stays_31 : decode cX2_stays 31 = .ok (.ifCond .ne 19, 3) := by decide +kernel
theorem dX2_stays_34 : decode cX2_stays 34 = .ok (.aload_n 0, 1) := by decide +kernel
theorem dX2_stays_35 : decode cX2_stays 35 = .ok (.getfield 19, 3) := by decide +kernel
theorem dX2_stays_38 : decode cX2_stays 38 = .ok (.iload_n 3, 1) := by decide +kernel
theorem dX2_stays_39 : decode cX2_stays 39 = .ok (.aaload, 1) := by decide +kernel
theorem dX2_stays_40 : decode cX2_stays 40 = .ok (.iload_n 1, 1) := by decide +kernel
theorem dX2_stays_41 : decode cX2_stays 41 = .ok (.iload_n 2, 1) := by decide +kernel
theorem dX2_stays_42 : decode cX2_stays 42 = .ok (.invokevirtual 104, 3) := by decide +kernel
theorem dX2_stays_45 : decode cX2_stays 45 = .ok (.ifCond .eq 5, 3) := by decide +kernel
theorem dX2_stays_48 : decode cX2_stays 48 = .ok (.iconst 1, 1) := by decide +kernel
theorem dX2_stays_49 : decode cX2_stays 49 = .ok (.ireturn, 1) := by decide +kernel
theorem dX2_stays_50 : decode cX2_stays 50 = .ok (.iinc 3 1, 3) := by decide +kernel
theorem dX2_stays_53 : decode cX2_stays 53 = .ok (.goto (-51), 3) := by decide +kernel
theorem dX2_stays_56 : decode cX2_stays 56 = .ok (.iconst 0, 1) := by decide +kernel
theorem dX2_stays_57 : decode cX2_stays 57 = .ok (.ireturn, 1) := by decide +kernel
abbrev cX2_unite : ByteArray := prog_4_method_6_code
def yX2_unite : MethodName := ⟨RX2, "unite", "(I)V"⟩
theorem dX2_unite_0 : decode cX2_unite 0 = .ok (.aload_n 0, 1) := by decide +kernel
theorem dX2_unite_1 : decode cX2_unite 1 = .ok (.getfield 25, 3) := by decide +kernel
theorem dX2_unite_4 : decode cX2_unite 4 = .ok (.aload_n 0, 1) := by decide +kernel
theorem dX2_unite_5 : decode cX2_unite 5 = .ok (.getfield 117, 3) := by decide +kernel
theorem dX2_unite_8 : decode cX2_unite 8 = .ok (.aaload, 1) := by decide +kernel
theorem dX2_unite_9 : decode cX2_unite 9 = .ok (.astore_n 2, 1) := by decide +kernel
theorem dX2_unite_10 : decode cX2_unite 10 = .ok (.aload_n 2, 1) := by decide +kernel
theorem dX2_unite_11 : decode cX2_unite 11 = .ok (.getfield 120, 3) := by decide +kernel
theorem dX2_unite_14 : decode cX2_unite 14 = .ok (.aload_n 0, 1) := by decide +kernel
theorem dX2_unite_15 : decode cX2_unite 15 = .ok (.getfield 19, 3) := by decide +kernel
theorem dX2_unite_18 : decode cX2_unite 18 = .ok (.iload_n 1, 1) := by decide +kernel
theorem dX2_unite_19 : decode cX2_unite 19 = .ok (.aaload, 1) := by decide +kernel
theorem dX2_unite_20 : decode cX2_unite 20 = .ok (.getfield 88, 3) := by decide +kernel
theorem dX2_unite_23 : decode cX2_unite 23 = .ok (.invokevirtual 121, 3) := by decide +kernel
theorem dX2_unite_26 : decode cX2_unite 26 = .ok (.iload_n 1, 1) := by decide +kernel
theorem dX2_unite_27 : decode cX2_unite 27 = .ok (.istore_n 3, 1) := by decide +kernel
theorem dX2_unite_28 : decode cX2_unite 28 = .ok (.iload_n 3, 1) := by decide +kernel
theorem dX2_unite_29 : decode cX2_unite 29 = .ok (.aload_n 0, 1) := by decide +kernel
theorem dX2_unite_30 : decode cX2_unite 30 = .ok (.getfield 68, 3) := by decide +kernel
theorem dX2_unite_33 : decode cX2_unite 33 = .ok (.if_icmp .ge 58, 3) := by decide +kernel
theorem dX2_unite_36 : decode cX2_unite 36 = .ok (.aload_n 0, 1) := by decide +kernel
theorem dX2_unite_37 : decode cX2_unite 37 = .ok (.getfield 19, 3) := by decide +kernel
theorem dX2_unite_40 : decode cX2_unite 40 = .ok (.iload_n 3, 1) := by decide +kernel
theorem dX2_unite_41 : decode cX2_unite 41 = .ok (.aaload, 1) := by decide +kernel
theorem dX2_unite_42 : decode cX2_unite 42 = .ok (.astore 4, 2) := by decide +kernel
theorem dX2_unite_44 : decode cX2_unite 44 = .ok (.aload 4, 2) := by decide +kernel
theorem dX2_unite_46 : decode cX2_unite 46 = .ok (.aload 4, 2) := by decide +kernel
theorem dX2_unite_48 : decode cX2_unite 48 = .ok (.getfield 85, 3) := by decide +kernel
theorem dX2_unite_51 : decode cX2_unite 51 = .ok (.ifCond .ne 26, 3) := by decide +kernel
theorem dX2_unite_54 : decode cX2_unite 54 = .ok (.aload 4, 2) := by decide +kernel
theorem dX2_unite_56 : decode cX2_unite 56 = .ok (.getfield 72, 3) := by decide +kernel
theorem dX2_unite_59 : decode cX2_unite 59 = .ok (.ifCond .eq 22, 3) := by decide +kernel
theorem dX2_unite_62 : decode cX2_unite 62 = .ok (.aload 4, 2) := by decide +kernel
theorem dX2_unite_64 : decode cX2_unite 64 = .ok (.getfield 88, 3) := by decide +kernel
theorem dX2_unite_67 : decode cX2_unite 67 = .ok (.aload_n 2, 1) := by decide +kernel
theorem dX2_unite_68 : decode cX2_unite 68 = .ok (.getfield 120, 3) := by decide +kernel
theorem dX2_unite_71 : decode cX2_unite 71 = .ok (.invokevirtual 125, 3) := by decide +kernel
theorem dX2_unite_74 : decode cX2_unite 74 = .ok (.ifCond .eq 7, 3) := by decide +kernel
theorem dX2_unite_77 : decode cX2_unite 77 = .ok (.iconst 1, 1) := by decide +kernel
theorem dX2_unite_78 : decode cX2_unite 78 = .ok (.goto 4, 3) := by decide +kernel
theorem dX2_unite_81 : decode cX2_unite 81 = .ok (.iconst 0, 1) := by decide +kernel
theorem dX2_unite_82 : decode cX2_unite 82 = .ok (.putfield 85, 3) := by decide +kernel
theorem dX2_unite_85 : decode cX2_unite 85 = .ok (.iinc 3 1, 3) := by decide +kernel
theorem dX2_unite_88 : decode cX2_unite 88 = .ok (.goto (-60), 3) := by decide +kernel
theorem dX2_unite_91 : decode cX2_unite 91 = .ok (.iconst (-1), 1) := by decide +kernel
theorem dX2_unite_92 : decode cX2_unite 92 = .ok (.istore_n 3, 1) := by decide +kernel
theorem dX2_unite_93 : decode cX2_unite 93 = .ok (.iconst 0, 1) := by decide +kernel
theorem dX2_unite_94 : decode cX2_unite 94 = .ok (.istore 4, 2) := by decide +kernel
theorem dX2_unite_96 : decode cX2_unite 96 = .ok (.iload_n 1, 1) := by decide +kernel
theorem dX2_unite_97 : decode cX2_unite 97 = .ok (.istore 5, 2) := by decide +kernel
theorem dX2_unite_99 : decode cX2_unite 99 = .ok (.iload 5, 2) := by decide +kernel
theorem dX2_unite_101 : decode cX2_unite 101 = .ok (.aload_n 0, 1) := by decide +kernel
theorem dX2_unite_102 : decode cX2_unite 102 = .ok (.getfield 68, 3) := by decide +kernel
theorem dX2_unite_105 : decode cX2_unite 105 = .ok (.if_icmp .ge 118, 3) := by decide +kernel
theorem dX2_unite_108 : decode cX2_unite 108 = .ok (.aload_n 0, 1) := by decide +kernel
theorem dX2_unite_109 : decode cX2_unite 109 = .ok (.getfield 19, 3) := by decide +kernel
theorem dX2_unite_112 : decode cX2_unite 112 = .ok (.iload 5, 2) := by decide +kernel
theorem dX2_unite_114 : decode cX2_unite 114 = .ok (.aaload, 1) := by decide +kernel
theorem dX2_unite_115 : decode cX2_unite 115 = .ok (.astore 6, 2) := by decide +kernel
theorem dX2_unite_117 : decode cX2_unite 117 = .ok (.iconst 0, 1) := by decide +kernel
theorem dX2_unite_118 : decode cX2_unite 118 = .ok (.istore 7, 2) := by decide +kernel
theorem dX2_unite_120 : decode cX2_unite 120 = .ok (.iload 7, 2) := by decide +kernel
theorem dX2_unite_122 : decode cX2_unite 122 = .ok (.iconst 3, 1) := by decide +kernel
theorem dX2_unite_123 : decode cX2_unite 123 = .ok (.if_icmp .ge 94, 3) := by decide +kernel
theorem dX2_unite_126 : decode cX2_unite 126 = .ok (.aload 6, 2) := by decide +kernel
theorem dX2_unite_128 : decode cX2_unite 128 = .ok (.getfield 72, 3) := by decide +kernel
theorem dX2_unite_131 : decode cX2_unite 131 = .ok (.ifCond .eq 86, 3) := by decide +kernel
theorem dX2_unite_134 : decode cX2_unite 134 = .ok (.aload 6, 2) := by decide +kernel
theorem dX2_unite_136 : decode cX2_unite 136 = .ok (.getfield 88, 3) := by decide +kernel
theorem dX2_unite_139 : decode cX2_unite 139 = .ok (.aload_n 2, 1) := by decide +kernel
theorem dX2_unite_140 : decode cX2_unite 140 = .ok (.getfield 120, 3) := by decide +kernel
theorem dX2_unite_143 : decode cX2_unite 143 = .ok (.invokevirtual 125, 3) := by decide +kernel
theorem dX2_unite_146 : decode cX2_unite 146 = .ok (.ifCond .eq 71, 3) := by decide +kernel
theorem dX2_unite_149 : decode cX2_unite 149 = .ok (.aload_n 0, 1) := by decide +kernel
theorem dX2_unite_150 : decode cX2_unite 150 = .ok (.aload_n 2, 1) := by decide +kernel
theorem dX2_unite_151 : decode cX2_unite 151 = .ok (.getfield 120, 3) := by decide +kernel
theorem dX2_unite_154 : decode cX2_unite 154 = .ok (.aload 6, 2) := by decide +kernel
theorem dX2_unite_156 : decode cX2_unite 156 = .ok (.iload 7, 2) := by decide +kernel
theorem dX2_unite_158 : decode cX2_unite 158 = .ok (.iconst 1, 1) := by decide +kernel
theorem dX2_unite_159 : decode cX2_unite 159 = .ok (.iadd, 1) := by decide +kernel
theorem dX2_unite_160 : decode cX2_unite 160 = .ok (.invokevirtual 110, 3) := by decide +kernel
theorem dX2_unite_163 : decode cX2_unite 163 = .ok (.aload 6, 2) := by decide +kernel
theorem dX2_unite_165 : decode cX2_unite 165 = .ok (.iload 7, 2) := by decide +kernel
theorem dX2_unite_167 : decode cX2_unite 167 = .ok (.invokevirtual 110, 3) := by decide +kernel
theorem dX2_unite_170 : decode cX2_unite 170 = .ok (.invokevirtual 129, 3) := by decide +kernel
theorem dX2_unite_173 : decode cX2_unite 173 = .ok (.ifCond .eq 6, 3) := by decide +kernel
theorem dX2_unite_176 : decode cX2_unite 176 = .ok (.goto 35, 3) := by decide +kernel
theorem dX2_unite_179 : decode cX2_unite 179 = .ok (.aload_n 0, 1) := by decide +kernel
theorem dX2_unite_180 : decode cX2_unite 180 = .ok (.getfield 35, 3) := by decide +kernel
theorem dX2_unite_183 : decode cX2_unite 183 = .ok (.aload 6, 2) := by decide +kernel
theorem dX2_unite_185 : decode cX2_unite 185 = .ok (.iload 7, 2) := by decide +kernel
theorem dX2_unite_187 : decode cX2_unite 187 = .ok (.invokevirtual 110, 3) := by decide +kernel
theorem dX2_unite_190 : decode cX2_unite 190 = .ok (.aload 6, 2) := by decide +kernel
theorem dX2_unite_192 : decode cX2_unite 192 = .ok (.iload 7, 2) := by decide +kernel
theorem dX2_unite_194 : decode cX2_unite 194 = .ok (.iconst 1, 1) := by decide +kernel
theorem dX2_unite_195 : decode cX2_unite 195 = .ok (.iadd, 1) := by decide +kernel
theorem dX2_unite_196 : decode cX2_unite 196 = .ok (.invokevirtual 110, 3) := by decide +kernel
theorem dX2_unite_199 : decode cX2_unite 199 = .ok (.iastore, 1) := by decide +kernel
theorem dX2_unite_200 : decode cX2_unite 200 = .ok (.aload 6, 2) := by decide +kernel
theorem dX2_unite_202 : decode cX2_unite 202 = .ok (.iload 7, 2) := by decide +kernel
theorem dX2_unite_204 : decode cX2_unite 204 = .ok (.invokevirtual 110, 3) := by decide +kernel
theorem dX2_unite_207 : decode cX2_unite 207 = .ok (.istore_n 3, 1) := by decide +kernel
theorem dX2_unite_208 : decode cX2_unite 208 = .ok (.iinc 4 1, 3) := by decide +kernel
theorem dX2_unite_211 : decode cX2_unite 211 = .ok (.iinc 7 1, 3) := by decide +kernel
theorem dX2_unite_214 : decode cX2_unite 214 = .ok (.goto (-94), 3) := by decide +kernel
theorem dX2_unite_217 : decode cX2_unite 217 = .ok (.iinc 5 1, 3) := by decide +kernel
theorem dX2_unite_220 : decode cX2_unite 220 = .ok (.goto (-121), 3) := by decide +kernel
theorem dX2_unite_223 : decode cX2_unite 223 = .ok (.aload_n 2, 1) := by decide +kernel
theorem dX2_unite_224 : decode cX2_unite 224 = .ok (.iload 4, 2) := by decide +kernel
theorem dX2_unite_226 : decode cX2_unite 226 = .ok (.putfield 133, 3) := by decide +kernel
theorem dX2_unite_229 : decode cX2_unite 229 = .ok (.iload_n 3, 1) := by decide +kernel
theorem dX2_unite_230 : decode cX2_unite 230 = .ok (.istore 5, 2) := by decide +kernel
theorem dX2_unite_232 : decode cX2_unite 232 = .ok (.iconst 0, 1) := by decide +kernel
theorem dX2_unite_233 : decode cX2_unite 233 = .ok (.istore 6, 2) := by decide +kernel
theorem dX2_unite_235 : decode cX2_unite 235 = .ok (.iload 6, 2) := by decide +kernel
theorem dX2_unite_237 : decode cX2_unite 237 = .ok (.iload 4, 2) := by decide +kernel
theorem dX2_unite_239 : decode cX2_unite 239 = .ok (.if_icmp .ge 27, 3) := by decide +kernel
theorem dX2_unite_242 : decode cX2_unite 242 = .ok (.aload_n 2, 1) := by decide +kernel
theorem dX2_unite_243 : decode cX2_unite 243 = .ok (.getfield 136, 3) := by decide +kernel
theorem dX2_unite_246 : decode cX2_unite 246 = .ok (.iload 6, 2) := by decide +kernel
theorem dX2_unite_248 : decode cX2_unite 248 = .ok (.iload 5, 2) := by decide +kernel
theorem dX2_unite_250 : decode cX2_unite 250 = .ok (.iastore, 1) := by decide +kernel
theorem dX2_unite_251 : decode cX2_unite 251 = .ok (.aload_n 0, 1) := by decide +kernel
theorem dX2_unite_252 : decode cX2_unite 252 = .ok (.getfield 35, 3) := by decide +kernel
theorem dX2_unite_255 : decode cX2_unite 255 = .ok (.iload 5, 2) := by decide +kernel
theorem dX2_unite_257 : decode cX2_unite 257 = .ok (.iaload, 1) := by decide +kernel
theorem dX2_unite_258 : decode cX2_unite 258 = .ok (.istore 5, 2) := by decide +kernel
theorem dX2_unite_260 : decode cX2_unite 260 = .ok (.iinc 6 1, 3) := by decide +kernel
theorem dX2_unite_263 : decode cX2_unite 263 = .ok (.goto (-28), 3) := by decide +kernel
theorem dX2_unite_266 : decode cX2_unite 266 = .ok (.aload_n 2, 1) := by decide +kernel
theorem dX2_unite_267 : decode cX2_unite 267 = .ok (.aload_n 0, 1) := by decide +kernel
theorem dX2_unite_268 : decode cX2_unite 268 = .ok (.getfield 39, 3) := by decide +kernel
theorem dX2_unite_271 : decode cX2_unite 271 = .ok (.invokevirtual 139, 3) := by decide +kernel
theorem dX2_unite_274 : decode cX2_unite 274 = .ok (.aload_n 0, 1) := by decide +kernel
theorem dX2_unite_275 : decode cX2_unite 275 = .ok (.dup, 1) := by decide +kernel
theorem dX2_unite_276 : decode cX2_unite 276 = .ok (.getfield 117, 3) := by decide +kernel
theorem dX2_unite_279 : decode cX2_unite 279 = .ok (.iconst 1, 1) := by decide +kernel
theorem dX2_unite_280 : decode cX2_unite 280 = .ok (.iadd, 1) := by decide +kernel
theorem dX2_unite_281 : decode cX2_unite 281 = .ok (.putfield 117, 3) := by decide +kernel
theorem dX2_unite_284 : decode cX2_unite 284 = .ok (.return_, 1) := by decide +kernel
end
