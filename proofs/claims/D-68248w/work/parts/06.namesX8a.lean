section
set_option maxRecDepth 100000
/-! HullBuilderModel -/
set_option maxRecDepth 100000
def RX8 : String := "HullBuilderModel"
def TX8 : u_T := fun k => match k with
  | 0 => ("HullBuilderModel", "thrown", "I", false)
  | 1 => ("HullBuilderModel", "points", "I", false)
  | 2 => ("HullBuilderModel", "xs", "[I", true)
  | 3 => ("HullBuilderModel", "ys", "[I", true)
  | 4 => ("HullBuilderModel", "zs", "[I", true)
  | 5 => ("HullBuilderModel", "built", "Z", false)
  | 6 => ("HullBuilderModel", "builds", "I", false)
  | 7 => ("HullBuilderModel", "held", "I", false)
  | 8 => ("HullBuilderModel", "hx", "[J", true)
  | 9 => ("HullBuilderModel", "hy", "[J", true)
  | 10 => ("HullBuilderModel", "hz", "[J", true)
  | 11 => ("HullBuilderModel", "faces", "I", false)
  | 12 => ("HullBuilderModel", "nx", "[J", true)
  | 13 => ("HullBuilderModel", "ny", "[J", true)
  | 14 => ("HullBuilderModel", "nz", "[J", true)
  | 15 => ("HullBuilderModel", "offsets", "[J", true)
  | 16 => ("HullBuilderModel", "sizes", "[I", true)
  | 17 => ("HullBuilderModel", "corners", "[I", true)
  | 18 => ("HullBuilderModel", "order", "[I", true)
  | 19 => ("HullBuilderModel", "edges", "I", false)
  | 20 => ("HullBuilderModel", "ends", "[I", true)
  | 21 => ("HullBuilderModel", "lefts", "[I", true)
  | 22 => ("HullBuilderModel", "rights", "[I", true)
  | 23 => ("HullBuilderModel", "tx", "J", false)
  | 24 => ("HullBuilderModel", "ty", "J", false)
  | 25 => ("HullBuilderModel", "tz", "J", false)
  | _ => ("HullBuilderModel", "far", "[I", true)
def tyX8 : Nat → FieldType := fun k => match k with
  | 0 => .int
  | 1 => .int
  | 2 => .array .int
  | 3 => .array .int
  | 4 => .array .int
  | 5 => .boolean
  | 6 => .int
  | 7 => .int
  | 8 => .array .long
  | 9 => .array .long
  | 10 => .array .long
  | 11 => .int
  | 12 => .array .long
  | 13 => .array .long
  | 14 => .array .long
  | 15 => .array .long
  | 16 => .array .int
  | 17 => .array .int
  | 18 => .array .int
  | 19 => .int
  | 20 => .array .int
  | 21 => .array .int
  | 22 => .array .int
  | 23 => .long
  | 24 => .long
  | 25 => .long
  | _ => .array .int
abbrev wsX80 : List Cond := u_ws RX8 TX8 27
set_option maxRecDepth 100000 in
theorem nmX8 : ∀ a, a < 27 → ∀ b, b < 27 → a ≠ b → (TX8 a).2.1 ≠ (TX8 b).2.1 := by decide +kernel
set_option maxRecDepth 100000 in
theorem tyX8_ok : ∀ k, k < 27 → parseFieldDescriptor (TX8 k).2.2.1 = some (tyX8 k) := by decide +kernel
abbrev cX8_init : ByteArray := prog_9_method_1_code
def yX8_init : MethodName := ⟨RX8, "<init>", "()V"⟩
theorem dX8_init_0 : decode cX8_init 0 = .ok (.aload_n 0, 1) := by decide +kernel
theorem dX8_init_1 : decode cX8_init 1 = .ok (.invokespecial 1, 3) := by decide +kernel
theorem dX8_init_4 : decode cX8_init 4 = .ok (.aload_n 0, 1) := by decide +kernel
theorem dX8_init_5 : decode cX8_init 5 = .ok (.bipush 24, 2) := by decide +kernel
theorem dX8_init_7 : decode cX8_init 7 = .ok (.newarray .int, 2) := by decide +kernel
theorem dX8_init_9 : decode cX8_init 9 = .ok (.putfield 7, 3) := by decide +kernel
theorem dX8_init_12 : decode cX8_init 12 = .ok (.aload_n 0, 1) := by decide +kernel
theorem dX8_init_13 : decode cX8_init 13 = .ok (.bipush 24, 2) := by decide +kernel
theorem dX8_init_15 : decode cX8_init 15 = .ok (.newarray .int, 2) := by decide +kernel
theorem dX8_init_17 : decode cX8_init 17 = .ok (.putfield 13, 3) := by decide +kernel
theorem dX8_init_20 : decode cX8_init 20 = .ok (.aload_n 0, 1) := by decide +kernel
theorem dX8_init_21 : decode cX8_init 21 = .ok (.bipush 24, 2) := by decide +kernel
theorem dX8_init_23 : decode cX8_init 23 = .ok (.newarray .int, 2) := by decide +kernel
theorem dX8_init_25 : decode cX8_init 25 = .ok (.putfield 16, 3) := by decide +kernel
theorem dX8_init_28 : decode cX8_init 28 = .ok (.aload_n 0, 1) := by decide +kernel
theorem dX8_init_29 : decode cX8_init 29 = .ok (.bipush 24, 2) := by decide +kernel
theorem dX8_init_31 : decode cX8_init 31 = .ok (.newarray .long, 2) := by decide +kernel
theorem dX8_init_33 : decode cX8_init 33 = .ok (.putfield 19, 3) := by decide +kernel
theorem dX8_init_36 : decode cX8_init 36 = .ok (.aload_n 0, 1) := by decide +kernel
theorem dX8_init_37 : decode cX8_init 37 = .ok (.bipush 24, 2) := by decide +kernel
theorem dX8_init_39 : decode cX8_init 39 = .ok (.newarray .long, 2) := by decide +kernel
theorem dX8_init_41 : decode cX8_init 41 = .ok (.putfield 23, 3) := by decide +kernel
theorem dX8_init_44 : decode cX8_init 44 = .ok (.aload_n 0, 1) := by decide +kernel
theorem dX8_init_45 : decode cX8_init 45 = .ok (.bipush 24, 2) := by decide +kernel
theorem dX8_init_47 : decode cX8_init 47 = .ok (.newarray .long, 2) := by decide +kernel
theorem dX8_init_49 : decode cX8_init 49 = .ok (.putfield 26, 3) := by decide +kernel
theorem dX8_init_52 : decode cX8_init 52 = .ok (.aload_n 0, 1) := by decide +kernel
theorem dX8_init_53 : decode cX8_init 53 = .ok (.bipush 64, 2) := by decide +kernel
theorem dX8_init_55 : decode cX8_init 55 = .ok (.newarray .long, 2) := by decide +kernel
theorem dX8_init_57 : decode cX8_init 57 = .ok (.putfield 29, 3) := by decide +kernel
theorem dX8_init_60 : decode cX8_init 60 = .ok (.aload_n 0, 1) := by decide +kernel
theorem dX8_init_61 : decode cX8_init 61 = .ok (.bipush 64, 2) := by decide +kernel
theorem dX8_init_63 : decode cX8_init 63 = .ok (.newarray .long, 2) := by decide +kernel
theorem dX8_init_65 : decode cX8_init 65 = .ok (.putfield 32, 3) := by decide +kernel
theorem dX8_init_68 : decode cX8_init 68 = .ok (.aload_n 0, 1) := by decide +kernel
theorem dX8_init_69 : decode cX8_init 69 = .ok (.bipush 64, 2) := by decide +kernel
theorem dX8_init_71 : decode cX8_init 71 = .ok (.newarray .long, 2) := by decide +kernel
theorem dX8_init_73 : decode cX8_init 73 = .ok (.putfield 35, 3) := by decide +kernel
theorem dX8_init_76 : decode cX8_init 76 = .ok (.aload_n 0, 1) := by decide +kernel
theorem dX8_init_77 : decode cX8_init 77 = .ok (.bipush 64, 2) := by decide +kernel
theorem dX8_init_79 : decode cX8_init 79 = .ok (.newarray .long, 2) := by decide +kernel
theorem dX8_init_81 : decode cX8_init 81 = .ok (.putfield 38, 3) := by decide +kernel
theorem dX8_init_84 : decode cX8_init 84 = .ok (.aload_n 0, 1) := by decide +kernel
theorem dX8_init_85 : decode cX8_init 85 = .ok (.bipush 64, 2) := by decide +kernel
theorem dX8_init_87 : decode cX8_init 87 = .ok (.newarray .int, 2) := by decide +kernel
theorem dX8_init_89 : decode cX8_init 89 = .ok (.putfield 41, 3) := by decide +kernel
theorem dX8_init_92 : decode cX8_init 92 = .ok (.aload_n 0, 1) := by decide +kernel
theorem dX8_init_93 : decode cX8_init 93 = .ok (.sipush 1536, 3) := by decide +kernel
theorem dX8_init_96 : decode cX8_init 96 = .ok (.newarray .int, 2) := by decide +kernel
theorem dX8_init_98 : decode cX8_init 98 = .ok (.putfield 44, 3) := by decide +kernel
theorem dX8_init_101 : decode cX8_init 101 = .ok (.aload_n 0, 1) := by decide +kernel
theorem dX8_init_102 : decode cX8_init 102 = .ok (.bipush 64, 2) := by decide +kernel
theorem dX8_init_104 : decode cX8_init 104 = .ok (.newarray .int, 2) := by decide +kernel
theorem dX8_init_106 : decode cX8_init 106 = .ok (.putfield 47, 3) := by decide +kernel
theorem dX8_init_109 : decode cX8_init 109 = .ok (.aload_n 0, 1) := by decide +kernel
theorem dX8_init_110 : decode cX8_init 110 = .ok (.sipush 128, 3) := by decide +kernel
theorem dX8_init_113 : decode cX8_init 113 = .ok (.newarray .int, 2) := by decide +kernel
theorem dX8_init_115 : decode cX8_init 115 = .ok (.putfield 50, 3) := by decide +kernel
theorem dX8_init_118 : decode cX8_init 118 = .ok (.aload_n 0, 1) := by decide +kernel
theorem dX8_init_119 : decode cX8_init 119 = .ok (.sipush 128, 3) := by decide +kernel
theorem dX8_init_122 : decode cX8_init 122 = .ok (.newarray .int, 2) := by decide +kernel
theorem dX8_init_124 : decode cX8_init 124 = .ok (.putfield 53, 3) := by decide +kernel
theorem dX8_init_127 : decode cX8_init 127 = .ok (.aload_n 0, 1) := by decide +kernel
theorem dX8_init_128 : decode cX8_init 128 = .ok (.sipush 128, 3) := by decide +kernel
theorem dX8_init_131 : decode cX8_init 131 = .ok (.newarray .int, 2) := by decide +kernel
theorem dX8_init_133 : decode cX8_init 133 = .ok (.putfield 56, 3) := by decide +kernel
theorem dX8_init_136 : decode cX8_init 136 = .ok (.aload_n 0, 1) := by decide +kernel
theorem dX8_init_137 : decode cX8_init 137 = .ok (.bipush 24, 2) := by decide +kernel
theorem dX8_init_139 : decode cX8_init 139 = .ok (.newarray .int, 2) := by decide +kernel
theorem dX8_init_141 : decode cX8_init 141 = .ok (.putfield 59, 3) := by decide +kernel
theorem dX8_init_144 : decode cX8_init 144 = .ok (.return_, 1) := by decide +kernel
abbrev cX8_thrown : ByteArray := prog_9_method_2_code
def yX8_thrown : MethodName := ⟨RX8, "thrown", "()I"⟩
theorem dX8_thrown_0 : decode cX8_thrown 0 = .ok (.aload_n 0, 1) := by decide +kernel
theorem dX8_thrown_1 : decode cX8_thrown 1 = .ok (.getfield 62, 3) := by decide +kernel
theorem dX8_thrown_4 : decode cX8_thrown 4 = .ok (.ireturn, 1) := by decide +kernel
abbrev cX8_point : ByteArray := prog_9_method_6_code
def yX8_point : MethodName := ⟨RX8, "point", "(III)I"⟩
theorem dX8_point_0 : decode cX8_point 0 = .ok (.iload_n 1, 1) := by decide +kernel
theorem dX8_point_1 : decode cX8_point 1 = .ok (.sipush 512, 3) := by decide +kernel
theorem dX8_point_4 : decode cX8_point 4 = .ok (.invokestatic 69, 3) := by decide +kernel
theorem dX8_point_7 : decode cX8_point 7 = .ok (.ifCond .eq 37, 3) := by decide +kernel
theorem dX8_point_10 : decode cX8_point 10 = .ok (.iload_n 2, 1) := by decide +kernel
theorem dX8_point_11 : decode cX8_point 11 = .ok (.sipush 512, 3) := by decide +kernel
theorem dX8_point_14 : decode cX8_point 14 = .ok (.invokestatic 69, 3) := by decide +kernel
theorem dX8_point_17 : decode cX8_point 17 = .ok (.ifCond .eq 27, 3) := by decide +kernel
theorem dX8_point_20 : decode cX8_point 20 = .ok (.iload_n 3, 1) := by decide +kernel
theorem dX8_point_21 : decode cX8_point 21 = .ok (.sipush 512, 3) := by decide +kernel
theorem dX8_point_24 : decode cX8_point 24 = .ok (.invokestatic 69, 3) := by decide +kernel
theorem dX8_point_27 : decode cX8_point 27 = .ok (.ifCond .eq 17, 3) := by decide +kernel
theorem dX8_point_30 : decode cX8_point 30 = .ok (.aload_n 0, 1) := by decide +kernel
theorem dX8_point_31 : decode cX8_point 31 = .ok (.iload_n 1, 1) := by decide +kernel
theorem dX8_point_32 : decode cX8_point 32 = .ok (.iload_n 2, 1) := by decide +kernel
theorem dX8_point_33 : decode cX8_point 33 = .ok (.iload_n 3, 1) := by decide +kernel
theorem dX8_point_34 : decode cX8_point 34 = .ok (.invokevirtual 73, 3) := by decide +kernel
theorem dX8_point_37 : decode cX8_point 37 = .ok (.ifCond .ne 7, 3) := by decide +kernel
theorem dX8_point_40 : decode cX8_point 40 = .ok (.iconst 1, 1) := by decide +kernel
theorem dX8_point_41 : decode cX8_point 41 = .ok (.goto 4, 3) := by decide +kernel
theorem dX8_point_44 : decode cX8_point 44 = .ok (.iconst 0, 1) := by decide +kernel
theorem dX8_point_45 : decode cX8_point 45 = .ok (.istore 4, 2) := by decide +kernel
theorem dX8_point_47 : decode cX8_point 47 = .ok (.aload_n 0, 1) := by decide +kernel
theorem dX8_point_48 : decode cX8_point 48 = .ok (.iload 4, 2) := by decide +kernel
theorem dX8_point_50 : decode cX8_point 50 = .ok (.aload_n 0, 1) := by decide +kernel
theorem dX8_point_51 : decode cX8_point 51 = .ok (.getfield 66, 3) := by decide +kernel
theorem dX8_point_54 : decode cX8_point 54 = .ok (.bipush 24, 2) := by decide +kernel
theorem dX8_point_56 : decode cX8_point 56 = .ok (.if_icmp .ge 7, 3) := by decide +kernel
theorem dX8_point_59 : decode cX8_point 59 = .ok (.iconst 1, 1) := by decide +kernel
theorem dX8_point_60 : decode cX8_point 60 = .ok (.goto 4, 3) := by decide +kernel
theorem dX8_point_63 : decode cX8_point 63 = .ok (.iconst 0, 1) := by decide +kernel
theorem dX8_point_64 : decode cX8_point 64 = .ok (.invokevirtual 77, 3) := by decide +kernel
theorem dX8_point_67 : decode cX8_point 67 = .ok (.ifCond .ne 5, 3) := by decide +kernel
theorem dX8_point_70 : decode cX8_point 70 = .ok (.iconst 0, 1) := by decide +kernel
theorem dX8_point_71 : decode cX8_point 71 = .ok (.ireturn, 1) := by decide +kernel
theorem dX8_point_72 : decode cX8_point 72 = .ok (.aload_n 0, 1) := by decide +kernel
theorem dX8_point_73 : decode cX8_point 73 = .ok (.getfield 7, 3) := by decide +kernel
theorem dX8_point_76 : decode cX8_point 76 = .ok (.aload_n 0, 1) := by decide +kernel
theorem dX8_point_77 : decode cX8_point 77 = .ok (.getfield 66, 3) := by decide +kernel
theorem dX8_point_80 : decode cX8_point 80 = .ok (.iload_n 1, 1) := by decide +kernel
theorem dX8_point_81 : decode cX8_point 81 = .ok (.iastore, 1) := by decide +kernel
theorem dX8_point_82 : decode cX8_point 82 = .ok (.aload_n 0, 1) := by decide +kernel
theorem dX8_point_83 : decode cX8_point 83 = .ok (.getfield 13, 3) := by decide +kernel
theorem dX8_point_86 : decode cX8_point 86 = .ok (.aload_n 0, 1) := by decide +kernel
theorem dX8_point_87 : decode cX8_point 87 = .ok (.getfield 66, 3) := by decide +kernel
theorem dX8_point_90 : decode cX8_point 90 = .ok (.iload_n 2, 1) := by decide +kernel
theorem dX8_point_91 : decode cX8_point 91 = .ok (.iastore, 1) := by decide +kernel
theorem dX8_point_92 : decode cX8_point 92 = .ok (.aload_n 0, 1) := by decide +kernel
theorem dX8_point_93 : decode cX8_point 93 = .ok (.getfield 16, 3) := by decide +kernel
theorem dX8_point_96 : decode cX8_point 96 = .ok (.aload_n 0, 1) := by decide +kernel
theorem dX8_point_97 : decode cX8_point 97 = .ok (.getfield 66, 3) := by decide +kernel
theorem dX8_point_100 : decode cX8_point 100 = .ok (.iload_n 3, 1) := by decide +kernel
theorem dX8_point_101 : decode cX8_point 101 = .ok (.iastore, 1) := by decide +kernel
theorem dX8_point_102 : decode cX8_point 102 = .ok (.aload_n 0, 1) := by decide +kernel
theorem dX8_point_103 : decode cX8_point 103 = .ok (.dup, 1) := by decide +kernel
theorem dX8_point_104 : decode cX8_point 104 = .ok (.getfield 66, 3) := by decide +kernel
theorem dX8_point_107 : decode cX8_point 107 = .ok (.iconst 1, 1) := by decide +kernel
theorem dX8_point_108 : decode cX8_point 108 = .ok (.iadd, 1) := by decide +kernel
theorem dX8_point_109 : decode cX8_point 109 = .ok (.putfield 66, 3) := by decide +kernel
theorem dX8_point_112 : decode cX8_point 112 = .ok (.aload_n 0, 1) := by decide +kernel
theorem dX8_point_113 : decode cX8_point 113 = .ok (.getfield 66, 3) := by decide +kernel
theorem dX8_point_116 : decode cX8_point 116 = .ok (.iconst 1, 1) := by decide +kernel
theorem dX8_point_117 : decode cX8_point 117 = .ok (.isub, 1) := by decide +kernel
theorem dX8_point_118 : decode cX8_point 118 = .ok (.ireturn, 1) := by decide +kernel
abbrev cX8_within : ByteArray := prog_9_method_4_code
def yX8_within : MethodName := ⟨RX8, "within", "(II)Z"⟩
theorem dX8_within_0 : decode cX8_within 0 = .ok (.iload_n 0, 1) := by decide +kernel
theorem dX8_within_1 : decode cX8_within 1 = .ok (.iload_n 1, 1) := by decide +kernel
theorem dX8_within_2 : decode cX8_within 2 = .ok (.ineg, 1) := by decide +kernel
theorem dX8_within_3 : decode cX8_within 3 = .ok (.if_icmp .lt 12, 3) := by decide +kernel
theorem dX8_within_6 : decode cX8_within 6 = .ok (.iload_n 0, 1) := by decide +kernel
theorem dX8_within_7 : decode cX8_within 7 = .ok (.iload_n 1, 1) := by decide +kernel
theorem dX8_within_8 : decode cX8_within 8 = .ok (.if_icmp .gt 7, 3) := by decide +kernel
theorem dX8_within_11 : decode cX8_within 11 = .ok (.iconst 1, 1) := by decide +kernel
theorem dX8_within_12 : decode cX8_within 12 = .ok (.goto 4, 3) := by decide +kernel
theorem dX8_within_15 : decode cX8_within 15 = .ok (.iconst 0, 1) := by decide +kernel
theorem dX8_within_16 : decode cX8_within 16 = .ok (.ireturn, 1) := by decide +kernel
abbrev cX8_taken : ByteArray := prog_9_method_5_code
def yX8_taken : MethodName := ⟨RX8, "taken", "(III)Z"⟩
theorem dX8_taken_0 : decode cX8_taken 0 = .ok (.iconst 0, 1) := by decide +kernel
theorem dX8_taken_1 : decode cX8_taken 1 = .ok (.istore 4, 2) := by decide +kernel
theorem dX8_taken_3 : decode cX8_taken 3 = .ok (.iconst 0, 1) := by decide +kernel
theorem dX8_taken_4 : decode cX8_taken 4 = .ok (.istore 5, 2) := by decide +kernel
theorem dX8_taken_6 : decode cX8_taken 6 = .ok (.iload 5, 2) := by decide +kernel
theorem dX8_taken_8 : decode cX8_taken 8 = .ok (.aload_n 0, 1) := by decide +kernel
theorem dX8_taken_9 : decode cX8_taken 9 = .ok (.getfield 66, 3) := by decide +kernel
theorem dX8_taken_12 : decode cX8_taken 12 = .ok (.if_icmp .ge 54, 3) := by decide +kernel
theorem dX8_taken_15 : decode cX8_taken 15 = .ok (.iload 4, 2) := by decide +kernel
theorem dX8_taken_17 : decode cX8_taken 17 = .ok (.ifCond .ne 36, 3) := by decide +kernel
theorem dX8_taken_20 : decode cX8_taken 20 = .ok (.aload_n 0, 1) := by decide +kernel
theorem dX8_taken_21 : decode cX8_taken 21 = .ok (.getfield 7, 3) := by decide +kernel
theorem dX8_taken_24 : decode cX8_taken 24 = .ok (.iload 5, 2) := by decide +kernel
theorem dX8_taken_26 : decode cX8_taken 26 = .ok (.iaload, 1) := by decide +kernel
theorem dX8_taken_27 : decode cX8_taken 27 = .ok (.iload_n 1, 1) := by decide +kernel
theorem dX8_taken_28 : decode cX8_taken 28 = .ok (.if_icmp .ne 29, 3) := by decide +kernel
theorem dX8_taken_31 : decode cX8_taken 31 = .ok (.aload_n 0, 1) := by decide +kernel
theorem dX8_taken_32 : decode cX8_taken 32 = .ok (.getfield 13, 3) := by decide +kernel
theorem dX8_taken_35 : decode cX8_taken 35 = .ok (.iload 5, 2) := by decide +kernel
theorem dX8_taken_37 : decode cX8_taken 37 = .ok (.iaload, 1) := by decide +kernel
theorem dX8_taken_38 : decode cX8_taken 38 = .ok (.iload_n 2, 1) := by decide +kernel
theorem dX8_taken_39 : decode cX8_taken 39 = .ok (.if_icmp .ne 18, 3) := by decide +kernel
theorem dX8_taken_42 : decode cX8_taken 42 = .ok (.aload_n 0, 1) := by decide +kernel
theorem dX8_taken_43 : decode cX8_taken 43 = .ok (.getfield 16, 3) := by decide +kernel
theorem dX8_taken_46 : decode cX8_taken 46 = .ok (.iload 5, 2) := by decide +kernel
theorem dX8_taken_48 : decode cX8_taken 48 = .ok (.iaload, 1) := by decide +kernel
theorem dX8_taken_49 : decode cX8_taken 49 = .ok (.iload_n 3, 1) := by decide +kernel
theorem dX8_taken_50 : decode cX8_taken 50 = .ok (.if_icmp .ne 7, 3) := by decide +kernel
theorem dX8_taken_53 : decode cX8_taken 53 = .ok (.iconst 1, 1) := by decide +kernel
theorem dX8_taken_54 : decode cX8_taken 54 = .ok (.goto 4, 3) := by decide +kernel
theorem dX8_taken_57 : decode cX8_taken 57 = .ok (.iconst 0, 1) := by decide +kernel
theorem dX8_taken_58 : decode cX8_taken 58 = .ok (.istore 4, 2) := by decide +kernel
theorem dX8_taken_60 : decode cX8_taken 60 = .ok (.iinc 5 1, 3) := by decide +kernel
theorem dX8_taken_63 : decode cX8_taken 63 = .ok (.goto (-57), 3) := by decide +kernel
theorem dX8_taken_66 : decode cX8_taken 66 = .ok (.iload 4, 2) := by decide +kernel
theorem dX8_taken_68 : decode cX8_taken 68 = .ok (.ireturn, 1) := by decide +kernel
abbrev cX8_goes : ByteArray := prog_9_method_3_code
def yX8_goes : MethodName := ⟨RX8, "goes", "(ZZ)Z"⟩
theorem dX8_goes_0 : decode cX8_goes 0 = .ok (.aload_n 0, 1) := by decide +kernel
theorem dX8_goes_1 : decode cX8_goes 1 = .ok (.iload_n 1, 1) := by decide +kernel
theorem dX8_goes_2 : decode cX8_goes 2 = .ok (.ifCond .ne 7, 3) := by decide +kernel
theorem dX8_goes_5 : decode cX8_goes 5 = .ok (.iconst 1, 1) := by decide +kernel
theorem dX8_goes_6 : decode cX8_goes 6 = .ok (.goto 12, 3) := by decide +kernel
theorem dX8_goes_9 : decode cX8_goes 9 = .ok (.iload_n 2, 1) := by decide +kernel
theorem dX8_goes_10 : decode cX8_goes 10 = .ok (.ifCond .ne 7, 3) := by decide +kernel
theorem dX8_goes_13 : decode cX8_goes 13 = .ok (.iconst 2, 1) := by decide +kernel
theorem dX8_goes_14 : decode cX8_goes 14 = .ok (.goto 4, 3) := by decide +kernel
theorem dX8_goes_17 : decode cX8_goes 17 = .ok (.iconst 0, 1) := by decide +kernel
theorem dX8_goes_18 : decode cX8_goes 18 = .ok (.putfield 62, 3) := by decide +kernel
theorem dX8_goes_21 : decode cX8_goes 21 = .ok (.aload_n 0, 1) := by decide +kernel
theorem dX8_goes_22 : decode cX8_goes 22 = .ok (.getfield 62, 3) := by decide +kernel
theorem dX8_goes_25 : decode cX8_goes 25 = .ok (.ifCond .ne 7, 3) := by decide +kernel
theorem dX8_goes_28 : decode cX8_goes 28 = .ok (.iconst 1, 1) := by decide +kernel
theorem dX8_goes_29 : decode cX8_goes 29 = .ok (.goto 4, 3) := by decide +kernel
theorem dX8_goes_32 : decode cX8_goes 32 = .ok (.iconst 0, 1) := by decide +kernel
theorem dX8_goes_33 : decode cX8_goes 33 = .ok (.ireturn, 1) := by decide +kernel
abbrev cX8_take : ByteArray := prog_9_method_7_code
def yX8_take : MethodName := ⟨RX8, "take", "(I)I"⟩
theorem dX8_take_0 : decode cX8_take 0 = .ok (.aload_n 0, 1) := by decide +kernel
theorem dX8_take_1 : decode cX8_take 1 = .ok (.iload_n 1, 1) := by decide +kernel
theorem dX8_take_2 : decode cX8_take 2 = .ok (.ifCond .lt 15, 3) := by decide +kernel
theorem dX8_take_5 : decode cX8_take 5 = .ok (.iload_n 1, 1) := by decide +kernel
theorem dX8_take_6 : decode cX8_take 6 = .ok (.aload_n 0, 1) := by decide +kernel
theorem dX8_take_7 : decode cX8_take 7 = .ok (.getfield 66, 3) := by decide +kernel
theorem dX8_take_10 : decode cX8_take 10 = .ok (.if_icmp .ge 7, 3) := by decide +kernel
theorem dX8_take_13 : decode cX8_take 13 = .ok (.iconst 1, 1) := by decide +kernel
theorem dX8_take_14 : decode cX8_take 14 = .ok (.goto 4, 3) := by decide +kernel
theorem dX8_take_17 : decode cX8_take 17 = .ok (.iconst 0, 1) := by decide +kernel
theorem dX8_take_18 : decode cX8_take 18 = .ok (.iconst 1, 1) := by decide +kernel
theorem dX8_take_19 : decode cX8_take 19 = .ok (.invokevirtual 77, 3) := by decide +kernel
theorem dX8_take_22 : decode cX8_take 22 = .ok (.ifCond .ne 5, 3) := by decide +kernel
theorem dX8_take_25 : decode cX8_take 25 = .ok (.iconst 0, 1) := by decide +kernel
theorem dX8_take_26 : decode cX8_take 26 = .ok (.ireturn, 1) := by decide +kernel
theorem dX8_take_27 : decode cX8_take 27 = .ok (.iload_n 1, 1) := by decide +kernel
theorem dX8_take_28 : decode cX8_take 28 = .ok (.istore_n 2, 1) := by decide +kernel
theorem dX8_take_29 : decode cX8_take 29 = .ok (.iload_n 2, 1) := by decide +kernel
theorem dX8_take_30 : decode cX8_take 30 = .ok (.iconst 1, 1) := by decide +kernel
theorem dX8_take_31 : decode cX8_take 31 = .ok (.iadd, 1) := by decide +kernel
theorem dX8_take_32 : decode cX8_take 32 = .ok (.aload_n 0, 1) := by decide +kernel
theorem dX8_take_33 : decode cX8_take 33 = .ok (.getfield 66, 3) := by decide +kernel
theorem dX8_take_36 : decode cX8_take 36 = .ok (.if_icmp .ge 51, 3) := by decide +kernel
theorem dX8_take_39 : decode cX8_take 39 = .ok (.aload_n 0, 1) := by decide +kernel
theorem dX8_take_40 : decode cX8_take 40 = .ok (.getfield 7, 3) := by decide +kernel
theorem dX8_take_43 : decode cX8_take 43 = .ok (.iload_n 2, 1) := by decide +kernel
theorem dX8_take_44 : decode cX8_take 44 = .ok (.aload_n 0, 1) := by decide +kernel
theorem dX8_take_45 : decode cX8_take 45 = .ok (.getfield 7, 3) := by decide +kernel
theorem dX8_take_48 : decode cX8_take 48 = .ok (.iload_n 2, 1) := by decide +kernel
theorem dX8_take_49 : decode cX8_take 49 = .ok (.iconst 1, 1) := by decide +kernel
theorem dX8_take_50 : decode cX8_take 50 = .ok (.iadd, 1) := by decide +kernel
theorem dX8_take_51 : decode cX8_take 51 = .ok (.iaload, 1) := by decide +kernel
theorem dX8_take_52 : decode cX8_take 52 = .ok (.iastore, 1) := by decide +kernel
theorem dX8_take_53 : decode cX8_take 53 = .ok (.aload_n 0, 1) := by decide +kernel
theorem dX8_take_54 : decode cX8_take 54 = .ok (.getfield 13, 3) := by decide +kernel
theorem dX8_take_57 : decode cX8_take 57 = .ok (.iload_n 2, 1) := by decide +kernel
theorem dX8_take_58 : decode cX8_take 58 = .ok (.aload_n 0, 1) := by decide +kernel
theorem dX8_take_59 : decode cX8_take 59 = .ok (.getfield 13, 3) := by decide +kernel
theorem dX8_take_62 : decode cX8_take 62 = .ok (.iload_n 2, 1) := by decide +kernel
theorem dX8_take_63 : decode cX8_take 63 = .ok (.iconst 1, 1) := by decide +kernel
theorem dX8_take_64 : decode cX8_take 64 = .ok (.iadd, 1) := by decide +kernel
theorem dX8_take_65 : decode cX8_take 65 = .ok (.iaload, 1) := by decide +kernel
theorem dX8_take_66 : decode cX8_take 66 = .ok (.iastore, 1) := by decide +kernel
theorem dX8_take_67 : decode cX8_take 67 = .ok (.aload_n 0, 1) := by decide +kernel
theorem dX8_take_68 : decode cX8_take 68 = .ok (.getfield 16, 3) := by decide +kernel
theorem dX8_take_71 : decode cX8_take 71 = .ok (.iload_n 2, 1) := by decide +kernel
theorem dX8_take_72 : decode cX8_take 72 = .ok (.aload_n 0, 1) := by decide +kernel
theorem dX8_take_73 : decode cX8_take 73 = .ok (.getfield 16, 3) := by decide +kernel
theorem dX8_take_76 : decode cX8_take 76 = .ok (.iload_n 2, 1) := by decide +kernel
theorem dX8_take_77 : decode cX8_take 77 = .ok (.iconst 1, 1) := by decide +kernel
theorem dX8_take_78 : decode cX8_take 78 = .ok (.iadd, 1) := by decide +kernel
theorem dX8_take_79 : decode cX8_take 79 = .ok (.iaload, 1) := by decide +kernel
theorem dX8_take_80 : decode cX8_take 80 = .ok (.iastore, 1) := by decide +kernel
theorem dX8_take_81 : decode cX8_take 81 = .ok (.iinc 2 1, 3) := by decide +kernel
theorem dX8_take_84 : decode cX8_take 84 = .ok (.goto (-55), 3) := by decide +kernel
theorem dX8_take_87 : decode cX8_take 87 = .ok (.aload_n 0, 1) := by decide +kernel
theorem dX8_take_88 : decode cX8_take 88 = .ok (.dup, 1) := by decide +kernel
theorem dX8_take_89 : decode cX8_take 89 = .ok (.getfield 66, 3) := by decide +kernel
theorem dX8_take_92 : decode cX8_take 92 = .ok (.iconst 1, 1) := by decide +kernel
theorem dX8_take_93 : decode cX8_take 93 = .ok (.isub, 1) := by decide +kernel
theorem dX8_take_94 : decode cX8_take 94 = .ok (.putfield 66, 3) := by decide +kernel
theorem dX8_take_97 : decode cX8_take 97 = .ok (.aload_n 0, 1) := by decide +kernel
theorem dX8_take_98 : decode cX8_take 98 = .ok (.getfield 66, 3) := by decide +kernel
theorem dX8_take_101 : decode cX8_take 101 = .ok (.ireturn, 1) := by decide +kernel
abbrev cX8_build : ByteArray := prog_9_method_24_code
def yX8_build : MethodName := ⟨RX8, "build", "()I"⟩
theorem dX8_build_0 : decode cX8_build 0 = .ok (.aload_n 0, 1) := by decide +kernel
theorem dX8_build_1 : decode cX8_build 1 = .ok (.aload_n 0, 1) := by decide +kernel
theorem dX8_build_2 : decode cX8_build 2 = .ok (.invokevirtual 142, 3) := by decide +kernel
theorem dX8_build_5 : decode cX8_build 5 = .ok (.iconst 1, 1) := by decide +kernel
theorem dX8_build_6 : decode cX8_build 6 = .ok (.invokevirtual 77, 3) := by decide +kernel
theorem dX8_build_9 : decode cX8_build 9 = .ok (.ifCond .ne 5, 3) := by decide +kernel
theorem dX8_build_12 : decode cX8_build 12 = .ok (.iconst 0, 1) := by decide +kernel
theorem dX8_build_13 : decode cX8_build 13 = .ok (.ireturn, 1) := by decide +kernel
theorem dX8_build_14 : decode cX8_build 14 = .ok (.aload_n 0, 1) := by decide +kernel
theorem dX8_build_15 : decode cX8_build 15 = .ok (.aload_n 0, 1) := by decide +kernel
theorem dX8_build_16 : decode cX8_build 16 = .ok (.getfield 66, 3) := by decide +kernel
theorem dX8_build_19 : decode cX8_build 19 = .ok (.putfield 98, 3) := by decide +kernel
theorem dX8_build_22 : decode cX8_build 22 = .ok (.iconst 0, 1) := by decide +kernel
theorem dX8_build_23 : decode cX8_build 23 = .ok (.istore_n 1, 1) := by decide +kernel
theorem dX8_build_24 : decode cX8_build 24 = .ok (.iload_n 1, 1) := by decide +kernel
theorem dX8_build_25 : decode cX8_build 25 = .ok (.aload_n 0, 1) := by decide +kernel
theorem dX8_build_26 : decode cX8_build 26 = .ok (.getfield 66, 3) := by decide +kernel
theorem dX8_build_29 : decode cX8_build 29 = .ok (.if_icmp .ge 48, 3) := by decide +kernel
theorem dX8_build_32 : decode cX8_build 32 = .ok (.aload_n 0, 1) := by decide +kernel
theorem dX8_build_33 : decode cX8_build 33 = .ok (.getfield 19, 3) := by decide +kernel
theorem dX8_build_36 : decode cX8_build 36 = .ok (.iload_n 1, 1) := by decide +kernel
theorem dX8_build_37 : decode cX8_build 37 = .ok (.aload_n 0, 1) := by decide +kernel
theorem dX8_build_38 : decode cX8_build 38 = .ok (.getfield 7, 3) := by decide +kernel
theorem dX8_build_41 : decode cX8_build 41 = .ok (.iload_n 1, 1) := by decide +kernel
theorem dX8_build_42 : decode cX8_build 42 = .ok (.iaload, 1) := by decide +kernel
theorem dX8_build_43 : decode cX8_build 43 = .ok (.i2l, 1) := by decide +kernel
theorem dX8_build_44 : decode cX8_build 44 = .ok (.lastore, 1) := by decide +kernel
theorem dX8_build_45 : decode cX8_build 45 = .ok (.aload_n 0, 1) := by decide +kernel
theorem dX8_build_46 : decode cX8_build 46 = .ok (.getfield 23, 3) := by decide +kernel
theorem dX8_build_49 : decode cX8_build 49 = .ok (.iload_n 1, 1) := by decide +kernel
theorem dX8_build_50 : decode cX8_build 50 = .ok (.aload_n 0, 1) := by decide +kernel
theorem dX8_build_51 : decode cX8_build 51 = .ok (.getfield 13, 3) := by decide +kernel
theorem dX8_build_54 : decode cX8_build 54 = .ok (.iload_n 1, 1) := by decide +kernel
theorem dX8_build_55 : decode cX8_build 55 = .ok (.iaload, 1) := by decide +kernel
theorem dX8_build_56 : decode cX8_build 56 = .ok (.i2l, 1) := by decide +kernel
theorem dX8_build_57 : decode cX8_build 57 = .ok (.lastore, 1) := by decide +kernel
theorem dX8_build_58 : decode cX8_build 58 = .ok (.aload_n 0, 1) := by decide +kernel
theorem dX8_build_59 : decode cX8_build 59 = .ok (.getfield 26, 3) := by decide +kernel
theorem dX8_build_62 : decode cX8_build 62 = .ok (.iload_n 1, 1) := by decide +kernel
theorem dX8_build_63 : decode cX8_build 63 = .ok (.aload_n 0, 1) := by decide +kernel
theorem dX8_build_64 : decode cX8_build 64 = .ok (.getfield 16, 3) := by decide +kernel
theorem dX8_build_67 : decode cX8_build 67 = .ok (.iload_n 1, 1) := by decide +kernel
theorem dX8_build_68 : decode cX8_build 68 = .ok (.iaload, 1) := by decide +kernel
theorem dX8_build_69 : decode cX8_build 69 = .ok (.i2l, 1) := by decide +kernel
theorem dX8_build_70 : decode cX8_build 70 = .ok (.lastore, 1) := by decide +kernel
theorem dX8_build_71 : decode cX8_build 71 = .ok (.iinc 1 1, 3) := by decide +kernel
theorem dX8_build_74 : decode cX8_build 74 = .ok (.goto (-50), 3) := by decide +kernel
theorem dX8_build_77 : decode cX8_build 77 = .ok (.aload_n 0, 1) := by decide +kernel
theorem dX8_build_78 : decode cX8_build 78 = .ok (.iconst 0, 1) := by decide +kernel
theorem dX8_build_79 : decode cX8_build 79 = .ok (.putfield 91, 3) := by decide +kernel
theorem dX8_build_82 : decode cX8_build 82 = .ok (.iconst 0, 1) := by decide +kernel
theorem dX8_build_83 : decode cX8_build 83 = .ok (.istore_n 1, 1) := by decide +kernel
theorem dX8_build_84 : decode cX8_build 84 = .ok (.iload_n 1, 1) := by decide +kernel
theorem dX8_build_85 : decode cX8_build 85 = .ok (.aload_n 0, 1) := by decide +kernel
theorem dX8_build_86 : decode cX8_build 86 = .ok (.getfield 98, 3) := by decide +kernel
theorem dX8_build_89 : decode cX8_build 89 = .ok (.if_icmp .ge 54, 3) := by decide +kernel
theorem dX8_build_92 : decode cX8_build 92 = .ok (.iload_n 1, 1) := by decide +kernel
theorem dX8_build_93 : decode cX8_build 93 = .ok (.iconst 1, 1) := by decide +kernel
theorem dX8_build_94 : decode cX8_build 94 = .ok (.iadd, 1) := by decide +kernel
theorem dX8_build_95 : decode cX8_build 95 = .ok (.istore_n 2, 1) := by decide +kernel
theorem dX8_build_96 : decode cX8_build 96 = .ok (.iload_n 2, 1) := by decide +kernel
theorem dX8_build_97 : decode cX8_build 97 = .ok (.aload_n 0, 1) := by decide +kernel
theorem dX8_build_98 : decode cX8_build 98 = .ok (.getfield 98, 3) := by decide +kernel
theorem dX8_build_101 : decode cX8_build 101 = .ok (.if_icmp .ge 36, 3) := by decide +kernel
theorem dX8_build_104 : decode cX8_build 104 = .ok (.iload_n 2, 1) := by decide +kernel
theorem dX8_build_105 : decode cX8_build 105 = .ok (.iconst 1, 1) := by decide +kernel
theorem dX8_build_106 : decode cX8_build 106 = .ok (.iadd, 1) := by decide +kernel
theorem dX8_build_107 : decode cX8_build 107 = .ok (.istore_n 3, 1) := by decide +kernel
theorem dX8_build_108 : decode cX8_build 108 = .ok (.iload_n 3, 1) := by decide +kernel
theorem dX8_build_109 : decode cX8_build 109 = .ok (.aload_n 0, 1) := by decide +kernel
theorem dX8_build_110 : decode cX8_build 110 = .ok (.getfield 98, 3) := by decide +kernel
theorem dX8_build_113 : decode cX8_build 113 = .ok (.if_icmp .ge 18, 3) := by decide +kernel
theorem dX8_build_116 : decode cX8_build 116 = .ok (.aload_n 0, 1) := by decide +kernel
theorem dX8_build_117 : decode cX8_build 117 = .ok (.iload_n 1, 1) := by decide +kernel
theorem dX8_build_118 : decode cX8_build 118 = .ok (.iload_n 2, 1) := by decide +kernel
theorem dX8_build_119 : decode cX8_build 119 = .ok (.iload_n 3, 1) := by decide +kernel
theorem dX8_build_120 : decode cX8_build 120 = .ok (.invokevirtual 146, 3) := by decide +kernel
theorem dX8_build_123 : decode cX8_build 123 = .ok (.istore 4, 2) := by decide +kernel
theorem dX8_build_125 : decode cX8_build 125 = .ok (.iinc 3 1, 3) := by decide +kernel
theorem dX8_build_128 : decode cX8_build 128 = .ok (.goto (-20), 3) := by decide +kernel
theorem dX8_build_131 : decode cX8_build 131 = .ok (.iinc 2 1, 3) := by decide +kernel
theorem dX8_build_134 : decode cX8_build 134 = .ok (.goto (-38), 3) := by decide +kernel
theorem dX8_build_137 : decode cX8_build 137 = .ok (.iinc 1 1, 3) := by decide +kernel
theorem dX8_build_140 : decode cX8_build 140 = .ok (.goto (-56), 3) := by decide +kernel
theorem dX8_build_143 : decode cX8_build 143 = .ok (.iconst 0, 1) := by decide +kernel
theorem dX8_build_144 : decode cX8_build 144 = .ok (.istore_n 1, 1) := by decide +kernel
theorem dX8_build_145 : decode cX8_build 145 = .ok (.iload_n 1, 1) := by decide +kernel
theorem dX8_build_146 : decode cX8_build 146 = .ok (.aload_n 0, 1) := by decide +kernel
theorem dX8_build_147 : decode cX8_build 147 = .ok (.getfield 91, 3) := by decide +kernel
theorem dX8_build_150 : decode cX8_build 150 = .ok (.if_icmp .ge 14, 3) := by decide +kernel
theorem dX8_build_153 : decode cX8_build 153 = .ok (.aload_n 0, 1) := by decide +kernel
theorem dX8_build_154 : decode cX8_build 154 = .ok (.iload_n 1, 1) := by decide +kernel
theorem dX8_build_155 : decode cX8_build 155 = .ok (.invokevirtual 149, 3) := by decide +kernel
theorem dX8_build_158 : decode cX8_build 158 = .ok (.iinc 1 1, 3) := by decide +kernel
theorem dX8_build_161 : decode cX8_build 161 = .ok (.goto (-16), 3) := by decide +kernel
theorem dX8_build_164 : decode cX8_build 164 = .ok (.aload_n 0, 1) := by decide +kernel
theorem dX8_build_165 : decode cX8_build 165 = .ok (.invokevirtual 153, 3) := by decide +kernel
theorem dX8_build_168 : decode cX8_build 168 = .ok (.aload_n 0, 1) := by decide +kernel
theorem dX8_build_169 : decode cX8_build 169 = .ok (.invokevirtual 156, 3) := by decide +kernel
theorem dX8_build_172 : decode cX8_build 172 = .ok (.aload_n 0, 1) := by decide +kernel
theorem dX8_build_173 : decode cX8_build 173 = .ok (.iconst 1, 1) := by decide +kernel
theorem dX8_build_174 : decode cX8_build 174 = .ok (.putfield 159, 3) := by decide +kernel
theorem dX8_build_177 : decode cX8_build 177 = .ok (.aload_n 0, 1) := by decide +kernel
theorem dX8_build_178 : decode cX8_build 178 = .ok (.dup, 1) := by decide +kernel
theorem dX8_build_179 : decode cX8_build 179 = .ok (.getfield 163, 3) := by decide +kernel
theorem dX8_build_182 : decode cX8_build 182 = .ok (.iconst 1, 1) := by decide +kernel
theorem dX8_build_183 : decode cX8_build 183 = .ok (.iadd, 1) := by decide +kernel
theorem dX8_build_184 : decode cX8_build 184 = .ok (.putfield 163, 3) := by decide +kernel
theorem dX8_build_187 : decode cX8_build 187 = .ok (.aload_n 0, 1) := by decide +kernel
theorem dX8_build_188 : decode cX8_build 188 = .ok (.getfield 91, 3) := by decide +kernel
theorem dX8_build_191 : decode cX8_build 191 = .ok (.ireturn, 1) := by decide +kernel
abbrev cX8_solid : ByteArray := prog_9_method_22_code
def yX8_solid : MethodName := ⟨RX8, "solid", "()Z"⟩
theorem dX8_solid_0 : decode cX8_solid 0 = .ok (.iconst 0, 1) := by decide +kernel
theorem dX8_solid_1 : decode cX8_solid 1 = .ok (.istore_n 1, 1) := by decide +kernel
theorem dX8_solid_2 : decode cX8_solid 2 = .ok (.iconst 0, 1) := by decide +kernel
theorem dX8_solid_3 : decode cX8_solid 3 = .ok (.istore_n 2, 1) := by decide +kernel
theorem dX8_solid_4 : decode cX8_solid 4 = .ok (.iload_n 2, 1) := by decide +kernel
theorem dX8_solid_5 : decode cX8_solid 5 = .ok (.aload_n 0, 1) := by decide +kernel
theorem dX8_solid_6 : decode cX8_solid 6 = .ok (.getfield 66, 3) := by decide +kernel
theorem dX8_solid_9 : decode cX8_solid 9 = .ok (.if_icmp .ge 93, 3) := by decide +kernel
theorem dX8_solid_12 : decode cX8_solid 12 = .ok (.iload_n 2, 1) := by decide +kernel
theorem dX8_solid_13 : decode cX8_solid 13 = .ok (.iconst 1, 1) := by decide +kernel
theorem dX8_solid_14 : decode cX8_solid 14 = .ok (.iadd, 1) := by decide +kernel
theorem dX8_solid_15 : decode cX8_solid 15 = .ok (.istore_n 3, 1) := by decide +kernel
theorem dX8_solid_16 : decode cX8_solid 16 = .ok (.iload_n 3, 1) := by decide +kernel
theorem dX8_solid_17 : decode cX8_solid 17 = .ok (.aload_n 0, 1) := by decide +kernel
theorem dX8_solid_18 : decode cX8_solid 18 = .ok (.getfield 66, 3) := by decide +kernel
theorem dX8_solid_21 : decode cX8_solid 21 = .ok (.if_icmp .ge 75, 3) := by decide +kernel
theorem dX8_solid_24 : decode cX8_solid 24 = .ok (.iload_n 3, 1) := by decide +kernel
theorem dX8_solid_25 : decode cX8_solid 25 = .ok (.iconst 1, 1) := by decide +kernel
theorem dX8_solid_26 : decode cX8_solid 26 = .ok (.iadd, 1) := by decide +kernel
theorem dX8_solid_27 : decode cX8_solid 27 = .ok (.istore 4, 2) := by decide +kernel
theorem dX8_solid_29 : decode cX8_solid 29 = .ok (.iload 4, 2) := by decide +kernel
theorem dX8_solid_31 : decode cX8_solid 31 = .ok (.aload_n 0, 1) := by decide +kernel
theorem dX8_solid_32 : decode cX8_solid 32 = .ok (.getfield 66, 3) := by decide +kernel
theorem dX8_solid_35 : decode cX8_solid 35 = .ok (.if_icmp .ge 55, 3) := by decide +kernel
theorem dX8_solid_38 : decode cX8_solid 38 = .ok (.iload 4, 2) := by decide +kernel
theorem dX8_solid_40 : decode cX8_solid 40 = .ok (.iconst 1, 1) := by decide +kernel
theorem dX8_solid_41 : decode cX8_solid 41 = .ok (.iadd, 1) := by decide +kernel
theorem dX8_solid_42 : decode cX8_solid 42 = .ok (.istore 5, 2) := by decide +kernel
theorem dX8_solid_44 : decode cX8_solid 44 = .ok (.iload 5, 2) := by decide +kernel
theorem dX8_solid_46 : decode cX8_solid 46 = .ok (.aload_n 0, 1) := by decide +kernel
theorem dX8_solid_47 : decode cX8_solid 47 = .ok (.getfield 66, 3) := by decide +kernel
theorem dX8_solid_50 : decode cX8_solid 50 = .ok (.if_icmp .ge 34, 3) := by decide +kernel
theorem dX8_solid_53 : decode cX8_solid 53 = .ok (.iload_n 1, 1) := by decide +kernel
theorem dX8_solid_54 : decode cX8_solid 54 = .ok (.ifCond .ne 30, 3) := by decide +kernel
theorem dX8_solid_57 : decode cX8_solid 57 = .ok (.aload_n 0, 1) := by decide +kernel
theorem dX8_solid_58 : decode cX8_solid 58 = .ok (.iload_n 2, 1) := by decide +kernel
theorem dX8_solid_59 : decode cX8_solid 59 = .ok (.iload_n 3, 1) := by decide +kernel
theorem dX8_solid_60 : decode cX8_solid 60 = .ok (.iload 4, 2) := by decide +kernel
theorem dX8_solid_62 : decode cX8_solid 62 = .ok (.iload 5, 2) := by decide +kernel
theorem dX8_solid_64 : decode cX8_solid 64 = .ok (.invokevirtual 138, 3) := by decide +kernel
theorem dX8_solid_67 : decode cX8_solid 67 = .ok (.lconst 0, 1) := by decide +kernel
theorem dX8_solid_68 : decode cX8_solid 68 = .ok (.lcmp, 1) := by decide +kernel
theorem dX8_solid_69 : decode cX8_solid 69 = .ok (.ifCond .eq 7, 3) := by decide +kernel
theorem dX8_solid_72 : decode cX8_solid 72 = .ok (.iconst 1, 1) := by decide +kernel
theorem dX8_solid_73 : decode cX8_solid 73 = .ok (.goto 4, 3) := by decide +kernel
theorem dX8_solid_76 : decode cX8_solid 76 = .ok (.iconst 0, 1) := by decide +kernel
theorem dX8_solid_77 : decode cX8_solid 77 = .ok (.istore_n 1, 1) := by decide +kernel
theorem dX8_solid_78 : decode cX8_solid 78 = .ok (.iinc 5 1, 3) := by decide +kernel
theorem dX8_solid_81 : decode cX8_solid 81 = .ok (.goto (-37), 3) := by decide +kernel
theorem dX8_solid_84 : decode cX8_solid 84 = .ok (.iinc 4 1, 3) := by decide +kernel
theorem dX8_solid_87 : decode cX8_solid 87 = .ok (.goto (-58), 3) := by decide +kernel
theorem dX8_solid_90 : decode cX8_solid 90 = .ok (.iinc 3 1, 3) := by decide +kernel
theorem dX8_solid_93 : decode cX8_solid 93 = .ok (.goto (-77), 3) := by decide +kernel
theorem dX8_solid_96 : decode cX8_solid 96 = .ok (.iinc 2 1, 3) := by decide +kernel
theorem dX8_solid_99 : decode cX8_solid 99 = .ok (.goto (-95), 3) := by decide +kernel
theorem dX8_solid_102 : decode cX8_solid 102 = .ok (.iload_n 1, 1) := by decide +kernel
theorem dX8_solid_103 : decode cX8_solid 103 = .ok (.ireturn, 1) := by decide +kernel
abbrev cX8_volumeOf : ByteArray := prog_9_method_23_code
def yX8_volumeOf : MethodName := ⟨RX8, "volumeOf", "(IIII)J"⟩
theorem dX8_volumeOf_0 : decode cX8_volumeOf 0 = .ok (.aload_n 0, 1) := by decide +kernel
theorem dX8_volumeOf_1 : decode cX8_volumeOf 1 = .ok (.getfield 7, 3) := by decide +kernel
theorem dX8_volumeOf_4 : decode cX8_volumeOf 4 = .ok (.iload_n 2, 1) := by decide +kernel
theorem dX8_volumeOf_5 : decode cX8_volumeOf 5 = .ok (.iaload, 1) := by decide +kernel
theorem dX8_volumeOf_6 : decode cX8_volumeOf 6 = .ok (.aload_n 0, 1) := by decide +kernel
theorem dX8_volumeOf_7 : decode cX8_volumeOf 7 = .ok (.getfield 7, 3) := by decide +kernel
theorem dX8_volumeOf_10 : decode cX8_volumeOf 10 = .ok (.iload_n 1, 1) := by decide +kernel
theorem dX8_volumeOf_11 : decode cX8_volumeOf 11 = .ok (.iaload, 1) := by decide +kernel
theorem dX8_volumeOf_12 : decode cX8_volumeOf 12 = .ok (.isub, 1) := by decide +kernel
theorem dX8_volumeOf_13 : decode cX8_volumeOf 13 = .ok (.i2l, 1) := by decide +kernel
theorem dX8_volumeOf_14 : decode cX8_volumeOf 14 = .ok (.lstore 5, 2) := by decide +kernel
theorem dX8_volumeOf_16 : decode cX8_volumeOf 16 = .ok (.aload_n 0, 1) := by decide +kernel
theorem dX8_volumeOf_17 : decode cX8_volumeOf 17 = .ok (.getfield 13, 3) := by decide +kernel
theorem dX8_volumeOf_20 : decode cX8_volumeOf 20 = .ok (.iload_n 2, 1) := by decide +kernel
theorem dX8_volumeOf_21 : decode cX8_volumeOf 21 = .ok (.iaload, 1) := by decide +kernel
theorem dX8_volumeOf_22 : decode cX8_volumeOf 22 = .ok (.aload_n 0, 1) := by decide +kernel
theorem dX8_volumeOf_23 : decode cX8_volumeOf 23 = .ok (.getfield 13, 3) := by decide +kernel
theorem dX8_volumeOf_26 : decode cX8_volumeOf 26 = .ok (.iload_n 1, 1) := by decide +kernel
theorem dX8_volumeOf_27 : decode cX8_volumeOf 27 = .ok (.iaload, 1) := by decide +kernel
theorem dX8_volumeOf_28 : decode cX8_volumeOf 28 = .ok (.isub, 1) := by decide +kernel
theorem dX8_volumeOf_29 : decode cX8_volumeOf 29 = .ok (.i2l, 1) := by decide +kernel
theorem dX8_volumeOf_30 : decode cX8_volumeOf 30 = .ok (.lstore 7, 2) := by decide +kernel
theorem dX8_volumeOf_32 : decode cX8_volumeOf 32 = .ok (.aload_n 0, 1) := by decide +kernel
theorem dX8_volumeOf_33 : decode cX8_volumeOf 33 = .ok (.getfield 16, 3) := by decide +kernel
theorem dX8_volumeOf_36 : decode cX8_volumeOf 36 = .ok (.iload_n 2, 1) := by decide +kernel
theorem dX8_volumeOf_37 : decode cX8_volumeOf 37 = .ok (.iaload, 1) := by decide +kernel
theorem dX8_volumeOf_38 : decode cX8_volumeOf 38 = .ok (.aload_n 0, 1) := by decide +kernel
theorem dX8_volumeOf_39 : decode cX8_volumeOf 39 = .ok (.getfield 16, 3) := by decide +kernel
theorem dX8_volumeOf_42 : decode cX8_volumeOf 42 = .ok (.iload_n 1, 1) := by decide +kernel
theorem dX8_volumeOf_43 : decode cX8_volumeOf 43 = .ok (.iaload, 1) := by decide +kernel
theorem dX8_volumeOf_44 : decode cX8_volumeOf 44 = .ok (.isub, 1) := by decide +kernel
theorem dX8_volumeOf_45 : decode cX8_volumeOf 45 = .ok (.i2l, 1) := by decide +kernel
theorem dX8_volumeOf_46 : decode cX8_volumeOf 46 = .ok (.lstore 9, 2) := by decide +kernel
theorem dX8_volumeOf_48 : decode cX8_volumeOf 48 = .ok (.aload_n 0, 1) := by decide +kernel
theorem dX8_volumeOf_49 : decode cX8_volumeOf 49 = .ok (.getfield 7, 3) := by decide +kernel
theorem dX8_volumeOf_52 : decode cX8_volumeOf 52 = .ok (.iload_n 3, 1) := by decide +kernel
theorem dX8_volumeOf_53 : decode cX8_volumeOf 53 = .ok (.iaload, 1) := by decide +kernel
theorem dX8_volumeOf_54 : decode cX8_volumeOf 54 = .ok (.aload_n 0, 1) := by decide +kernel
theorem dX8_volumeOf_55 : decode cX8_volumeOf 55 = .ok (.getfield 7, 3) := by decide +kernel
theorem dX8_volumeOf_58 : decode cX8_volumeOf 58 = .ok (.iload_n 1, 1) := by decide +kernel
theorem dX8_volumeOf_59 : decode cX8_volumeOf 59 = .ok (.iaload, 1) := by decide +kernel
theorem dX8_volumeOf_60 : decode cX8_volumeOf 60 = .ok (.isub, 1) := by decide +kernel
theorem dX8_volumeOf_61 : decode cX8_volumeOf 61 = .ok (.i2l, 1) := by decide +kernel
theorem dX8_volumeOf_62 : decode cX8_volumeOf 62 = .ok (.lstore 11, 2) := by decide +kernel
theorem dX8_volumeOf_64 : decode cX8_volumeOf 64 = .ok (.aload_n 0, 1) := by decide +kernel
theorem dX8_volumeOf_65 : decode cX8_volumeOf 65 = .ok (.getfield 13, 3) := by decide +kernel
theorem dX8_volumeOf_68 : decode cX8_volumeOf 68 = .ok (.iload_n 3, 1) := by decide +kernel
theorem dX8_volumeOf_69 : decode cX8_volumeOf 69 = .ok (.iaload, 1) := by decide +kernel
theorem dX8_volumeOf_70 : decode cX8_volumeOf 70 = .ok (.aload_n 0, 1) := by decide +kernel
theorem dX8_volumeOf_71 : decode cX8_volumeOf 71 = .ok (.getfield 13, 3) := by decide +kernel
theorem dX8_volumeOf_74 : decode cX8_volumeOf 74 = .ok (.iload_n 1, 1) := by decide +kernel
theorem dX8_volumeOf_75 : decode cX8_volumeOf 75 = .ok (.iaload, 1) := by decide +kernel
theorem dX8_volumeOf_76 : decode cX8_volumeOf 76 = .ok (.isub, 1) := by decide +kernel
theorem dX8_volumeOf_77 : decode cX8_volumeOf 77 = .ok (.i2l, 1) := by decide +kernel
theorem dX8_volumeOf_78 : decode cX8_volumeOf 78 = .ok (.lstore 13, 2) := by decide +kernel
theorem dX8_volumeOf_80 : decode cX8_volumeOf 80 = .ok (.aload_n 0, 1) := by decide +kernel
theorem dX8_volumeOf_81 : decode cX8_volumeOf 81 = .ok (.getfield 16, 3) := by decide +kernel
theorem dX8_volumeOf_84 : decode cX8_volumeOf 84 = .ok (.iload_n 3, 1) := by decide +kernel
theorem dX8_volumeOf_85 : decode cX8_volumeOf 85 = .ok (.iaload, 1) := by decide +kernel
theorem dX8_volumeOf_86 : decode cX8_volumeOf 86 = .ok (.aload_n 0, 1) := by decide +kernel
theorem dX8_volumeOf_87 : decode cX8_volumeOf 87 = .ok (.getfield 16, 3) := by decide +kernel
theorem dX8_volumeOf_90 : decode cX8_volumeOf 90 = .ok (.iload_n 1, 1) := by decide +kernel
theorem dX8_volumeOf_91 : decode cX8_volumeOf 91 = .ok (.iaload, 1) := by decide +kernel
theorem dX8_volumeOf_92 : decode cX8_volumeOf 92 = .ok (.isub, 1) := by decide +kernel
theorem dX8_volumeOf_93 : decode cX8_volumeOf 93 = .ok (.i2l, 1) := by decide +kernel
theorem dX8_volumeOf_94 : decode cX8_volumeOf 94 = .ok (.lstore 15, 2) := by decide +kernel
theorem dX8_volumeOf_96 : decode cX8_volumeOf 96 = .ok (.aload_n 0, 1) := by decide +kernel
theorem dX8_volumeOf_97 : decode cX8_volumeOf 97 = .ok (.getfield 7, 3) := by decide +kernel
theorem dX8_volumeOf_100 : decode cX8_volumeOf 100 = .ok (.iload 4, 2) := by decide +kernel
theorem dX8_volumeOf_102 : decode cX8_volumeOf 102 = .ok (.iaload, 1) := by decide +kernel
theorem dX8_volumeOf_103 : decode cX8_volumeOf 103 = .ok (.aload_n 0, 1) := by decide +kernel
theorem dX8_volumeOf_104 : decode cX8_volumeOf 104 = .ok (.getfield 7, 3) := by decide +kernel
theorem dX8_volumeOf_107 : decode cX8_volumeOf 107 = .ok (.iload_n 1, 1) := by decide +kernel
theorem dX8_volumeOf_108 : decode cX8_volumeOf 108 = .ok (.iaload, 1) := by decide +kernel
theorem dX8_volumeOf_109 : decode cX8_volumeOf 109 = .ok (.isub, 1) := by decide +kernel
theorem dX8_volumeOf_110 : decode cX8_volumeOf 110 = .ok (.i2l, 1) := by decide +kernel
theorem dX8_volumeOf_111 : decode cX8_volumeOf 111 = .ok (.lstore 17, 2) := by decide +kernel
theorem dX8_volumeOf_113 : decode cX8_volumeOf 113 = .ok (.aload_n 0, 1) := by decide +kernel
theorem dX8_volumeOf_114 : decode cX8_volumeOf 114 = .ok (.getfield 13, 3) := by decide +kernel
theorem dX8_volumeOf_117 : decode cX8_volumeOf 117 = .ok (.iload 4, 2) := by decide +kernel
theorem dX8_volumeOf_119 : decode cX8_volumeOf 119 = .ok (.iaload, 1) := by decide +kernel
theorem dX8_volumeOf_120 : decode cX8_volumeOf 120 = .ok (.aload_n 0, 1) := by decide +kernel
theorem dX8_volumeOf_121 : decode cX8_volumeOf 121 = .ok (.getfield 13, 3) := by decide +kernel
theorem dX8_volumeOf_124 : decode cX8_volumeOf 124 = .ok (.iload_n 1, 1) := by decide +kernel
theorem dX8_volumeOf_125 : decode cX8_volumeOf 125 = .ok (.iaload, 1) := by decide +kernel
theorem dX8_volumeOf_126 : decode cX8_volumeOf 126 = .ok (.isub, 1) := by decide +kernel
theorem dX8_volumeOf_127 : decode cX8_volumeOf 127 = .ok (.i2l, 1) := by decide +kernel
theorem dX8_volumeOf_128 : decode cX8_volumeOf 128 = .ok (.lstore 19, 2) := by decide +kernel
theorem dX8_volumeOf_130 : decode cX8_volumeOf 130 = .ok (.aload_n 0, 1) := by decide +kernel
theorem dX8_volumeOf_131 : decode cX8_volumeOf 131 = .ok (.getfield 16, 3) := by decide +kernel
theorem dX8_volumeOf_134 : decode cX8_volumeOf 134 = .ok (.iload 4, 2) := by decide +kernel
theorem dX8_volumeOf_136 : decode cX8_volumeOf 136 = .ok (.iaload, 1) := by decide +kernel
theorem dX8_volumeOf_137 : decode cX8_volumeOf 137 = .ok (.aload_n 0, 1) := by decide +kernel
theorem dX8_volumeOf_138 : decode cX8_volumeOf 138 = .ok (.getfield 16, 3) := by decide +kernel
theorem dX8_volumeOf_141 : decode cX8_volumeOf 141 = .ok (.iload_n 1, 1) := by decide +kernel
theorem dX8_volumeOf_142 : decode cX8_volumeOf 142 = .ok (.iaload, 1) := by decide +kernel
theorem dX8_volumeOf_143 : decode cX8_volumeOf 143 = .ok (.isub, 1) := by decide +kernel
theorem dX8_volumeOf_144 : decode cX8_volumeOf 144 = .ok (.i2l, 1) := by decide +kernel
theorem dX8_volumeOf_145 : decode cX8_volumeOf 145 = .ok (.lstore 21, 2) := by decide +kernel
theorem dX8_volumeOf_147 : decode cX8_volumeOf 147 = .ok (.lload 7, 2) := by decide +kernel
theorem dX8_volumeOf_149 : decode cX8_volumeOf 149 = .ok (.lload 15, 2) := by decide +kernel
theorem dX8_volumeOf_151 : decode cX8_volumeOf 151 = .ok (.lmul, 1) := by decide +kernel
theorem dX8_volumeOf_152 : decode cX8_volumeOf 152 = .ok (.lload 9, 2) := by decide +kernel
theorem dX8_volumeOf_154 : decode cX8_volumeOf 154 = .ok (.lload 13, 2) := by decide +kernel
theorem dX8_volumeOf_156 : decode cX8_volumeOf 156 = .ok (.lmul, 1) := by decide +kernel
theorem dX8_volumeOf_157 : decode cX8_volumeOf 157 = .ok (.lsub, 1) := by decide +kernel
theorem dX8_volumeOf_158 : decode cX8_volumeOf 158 = .ok (.lload 17, 2) := by decide +kernel
theorem dX8_volumeOf_160 : decode cX8_volumeOf 160 = .ok (.lmul, 1) := by decide +kernel
theorem dX8_volumeOf_161 : decode cX8_volumeOf 161 = .ok (.lload 9, 2) := by decide +kernel
theorem dX8_volumeOf_163 : decode cX8_volumeOf 163 = .ok (.lload 11, 2) := by decide +kernel
theorem dX8_volumeOf_165 : decode cX8_volumeOf 165 = .ok (.lmul, 1) := by decide +kernel
theorem dX8_volumeOf_166 : decode cX8_volumeOf 166 = .ok (.lload 5, 2) := by decide +kernel
theorem dX8_volumeOf_168 : decode cX8_volumeOf 168 = .ok (.lload 15, 2) := by decide +kernel
theorem dX8_volumeOf_170 : decode cX8_volumeOf 170 = .ok (.lmul, 1) := by decide +kernel
theorem dX8_volumeOf_171 : decode cX8_volumeOf 171 = .ok (.lsub, 1) := by decide +kernel
theorem dX8_volumeOf_172 : decode cX8_volumeOf 172 = .ok (.lload 19, 2) := by decide +kernel
theorem dX8_volumeOf_174 : decode cX8_volumeOf 174 = .ok (.lmul, 1) := by decide +kernel
theorem dX8_volumeOf_175 : decode cX8_volumeOf 175 = .ok (.ladd, 1) := by decide +kernel
theorem dX8_volumeOf_176 : decode cX8_volumeOf 176 = .ok (.lload 5, 2) := by decide +kernel
theorem dX8_volumeOf_178 : decode cX8_volumeOf 178 = .ok (.lload 13, 2) := by decide +kernel
theorem dX8_volumeOf_180 : decode cX8_volumeOf 180 = .ok (.lmul, 1) := by decide +kernel
theorem dX8_volumeOf_181 : decode cX8_volumeOf 181 = .ok (.lload 7, 2) := by decide +kernel
theorem dX8_volumeOf_183 : decode cX8_volumeOf 183 = .ok (.lload 11, 2) := by decide +kernel
theorem dX8_volumeOf_185 : decode cX8_volumeOf 185 = .ok (.lmul, 1) := by decide +kernel
theorem dX8_volumeOf_186 : decode cX8_volumeOf 186 = .ok (.lsub, 1) := by decide +kernel
theorem dX8_volumeOf_187 : decode cX8_volumeOf 187 = .ok (.lload 21, 2) := by decide +kernel
theorem dX8_volumeOf_189 : decode cX8_volumeOf 189 = .ok (.lmul, 1) := by decide +kernel
theorem dX8_volumeOf_190 : decode cX8_volumeOf 190 = .ok (.ladd, 1) := by decide +kernel
theorem dX8_volumeOf_191 : decode cX8_volumeOf 191 = .ok (.lreturn, 1) := by decide +kernel
abbrev cX8_tries : ByteArray := prog_9_method_12_code
def yX8_tries : MethodName := ⟨RX8, "tries", "(III)Z"⟩
theorem dX8_tries_0 : decode cX8_tries 0 = .ok (.aload_n 0, 1) := by decide +kernel
theorem dX8_tries_1 : decode cX8_tries 1 = .ok (.iload_n 1, 1) := by decide +kernel
theorem dX8_tries_2 : decode cX8_tries 2 = .ok (.iload_n 2, 1) := by decide +kernel
theorem dX8_tries_3 : decode cX8_tries 3 = .ok (.iload_n 3, 1) := by decide +kernel
theorem dX8_tries_4 : decode cX8_tries 4 = .ok (.invokevirtual 94, 3) := by decide +kernel
theorem dX8_tries_7 : decode cX8_tries 7 = .ok (.aload_n 0, 1) := by decide +kernel
theorem dX8_tries_8 : decode cX8_tries 8 = .ok (.getfield 81, 3) := by decide +kernel
theorem dX8_tries_11 : decode cX8_tries 11 = .ok (.lconst 0, 1) := by decide +kernel
theorem dX8_tries_12 : decode cX8_tries 12 = .ok (.lcmp, 1) := by decide +kernel
theorem dX8_tries_13 : decode cX8_tries 13 = .ok (.ifCond .ne 23, 3) := by decide +kernel
theorem dX8_tries_16 : decode cX8_tries 16 = .ok (.aload_n 0, 1) := by decide +kernel
theorem dX8_tries_17 : decode cX8_tries 17 = .ok (.getfield 85, 3) := by decide +kernel
theorem dX8_tries_20 : decode cX8_tries 20 = .ok (.lconst 0, 1) := by decide +kernel
theorem dX8_tries_21 : decode cX8_tries 21 = .ok (.lcmp, 1) := by decide +kernel
theorem dX8_tries_22 : decode cX8_tries 22 = .ok (.ifCond .ne 14, 3) := by decide +kernel
theorem dX8_tries_25 : decode cX8_tries 25 = .ok (.aload_n 0, 1) := by decide +kernel
theorem dX8_tries_26 : decode cX8_tries 26 = .ok (.getfield 88, 3) := by decide +kernel
theorem dX8_tries_29 : decode cX8_tries 29 = .ok (.lconst 0, 1) := by decide +kernel
theorem dX8_tries_30 : decode cX8_tries 30 = .ok (.lcmp, 1) := by decide +kernel
theorem dX8_tries_31 : decode cX8_tries 31 = .ok (.ifCond .ne 5, 3) := by decide +kernel
theorem dX8_tries_34 : decode cX8_tries 34 = .ok (.iconst 0, 1) := by decide +kernel
theorem dX8_tries_35 : decode cX8_tries 35 = .ok (.ireturn, 1) := by decide +kernel
theorem dX8_tries_36 : decode cX8_tries 36 = .ok (.iconst 0, 1) := by decide +kernel
theorem dX8_tries_37 : decode cX8_tries 37 = .ok (.istore 4, 2) := by decide +kernel
theorem dX8_tries_39 : decode cX8_tries 39 = .ok (.iconst 0, 1) := by decide +kernel
theorem dX8_tries_40 : decode cX8_tries 40 = .ok (.istore 5, 2) := by decide +kernel
theorem dX8_tries_42 : decode cX8_tries 42 = .ok (.iconst 0, 1) := by decide +kernel
theorem dX8_tries_43 : decode cX8_tries 43 = .ok (.istore 6, 2) := by decide +kernel
theorem dX8_tries_45 : decode cX8_tries 45 = .ok (.iload 6, 2) := by decide +kernel
theorem dX8_tries_47 : decode cX8_tries 47 = .ok (.aload_n 0, 1) := by decide +kernel
theorem dX8_tries_48 : decode cX8_tries 48 = .ok (.getfield 98, 3) := by decide +kernel
theorem dX8_tries_51 : decode cX8_tries 51 = .ok (.if_icmp .ge 54, 3) := by decide +kernel
theorem dX8_tries_54 : decode cX8_tries 54 = .ok (.aload_n 0, 1) := by decide +kernel
theorem dX8_tries_55 : decode cX8_tries 55 = .ok (.iload_n 1, 1) := by decide +kernel
theorem dX8_tries_56 : decode cX8_tries 56 = .ok (.iload 6, 2) := by decide +kernel
theorem dX8_tries_58 : decode cX8_tries 58 = .ok (.invokevirtual 101, 3) := by decide +kernel
theorem dX8_tries_61 : decode cX8_tries 61 = .ok (.lstore 7, 2) := by decide +kernel
theorem dX8_tries_63 : decode cX8_tries 63 = .ok (.lload 7, 2) := by decide +kernel
theorem dX8_tries_65 : decode cX8_tries 65 = .ok (.lconst 0, 1) := by decide +kernel
theorem dX8_tries_66 : decode cX8_tries 66 = .ok (.lcmp, 1) := by decide +kernel
theorem dX8_tries_67 : decode cX8_tries 67 = .ok (.ifCond .le 10, 3) := by decide +kernel
theorem dX8_tries_70 : decode cX8_tries 70 = .ok (.iload 4, 2) := by decide +kernel
theorem dX8_tries_72 : decode cX8_tries 72 = .ok (.iconst 1, 1) := by decide +kernel
theorem dX8_tries_73 : decode cX8_tries 73 = .ok (.iadd, 1) := by decide +kernel
theorem dX8_tries_74 : decode cX8_tries 74 = .ok (.goto 5, 3) := by decide +kernel
theorem dX8_tries_77 : decode cX8_tries 77 = .ok (.iload 4, 2) := by decide +kernel
theorem dX8_tries_79 : decode cX8_tries 79 = .ok (.istore 4, 2) := by decide +kernel
theorem dX8_tries_81 : decode cX8_tries 81 = .ok (.lload 7, 2) := by decide +kernel
theorem dX8_tries_83 : decode cX8_tries 83 = .ok (.lconst 0, 1) := by decide +kernel
theorem dX8_tries_84 : decode cX8_tries 84 = .ok (.lcmp, 1) := by decide +kernel
theorem dX8_tries_85 : decode cX8_tries 85 = .ok (.ifCond .ge 10, 3) := by decide +kernel
theorem dX8_tries_88 : decode cX8_tries 88 = .ok (.iload 5, 2) := by decide +kernel
theorem dX8_tries_90 : decode cX8_tries 90 = .ok (.iconst 1, 1) := by decide +kernel
theorem dX8_tries_91 : decode cX8_tries 91 = .ok (.iadd, 1) := by decide +kernel
theorem dX8_tries_92 : decode cX8_tries 92 = .ok (.goto 5, 3) := by decide +kernel
theorem dX8_tries_95 : decode cX8_tries 95 = .ok (.iload 5, 2) := by decide +kernel
theorem dX8_tries_97 : decode cX8_tries 97 = .ok (.istore 5, 2) := by decide +kernel
theorem dX8_tries_99 : decode cX8_tries 99 = .ok (.iinc 6 1, 3) := by decide +kernel
theorem dX8_tries_102 : decode cX8_tries 102 = .ok (.goto (-57), 3) := by decide +kernel
theorem dX8_tries_105 : decode cX8_tries 105 = .ok (.iload 4, 2) := by decide +kernel
theorem dX8_tries_107 : decode cX8_tries 107 = .ok (.ifCond .ne 10, 3) := by decide +kernel
theorem dX8_tries_110 : decode cX8_tries 110 = .ok (.iload 5, 2) := by decide +kernel
theorem dX8_tries_112 : decode cX8_tries 112 = .ok (.ifCond .ne 5, 3) := by decide +kernel
theorem dX8_tries_115 : decode cX8_tries 115 = .ok (.iconst 1, 1) := by decide +kernel
theorem dX8_tries_116 : decode cX8_tries 116 = .ok (.ireturn, 1) := by decide +kernel
theorem dX8_tries_117 : decode cX8_tries 117 = .ok (.iload 4, 2) := by decide +kernel
theorem dX8_tries_119 : decode cX8_tries 119 = .ok (.ifCond .eq 8, 3) := by decide +kernel
theorem dX8_tries_122 : decode cX8_tries 122 = .ok (.iload 5, 2) := by decide +kernel
theorem dX8_tries_124 : decode cX8_tries 124 = .ok (.ifCond .ne 112, 3) := by decide +kernel
theorem dX8_tries_127 : decode cX8_tries 127 = .ok (.iload 4, 2) := by decide +kernel
theorem dX8_tries_129 : decode cX8_tries 129 = .ok (.ifCond .ne 7, 3) := by decide +kernel
theorem dX8_tries_132 : decode cX8_tries 132 = .ok (.lconst 1, 1) := by decide +kernel
theorem dX8_tries_133 : decode cX8_tries 133 = .ok (.goto 6, 3) := by decide +kernel
theorem dX8_tries_136 : decode cX8_tries 136 = .ok (.ldc2_w 105, 3) := by decide +kernel
theorem dX8_tries_139 : decode cX8_tries 139 = .ok (.lstore 6, 2) := by decide +kernel
theorem dX8_tries_141 : decode cX8_tries 141 = .ok (.lload 6, 2) := by decide +kernel
theorem dX8_tries_143 : decode cX8_tries 143 = .ok (.aload_n 0, 1) := by decide +kernel
theorem dX8_tries_144 : decode cX8_tries 144 = .ok (.getfield 81, 3) := by decide +kernel
theorem dX8_tries_147 : decode cX8_tries 147 = .ok (.aload_n 0, 1) := by decide +kernel
theorem dX8_tries_148 : decode cX8_tries 148 = .ok (.getfield 85, 3) := by decide +kernel
theorem dX8_tries_151 : decode cX8_tries 151 = .ok (.invokestatic 107, 3) := by decide +kernel
theorem dX8_tries_154 : decode cX8_tries 154 = .ok (.aload_n 0, 1) := by decide +kernel
theorem dX8_tries_155 : decode cX8_tries 155 = .ok (.getfield 88, 3) := by decide +kernel
theorem dX8_tries_158 : decode cX8_tries 158 = .ok (.invokestatic 107, 3) := by decide +kernel
theorem dX8_tries_161 : decode cX8_tries 161 = .ok (.lmul, 1) := by decide +kernel
theorem dX8_tries_162 : decode cX8_tries 162 = .ok (.lstore 8, 2) := by decide +kernel
theorem dX8_tries_164 : decode cX8_tries 164 = .ok (.aload_n 0, 1) := by decide +kernel
theorem dX8_tries_165 : decode cX8_tries 165 = .ok (.aload_n 0, 1) := by decide +kernel
theorem dX8_tries_166 : decode cX8_tries 166 = .ok (.getfield 81, 3) := by decide +kernel
theorem dX8_tries_169 : decode cX8_tries 169 = .ok (.lload 8, 2) := by decide +kernel
theorem dX8_tries_171 : decode cX8_tries 171 = .ok (.ldiv, 1) := by decide +kernel
theorem dX8_tries_172 : decode cX8_tries 172 = .ok (.putfield 81, 3) := by decide +kernel
theorem dX8_tries_175 : decode cX8_tries 175 = .ok (.aload_n 0, 1) := by decide +kernel
theorem dX8_tries_176 : decode cX8_tries 176 = .ok (.aload_n 0, 1) := by decide +kernel
theorem dX8_tries_177 : decode cX8_tries 177 = .ok (.getfield 85, 3) := by decide +kernel
theorem dX8_tries_180 : decode cX8_tries 180 = .ok (.lload 8, 2) := by decide +kernel
theorem dX8_tries_182 : decode cX8_tries 182 = .ok (.ldiv, 1) := by decide +kernel
theorem dX8_tries_183 : decode cX8_tries 183 = .ok (.putfield 85, 3) := by decide +kernel
theorem dX8_tries_186 : decode cX8_tries 186 = .ok (.aload_n 0, 1) := by decide +kernel
theorem dX8_tries_187 : decode cX8_tries 187 = .ok (.aload_n 0, 1) := by decide +kernel
theorem dX8_tries_188 : decode cX8_tries 188 = .ok (.getfield 88, 3) := by decide +kernel
theorem dX8_tries_191 : decode cX8_tries 191 = .ok (.lload 8, 2) := by decide +kernel
theorem dX8_tries_193 : decode cX8_tries 193 = .ok (.ldiv, 1) := by decide +kernel
theorem dX8_tries_194 : decode cX8_tries 194 = .ok (.putfield 88, 3) := by decide +kernel
theorem dX8_tries_197 : decode cX8_tries 197 = .ok (.aload_n 0, 1) := by decide +kernel
theorem dX8_tries_198 : decode cX8_tries 198 = .ok (.aload_n 0, 1) := by decide +kernel
theorem dX8_tries_199 : decode cX8_tries 199 = .ok (.getfield 81, 3) := by decide +kernel
theorem dX8_tries_202 : decode cX8_tries 202 = .ok (.aload_n 0, 1) := by decide +kernel
theorem dX8_tries_203 : decode cX8_tries 203 = .ok (.getfield 19, 3) := by decide +kernel
theorem dX8_tries_206 : decode cX8_tries 206 = .ok (.iload_n 1, 1) := by decide +kernel
theorem dX8_tries_207 : decode cX8_tries 207 = .ok (.laload, 1) := by decide +kernel
theorem dX8_tries_208 : decode cX8_tries 208 = .ok (.lmul, 1) := by decide +kernel
theorem dX8_tries_209 : decode cX8_tries 209 = .ok (.aload_n 0, 1) := by decide +kernel
theorem dX8_tries_210 : decode cX8_tries 210 = .ok (.getfield 85, 3) := by decide +kernel
theorem dX8_tries_213 : decode cX8_tries 213 = .ok (.aload_n 0, 1) := by decide +kernel
theorem dX8_tries_214 : decode cX8_tries 214 = .ok (.getfield 23, 3) := by decide +kernel
theorem dX8_tries_217 : decode cX8_tries 217 = .ok (.iload_n 1, 1) := by decide +kernel
theorem dX8_tries_218 : decode cX8_tries 218 = .ok (.laload, 1) := by decide +kernel
theorem dX8_tries_219 : decode cX8_tries 219 = .ok (.lmul, 1) := by decide +kernel
theorem dX8_tries_220 : decode cX8_tries 220 = .ok (.ladd, 1) := by decide +kernel
theorem dX8_tries_221 : decode cX8_tries 221 = .ok (.aload_n 0, 1) := by decide +kernel
theorem dX8_tries_222 : decode cX8_tries 222 = .ok (.getfield 88, 3) := by decide +kernel
theorem dX8_tries_225 : decode cX8_tries 225 = .ok (.aload_n 0, 1) := by decide +kernel
theorem dX8_tries_226 : decode cX8_tries 226 = .ok (.getfield 26, 3) := by decide +kernel
theorem dX8_tries_229 : decode cX8_tries 229 = .ok (.iload_n 1, 1) := by decide +kernel
theorem dX8_tries_230 : decode cX8_tries 230 = .ok (.laload, 1) := by decide +kernel
theorem dX8_tries_231 : decode cX8_tries 231 = .ok (.lmul, 1) := by decide +kernel
theorem dX8_tries_232 : decode cX8_tries 232 = .ok (.ladd, 1) := by decide +kernel
theorem dX8_tries_233 : decode cX8_tries 233 = .ok (.invokevirtual 111, 3) := by decide +kernel
theorem dX8_tries_236 : decode cX8_tries 236 = .ok (.iconst 0, 1) := by decide +kernel
theorem dX8_tries_237 : decode cX8_tries 237 = .ok (.ireturn, 1) := by decide +kernel
end
