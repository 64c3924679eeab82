section
/-! HullBuilder -/
set_option maxRecDepth 100000
def RX1 : String := "HullBuilder"
def TX1 : u_T := fun k => match k with
  | 0 => ("HullBuilder", "points", "[LHullBuilder$Point;", true)
  | 1 => ("HullBuilder", "hull", "LHullBuilder$Hull;", false)
  | 2 => ("HullBuilder", "other", "LHullBuilder$Hull;", false)
  | 3 => ("HullBuilder", "many", "I", false)
  | _ => ("HullBuilder", "built", "I", false)
def tyX1 : Nat → FieldType := fun k => match k with
  | 0 => .array (.object "HullBuilder$Point")
  | 1 => .object "HullBuilder$Hull"
  | 2 => .object "HullBuilder$Hull"
  | 3 => .int
  | _ => .int
abbrev wsX10 : List Cond := u_ws RX1 TX1 5
theorem nmX1 : ∀ a, a < 5 → ∀ b, b < 5 → a ≠ b → (TX1 a).2.1 ≠ (TX1 b).2.1 := by decide +kernel
theorem tyX1_ok : ∀ k, k < 5 → parseFieldDescriptor (TX1 k).2.2.1 = some (tyX1 k) := by decide +kernel
abbrev cX1_init : ByteArray := prog_1_method_1_code
def yX1_init : MethodName := ⟨RX1, "<init>", "()V"⟩
theorem dX1_init_0 : decode cX1_init 0 = .ok (.aload_n 0, 1) := by decide +kernel
theorem dX1_init_1 : decode cX1_init 1 = .ok (.invokespecial 1, 3) := by decide +kernel
theorem dX1_init_4 : decode cX1_init 4 = .ok (.aload_n 0, 1) := by decide +kernel
theorem dX1_init_5 : decode cX1_init 5 = .ok (.bipush 24, 2) := by decide +kernel
theorem dX1_init_7 : decode cX1_init 7 = .ok (.anewarray 9, 3) := by decide +kernel
theorem dX1_init_10 : decode cX1_init 10 = .ok (.putfield 11, 3) := by decide +kernel
theorem dX1_init_13 : decode cX1_init 13 = .ok (.aload_n 0, 1) := by decide +kernel
theorem dX1_init_14 : decode cX1_init 14 = .ok (.new 15, 3) := by decide +kernel
theorem dX1_init_17 : decode cX1_init 17 = .ok (.dup, 1) := by decide +kernel
theorem dX1_init_18 : decode cX1_init 18 = .ok (.invokespecial 17, 3) := by decide +kernel
theorem dX1_init_21 : decode cX1_init 21 = .ok (.putfield 18, 3) := by decide +kernel
theorem dX1_init_24 : decode cX1_init 24 = .ok (.aload_n 0, 1) := by decide +kernel
theorem dX1_init_25 : decode cX1_init 25 = .ok (.new 15, 3) := by decide +kernel
theorem dX1_init_28 : decode cX1_init 28 = .ok (.dup, 1) := by decide +kernel
theorem dX1_init_29 : decode cX1_init 29 = .ok (.invokespecial 17, 3) := by decide +kernel
theorem dX1_init_32 : decode cX1_init 32 = .ok (.putfield 22, 3) := by decide +kernel
theorem dX1_init_35 : decode cX1_init 35 = .ok (.iconst 0, 1) := by decide +kernel
theorem dX1_init_36 : decode cX1_init 36 = .ok (.istore_n 1, 1) := by decide +kernel
theorem dX1_init_37 : decode cX1_init 37 = .ok (.iload_n 1, 1) := by decide +kernel
theorem dX1_init_38 : decode cX1_init 38 = .ok (.bipush 24, 2) := by decide +kernel
theorem dX1_init_40 : decode cX1_init 40 = .ok (.if_icmp .ge 22, 3) := by decide +kernel
theorem dX1_init_43 : decode cX1_init 43 = .ok (.aload_n 0, 1) := by decide +kernel
theorem dX1_init_44 : decode cX1_init 44 = .ok (.getfield 11, 3) := by decide +kernel
theorem dX1_init_47 : decode cX1_init 47 = .ok (.iload_n 1, 1) := by decide +kernel
theorem dX1_init_48 : decode cX1_init 48 = .ok (.new 9, 3) := by decide +kernel
theorem dX1_init_51 : decode cX1_init 51 = .ok (.dup, 1) := by decide +kernel
theorem dX1_init_52 : decode cX1_init 52 = .ok (.invokespecial 25, 3) := by decide +kernel
theorem dX1_init_55 : decode cX1_init 55 = .ok (.aastore, 1) := by decide +kernel
theorem dX1_init_56 : decode cX1_init 56 = .ok (.iinc 1 1, 3) := by decide +kernel
theorem dX1_init_59 : decode cX1_init 59 = .ok (.goto (-22), 3) := by decide +kernel
theorem dX1_init_62 : decode cX1_init 62 = .ok (.return_, 1) := by decide +kernel
abbrev cX1_point : ByteArray := prog_1_method_3_code
def yX1_point : MethodName := ⟨RX1, "point", "(III)I"⟩
theorem dX1_point_0 : decode cX1_point 0 = .ok (.iload_n 1, 1) := by decide +kernel
theorem dX1_point_1 : decode cX1_point 1 = .ok (.sipush 512, 3) := by decide +kernel
theorem dX1_point_4 : decode cX1_point 4 = .ok (.invokestatic 29, 3) := by decide +kernel
theorem dX1_point_7 : decode cX1_point 7 = .ok (.iload_n 2, 1) := by decide +kernel
theorem dX1_point_8 : decode cX1_point 8 = .ok (.sipush 512, 3) := by decide +kernel
theorem dX1_point_11 : decode cX1_point 11 = .ok (.invokestatic 29, 3) := by decide +kernel
theorem dX1_point_14 : decode cX1_point 14 = .ok (.iload_n 3, 1) := by decide +kernel
theorem dX1_point_15 : decode cX1_point 15 = .ok (.sipush 512, 3) := by decide +kernel
theorem dX1_point_18 : decode cX1_point 18 = .ok (.invokestatic 29, 3) := by decide +kernel
theorem dX1_point_21 : decode cX1_point 21 = .ok (.iconst 0, 1) := by decide +kernel
theorem dX1_point_22 : decode cX1_point 22 = .ok (.istore 4, 2) := by decide +kernel
theorem dX1_point_24 : decode cX1_point 24 = .ok (.iload 4, 2) := by decide +kernel
theorem dX1_point_26 : decode cX1_point 26 = .ok (.aload_n 0, 1) := by decide +kernel
theorem dX1_point_27 : decode cX1_point 27 = .ok (.getfield 33, 3) := by decide +kernel
theorem dX1_point_30 : decode cX1_point 30 = .ok (.if_icmp .ge 33, 3) := by decide +kernel
theorem dX1_point_33 : decode cX1_point 33 = .ok (.aload_n 0, 1) := by decide +kernel
theorem dX1_point_34 : decode cX1_point 34 = .ok (.getfield 11, 3) := by decide +kernel
theorem dX1_point_37 : decode cX1_point 37 = .ok (.iload 4, 2) := by decide +kernel
theorem dX1_point_39 : decode cX1_point 39 = .ok (.aaload, 1) := by decide +kernel
theorem dX1_point_40 : decode cX1_point 40 = .ok (.iload_n 1, 1) := by decide +kernel
theorem dX1_point_41 : decode cX1_point 41 = .ok (.iload_n 2, 1) := by decide +kernel
theorem dX1_point_42 : decode cX1_point 42 = .ok (.iload_n 3, 1) := by decide +kernel
theorem dX1_point_43 : decode cX1_point 43 = .ok (.invokevirtual 37, 3) := by decide +kernel
theorem dX1_point_46 : decode cX1_point 46 = .ok (.ifCond .eq 11, 3) := by decide +kernel
theorem dX1_point_49 : decode cX1_point 49 = .ok (.new 26, 3) := by decide +kernel
theorem dX1_point_52 : decode cX1_point 52 = .ok (.dup, 1) := by decide +kernel
theorem dX1_point_53 : decode cX1_point 53 = .ok (.invokespecial 28, 3) := by decide +kernel
theorem dX1_point_56 : decode cX1_point 56 = .ok (.athrow, 1) := by decide +kernel
theorem dX1_point_57 : decode cX1_point 57 = .ok (.iinc 4 1, 3) := by decide +kernel
theorem dX1_point_60 : decode cX1_point 60 = .ok (.goto (-36), 3) := by decide +kernel
theorem dX1_point_63 : decode cX1_point 63 = .ok (.aload_n 0, 1) := by decide +kernel
theorem dX1_point_64 : decode cX1_point 64 = .ok (.getfield 33, 3) := by decide +kernel
theorem dX1_point_67 : decode cX1_point 67 = .ok (.bipush 24, 2) := by decide +kernel
theorem dX1_point_69 : decode cX1_point 69 = .ok (.if_icmp .ne 11, 3) := by decide +kernel
theorem dX1_point_72 : decode cX1_point 72 = .ok (.new 41, 3) := by decide +kernel
theorem dX1_point_75 : decode cX1_point 75 = .ok (.dup, 1) := by decide +kernel
theorem dX1_point_76 : decode cX1_point 76 = .ok (.invokespecial 43, 3) := by decide +kernel
theorem dX1_point_79 : decode cX1_point 79 = .ok (.athrow, 1) := by decide +kernel
theorem dX1_point_80 : decode cX1_point 80 = .ok (.aload_n 0, 1) := by decide +kernel
theorem dX1_point_81 : decode cX1_point 81 = .ok (.getfield 11, 3) := by decide +kernel
theorem dX1_point_84 : decode cX1_point 84 = .ok (.aload_n 0, 1) := by decide +kernel
theorem dX1_point_85 : decode cX1_point 85 = .ok (.getfield 33, 3) := by decide +kernel
theorem dX1_point_88 : decode cX1_point 88 = .ok (.aaload, 1) := by decide +kernel
theorem dX1_point_89 : decode cX1_point 89 = .ok (.iload_n 1, 1) := by decide +kernel
theorem dX1_point_90 : decode cX1_point 90 = .ok (.iload_n 2, 1) := by decide +kernel
theorem dX1_point_91 : decode cX1_point 91 = .ok (.iload_n 3, 1) := by decide +kernel
theorem dX1_point_92 : decode cX1_point 92 = .ok (.invokevirtual 44, 3) := by decide +kernel
theorem dX1_point_95 : decode cX1_point 95 = .ok (.aload_n 0, 1) := by decide +kernel
theorem dX1_point_96 : decode cX1_point 96 = .ok (.dup, 1) := by decide +kernel
theorem dX1_point_97 : decode cX1_point 97 = .ok (.getfield 33, 3) := by decide +kernel
theorem dX1_point_100 : decode cX1_point 100 = .ok (.iconst 1, 1) := by decide +kernel
theorem dX1_point_101 : decode cX1_point 101 = .ok (.iadd, 1) := by decide +kernel
theorem dX1_point_102 : decode cX1_point 102 = .ok (.putfield 33, 3) := by decide +kernel
theorem dX1_point_105 : decode cX1_point 105 = .ok (.aload_n 0, 1) := by decide +kernel
theorem dX1_point_106 : decode cX1_point 106 = .ok (.getfield 33, 3) := by decide +kernel
theorem dX1_point_109 : decode cX1_point 109 = .ok (.iconst 1, 1) := by decide +kernel
theorem dX1_point_110 : decode cX1_point 110 = .ok (.isub, 1) := by decide +kernel
theorem dX1_point_111 : decode cX1_point 111 = .ok (.ireturn, 1) := by decide +kernel
abbrev cX1_within : ByteArray := prog_1_method_2_code
def yX1_within : MethodName := ⟨RX1, "within", "(II)V"⟩
theorem dX1_within_0 : decode cX1_within 0 = .ok (.iload_n 0, 1) := by decide +kernel
theorem dX1_within_1 : decode cX1_within 1 = .ok (.iload_n 1, 1) := by decide +kernel
theorem dX1_within_2 : decode cX1_within 2 = .ok (.ineg, 1) := by decide +kernel
theorem dX1_within_3 : decode cX1_within 3 = .ok (.if_icmp .lt 8, 3) := by decide +kernel
theorem dX1_within_6 : decode cX1_within 6 = .ok (.iload_n 0, 1) := by decide +kernel
theorem dX1_within_7 : decode cX1_within 7 = .ok (.iload_n 1, 1) := by decide +kernel
theorem dX1_within_8 : decode cX1_within 8 = .ok (.if_icmp .le 11, 3) := by decide +kernel
theorem dX1_within_11 : decode cX1_within 11 = .ok (.new 26, 3) := by decide +kernel
theorem dX1_within_14 : decode cX1_within 14 = .ok (.dup, 1) := by decide +kernel
theorem dX1_within_15 : decode cX1_within 15 = .ok (.invokespecial 28, 3) := by decide +kernel
theorem dX1_within_18 : decode cX1_within 18 = .ok (.athrow, 1) := by decide +kernel
theorem dX1_within_19 : decode cX1_within 19 = .ok (.return_, 1) := by decide +kernel
abbrev cX1_take : ByteArray := prog_1_method_5_code
def yX1_take : MethodName := ⟨RX1, "take", "(I)I"⟩
theorem dX1_take_0 : decode cX1_take 0 = .ok (.aload_n 0, 1) := by decide +kernel
theorem dX1_take_1 : decode cX1_take 1 = .ok (.iload_n 1, 1) := by decide +kernel
theorem dX1_take_2 : decode cX1_take 2 = .ok (.invokevirtual 51, 3) := by decide +kernel
theorem dX1_take_5 : decode cX1_take 5 = .ok (.iload_n 1, 1) := by decide +kernel
theorem dX1_take_6 : decode cX1_take 6 = .ok (.istore_n 2, 1) := by decide +kernel
theorem dX1_take_7 : decode cX1_take 7 = .ok (.iload_n 2, 1) := by decide +kernel
theorem dX1_take_8 : decode cX1_take 8 = .ok (.iconst 1, 1) := by decide +kernel
theorem dX1_take_9 : decode cX1_take 9 = .ok (.iadd, 1) := by decide +kernel
theorem dX1_take_10 : decode cX1_take 10 = .ok (.aload_n 0, 1) := by decide +kernel
theorem dX1_take_11 : decode cX1_take 11 = .ok (.getfield 33, 3) := by decide +kernel
theorem dX1_take_14 : decode cX1_take 14 = .ok (.if_icmp .ge 26, 3) := by decide +kernel
theorem dX1_take_17 : decode cX1_take 17 = .ok (.aload_n 0, 1) := by decide +kernel
theorem dX1_take_18 : decode cX1_take 18 = .ok (.getfield 11, 3) := by decide +kernel
theorem dX1_take_21 : decode cX1_take 21 = .ok (.iload_n 2, 1) := by decide +kernel
theorem dX1_take_22 : decode cX1_take 22 = .ok (.aaload, 1) := by decide +kernel
theorem dX1_take_23 : decode cX1_take 23 = .ok (.aload_n 0, 1) := by decide +kernel
theorem dX1_take_24 : decode cX1_take 24 = .ok (.getfield 11, 3) := by decide +kernel
theorem dX1_take_27 : decode cX1_take 27 = .ok (.iload_n 2, 1) := by decide +kernel
theorem dX1_take_28 : decode cX1_take 28 = .ok (.iconst 1, 1) := by decide +kernel
theorem dX1_take_29 : decode cX1_take 29 = .ok (.iadd, 1) := by decide +kernel
theorem dX1_take_30 : decode cX1_take 30 = .ok (.aaload, 1) := by decide +kernel
theorem dX1_take_31 : decode cX1_take 31 = .ok (.invokevirtual 55, 3) := by decide +kernel
theorem dX1_take_34 : decode cX1_take 34 = .ok (.iinc 2 1, 3) := by decide +kernel
theorem dX1_take_37 : decode cX1_take 37 = .ok (.goto (-30), 3) := by decide +kernel
theorem dX1_take_40 : decode cX1_take 40 = .ok (.aload_n 0, 1) := by decide +kernel
theorem dX1_take_41 : decode cX1_take 41 = .ok (.dup, 1) := by decide +kernel
theorem dX1_take_42 : decode cX1_take 42 = .ok (.getfield 33, 3) := by decide +kernel
theorem dX1_take_45 : decode cX1_take 45 = .ok (.iconst 1, 1) := by decide +kernel
theorem dX1_take_46 : decode cX1_take 46 = .ok (.isub, 1) := by decide +kernel
theorem dX1_take_47 : decode cX1_take 47 = .ok (.putfield 33, 3) := by decide +kernel
theorem dX1_take_50 : decode cX1_take 50 = .ok (.aload_n 0, 1) := by decide +kernel
theorem dX1_take_51 : decode cX1_take 51 = .ok (.getfield 33, 3) := by decide +kernel
theorem dX1_take_54 : decode cX1_take 54 = .ok (.ireturn, 1) := by decide +kernel
abbrev cX1_known : ByteArray := prog_1_method_4_code
def yX1_known : MethodName := ⟨RX1, "known", "(I)V"⟩
theorem dX1_known_0 : decode cX1_known 0 = .ok (.iload_n 1, 1) := by decide +kernel
theorem dX1_known_1 : decode cX1_known 1 = .ok (.ifCond .lt 11, 3) := by decide +kernel
theorem dX1_known_4 : decode cX1_known 4 = .ok (.iload_n 1, 1) := by decide +kernel
theorem dX1_known_5 : decode cX1_known 5 = .ok (.aload_n 0, 1) := by decide +kernel
theorem dX1_known_6 : decode cX1_known 6 = .ok (.getfield 33, 3) := by decide +kernel
theorem dX1_known_9 : decode cX1_known 9 = .ok (.if_icmp .lt 11, 3) := by decide +kernel
theorem dX1_known_12 : decode cX1_known 12 = .ok (.new 48, 3) := by decide +kernel
theorem dX1_known_15 : decode cX1_known 15 = .ok (.dup, 1) := by decide +kernel
theorem dX1_known_16 : decode cX1_known 16 = .ok (.invokespecial 50, 3) := by decide +kernel
theorem dX1_known_19 : decode cX1_known 19 = .ok (.athrow, 1) := by decide +kernel
theorem dX1_known_20 : decode cX1_known 20 = .ok (.return_, 1) := by decide +kernel
abbrev cX1_build : ByteArray := prog_1_method_6_code
def yX1_build : MethodName := ⟨RX1, "build", "()I"⟩
theorem dX1_build_0 : decode cX1_build 0 = .ok (.aload_n 0, 1) := by decide +kernel
theorem dX1_build_1 : decode cX1_build 1 = .ok (.getfield 22, 3) := by decide +kernel
theorem dX1_build_4 : decode cX1_build 4 = .ok (.aload_n 0, 1) := by decide +kernel
theorem dX1_build_5 : decode cX1_build 5 = .ok (.getfield 11, 3) := by decide +kernel
theorem dX1_build_8 : decode cX1_build 8 = .ok (.aload_n 0, 1) := by decide +kernel
theorem dX1_build_9 : decode cX1_build 9 = .ok (.getfield 33, 3) := by decide +kernel
theorem dX1_build_12 : decode cX1_build 12 = .ok (.invokevirtual 59, 3) := by decide +kernel
theorem dX1_build_15 : decode cX1_build 15 = .ok (.ifCond .ne 11, 3) := by decide +kernel
theorem dX1_build_18 : decode cX1_build 18 = .ok (.new 41, 3) := by decide +kernel
theorem dX1_build_21 : decode cX1_build 21 = .ok (.dup, 1) := by decide +kernel
theorem dX1_build_22 : decode cX1_build 22 = .ok (.invokespecial 43, 3) := by decide +kernel
theorem dX1_build_25 : decode cX1_build 25 = .ok (.athrow, 1) := by decide +kernel
theorem dX1_build_26 : decode cX1_build 26 = .ok (.aload_n 0, 1) := by decide +kernel
theorem dX1_build_27 : decode cX1_build 27 = .ok (.getfield 18, 3) := by decide +kernel
theorem dX1_build_30 : decode cX1_build 30 = .ok (.astore_n 1, 1) := by decide +kernel
theorem dX1_build_31 : decode cX1_build 31 = .ok (.aload_n 0, 1) := by decide +kernel
theorem dX1_build_32 : decode cX1_build 32 = .ok (.aload_n 0, 1) := by decide +kernel
theorem dX1_build_33 : decode cX1_build 33 = .ok (.getfield 22, 3) := by decide +kernel
theorem dX1_build_36 : decode cX1_build 36 = .ok (.putfield 18, 3) := by decide +kernel
theorem dX1_build_39 : decode cX1_build 39 = .ok (.aload_n 0, 1) := by decide +kernel
theorem dX1_build_40 : decode cX1_build 40 = .ok (.aload_n 1, 1) := by decide +kernel
theorem dX1_build_41 : decode cX1_build 41 = .ok (.putfield 22, 3) := by decide +kernel
theorem dX1_build_44 : decode cX1_build 44 = .ok (.aload_n 0, 1) := by decide +kernel
theorem dX1_build_45 : decode cX1_build 45 = .ok (.dup, 1) := by decide +kernel
theorem dX1_build_46 : decode cX1_build 46 = .ok (.getfield 63, 3) := by decide +kernel
theorem dX1_build_49 : decode cX1_build 49 = .ok (.iconst 1, 1) := by decide +kernel
theorem dX1_build_50 : decode cX1_build 50 = .ok (.iadd, 1) := by decide +kernel
theorem dX1_build_51 : decode cX1_build 51 = .ok (.putfield 63, 3) := by decide +kernel
theorem dX1_build_54 : decode cX1_build 54 = .ok (.aload_n 0, 1) := by decide +kernel
theorem dX1_build_55 : decode cX1_build 55 = .ok (.getfield 18, 3) := by decide +kernel
theorem dX1_build_58 : decode cX1_build 58 = .ok (.getfield 66, 3) := by decide +kernel
theorem dX1_build_61 : decode cX1_build 61 = .ok (.ireturn, 1) := by decide +kernel
abbrev cX1_of : ByteArray := prog_1_method_7_code
def yX1_of : MethodName := ⟨RX1, "of", "(II)I"⟩
theorem dX1_of_0 : decode cX1_of 0 = .ok (.aload_n 0, 1) := by decide +kernel
theorem dX1_of_1 : decode cX1_of 1 = .ok (.iload_n 1, 1) := by decide +kernel
theorem dX1_of_2 : decode cX1_of 2 = .ok (.invokevirtual 51, 3) := by decide +kernel
theorem dX1_of_5 : decode cX1_of 5 = .ok (.iload_n 2, 1) := by decide +kernel
theorem dX1_of_6 : decode cX1_of 6 = .ok (.iconst 3, 1) := by decide +kernel
theorem dX1_of_7 : decode cX1_of 7 = .ok (.invokestatic 69, 3) := by decide +kernel
theorem dX1_of_10 : decode cX1_of 10 = .ok (.aload_n 0, 1) := by decide +kernel
theorem dX1_of_11 : decode cX1_of 11 = .ok (.getfield 11, 3) := by decide +kernel
theorem dX1_of_14 : decode cX1_of 14 = .ok (.iload_n 1, 1) := by decide +kernel
theorem dX1_of_15 : decode cX1_of 15 = .ok (.aaload, 1) := by decide +kernel
theorem dX1_of_16 : decode cX1_of 16 = .ok (.iload_n 2, 1) := by decide +kernel
theorem dX1_of_17 : decode cX1_of 17 = .ok (.invokevirtual 72, 3) := by decide +kernel
theorem dX1_of_20 : decode cX1_of 20 = .ok (.ireturn, 1) := by decide +kernel
abbrev cX1_place : ByteArray := prog_1_method_8_code
def yX1_place : MethodName := ⟨RX1, "place", "(II)V"⟩
theorem dX1_place_0 : decode cX1_place 0 = .ok (.iload_n 0, 1) := by decide +kernel
theorem dX1_place_1 : decode cX1_place 1 = .ok (.ifCond .lt 8, 3) := by decide +kernel
theorem dX1_place_4 : decode cX1_place 4 = .ok (.iload_n 0, 1) := by decide +kernel
theorem dX1_place_5 : decode cX1_place 5 = .ok (.iload_n 1, 1) := by decide +kernel
theorem dX1_place_6 : decode cX1_place 6 = .ok (.if_icmp .lt 11, 3) := by decide +kernel
theorem dX1_place_9 : decode cX1_place 9 = .ok (.new 48, 3) := by decide +kernel
theorem dX1_place_12 : decode cX1_place 12 = .ok (.dup, 1) := by decide +kernel
theorem dX1_place_13 : decode cX1_place 13 = .ok (.invokespecial 50, 3) := by decide +kernel
theorem dX1_place_16 : decode cX1_place 16 = .ok (.athrow, 1) := by decide +kernel
theorem dX1_place_17 : decode cX1_place 17 = .ok (.return_, 1) := by decide +kernel
abbrev cX1_face : ByteArray := prog_1_method_11_code
def yX1_face : MethodName := ⟨RX1, "face", "(II)I"⟩
theorem dX1_face_0 : decode cX1_face 0 = .ok (.aload_n 0, 1) := by decide +kernel
theorem dX1_face_1 : decode cX1_face 1 = .ok (.iload_n 1, 1) := by decide +kernel
theorem dX1_face_2 : decode cX1_face 2 = .ok (.invokevirtual 83, 3) := by decide +kernel
theorem dX1_face_5 : decode cX1_face 5 = .ok (.astore_n 3, 1) := by decide +kernel
theorem dX1_face_6 : decode cX1_face 6 = .ok (.iload_n 2, 1) := by decide +kernel
theorem dX1_face_7 : decode cX1_face 7 = .ok (.iconst 4, 1) := by decide +kernel
theorem dX1_face_8 : decode cX1_face 8 = .ok (.invokestatic 69, 3) := by decide +kernel
theorem dX1_face_11 : decode cX1_face 11 = .ok (.iload_n 2, 1) := by decide +kernel
theorem dX1_face_12 : decode cX1_face 12 = .ok (.ifCond .ne 10, 3) := by decide +kernel
theorem dX1_face_15 : decode cX1_face 15 = .ok (.aload_n 3, 1) := by decide +kernel
theorem dX1_face_16 : decode cX1_face 16 = .ok (.getfield 87, 3) := by decide +kernel
theorem dX1_face_19 : decode cX1_face 19 = .ok (.goto 41, 3) := by decide +kernel
theorem dX1_face_22 : decode cX1_face 22 = .ok (.iload_n 2, 1) := by decide +kernel
theorem dX1_face_23 : decode cX1_face 23 = .ok (.iconst 1, 1) := by decide +kernel
theorem dX1_face_24 : decode cX1_face 24 = .ok (.if_icmp .ne 13, 3) := by decide +kernel
theorem dX1_face_27 : decode cX1_face 27 = .ok (.aload_n 3, 1) := by decide +kernel
theorem dX1_face_28 : decode cX1_face 28 = .ok (.getfield 92, 3) := by decide +kernel
theorem dX1_face_31 : decode cX1_face 31 = .ok (.getfield 96, 3) := by decide +kernel
theorem dX1_face_34 : decode cX1_face 34 = .ok (.goto 25, 3) := by decide +kernel
theorem dX1_face_37 : decode cX1_face 37 = .ok (.iload_n 2, 1) := by decide +kernel
theorem dX1_face_38 : decode cX1_face 38 = .ok (.iconst 2, 1) := by decide +kernel
theorem dX1_face_39 : decode cX1_face 39 = .ok (.if_icmp .ne 13, 3) := by decide +kernel
theorem dX1_face_42 : decode cX1_face 42 = .ok (.aload_n 3, 1) := by decide +kernel
theorem dX1_face_43 : decode cX1_face 43 = .ok (.getfield 92, 3) := by decide +kernel
theorem dX1_face_46 : decode cX1_face 46 = .ok (.getfield 102, 3) := by decide +kernel
theorem dX1_face_49 : decode cX1_face 49 = .ok (.goto 10, 3) := by decide +kernel
theorem dX1_face_52 : decode cX1_face 52 = .ok (.aload_n 3, 1) := by decide +kernel
theorem dX1_face_53 : decode cX1_face 53 = .ok (.getfield 92, 3) := by decide +kernel
theorem dX1_face_56 : decode cX1_face 56 = .ok (.getfield 105, 3) := by decide +kernel
theorem dX1_face_59 : decode cX1_face 59 = .ok (.l2i, 1) := by decide +kernel
theorem dX1_face_60 : decode cX1_face 60 = .ok (.ireturn, 1) := by decide +kernel
abbrev cX1_getFace : ByteArray := prog_1_method_10_code
def yX1_getFace : MethodName := ⟨RX1, "getFace", "(I)LHullBuilder$Face;"⟩
theorem dX1_getFace_0 : decode cX1_getFace 0 = .ok (.aload_n 0, 1) := by decide +kernel
theorem dX1_getFace_1 : decode cX1_getFace 1 = .ok (.invokevirtual 76, 3) := by decide +kernel
theorem dX1_getFace_4 : decode cX1_getFace 4 = .ok (.astore_n 2, 1) := by decide +kernel
theorem dX1_getFace_5 : decode cX1_getFace 5 = .ok (.iload_n 1, 1) := by decide +kernel
theorem dX1_getFace_6 : decode cX1_getFace 6 = .ok (.aload_n 2, 1) := by decide +kernel
theorem dX1_getFace_7 : decode cX1_getFace 7 = .ok (.getfield 66, 3) := by decide +kernel
theorem dX1_getFace_10 : decode cX1_getFace 10 = .ok (.invokestatic 69, 3) := by decide +kernel
theorem dX1_getFace_13 : decode cX1_getFace 13 = .ok (.aload_n 2, 1) := by decide +kernel
theorem dX1_getFace_14 : decode cX1_getFace 14 = .ok (.getfield 79, 3) := by decide +kernel
theorem dX1_getFace_17 : decode cX1_getFace 17 = .ok (.iload_n 1, 1) := by decide +kernel
theorem dX1_getFace_18 : decode cX1_getFace 18 = .ok (.aaload, 1) := by decide +kernel
theorem dX1_getFace_19 : decode cX1_getFace 19 = .ok (.areturn, 1) := by decide +kernel
abbrev cX1_get : ByteArray := prog_1_method_9_code
def yX1_get : MethodName := ⟨RX1, "get", "()LHullBuilder$Hull;"⟩
theorem dX1_get_0 : decode cX1_get 0 = .ok (.aload_n 0, 1) := by decide +kernel
theorem dX1_get_1 : decode cX1_get 1 = .ok (.getfield 63, 3) := by decide +kernel
theorem dX1_get_4 : decode cX1_get 4 = .ok (.ifCond .ne 11, 3) := by decide +kernel
theorem dX1_get_7 : decode cX1_get 7 = .ok (.new 41, 3) := by decide +kernel
theorem dX1_get_10 : decode cX1_get 10 = .ok (.dup, 1) := by decide +kernel
theorem dX1_get_11 : decode cX1_get 11 = .ok (.invokespecial 43, 3) := by decide +kernel
theorem dX1_get_14 : decode cX1_get 14 = .ok (.athrow, 1) := by decide +kernel
theorem dX1_get_15 : decode cX1_get 15 = .ok (.aload_n 0, 1) := by decide +kernel
theorem dX1_get_16 : decode cX1_get 16 = .ok (.getfield 18, 3) := by decide +kernel
theorem dX1_get_19 : decode cX1_get 19 = .ok (.areturn, 1) := by decide +kernel
abbrev cX1_offset : ByteArray := prog_1_method_12_code
def yX1_offset : MethodName := ⟨RX1, "offset", "(I)J"⟩
theorem dX1_offset_0 : decode cX1_offset 0 = .ok (.aload_n 0, 1) := by decide +kernel
theorem dX1_offset_1 : decode cX1_offset 1 = .ok (.iload_n 1, 1) := by decide +kernel
theorem dX1_offset_2 : decode cX1_offset 2 = .ok (.invokevirtual 83, 3) := by decide +kernel
theorem dX1_offset_5 : decode cX1_offset 5 = .ok (.getfield 92, 3) := by decide +kernel
theorem dX1_offset_8 : decode cX1_offset 8 = .ok (.getfield 108, 3) := by decide +kernel
theorem dX1_offset_11 : decode cX1_offset 11 = .ok (.lreturn, 1) := by decide +kernel
abbrev cX1_corner : ByteArray := prog_1_method_13_code
def yX1_corner : MethodName := ⟨RX1, "corner", "(II)I"⟩
theorem dX1_corner_0 : decode cX1_corner 0 = .ok (.aload_n 0, 1) := by decide +kernel
theorem dX1_corner_1 : decode cX1_corner 1 = .ok (.iload_n 1, 1) := by decide +kernel
theorem dX1_corner_2 : decode cX1_corner 2 = .ok (.invokevirtual 83, 3) := by decide +kernel
theorem dX1_corner_5 : decode cX1_corner 5 = .ok (.astore_n 3, 1) := by decide +kernel
theorem dX1_corner_6 : decode cX1_corner 6 = .ok (.iload_n 2, 1) := by decide +kernel
theorem dX1_corner_7 : decode cX1_corner 7 = .ok (.aload_n 3, 1) := by decide +kernel
theorem dX1_corner_8 : decode cX1_corner 8 = .ok (.getfield 87, 3) := by decide +kernel
theorem dX1_corner_11 : decode cX1_corner 11 = .ok (.invokestatic 69, 3) := by decide +kernel
theorem dX1_corner_14 : decode cX1_corner 14 = .ok (.aload_n 3, 1) := by decide +kernel
theorem dX1_corner_15 : decode cX1_corner 15 = .ok (.getfield 111, 3) := by decide +kernel
theorem dX1_corner_18 : decode cX1_corner 18 = .ok (.iload_n 2, 1) := by decide +kernel
theorem dX1_corner_19 : decode cX1_corner 19 = .ok (.iaload, 1) := by decide +kernel
theorem dX1_corner_20 : decode cX1_corner 20 = .ok (.ireturn, 1) := by decide +kernel
abbrev cX1_edge : ByteArray := prog_1_method_14_code
def yX1_edge : MethodName := ⟨RX1, "edge", "(II)I"⟩
theorem dX1_edge_0 : decode cX1_edge 0 = .ok (.aload_n 0, 1) := by decide +kernel
theorem dX1_edge_1 : decode cX1_edge 1 = .ok (.invokevirtual 76, 3) := by decide +kernel
theorem dX1_edge_4 : decode cX1_edge 4 = .ok (.astore_n 3, 1) := by decide +kernel
theorem dX1_edge_5 : decode cX1_edge 5 = .ok (.iload_n 1, 1) := by decide +kernel
theorem dX1_edge_6 : decode cX1_edge 6 = .ok (.aload_n 3, 1) := by decide +kernel
theorem dX1_edge_7 : decode cX1_edge 7 = .ok (.getfield 115, 3) := by decide +kernel
theorem dX1_edge_10 : decode cX1_edge 10 = .ok (.invokestatic 69, 3) := by decide +kernel
theorem dX1_edge_13 : decode cX1_edge 13 = .ok (.iload_n 2, 1) := by decide +kernel
theorem dX1_edge_14 : decode cX1_edge 14 = .ok (.iconst 4, 1) := by decide +kernel
theorem dX1_edge_15 : decode cX1_edge 15 = .ok (.invokestatic 69, 3) := by decide +kernel
theorem dX1_edge_18 : decode cX1_edge 18 = .ok (.aload_n 3, 1) := by decide +kernel
theorem dX1_edge_19 : decode cX1_edge 19 = .ok (.getfield 118, 3) := by decide +kernel
theorem dX1_edge_22 : decode cX1_edge 22 = .ok (.iload_n 1, 1) := by decide +kernel
theorem dX1_edge_23 : decode cX1_edge 23 = .ok (.aaload, 1) := by decide +kernel
theorem dX1_edge_24 : decode cX1_edge 24 = .ok (.iload_n 2, 1) := by decide +kernel
theorem dX1_edge_25 : decode cX1_edge 25 = .ok (.invokevirtual 122, 3) := by decide +kernel
theorem dX1_edge_28 : decode cX1_edge 28 = .ok (.ireturn, 1) := by decide +kernel
abbrev cX1_support : ByteArray := prog_1_method_15_code
def yX1_support : MethodName := ⟨RX1, "support", "(III)I"⟩
theorem dX1_support_0 : decode cX1_support 0 = .ok (.aload_n 0, 1) := by decide +kernel
theorem dX1_support_1 : decode cX1_support 1 = .ok (.invokevirtual 76, 3) := by decide +kernel
theorem dX1_support_4 : decode cX1_support 4 = .ok (.astore 4, 2) := by decide +kernel
theorem dX1_support_6 : decode cX1_support 6 = .ok (.iload_n 1, 1) := by decide +kernel
theorem dX1_support_7 : decode cX1_support 7 = .ok (.ldc 125, 2) := by decide +kernel
theorem dX1_support_9 : decode cX1_support 9 = .ok (.invokestatic 29, 3) := by decide +kernel
theorem dX1_support_12 : decode cX1_support 12 = .ok (.iload_n 2, 1) := by decide +kernel
theorem dX1_support_13 : decode cX1_support 13 = .ok (.ldc 125, 2) := by decide +kernel
theorem dX1_support_15 : decode cX1_support 15 = .ok (.invokestatic 29, 3) := by decide +kernel
theorem dX1_support_18 : decode cX1_support 18 = .ok (.iload_n 3, 1) := by decide +kernel
theorem dX1_support_19 : decode cX1_support 19 = .ok (.ldc 125, 2) := by decide +kernel
theorem dX1_support_21 : decode cX1_support 21 = .ok (.invokestatic 29, 3) := by decide +kernel
theorem dX1_support_24 : decode cX1_support 24 = .ok (.aload 4, 2) := by decide +kernel
theorem dX1_support_26 : decode cX1_support 26 = .ok (.iload_n 1, 1) := by decide +kernel
theorem dX1_support_27 : decode cX1_support 27 = .ok (.i2l, 1) := by decide +kernel
theorem dX1_support_28 : decode cX1_support 28 = .ok (.iload_n 2, 1) := by decide +kernel
theorem dX1_support_29 : decode cX1_support 29 = .ok (.i2l, 1) := by decide +kernel
theorem dX1_support_30 : decode cX1_support 30 = .ok (.iload_n 3, 1) := by decide +kernel
theorem dX1_support_31 : decode cX1_support 31 = .ok (.i2l, 1) := by decide +kernel
theorem dX1_support_32 : decode cX1_support 32 = .ok (.invokevirtual 126, 3) := by decide +kernel
theorem dX1_support_35 : decode cX1_support 35 = .ok (.ireturn, 1) := by decide +kernel
abbrev cX1_steps : ByteArray := prog_1_method_17_code
def yX1_steps : MethodName := ⟨RX1, "steps", "(II)I"⟩
theorem dX1_steps_0 : decode cX1_steps 0 = .ok (.aload_n 0, 1) := by decide +kernel
theorem dX1_steps_1 : decode cX1_steps 1 = .ok (.invokevirtual 76, 3) := by decide +kernel
theorem dX1_steps_4 : decode cX1_steps 4 = .ok (.astore_n 3, 1) := by decide +kernel
theorem dX1_steps_5 : decode cX1_steps 5 = .ok (.aload_n 3, 1) := by decide +kernel
theorem dX1_steps_6 : decode cX1_steps 6 = .ok (.iload_n 1, 1) := by decide +kernel
theorem dX1_steps_7 : decode cX1_steps 7 = .ok (.invokestatic 134, 3) := by decide +kernel
theorem dX1_steps_10 : decode cX1_steps 10 = .ok (.aload_n 3, 1) := by decide +kernel
theorem dX1_steps_11 : decode cX1_steps 11 = .ok (.iload_n 2, 1) := by decide +kernel
theorem dX1_steps_12 : decode cX1_steps 12 = .ok (.invokestatic 134, 3) := by decide +kernel
theorem dX1_steps_15 : decode cX1_steps 15 = .ok (.aload_n 3, 1) := by decide +kernel
theorem dX1_steps_16 : decode cX1_steps 16 = .ok (.iload_n 1, 1) := by decide +kernel
theorem dX1_steps_17 : decode cX1_steps 17 = .ok (.invokevirtual 137, 3) := by decide +kernel
theorem dX1_steps_20 : decode cX1_steps 20 = .ok (.aload_n 3, 1) := by decide +kernel
theorem dX1_steps_21 : decode cX1_steps 21 = .ok (.getfield 140, 3) := by decide +kernel
theorem dX1_steps_24 : decode cX1_steps 24 = .ok (.iload_n 2, 1) := by decide +kernel
theorem dX1_steps_25 : decode cX1_steps 25 = .ok (.iaload, 1) := by decide +kernel
theorem dX1_steps_26 : decode cX1_steps 26 = .ok (.ireturn, 1) := by decide +kernel
abbrev cX1_isCorner : ByteArray := prog_1_method_16_code
def yX1_isCorner : MethodName := ⟨RX1, "isCorner", "(LHullBuilder$Hull;I)V"⟩
theorem dX1_isCorner_0 : decode cX1_isCorner 0 = .ok (.iload_n 1, 1) := by decide +kernel
theorem dX1_isCorner_1 : decode cX1_isCorner 1 = .ok (.ifCond .lt 18, 3) := by decide +kernel
theorem dX1_isCorner_4 : decode cX1_isCorner 4 = .ok (.iload_n 1, 1) := by decide +kernel
theorem dX1_isCorner_5 : decode cX1_isCorner 5 = .ok (.bipush 24, 2) := by decide +kernel
theorem dX1_isCorner_7 : decode cX1_isCorner 7 = .ok (.if_icmp .ge 12, 3) := by decide +kernel
theorem dX1_isCorner_10 : decode cX1_isCorner 10 = .ok (.aload_n 0, 1) := by decide +kernel
theorem dX1_isCorner_11 : decode cX1_isCorner 11 = .ok (.getfield 130, 3) := by decide +kernel
theorem dX1_isCorner_14 : decode cX1_isCorner 14 = .ok (.iload_n 1, 1) := by decide +kernel
theorem dX1_isCorner_15 : decode cX1_isCorner 15 = .ok (.baload, 1) := by decide +kernel
theorem dX1_isCorner_16 : decode cX1_isCorner 16 = .ok (.ifCond .ne 11, 3) := by decide +kernel
theorem dX1_isCorner_19 : decode cX1_isCorner 19 = .ok (.new 48, 3) := by decide +kernel
theorem dX1_isCorner_22 : decode cX1_isCorner 22 = .ok (.dup, 1) := by decide +kernel
theorem dX1_isCorner_23 : decode cX1_isCorner 23 = .ok (.invokespecial 50, 3) := by decide +kernel
theorem dX1_isCorner_26 : decode cX1_isCorner 26 = .ok (.athrow, 1) := by decide +kernel
theorem dX1_isCorner_27 : decode cX1_isCorner 27 = .ok (.return_, 1) := by decide +kernel
abbrev cX1_side : ByteArray := prog_1_method_18_code
def yX1_side : MethodName := ⟨RX1, "side", "(III)I"⟩
theorem dX1_side_0 : decode cX1_side 0 = .ok (.aload_n 0, 1) := by decide +kernel
theorem dX1_side_1 : decode cX1_side 1 = .ok (.invokevirtual 76, 3) := by decide +kernel
theorem dX1_side_4 : decode cX1_side 4 = .ok (.astore 4, 2) := by decide +kernel
theorem dX1_side_6 : decode cX1_side 6 = .ok (.iload_n 1, 1) := by decide +kernel
theorem dX1_side_7 : decode cX1_side 7 = .ok (.ldc 125, 2) := by decide +kernel
theorem dX1_side_9 : decode cX1_side 9 = .ok (.invokestatic 29, 3) := by decide +kernel
theorem dX1_side_12 : decode cX1_side 12 = .ok (.iload_n 2, 1) := by decide +kernel
theorem dX1_side_13 : decode cX1_side 13 = .ok (.ldc 125, 2) := by decide +kernel
theorem dX1_side_15 : decode cX1_side 15 = .ok (.invokestatic 29, 3) := by decide +kernel
theorem dX1_side_18 : decode cX1_side 18 = .ok (.iload_n 3, 1) := by decide +kernel
theorem dX1_side_19 : decode cX1_side 19 = .ok (.ldc 125, 2) := by decide +kernel
theorem dX1_side_21 : decode cX1_side 21 = .ok (.invokestatic 29, 3) := by decide +kernel
theorem dX1_side_24 : decode cX1_side 24 = .ok (.aload 4, 2) := by decide +kernel
theorem dX1_side_26 : decode cX1_side 26 = .ok (.iload_n 1, 1) := by decide +kernel
theorem dX1_side_27 : decode cX1_side 27 = .ok (.i2l, 1) := by decide +kernel
theorem dX1_side_28 : decode cX1_side 28 = .ok (.iload_n 2, 1) := by decide +kernel
theorem dX1_side_29 : decode cX1_side 29 = .ok (.i2l, 1) := by decide +kernel
theorem dX1_side_30 : decode cX1_side 30 = .ok (.iload_n 3, 1) := by decide +kernel
theorem dX1_side_31 : decode cX1_side 31 = .ok (.i2l, 1) := by decide +kernel
theorem dX1_side_32 : decode cX1_side 32 = .ok (.invokevirtual 143, 3) := by decide +kernel
theorem dX1_side_35 : decode cX1_side 35 = .ok (.ireturn, 1) := by decide +kernel
abbrev cX1_volume : ByteArray := prog_1_method_19_code
def yX1_volume : MethodName := ⟨RX1, "volume", "()J"⟩
theorem dX1_volume_0 : decode cX1_volume 0 = .ok (.aload_n 0, 1) := by decide +kernel
theorem dX1_volume_1 : decode cX1_volume 1 = .ok (.invokevirtual 76, 3) := by decide +kernel
theorem dX1_volume_4 : decode cX1_volume 4 = .ok (.iconst 3, 1) := by decide +kernel
theorem dX1_volume_5 : decode cX1_volume 5 = .ok (.invokevirtual 146, 3) := by decide +kernel
theorem dX1_volume_8 : decode cX1_volume 8 = .ok (.lreturn, 1) := by decide +kernel
abbrev cX1_centre : ByteArray := prog_1_method_20_code
def yX1_centre : MethodName := ⟨RX1, "centre", "(I)J"⟩
theorem dX1_centre_0 : decode cX1_centre 0 = .ok (.aload_n 0, 1) := by decide +kernel
theorem dX1_centre_1 : decode cX1_centre 1 = .ok (.invokevirtual 76, 3) := by decide +kernel
theorem dX1_centre_4 : decode cX1_centre 4 = .ok (.astore_n 2, 1) := by decide +kernel
theorem dX1_centre_5 : decode cX1_centre 5 = .ok (.iload_n 1, 1) := by decide +kernel
theorem dX1_centre_6 : decode cX1_centre 6 = .ok (.iconst 3, 1) := by decide +kernel
theorem dX1_centre_7 : decode cX1_centre 7 = .ok (.invokestatic 69, 3) := by decide +kernel
theorem dX1_centre_10 : decode cX1_centre 10 = .ok (.aload_n 2, 1) := by decide +kernel
theorem dX1_centre_11 : decode cX1_centre 11 = .ok (.iload_n 1, 1) := by decide +kernel
theorem dX1_centre_12 : decode cX1_centre 12 = .ok (.invokevirtual 146, 3) := by decide +kernel
theorem dX1_centre_15 : decode cX1_centre 15 = .ok (.lreturn, 1) := by decide +kernel
abbrev cX1_middle : ByteArray := prog_1_method_21_code
def yX1_middle : MethodName := ⟨RX1, "middle", "(I)D"⟩
theorem dX1_middle_0 : decode cX1_middle 0 = .ok (.aload_n 0, 1) := by decide +kernel
theorem dX1_middle_1 : decode cX1_middle 1 = .ok (.invokevirtual 76, 3) := by decide +kernel
theorem dX1_middle_4 : decode cX1_middle 4 = .ok (.astore_n 2, 1) := by decide +kernel
theorem dX1_middle_5 : decode cX1_middle 5 = .ok (.iload_n 1, 1) := by decide +kernel
theorem dX1_middle_6 : decode cX1_middle 6 = .ok (.iconst 3, 1) := by decide +kernel
theorem dX1_middle_7 : decode cX1_middle 7 = .ok (.invokestatic 69, 3) := by decide +kernel
theorem dX1_middle_10 : decode cX1_middle 10 = .ok (.aload_n 2, 1) := by decide +kernel
theorem dX1_middle_11 : decode cX1_middle 11 = .ok (.iload_n 1, 1) := by decide +kernel
theorem dX1_middle_12 : decode cX1_middle 12 = .ok (.invokevirtual 146, 3) := by decide +kernel
theorem dX1_middle_15 : decode cX1_middle 15 = .ok (.l2d, 1) := by decide +kernel
theorem dX1_middle_16 : decode cX1_middle 16 = .ok (.ldc2_w 150, 3) := by decide +kernel
theorem dX1_middle_19 : decode cX1_middle 19 = .ok (.aload_n 2, 1) := by decide +kernel
theorem dX1_middle_20 : decode cX1_middle 20 = .ok (.iconst 3, 1) := by decide +kernel
theorem dX1_middle_21 : decode cX1_middle 21 = .ok (.invokevirtual 146, 3) := by decide +kernel
theorem dX1_middle_24 : decode cX1_middle 24 = .ok (.lmul, 1) := by decide +kernel
theorem dX1_middle_25 : decode cX1_middle 25 = .ok (.l2d, 1) := by decide +kernel
theorem dX1_middle_26 : decode cX1_middle 26 = .ok (.ddiv, 1) := by decide +kernel
theorem dX1_middle_27 : decode cX1_middle 27 = .ok (.dreturn, 1) := by decide +kernel
abbrev cX1_count : ByteArray := prog_1_method_22_code
def yX1_count : MethodName := ⟨RX1, "count", "(I)I"⟩
theorem dX1_count_0 : decode cX1_count 0 = .ok (.iload_n 1, 1) := by decide +kernel
theorem dX1_count_1 : decode cX1_count 1 = .ok (.iconst 5, 1) := by decide +kernel
theorem dX1_count_2 : decode cX1_count 2 = .ok (.invokestatic 69, 3) := by decide +kernel
theorem dX1_count_5 : decode cX1_count 5 = .ok (.aload_n 0, 1) := by decide +kernel
theorem dX1_count_6 : decode cX1_count 6 = .ok (.getfield 63, 3) := by decide +kernel
theorem dX1_count_9 : decode cX1_count 9 = .ok (.ifCond .le 7, 3) := by decide +kernel
theorem dX1_count_12 : decode cX1_count 12 = .ok (.iconst 1, 1) := by decide +kernel
theorem dX1_count_13 : decode cX1_count 13 = .ok (.goto 4, 3) := by decide +kernel
theorem dX1_count_16 : decode cX1_count 16 = .ok (.iconst 0, 1) := by decide +kernel
theorem dX1_count_17 : decode cX1_count 17 = .ok (.istore_n 2, 1) := by decide +kernel
theorem dX1_count_18 : decode cX1_count 18 = .ok (.iload_n 1, 1) := by decide +kernel
theorem dX1_count_19 : decode cX1_count 19 = .ok (.ifCond .ne 10, 3) := by decide +kernel
theorem dX1_count_22 : decode cX1_count 22 = .ok (.aload_n 0, 1) := by decide +kernel
theorem dX1_count_23 : decode cX1_count 23 = .ok (.getfield 33, 3) := by decide +kernel
theorem dX1_count_26 : decode cX1_count 26 = .ok (.goto 60, 3) := by decide +kernel
theorem dX1_count_29 : decode cX1_count 29 = .ok (.iload_n 1, 1) := by decide +kernel
theorem dX1_count_30 : decode cX1_count 30 = .ok (.iconst 4, 1) := by decide +kernel
theorem dX1_count_31 : decode cX1_count 31 = .ok (.if_icmp .ne 10, 3) := by decide +kernel
theorem dX1_count_34 : decode cX1_count 34 = .ok (.aload_n 0, 1) := by decide +kernel
theorem dX1_count_35 : decode cX1_count 35 = .ok (.getfield 63, 3) := by decide +kernel
theorem dX1_count_38 : decode cX1_count 38 = .ok (.goto 48, 3) := by decide +kernel
theorem dX1_count_41 : decode cX1_count 41 = .ok (.iload_n 2, 1) := by decide +kernel
theorem dX1_count_42 : decode cX1_count 42 = .ok (.ifCond .ne 7, 3) := by decide +kernel
theorem dX1_count_45 : decode cX1_count 45 = .ok (.iconst 0, 1) := by decide +kernel
theorem dX1_count_46 : decode cX1_count 46 = .ok (.goto 40, 3) := by decide +kernel
theorem dX1_count_49 : decode cX1_count 49 = .ok (.iload_n 1, 1) := by decide +kernel
theorem dX1_count_50 : decode cX1_count 50 = .ok (.iconst 1, 1) := by decide +kernel
theorem dX1_count_51 : decode cX1_count 51 = .ok (.if_icmp .ne 13, 3) := by decide +kernel
theorem dX1_count_54 : decode cX1_count 54 = .ok (.aload_n 0, 1) := by decide +kernel
theorem dX1_count_55 : decode cX1_count 55 = .ok (.getfield 18, 3) := by decide +kernel
theorem dX1_count_58 : decode cX1_count 58 = .ok (.getfield 66, 3) := by decide +kernel
theorem dX1_count_61 : decode cX1_count 61 = .ok (.goto 25, 3) := by decide +kernel
theorem dX1_count_64 : decode cX1_count 64 = .ok (.iload_n 1, 1) := by decide +kernel
theorem dX1_count_65 : decode cX1_count 65 = .ok (.iconst 2, 1) := by decide +kernel
theorem dX1_count_66 : decode cX1_count 66 = .ok (.if_icmp .ne 13, 3) := by decide +kernel
theorem dX1_count_69 : decode cX1_count 69 = .ok (.aload_n 0, 1) := by decide +kernel
theorem dX1_count_70 : decode cX1_count 70 = .ok (.getfield 18, 3) := by decide +kernel
theorem dX1_count_73 : decode cX1_count 73 = .ok (.getfield 115, 3) := by decide +kernel
theorem dX1_count_76 : decode cX1_count 76 = .ok (.goto 10, 3) := by decide +kernel
theorem dX1_count_79 : decode cX1_count 79 = .ok (.aload_n 0, 1) := by decide +kernel
theorem dX1_count_80 : decode cX1_count 80 = .ok (.getfield 18, 3) := by decide +kernel
theorem dX1_count_83 : decode cX1_count 83 = .ok (.getfield 152, 3) := by decide +kernel
theorem dX1_count_86 : decode cX1_count 86 = .ok (.ireturn, 1) := by decide +kernel
theorem q36 : (Jvm.Cond.initialized "HullBuilder") ∈ lw_all := lw_g (lw_at lw_m1 1 rfl) rfl
theorem q54 : (Jvm.Cond.instantiable "HullBuilder" (5 : Nat)) ∈ lw_all := lw_g (lw_at lw_m1 19 rfl) rfl
theorem q56 : (Jvm.Cond.instanceMethod ({ cls := "HullBuilder", name := "<init>", desc := "()V" } : Jvm.MethodName)) ∈ lw_all := lw_g (lw_at lw_m1 21 rfl) rfl
theorem q57 : (Jvm.Cond.code ({ cls := "HullBuilder", name := "<init>", desc := "()V" } : Jvm.MethodName) prog_1_method_1_code (2 : Nat) (Option.none : Option Jvm.ClassFile.FieldType)) ∈ lw_all := lw_g (lw_at lw_m1 22 rfl) rfl
theorem q58 : (Jvm.Cond.methodLink "HullBuilder" (1 : Nat) ({ cls := "java/lang/Object", name := "<init>", desc := "()V" } : Jvm.MethodName)) ∈ lw_all := lw_g (lw_at lw_m1 23 rfl) rfl
theorem q61 : (Jvm.Cond.classLink "HullBuilder" (9 : Nat) "HullBuilder$Point") ∈ lw_all := lw_g (lw_at lw_m1 26 rfl) rfl
theorem q63 : (Jvm.Cond.classLink "HullBuilder" (15 : Nat) "HullBuilder$Hull") ∈ lw_all := lw_g (lw_at lw_m1 28 rfl) rfl
theorem q65 : (Jvm.Cond.methodLink "HullBuilder" (17 : Nat) ({ cls := "HullBuilder$Hull", name := "<init>", desc := "()V" } : Jvm.MethodName)) ∈ lw_all := lw_g (lw_at lw_m1 30 rfl) rfl
theorem q85 : (Jvm.Cond.fieldLink "HullBuilder" (96 : Nat) "HullBuilder$Plane" "x" "J") ∈ lw_all := lw_g (lw_at lw_m1 50 rfl) rfl
theorem q87 : (Jvm.Cond.fieldLink "HullBuilder" (102 : Nat) "HullBuilder$Plane" "y" "J") ∈ lw_all := lw_g (lw_at lw_m1 52 rfl) rfl
theorem q89 : (Jvm.Cond.fieldLink "HullBuilder" (105 : Nat) "HullBuilder$Plane" "z" "J") ∈ lw_all := lw_g (lw_at lw_m1 54 rfl) rfl
theorem q91 : (Jvm.Cond.fieldLink "HullBuilder" (108 : Nat) "HullBuilder$Plane" "offset" "J") ∈ lw_all := lw_g (lw_at lw_m1 56 rfl) rfl
theorem q163 : (Jvm.Cond.fieldLink "HullBuilder" (92 : Nat) "HullBuilder$Face" "plane" "LHullBuilder$Plane;") ∈ lw_all := lw_g (lw_at lw_m1 128 rfl) rfl
theorem q166 : (Jvm.Cond.fieldLink "HullBuilder" (111 : Nat) "HullBuilder$Face" "corners" "[I") ∈ lw_all := lw_g (lw_at lw_m1 131 rfl) rfl
theorem q169 : (Jvm.Cond.fieldLink "HullBuilder" (87 : Nat) "HullBuilder$Face" "size" "I") ∈ lw_all := lw_g (lw_at lw_m1 134 rfl) rfl
theorem q202 : (Jvm.Cond.fieldLinkNest "HullBuilder" (79 : Nat) "HullBuilder$Hull" "faces" "[LHullBuilder$Face;" "HullBuilder") ∈ lw_tbl := lw_at lw_m1 167 rfl
theorem q204 : (Jvm.Cond.fieldLinkNest "HullBuilder" (118 : Nat) "HullBuilder$Hull" "edges" "[LHullBuilder$Edge;" "HullBuilder") ∈ lw_tbl := lw_at lw_m1 169 rfl
theorem q208 : (Jvm.Cond.fieldLinkNest "HullBuilder" (140 : Nat) "HullBuilder$Hull" "distance" "[I" "HullBuilder") ∈ lw_tbl := lw_at lw_m1 173 rfl
theorem q211 : (Jvm.Cond.fieldLinkNest "HullBuilder" (130 : Nat) "HullBuilder$Hull" "isCorner" "[Z" "HullBuilder") ∈ lw_tbl := lw_at lw_m1 176 rfl
theorem q217 : (Jvm.Cond.fieldLinkNest "HullBuilder" (66 : Nat) "HullBuilder$Hull" "faceCount" "I" "HullBuilder") ∈ lw_tbl := lw_at lw_m1 182 rfl
theorem q219 : (Jvm.Cond.fieldLinkNest "HullBuilder" (115 : Nat) "HullBuilder$Hull" "edgeCount" "I" "HullBuilder") ∈ lw_tbl := lw_at lw_m1 184 rfl
theorem q221 : (Jvm.Cond.fieldLinkNest "HullBuilder" (152 : Nat) "HullBuilder$Hull" "corners" "I" "HullBuilder") ∈ lw_tbl := lw_at lw_m1 186 rfl
theorem q255 : (Jvm.Cond.methodLinkNest "HullBuilder" (25 : Nat) ({ cls := "HullBuilder$Point", name := "<init>", desc := "()V" } : Jvm.MethodName) "HullBuilder") ∈ lw_tbl := lw_at lw_m1 220 rfl
theorem q256 : (Jvm.Cond.fieldLink "HullBuilder" (11 : Nat) "HullBuilder" "points" "[LHullBuilder$Point;") ∈ lw_all := lw_g (lw_at lw_m1 221 rfl) rfl
theorem q257 : (Jvm.Cond.fieldLink "HullBuilder" (18 : Nat) "HullBuilder" "hull" "LHullBuilder$Hull;") ∈ lw_all := lw_g (lw_at lw_m1 222 rfl) rfl
theorem q258 : (Jvm.Cond.fieldLink "HullBuilder" (22 : Nat) "HullBuilder" "other" "LHullBuilder$Hull;") ∈ lw_all := lw_g (lw_at lw_m1 223 rfl) rfl
theorem q259 : (Jvm.Cond.fieldLink "HullBuilder" (33 : Nat) "HullBuilder" "many" "I") ∈ lw_all := lw_g (lw_at lw_m1 224 rfl) rfl
theorem q260 : (Jvm.Cond.fieldLink "HullBuilder" (63 : Nat) "HullBuilder" "built" "I") ∈ lw_all := lw_g (lw_at lw_m1 225 rfl) rfl
theorem q261 : (Jvm.Cond.laysFinal "HullBuilder" "HullBuilder" "points" "[LHullBuilder$Point;") ∈ lw_all := lw_g (lw_at lw_m1 226 rfl) rfl
theorem q262 : (Jvm.Cond.soleField "HullBuilder" "points") ∈ lw_all := lw_g (lw_at lw_m1 227 rfl) rfl
theorem q263 : (Jvm.Cond.lays "HullBuilder" "HullBuilder" "hull" "LHullBuilder$Hull;") ∈ lw_all := lw_g (lw_at lw_m1 228 rfl) rfl
theorem q264 : (Jvm.Cond.soleField "HullBuilder" "hull") ∈ lw_all := lw_g (lw_at lw_m1 229 rfl) rfl
theorem q265 : (Jvm.Cond.lays "HullBuilder" "HullBuilder" "other" "LHullBuilder$Hull;") ∈ lw_all := lw_g (lw_at lw_m1 230 rfl) rfl
theorem q266 : (Jvm.Cond.soleField "HullBuilder" "other") ∈ lw_all := lw_g (lw_at lw_m1 231 rfl) rfl
theorem q267 : (Jvm.Cond.lays "HullBuilder" "HullBuilder" "many" "I") ∈ lw_all := lw_g (lw_at lw_m1 232 rfl) rfl
theorem q268 : (Jvm.Cond.soleField "HullBuilder" "many") ∈ lw_all := lw_g (lw_at lw_m1 233 rfl) rfl
theorem q269 : (Jvm.Cond.lays "HullBuilder" "HullBuilder" "built" "I") ∈ lw_all := lw_g (lw_at lw_m1 234 rfl) rfl
theorem q270 : (Jvm.Cond.soleField "HullBuilder" "built") ∈ lw_all := lw_g (lw_at lw_m1 235 rfl) rfl
theorem q271 : (Jvm.Cond.superclass "HullBuilder" "java/lang/Object") ∈ lw_all := lw_g (lw_at lw_m1 236 rfl) rfl
theorem q278 : (Jvm.Cond.instanceMethod ({ cls := "HullBuilder", name := "point", desc := "(III)I" } : Jvm.MethodName)) ∈ lw_all := lw_g (lw_at lw_m2 3 rfl) rfl
theorem q279 : (Jvm.Cond.selects "HullBuilder" ({ cls := "HullBuilder", name := "point", desc := "(III)I" } : Jvm.MethodName) ({ cls := "HullBuilder", name := "point", desc := "(III)I" } : Jvm.MethodName)) ∈ lw_all := lw_g (lw_at lw_m2 4 rfl) rfl
theorem q280 : (Jvm.Cond.code ({ cls := "HullBuilder", name := "point", desc := "(III)I" } : Jvm.MethodName) prog_1_method_3_code (5 : Nat) (Option.some Jvm.ClassFile.FieldType.int)) ∈ lw_all := lw_g (lw_at lw_m2 5 rfl) rfl
theorem q281 : (Jvm.Cond.methodLink "HullBuilder" (29 : Nat) ({ cls := "HullBuilder", name := "within", desc := "(II)V" } : Jvm.MethodName)) ∈ lw_all := lw_g (lw_at lw_m2 6 rfl) rfl
theorem q282 : (Jvm.Cond.static ({ cls := "HullBuilder", name := "within", desc := "(II)V" } : Jvm.MethodName)) ∈ lw_all := lw_g (lw_at lw_m2 7 rfl) rfl
theorem q283 : (Jvm.Cond.code ({ cls := "HullBuilder", name := "within", desc := "(II)V" } : Jvm.MethodName) prog_1_method_2_code (2 : Nat) (Option.none : Option Jvm.ClassFile.FieldType)) ∈ lw_all := lw_g (lw_at lw_m2 8 rfl) rfl
theorem q284 : (Jvm.Cond.classLink "HullBuilder" (26 : Nat) "java/lang/IllegalArgumentException") ∈ lw_all := lw_g (lw_at lw_m2 9 rfl) rfl
theorem q326 : (Jvm.Cond.methodLink "HullBuilder" (28 : Nat) ({ cls := "java/lang/IllegalArgumentException", name := "<init>", desc := "()V" } : Jvm.MethodName)) ∈ lw_all := lw_g (lw_at lw_m2 51 rfl) rfl
theorem q349 : (Jvm.Cond.methodLink "HullBuilder" (37 : Nat) ({ cls := "HullBuilder$Point", name := "at", desc := "(III)Z" } : Jvm.MethodName)) ∈ lw_all := lw_g (lw_at lw_m2 74 rfl) rfl
theorem q353 : (Jvm.Cond.classLink "HullBuilder" (41 : Nat) "java/lang/IllegalStateException") ∈ lw_all := lw_g (lw_at lw_m2 78 rfl) rfl
theorem q362 : (Jvm.Cond.methodLink "HullBuilder" (43 : Nat) ({ cls := "java/lang/IllegalStateException", name := "<init>", desc := "()V" } : Jvm.MethodName)) ∈ lw_all := lw_g (lw_at lw_m2 87 rfl) rfl
theorem q368 : (Jvm.Cond.methodLink "HullBuilder" (44 : Nat) ({ cls := "HullBuilder$Point", name := "set", desc := "(III)V" } : Jvm.MethodName)) ∈ lw_all := lw_g (lw_at lw_m2 93 rfl) rfl
theorem q409 : (Jvm.Cond.instanceMethod ({ cls := "HullBuilder", name := "take", desc := "(I)I" } : Jvm.MethodName)) ∈ lw_all := lw_g (lw_at lw_m2 134 rfl) rfl
theorem q410 : (Jvm.Cond.selects "HullBuilder" ({ cls := "HullBuilder", name := "take", desc := "(I)I" } : Jvm.MethodName) ({ cls := "HullBuilder", name := "take", desc := "(I)I" } : Jvm.MethodName)) ∈ lw_all := lw_g (lw_at lw_m2 135 rfl) rfl
theorem q411 : (Jvm.Cond.code ({ cls := "HullBuilder", name := "take", desc := "(I)I" } : Jvm.MethodName) prog_1_method_5_code (3 : Nat) (Option.some Jvm.ClassFile.FieldType.int)) ∈ lw_all := lw_g (lw_at lw_m2 136 rfl) rfl
theorem q412 : (Jvm.Cond.methodLink "HullBuilder" (51 : Nat) ({ cls := "HullBuilder", name := "known", desc := "(I)V" } : Jvm.MethodName)) ∈ lw_all := lw_g (lw_at lw_m2 137 rfl) rfl
theorem q413 : (Jvm.Cond.privateMethod ({ cls := "HullBuilder", name := "known", desc := "(I)V" } : Jvm.MethodName)) ∈ lw_tbl := lw_at lw_m2 138 rfl
theorem q414 : (Jvm.Cond.instanceMethod ({ cls := "HullBuilder", name := "known", desc := "(I)V" } : Jvm.MethodName)) ∈ lw_all := lw_g (lw_at lw_m2 139 rfl) rfl
theorem q415 : (Jvm.Cond.code ({ cls := "HullBuilder", name := "known", desc := "(I)V" } : Jvm.MethodName) prog_1_method_4_code (2 : Nat) (Option.none : Option Jvm.ClassFile.FieldType)) ∈ lw_all := lw_g (lw_at lw_m2 140 rfl) rfl
theorem q416 : (Jvm.Cond.classLink "HullBuilder" (48 : Nat) "java/lang/IndexOutOfBoundsException") ∈ lw_all := lw_g (lw_at lw_m2 141 rfl) rfl
theorem q425 : (Jvm.Cond.methodLink "HullBuilder" (50 : Nat) ({ cls := "java/lang/IndexOutOfBoundsException", name := "<init>", desc := "()V" } : Jvm.MethodName)) ∈ lw_all := lw_g (lw_at lw_m2 150 rfl) rfl
theorem q431 : (Jvm.Cond.methodLink "HullBuilder" (55 : Nat) ({ cls := "HullBuilder$Point", name := "copy", desc := "(LHullBuilder$Point;)V" } : Jvm.MethodName)) ∈ lw_all := lw_g (lw_at lw_m2 156 rfl) rfl
theorem q440 : (Jvm.Cond.instanceMethod ({ cls := "HullBuilder", name := "build", desc := "()I" } : Jvm.MethodName)) ∈ lw_all := lw_g (lw_at lw_m2 165 rfl) rfl
theorem q441 : (Jvm.Cond.selects "HullBuilder" ({ cls := "HullBuilder", name := "build", desc := "()I" } : Jvm.MethodName) ({ cls := "HullBuilder", name := "build", desc := "()I" } : Jvm.MethodName)) ∈ lw_all := lw_g (lw_at lw_m2 166 rfl) rfl
theorem q442 : (Jvm.Cond.code ({ cls := "HullBuilder", name := "build", desc := "()I" } : Jvm.MethodName) prog_1_method_6_code (2 : Nat) (Option.some Jvm.ClassFile.FieldType.int)) ∈ lw_all := lw_g (lw_at lw_m2 167 rfl) rfl
theorem q443 : (Jvm.Cond.methodLink "HullBuilder" (59 : Nat) ({ cls := "HullBuilder$Hull", name := "build", desc := "([LHullBuilder$Point;I)Z" } : Jvm.MethodName)) ∈ lw_all := lw_g (lw_at lw_m2 168 rfl) rfl
theorem q535 : (Jvm.Cond.instanceMethod ({ cls := "HullBuilder", name := "of", desc := "(II)I" } : Jvm.MethodName)) ∈ lw_all := lw_g (lw_at lw_m3 20 rfl) rfl
theorem q536 : (Jvm.Cond.selects "HullBuilder" ({ cls := "HullBuilder", name := "of", desc := "(II)I" } : Jvm.MethodName) ({ cls := "HullBuilder", name := "of", desc := "(II)I" } : Jvm.MethodName)) ∈ lw_all := lw_g (lw_at lw_m3 21 rfl) rfl
theorem q537 : (Jvm.Cond.code ({ cls := "HullBuilder", name := "of", desc := "(II)I" } : Jvm.MethodName) prog_1_method_7_code (3 : Nat) (Option.some Jvm.ClassFile.FieldType.int)) ∈ lw_all := lw_g (lw_at lw_m3 22 rfl) rfl
theorem q538 : (Jvm.Cond.methodLink "HullBuilder" (69 : Nat) ({ cls := "HullBuilder", name := "place", desc := "(II)V" } : Jvm.MethodName)) ∈ lw_all := lw_g (lw_at lw_m3 23 rfl) rfl
theorem q539 : (Jvm.Cond.static ({ cls := "HullBuilder", name := "place", desc := "(II)V" } : Jvm.MethodName)) ∈ lw_all := lw_g (lw_at lw_m3 24 rfl) rfl
theorem q540 : (Jvm.Cond.code ({ cls := "HullBuilder", name := "place", desc := "(II)V" } : Jvm.MethodName) prog_1_method_8_code (2 : Nat) (Option.none : Option Jvm.ClassFile.FieldType)) ∈ lw_all := lw_g (lw_at lw_m3 25 rfl) rfl
theorem q541 : (Jvm.Cond.methodLink "HullBuilder" (72 : Nat) ({ cls := "HullBuilder$Point", name := "get", desc := "(I)I" } : Jvm.MethodName)) ∈ lw_all := lw_g (lw_at lw_m3 26 rfl) rfl
theorem q549 : (Jvm.Cond.instanceMethod ({ cls := "HullBuilder", name := "face", desc := "(II)I" } : Jvm.MethodName)) ∈ lw_all := lw_g (lw_at lw_m3 34 rfl) rfl
theorem q550 : (Jvm.Cond.selects "HullBuilder" ({ cls := "HullBuilder", name := "face", desc := "(II)I" } : Jvm.MethodName) ({ cls := "HullBuilder", name := "face", desc := "(II)I" } : Jvm.MethodName)) ∈ lw_all := lw_g (lw_at lw_m3 35 rfl) rfl
theorem q551 : (Jvm.Cond.code ({ cls := "HullBuilder", name := "face", desc := "(II)I" } : Jvm.MethodName) prog_1_method_11_code (4 : Nat) (Option.some Jvm.ClassFile.FieldType.int)) ∈ lw_all := lw_g (lw_at lw_m3 36 rfl) rfl
theorem q552 : (Jvm.Cond.methodLink "HullBuilder" (83 : Nat) ({ cls := "HullBuilder", name := "getFace", desc := "(I)LHullBuilder$Face;" } : Jvm.MethodName)) ∈ lw_all := lw_g (lw_at lw_m3 37 rfl) rfl
theorem q553 : (Jvm.Cond.privateMethod ({ cls := "HullBuilder", name := "getFace", desc := "(I)LHullBuilder$Face;" } : Jvm.MethodName)) ∈ lw_tbl := lw_at lw_m3 38 rfl
theorem q554 : (Jvm.Cond.instanceMethod ({ cls := "HullBuilder", name := "getFace", desc := "(I)LHullBuilder$Face;" } : Jvm.MethodName)) ∈ lw_all := lw_g (lw_at lw_m3 39 rfl) rfl
theorem q555 : (Jvm.Cond.code ({ cls := "HullBuilder", name := "getFace", desc := "(I)LHullBuilder$Face;" } : Jvm.MethodName) prog_1_method_10_code (3 : Nat) (Option.some (Jvm.ClassFile.FieldType.object "HullBuilder$Face"))) ∈ lw_all := lw_g (lw_at lw_m3 40 rfl) rfl
theorem q556 : (Jvm.Cond.methodLink "HullBuilder" (76 : Nat) ({ cls := "HullBuilder", name := "get", desc := "()LHullBuilder$Hull;" } : Jvm.MethodName)) ∈ lw_all := lw_g (lw_at lw_m3 41 rfl) rfl
theorem q557 : (Jvm.Cond.privateMethod ({ cls := "HullBuilder", name := "get", desc := "()LHullBuilder$Hull;" } : Jvm.MethodName)) ∈ lw_tbl := lw_at lw_m3 42 rfl
theorem q558 : (Jvm.Cond.instanceMethod ({ cls := "HullBuilder", name := "get", desc := "()LHullBuilder$Hull;" } : Jvm.MethodName)) ∈ lw_all := lw_g (lw_at lw_m3 43 rfl) rfl
theorem q559 : (Jvm.Cond.code ({ cls := "HullBuilder", name := "get", desc := "()LHullBuilder$Hull;" } : Jvm.MethodName) prog_1_method_9_code (1 : Nat) (Option.some (Jvm.ClassFile.FieldType.object "HullBuilder$Hull"))) ∈ lw_all := lw_g (lw_at lw_m3 44 rfl) rfl
theorem q564 : (Jvm.Cond.instanceMethod ({ cls := "HullBuilder", name := "offset", desc := "(I)J" } : Jvm.MethodName)) ∈ lw_all := lw_g (lw_at lw_m3 49 rfl) rfl
theorem q565 : (Jvm.Cond.selects "HullBuilder" ({ cls := "HullBuilder", name := "offset", desc := "(I)J" } : Jvm.MethodName) ({ cls := "HullBuilder", name := "offset", desc := "(I)J" } : Jvm.MethodName)) ∈ lw_all := lw_g (lw_at lw_m3 50 rfl) rfl
theorem q566 : (Jvm.Cond.code ({ cls := "HullBuilder", name := "offset", desc := "(I)J" } : Jvm.MethodName) prog_1_method_12_code (2 : Nat) (Option.some Jvm.ClassFile.FieldType.long)) ∈ lw_all := lw_g (lw_at lw_m3 51 rfl) rfl
theorem q571 : (Jvm.Cond.instanceMethod ({ cls := "HullBuilder", name := "corner", desc := "(II)I" } : Jvm.MethodName)) ∈ lw_all := lw_g (lw_at lw_m3 56 rfl) rfl
theorem q572 : (Jvm.Cond.selects "HullBuilder" ({ cls := "HullBuilder", name := "corner", desc := "(II)I" } : Jvm.MethodName) ({ cls := "HullBuilder", name := "corner", desc := "(II)I" } : Jvm.MethodName)) ∈ lw_all := lw_g (lw_at lw_m3 57 rfl) rfl
theorem q573 : (Jvm.Cond.code ({ cls := "HullBuilder", name := "corner", desc := "(II)I" } : Jvm.MethodName) prog_1_method_13_code (4 : Nat) (Option.some Jvm.ClassFile.FieldType.int)) ∈ lw_all := lw_g (lw_at lw_m3 58 rfl) rfl
theorem q578 : (Jvm.Cond.instanceMethod ({ cls := "HullBuilder", name := "edge", desc := "(II)I" } : Jvm.MethodName)) ∈ lw_all := lw_g (lw_at lw_m3 63 rfl) rfl
theorem q579 : (Jvm.Cond.selects "HullBuilder" ({ cls := "HullBuilder", name := "edge", desc := "(II)I" } : Jvm.MethodName) ({ cls := "HullBuilder", name := "edge", desc := "(II)I" } : Jvm.MethodName)) ∈ lw_all := lw_g (lw_at lw_m3 64 rfl) rfl
theorem q580 : (Jvm.Cond.code ({ cls := "HullBuilder", name := "edge", desc := "(II)I" } : Jvm.MethodName) prog_1_method_14_code (4 : Nat) (Option.some Jvm.ClassFile.FieldType.int)) ∈ lw_all := lw_g (lw_at lw_m3 65 rfl) rfl
theorem q581 : (Jvm.Cond.methodLink "HullBuilder" (122 : Nat) ({ cls := "HullBuilder$Edge", name := "get", desc := "(I)I" } : Jvm.MethodName)) ∈ lw_all := lw_g (lw_at lw_m3 66 rfl) rfl
theorem q589 : (Jvm.Cond.instanceMethod ({ cls := "HullBuilder", name := "support", desc := "(III)I" } : Jvm.MethodName)) ∈ lw_all := lw_g (lw_at lw_m3 74 rfl) rfl
theorem q590 : (Jvm.Cond.selects "HullBuilder" ({ cls := "HullBuilder", name := "support", desc := "(III)I" } : Jvm.MethodName) ({ cls := "HullBuilder", name := "support", desc := "(III)I" } : Jvm.MethodName)) ∈ lw_all := lw_g (lw_at lw_m3 75 rfl) rfl
theorem q591 : (Jvm.Cond.code ({ cls := "HullBuilder", name := "support", desc := "(III)I" } : Jvm.MethodName) prog_1_method_15_code (5 : Nat) (Option.some Jvm.ClassFile.FieldType.int)) ∈ lw_all := lw_g (lw_at lw_m3 76 rfl) rfl
theorem q592 : (Jvm.Cond.constant "HullBuilder" (125 : Nat) (65536 : Int32)) ∈ lw_all := lw_g (lw_at lw_m3 77 rfl) rfl
theorem q593 : (Jvm.Cond.methodLink "HullBuilder" (126 : Nat) ({ cls := "HullBuilder$Hull", name := "support", desc := "(JJJ)I" } : Jvm.MethodName)) ∈ lw_all := lw_g (lw_at lw_m3 78 rfl) rfl
theorem q605 : (Jvm.Cond.instanceMethod ({ cls := "HullBuilder", name := "steps", desc := "(II)I" } : Jvm.MethodName)) ∈ lw_all := lw_g (lw_at lw_m3 90 rfl) rfl
theorem q606 : (Jvm.Cond.selects "HullBuilder" ({ cls := "HullBuilder", name := "steps", desc := "(II)I" } : Jvm.MethodName) ({ cls := "HullBuilder", name := "steps", desc := "(II)I" } : Jvm.MethodName)) ∈ lw_all := lw_g (lw_at lw_m3 91 rfl) rfl
theorem q607 : (Jvm.Cond.code ({ cls := "HullBuilder", name := "steps", desc := "(II)I" } : Jvm.MethodName) prog_1_method_17_code (4 : Nat) (Option.some Jvm.ClassFile.FieldType.int)) ∈ lw_all := lw_g (lw_at lw_m3 92 rfl) rfl
theorem q608 : (Jvm.Cond.methodLink "HullBuilder" (134 : Nat) ({ cls := "HullBuilder", name := "isCorner", desc := "(LHullBuilder$Hull;I)V" } : Jvm.MethodName)) ∈ lw_all := lw_g (lw_at lw_m3 93 rfl) rfl
theorem q609 : (Jvm.Cond.static ({ cls := "HullBuilder", name := "isCorner", desc := "(LHullBuilder$Hull;I)V" } : Jvm.MethodName)) ∈ lw_all := lw_g (lw_at lw_m3 94 rfl) rfl
theorem q610 : (Jvm.Cond.code ({ cls := "HullBuilder", name := "isCorner", desc := "(LHullBuilder$Hull;I)V" } : Jvm.MethodName) prog_1_method_16_code (2 : Nat) (Option.none : Option Jvm.ClassFile.FieldType)) ∈ lw_all := lw_g (lw_at lw_m3 95 rfl) rfl
theorem q611 : (Jvm.Cond.methodLink "HullBuilder" (137 : Nat) ({ cls := "HullBuilder$Hull", name := "walk", desc := "(I)V" } : Jvm.MethodName)) ∈ lw_all := lw_g (lw_at lw_m3 96 rfl) rfl
theorem q619 : (Jvm.Cond.instanceMethod ({ cls := "HullBuilder", name := "side", desc := "(III)I" } : Jvm.MethodName)) ∈ lw_all := lw_g (lw_at lw_m3 104 rfl) rfl
theorem q620 : (Jvm.Cond.selects "HullBuilder" ({ cls := "HullBuilder", name := "side", desc := "(III)I" } : Jvm.MethodName) ({ cls := "HullBuilder", name := "side", desc := "(III)I" } : Jvm.MethodName)) ∈ lw_all := lw_g (lw_at lw_m3 105 rfl) rfl
theorem q621 : (Jvm.Cond.code ({ cls := "HullBuilder", name := "side", desc := "(III)I" } : Jvm.MethodName) prog_1_method_18_code (5 : Nat) (Option.some Jvm.ClassFile.FieldType.int)) ∈ lw_all := lw_g (lw_at lw_m3 106 rfl) rfl
theorem q622 : (Jvm.Cond.methodLink "HullBuilder" (143 : Nat) ({ cls := "HullBuilder$Hull", name := "side", desc := "(JJJ)I" } : Jvm.MethodName)) ∈ lw_all := lw_g (lw_at lw_m3 107 rfl) rfl
theorem q631 : (Jvm.Cond.instanceMethod ({ cls := "HullBuilder", name := "volume", desc := "()J" } : Jvm.MethodName)) ∈ lw_all := lw_g (lw_at lw_m3 116 rfl) rfl
theorem q632 : (Jvm.Cond.selects "HullBuilder" ({ cls := "HullBuilder", name := "volume", desc := "()J" } : Jvm.MethodName) ({ cls := "HullBuilder", name := "volume", desc := "()J" } : Jvm.MethodName)) ∈ lw_all := lw_g (lw_at lw_m3 117 rfl) rfl
theorem q633 : (Jvm.Cond.code ({ cls := "HullBuilder", name := "volume", desc := "()J" } : Jvm.MethodName) prog_1_method_19_code (1 : Nat) (Option.some Jvm.ClassFile.FieldType.long)) ∈ lw_all := lw_g (lw_at lw_m3 118 rfl) rfl
theorem q634 : (Jvm.Cond.methodLink "HullBuilder" (146 : Nat) ({ cls := "HullBuilder$Hull", name := "moment", desc := "(I)J" } : Jvm.MethodName)) ∈ lw_all := lw_g (lw_at lw_m3 119 rfl) rfl
theorem q647 : (Jvm.Cond.instanceMethod ({ cls := "HullBuilder", name := "centre", desc := "(I)J" } : Jvm.MethodName)) ∈ lw_all := lw_g (lw_at lw_m3 132 rfl) rfl
theorem q648 : (Jvm.Cond.selects "HullBuilder" ({ cls := "HullBuilder", name := "centre", desc := "(I)J" } : Jvm.MethodName) ({ cls := "HullBuilder", name := "centre", desc := "(I)J" } : Jvm.MethodName)) ∈ lw_all := lw_g (lw_at lw_m3 133 rfl) rfl
theorem q649 : (Jvm.Cond.code ({ cls := "HullBuilder", name := "centre", desc := "(I)J" } : Jvm.MethodName) prog_1_method_20_code (3 : Nat) (Option.some Jvm.ClassFile.FieldType.long)) ∈ lw_all := lw_g (lw_at lw_m3 134 rfl) rfl
theorem q654 : (Jvm.Cond.instanceMethod ({ cls := "HullBuilder", name := "middle", desc := "(I)D" } : Jvm.MethodName)) ∈ lw_all := lw_g (lw_at lw_m3 139 rfl) rfl
theorem q655 : (Jvm.Cond.selects "HullBuilder" ({ cls := "HullBuilder", name := "middle", desc := "(I)D" } : Jvm.MethodName) ({ cls := "HullBuilder", name := "middle", desc := "(I)D" } : Jvm.MethodName)) ∈ lw_all := lw_g (lw_at lw_m3 140 rfl) rfl
theorem q656 : (Jvm.Cond.code ({ cls := "HullBuilder", name := "middle", desc := "(I)D" } : Jvm.MethodName) prog_1_method_21_code (3 : Nat) (Option.some Jvm.ClassFile.FieldType.double)) ∈ lw_all := lw_g (lw_at lw_m3 141 rfl) rfl
theorem q657 : (Jvm.Cond.constantLong "HullBuilder" (150 : Nat) (4 : Int64)) ∈ lw_all := lw_g (lw_at lw_m3 142 rfl) rfl
theorem q662 : (Jvm.Cond.instanceMethod ({ cls := "HullBuilder", name := "count", desc := "(I)I" } : Jvm.MethodName)) ∈ lw_all := lw_g (lw_at lw_m3 147 rfl) rfl
theorem q663 : (Jvm.Cond.selects "HullBuilder" ({ cls := "HullBuilder", name := "count", desc := "(I)I" } : Jvm.MethodName) ({ cls := "HullBuilder", name := "count", desc := "(I)I" } : Jvm.MethodName)) ∈ lw_all := lw_g (lw_at lw_m3 148 rfl) rfl
theorem q664 : (Jvm.Cond.code ({ cls := "HullBuilder", name := "count", desc := "(I)I" } : Jvm.MethodName) prog_1_method_22_code (3 : Nat) (Option.some Jvm.ClassFile.FieldType.int)) ∈ lw_all := lw_g (lw_at lw_m3 149 rfl) rfl
theorem in_X1 : ∀ w ∈ wsX10, w ∈ lw_all := lw_in wsX10 [261, 263, 265, 267, 269] (by decide +kernel) (by decide +kernel)
end
