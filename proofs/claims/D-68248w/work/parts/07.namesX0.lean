section
/-! HullBuilderLaw -/
set_option maxRecDepth 100000
def RX0 : String := "HullBuilderLaw"
abbrev cX0_point : ByteArray := method_3_code
def yX0_point : MethodName := ⟨RX0, "point", "(LHullBuilder;III[J)I"⟩
theorem dX0_point_0 : decode cX0_point 0 = .ok (.aload 4, 2) := by decide +kernel
theorem dX0_point_2 : decode cX0_point 2 = .ok (.iconst 0, 1) := by decide +kernel
theorem dX0_point_3 : decode cX0_point 3 = .ok (.aload_n 0, 1) := by decide +kernel
theorem dX0_point_4 : decode cX0_point 4 = .ok (.iload_n 1, 1) := by decide +kernel
theorem dX0_point_5 : decode cX0_point 5 = .ok (.iload_n 2, 1) := by decide +kernel
theorem dX0_point_6 : decode cX0_point 6 = .ok (.iload_n 3, 1) := by decide +kernel
theorem dX0_point_7 : decode cX0_point 7 = .ok (.invokevirtual 7, 3) := by decide +kernel
theorem dX0_point_10 : decode cX0_point 10 = .ok (.i2l, 1) := by decide +kernel
theorem dX0_point_11 : decode cX0_point 11 = .ok (.lastore, 1) := by decide +kernel
theorem dX0_point_12 : decode cX0_point 12 = .ok (.goto 11, 3) := by decide +kernel
theorem dX0_point_15 : decode cX0_point 15 = .ok (.astore 5, 2) := by decide +kernel
theorem dX0_point_17 : decode cX0_point 17 = .ok (.iconst 1, 1) := by decide +kernel
theorem dX0_point_18 : decode cX0_point 18 = .ok (.ireturn, 1) := by decide +kernel
theorem dX0_point_19 : decode cX0_point 19 = .ok (.astore 5, 2) := by decide +kernel
theorem dX0_point_21 : decode cX0_point 21 = .ok (.iconst 2, 1) := by decide +kernel
theorem dX0_point_22 : decode cX0_point 22 = .ok (.ireturn, 1) := by decide +kernel
theorem dX0_point_23 : decode cX0_point 23 = .ok (.iconst 0, 1) := by decide +kernel
theorem dX0_point_24 : decode cX0_point 24 = .ok (.ireturn, 1) := by decide +kernel
abbrev cX0_take : ByteArray := method_4_code
def yX0_take : MethodName := ⟨RX0, "take", "(LHullBuilder;I[J)I"⟩
theorem dX0_take_0 : decode cX0_take 0 = .ok (.aload_n 2, 1) := by decide +kernel
theorem dX0_take_1 : decode cX0_take 1 = .ok (.iconst 0, 1) := by decide +kernel
theorem dX0_take_2 : decode cX0_take 2 = .ok (.aload_n 0, 1) := by decide +kernel
theorem dX0_take_3 : decode cX0_take 3 = .ok (.iload_n 1, 1) := by decide +kernel
theorem dX0_take_4 : decode cX0_take 4 = .ok (.invokevirtual 17, 3) := by decide +kernel
theorem dX0_take_7 : decode cX0_take 7 = .ok (.i2l, 1) := by decide +kernel
theorem dX0_take_8 : decode cX0_take 8 = .ok (.lastore, 1) := by decide +kernel
theorem dX0_take_9 : decode cX0_take 9 = .ok (.goto 6, 3) := by decide +kernel
theorem dX0_take_12 : decode cX0_take 12 = .ok (.astore_n 3, 1) := by decide +kernel
theorem dX0_take_13 : decode cX0_take 13 = .ok (.iconst 1, 1) := by decide +kernel
theorem dX0_take_14 : decode cX0_take 14 = .ok (.ireturn, 1) := by decide +kernel
theorem dX0_take_15 : decode cX0_take 15 = .ok (.iconst 0, 1) := by decide +kernel
theorem dX0_take_16 : decode cX0_take 16 = .ok (.ireturn, 1) := by decide +kernel
abbrev cX0_build : ByteArray := method_5_code
def yX0_build : MethodName := ⟨RX0, "build", "(LHullBuilder;[J)I"⟩
theorem dX0_build_0 : decode cX0_build 0 = .ok (.aload_n 1, 1) := by decide +kernel
theorem dX0_build_1 : decode cX0_build 1 = .ok (.iconst 0, 1) := by decide +kernel
theorem dX0_build_2 : decode cX0_build 2 = .ok (.aload_n 0, 1) := by decide +kernel
theorem dX0_build_3 : decode cX0_build 3 = .ok (.invokevirtual 23, 3) := by decide +kernel
theorem dX0_build_6 : decode cX0_build 6 = .ok (.i2l, 1) := by decide +kernel
theorem dX0_build_7 : decode cX0_build 7 = .ok (.lastore, 1) := by decide +kernel
theorem dX0_build_8 : decode cX0_build 8 = .ok (.goto 6, 3) := by decide +kernel
theorem dX0_build_11 : decode cX0_build 11 = .ok (.astore_n 2, 1) := by decide +kernel
theorem dX0_build_12 : decode cX0_build 12 = .ok (.iconst 1, 1) := by decide +kernel
theorem dX0_build_13 : decode cX0_build 13 = .ok (.ireturn, 1) := by decide +kernel
theorem dX0_build_14 : decode cX0_build 14 = .ok (.iconst 0, 1) := by decide +kernel
theorem dX0_build_15 : decode cX0_build 15 = .ok (.ireturn, 1) := by decide +kernel
abbrev cX0_of : ByteArray := method_6_code
def yX0_of : MethodName := ⟨RX0, "of", "(LHullBuilder;II[J)I"⟩
theorem dX0_of_0 : decode cX0_of 0 = .ok (.aload_n 3, 1) := by decide +kernel
theorem dX0_of_1 : decode cX0_of 1 = .ok (.iconst 0, 1) := by decide +kernel
theorem dX0_of_2 : decode cX0_of 2 = .ok (.aload_n 0, 1) := by decide +kernel
theorem dX0_of_3 : decode cX0_of 3 = .ok (.iload_n 1, 1) := by decide +kernel
theorem dX0_of_4 : decode cX0_of 4 = .ok (.iload_n 2, 1) := by decide +kernel
theorem dX0_of_5 : decode cX0_of 5 = .ok (.invokevirtual 27, 3) := by decide +kernel
theorem dX0_of_8 : decode cX0_of 8 = .ok (.i2l, 1) := by decide +kernel
theorem dX0_of_9 : decode cX0_of 9 = .ok (.lastore, 1) := by decide +kernel
theorem dX0_of_10 : decode cX0_of 10 = .ok (.goto 7, 3) := by decide +kernel
theorem dX0_of_13 : decode cX0_of 13 = .ok (.astore 4, 2) := by decide +kernel
theorem dX0_of_15 : decode cX0_of 15 = .ok (.iconst 1, 1) := by decide +kernel
theorem dX0_of_16 : decode cX0_of 16 = .ok (.ireturn, 1) := by decide +kernel
theorem dX0_of_17 : decode cX0_of 17 = .ok (.iconst 0, 1) := by decide +kernel
theorem dX0_of_18 : decode cX0_of 18 = .ok (.ireturn, 1) := by decide +kernel
abbrev cX0_face : ByteArray := method_7_code
def yX0_face : MethodName := ⟨RX0, "face", "(LHullBuilder;II[J)I"⟩
theorem dX0_face_0 : decode cX0_face 0 = .ok (.aload_n 3, 1) := by decide +kernel
theorem dX0_face_1 : decode cX0_face 1 = .ok (.iconst 0, 1) := by decide +kernel
theorem dX0_face_2 : decode cX0_face 2 = .ok (.aload_n 0, 1) := by decide +kernel
theorem dX0_face_3 : decode cX0_face 3 = .ok (.iload_n 1, 1) := by decide +kernel
theorem dX0_face_4 : decode cX0_face 4 = .ok (.iload_n 2, 1) := by decide +kernel
theorem dX0_face_5 : decode cX0_face 5 = .ok (.invokevirtual 31, 3) := by decide +kernel
theorem dX0_face_8 : decode cX0_face 8 = .ok (.i2l, 1) := by decide +kernel
theorem dX0_face_9 : decode cX0_face 9 = .ok (.lastore, 1) := by decide +kernel
theorem dX0_face_10 : decode cX0_face 10 = .ok (.goto 11, 3) := by decide +kernel
theorem dX0_face_13 : decode cX0_face 13 = .ok (.astore 4, 2) := by decide +kernel
theorem dX0_face_15 : decode cX0_face 15 = .ok (.iconst 1, 1) := by decide +kernel
theorem dX0_face_16 : decode cX0_face 16 = .ok (.ireturn, 1) := by decide +kernel
theorem dX0_face_17 : decode cX0_face 17 = .ok (.astore 4, 2) := by decide +kernel
theorem dX0_face_19 : decode cX0_face 19 = .ok (.iconst 2, 1) := by decide +kernel
theorem dX0_face_20 : decode cX0_face 20 = .ok (.ireturn, 1) := by decide +kernel
theorem dX0_face_21 : decode cX0_face 21 = .ok (.iconst 0, 1) := by decide +kernel
theorem dX0_face_22 : decode cX0_face 22 = .ok (.ireturn, 1) := by decide +kernel
abbrev cX0_offset : ByteArray := method_8_code
def yX0_offset : MethodName := ⟨RX0, "offset", "(LHullBuilder;I[J)I"⟩
theorem dX0_offset_0 : decode cX0_offset 0 = .ok (.aload_n 2, 1) := by decide +kernel
theorem dX0_offset_1 : decode cX0_offset 1 = .ok (.iconst 0, 1) := by decide +kernel
theorem dX0_offset_2 : decode cX0_offset 2 = .ok (.aload_n 0, 1) := by decide +kernel
theorem dX0_offset_3 : decode cX0_offset 3 = .ok (.iload_n 1, 1) := by decide +kernel
theorem dX0_offset_4 : decode cX0_offset 4 = .ok (.invokevirtual 34, 3) := by decide +kernel
theorem dX0_offset_7 : decode cX0_offset 7 = .ok (.lastore, 1) := by decide +kernel
theorem dX0_offset_8 : decode cX0_offset 8 = .ok (.goto 9, 3) := by decide +kernel
theorem dX0_offset_11 : decode cX0_offset 11 = .ok (.astore_n 3, 1) := by decide +kernel
theorem dX0_offset_12 : decode cX0_offset 12 = .ok (.iconst 1, 1) := by decide +kernel
theorem dX0_offset_13 : decode cX0_offset 13 = .ok (.ireturn, 1) := by decide +kernel
theorem dX0_offset_14 : decode cX0_offset 14 = .ok (.astore_n 3, 1) := by decide +kernel
theorem dX0_offset_15 : decode cX0_offset 15 = .ok (.iconst 2, 1) := by decide +kernel
theorem dX0_offset_16 : decode cX0_offset 16 = .ok (.ireturn, 1) := by decide +kernel
theorem dX0_offset_17 : decode cX0_offset 17 = .ok (.iconst 0, 1) := by decide +kernel
theorem dX0_offset_18 : decode cX0_offset 18 = .ok (.ireturn, 1) := by decide +kernel
abbrev cX0_corner : ByteArray := method_9_code
def yX0_corner : MethodName := ⟨RX0, "corner", "(LHullBuilder;II[J)I"⟩
theorem dX0_corner_0 : decode cX0_corner 0 = .ok (.aload_n 3, 1) := by decide +kernel
theorem dX0_corner_1 : decode cX0_corner 1 = .ok (.iconst 0, 1) := by decide +kernel
theorem dX0_corner_2 : decode cX0_corner 2 = .ok (.aload_n 0, 1) := by decide +kernel
theorem dX0_corner_3 : decode cX0_corner 3 = .ok (.iload_n 1, 1) := by decide +kernel
theorem dX0_corner_4 : decode cX0_corner 4 = .ok (.iload_n 2, 1) := by decide +kernel
theorem dX0_corner_5 : decode cX0_corner 5 = .ok (.invokevirtual 38, 3) := by decide +kernel
theorem dX0_corner_8 : decode cX0_corner 8 = .ok (.i2l, 1) := by decide +kernel
theorem dX0_corner_9 : decode cX0_corner 9 = .ok (.lastore, 1) := by decide +kernel
theorem dX0_corner_10 : decode cX0_corner 10 = .ok (.goto 11, 3) := by decide +kernel
theorem dX0_corner_13 : decode cX0_corner 13 = .ok (.astore 4, 2) := by decide +kernel
theorem dX0_corner_15 : decode cX0_corner 15 = .ok (.iconst 1, 1) := by decide +kernel
theorem dX0_corner_16 : decode cX0_corner 16 = .ok (.ireturn, 1) := by decide +kernel
theorem dX0_corner_17 : decode cX0_corner 17 = .ok (.astore 4, 2) := by decide +kernel
theorem dX0_corner_19 : decode cX0_corner 19 = .ok (.iconst 2, 1) := by decide +kernel
theorem dX0_corner_20 : decode cX0_corner 20 = .ok (.ireturn, 1) := by decide +kernel
theorem dX0_corner_21 : decode cX0_corner 21 = .ok (.iconst 0, 1) := by decide +kernel
theorem dX0_corner_22 : decode cX0_corner 22 = .ok (.ireturn, 1) := by decide +kernel
abbrev cX0_edge : ByteArray := method_10_code
def yX0_edge : MethodName := ⟨RX0, "edge", "(LHullBuilder;II[J)I"⟩
theorem dX0_edge_0 : decode cX0_edge 0 = .ok (.aload_n 3, 1) := by decide +kernel
theorem dX0_edge_1 : decode cX0_edge 1 = .ok (.iconst 0, 1) := by decide +kernel
theorem dX0_edge_2 : decode cX0_edge 2 = .ok (.aload_n 0, 1) := by decide +kernel
theorem dX0_edge_3 : decode cX0_edge 3 = .ok (.iload_n 1, 1) := by decide +kernel
theorem dX0_edge_4 : decode cX0_edge 4 = .ok (.iload_n 2, 1) := by decide +kernel
theorem dX0_edge_5 : decode cX0_edge 5 = .ok (.invokevirtual 41, 3) := by decide +kernel
theorem dX0_edge_8 : decode cX0_edge 8 = .ok (.i2l, 1) := by decide +kernel
theorem dX0_edge_9 : decode cX0_edge 9 = .ok (.lastore, 1) := by decide +kernel
theorem dX0_edge_10 : decode cX0_edge 10 = .ok (.goto 11, 3) := by decide +kernel
theorem dX0_edge_13 : decode cX0_edge 13 = .ok (.astore 4, 2) := by decide +kernel
theorem dX0_edge_15 : decode cX0_edge 15 = .ok (.iconst 1, 1) := by decide +kernel
theorem dX0_edge_16 : decode cX0_edge 16 = .ok (.ireturn, 1) := by decide +kernel
theorem dX0_edge_17 : decode cX0_edge 17 = .ok (.astore 4, 2) := by decide +kernel
theorem dX0_edge_19 : decode cX0_edge 19 = .ok (.iconst 2, 1) := by decide +kernel
theorem dX0_edge_20 : decode cX0_edge 20 = .ok (.ireturn, 1) := by decide +kernel
theorem dX0_edge_21 : decode cX0_edge 21 = .ok (.iconst 0, 1) := by decide +kernel
theorem dX0_edge_22 : decode cX0_edge 22 = .ok (.ireturn, 1) := by decide +kernel
abbrev cX0_support : ByteArray := method_11_code
def yX0_support : MethodName := ⟨RX0, "support", "(LHullBuilder;III[J)I"⟩
theorem dX0_support_0 : decode cX0_support 0 = .ok (.aload 4, 2) := by decide +kernel
theorem dX0_support_2 : decode cX0_support 2 = .ok (.iconst 0, 1) := by decide +kernel
theorem dX0_support_3 : decode cX0_support 3 = .ok (.aload_n 0, 1) := by decide +kernel
theorem dX0_support_4 : decode cX0_support 4 = .ok (.iload_n 1, 1) := by decide +kernel
theorem dX0_support_5 : decode cX0_support 5 = .ok (.iload_n 2, 1) := by decide +kernel
theorem dX0_support_6 : decode cX0_support 6 = .ok (.iload_n 3, 1) := by decide +kernel
theorem dX0_support_7 : decode cX0_support 7 = .ok (.invokevirtual 44, 3) := by decide +kernel
theorem dX0_support_10 : decode cX0_support 10 = .ok (.i2l, 1) := by decide +kernel
theorem dX0_support_11 : decode cX0_support 11 = .ok (.lastore, 1) := by decide +kernel
theorem dX0_support_12 : decode cX0_support 12 = .ok (.goto 11, 3) := by decide +kernel
theorem dX0_support_15 : decode cX0_support 15 = .ok (.astore 5, 2) := by decide +kernel
theorem dX0_support_17 : decode cX0_support 17 = .ok (.iconst 1, 1) := by decide +kernel
theorem dX0_support_18 : decode cX0_support 18 = .ok (.ireturn, 1) := by decide +kernel
theorem dX0_support_19 : decode cX0_support 19 = .ok (.astore 5, 2) := by decide +kernel
theorem dX0_support_21 : decode cX0_support 21 = .ok (.iconst 2, 1) := by decide +kernel
theorem dX0_support_22 : decode cX0_support 22 = .ok (.ireturn, 1) := by decide +kernel
theorem dX0_support_23 : decode cX0_support 23 = .ok (.iconst 0, 1) := by decide +kernel
theorem dX0_support_24 : decode cX0_support 24 = .ok (.ireturn, 1) := by decide +kernel
abbrev cX0_steps : ByteArray := method_12_code
def yX0_steps : MethodName := ⟨RX0, "steps", "(LHullBuilder;II[J)I"⟩
theorem dX0_steps_0 : decode cX0_steps 0 = .ok (.aload_n 3, 1) := by decide +kernel
theorem dX0_steps_1 : decode cX0_steps 1 = .ok (.iconst 0, 1) := by decide +kernel
theorem dX0_steps_2 : decode cX0_steps 2 = .ok (.aload_n 0, 1) := by decide +kernel
theorem dX0_steps_3 : decode cX0_steps 3 = .ok (.iload_n 1, 1) := by decide +kernel
theorem dX0_steps_4 : decode cX0_steps 4 = .ok (.iload_n 2, 1) := by decide +kernel
theorem dX0_steps_5 : decode cX0_steps 5 = .ok (.invokevirtual 47, 3) := by decide +kernel
theorem dX0_steps_8 : decode cX0_steps 8 = .ok (.i2l, 1) := by decide +kernel
theorem dX0_steps_9 : decode cX0_steps 9 = .ok (.lastore, 1) := by decide +kernel
theorem dX0_steps_10 : decode cX0_steps 10 = .ok (.goto 11, 3) := by decide +kernel
theorem dX0_steps_13 : decode cX0_steps 13 = .ok (.astore 4, 2) := by decide +kernel
theorem dX0_steps_15 : decode cX0_steps 15 = .ok (.iconst 1, 1) := by decide +kernel
theorem dX0_steps_16 : decode cX0_steps 16 = .ok (.ireturn, 1) := by decide +kernel
theorem dX0_steps_17 : decode cX0_steps 17 = .ok (.astore 4, 2) := by decide +kernel
theorem dX0_steps_19 : decode cX0_steps 19 = .ok (.iconst 2, 1) := by decide +kernel
theorem dX0_steps_20 : decode cX0_steps 20 = .ok (.ireturn, 1) := by decide +kernel
theorem dX0_steps_21 : decode cX0_steps 21 = .ok (.iconst 0, 1) := by decide +kernel
theorem dX0_steps_22 : decode cX0_steps 22 = .ok (.ireturn, 1) := by decide +kernel
abbrev cX0_side : ByteArray := method_13_code
def yX0_side : MethodName := ⟨RX0, "side", "(LHullBuilder;III[J)I"⟩
theorem dX0_side_0 : decode cX0_side 0 = .ok (.aload 4, 2) := by decide +kernel
theorem dX0_side_2 : decode cX0_side 2 = .ok (.iconst 0, 1) := by decide +kernel
theorem dX0_side_3 : decode cX0_side 3 = .ok (.aload_n 0, 1) := by decide +kernel
theorem dX0_side_4 : decode cX0_side 4 = .ok (.iload_n 1, 1) := by decide +kernel
theorem dX0_side_5 : decode cX0_side 5 = .ok (.iload_n 2, 1) := by decide +kernel
theorem dX0_side_6 : decode cX0_side 6 = .ok (.iload_n 3, 1) := by decide +kernel
theorem dX0_side_7 : decode cX0_side 7 = .ok (.invokevirtual 50, 3) := by decide +kernel
theorem dX0_side_10 : decode cX0_side 10 = .ok (.i2l, 1) := by decide +kernel
theorem dX0_side_11 : decode cX0_side 11 = .ok (.lastore, 1) := by decide +kernel
theorem dX0_side_12 : decode cX0_side 12 = .ok (.goto 11, 3) := by decide +kernel
theorem dX0_side_15 : decode cX0_side 15 = .ok (.astore 5, 2) := by decide +kernel
theorem dX0_side_17 : decode cX0_side 17 = .ok (.iconst 1, 1) := by decide +kernel
theorem dX0_side_18 : decode cX0_side 18 = .ok (.ireturn, 1) := by decide +kernel
theorem dX0_side_19 : decode cX0_side 19 = .ok (.astore 5, 2) := by decide +kernel
theorem dX0_side_21 : decode cX0_side 21 = .ok (.iconst 2, 1) := by decide +kernel
theorem dX0_side_22 : decode cX0_side 22 = .ok (.ireturn, 1) := by decide +kernel
theorem dX0_side_23 : decode cX0_side 23 = .ok (.iconst 0, 1) := by decide +kernel
theorem dX0_side_24 : decode cX0_side 24 = .ok (.ireturn, 1) := by decide +kernel
abbrev cX0_volume : ByteArray := method_14_code
def yX0_volume : MethodName := ⟨RX0, "volume", "(LHullBuilder;[J)I"⟩
theorem dX0_volume_0 : decode cX0_volume 0 = .ok (.aload_n 1, 1) := by decide +kernel
theorem dX0_volume_1 : decode cX0_volume 1 = .ok (.iconst 0, 1) := by decide +kernel
theorem dX0_volume_2 : decode cX0_volume 2 = .ok (.aload_n 0, 1) := by decide +kernel
theorem dX0_volume_3 : decode cX0_volume 3 = .ok (.invokevirtual 53, 3) := by decide +kernel
theorem dX0_volume_6 : decode cX0_volume 6 = .ok (.lastore, 1) := by decide +kernel
theorem dX0_volume_7 : decode cX0_volume 7 = .ok (.goto 6, 3) := by decide +kernel
theorem dX0_volume_10 : decode cX0_volume 10 = .ok (.astore_n 2, 1) := by decide +kernel
theorem dX0_volume_11 : decode cX0_volume 11 = .ok (.iconst 1, 1) := by decide +kernel
theorem dX0_volume_12 : decode cX0_volume 12 = .ok (.ireturn, 1) := by decide +kernel
theorem dX0_volume_13 : decode cX0_volume 13 = .ok (.iconst 0, 1) := by decide +kernel
theorem dX0_volume_14 : decode cX0_volume 14 = .ok (.ireturn, 1) := by decide +kernel
abbrev cX0_centre : ByteArray := method_15_code
def yX0_centre : MethodName := ⟨RX0, "centre", "(LHullBuilder;I[J)I"⟩
theorem dX0_centre_0 : decode cX0_centre 0 = .ok (.aload_n 2, 1) := by decide +kernel
theorem dX0_centre_1 : decode cX0_centre 1 = .ok (.iconst 0, 1) := by decide +kernel
theorem dX0_centre_2 : decode cX0_centre 2 = .ok (.aload_n 0, 1) := by decide +kernel
theorem dX0_centre_3 : decode cX0_centre 3 = .ok (.iload_n 1, 1) := by decide +kernel
theorem dX0_centre_4 : decode cX0_centre 4 = .ok (.invokevirtual 57, 3) := by decide +kernel
theorem dX0_centre_7 : decode cX0_centre 7 = .ok (.lastore, 1) := by decide +kernel
theorem dX0_centre_8 : decode cX0_centre 8 = .ok (.goto 9, 3) := by decide +kernel
theorem dX0_centre_11 : decode cX0_centre 11 = .ok (.astore_n 3, 1) := by decide +kernel
theorem dX0_centre_12 : decode cX0_centre 12 = .ok (.iconst 1, 1) := by decide +kernel
theorem dX0_centre_13 : decode cX0_centre 13 = .ok (.ireturn, 1) := by decide +kernel
theorem dX0_centre_14 : decode cX0_centre 14 = .ok (.astore_n 3, 1) := by decide +kernel
theorem dX0_centre_15 : decode cX0_centre 15 = .ok (.iconst 2, 1) := by decide +kernel
theorem dX0_centre_16 : decode cX0_centre 16 = .ok (.ireturn, 1) := by decide +kernel
theorem dX0_centre_17 : decode cX0_centre 17 = .ok (.iconst 0, 1) := by decide +kernel
theorem dX0_centre_18 : decode cX0_centre 18 = .ok (.ireturn, 1) := by decide +kernel
abbrev cX0_middle : ByteArray := method_16_code
def yX0_middle : MethodName := ⟨RX0, "middle", "(LHullBuilder;I[D)I"⟩
theorem dX0_middle_0 : decode cX0_middle 0 = .ok (.aload_n 2, 1) := by decide +kernel
theorem dX0_middle_1 : decode cX0_middle 1 = .ok (.iconst 0, 1) := by decide +kernel
theorem dX0_middle_2 : decode cX0_middle 2 = .ok (.aload_n 0, 1) := by decide +kernel
theorem dX0_middle_3 : decode cX0_middle 3 = .ok (.iload_n 1, 1) := by decide +kernel
theorem dX0_middle_4 : decode cX0_middle 4 = .ok (.invokevirtual 60, 3) := by decide +kernel
theorem dX0_middle_7 : decode cX0_middle 7 = .ok (.dastore, 1) := by decide +kernel
theorem dX0_middle_8 : decode cX0_middle 8 = .ok (.goto 9, 3) := by decide +kernel
theorem dX0_middle_11 : decode cX0_middle 11 = .ok (.astore_n 3, 1) := by decide +kernel
theorem dX0_middle_12 : decode cX0_middle 12 = .ok (.iconst 1, 1) := by decide +kernel
theorem dX0_middle_13 : decode cX0_middle 13 = .ok (.ireturn, 1) := by decide +kernel
theorem dX0_middle_14 : decode cX0_middle 14 = .ok (.astore_n 3, 1) := by decide +kernel
theorem dX0_middle_15 : decode cX0_middle 15 = .ok (.iconst 2, 1) := by decide +kernel
theorem dX0_middle_16 : decode cX0_middle 16 = .ok (.ireturn, 1) := by decide +kernel
theorem dX0_middle_17 : decode cX0_middle 17 = .ok (.iconst 0, 1) := by decide +kernel
theorem dX0_middle_18 : decode cX0_middle 18 = .ok (.ireturn, 1) := by decide +kernel
abbrev cX0_count : ByteArray := method_17_code
def yX0_count : MethodName := ⟨RX0, "count", "(LHullBuilder;I[J)I"⟩
theorem dX0_count_0 : decode cX0_count 0 = .ok (.aload_n 2, 1) := by decide +kernel
theorem dX0_count_1 : decode cX0_count 1 = .ok (.iconst 0, 1) := by decide +kernel
theorem dX0_count_2 : decode cX0_count 2 = .ok (.aload_n 0, 1) := by decide +kernel
theorem dX0_count_3 : decode cX0_count 3 = .ok (.iload_n 1, 1) := by decide +kernel
theorem dX0_count_4 : decode cX0_count 4 = .ok (.invokevirtual 64, 3) := by decide +kernel
theorem dX0_count_7 : decode cX0_count 7 = .ok (.i2l, 1) := by decide +kernel
theorem dX0_count_8 : decode cX0_count 8 = .ok (.lastore, 1) := by decide +kernel
theorem dX0_count_9 : decode cX0_count 9 = .ok (.goto 6, 3) := by decide +kernel
theorem dX0_count_12 : decode cX0_count 12 = .ok (.astore_n 3, 1) := by decide +kernel
theorem dX0_count_13 : decode cX0_count 13 = .ok (.iconst 1, 1) := by decide +kernel
theorem dX0_count_14 : decode cX0_count 14 = .ok (.ireturn, 1) := by decide +kernel
theorem dX0_count_15 : decode cX0_count 15 = .ok (.iconst 0, 1) := by decide +kernel
theorem dX0_count_16 : decode cX0_count 16 = .ok (.ireturn, 1) := by decide +kernel
theorem q35 : (Jvm.Cond.initialized "HullBuilderLaw") ∈ lw_all := lw_g (lw_at lw_m1 0 rfl) rfl
theorem q53 : (Jvm.Cond.classLink "HullBuilderLaw" (8 : Nat) "HullBuilder") ∈ lw_all := lw_g (lw_at lw_m1 18 rfl) rfl
theorem q55 : (Jvm.Cond.methodLink "HullBuilderLaw" (67 : Nat) ({ cls := "HullBuilder", name := "<init>", desc := "()V" } : Jvm.MethodName)) ∈ lw_all := lw_g (lw_at lw_m1 20 rfl) rfl
theorem q272 : (Jvm.Cond.methodLink "HullBuilderLaw" (71 : Nat) ({ cls := "HullBuilderLaw", name := "point", desc := "(LHullBuilder;III[J)I" } : Jvm.MethodName)) ∈ lw_all := lw_g (lw_at lw_m1 237 rfl) rfl
theorem q273 : (Jvm.Cond.static ({ cls := "HullBuilderLaw", name := "point", desc := "(LHullBuilder;III[J)I" } : Jvm.MethodName)) ∈ lw_all := lw_g (lw_at lw_m1 238 rfl) rfl
theorem q274 : (Jvm.Cond.codeWith ({ cls := "HullBuilderLaw", name := "point", desc := "(LHullBuilder;III[J)I" } : Jvm.MethodName) method_3_code (6 : Nat) (Option.some Jvm.ClassFile.FieldType.int) [((0 : Nat), (12 : Nat), (15 : Nat), (13 : Nat)), ((0 : Nat), (12 : Nat), (19 : Nat), (15 : Nat))]) ∈ lw_all := lw_g (lw_at lw_m1 239 rfl) rfl
theorem q275 : (Jvm.Cond.classLink "HullBuilderLaw" (13 : Nat) "java/lang/IllegalArgumentException") ∈ lw_all := lw_g (lw_at lw_m2 0 rfl) rfl
theorem q276 : (Jvm.Cond.classLink "HullBuilderLaw" (15 : Nat) "java/lang/IllegalStateException") ∈ lw_all := lw_g (lw_at lw_m2 1 rfl) rfl
theorem q277 : (Jvm.Cond.methodLink "HullBuilderLaw" (7 : Nat) ({ cls := "HullBuilder", name := "point", desc := "(III)I" } : Jvm.MethodName)) ∈ lw_all := lw_g (lw_at lw_m2 2 rfl) rfl
theorem q372 : (Jvm.Cond.methodLink "HullBuilderLaw" (80 : Nat) ({ cls := "HullBuilderLaw", name := "take", desc := "(LHullBuilder;I[J)I" } : Jvm.MethodName)) ∈ lw_all := lw_g (lw_at lw_m2 97 rfl) rfl
theorem q373 : (Jvm.Cond.static ({ cls := "HullBuilderLaw", name := "take", desc := "(LHullBuilder;I[J)I" } : Jvm.MethodName)) ∈ lw_all := lw_g (lw_at lw_m2 98 rfl) rfl
theorem q374 : (Jvm.Cond.codeWith ({ cls := "HullBuilderLaw", name := "take", desc := "(LHullBuilder;I[J)I" } : Jvm.MethodName) method_4_code (4 : Nat) (Option.some Jvm.ClassFile.FieldType.int) [((0 : Nat), (9 : Nat), (12 : Nat), (21 : Nat))]) ∈ lw_all := lw_g (lw_at lw_m2 99 rfl) rfl
theorem q375 : (Jvm.Cond.classLink "HullBuilderLaw" (21 : Nat) "java/lang/IndexOutOfBoundsException") ∈ lw_all := lw_g (lw_at lw_m2 100 rfl) rfl
theorem q408 : (Jvm.Cond.methodLink "HullBuilderLaw" (17 : Nat) ({ cls := "HullBuilder", name := "take", desc := "(I)I" } : Jvm.MethodName)) ∈ lw_all := lw_g (lw_at lw_m2 133 rfl) rfl
theorem q436 : (Jvm.Cond.methodLink "HullBuilderLaw" (84 : Nat) ({ cls := "HullBuilderLaw", name := "build", desc := "(LHullBuilder;[J)I" } : Jvm.MethodName)) ∈ lw_all := lw_g (lw_at lw_m2 161 rfl) rfl
theorem q437 : (Jvm.Cond.static ({ cls := "HullBuilderLaw", name := "build", desc := "(LHullBuilder;[J)I" } : Jvm.MethodName)) ∈ lw_all := lw_g (lw_at lw_m2 162 rfl) rfl
theorem q438 : (Jvm.Cond.codeWith ({ cls := "HullBuilderLaw", name := "build", desc := "(LHullBuilder;[J)I" } : Jvm.MethodName) method_5_code (3 : Nat) (Option.some Jvm.ClassFile.FieldType.int) [((0 : Nat), (8 : Nat), (11 : Nat), (15 : Nat))]) ∈ lw_all := lw_g (lw_at lw_m2 163 rfl) rfl
theorem q439 : (Jvm.Cond.methodLink "HullBuilderLaw" (23 : Nat) ({ cls := "HullBuilder", name := "build", desc := "()I" } : Jvm.MethodName)) ∈ lw_all := lw_g (lw_at lw_m2 164 rfl) rfl
theorem q531 : (Jvm.Cond.methodLink "HullBuilderLaw" (88 : Nat) ({ cls := "HullBuilderLaw", name := "of", desc := "(LHullBuilder;II[J)I" } : Jvm.MethodName)) ∈ lw_all := lw_g (lw_at lw_m3 16 rfl) rfl
theorem q532 : (Jvm.Cond.static ({ cls := "HullBuilderLaw", name := "of", desc := "(LHullBuilder;II[J)I" } : Jvm.MethodName)) ∈ lw_all := lw_g (lw_at lw_m3 17 rfl) rfl
theorem q533 : (Jvm.Cond.codeWith ({ cls := "HullBuilderLaw", name := "of", desc := "(LHullBuilder;II[J)I" } : Jvm.MethodName) method_6_code (5 : Nat) (Option.some Jvm.ClassFile.FieldType.int) [((0 : Nat), (10 : Nat), (13 : Nat), (21 : Nat))]) ∈ lw_all := lw_g (lw_at lw_m3 18 rfl) rfl
theorem q534 : (Jvm.Cond.methodLink "HullBuilderLaw" (27 : Nat) ({ cls := "HullBuilder", name := "of", desc := "(II)I" } : Jvm.MethodName)) ∈ lw_all := lw_g (lw_at lw_m3 19 rfl) rfl
theorem q545 : (Jvm.Cond.methodLink "HullBuilderLaw" (92 : Nat) ({ cls := "HullBuilderLaw", name := "face", desc := "(LHullBuilder;II[J)I" } : Jvm.MethodName)) ∈ lw_all := lw_g (lw_at lw_m3 30 rfl) rfl
theorem q546 : (Jvm.Cond.static ({ cls := "HullBuilderLaw", name := "face", desc := "(LHullBuilder;II[J)I" } : Jvm.MethodName)) ∈ lw_all := lw_g (lw_at lw_m3 31 rfl) rfl
theorem q547 : (Jvm.Cond.codeWith ({ cls := "HullBuilderLaw", name := "face", desc := "(LHullBuilder;II[J)I" } : Jvm.MethodName) method_7_code (5 : Nat) (Option.some Jvm.ClassFile.FieldType.int) [((0 : Nat), (10 : Nat), (13 : Nat), (15 : Nat)), ((0 : Nat), (10 : Nat), (17 : Nat), (21 : Nat))]) ∈ lw_all := lw_g (lw_at lw_m3 32 rfl) rfl
theorem q548 : (Jvm.Cond.methodLink "HullBuilderLaw" (31 : Nat) ({ cls := "HullBuilder", name := "face", desc := "(II)I" } : Jvm.MethodName)) ∈ lw_all := lw_g (lw_at lw_m3 33 rfl) rfl
theorem q560 : (Jvm.Cond.methodLink "HullBuilderLaw" (95 : Nat) ({ cls := "HullBuilderLaw", name := "offset", desc := "(LHullBuilder;I[J)I" } : Jvm.MethodName)) ∈ lw_all := lw_g (lw_at lw_m3 45 rfl) rfl
theorem q561 : (Jvm.Cond.static ({ cls := "HullBuilderLaw", name := "offset", desc := "(LHullBuilder;I[J)I" } : Jvm.MethodName)) ∈ lw_all := lw_g (lw_at lw_m3 46 rfl) rfl
theorem q562 : (Jvm.Cond.codeWith ({ cls := "HullBuilderLaw", name := "offset", desc := "(LHullBuilder;I[J)I" } : Jvm.MethodName) method_8_code (4 : Nat) (Option.some Jvm.ClassFile.FieldType.int) [((0 : Nat), (8 : Nat), (11 : Nat), (15 : Nat)), ((0 : Nat), (8 : Nat), (14 : Nat), (21 : Nat))]) ∈ lw_all := lw_g (lw_at lw_m3 47 rfl) rfl
theorem q563 : (Jvm.Cond.methodLink "HullBuilderLaw" (34 : Nat) ({ cls := "HullBuilder", name := "offset", desc := "(I)J" } : Jvm.MethodName)) ∈ lw_all := lw_g (lw_at lw_m3 48 rfl) rfl
theorem q567 : (Jvm.Cond.methodLink "HullBuilderLaw" (98 : Nat) ({ cls := "HullBuilderLaw", name := "corner", desc := "(LHullBuilder;II[J)I" } : Jvm.MethodName)) ∈ lw_all := lw_g (lw_at lw_m3 52 rfl) rfl
theorem q568 : (Jvm.Cond.static ({ cls := "HullBuilderLaw", name := "corner", desc := "(LHullBuilder;II[J)I" } : Jvm.MethodName)) ∈ lw_all := lw_g (lw_at lw_m3 53 rfl) rfl
theorem q569 : (Jvm.Cond.codeWith ({ cls := "HullBuilderLaw", name := "corner", desc := "(LHullBuilder;II[J)I" } : Jvm.MethodName) method_9_code (5 : Nat) (Option.some Jvm.ClassFile.FieldType.int) [((0 : Nat), (10 : Nat), (13 : Nat), (15 : Nat)), ((0 : Nat), (10 : Nat), (17 : Nat), (21 : Nat))]) ∈ lw_all := lw_g (lw_at lw_m3 54 rfl) rfl
theorem q570 : (Jvm.Cond.methodLink "HullBuilderLaw" (38 : Nat) ({ cls := "HullBuilder", name := "corner", desc := "(II)I" } : Jvm.MethodName)) ∈ lw_all := lw_g (lw_at lw_m3 55 rfl) rfl
theorem q574 : (Jvm.Cond.methodLink "HullBuilderLaw" (101 : Nat) ({ cls := "HullBuilderLaw", name := "edge", desc := "(LHullBuilder;II[J)I" } : Jvm.MethodName)) ∈ lw_all := lw_g (lw_at lw_m3 59 rfl) rfl
theorem q575 : (Jvm.Cond.static ({ cls := "HullBuilderLaw", name := "edge", desc := "(LHullBuilder;II[J)I" } : Jvm.MethodName)) ∈ lw_all := lw_g (lw_at lw_m3 60 rfl) rfl
theorem q576 : (Jvm.Cond.codeWith ({ cls := "HullBuilderLaw", name := "edge", desc := "(LHullBuilder;II[J)I" } : Jvm.MethodName) method_10_code (5 : Nat) (Option.some Jvm.ClassFile.FieldType.int) [((0 : Nat), (10 : Nat), (13 : Nat), (15 : Nat)), ((0 : Nat), (10 : Nat), (17 : Nat), (21 : Nat))]) ∈ lw_all := lw_g (lw_at lw_m3 61 rfl) rfl
theorem q577 : (Jvm.Cond.methodLink "HullBuilderLaw" (41 : Nat) ({ cls := "HullBuilder", name := "edge", desc := "(II)I" } : Jvm.MethodName)) ∈ lw_all := lw_g (lw_at lw_m3 62 rfl) rfl
theorem q585 : (Jvm.Cond.methodLink "HullBuilderLaw" (104 : Nat) ({ cls := "HullBuilderLaw", name := "support", desc := "(LHullBuilder;III[J)I" } : Jvm.MethodName)) ∈ lw_all := lw_g (lw_at lw_m3 70 rfl) rfl
theorem q586 : (Jvm.Cond.static ({ cls := "HullBuilderLaw", name := "support", desc := "(LHullBuilder;III[J)I" } : Jvm.MethodName)) ∈ lw_all := lw_g (lw_at lw_m3 71 rfl) rfl
theorem q587 : (Jvm.Cond.codeWith ({ cls := "HullBuilderLaw", name := "support", desc := "(LHullBuilder;III[J)I" } : Jvm.MethodName) method_11_code (6 : Nat) (Option.some Jvm.ClassFile.FieldType.int) [((0 : Nat), (12 : Nat), (15 : Nat), (15 : Nat)), ((0 : Nat), (12 : Nat), (19 : Nat), (13 : Nat))]) ∈ lw_all := lw_g (lw_at lw_m3 72 rfl) rfl
theorem q588 : (Jvm.Cond.methodLink "HullBuilderLaw" (44 : Nat) ({ cls := "HullBuilder", name := "support", desc := "(III)I" } : Jvm.MethodName)) ∈ lw_all := lw_g (lw_at lw_m3 73 rfl) rfl
theorem q601 : (Jvm.Cond.methodLink "HullBuilderLaw" (107 : Nat) ({ cls := "HullBuilderLaw", name := "steps", desc := "(LHullBuilder;II[J)I" } : Jvm.MethodName)) ∈ lw_all := lw_g (lw_at lw_m3 86 rfl) rfl
theorem q602 : (Jvm.Cond.static ({ cls := "HullBuilderLaw", name := "steps", desc := "(LHullBuilder;II[J)I" } : Jvm.MethodName)) ∈ lw_all := lw_g (lw_at lw_m3 87 rfl) rfl
theorem q603 : (Jvm.Cond.codeWith ({ cls := "HullBuilderLaw", name := "steps", desc := "(LHullBuilder;II[J)I" } : Jvm.MethodName) method_12_code (5 : Nat) (Option.some Jvm.ClassFile.FieldType.int) [((0 : Nat), (10 : Nat), (13 : Nat), (15 : Nat)), ((0 : Nat), (10 : Nat), (17 : Nat), (21 : Nat))]) ∈ lw_all := lw_g (lw_at lw_m3 88 rfl) rfl
theorem q604 : (Jvm.Cond.methodLink "HullBuilderLaw" (47 : Nat) ({ cls := "HullBuilder", name := "steps", desc := "(II)I" } : Jvm.MethodName)) ∈ lw_all := lw_g (lw_at lw_m3 89 rfl) rfl
theorem q615 : (Jvm.Cond.methodLink "HullBuilderLaw" (110 : Nat) ({ cls := "HullBuilderLaw", name := "side", desc := "(LHullBuilder;III[J)I" } : Jvm.MethodName)) ∈ lw_all := lw_g (lw_at lw_m3 100 rfl) rfl
theorem q616 : (Jvm.Cond.static ({ cls := "HullBuilderLaw", name := "side", desc := "(LHullBuilder;III[J)I" } : Jvm.MethodName)) ∈ lw_all := lw_g (lw_at lw_m3 101 rfl) rfl
theorem q617 : (Jvm.Cond.codeWith ({ cls := "HullBuilderLaw", name := "side", desc := "(LHullBuilder;III[J)I" } : Jvm.MethodName) method_13_code (6 : Nat) (Option.some Jvm.ClassFile.FieldType.int) [((0 : Nat), (12 : Nat), (15 : Nat), (15 : Nat)), ((0 : Nat), (12 : Nat), (19 : Nat), (13 : Nat))]) ∈ lw_all := lw_g (lw_at lw_m3 102 rfl) rfl
theorem q618 : (Jvm.Cond.methodLink "HullBuilderLaw" (50 : Nat) ({ cls := "HullBuilder", name := "side", desc := "(III)I" } : Jvm.MethodName)) ∈ lw_all := lw_g (lw_at lw_m3 103 rfl) rfl
theorem q627 : (Jvm.Cond.methodLink "HullBuilderLaw" (113 : Nat) ({ cls := "HullBuilderLaw", name := "volume", desc := "(LHullBuilder;[J)I" } : Jvm.MethodName)) ∈ lw_all := lw_g (lw_at lw_m3 112 rfl) rfl
theorem q628 : (Jvm.Cond.static ({ cls := "HullBuilderLaw", name := "volume", desc := "(LHullBuilder;[J)I" } : Jvm.MethodName)) ∈ lw_all := lw_g (lw_at lw_m3 113 rfl) rfl
theorem q629 : (Jvm.Cond.codeWith ({ cls := "HullBuilderLaw", name := "volume", desc := "(LHullBuilder;[J)I" } : Jvm.MethodName) method_14_code (3 : Nat) (Option.some Jvm.ClassFile.FieldType.int) [((0 : Nat), (7 : Nat), (10 : Nat), (15 : Nat))]) ∈ lw_all := lw_g (lw_at lw_m3 114 rfl) rfl
theorem q630 : (Jvm.Cond.methodLink "HullBuilderLaw" (53 : Nat) ({ cls := "HullBuilder", name := "volume", desc := "()J" } : Jvm.MethodName)) ∈ lw_all := lw_g (lw_at lw_m3 115 rfl) rfl
theorem q643 : (Jvm.Cond.methodLink "HullBuilderLaw" (116 : Nat) ({ cls := "HullBuilderLaw", name := "centre", desc := "(LHullBuilder;I[J)I" } : Jvm.MethodName)) ∈ lw_all := lw_g (lw_at lw_m3 128 rfl) rfl
theorem q644 : (Jvm.Cond.static ({ cls := "HullBuilderLaw", name := "centre", desc := "(LHullBuilder;I[J)I" } : Jvm.MethodName)) ∈ lw_all := lw_g (lw_at lw_m3 129 rfl) rfl
theorem q645 : (Jvm.Cond.codeWith ({ cls := "HullBuilderLaw", name := "centre", desc := "(LHullBuilder;I[J)I" } : Jvm.MethodName) method_15_code (4 : Nat) (Option.some Jvm.ClassFile.FieldType.int) [((0 : Nat), (8 : Nat), (11 : Nat), (15 : Nat)), ((0 : Nat), (8 : Nat), (14 : Nat), (21 : Nat))]) ∈ lw_all := lw_g (lw_at lw_m3 130 rfl) rfl
theorem q646 : (Jvm.Cond.methodLink "HullBuilderLaw" (57 : Nat) ({ cls := "HullBuilder", name := "centre", desc := "(I)J" } : Jvm.MethodName)) ∈ lw_all := lw_g (lw_at lw_m3 131 rfl) rfl
theorem q650 : (Jvm.Cond.methodLink "HullBuilderLaw" (119 : Nat) ({ cls := "HullBuilderLaw", name := "middle", desc := "(LHullBuilder;I[D)I" } : Jvm.MethodName)) ∈ lw_all := lw_g (lw_at lw_m3 135 rfl) rfl
theorem q651 : (Jvm.Cond.static ({ cls := "HullBuilderLaw", name := "middle", desc := "(LHullBuilder;I[D)I" } : Jvm.MethodName)) ∈ lw_all := lw_g (lw_at lw_m3 136 rfl) rfl
theorem q652 : (Jvm.Cond.codeWith ({ cls := "HullBuilderLaw", name := "middle", desc := "(LHullBuilder;I[D)I" } : Jvm.MethodName) method_16_code (4 : Nat) (Option.some Jvm.ClassFile.FieldType.int) [((0 : Nat), (8 : Nat), (11 : Nat), (15 : Nat)), ((0 : Nat), (8 : Nat), (14 : Nat), (21 : Nat))]) ∈ lw_all := lw_g (lw_at lw_m3 137 rfl) rfl
theorem q653 : (Jvm.Cond.methodLink "HullBuilderLaw" (60 : Nat) ({ cls := "HullBuilder", name := "middle", desc := "(I)D" } : Jvm.MethodName)) ∈ lw_all := lw_g (lw_at lw_m3 138 rfl) rfl
theorem q658 : (Jvm.Cond.methodLink "HullBuilderLaw" (123 : Nat) ({ cls := "HullBuilderLaw", name := "count", desc := "(LHullBuilder;I[J)I" } : Jvm.MethodName)) ∈ lw_all := lw_g (lw_at lw_m3 143 rfl) rfl
theorem q659 : (Jvm.Cond.static ({ cls := "HullBuilderLaw", name := "count", desc := "(LHullBuilder;I[J)I" } : Jvm.MethodName)) ∈ lw_all := lw_g (lw_at lw_m3 144 rfl) rfl
theorem q660 : (Jvm.Cond.codeWith ({ cls := "HullBuilderLaw", name := "count", desc := "(LHullBuilder;I[J)I" } : Jvm.MethodName) method_17_code (4 : Nat) (Option.some Jvm.ClassFile.FieldType.int) [((0 : Nat), (9 : Nat), (12 : Nat), (21 : Nat))]) ∈ lw_all := lw_g (lw_at lw_m3 145 rfl) rfl
theorem q661 : (Jvm.Cond.methodLink "HullBuilderLaw" (64 : Nat) ({ cls := "HullBuilder", name := "count", desc := "(I)I" } : Jvm.MethodName)) ∈ lw_all := lw_g (lw_at lw_m3 146 rfl) rfl
theorem q665 : (Jvm.Cond.classLink "HullBuilderLaw" (68 : Nat) "HullBuilderModel") ∈ lw_all := lw_g (lw_at lw_m3 150 rfl) rfl
theorem q667 : (Jvm.Cond.methodLink "HullBuilderLaw" (70 : Nat) ({ cls := "HullBuilderModel", name := "<init>", desc := "()V" } : Jvm.MethodName)) ∈ lw_all := lw_g (lw_at lw_m3 152 rfl) rfl
theorem q754 : (Jvm.Cond.methodLink "HullBuilderLaw" (77 : Nat) ({ cls := "HullBuilderModel", name := "thrown", desc := "()I" } : Jvm.MethodName)) ∈ lw_all := lw_g (lw_at lw_m3 239 rfl) rfl
theorem q758 : (Jvm.Cond.methodLink "HullBuilderLaw" (76 : Nat) ({ cls := "HullBuilderModel", name := "point", desc := "(III)I" } : Jvm.MethodName)) ∈ lw_all := lw_g (lw_at lw_m4 3 rfl) rfl
theorem q773 : (Jvm.Cond.methodLink "HullBuilderLaw" (83 : Nat) ({ cls := "HullBuilderModel", name := "take", desc := "(I)I" } : Jvm.MethodName)) ∈ lw_all := lw_g (lw_at lw_m4 18 rfl) rfl
theorem q777 : (Jvm.Cond.methodLink "HullBuilderLaw" (87 : Nat) ({ cls := "HullBuilderModel", name := "build", desc := "()I" } : Jvm.MethodName)) ∈ lw_all := lw_g (lw_at lw_m4 22 rfl) rfl
theorem q845 : (Jvm.Cond.methodLink "HullBuilderLaw" (91 : Nat) ({ cls := "HullBuilderModel", name := "of", desc := "(II)I" } : Jvm.MethodName)) ∈ lw_all := lw_g (lw_at lw_m4 90 rfl) rfl
theorem q849 : (Jvm.Cond.methodLink "HullBuilderLaw" (94 : Nat) ({ cls := "HullBuilderModel", name := "face", desc := "(II)I" } : Jvm.MethodName)) ∈ lw_all := lw_g (lw_at lw_m4 94 rfl) rfl
theorem q857 : (Jvm.Cond.methodLink "HullBuilderLaw" (97 : Nat) ({ cls := "HullBuilderModel", name := "offset", desc := "(I)J" } : Jvm.MethodName)) ∈ lw_all := lw_g (lw_at lw_m4 102 rfl) rfl
theorem q861 : (Jvm.Cond.methodLink "HullBuilderLaw" (100 : Nat) ({ cls := "HullBuilderModel", name := "corner", desc := "(II)I" } : Jvm.MethodName)) ∈ lw_all := lw_g (lw_at lw_m4 106 rfl) rfl
theorem q865 : (Jvm.Cond.methodLink "HullBuilderLaw" (103 : Nat) ({ cls := "HullBuilderModel", name := "edge", desc := "(II)I" } : Jvm.MethodName)) ∈ lw_all := lw_g (lw_at lw_m4 110 rfl) rfl
theorem q869 : (Jvm.Cond.methodLink "HullBuilderLaw" (106 : Nat) ({ cls := "HullBuilderModel", name := "support", desc := "(III)I" } : Jvm.MethodName)) ∈ lw_all := lw_g (lw_at lw_m4 114 rfl) rfl
theorem q878 : (Jvm.Cond.methodLink "HullBuilderLaw" (109 : Nat) ({ cls := "HullBuilderModel", name := "steps", desc := "(II)I" } : Jvm.MethodName)) ∈ lw_all := lw_g (lw_at lw_m4 123 rfl) rfl
theorem q882 : (Jvm.Cond.methodLink "HullBuilderLaw" (112 : Nat) ({ cls := "HullBuilderModel", name := "side", desc := "(III)I" } : Jvm.MethodName)) ∈ lw_all := lw_g (lw_at lw_m4 127 rfl) rfl
theorem q886 : (Jvm.Cond.methodLink "HullBuilderLaw" (115 : Nat) ({ cls := "HullBuilderModel", name := "volume", desc := "()J" } : Jvm.MethodName)) ∈ lw_all := lw_g (lw_at lw_m4 131 rfl) rfl
theorem q894 : (Jvm.Cond.methodLink "HullBuilderLaw" (118 : Nat) ({ cls := "HullBuilderModel", name := "centre", desc := "(I)J" } : Jvm.MethodName)) ∈ lw_all := lw_g (lw_at lw_m4 139 rfl) rfl
theorem q898 : (Jvm.Cond.methodLink "HullBuilderLaw" (122 : Nat) ({ cls := "HullBuilderModel", name := "middle", desc := "(I)D" } : Jvm.MethodName)) ∈ lw_all := lw_g (lw_at lw_m4 143 rfl) rfl
theorem q903 : (Jvm.Cond.methodLink "HullBuilderLaw" (125 : Nat) ({ cls := "HullBuilderModel", name := "count", desc := "(I)I" } : Jvm.MethodName)) ∈ lw_all := lw_g (lw_at lw_m4 148 rfl) rfl
end
