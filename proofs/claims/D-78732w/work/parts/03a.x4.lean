/-! DyeLatticeModel -/
set_option maxRecDepth 100000
abbrev cX4_init : ByteArray := prog_20_method_1_code
def yX4_init : MethodName := ⟨RX4, "<init>", "()V"⟩
def dkwX4_init_3 : List UInt8 := [42, 182, 0, 35, 177]
abbrev dktX4_init_3 : List UInt8 := dkwX4_init_3 ++ []
def dkwX4_init_2 : List UInt8 := [42, 16, 80, 188, 4, 181, 0, 25, 42, 16, 80, 188, 10, 181, 0, 29, 42, 16, 80, 188, 10, 181, 0, 32]
abbrev dktX4_init_2 : List UInt8 := dkwX4_init_2 ++ dktX4_init_3
def dkwX4_init_1 : List UInt8 := [17, 2, 135, 188, 10, 181, 0, 16, 42, 16, 120, 188, 10, 181, 0, 19, 42, 16, 80, 188, 10, 181, 0, 22]
abbrev dktX4_init_1 : List UInt8 := dkwX4_init_1 ++ dktX4_init_2
def dkwX4_init_0 : List UInt8 := [42, 183, 0, 1, 42, 17, 2, 135, 188, 10, 181, 0, 7, 42, 17, 12, 163, 188, 10, 181, 0, 13, 42]
abbrev dktX4_init_0 : List UInt8 := dkwX4_init_0 ++ dktX4_init_1
theorem dksX4_init_0 : cX4_init.data.toList.drop 0 = dktX4_init_0 := by decide +kernel
theorem dksX4_init_1 : cX4_init.data.toList.drop 23 = dktX4_init_1 := dk_seg dksX4_init_0 23 rfl rfl
theorem dksX4_init_2 : cX4_init.data.toList.drop 47 = dktX4_init_2 := dk_seg dksX4_init_1 24 rfl rfl
theorem dksX4_init_3 : cX4_init.data.toList.drop 71 = dktX4_init_3 := dk_seg dksX4_init_2 24 rfl rfl
theorem dX4_init_0 : decode cX4_init 0 = .ok (.aload_n 0, 1) := dk_42 (dk_at dksX4_init_0 0 rfl rfl)
theorem dX4_init_1 : decode cX4_init 1 = .ok (.invokespecial 1, 3) := dk_183 0 1 (dk_at dksX4_init_0 1 rfl rfl)
theorem dX4_init_4 : decode cX4_init 4 = .ok (.aload_n 0, 1) := dk_42 (dk_at dksX4_init_0 4 rfl rfl)
theorem dX4_init_5 : decode cX4_init 5 = .ok (.sipush 647, 3) := dk_17 2 135 (dk_at dksX4_init_0 5 rfl rfl)
theorem dX4_init_8 : decode cX4_init 8 = .ok (.newarray .int, 2) := dk_188_10 (dk_at dksX4_init_0 8 rfl rfl)
theorem dX4_init_10 : decode cX4_init 10 = .ok (.putfield 7, 3) := dk_181 0 7 (dk_at dksX4_init_0 10 rfl rfl)
theorem dX4_init_13 : decode cX4_init 13 = .ok (.aload_n 0, 1) := dk_42 (dk_at dksX4_init_0 13 rfl rfl)
theorem dX4_init_14 : decode cX4_init 14 = .ok (.sipush 3235, 3) := dk_17 12 163 (dk_at dksX4_init_0 14 rfl rfl)
theorem dX4_init_17 : decode cX4_init 17 = .ok (.newarray .int, 2) := dk_188_10 (dk_at dksX4_init_0 17 rfl rfl)
theorem dX4_init_19 : decode cX4_init 19 = .ok (.putfield 13, 3) := dk_181 0 13 (dk_at dksX4_init_0 19 rfl rfl)
theorem dX4_init_22 : decode cX4_init 22 = .ok (.aload_n 0, 1) := dk_42 (dk_at dksX4_init_0 22 rfl rfl)
theorem dX4_init_23 : decode cX4_init 23 = .ok (.sipush 647, 3) := dk_17 2 135 (dk_at dksX4_init_1 0 rfl rfl)
theorem dX4_init_26 : decode cX4_init 26 = .ok (.newarray .int, 2) := dk_188_10 (dk_at dksX4_init_1 3 rfl rfl)
theorem dX4_init_28 : decode cX4_init 28 = .ok (.putfield 16, 3) := dk_181 0 16 (dk_at dksX4_init_1 5 rfl rfl)
theorem dX4_init_31 : decode cX4_init 31 = .ok (.aload_n 0, 1) := dk_42 (dk_at dksX4_init_1 8 rfl rfl)
theorem dX4_init_32 : decode cX4_init 32 = .ok (.bipush 120, 2) := dk_16 120 (dk_at dksX4_init_1 9 rfl rfl)
theorem dX4_init_34 : decode cX4_init 34 = .ok (.newarray .int, 2) := dk_188_10 (dk_at dksX4_init_1 11 rfl rfl)
theorem dX4_init_36 : decode cX4_init 36 = .ok (.putfield 19, 3) := dk_181 0 19 (dk_at dksX4_init_1 13 rfl rfl)
theorem dX4_init_39 : decode cX4_init 39 = .ok (.aload_n 0, 1) := dk_42 (dk_at dksX4_init_1 16 rfl rfl)
theorem dX4_init_40 : decode cX4_init 40 = .ok (.bipush 80, 2) := dk_16 80 (dk_at dksX4_init_1 17 rfl rfl)
theorem dX4_init_42 : decode cX4_init 42 = .ok (.newarray .int, 2) := dk_188_10 (dk_at dksX4_init_1 19 rfl rfl)
theorem dX4_init_44 : decode cX4_init 44 = .ok (.putfield 22, 3) := dk_181 0 22 (dk_at dksX4_init_1 21 rfl rfl)
theorem dX4_init_47 : decode cX4_init 47 = .ok (.aload_n 0, 1) := dk_42 (dk_at dksX4_init_2 0 rfl rfl)
theorem dX4_init_48 : decode cX4_init 48 = .ok (.bipush 80, 2) := dk_16 80 (dk_at dksX4_init_2 1 rfl rfl)
theorem dX4_init_50 : decode cX4_init 50 = .ok (.newarray .boolean, 2) := dk_188_4 (dk_at dksX4_init_2 3 rfl rfl)
theorem dX4_init_52 : decode cX4_init 52 = .ok (.putfield 25, 3) := dk_181 0 25 (dk_at dksX4_init_2 5 rfl rfl)
theorem dX4_init_55 : decode cX4_init 55 = .ok (.aload_n 0, 1) := dk_42 (dk_at dksX4_init_2 8 rfl rfl)
theorem dX4_init_56 : decode cX4_init 56 = .ok (.bipush 80, 2) := dk_16 80 (dk_at dksX4_init_2 9 rfl rfl)
theorem dX4_init_58 : decode cX4_init 58 = .ok (.newarray .int, 2) := dk_188_10 (dk_at dksX4_init_2 11 rfl rfl)
theorem dX4_init_60 : decode cX4_init 60 = .ok (.putfield 29, 3) := dk_181 0 29 (dk_at dksX4_init_2 13 rfl rfl)
theorem dX4_init_63 : decode cX4_init 63 = .ok (.aload_n 0, 1) := dk_42 (dk_at dksX4_init_2 16 rfl rfl)
theorem dX4_init_64 : decode cX4_init 64 = .ok (.bipush 80, 2) := dk_16 80 (dk_at dksX4_init_2 17 rfl rfl)
theorem dX4_init_66 : decode cX4_init 66 = .ok (.newarray .int, 2) := dk_188_10 (dk_at dksX4_init_2 19 rfl rfl)
theorem dX4_init_68 : decode cX4_init 68 = .ok (.putfield 32, 3) := dk_181 0 32 (dk_at dksX4_init_2 21 rfl rfl)
theorem dX4_init_71 : decode cX4_init 71 = .ok (.aload_n 0, 1) := dk_42 (dk_at dksX4_init_3 0 rfl rfl)
theorem dX4_init_72 : decode cX4_init 72 = .ok (.invokevirtual 35, 3) := dk_182 0 35 (dk_at dksX4_init_3 1 rfl rfl)
theorem dX4_init_75 : decode cX4_init 75 = .ok (.return_, 1) := dk_177 (dk_at dksX4_init_3 4 rfl rfl)
abbrev cX4_begins : ByteArray := prog_20_method_2_code
def yX4_begins : MethodName := ⟨RX4, "begins", "()V"⟩
def dkwX4_begins_1 : List UInt8 := [180, 0, 7, 6, 16, 50, 79, 42, 180, 0, 7, 7, 4, 79, 42, 7, 7, 182, 0, 38, 177]
abbrev dktX4_begins_1 : List UInt8 := dkwX4_begins_1 ++ []
def dkwX4_begins_0 : List UInt8 := [3, 60, 27, 17, 2, 135, 162, 0, 16, 42, 180, 0, 7, 27, 3, 79, 132, 1, 1, 167, 255, 239, 42]
abbrev dktX4_begins_0 : List UInt8 := dkwX4_begins_0 ++ dktX4_begins_1
theorem dksX4_begins_0 : cX4_begins.data.toList.drop 0 = dktX4_begins_0 := by decide +kernel
theorem dksX4_begins_1 : cX4_begins.data.toList.drop 23 = dktX4_begins_1 := dk_seg dksX4_begins_0 23 rfl rfl
theorem dX4_begins_0 : decode cX4_begins 0 = .ok (.iconst 0, 1) := dk_3 (dk_at dksX4_begins_0 0 rfl rfl)
theorem dX4_begins_1 : decode cX4_begins 1 = .ok (.istore_n 1, 1) := dk_60 (dk_at dksX4_begins_0 1 rfl rfl)
theorem dX4_begins_2 : decode cX4_begins 2 = .ok (.iload_n 1, 1) := dk_27 (dk_at dksX4_begins_0 2 rfl rfl)
theorem dX4_begins_3 : decode cX4_begins 3 = .ok (.sipush 647, 3) := dk_17 2 135 (dk_at dksX4_begins_0 3 rfl rfl)
theorem dX4_begins_6 : decode cX4_begins 6 = .ok (.if_icmp .ge 16, 3) := dk_162 0 16 (dk_at dksX4_begins_0 6 rfl rfl)
theorem dX4_begins_9 : decode cX4_begins 9 = .ok (.aload_n 0, 1) := dk_42 (dk_at dksX4_begins_0 9 rfl rfl)
theorem dX4_begins_10 : decode cX4_begins 10 = .ok (.getfield 7, 3) := dk_180 0 7 (dk_at dksX4_begins_0 10 rfl rfl)
theorem dX4_begins_13 : decode cX4_begins 13 = .ok (.iload_n 1, 1) := dk_27 (dk_at dksX4_begins_0 13 rfl rfl)
theorem dX4_begins_14 : decode cX4_begins 14 = .ok (.iconst 0, 1) := dk_3 (dk_at dksX4_begins_0 14 rfl rfl)
theorem dX4_begins_15 : decode cX4_begins 15 = .ok (.iastore, 1) := dk_79 (dk_at dksX4_begins_0 15 rfl rfl)
theorem dX4_begins_16 : decode cX4_begins 16 = .ok (.iinc 1 1, 3) := dk_132 1 1 (dk_at dksX4_begins_0 16 rfl rfl)
theorem dX4_begins_19 : decode cX4_begins 19 = .ok (.goto (-17), 3) := dk_167 255 239 (dk_at dksX4_begins_0 19 rfl rfl)
theorem dX4_begins_22 : decode cX4_begins 22 = .ok (.aload_n 0, 1) := dk_42 (dk_at dksX4_begins_0 22 rfl rfl)
theorem dX4_begins_23 : decode cX4_begins 23 = .ok (.getfield 7, 3) := dk_180 0 7 (dk_at dksX4_begins_1 0 rfl rfl)
theorem dX4_begins_26 : decode cX4_begins 26 = .ok (.iconst 3, 1) := dk_6 (dk_at dksX4_begins_1 3 rfl rfl)
theorem dX4_begins_27 : decode cX4_begins 27 = .ok (.bipush 50, 2) := dk_16 50 (dk_at dksX4_begins_1 4 rfl rfl)
theorem dX4_begins_29 : decode cX4_begins 29 = .ok (.iastore, 1) := dk_79 (dk_at dksX4_begins_1 6 rfl rfl)
theorem dX4_begins_30 : decode cX4_begins 30 = .ok (.aload_n 0, 1) := dk_42 (dk_at dksX4_begins_1 7 rfl rfl)
theorem dX4_begins_31 : decode cX4_begins 31 = .ok (.getfield 7, 3) := dk_180 0 7 (dk_at dksX4_begins_1 8 rfl rfl)
theorem dX4_begins_34 : decode cX4_begins 34 = .ok (.iconst 4, 1) := dk_7 (dk_at dksX4_begins_1 11 rfl rfl)
theorem dX4_begins_35 : decode cX4_begins 35 = .ok (.iconst 1, 1) := dk_4 (dk_at dksX4_begins_1 12 rfl rfl)
theorem dX4_begins_36 : decode cX4_begins 36 = .ok (.iastore, 1) := dk_79 (dk_at dksX4_begins_1 13 rfl rfl)
theorem dX4_begins_37 : decode cX4_begins 37 = .ok (.aload_n 0, 1) := dk_42 (dk_at dksX4_begins_1 14 rfl rfl)
theorem dX4_begins_38 : decode cX4_begins 38 = .ok (.iconst 4, 1) := dk_7 (dk_at dksX4_begins_1 15 rfl rfl)
theorem dX4_begins_39 : decode cX4_begins 39 = .ok (.iconst 4, 1) := dk_7 (dk_at dksX4_begins_1 16 rfl rfl)
theorem dX4_begins_40 : decode cX4_begins 40 = .ok (.invokevirtual 38, 3) := dk_182 0 38 (dk_at dksX4_begins_1 17 rfl rfl)
theorem dX4_begins_43 : decode cX4_begins 43 = .ok (.return_, 1) := dk_177 (dk_at dksX4_begins_1 20 rfl rfl)
abbrev cX4_sizes : ByteArray := prog_20_method_3_code
def yX4_sizes : MethodName := ⟨RX4, "sizes", "(II)V"⟩
def dkwX4_sizes_2 : List UInt8 := [79, 132, 3, 1, 167, 255, 228, 177]
abbrev dktX4_sizes_2 : List UInt8 := dkwX4_sizes_2 ++ []
def dkwX4_sizes_1 : List UInt8 := [29, 17, 2, 135, 162, 0, 27, 42, 180, 0, 7, 29, 29, 16, 87, 162, 0, 8, 16, 50, 167, 0, 4, 3]
abbrev dktX4_sizes_1 : List UInt8 := dkwX4_sizes_1 ++ dktX4_sizes_2
def dkwX4_sizes_0 : List UInt8 := [42, 180, 0, 7, 3, 27, 79, 42, 180, 0, 7, 4, 28, 79, 42, 180, 0, 7, 8, 3, 79, 16, 7, 62]
abbrev dktX4_sizes_0 : List UInt8 := dkwX4_sizes_0 ++ dktX4_sizes_1
theorem dksX4_sizes_0 : cX4_sizes.data.toList.drop 0 = dktX4_sizes_0 := by decide +kernel
theorem dksX4_sizes_1 : cX4_sizes.data.toList.drop 24 = dktX4_sizes_1 := dk_seg dksX4_sizes_0 24 rfl rfl
theorem dksX4_sizes_2 : cX4_sizes.data.toList.drop 48 = dktX4_sizes_2 := dk_seg dksX4_sizes_1 24 rfl rfl
theorem dX4_sizes_0 : decode cX4_sizes 0 = .ok (.aload_n 0, 1) := dk_42 (dk_at dksX4_sizes_0 0 rfl rfl)
theorem dX4_sizes_1 : decode cX4_sizes 1 = .ok (.getfield 7, 3) := dk_180 0 7 (dk_at dksX4_sizes_0 1 rfl rfl)
theorem dX4_sizes_4 : decode cX4_sizes 4 = .ok (.iconst 0, 1) := dk_3 (dk_at dksX4_sizes_0 4 rfl rfl)
theorem dX4_sizes_5 : decode cX4_sizes 5 = .ok (.iload_n 1, 1) := dk_27 (dk_at dksX4_sizes_0 5 rfl rfl)
theorem dX4_sizes_6 : decode cX4_sizes 6 = .ok (.iastore, 1) := dk_79 (dk_at dksX4_sizes_0 6 rfl rfl)
theorem dX4_sizes_7 : decode cX4_sizes 7 = .ok (.aload_n 0, 1) := dk_42 (dk_at dksX4_sizes_0 7 rfl rfl)
theorem dX4_sizes_8 : decode cX4_sizes 8 = .ok (.getfield 7, 3) := dk_180 0 7 (dk_at dksX4_sizes_0 8 rfl rfl)
theorem dX4_sizes_11 : decode cX4_sizes 11 = .ok (.iconst 1, 1) := dk_4 (dk_at dksX4_sizes_0 11 rfl rfl)
theorem dX4_sizes_12 : decode cX4_sizes 12 = .ok (.iload_n 2, 1) := dk_28 (dk_at dksX4_sizes_0 12 rfl rfl)
theorem dX4_sizes_13 : decode cX4_sizes 13 = .ok (.iastore, 1) := dk_79 (dk_at dksX4_sizes_0 13 rfl rfl)
theorem dX4_sizes_14 : decode cX4_sizes 14 = .ok (.aload_n 0, 1) := dk_42 (dk_at dksX4_sizes_0 14 rfl rfl)
theorem dX4_sizes_15 : decode cX4_sizes 15 = .ok (.getfield 7, 3) := dk_180 0 7 (dk_at dksX4_sizes_0 15 rfl rfl)
theorem dX4_sizes_18 : decode cX4_sizes 18 = .ok (.iconst 5, 1) := dk_8 (dk_at dksX4_sizes_0 18 rfl rfl)
theorem dX4_sizes_19 : decode cX4_sizes 19 = .ok (.iconst 0, 1) := dk_3 (dk_at dksX4_sizes_0 19 rfl rfl)
theorem dX4_sizes_20 : decode cX4_sizes 20 = .ok (.iastore, 1) := dk_79 (dk_at dksX4_sizes_0 20 rfl rfl)
theorem dX4_sizes_21 : decode cX4_sizes 21 = .ok (.bipush 7, 2) := dk_16 7 (dk_at dksX4_sizes_0 21 rfl rfl)
theorem dX4_sizes_23 : decode cX4_sizes 23 = .ok (.istore_n 3, 1) := dk_62 (dk_at dksX4_sizes_0 23 rfl rfl)
theorem dX4_sizes_24 : decode cX4_sizes 24 = .ok (.iload_n 3, 1) := dk_29 (dk_at dksX4_sizes_1 0 rfl rfl)
theorem dX4_sizes_25 : decode cX4_sizes 25 = .ok (.sipush 647, 3) := dk_17 2 135 (dk_at dksX4_sizes_1 1 rfl rfl)
theorem dX4_sizes_28 : decode cX4_sizes 28 = .ok (.if_icmp .ge 27, 3) := dk_162 0 27 (dk_at dksX4_sizes_1 4 rfl rfl)
theorem dX4_sizes_31 : decode cX4_sizes 31 = .ok (.aload_n 0, 1) := dk_42 (dk_at dksX4_sizes_1 7 rfl rfl)
theorem dX4_sizes_32 : decode cX4_sizes 32 = .ok (.getfield 7, 3) := dk_180 0 7 (dk_at dksX4_sizes_1 8 rfl rfl)
theorem dX4_sizes_35 : decode cX4_sizes 35 = .ok (.iload_n 3, 1) := dk_29 (dk_at dksX4_sizes_1 11 rfl rfl)
theorem dX4_sizes_36 : decode cX4_sizes 36 = .ok (.iload_n 3, 1) := dk_29 (dk_at dksX4_sizes_1 12 rfl rfl)
theorem dX4_sizes_37 : decode cX4_sizes 37 = .ok (.bipush 87, 2) := dk_16 87 (dk_at dksX4_sizes_1 13 rfl rfl)
theorem dX4_sizes_39 : decode cX4_sizes 39 = .ok (.if_icmp .ge 8, 3) := dk_162 0 8 (dk_at dksX4_sizes_1 15 rfl rfl)
theorem dX4_sizes_42 : decode cX4_sizes 42 = .ok (.bipush 50, 2) := dk_16 50 (dk_at dksX4_sizes_1 18 rfl rfl)
theorem dX4_sizes_44 : decode cX4_sizes 44 = .ok (.goto 4, 3) := dk_167 0 4 (dk_at dksX4_sizes_1 20 rfl rfl)
theorem dX4_sizes_47 : decode cX4_sizes 47 = .ok (.iconst 0, 1) := dk_3 (dk_at dksX4_sizes_1 23 rfl rfl)
theorem dX4_sizes_48 : decode cX4_sizes 48 = .ok (.iastore, 1) := dk_79 (dk_at dksX4_sizes_2 0 rfl rfl)
theorem dX4_sizes_49 : decode cX4_sizes 49 = .ok (.iinc 3 1, 3) := dk_132 3 1 (dk_at dksX4_sizes_2 1 rfl rfl)
theorem dX4_sizes_52 : decode cX4_sizes 52 = .ok (.goto (-28), 3) := dk_167 255 228 (dk_at dksX4_sizes_2 4 rfl rfl)
theorem dX4_sizes_55 : decode cX4_sizes 55 = .ok (.return_, 1) := dk_177 (dk_at dksX4_sizes_2 7 rfl rfl)
abbrev cX4_undo : ByteArray := prog_20_method_5_code
def yX4_undo : MethodName := ⟨RX4, "undo", "()I"⟩
def dkwX4_undo_2 : List UInt8 := [96, 46, 79, 132, 1, 1, 167, 255, 225, 42, 180, 0, 42, 172]
abbrev dktX4_undo_2 : List UInt8 := dkwX4_undo_2 ++ []
def dkwX4_undo_1 : List UInt8 := [17, 2, 135, 162, 0, 30, 42, 180, 0, 7, 27, 42, 180, 0, 13, 17, 2, 135, 42, 180, 0, 42, 104, 27]
abbrev dktX4_undo_1 : List UInt8 := dkwX4_undo_1 ++ dktX4_undo_2
def dkwX4_undo_0 : List UInt8 := [42, 180, 0, 42, 154, 0, 6, 16, 254, 172, 42, 89, 180, 0, 42, 4, 100, 181, 0, 42, 3, 60, 27]
abbrev dktX4_undo_0 : List UInt8 := dkwX4_undo_0 ++ dktX4_undo_1
theorem dksX4_undo_0 : cX4_undo.data.toList.drop 0 = dktX4_undo_0 := by decide +kernel
theorem dksX4_undo_1 : cX4_undo.data.toList.drop 23 = dktX4_undo_1 := dk_seg dksX4_undo_0 23 rfl rfl
theorem dksX4_undo_2 : cX4_undo.data.toList.drop 47 = dktX4_undo_2 := dk_seg dksX4_undo_1 24 rfl rfl
theorem dX4_undo_0 : decode cX4_undo 0 = .ok (.aload_n 0, 1) := dk_42 (dk_at dksX4_undo_0 0 rfl rfl)
theorem dX4_undo_1 : decode cX4_undo 1 = .ok (.getfield 42, 3) := dk_180 0 42 (dk_at dksX4_undo_0 1 rfl rfl)
theorem dX4_undo_4 : decode cX4_undo 4 = .ok (.ifCond .ne 6, 3) := dk_154 0 6 (dk_at dksX4_undo_0 4 rfl rfl)
theorem dX4_undo_7 : decode cX4_undo 7 = .ok (.bipush (-2), 2) := dk_16 254 (dk_at dksX4_undo_0 7 rfl rfl)
theorem dX4_undo_9 : decode cX4_undo 9 = .ok (.ireturn, 1) := dk_172 (dk_at dksX4_undo_0 9 rfl rfl)
theorem dX4_undo_10 : decode cX4_undo 10 = .ok (.aload_n 0, 1) := dk_42 (dk_at dksX4_undo_0 10 rfl rfl)
theorem dX4_undo_11 : decode cX4_undo 11 = .ok (.dup, 1) := dk_89 (dk_at dksX4_undo_0 11 rfl rfl)
theorem dX4_undo_12 : decode cX4_undo 12 = .ok (.getfield 42, 3) := dk_180 0 42 (dk_at dksX4_undo_0 12 rfl rfl)
theorem dX4_undo_15 : decode cX4_undo 15 = .ok (.iconst 1, 1) := dk_4 (dk_at dksX4_undo_0 15 rfl rfl)
theorem dX4_undo_16 : decode cX4_undo 16 = .ok (.isub, 1) := dk_100 (dk_at dksX4_undo_0 16 rfl rfl)
theorem dX4_undo_17 : decode cX4_undo 17 = .ok (.putfield 42, 3) := dk_181 0 42 (dk_at dksX4_undo_0 17 rfl rfl)
theorem dX4_undo_20 : decode cX4_undo 20 = .ok (.iconst 0, 1) := dk_3 (dk_at dksX4_undo_0 20 rfl rfl)
theorem dX4_undo_21 : decode cX4_undo 21 = .ok (.istore_n 1, 1) := dk_60 (dk_at dksX4_undo_0 21 rfl rfl)
theorem dX4_undo_22 : decode cX4_undo 22 = .ok (.iload_n 1, 1) := dk_27 (dk_at dksX4_undo_0 22 rfl rfl)
theorem dX4_undo_23 : decode cX4_undo 23 = .ok (.sipush 647, 3) := dk_17 2 135 (dk_at dksX4_undo_1 0 rfl rfl)
theorem dX4_undo_26 : decode cX4_undo 26 = .ok (.if_icmp .ge 30, 3) := dk_162 0 30 (dk_at dksX4_undo_1 3 rfl rfl)
theorem dX4_undo_29 : decode cX4_undo 29 = .ok (.aload_n 0, 1) := dk_42 (dk_at dksX4_undo_1 6 rfl rfl)
theorem dX4_undo_30 : decode cX4_undo 30 = .ok (.getfield 7, 3) := dk_180 0 7 (dk_at dksX4_undo_1 7 rfl rfl)
theorem dX4_undo_33 : decode cX4_undo 33 = .ok (.iload_n 1, 1) := dk_27 (dk_at dksX4_undo_1 10 rfl rfl)
theorem dX4_undo_34 : decode cX4_undo 34 = .ok (.aload_n 0, 1) := dk_42 (dk_at dksX4_undo_1 11 rfl rfl)
theorem dX4_undo_35 : decode cX4_undo 35 = .ok (.getfield 13, 3) := dk_180 0 13 (dk_at dksX4_undo_1 12 rfl rfl)
theorem dX4_undo_38 : decode cX4_undo 38 = .ok (.sipush 647, 3) := dk_17 2 135 (dk_at dksX4_undo_1 15 rfl rfl)
theorem dX4_undo_41 : decode cX4_undo 41 = .ok (.aload_n 0, 1) := dk_42 (dk_at dksX4_undo_1 18 rfl rfl)
theorem dX4_undo_42 : decode cX4_undo 42 = .ok (.getfield 42, 3) := dk_180 0 42 (dk_at dksX4_undo_1 19 rfl rfl)
theorem dX4_undo_45 : decode cX4_undo 45 = .ok (.imul, 1) := dk_104 (dk_at dksX4_undo_1 22 rfl rfl)
theorem dX4_undo_46 : decode cX4_undo 46 = .ok (.iload_n 1, 1) := dk_27 (dk_at dksX4_undo_1 23 rfl rfl)
theorem dX4_undo_47 : decode cX4_undo 47 = .ok (.iadd, 1) := dk_96 (dk_at dksX4_undo_2 0 rfl rfl)
theorem dX4_undo_48 : decode cX4_undo 48 = .ok (.iaload, 1) := dk_46 (dk_at dksX4_undo_2 1 rfl rfl)
theorem dX4_undo_49 : decode cX4_undo 49 = .ok (.iastore, 1) := dk_79 (dk_at dksX4_undo_2 2 rfl rfl)
theorem dX4_undo_50 : decode cX4_undo 50 = .ok (.iinc 1 1, 3) := dk_132 1 1 (dk_at dksX4_undo_2 3 rfl rfl)
theorem dX4_undo_53 : decode cX4_undo 53 = .ok (.goto (-31), 3) := dk_167 255 225 (dk_at dksX4_undo_2 6 rfl rfl)
theorem dX4_undo_56 : decode cX4_undo 56 = .ok (.aload_n 0, 1) := dk_42 (dk_at dksX4_undo_2 9 rfl rfl)
theorem dX4_undo_57 : decode cX4_undo 57 = .ok (.getfield 42, 3) := dk_180 0 42 (dk_at dksX4_undo_2 10 rfl rfl)
theorem dX4_undo_60 : decode cX4_undo 60 = .ok (.ireturn, 1) := dk_172 (dk_at dksX4_undo_2 13 rfl rfl)
abbrev cX4_setSize : ByteArray := prog_20_method_26_code
def yX4_setSize : MethodName := ⟨RX4, "setSize", "(II)I"⟩
def dkwX4_setSize_1 : List UInt8 := [182, 0, 97, 42, 27, 28, 182, 0, 38, 42, 182, 0, 46, 172]
abbrev dktX4_setSize_1 : List UInt8 := dkwX4_setSize_1 ++ []
def dkwX4_setSize_0 : List UInt8 := [27, 5, 16, 10, 184, 0, 50, 153, 0, 13, 28, 5, 16, 8, 184, 0, 50, 154, 0, 5, 2, 172, 42]
abbrev dktX4_setSize_0 : List UInt8 := dkwX4_setSize_0 ++ dktX4_setSize_1
theorem dksX4_setSize_0 : cX4_setSize.data.toList.drop 0 = dktX4_setSize_0 := by decide +kernel
theorem dksX4_setSize_1 : cX4_setSize.data.toList.drop 23 = dktX4_setSize_1 := dk_seg dksX4_setSize_0 23 rfl rfl
theorem dX4_setSize_0 : decode cX4_setSize 0 = .ok (.iload_n 1, 1) := dk_27 (dk_at dksX4_setSize_0 0 rfl rfl)
theorem dX4_setSize_1 : decode cX4_setSize 1 = .ok (.iconst 2, 1) := dk_5 (dk_at dksX4_setSize_0 1 rfl rfl)
theorem dX4_setSize_2 : decode cX4_setSize 2 = .ok (.bipush 10, 2) := dk_16 10 (dk_at dksX4_setSize_0 2 rfl rfl)
theorem dX4_setSize_4 : decode cX4_setSize 4 = .ok (.invokestatic 50, 3) := dk_184 0 50 (dk_at dksX4_setSize_0 4 rfl rfl)
theorem dX4_setSize_7 : decode cX4_setSize 7 = .ok (.ifCond .eq 13, 3) := dk_153 0 13 (dk_at dksX4_setSize_0 7 rfl rfl)
theorem dX4_setSize_10 : decode cX4_setSize 10 = .ok (.iload_n 2, 1) := dk_28 (dk_at dksX4_setSize_0 10 rfl rfl)
theorem dX4_setSize_11 : decode cX4_setSize 11 = .ok (.iconst 2, 1) := dk_5 (dk_at dksX4_setSize_0 11 rfl rfl)
theorem dX4_setSize_12 : decode cX4_setSize 12 = .ok (.bipush 8, 2) := dk_16 8 (dk_at dksX4_setSize_0 12 rfl rfl)
theorem dX4_setSize_14 : decode cX4_setSize 14 = .ok (.invokestatic 50, 3) := dk_184 0 50 (dk_at dksX4_setSize_0 14 rfl rfl)
theorem dX4_setSize_17 : decode cX4_setSize 17 = .ok (.ifCond .ne 5, 3) := dk_154 0 5 (dk_at dksX4_setSize_0 17 rfl rfl)
theorem dX4_setSize_20 : decode cX4_setSize 20 = .ok (.iconst (-1), 1) := dk_2 (dk_at dksX4_setSize_0 20 rfl rfl)
theorem dX4_setSize_21 : decode cX4_setSize 21 = .ok (.ireturn, 1) := dk_172 (dk_at dksX4_setSize_0 21 rfl rfl)
theorem dX4_setSize_22 : decode cX4_setSize 22 = .ok (.aload_n 0, 1) := dk_42 (dk_at dksX4_setSize_0 22 rfl rfl)
theorem dX4_setSize_23 : decode cX4_setSize 23 = .ok (.invokevirtual 97, 3) := dk_182 0 97 (dk_at dksX4_setSize_1 0 rfl rfl)
theorem dX4_setSize_26 : decode cX4_setSize 26 = .ok (.aload_n 0, 1) := dk_42 (dk_at dksX4_setSize_1 3 rfl rfl)
theorem dX4_setSize_27 : decode cX4_setSize 27 = .ok (.iload_n 1, 1) := dk_27 (dk_at dksX4_setSize_1 4 rfl rfl)
theorem dX4_setSize_28 : decode cX4_setSize 28 = .ok (.iload_n 2, 1) := dk_28 (dk_at dksX4_setSize_1 5 rfl rfl)
theorem dX4_setSize_29 : decode cX4_setSize 29 = .ok (.invokevirtual 38, 3) := dk_182 0 38 (dk_at dksX4_setSize_1 6 rfl rfl)
theorem dX4_setSize_32 : decode cX4_setSize 32 = .ok (.aload_n 0, 1) := dk_42 (dk_at dksX4_setSize_1 9 rfl rfl)
theorem dX4_setSize_33 : decode cX4_setSize 33 = .ok (.invokevirtual 46, 3) := dk_182 0 46 (dk_at dksX4_setSize_1 10 rfl rfl)
theorem dX4_setSize_36 : decode cX4_setSize 36 = .ok (.ireturn, 1) := dk_172 (dk_at dksX4_setSize_1 13 rfl rfl)
abbrev cX4_within : ByteArray := prog_20_method_8_code
def yX4_within : MethodName := ⟨RX4, "within", "(III)Z"⟩
def dkwX4_within_0 : List UInt8 := [26, 27, 161, 0, 12, 26, 28, 163, 0, 7, 4, 167, 0, 4, 3, 172]
abbrev dktX4_within_0 : List UInt8 := dkwX4_within_0 ++ []
theorem dksX4_within_0 : cX4_within.data.toList.drop 0 = dktX4_within_0 := by decide +kernel
theorem dX4_within_0 : decode cX4_within 0 = .ok (.iload_n 0, 1) := dk_26 (dk_at dksX4_within_0 0 rfl rfl)
theorem dX4_within_1 : decode cX4_within 1 = .ok (.iload_n 1, 1) := dk_27 (dk_at dksX4_within_0 1 rfl rfl)
theorem dX4_within_2 : decode cX4_within 2 = .ok (.if_icmp .lt 12, 3) := dk_161 0 12 (dk_at dksX4_within_0 2 rfl rfl)
theorem dX4_within_5 : decode cX4_within 5 = .ok (.iload_n 0, 1) := dk_26 (dk_at dksX4_within_0 5 rfl rfl)
theorem dX4_within_6 : decode cX4_within 6 = .ok (.iload_n 2, 1) := dk_28 (dk_at dksX4_within_0 6 rfl rfl)
theorem dX4_within_7 : decode cX4_within 7 = .ok (.if_icmp .gt 7, 3) := dk_163 0 7 (dk_at dksX4_within_0 7 rfl rfl)
theorem dX4_within_10 : decode cX4_within 10 = .ok (.iconst 1, 1) := dk_4 (dk_at dksX4_within_0 10 rfl rfl)
theorem dX4_within_11 : decode cX4_within 11 = .ok (.goto 4, 3) := dk_167 0 4 (dk_at dksX4_within_0 11 rfl rfl)
theorem dX4_within_14 : decode cX4_within 14 = .ok (.iconst 0, 1) := dk_3 (dk_at dksX4_within_0 14 rfl rfl)
theorem dX4_within_15 : decode cX4_within 15 = .ok (.ireturn, 1) := dk_172 (dk_at dksX4_within_0 15 rfl rfl)
abbrev cX4_saves : ByteArray := prog_20_method_4_code
def yX4_saves : MethodName := ⟨RX4, "saves", "()V"⟩
def dkwX4_saves_4 : List UInt8 := [181, 0, 42, 177]
abbrev dktX4_saves_4 : List UInt8 := dkwX4_saves_4 ++ []
def dkwX4_saves_3 : List UInt8 := [27, 96, 42, 180, 0, 7, 27, 46, 79, 132, 1, 1, 167, 255, 225, 42, 89, 180, 0, 42, 4, 96]
abbrev dktX4_saves_3 : List UInt8 := dkwX4_saves_3 ++ dktX4_saves_4
def dkwX4_saves_2 : List UInt8 := [181, 0, 42, 3, 60, 27, 17, 2, 135, 162, 0, 30, 42, 180, 0, 13, 17, 2, 135, 42, 180, 0, 42, 104]
abbrev dktX4_saves_2 : List UInt8 := dkwX4_saves_2 ++ dktX4_saves_3
def dkwX4_saves_1 : List UInt8 := [180, 0, 13, 27, 17, 2, 135, 96, 46, 79, 132, 1, 1, 167, 255, 230, 42, 89, 180, 0, 42, 4, 100]
abbrev dktX4_saves_1 : List UInt8 := dkwX4_saves_1 ++ dktX4_saves_2
def dkwX4_saves_0 : List UInt8 := [42, 180, 0, 42, 8, 160, 0, 44, 3, 60, 27, 17, 10, 28, 162, 0, 25, 42, 180, 0, 13, 27, 42]
abbrev dktX4_saves_0 : List UInt8 := dkwX4_saves_0 ++ dktX4_saves_1
theorem dksX4_saves_0 : cX4_saves.data.toList.drop 0 = dktX4_saves_0 := by decide +kernel
theorem dksX4_saves_1 : cX4_saves.data.toList.drop 23 = dktX4_saves_1 := dk_seg dksX4_saves_0 23 rfl rfl
theorem dksX4_saves_2 : cX4_saves.data.toList.drop 46 = dktX4_saves_2 := dk_seg dksX4_saves_1 23 rfl rfl
theorem dksX4_saves_3 : cX4_saves.data.toList.drop 70 = dktX4_saves_3 := dk_seg dksX4_saves_2 24 rfl rfl
theorem dksX4_saves_4 : cX4_saves.data.toList.drop 92 = dktX4_saves_4 := dk_seg dksX4_saves_3 22 rfl rfl
theorem dX4_saves_0 : decode cX4_saves 0 = .ok (.aload_n 0, 1) := dk_42 (dk_at dksX4_saves_0 0 rfl rfl)
theorem dX4_saves_1 : decode cX4_saves 1 = .ok (.getfield 42, 3) := dk_180 0 42 (dk_at dksX4_saves_0 1 rfl rfl)
theorem dX4_saves_4 : decode cX4_saves 4 = .ok (.iconst 5, 1) := dk_8 (dk_at dksX4_saves_0 4 rfl rfl)
theorem dX4_saves_5 : decode cX4_saves 5 = .ok (.if_icmp .ne 44, 3) := dk_160 0 44 (dk_at dksX4_saves_0 5 rfl rfl)
theorem dX4_saves_8 : decode cX4_saves 8 = .ok (.iconst 0, 1) := dk_3 (dk_at dksX4_saves_0 8 rfl rfl)
theorem dX4_saves_9 : decode cX4_saves 9 = .ok (.istore_n 1, 1) := dk_60 (dk_at dksX4_saves_0 9 rfl rfl)
theorem dX4_saves_10 : decode cX4_saves 10 = .ok (.iload_n 1, 1) := dk_27 (dk_at dksX4_saves_0 10 rfl rfl)
theorem dX4_saves_11 : decode cX4_saves 11 = .ok (.sipush 2588, 3) := dk_17 10 28 (dk_at dksX4_saves_0 11 rfl rfl)
theorem dX4_saves_14 : decode cX4_saves 14 = .ok (.if_icmp .ge 25, 3) := dk_162 0 25 (dk_at dksX4_saves_0 14 rfl rfl)
theorem dX4_saves_17 : decode cX4_saves 17 = .ok (.aload_n 0, 1) := dk_42 (dk_at dksX4_saves_0 17 rfl rfl)
theorem dX4_saves_18 : decode cX4_saves 18 = .ok (.getfield 13, 3) := dk_180 0 13 (dk_at dksX4_saves_0 18 rfl rfl)
theorem dX4_saves_21 : decode cX4_saves 21 = .ok (.iload_n 1, 1) := dk_27 (dk_at dksX4_saves_0 21 rfl rfl)
theorem dX4_saves_22 : decode cX4_saves 22 = .ok (.aload_n 0, 1) := dk_42 (dk_at dksX4_saves_0 22 rfl rfl)
theorem dX4_saves_23 : decode cX4_saves 23 = .ok (.getfield 13, 3) := dk_180 0 13 (dk_at dksX4_saves_1 0 rfl rfl)
theorem dX4_saves_26 : decode cX4_saves 26 = .ok (.iload_n 1, 1) := dk_27 (dk_at dksX4_saves_1 3 rfl rfl)
theorem dX4_saves_27 : decode cX4_saves 27 = .ok (.sipush 647, 3) := dk_17 2 135 (dk_at dksX4_saves_1 4 rfl rfl)
theorem dX4_saves_30 : decode cX4_saves 30 = .ok (.iadd, 1) := dk_96 (dk_at dksX4_saves_1 7 rfl rfl)
theorem dX4_saves_31 : decode cX4_saves 31 = .ok (.iaload, 1) := dk_46 (dk_at dksX4_saves_1 8 rfl rfl)
theorem dX4_saves_32 : decode cX4_saves 32 = .ok (.iastore, 1) := dk_79 (dk_at dksX4_saves_1 9 rfl rfl)
theorem dX4_saves_33 : decode cX4_saves 33 = .ok (.iinc 1 1, 3) := dk_132 1 1 (dk_at dksX4_saves_1 10 rfl rfl)
theorem dX4_saves_36 : decode cX4_saves 36 = .ok (.goto (-26), 3) := dk_167 255 230 (dk_at dksX4_saves_1 13 rfl rfl)
theorem dX4_saves_39 : decode cX4_saves 39 = .ok (.aload_n 0, 1) := dk_42 (dk_at dksX4_saves_1 16 rfl rfl)
theorem dX4_saves_40 : decode cX4_saves 40 = .ok (.dup, 1) := dk_89 (dk_at dksX4_saves_1 17 rfl rfl)
theorem dX4_saves_41 : decode cX4_saves 41 = .ok (.getfield 42, 3) := dk_180 0 42 (dk_at dksX4_saves_1 18 rfl rfl)
theorem dX4_saves_44 : decode cX4_saves 44 = .ok (.iconst 1, 1) := dk_4 (dk_at dksX4_saves_1 21 rfl rfl)
theorem dX4_saves_45 : decode cX4_saves 45 = .ok (.isub, 1) := dk_100 (dk_at dksX4_saves_1 22 rfl rfl)
theorem dX4_saves_46 : decode cX4_saves 46 = .ok (.putfield 42, 3) := dk_181 0 42 (dk_at dksX4_saves_2 0 rfl rfl)
theorem dX4_saves_49 : decode cX4_saves 49 = .ok (.iconst 0, 1) := dk_3 (dk_at dksX4_saves_2 3 rfl rfl)
theorem dX4_saves_50 : decode cX4_saves 50 = .ok (.istore_n 1, 1) := dk_60 (dk_at dksX4_saves_2 4 rfl rfl)
theorem dX4_saves_51 : decode cX4_saves 51 = .ok (.iload_n 1, 1) := dk_27 (dk_at dksX4_saves_2 5 rfl rfl)
theorem dX4_saves_52 : decode cX4_saves 52 = .ok (.sipush 647, 3) := dk_17 2 135 (dk_at dksX4_saves_2 6 rfl rfl)
theorem dX4_saves_55 : decode cX4_saves 55 = .ok (.if_icmp .ge 30, 3) := dk_162 0 30 (dk_at dksX4_saves_2 9 rfl rfl)
theorem dX4_saves_58 : decode cX4_saves 58 = .ok (.aload_n 0, 1) := dk_42 (dk_at dksX4_saves_2 12 rfl rfl)
theorem dX4_saves_59 : decode cX4_saves 59 = .ok (.getfield 13, 3) := dk_180 0 13 (dk_at dksX4_saves_2 13 rfl rfl)
theorem dX4_saves_62 : decode cX4_saves 62 = .ok (.sipush 647, 3) := dk_17 2 135 (dk_at dksX4_saves_2 16 rfl rfl)
theorem dX4_saves_65 : decode cX4_saves 65 = .ok (.aload_n 0, 1) := dk_42 (dk_at dksX4_saves_2 19 rfl rfl)
theorem dX4_saves_66 : decode cX4_saves 66 = .ok (.getfield 42, 3) := dk_180 0 42 (dk_at dksX4_saves_2 20 rfl rfl)
theorem dX4_saves_69 : decode cX4_saves 69 = .ok (.imul, 1) := dk_104 (dk_at dksX4_saves_2 23 rfl rfl)
theorem dX4_saves_70 : decode cX4_saves 70 = .ok (.iload_n 1, 1) := dk_27 (dk_at dksX4_saves_3 0 rfl rfl)
theorem dX4_saves_71 : decode cX4_saves 71 = .ok (.iadd, 1) := dk_96 (dk_at dksX4_saves_3 1 rfl rfl)
theorem dX4_saves_72 : decode cX4_saves 72 = .ok (.aload_n 0, 1) := dk_42 (dk_at dksX4_saves_3 2 rfl rfl)
theorem dX4_saves_73 : decode cX4_saves 73 = .ok (.getfield 7, 3) := dk_180 0 7 (dk_at dksX4_saves_3 3 rfl rfl)
theorem dX4_saves_76 : decode cX4_saves 76 = .ok (.iload_n 1, 1) := dk_27 (dk_at dksX4_saves_3 6 rfl rfl)
theorem dX4_saves_77 : decode cX4_saves 77 = .ok (.iaload, 1) := dk_46 (dk_at dksX4_saves_3 7 rfl rfl)
theorem dX4_saves_78 : decode cX4_saves 78 = .ok (.iastore, 1) := dk_79 (dk_at dksX4_saves_3 8 rfl rfl)
theorem dX4_saves_79 : decode cX4_saves 79 = .ok (.iinc 1 1, 3) := dk_132 1 1 (dk_at dksX4_saves_3 9 rfl rfl)
theorem dX4_saves_82 : decode cX4_saves 82 = .ok (.goto (-31), 3) := dk_167 255 225 (dk_at dksX4_saves_3 12 rfl rfl)
theorem dX4_saves_85 : decode cX4_saves 85 = .ok (.aload_n 0, 1) := dk_42 (dk_at dksX4_saves_3 15 rfl rfl)
theorem dX4_saves_86 : decode cX4_saves 86 = .ok (.dup, 1) := dk_89 (dk_at dksX4_saves_3 16 rfl rfl)
theorem dX4_saves_87 : decode cX4_saves 87 = .ok (.getfield 42, 3) := dk_180 0 42 (dk_at dksX4_saves_3 17 rfl rfl)
theorem dX4_saves_90 : decode cX4_saves 90 = .ok (.iconst 1, 1) := dk_4 (dk_at dksX4_saves_3 20 rfl rfl)
theorem dX4_saves_91 : decode cX4_saves 91 = .ok (.iadd, 1) := dk_96 (dk_at dksX4_saves_3 21 rfl rfl)
theorem dX4_saves_92 : decode cX4_saves 92 = .ok (.putfield 42, 3) := dk_181 0 42 (dk_at dksX4_saves_4 0 rfl rfl)
theorem dX4_saves_95 : decode cX4_saves 95 = .ok (.return_, 1) := dk_177 (dk_at dksX4_saves_4 3 rfl rfl)
abbrev cX4_cells : ByteArray := prog_20_method_9_code
def yX4_cells : MethodName := ⟨RX4, "cells", "()I"⟩
def dkwX4_cells_0 : List UInt8 := [42, 180, 0, 7, 3, 46, 42, 180, 0, 7, 4, 46, 104, 172]
abbrev dktX4_cells_0 : List UInt8 := dkwX4_cells_0 ++ []
theorem dksX4_cells_0 : cX4_cells.data.toList.drop 0 = dktX4_cells_0 := by decide +kernel
theorem dX4_cells_0 : decode cX4_cells 0 = .ok (.aload_n 0, 1) := dk_42 (dk_at dksX4_cells_0 0 rfl rfl)
theorem dX4_cells_1 : decode cX4_cells 1 = .ok (.getfield 7, 3) := dk_180 0 7 (dk_at dksX4_cells_0 1 rfl rfl)
theorem dX4_cells_4 : decode cX4_cells 4 = .ok (.iconst 0, 1) := dk_3 (dk_at dksX4_cells_0 4 rfl rfl)
theorem dX4_cells_5 : decode cX4_cells 5 = .ok (.iaload, 1) := dk_46 (dk_at dksX4_cells_0 5 rfl rfl)
theorem dX4_cells_6 : decode cX4_cells 6 = .ok (.aload_n 0, 1) := dk_42 (dk_at dksX4_cells_0 6 rfl rfl)
theorem dX4_cells_7 : decode cX4_cells 7 = .ok (.getfield 7, 3) := dk_180 0 7 (dk_at dksX4_cells_0 7 rfl rfl)
theorem dX4_cells_10 : decode cX4_cells 10 = .ok (.iconst 1, 1) := dk_4 (dk_at dksX4_cells_0 10 rfl rfl)
theorem dX4_cells_11 : decode cX4_cells 11 = .ok (.iaload, 1) := dk_46 (dk_at dksX4_cells_0 11 rfl rfl)
theorem dX4_cells_12 : decode cX4_cells 12 = .ok (.imul, 1) := dk_104 (dk_at dksX4_cells_0 12 rfl rfl)
theorem dX4_cells_13 : decode cX4_cells 13 = .ok (.ireturn, 1) := dk_172 (dk_at dksX4_cells_0 13 rfl rfl)
abbrev cX4_setKind : ByteArray := prog_20_method_28_code
def yX4_setKind : MethodName := ⟨RX4, "setKind", "(I)I"⟩
def dkwX4_setKind_1 : List UInt8 := [172]
abbrev dktX4_setKind_1 : List UInt8 := dkwX4_setKind_1 ++ []
def dkwX4_setKind_0 : List UInt8 := [27, 3, 5, 184, 0, 50, 154, 0, 5, 2, 172, 42, 182, 0, 97, 42, 27, 182, 0, 100, 42, 182, 0, 104]
abbrev dktX4_setKind_0 : List UInt8 := dkwX4_setKind_0 ++ dktX4_setKind_1
theorem dksX4_setKind_0 : cX4_setKind.data.toList.drop 0 = dktX4_setKind_0 := by decide +kernel
theorem dksX4_setKind_1 : cX4_setKind.data.toList.drop 24 = dktX4_setKind_1 := dk_seg dksX4_setKind_0 24 rfl rfl
theorem dX4_setKind_0 : decode cX4_setKind 0 = .ok (.iload_n 1, 1) := dk_27 (dk_at dksX4_setKind_0 0 rfl rfl)
theorem dX4_setKind_1 : decode cX4_setKind 1 = .ok (.iconst 0, 1) := dk_3 (dk_at dksX4_setKind_0 1 rfl rfl)
theorem dX4_setKind_2 : decode cX4_setKind 2 = .ok (.iconst 2, 1) := dk_5 (dk_at dksX4_setKind_0 2 rfl rfl)
theorem dX4_setKind_3 : decode cX4_setKind 3 = .ok (.invokestatic 50, 3) := dk_184 0 50 (dk_at dksX4_setKind_0 3 rfl rfl)
theorem dX4_setKind_6 : decode cX4_setKind 6 = .ok (.ifCond .ne 5, 3) := dk_154 0 5 (dk_at dksX4_setKind_0 6 rfl rfl)
theorem dX4_setKind_9 : decode cX4_setKind 9 = .ok (.iconst (-1), 1) := dk_2 (dk_at dksX4_setKind_0 9 rfl rfl)
theorem dX4_setKind_10 : decode cX4_setKind 10 = .ok (.ireturn, 1) := dk_172 (dk_at dksX4_setKind_0 10 rfl rfl)
theorem dX4_setKind_11 : decode cX4_setKind 11 = .ok (.aload_n 0, 1) := dk_42 (dk_at dksX4_setKind_0 11 rfl rfl)
theorem dX4_setKind_12 : decode cX4_setKind 12 = .ok (.invokevirtual 97, 3) := dk_182 0 97 (dk_at dksX4_setKind_0 12 rfl rfl)
theorem dX4_setKind_15 : decode cX4_setKind 15 = .ok (.aload_n 0, 1) := dk_42 (dk_at dksX4_setKind_0 15 rfl rfl)
theorem dX4_setKind_16 : decode cX4_setKind 16 = .ok (.iload_n 1, 1) := dk_27 (dk_at dksX4_setKind_0 16 rfl rfl)
theorem dX4_setKind_17 : decode cX4_setKind 17 = .ok (.invokevirtual 100, 3) := dk_182 0 100 (dk_at dksX4_setKind_0 17 rfl rfl)
theorem dX4_setKind_20 : decode cX4_setKind 20 = .ok (.aload_n 0, 1) := dk_42 (dk_at dksX4_setKind_0 20 rfl rfl)
theorem dX4_setKind_21 : decode cX4_setKind 21 = .ok (.invokevirtual 104, 3) := dk_182 0 104 (dk_at dksX4_setKind_0 21 rfl rfl)
theorem dX4_setKind_24 : decode cX4_setKind 24 = .ok (.ireturn, 1) := dk_172 (dk_at dksX4_setKind_1 0 rfl rfl)
abbrev cX4_kinds : ByteArray := prog_20_method_27_code
def yX4_kinds : MethodName := ⟨RX4, "kinds", "(I)V"⟩
def dkwX4_kinds_1 : List UInt8 := [132, 2, 1, 167, 255, 239, 177]
abbrev dktX4_kinds_1 : List UInt8 := dkwX4_kinds_1 ++ []
def dkwX4_kinds_0 : List UInt8 := [42, 180, 0, 7, 5, 27, 79, 16, 87, 61, 28, 17, 1, 151, 162, 0, 16, 42, 180, 0, 7, 28, 3, 79]
abbrev dktX4_kinds_0 : List UInt8 := dkwX4_kinds_0 ++ dktX4_kinds_1
theorem dksX4_kinds_0 : cX4_kinds.data.toList.drop 0 = dktX4_kinds_0 := by decide +kernel
theorem dksX4_kinds_1 : cX4_kinds.data.toList.drop 24 = dktX4_kinds_1 := dk_seg dksX4_kinds_0 24 rfl rfl
theorem dX4_kinds_0 : decode cX4_kinds 0 = .ok (.aload_n 0, 1) := dk_42 (dk_at dksX4_kinds_0 0 rfl rfl)
theorem dX4_kinds_1 : decode cX4_kinds 1 = .ok (.getfield 7, 3) := dk_180 0 7 (dk_at dksX4_kinds_0 1 rfl rfl)
theorem dX4_kinds_4 : decode cX4_kinds 4 = .ok (.iconst 2, 1) := dk_5 (dk_at dksX4_kinds_0 4 rfl rfl)
theorem dX4_kinds_5 : decode cX4_kinds 5 = .ok (.iload_n 1, 1) := dk_27 (dk_at dksX4_kinds_0 5 rfl rfl)
theorem dX4_kinds_6 : decode cX4_kinds 6 = .ok (.iastore, 1) := dk_79 (dk_at dksX4_kinds_0 6 rfl rfl)
theorem dX4_kinds_7 : decode cX4_kinds 7 = .ok (.bipush 87, 2) := dk_16 87 (dk_at dksX4_kinds_0 7 rfl rfl)
theorem dX4_kinds_9 : decode cX4_kinds 9 = .ok (.istore_n 2, 1) := dk_61 (dk_at dksX4_kinds_0 9 rfl rfl)
theorem dX4_kinds_10 : decode cX4_kinds 10 = .ok (.iload_n 2, 1) := dk_28 (dk_at dksX4_kinds_0 10 rfl rfl)
theorem dX4_kinds_11 : decode cX4_kinds 11 = .ok (.sipush 407, 3) := dk_17 1 151 (dk_at dksX4_kinds_0 11 rfl rfl)
theorem dX4_kinds_14 : decode cX4_kinds 14 = .ok (.if_icmp .ge 16, 3) := dk_162 0 16 (dk_at dksX4_kinds_0 14 rfl rfl)
theorem dX4_kinds_17 : decode cX4_kinds 17 = .ok (.aload_n 0, 1) := dk_42 (dk_at dksX4_kinds_0 17 rfl rfl)
theorem dX4_kinds_18 : decode cX4_kinds 18 = .ok (.getfield 7, 3) := dk_180 0 7 (dk_at dksX4_kinds_0 18 rfl rfl)
theorem dX4_kinds_21 : decode cX4_kinds 21 = .ok (.iload_n 2, 1) := dk_28 (dk_at dksX4_kinds_0 21 rfl rfl)
theorem dX4_kinds_22 : decode cX4_kinds 22 = .ok (.iconst 0, 1) := dk_3 (dk_at dksX4_kinds_0 22 rfl rfl)
theorem dX4_kinds_23 : decode cX4_kinds 23 = .ok (.iastore, 1) := dk_79 (dk_at dksX4_kinds_0 23 rfl rfl)
theorem dX4_kinds_24 : decode cX4_kinds 24 = .ok (.iinc 2 1, 3) := dk_132 2 1 (dk_at dksX4_kinds_1 0 rfl rfl)
theorem dX4_kinds_27 : decode cX4_kinds 27 = .ok (.goto (-17), 3) := dk_167 255 239 (dk_at dksX4_kinds_1 3 rfl rfl)
theorem dX4_kinds_30 : decode cX4_kinds 30 = .ok (.return_, 1) := dk_177 (dk_at dksX4_kinds_1 6 rfl rfl)
abbrev cX4_bonds : ByteArray := prog_20_method_17_code
def yX4_bonds : MethodName := ⟨RX4, "bonds", "()I"⟩
def dkwX4_bonds_2 : List UInt8 := [167, 255, 213, 27, 172]
abbrev dktX4_bonds_2 : List UInt8 := dkwX4_bonds_2 ++ []
def dkwX4_bonds_1 : List UInt8 := [182, 0, 62, 16, 247, 160, 0, 7, 3, 167, 0, 4, 4, 96, 60, 132, 3, 1, 167, 255, 229, 132, 2, 1]
abbrev dktX4_bonds_1 : List UInt8 := dkwX4_bonds_1 ++ dktX4_bonds_2
def dkwX4_bonds_0 : List UInt8 := [3, 60, 3, 61, 28, 42, 182, 0, 46, 162, 0, 41, 3, 62, 29, 7, 162, 0, 28, 27, 42, 28, 29]
abbrev dktX4_bonds_0 : List UInt8 := dkwX4_bonds_0 ++ dktX4_bonds_1
theorem dksX4_bonds_0 : cX4_bonds.data.toList.drop 0 = dktX4_bonds_0 := by decide +kernel
theorem dksX4_bonds_1 : cX4_bonds.data.toList.drop 23 = dktX4_bonds_1 := dk_seg dksX4_bonds_0 23 rfl rfl
theorem dksX4_bonds_2 : cX4_bonds.data.toList.drop 47 = dktX4_bonds_2 := dk_seg dksX4_bonds_1 24 rfl rfl
theorem dX4_bonds_0 : decode cX4_bonds 0 = .ok (.iconst 0, 1) := dk_3 (dk_at dksX4_bonds_0 0 rfl rfl)
theorem dX4_bonds_1 : decode cX4_bonds 1 = .ok (.istore_n 1, 1) := dk_60 (dk_at dksX4_bonds_0 1 rfl rfl)
theorem dX4_bonds_2 : decode cX4_bonds 2 = .ok (.iconst 0, 1) := dk_3 (dk_at dksX4_bonds_0 2 rfl rfl)
theorem dX4_bonds_3 : decode cX4_bonds 3 = .ok (.istore_n 2, 1) := dk_61 (dk_at dksX4_bonds_0 3 rfl rfl)
theorem dX4_bonds_4 : decode cX4_bonds 4 = .ok (.iload_n 2, 1) := dk_28 (dk_at dksX4_bonds_0 4 rfl rfl)
theorem dX4_bonds_5 : decode cX4_bonds 5 = .ok (.aload_n 0, 1) := dk_42 (dk_at dksX4_bonds_0 5 rfl rfl)
theorem dX4_bonds_6 : decode cX4_bonds 6 = .ok (.invokevirtual 46, 3) := dk_182 0 46 (dk_at dksX4_bonds_0 6 rfl rfl)
theorem dX4_bonds_9 : decode cX4_bonds 9 = .ok (.if_icmp .ge 41, 3) := dk_162 0 41 (dk_at dksX4_bonds_0 9 rfl rfl)
theorem dX4_bonds_12 : decode cX4_bonds 12 = .ok (.iconst 0, 1) := dk_3 (dk_at dksX4_bonds_0 12 rfl rfl)
theorem dX4_bonds_13 : decode cX4_bonds 13 = .ok (.istore_n 3, 1) := dk_62 (dk_at dksX4_bonds_0 13 rfl rfl)
theorem dX4_bonds_14 : decode cX4_bonds 14 = .ok (.iload_n 3, 1) := dk_29 (dk_at dksX4_bonds_0 14 rfl rfl)
theorem dX4_bonds_15 : decode cX4_bonds 15 = .ok (.iconst 4, 1) := dk_7 (dk_at dksX4_bonds_0 15 rfl rfl)
theorem dX4_bonds_16 : decode cX4_bonds 16 = .ok (.if_icmp .ge 28, 3) := dk_162 0 28 (dk_at dksX4_bonds_0 16 rfl rfl)
theorem dX4_bonds_19 : decode cX4_bonds 19 = .ok (.iload_n 1, 1) := dk_27 (dk_at dksX4_bonds_0 19 rfl rfl)
theorem dX4_bonds_20 : decode cX4_bonds 20 = .ok (.aload_n 0, 1) := dk_42 (dk_at dksX4_bonds_0 20 rfl rfl)
theorem dX4_bonds_21 : decode cX4_bonds 21 = .ok (.iload_n 2, 1) := dk_28 (dk_at dksX4_bonds_0 21 rfl rfl)
theorem dX4_bonds_22 : decode cX4_bonds 22 = .ok (.iload_n 3, 1) := dk_29 (dk_at dksX4_bonds_0 22 rfl rfl)
theorem dX4_bonds_23 : decode cX4_bonds 23 = .ok (.invokevirtual 62, 3) := dk_182 0 62 (dk_at dksX4_bonds_1 0 rfl rfl)
theorem dX4_bonds_26 : decode cX4_bonds 26 = .ok (.bipush (-9), 2) := dk_16 247 (dk_at dksX4_bonds_1 3 rfl rfl)
theorem dX4_bonds_28 : decode cX4_bonds 28 = .ok (.if_icmp .ne 7, 3) := dk_160 0 7 (dk_at dksX4_bonds_1 5 rfl rfl)
theorem dX4_bonds_31 : decode cX4_bonds 31 = .ok (.iconst 0, 1) := dk_3 (dk_at dksX4_bonds_1 8 rfl rfl)
theorem dX4_bonds_32 : decode cX4_bonds 32 = .ok (.goto 4, 3) := dk_167 0 4 (dk_at dksX4_bonds_1 9 rfl rfl)
theorem dX4_bonds_35 : decode cX4_bonds 35 = .ok (.iconst 1, 1) := dk_4 (dk_at dksX4_bonds_1 12 rfl rfl)
theorem dX4_bonds_36 : decode cX4_bonds 36 = .ok (.iadd, 1) := dk_96 (dk_at dksX4_bonds_1 13 rfl rfl)
theorem dX4_bonds_37 : decode cX4_bonds 37 = .ok (.istore_n 1, 1) := dk_60 (dk_at dksX4_bonds_1 14 rfl rfl)
theorem dX4_bonds_38 : decode cX4_bonds 38 = .ok (.iinc 3 1, 3) := dk_132 3 1 (dk_at dksX4_bonds_1 15 rfl rfl)
theorem dX4_bonds_41 : decode cX4_bonds 41 = .ok (.goto (-27), 3) := dk_167 255 229 (dk_at dksX4_bonds_1 18 rfl rfl)
theorem dX4_bonds_44 : decode cX4_bonds 44 = .ok (.iinc 2 1, 3) := dk_132 2 1 (dk_at dksX4_bonds_1 21 rfl rfl)
theorem dX4_bonds_47 : decode cX4_bonds 47 = .ok (.goto (-43), 3) := dk_167 255 213 (dk_at dksX4_bonds_2 0 rfl rfl)
theorem dX4_bonds_50 : decode cX4_bonds 50 = .ok (.iload_n 1, 1) := dk_27 (dk_at dksX4_bonds_2 3 rfl rfl)
theorem dX4_bonds_51 : decode cX4_bonds 51 = .ok (.ireturn, 1) := dk_172 (dk_at dksX4_bonds_2 4 rfl rfl)
abbrev cX4_second : ByteArray := prog_20_method_12_code
def yX4_second : MethodName := ⟨RX4, "second", "(II)I"⟩
def dkwX4_second_5 : List UInt8 := [167, 0, 5, 16, 247, 172]
abbrev dktX4_second_5 : List UInt8 := dkwX4_second_5 ++ []
def dkwX4_second_4 : List UInt8 := [21, 4, 42, 180, 0, 7, 4, 46, 162, 0, 17, 21, 4, 42, 180, 0, 7, 3, 46, 104, 29, 96]
abbrev dktX4_second_4 : List UInt8 := dkwX4_second_4 ++ dktX4_second_5
def dkwX4_second_3 : List UInt8 := [167, 0, 4, 4, 96, 54, 4, 29, 3, 42, 180, 0, 7, 3, 46, 4, 100, 184, 0, 50, 153, 0, 28]
abbrev dktX4_second_3 : List UInt8 := dkwX4_second_3 ++ dktX4_second_4
def dkwX4_second_2 : List UInt8 := [160, 0, 7, 2, 167, 0, 4, 3, 96, 62, 27, 42, 180, 0, 7, 3, 46, 108, 28, 154, 0, 7, 3]
abbrev dktX4_second_2 : List UInt8 := dkwX4_second_2 ++ dktX4_second_3
def dkwX4_second_1 : List UInt8 := [16, 247, 172, 42, 27, 182, 0, 58, 28, 153, 0, 8, 28, 6, 160, 0, 7, 4, 167, 0, 13, 28, 5]
abbrev dktX4_second_1 : List UInt8 := dkwX4_second_1 ++ dktX4_second_2
def dkwX4_second_0 : List UInt8 := [42, 27, 182, 0, 54, 153, 0, 19, 28, 3, 42, 180, 0, 7, 5, 46, 4, 96, 184, 0, 50, 154, 0, 6]
abbrev dktX4_second_0 : List UInt8 := dkwX4_second_0 ++ dktX4_second_1
theorem dksX4_second_0 : cX4_second.data.toList.drop 0 = dktX4_second_0 := by decide +kernel
theorem dksX4_second_1 : cX4_second.data.toList.drop 24 = dktX4_second_1 := dk_seg dksX4_second_0 24 rfl rfl
theorem dksX4_second_2 : cX4_second.data.toList.drop 47 = dktX4_second_2 := dk_seg dksX4_second_1 23 rfl rfl
theorem dksX4_second_3 : cX4_second.data.toList.drop 70 = dktX4_second_3 := dk_seg dksX4_second_2 23 rfl rfl
theorem dksX4_second_4 : cX4_second.data.toList.drop 93 = dktX4_second_4 := dk_seg dksX4_second_3 23 rfl rfl
theorem dksX4_second_5 : cX4_second.data.toList.drop 115 = dktX4_second_5 := dk_seg dksX4_second_4 22 rfl rfl
theorem dX4_second_0 : decode cX4_second 0 = .ok (.aload_n 0, 1) := dk_42 (dk_at dksX4_second_0 0 rfl rfl)
theorem dX4_second_1 : decode cX4_second 1 = .ok (.iload_n 1, 1) := dk_27 (dk_at dksX4_second_0 1 rfl rfl)
theorem dX4_second_2 : decode cX4_second 2 = .ok (.invokevirtual 54, 3) := dk_182 0 54 (dk_at dksX4_second_0 2 rfl rfl)
theorem dX4_second_5 : decode cX4_second 5 = .ok (.ifCond .eq 19, 3) := dk_153 0 19 (dk_at dksX4_second_0 5 rfl rfl)
theorem dX4_second_8 : decode cX4_second 8 = .ok (.iload_n 2, 1) := dk_28 (dk_at dksX4_second_0 8 rfl rfl)
theorem dX4_second_9 : decode cX4_second 9 = .ok (.iconst 0, 1) := dk_3 (dk_at dksX4_second_0 9 rfl rfl)
theorem dX4_second_10 : decode cX4_second 10 = .ok (.aload_n 0, 1) := dk_42 (dk_at dksX4_second_0 10 rfl rfl)
theorem dX4_second_11 : decode cX4_second 11 = .ok (.getfield 7, 3) := dk_180 0 7 (dk_at dksX4_second_0 11 rfl rfl)
theorem dX4_second_14 : decode cX4_second 14 = .ok (.iconst 2, 1) := dk_5 (dk_at dksX4_second_0 14 rfl rfl)
theorem dX4_second_15 : decode cX4_second 15 = .ok (.iaload, 1) := dk_46 (dk_at dksX4_second_0 15 rfl rfl)
theorem dX4_second_16 : decode cX4_second 16 = .ok (.iconst 1, 1) := dk_4 (dk_at dksX4_second_0 16 rfl rfl)
theorem dX4_second_17 : decode cX4_second 17 = .ok (.iadd, 1) := dk_96 (dk_at dksX4_second_0 17 rfl rfl)
theorem dX4_second_18 : decode cX4_second 18 = .ok (.invokestatic 50, 3) := dk_184 0 50 (dk_at dksX4_second_0 18 rfl rfl)
theorem dX4_second_21 : decode cX4_second 21 = .ok (.ifCond .ne 6, 3) := dk_154 0 6 (dk_at dksX4_second_0 21 rfl rfl)
theorem dX4_second_24 : decode cX4_second 24 = .ok (.bipush (-9), 2) := dk_16 247 (dk_at dksX4_second_1 0 rfl rfl)
theorem dX4_second_26 : decode cX4_second 26 = .ok (.ireturn, 1) := dk_172 (dk_at dksX4_second_1 2 rfl rfl)
theorem dX4_second_27 : decode cX4_second 27 = .ok (.aload_n 0, 1) := dk_42 (dk_at dksX4_second_1 3 rfl rfl)
theorem dX4_second_28 : decode cX4_second 28 = .ok (.iload_n 1, 1) := dk_27 (dk_at dksX4_second_1 4 rfl rfl)
theorem dX4_second_29 : decode cX4_second 29 = .ok (.invokevirtual 58, 3) := dk_182 0 58 (dk_at dksX4_second_1 5 rfl rfl)
theorem dX4_second_32 : decode cX4_second 32 = .ok (.iload_n 2, 1) := dk_28 (dk_at dksX4_second_1 8 rfl rfl)
theorem dX4_second_33 : decode cX4_second 33 = .ok (.ifCond .eq 8, 3) := dk_153 0 8 (dk_at dksX4_second_1 9 rfl rfl)
theorem dX4_second_36 : decode cX4_second 36 = .ok (.iload_n 2, 1) := dk_28 (dk_at dksX4_second_1 12 rfl rfl)
theorem dX4_second_37 : decode cX4_second 37 = .ok (.iconst 3, 1) := dk_6 (dk_at dksX4_second_1 13 rfl rfl)
theorem dX4_second_38 : decode cX4_second 38 = .ok (.if_icmp .ne 7, 3) := dk_160 0 7 (dk_at dksX4_second_1 14 rfl rfl)
theorem dX4_second_41 : decode cX4_second 41 = .ok (.iconst 1, 1) := dk_4 (dk_at dksX4_second_1 17 rfl rfl)
theorem dX4_second_42 : decode cX4_second 42 = .ok (.goto 13, 3) := dk_167 0 13 (dk_at dksX4_second_1 18 rfl rfl)
theorem dX4_second_45 : decode cX4_second 45 = .ok (.iload_n 2, 1) := dk_28 (dk_at dksX4_second_1 21 rfl rfl)
theorem dX4_second_46 : decode cX4_second 46 = .ok (.iconst 2, 1) := dk_5 (dk_at dksX4_second_1 22 rfl rfl)
theorem dX4_second_47 : decode cX4_second 47 = .ok (.if_icmp .ne 7, 3) := dk_160 0 7 (dk_at dksX4_second_2 0 rfl rfl)
theorem dX4_second_50 : decode cX4_second 50 = .ok (.iconst (-1), 1) := dk_2 (dk_at dksX4_second_2 3 rfl rfl)
theorem dX4_second_51 : decode cX4_second 51 = .ok (.goto 4, 3) := dk_167 0 4 (dk_at dksX4_second_2 4 rfl rfl)
theorem dX4_second_54 : decode cX4_second 54 = .ok (.iconst 0, 1) := dk_3 (dk_at dksX4_second_2 7 rfl rfl)
theorem dX4_second_55 : decode cX4_second 55 = .ok (.iadd, 1) := dk_96 (dk_at dksX4_second_2 8 rfl rfl)
theorem dX4_second_56 : decode cX4_second 56 = .ok (.istore_n 3, 1) := dk_62 (dk_at dksX4_second_2 9 rfl rfl)
theorem dX4_second_57 : decode cX4_second 57 = .ok (.iload_n 1, 1) := dk_27 (dk_at dksX4_second_2 10 rfl rfl)
theorem dX4_second_58 : decode cX4_second 58 = .ok (.aload_n 0, 1) := dk_42 (dk_at dksX4_second_2 11 rfl rfl)
theorem dX4_second_59 : decode cX4_second 59 = .ok (.getfield 7, 3) := dk_180 0 7 (dk_at dksX4_second_2 12 rfl rfl)
theorem dX4_second_62 : decode cX4_second 62 = .ok (.iconst 0, 1) := dk_3 (dk_at dksX4_second_2 15 rfl rfl)
theorem dX4_second_63 : decode cX4_second 63 = .ok (.iaload, 1) := dk_46 (dk_at dksX4_second_2 16 rfl rfl)
theorem dX4_second_64 : decode cX4_second 64 = .ok (.idiv, 1) := dk_108 (dk_at dksX4_second_2 17 rfl rfl)
theorem dX4_second_65 : decode cX4_second 65 = .ok (.iload_n 2, 1) := dk_28 (dk_at dksX4_second_2 18 rfl rfl)
theorem dX4_second_66 : decode cX4_second 66 = .ok (.ifCond .ne 7, 3) := dk_154 0 7 (dk_at dksX4_second_2 19 rfl rfl)
theorem dX4_second_69 : decode cX4_second 69 = .ok (.iconst 0, 1) := dk_3 (dk_at dksX4_second_2 22 rfl rfl)
theorem dX4_second_70 : decode cX4_second 70 = .ok (.goto 4, 3) := dk_167 0 4 (dk_at dksX4_second_3 0 rfl rfl)
theorem dX4_second_73 : decode cX4_second 73 = .ok (.iconst 1, 1) := dk_4 (dk_at dksX4_second_3 3 rfl rfl)
theorem dX4_second_74 : decode cX4_second 74 = .ok (.iadd, 1) := dk_96 (dk_at dksX4_second_3 4 rfl rfl)
theorem dX4_second_75 : decode cX4_second 75 = .ok (.istore 4, 2) := dk_54 4 (dk_at dksX4_second_3 5 rfl rfl)
theorem dX4_second_77 : decode cX4_second 77 = .ok (.iload_n 3, 1) := dk_29 (dk_at dksX4_second_3 7 rfl rfl)
theorem dX4_second_78 : decode cX4_second 78 = .ok (.iconst 0, 1) := dk_3 (dk_at dksX4_second_3 8 rfl rfl)
theorem dX4_second_79 : decode cX4_second 79 = .ok (.aload_n 0, 1) := dk_42 (dk_at dksX4_second_3 9 rfl rfl)
theorem dX4_second_80 : decode cX4_second 80 = .ok (.getfield 7, 3) := dk_180 0 7 (dk_at dksX4_second_3 10 rfl rfl)
theorem dX4_second_83 : decode cX4_second 83 = .ok (.iconst 0, 1) := dk_3 (dk_at dksX4_second_3 13 rfl rfl)
theorem dX4_second_84 : decode cX4_second 84 = .ok (.iaload, 1) := dk_46 (dk_at dksX4_second_3 14 rfl rfl)
theorem dX4_second_85 : decode cX4_second 85 = .ok (.iconst 1, 1) := dk_4 (dk_at dksX4_second_3 15 rfl rfl)
theorem dX4_second_86 : decode cX4_second 86 = .ok (.isub, 1) := dk_100 (dk_at dksX4_second_3 16 rfl rfl)
theorem dX4_second_87 : decode cX4_second 87 = .ok (.invokestatic 50, 3) := dk_184 0 50 (dk_at dksX4_second_3 17 rfl rfl)
theorem dX4_second_90 : decode cX4_second 90 = .ok (.ifCond .eq 28, 3) := dk_153 0 28 (dk_at dksX4_second_3 20 rfl rfl)
theorem dX4_second_93 : decode cX4_second 93 = .ok (.iload 4, 2) := dk_21 4 (dk_at dksX4_second_4 0 rfl rfl)
theorem dX4_second_95 : decode cX4_second 95 = .ok (.aload_n 0, 1) := dk_42 (dk_at dksX4_second_4 2 rfl rfl)
theorem dX4_second_96 : decode cX4_second 96 = .ok (.getfield 7, 3) := dk_180 0 7 (dk_at dksX4_second_4 3 rfl rfl)
theorem dX4_second_99 : decode cX4_second 99 = .ok (.iconst 1, 1) := dk_4 (dk_at dksX4_second_4 6 rfl rfl)
theorem dX4_second_100 : decode cX4_second 100 = .ok (.iaload, 1) := dk_46 (dk_at dksX4_second_4 7 rfl rfl)
theorem dX4_second_101 : decode cX4_second 101 = .ok (.if_icmp .ge 17, 3) := dk_162 0 17 (dk_at dksX4_second_4 8 rfl rfl)
theorem dX4_second_104 : decode cX4_second 104 = .ok (.iload 4, 2) := dk_21 4 (dk_at dksX4_second_4 11 rfl rfl)
theorem dX4_second_106 : decode cX4_second 106 = .ok (.aload_n 0, 1) := dk_42 (dk_at dksX4_second_4 13 rfl rfl)
theorem dX4_second_107 : decode cX4_second 107 = .ok (.getfield 7, 3) := dk_180 0 7 (dk_at dksX4_second_4 14 rfl rfl)
theorem dX4_second_110 : decode cX4_second 110 = .ok (.iconst 0, 1) := dk_3 (dk_at dksX4_second_4 17 rfl rfl)
theorem dX4_second_111 : decode cX4_second 111 = .ok (.iaload, 1) := dk_46 (dk_at dksX4_second_4 18 rfl rfl)
theorem dX4_second_112 : decode cX4_second 112 = .ok (.imul, 1) := dk_104 (dk_at dksX4_second_4 19 rfl rfl)
theorem dX4_second_113 : decode cX4_second 113 = .ok (.iload_n 3, 1) := dk_29 (dk_at dksX4_second_4 20 rfl rfl)
theorem dX4_second_114 : decode cX4_second 114 = .ok (.iadd, 1) := dk_96 (dk_at dksX4_second_4 21 rfl rfl)
theorem dX4_second_115 : decode cX4_second 115 = .ok (.goto 5, 3) := dk_167 0 5 (dk_at dksX4_second_5 0 rfl rfl)
theorem dX4_second_118 : decode cX4_second 118 = .ok (.bipush (-9), 2) := dk_16 247 (dk_at dksX4_second_5 3 rfl rfl)
theorem dX4_second_120 : decode cX4_second 120 = .ok (.ireturn, 1) := dk_172 (dk_at dksX4_second_5 5 rfl rfl)
abbrev cX4_isCell : ByteArray := prog_20_method_10_code
def yX4_isCell : MethodName := ⟨RX4, "isCell", "(I)Z"⟩
def dkwX4_isCell_0 : List UInt8 := [27, 3, 42, 182, 0, 46, 4, 100, 184, 0, 50, 172]
abbrev dktX4_isCell_0 : List UInt8 := dkwX4_isCell_0 ++ []
theorem dksX4_isCell_0 : cX4_isCell.data.toList.drop 0 = dktX4_isCell_0 := by decide +kernel
theorem dX4_isCell_0 : decode cX4_isCell 0 = .ok (.iload_n 1, 1) := dk_27 (dk_at dksX4_isCell_0 0 rfl rfl)
theorem dX4_isCell_1 : decode cX4_isCell 1 = .ok (.iconst 0, 1) := dk_3 (dk_at dksX4_isCell_0 1 rfl rfl)
theorem dX4_isCell_2 : decode cX4_isCell 2 = .ok (.aload_n 0, 1) := dk_42 (dk_at dksX4_isCell_0 2 rfl rfl)
theorem dX4_isCell_3 : decode cX4_isCell 3 = .ok (.invokevirtual 46, 3) := dk_182 0 46 (dk_at dksX4_isCell_0 3 rfl rfl)
theorem dX4_isCell_6 : decode cX4_isCell 6 = .ok (.iconst 1, 1) := dk_4 (dk_at dksX4_isCell_0 6 rfl rfl)
theorem dX4_isCell_7 : decode cX4_isCell 7 = .ok (.isub, 1) := dk_100 (dk_at dksX4_isCell_0 7 rfl rfl)
theorem dX4_isCell_8 : decode cX4_isCell 8 = .ok (.invokestatic 50, 3) := dk_184 0 50 (dk_at dksX4_isCell_0 8 rfl rfl)
theorem dX4_isCell_11 : decode cX4_isCell 11 = .ok (.ireturn, 1) := dk_172 (dk_at dksX4_isCell_0 11 rfl rfl)
abbrev cX4_column : ByteArray := prog_20_method_11_code
def yX4_column : MethodName := ⟨RX4, "column", "(I)I"⟩
def dkwX4_column_0 : List UInt8 := [27, 42, 180, 0, 7, 3, 46, 112, 172]
abbrev dktX4_column_0 : List UInt8 := dkwX4_column_0 ++ []
theorem dksX4_column_0 : cX4_column.data.toList.drop 0 = dktX4_column_0 := by decide +kernel
theorem dX4_column_0 : decode cX4_column 0 = .ok (.iload_n 1, 1) := dk_27 (dk_at dksX4_column_0 0 rfl rfl)
theorem dX4_column_1 : decode cX4_column 1 = .ok (.aload_n 0, 1) := dk_42 (dk_at dksX4_column_0 1 rfl rfl)
theorem dX4_column_2 : decode cX4_column 2 = .ok (.getfield 7, 3) := dk_180 0 7 (dk_at dksX4_column_0 2 rfl rfl)
theorem dX4_column_5 : decode cX4_column 5 = .ok (.iconst 0, 1) := dk_3 (dk_at dksX4_column_0 5 rfl rfl)
theorem dX4_column_6 : decode cX4_column 6 = .ok (.iaload, 1) := dk_46 (dk_at dksX4_column_0 6 rfl rfl)
theorem dX4_column_7 : decode cX4_column 7 = .ok (.irem, 1) := dk_112 (dk_at dksX4_column_0 7 rfl rfl)
theorem dX4_column_8 : decode cX4_column 8 = .ok (.ireturn, 1) := dk_172 (dk_at dksX4_column_0 8 rfl rfl)
abbrev cX4_setGrain : ByteArray := prog_20_method_29_code
def yX4_setGrain : MethodName := ⟨RX4, "setGrain", "(II)I"⟩
def dkwX4_setGrain_1 : List UInt8 := [16, 7, 27, 96, 46, 62, 42, 182, 0, 97, 42, 180, 0, 7, 16, 7, 27, 96, 28, 79, 29, 172]
abbrev dktX4_setGrain_1 : List UInt8 := dkwX4_setGrain_1 ++ []
def dkwX4_setGrain_0 : List UInt8 := [42, 27, 182, 0, 54, 153, 0, 13, 28, 3, 16, 99, 184, 0, 50, 154, 0, 5, 2, 172, 42, 180, 0, 7]
abbrev dktX4_setGrain_0 : List UInt8 := dkwX4_setGrain_0 ++ dktX4_setGrain_1
theorem dksX4_setGrain_0 : cX4_setGrain.data.toList.drop 0 = dktX4_setGrain_0 := by decide +kernel
theorem dksX4_setGrain_1 : cX4_setGrain.data.toList.drop 24 = dktX4_setGrain_1 := dk_seg dksX4_setGrain_0 24 rfl rfl
theorem dX4_setGrain_0 : decode cX4_setGrain 0 = .ok (.aload_n 0, 1) := dk_42 (dk_at dksX4_setGrain_0 0 rfl rfl)
theorem dX4_setGrain_1 : decode cX4_setGrain 1 = .ok (.iload_n 1, 1) := dk_27 (dk_at dksX4_setGrain_0 1 rfl rfl)
theorem dX4_setGrain_2 : decode cX4_setGrain 2 = .ok (.invokevirtual 54, 3) := dk_182 0 54 (dk_at dksX4_setGrain_0 2 rfl rfl)
theorem dX4_setGrain_5 : decode cX4_setGrain 5 = .ok (.ifCond .eq 13, 3) := dk_153 0 13 (dk_at dksX4_setGrain_0 5 rfl rfl)
theorem dX4_setGrain_8 : decode cX4_setGrain 8 = .ok (.iload_n 2, 1) := dk_28 (dk_at dksX4_setGrain_0 8 rfl rfl)
theorem dX4_setGrain_9 : decode cX4_setGrain 9 = .ok (.iconst 0, 1) := dk_3 (dk_at dksX4_setGrain_0 9 rfl rfl)
theorem dX4_setGrain_10 : decode cX4_setGrain 10 = .ok (.bipush 99, 2) := dk_16 99 (dk_at dksX4_setGrain_0 10 rfl rfl)
theorem dX4_setGrain_12 : decode cX4_setGrain 12 = .ok (.invokestatic 50, 3) := dk_184 0 50 (dk_at dksX4_setGrain_0 12 rfl rfl)
theorem dX4_setGrain_15 : decode cX4_setGrain 15 = .ok (.ifCond .ne 5, 3) := dk_154 0 5 (dk_at dksX4_setGrain_0 15 rfl rfl)
theorem dX4_setGrain_18 : decode cX4_setGrain 18 = .ok (.iconst (-1), 1) := dk_2 (dk_at dksX4_setGrain_0 18 rfl rfl)
theorem dX4_setGrain_19 : decode cX4_setGrain 19 = .ok (.ireturn, 1) := dk_172 (dk_at dksX4_setGrain_0 19 rfl rfl)
theorem dX4_setGrain_20 : decode cX4_setGrain 20 = .ok (.aload_n 0, 1) := dk_42 (dk_at dksX4_setGrain_0 20 rfl rfl)
theorem dX4_setGrain_21 : decode cX4_setGrain 21 = .ok (.getfield 7, 3) := dk_180 0 7 (dk_at dksX4_setGrain_0 21 rfl rfl)
theorem dX4_setGrain_24 : decode cX4_setGrain 24 = .ok (.bipush 7, 2) := dk_16 7 (dk_at dksX4_setGrain_1 0 rfl rfl)
theorem dX4_setGrain_26 : decode cX4_setGrain 26 = .ok (.iload_n 1, 1) := dk_27 (dk_at dksX4_setGrain_1 2 rfl rfl)
theorem dX4_setGrain_27 : decode cX4_setGrain 27 = .ok (.iadd, 1) := dk_96 (dk_at dksX4_setGrain_1 3 rfl rfl)
theorem dX4_setGrain_28 : decode cX4_setGrain 28 = .ok (.iaload, 1) := dk_46 (dk_at dksX4_setGrain_1 4 rfl rfl)
theorem dX4_setGrain_29 : decode cX4_setGrain 29 = .ok (.istore_n 3, 1) := dk_62 (dk_at dksX4_setGrain_1 5 rfl rfl)
theorem dX4_setGrain_30 : decode cX4_setGrain 30 = .ok (.aload_n 0, 1) := dk_42 (dk_at dksX4_setGrain_1 6 rfl rfl)
theorem dX4_setGrain_31 : decode cX4_setGrain 31 = .ok (.invokevirtual 97, 3) := dk_182 0 97 (dk_at dksX4_setGrain_1 7 rfl rfl)
theorem dX4_setGrain_34 : decode cX4_setGrain 34 = .ok (.aload_n 0, 1) := dk_42 (dk_at dksX4_setGrain_1 10 rfl rfl)
theorem dX4_setGrain_35 : decode cX4_setGrain 35 = .ok (.getfield 7, 3) := dk_180 0 7 (dk_at dksX4_setGrain_1 11 rfl rfl)
theorem dX4_setGrain_38 : decode cX4_setGrain 38 = .ok (.bipush 7, 2) := dk_16 7 (dk_at dksX4_setGrain_1 14 rfl rfl)
theorem dX4_setGrain_40 : decode cX4_setGrain 40 = .ok (.iload_n 1, 1) := dk_27 (dk_at dksX4_setGrain_1 16 rfl rfl)
theorem dX4_setGrain_41 : decode cX4_setGrain 41 = .ok (.iadd, 1) := dk_96 (dk_at dksX4_setGrain_1 17 rfl rfl)
theorem dX4_setGrain_42 : decode cX4_setGrain 42 = .ok (.iload_n 2, 1) := dk_28 (dk_at dksX4_setGrain_1 18 rfl rfl)
theorem dX4_setGrain_43 : decode cX4_setGrain 43 = .ok (.iastore, 1) := dk_79 (dk_at dksX4_setGrain_1 19 rfl rfl)
theorem dX4_setGrain_44 : decode cX4_setGrain 44 = .ok (.iload_n 3, 1) := dk_29 (dk_at dksX4_setGrain_1 20 rfl rfl)
theorem dX4_setGrain_45 : decode cX4_setGrain 45 = .ok (.ireturn, 1) := dk_172 (dk_at dksX4_setGrain_1 21 rfl rfl)
abbrev cX4_fill : ByteArray := prog_20_method_31_code
def yX4_fill : MethodName := ⟨RX4, "fill", "(I)I"⟩
def dkwX4_fill_1 : List UInt8 := [180, 0, 7, 6, 46, 182, 0, 111, 172]
abbrev dktX4_fill_1 : List UInt8 := dkwX4_fill_1 ++ []
def dkwX4_fill_0 : List UInt8 := [27, 3, 17, 39, 15, 184, 0, 50, 154, 0, 5, 2, 172, 42, 182, 0, 97, 42, 27, 182, 0, 108, 42, 42]
abbrev dktX4_fill_0 : List UInt8 := dkwX4_fill_0 ++ dktX4_fill_1
theorem dksX4_fill_0 : cX4_fill.data.toList.drop 0 = dktX4_fill_0 := by decide +kernel
theorem dksX4_fill_1 : cX4_fill.data.toList.drop 24 = dktX4_fill_1 := dk_seg dksX4_fill_0 24 rfl rfl
theorem dX4_fill_0 : decode cX4_fill 0 = .ok (.iload_n 1, 1) := dk_27 (dk_at dksX4_fill_0 0 rfl rfl)
theorem dX4_fill_1 : decode cX4_fill 1 = .ok (.iconst 0, 1) := dk_3 (dk_at dksX4_fill_0 1 rfl rfl)
theorem dX4_fill_2 : decode cX4_fill 2 = .ok (.sipush 9999, 3) := dk_17 39 15 (dk_at dksX4_fill_0 2 rfl rfl)
theorem dX4_fill_5 : decode cX4_fill 5 = .ok (.invokestatic 50, 3) := dk_184 0 50 (dk_at dksX4_fill_0 5 rfl rfl)
theorem dX4_fill_8 : decode cX4_fill 8 = .ok (.ifCond .ne 5, 3) := dk_154 0 5 (dk_at dksX4_fill_0 8 rfl rfl)
theorem dX4_fill_11 : decode cX4_fill 11 = .ok (.iconst (-1), 1) := dk_2 (dk_at dksX4_fill_0 11 rfl rfl)
theorem dX4_fill_12 : decode cX4_fill 12 = .ok (.ireturn, 1) := dk_172 (dk_at dksX4_fill_0 12 rfl rfl)
theorem dX4_fill_13 : decode cX4_fill 13 = .ok (.aload_n 0, 1) := dk_42 (dk_at dksX4_fill_0 13 rfl rfl)
theorem dX4_fill_14 : decode cX4_fill 14 = .ok (.invokevirtual 97, 3) := dk_182 0 97 (dk_at dksX4_fill_0 14 rfl rfl)
theorem dX4_fill_17 : decode cX4_fill 17 = .ok (.aload_n 0, 1) := dk_42 (dk_at dksX4_fill_0 17 rfl rfl)
theorem dX4_fill_18 : decode cX4_fill 18 = .ok (.iload_n 1, 1) := dk_27 (dk_at dksX4_fill_0 18 rfl rfl)
theorem dX4_fill_19 : decode cX4_fill 19 = .ok (.invokevirtual 108, 3) := dk_182 0 108 (dk_at dksX4_fill_0 19 rfl rfl)
theorem dX4_fill_22 : decode cX4_fill 22 = .ok (.aload_n 0, 1) := dk_42 (dk_at dksX4_fill_0 22 rfl rfl)
theorem dX4_fill_23 : decode cX4_fill 23 = .ok (.aload_n 0, 1) := dk_42 (dk_at dksX4_fill_0 23 rfl rfl)
theorem dX4_fill_24 : decode cX4_fill 24 = .ok (.getfield 7, 3) := dk_180 0 7 (dk_at dksX4_fill_1 0 rfl rfl)
theorem dX4_fill_27 : decode cX4_fill 27 = .ok (.iconst 3, 1) := dk_6 (dk_at dksX4_fill_1 3 rfl rfl)
theorem dX4_fill_28 : decode cX4_fill 28 = .ok (.iaload, 1) := dk_46 (dk_at dksX4_fill_1 4 rfl rfl)
theorem dX4_fill_29 : decode cX4_fill 29 = .ok (.invokevirtual 111, 3) := dk_182 0 111 (dk_at dksX4_fill_1 5 rfl rfl)
theorem dX4_fill_32 : decode cX4_fill 32 = .ok (.ireturn, 1) := dk_172 (dk_at dksX4_fill_1 8 rfl rfl)
abbrev cX4_fills : ByteArray := prog_20_method_30_code
def yX4_fills : MethodName := ⟨RX4, "fills", "(I)V"⟩
def dkwX4_fills_1 : List UInt8 := [180, 0, 7, 16, 7, 29, 96, 28, 16, 100, 112, 79, 132, 3, 1, 167, 255, 221, 177]
abbrev dktX4_fills_1 : List UInt8 := dkwX4_fills_1 ++ []
def dkwX4_fills_0 : List UInt8 := [27, 61, 3, 62, 29, 42, 182, 0, 46, 162, 0, 33, 16, 75, 28, 104, 16, 74, 96, 18, 107, 112, 61, 42]
abbrev dktX4_fills_0 : List UInt8 := dkwX4_fills_0 ++ dktX4_fills_1
theorem dksX4_fills_0 : cX4_fills.data.toList.drop 0 = dktX4_fills_0 := by decide +kernel
theorem dksX4_fills_1 : cX4_fills.data.toList.drop 24 = dktX4_fills_1 := dk_seg dksX4_fills_0 24 rfl rfl
theorem dX4_fills_0 : decode cX4_fills 0 = .ok (.iload_n 1, 1) := dk_27 (dk_at dksX4_fills_0 0 rfl rfl)
theorem dX4_fills_1 : decode cX4_fills 1 = .ok (.istore_n 2, 1) := dk_61 (dk_at dksX4_fills_0 1 rfl rfl)
theorem dX4_fills_2 : decode cX4_fills 2 = .ok (.iconst 0, 1) := dk_3 (dk_at dksX4_fills_0 2 rfl rfl)
theorem dX4_fills_3 : decode cX4_fills 3 = .ok (.istore_n 3, 1) := dk_62 (dk_at dksX4_fills_0 3 rfl rfl)
theorem dX4_fills_4 : decode cX4_fills 4 = .ok (.iload_n 3, 1) := dk_29 (dk_at dksX4_fills_0 4 rfl rfl)
theorem dX4_fills_5 : decode cX4_fills 5 = .ok (.aload_n 0, 1) := dk_42 (dk_at dksX4_fills_0 5 rfl rfl)
theorem dX4_fills_6 : decode cX4_fills 6 = .ok (.invokevirtual 46, 3) := dk_182 0 46 (dk_at dksX4_fills_0 6 rfl rfl)
theorem dX4_fills_9 : decode cX4_fills 9 = .ok (.if_icmp .ge 33, 3) := dk_162 0 33 (dk_at dksX4_fills_0 9 rfl rfl)
theorem dX4_fills_12 : decode cX4_fills 12 = .ok (.bipush 75, 2) := dk_16 75 (dk_at dksX4_fills_0 12 rfl rfl)
theorem dX4_fills_14 : decode cX4_fills 14 = .ok (.iload_n 2, 1) := dk_28 (dk_at dksX4_fills_0 14 rfl rfl)
theorem dX4_fills_15 : decode cX4_fills 15 = .ok (.imul, 1) := dk_104 (dk_at dksX4_fills_0 15 rfl rfl)
theorem dX4_fills_16 : decode cX4_fills 16 = .ok (.bipush 74, 2) := dk_16 74 (dk_at dksX4_fills_0 16 rfl rfl)
theorem dX4_fills_18 : decode cX4_fills 18 = .ok (.iadd, 1) := dk_96 (dk_at dksX4_fills_0 18 rfl rfl)
theorem dX4_fills_19 : decode cX4_fills 19 = .ok (.ldc 107, 2) := dk_18 107 (dk_at dksX4_fills_0 19 rfl rfl)
theorem dX4_fills_21 : decode cX4_fills 21 = .ok (.irem, 1) := dk_112 (dk_at dksX4_fills_0 21 rfl rfl)
theorem dX4_fills_22 : decode cX4_fills 22 = .ok (.istore_n 2, 1) := dk_61 (dk_at dksX4_fills_0 22 rfl rfl)
theorem dX4_fills_23 : decode cX4_fills 23 = .ok (.aload_n 0, 1) := dk_42 (dk_at dksX4_fills_0 23 rfl rfl)
theorem dX4_fills_24 : decode cX4_fills 24 = .ok (.getfield 7, 3) := dk_180 0 7 (dk_at dksX4_fills_1 0 rfl rfl)
theorem dX4_fills_27 : decode cX4_fills 27 = .ok (.bipush 7, 2) := dk_16 7 (dk_at dksX4_fills_1 3 rfl rfl)
theorem dX4_fills_29 : decode cX4_fills 29 = .ok (.iload_n 3, 1) := dk_29 (dk_at dksX4_fills_1 5 rfl rfl)
theorem dX4_fills_30 : decode cX4_fills 30 = .ok (.iadd, 1) := dk_96 (dk_at dksX4_fills_1 6 rfl rfl)
theorem dX4_fills_31 : decode cX4_fills 31 = .ok (.iload_n 2, 1) := dk_28 (dk_at dksX4_fills_1 7 rfl rfl)
theorem dX4_fills_32 : decode cX4_fills 32 = .ok (.bipush 100, 2) := dk_16 100 (dk_at dksX4_fills_1 8 rfl rfl)
theorem dX4_fills_34 : decode cX4_fills 34 = .ok (.irem, 1) := dk_112 (dk_at dksX4_fills_1 10 rfl rfl)
theorem dX4_fills_35 : decode cX4_fills 35 = .ok (.iastore, 1) := dk_79 (dk_at dksX4_fills_1 11 rfl rfl)
theorem dX4_fills_36 : decode cX4_fills 36 = .ok (.iinc 3 1, 3) := dk_132 3 1 (dk_at dksX4_fills_1 12 rfl rfl)
theorem dX4_fills_39 : decode cX4_fills 39 = .ok (.goto (-35), 3) := dk_167 255 221 (dk_at dksX4_fills_1 15 rfl rfl)
theorem dX4_fills_42 : decode cX4_fills 42 = .ok (.return_, 1) := dk_177 (dk_at dksX4_fills_1 18 rfl rfl)
abbrev cX4_openAt : ByteArray := prog_20_method_16_code
def yX4_openAt : MethodName := ⟨RX4, "openAt", "(I)I"⟩
def dkwX4_openAt_1 : List UInt8 := [167, 0, 4, 3, 96, 61, 132, 3, 1, 167, 255, 228, 28, 172]
abbrev dktX4_openAt_1 : List UInt8 := dkwX4_openAt_1 ++ []
def dkwX4_openAt_0 : List UInt8 := [3, 61, 3, 62, 29, 42, 182, 0, 46, 162, 0, 26, 28, 42, 29, 27, 182, 0, 66, 153, 0, 7, 4]
abbrev dktX4_openAt_0 : List UInt8 := dkwX4_openAt_0 ++ dktX4_openAt_1
theorem dksX4_openAt_0 : cX4_openAt.data.toList.drop 0 = dktX4_openAt_0 := by decide +kernel
theorem dksX4_openAt_1 : cX4_openAt.data.toList.drop 23 = dktX4_openAt_1 := dk_seg dksX4_openAt_0 23 rfl rfl
theorem dX4_openAt_0 : decode cX4_openAt 0 = .ok (.iconst 0, 1) := dk_3 (dk_at dksX4_openAt_0 0 rfl rfl)
theorem dX4_openAt_1 : decode cX4_openAt 1 = .ok (.istore_n 2, 1) := dk_61 (dk_at dksX4_openAt_0 1 rfl rfl)
theorem dX4_openAt_2 : decode cX4_openAt 2 = .ok (.iconst 0, 1) := dk_3 (dk_at dksX4_openAt_0 2 rfl rfl)
theorem dX4_openAt_3 : decode cX4_openAt 3 = .ok (.istore_n 3, 1) := dk_62 (dk_at dksX4_openAt_0 3 rfl rfl)
theorem dX4_openAt_4 : decode cX4_openAt 4 = .ok (.iload_n 3, 1) := dk_29 (dk_at dksX4_openAt_0 4 rfl rfl)
theorem dX4_openAt_5 : decode cX4_openAt 5 = .ok (.aload_n 0, 1) := dk_42 (dk_at dksX4_openAt_0 5 rfl rfl)
theorem dX4_openAt_6 : decode cX4_openAt 6 = .ok (.invokevirtual 46, 3) := dk_182 0 46 (dk_at dksX4_openAt_0 6 rfl rfl)
theorem dX4_openAt_9 : decode cX4_openAt 9 = .ok (.if_icmp .ge 26, 3) := dk_162 0 26 (dk_at dksX4_openAt_0 9 rfl rfl)
theorem dX4_openAt_12 : decode cX4_openAt 12 = .ok (.iload_n 2, 1) := dk_28 (dk_at dksX4_openAt_0 12 rfl rfl)
theorem dX4_openAt_13 : decode cX4_openAt 13 = .ok (.aload_n 0, 1) := dk_42 (dk_at dksX4_openAt_0 13 rfl rfl)
theorem dX4_openAt_14 : decode cX4_openAt 14 = .ok (.iload_n 3, 1) := dk_29 (dk_at dksX4_openAt_0 14 rfl rfl)
theorem dX4_openAt_15 : decode cX4_openAt 15 = .ok (.iload_n 1, 1) := dk_27 (dk_at dksX4_openAt_0 15 rfl rfl)
theorem dX4_openAt_16 : decode cX4_openAt 16 = .ok (.invokevirtual 66, 3) := dk_182 0 66 (dk_at dksX4_openAt_0 16 rfl rfl)
theorem dX4_openAt_19 : decode cX4_openAt 19 = .ok (.ifCond .eq 7, 3) := dk_153 0 7 (dk_at dksX4_openAt_0 19 rfl rfl)
theorem dX4_openAt_22 : decode cX4_openAt 22 = .ok (.iconst 1, 1) := dk_4 (dk_at dksX4_openAt_0 22 rfl rfl)
theorem dX4_openAt_23 : decode cX4_openAt 23 = .ok (.goto 4, 3) := dk_167 0 4 (dk_at dksX4_openAt_1 0 rfl rfl)
theorem dX4_openAt_26 : decode cX4_openAt 26 = .ok (.iconst 0, 1) := dk_3 (dk_at dksX4_openAt_1 3 rfl rfl)
theorem dX4_openAt_27 : decode cX4_openAt 27 = .ok (.iadd, 1) := dk_96 (dk_at dksX4_openAt_1 4 rfl rfl)
theorem dX4_openAt_28 : decode cX4_openAt 28 = .ok (.istore_n 2, 1) := dk_61 (dk_at dksX4_openAt_1 5 rfl rfl)
theorem dX4_openAt_29 : decode cX4_openAt 29 = .ok (.iinc 3 1, 3) := dk_132 3 1 (dk_at dksX4_openAt_1 6 rfl rfl)
theorem dX4_openAt_32 : decode cX4_openAt 32 = .ok (.goto (-28), 3) := dk_167 255 228 (dk_at dksX4_openAt_1 9 rfl rfl)
theorem dX4_openAt_35 : decode cX4_openAt 35 = .ok (.iload_n 2, 1) := dk_28 (dk_at dksX4_openAt_1 12 rfl rfl)
theorem dX4_openAt_36 : decode cX4_openAt 36 = .ok (.ireturn, 1) := dk_172 (dk_at dksX4_openAt_1 13 rfl rfl)
abbrev cX4_isOpen : ByteArray := prog_20_method_15_code
def yX4_isOpen : MethodName := ⟨RX4, "isOpen", "(II)Z"⟩
def dkwX4_isOpen_0 : List UInt8 := [42, 180, 0, 7, 16, 7, 27, 96, 46, 28, 162, 0, 7, 4, 167, 0, 4, 3, 172]
abbrev dktX4_isOpen_0 : List UInt8 := dkwX4_isOpen_0 ++ []
theorem dksX4_isOpen_0 : cX4_isOpen.data.toList.drop 0 = dktX4_isOpen_0 := by decide +kernel
theorem dX4_isOpen_0 : decode cX4_isOpen 0 = .ok (.aload_n 0, 1) := dk_42 (dk_at dksX4_isOpen_0 0 rfl rfl)
theorem dX4_isOpen_1 : decode cX4_isOpen 1 = .ok (.getfield 7, 3) := dk_180 0 7 (dk_at dksX4_isOpen_0 1 rfl rfl)
theorem dX4_isOpen_4 : decode cX4_isOpen 4 = .ok (.bipush 7, 2) := dk_16 7 (dk_at dksX4_isOpen_0 4 rfl rfl)
theorem dX4_isOpen_6 : decode cX4_isOpen 6 = .ok (.iload_n 1, 1) := dk_27 (dk_at dksX4_isOpen_0 6 rfl rfl)
theorem dX4_isOpen_7 : decode cX4_isOpen 7 = .ok (.iadd, 1) := dk_96 (dk_at dksX4_isOpen_0 7 rfl rfl)
theorem dX4_isOpen_8 : decode cX4_isOpen 8 = .ok (.iaload, 1) := dk_46 (dk_at dksX4_isOpen_0 8 rfl rfl)
theorem dX4_isOpen_9 : decode cX4_isOpen 9 = .ok (.iload_n 2, 1) := dk_28 (dk_at dksX4_isOpen_0 9 rfl rfl)
theorem dX4_isOpen_10 : decode cX4_isOpen 10 = .ok (.if_icmp .ge 7, 3) := dk_162 0 7 (dk_at dksX4_isOpen_0 10 rfl rfl)
theorem dX4_isOpen_13 : decode cX4_isOpen 13 = .ok (.iconst 1, 1) := dk_4 (dk_at dksX4_isOpen_0 13 rfl rfl)
theorem dX4_isOpen_14 : decode cX4_isOpen 14 = .ok (.goto 4, 3) := dk_167 0 4 (dk_at dksX4_isOpen_0 14 rfl rfl)
theorem dX4_isOpen_17 : decode cX4_isOpen 17 = .ok (.iconst 0, 1) := dk_3 (dk_at dksX4_isOpen_0 17 rfl rfl)
theorem dX4_isOpen_18 : decode cX4_isOpen 18 = .ok (.ireturn, 1) := dk_172 (dk_at dksX4_isOpen_0 18 rfl rfl)
abbrev cX4_setValve : ByteArray := prog_20_method_32_code
def yX4_setValve : MethodName := ⟨RX4, "setValve", "(III)I"⟩
def dkwX4_setValve_2 : List UInt8 := [21, 4, 172]
abbrev dktX4_setValve_2 : List UInt8 := dkwX4_setValve_2 ++ []
def dkwX4_setValve_1 : List UInt8 := [28, 182, 0, 70, 54, 4, 42, 182, 0, 97, 42, 180, 0, 7, 16, 87, 7, 27, 104, 96, 28, 96, 29, 79]
abbrev dktX4_setValve_1 : List UInt8 := dkwX4_setValve_1 ++ dktX4_setValve_2
def dkwX4_setValve_0 : List UInt8 := [42, 27, 28, 182, 0, 62, 16, 247, 159, 0, 12, 29, 3, 7, 184, 0, 50, 154, 0, 5, 2, 172, 42, 27]
abbrev dktX4_setValve_0 : List UInt8 := dkwX4_setValve_0 ++ dktX4_setValve_1
theorem dksX4_setValve_0 : cX4_setValve.data.toList.drop 0 = dktX4_setValve_0 := by decide +kernel
theorem dksX4_setValve_1 : cX4_setValve.data.toList.drop 24 = dktX4_setValve_1 := dk_seg dksX4_setValve_0 24 rfl rfl
theorem dksX4_setValve_2 : cX4_setValve.data.toList.drop 48 = dktX4_setValve_2 := dk_seg dksX4_setValve_1 24 rfl rfl
theorem dX4_setValve_0 : decode cX4_setValve 0 = .ok (.aload_n 0, 1) := dk_42 (dk_at dksX4_setValve_0 0 rfl rfl)
theorem dX4_setValve_1 : decode cX4_setValve 1 = .ok (.iload_n 1, 1) := dk_27 (dk_at dksX4_setValve_0 1 rfl rfl)
theorem dX4_setValve_2 : decode cX4_setValve 2 = .ok (.iload_n 2, 1) := dk_28 (dk_at dksX4_setValve_0 2 rfl rfl)
theorem dX4_setValve_3 : decode cX4_setValve 3 = .ok (.invokevirtual 62, 3) := dk_182 0 62 (dk_at dksX4_setValve_0 3 rfl rfl)
theorem dX4_setValve_6 : decode cX4_setValve 6 = .ok (.bipush (-9), 2) := dk_16 247 (dk_at dksX4_setValve_0 6 rfl rfl)
theorem dX4_setValve_8 : decode cX4_setValve 8 = .ok (.if_icmp .eq 12, 3) := dk_159 0 12 (dk_at dksX4_setValve_0 8 rfl rfl)
theorem dX4_setValve_11 : decode cX4_setValve 11 = .ok (.iload_n 3, 1) := dk_29 (dk_at dksX4_setValve_0 11 rfl rfl)
theorem dX4_setValve_12 : decode cX4_setValve 12 = .ok (.iconst 0, 1) := dk_3 (dk_at dksX4_setValve_0 12 rfl rfl)
theorem dX4_setValve_13 : decode cX4_setValve 13 = .ok (.iconst 4, 1) := dk_7 (dk_at dksX4_setValve_0 13 rfl rfl)
theorem dX4_setValve_14 : decode cX4_setValve 14 = .ok (.invokestatic 50, 3) := dk_184 0 50 (dk_at dksX4_setValve_0 14 rfl rfl)
theorem dX4_setValve_17 : decode cX4_setValve 17 = .ok (.ifCond .ne 5, 3) := dk_154 0 5 (dk_at dksX4_setValve_0 17 rfl rfl)
theorem dX4_setValve_20 : decode cX4_setValve 20 = .ok (.iconst (-1), 1) := dk_2 (dk_at dksX4_setValve_0 20 rfl rfl)
theorem dX4_setValve_21 : decode cX4_setValve 21 = .ok (.ireturn, 1) := dk_172 (dk_at dksX4_setValve_0 21 rfl rfl)
theorem dX4_setValve_22 : decode cX4_setValve 22 = .ok (.aload_n 0, 1) := dk_42 (dk_at dksX4_setValve_0 22 rfl rfl)
theorem dX4_setValve_23 : decode cX4_setValve 23 = .ok (.iload_n 1, 1) := dk_27 (dk_at dksX4_setValve_0 23 rfl rfl)
theorem dX4_setValve_24 : decode cX4_setValve 24 = .ok (.iload_n 2, 1) := dk_28 (dk_at dksX4_setValve_1 0 rfl rfl)
theorem dX4_setValve_25 : decode cX4_setValve 25 = .ok (.invokevirtual 70, 3) := dk_182 0 70 (dk_at dksX4_setValve_1 1 rfl rfl)
theorem dX4_setValve_28 : decode cX4_setValve 28 = .ok (.istore 4, 2) := dk_54 4 (dk_at dksX4_setValve_1 4 rfl rfl)
theorem dX4_setValve_30 : decode cX4_setValve 30 = .ok (.aload_n 0, 1) := dk_42 (dk_at dksX4_setValve_1 6 rfl rfl)
theorem dX4_setValve_31 : decode cX4_setValve 31 = .ok (.invokevirtual 97, 3) := dk_182 0 97 (dk_at dksX4_setValve_1 7 rfl rfl)
theorem dX4_setValve_34 : decode cX4_setValve 34 = .ok (.aload_n 0, 1) := dk_42 (dk_at dksX4_setValve_1 10 rfl rfl)
theorem dX4_setValve_35 : decode cX4_setValve 35 = .ok (.getfield 7, 3) := dk_180 0 7 (dk_at dksX4_setValve_1 11 rfl rfl)
theorem dX4_setValve_38 : decode cX4_setValve 38 = .ok (.bipush 87, 2) := dk_16 87 (dk_at dksX4_setValve_1 14 rfl rfl)
theorem dX4_setValve_40 : decode cX4_setValve 40 = .ok (.iconst 4, 1) := dk_7 (dk_at dksX4_setValve_1 16 rfl rfl)
theorem dX4_setValve_41 : decode cX4_setValve 41 = .ok (.iload_n 1, 1) := dk_27 (dk_at dksX4_setValve_1 17 rfl rfl)
theorem dX4_setValve_42 : decode cX4_setValve 42 = .ok (.imul, 1) := dk_104 (dk_at dksX4_setValve_1 18 rfl rfl)
theorem dX4_setValve_43 : decode cX4_setValve 43 = .ok (.iadd, 1) := dk_96 (dk_at dksX4_setValve_1 19 rfl rfl)
theorem dX4_setValve_44 : decode cX4_setValve 44 = .ok (.iload_n 2, 1) := dk_28 (dk_at dksX4_setValve_1 20 rfl rfl)
theorem dX4_setValve_45 : decode cX4_setValve 45 = .ok (.iadd, 1) := dk_96 (dk_at dksX4_setValve_1 21 rfl rfl)
theorem dX4_setValve_46 : decode cX4_setValve 46 = .ok (.iload_n 3, 1) := dk_29 (dk_at dksX4_setValve_1 22 rfl rfl)
theorem dX4_setValve_47 : decode cX4_setValve 47 = .ok (.iastore, 1) := dk_79 (dk_at dksX4_setValve_1 23 rfl rfl)
theorem dX4_setValve_48 : decode cX4_setValve 48 = .ok (.iload 4, 2) := dk_21 4 (dk_at dksX4_setValve_2 0 rfl rfl)
theorem dX4_setValve_50 : decode cX4_setValve 50 = .ok (.ireturn, 1) := dk_172 (dk_at dksX4_setValve_2 2 rfl rfl)
abbrev cX4_valveOf : ByteArray := prog_20_method_14_code
def yX4_valveOf : MethodName := ⟨RX4, "valveOf", "(II)I"⟩
def dkwX4_valveOf_0 : List UInt8 := [42, 180, 0, 7, 16, 87, 7, 27, 104, 96, 28, 96, 46, 172]
abbrev dktX4_valveOf_0 : List UInt8 := dkwX4_valveOf_0 ++ []
theorem dksX4_valveOf_0 : cX4_valveOf.data.toList.drop 0 = dktX4_valveOf_0 := by decide +kernel
theorem dX4_valveOf_0 : decode cX4_valveOf 0 = .ok (.aload_n 0, 1) := dk_42 (dk_at dksX4_valveOf_0 0 rfl rfl)
theorem dX4_valveOf_1 : decode cX4_valveOf 1 = .ok (.getfield 7, 3) := dk_180 0 7 (dk_at dksX4_valveOf_0 1 rfl rfl)
theorem dX4_valveOf_4 : decode cX4_valveOf 4 = .ok (.bipush 87, 2) := dk_16 87 (dk_at dksX4_valveOf_0 4 rfl rfl)
theorem dX4_valveOf_6 : decode cX4_valveOf 6 = .ok (.iconst 4, 1) := dk_7 (dk_at dksX4_valveOf_0 6 rfl rfl)
theorem dX4_valveOf_7 : decode cX4_valveOf 7 = .ok (.iload_n 1, 1) := dk_27 (dk_at dksX4_valveOf_0 7 rfl rfl)
theorem dX4_valveOf_8 : decode cX4_valveOf 8 = .ok (.imul, 1) := dk_104 (dk_at dksX4_valveOf_0 8 rfl rfl)
theorem dX4_valveOf_9 : decode cX4_valveOf 9 = .ok (.iadd, 1) := dk_96 (dk_at dksX4_valveOf_0 9 rfl rfl)
theorem dX4_valveOf_10 : decode cX4_valveOf 10 = .ok (.iload_n 2, 1) := dk_28 (dk_at dksX4_valveOf_0 10 rfl rfl)
theorem dX4_valveOf_11 : decode cX4_valveOf 11 = .ok (.iadd, 1) := dk_96 (dk_at dksX4_valveOf_0 11 rfl rfl)
theorem dX4_valveOf_12 : decode cX4_valveOf 12 = .ok (.iaload, 1) := dk_46 (dk_at dksX4_valveOf_0 12 rfl rfl)
theorem dX4_valveOf_13 : decode cX4_valveOf 13 = .ok (.ireturn, 1) := dk_172 (dk_at dksX4_valveOf_0 13 rfl rfl)
abbrev cX4_setThreshold : ByteArray := prog_20_method_33_code
def yX4_setThreshold : MethodName := ⟨RX4, "setThreshold", "(I)I"⟩
def dkwX4_setThreshold_1 : List UInt8 := [27, 182, 0, 111, 172]
abbrev dktX4_setThreshold_1 : List UInt8 := dkwX4_setThreshold_1 ++ []
def dkwX4_setThreshold_0 : List UInt8 := [27, 3, 16, 100, 184, 0, 50, 154, 0, 5, 2, 172, 42, 182, 0, 97, 42, 180, 0, 7, 6, 27, 79, 42]
abbrev dktX4_setThreshold_0 : List UInt8 := dkwX4_setThreshold_0 ++ dktX4_setThreshold_1
theorem dksX4_setThreshold_0 : cX4_setThreshold.data.toList.drop 0 = dktX4_setThreshold_0 := by decide +kernel
theorem dksX4_setThreshold_1 : cX4_setThreshold.data.toList.drop 24 = dktX4_setThreshold_1 := dk_seg dksX4_setThreshold_0 24 rfl rfl
theorem dX4_setThreshold_0 : decode cX4_setThreshold 0 = .ok (.iload_n 1, 1) := dk_27 (dk_at dksX4_setThreshold_0 0 rfl rfl)
theorem dX4_setThreshold_1 : decode cX4_setThreshold 1 = .ok (.iconst 0, 1) := dk_3 (dk_at dksX4_setThreshold_0 1 rfl rfl)
theorem dX4_setThreshold_2 : decode cX4_setThreshold 2 = .ok (.bipush 100, 2) := dk_16 100 (dk_at dksX4_setThreshold_0 2 rfl rfl)
theorem dX4_setThreshold_4 : decode cX4_setThreshold 4 = .ok (.invokestatic 50, 3) := dk_184 0 50 (dk_at dksX4_setThreshold_0 4 rfl rfl)
theorem dX4_setThreshold_7 : decode cX4_setThreshold 7 = .ok (.ifCond .ne 5, 3) := dk_154 0 5 (dk_at dksX4_setThreshold_0 7 rfl rfl)
theorem dX4_setThreshold_10 : decode cX4_setThreshold 10 = .ok (.iconst (-1), 1) := dk_2 (dk_at dksX4_setThreshold_0 10 rfl rfl)
theorem dX4_setThreshold_11 : decode cX4_setThreshold 11 = .ok (.ireturn, 1) := dk_172 (dk_at dksX4_setThreshold_0 11 rfl rfl)
theorem dX4_setThreshold_12 : decode cX4_setThreshold 12 = .ok (.aload_n 0, 1) := dk_42 (dk_at dksX4_setThreshold_0 12 rfl rfl)
theorem dX4_setThreshold_13 : decode cX4_setThreshold 13 = .ok (.invokevirtual 97, 3) := dk_182 0 97 (dk_at dksX4_setThreshold_0 13 rfl rfl)
theorem dX4_setThreshold_16 : decode cX4_setThreshold 16 = .ok (.aload_n 0, 1) := dk_42 (dk_at dksX4_setThreshold_0 16 rfl rfl)
theorem dX4_setThreshold_17 : decode cX4_setThreshold 17 = .ok (.getfield 7, 3) := dk_180 0 7 (dk_at dksX4_setThreshold_0 17 rfl rfl)
theorem dX4_setThreshold_20 : decode cX4_setThreshold 20 = .ok (.iconst 3, 1) := dk_6 (dk_at dksX4_setThreshold_0 20 rfl rfl)
theorem dX4_setThreshold_21 : decode cX4_setThreshold 21 = .ok (.iload_n 1, 1) := dk_27 (dk_at dksX4_setThreshold_0 21 rfl rfl)
theorem dX4_setThreshold_22 : decode cX4_setThreshold 22 = .ok (.iastore, 1) := dk_79 (dk_at dksX4_setThreshold_0 22 rfl rfl)
theorem dX4_setThreshold_23 : decode cX4_setThreshold 23 = .ok (.aload_n 0, 1) := dk_42 (dk_at dksX4_setThreshold_0 23 rfl rfl)
theorem dX4_setThreshold_24 : decode cX4_setThreshold 24 = .ok (.iload_n 1, 1) := dk_27 (dk_at dksX4_setThreshold_1 0 rfl rfl)
theorem dX4_setThreshold_25 : decode cX4_setThreshold 25 = .ok (.invokevirtual 111, 3) := dk_182 0 111 (dk_at dksX4_setThreshold_1 1 rfl rfl)
theorem dX4_setThreshold_28 : decode cX4_setThreshold 28 = .ok (.ireturn, 1) := dk_172 (dk_at dksX4_setThreshold_1 4 rfl rfl)
abbrev cX4_setSource : ByteArray := prog_20_method_36_code
def yX4_setSource : MethodName := ⟨RX4, "setSource", "(III)I"⟩
def dkwX4_setSource_4 : List UInt8 := [182, 0, 117, 172]
abbrev dktX4_setSource_4 : List UInt8 := dkwX4_setSource_4 ++ []
def dkwX4_setSource_3 : List UInt8 := [92, 46, 29, 4, 160, 0, 9, 4, 28, 120, 167, 0, 7, 4, 28, 120, 116, 96, 79, 42, 17, 1, 151, 28]
abbrev dktX4_setSource_3 : List UInt8 := dkwX4_setSource_3 ++ dktX4_setSource_4
def dkwX4_setSource_2 : List UInt8 := [4, 167, 0, 4, 3, 160, 0, 6, 16, 254, 172, 42, 182, 0, 97, 42, 180, 0, 7, 17, 1, 151, 27, 96]
abbrev dktX4_setSource_2 : List UInt8 := dkwX4_setSource_2 ++ dktX4_setSource_3
def dkwX4_setSource_1 : List UInt8 := [154, 0, 5, 2, 172, 42, 180, 0, 7, 17, 1, 151, 27, 96, 46, 28, 184, 0, 114, 29, 4, 160, 0, 7]
abbrev dktX4_setSource_1 : List UInt8 := dkwX4_setSource_1 ++ dktX4_setSource_2
def dkwX4_setSource_0 : List UInt8 := [42, 27, 182, 0, 54, 153, 0, 21, 28, 3, 5, 184, 0, 50, 153, 0, 12, 29, 3, 4, 184, 0, 50]
abbrev dktX4_setSource_0 : List UInt8 := dkwX4_setSource_0 ++ dktX4_setSource_1
theorem dksX4_setSource_0 : cX4_setSource.data.toList.drop 0 = dktX4_setSource_0 := by decide +kernel
theorem dksX4_setSource_1 : cX4_setSource.data.toList.drop 23 = dktX4_setSource_1 := dk_seg dksX4_setSource_0 23 rfl rfl
theorem dksX4_setSource_2 : cX4_setSource.data.toList.drop 47 = dktX4_setSource_2 := dk_seg dksX4_setSource_1 24 rfl rfl
theorem dksX4_setSource_3 : cX4_setSource.data.toList.drop 71 = dktX4_setSource_3 := dk_seg dksX4_setSource_2 24 rfl rfl
theorem dksX4_setSource_4 : cX4_setSource.data.toList.drop 95 = dktX4_setSource_4 := dk_seg dksX4_setSource_3 24 rfl rfl
theorem dX4_setSource_0 : decode cX4_setSource 0 = .ok (.aload_n 0, 1) := dk_42 (dk_at dksX4_setSource_0 0 rfl rfl)
theorem dX4_setSource_1 : decode cX4_setSource 1 = .ok (.iload_n 1, 1) := dk_27 (dk_at dksX4_setSource_0 1 rfl rfl)
theorem dX4_setSource_2 : decode cX4_setSource 2 = .ok (.invokevirtual 54, 3) := dk_182 0 54 (dk_at dksX4_setSource_0 2 rfl rfl)
theorem dX4_setSource_5 : decode cX4_setSource 5 = .ok (.ifCond .eq 21, 3) := dk_153 0 21 (dk_at dksX4_setSource_0 5 rfl rfl)
theorem dX4_setSource_8 : decode cX4_setSource 8 = .ok (.iload_n 2, 1) := dk_28 (dk_at dksX4_setSource_0 8 rfl rfl)
theorem dX4_setSource_9 : decode cX4_setSource 9 = .ok (.iconst 0, 1) := dk_3 (dk_at dksX4_setSource_0 9 rfl rfl)
theorem dX4_setSource_10 : decode cX4_setSource 10 = .ok (.iconst 2, 1) := dk_5 (dk_at dksX4_setSource_0 10 rfl rfl)
theorem dX4_setSource_11 : decode cX4_setSource 11 = .ok (.invokestatic 50, 3) := dk_184 0 50 (dk_at dksX4_setSource_0 11 rfl rfl)
theorem dX4_setSource_14 : decode cX4_setSource 14 = .ok (.ifCond .eq 12, 3) := dk_153 0 12 (dk_at dksX4_setSource_0 14 rfl rfl)
theorem dX4_setSource_17 : decode cX4_setSource 17 = .ok (.iload_n 3, 1) := dk_29 (dk_at dksX4_setSource_0 17 rfl rfl)
theorem dX4_setSource_18 : decode cX4_setSource 18 = .ok (.iconst 0, 1) := dk_3 (dk_at dksX4_setSource_0 18 rfl rfl)
theorem dX4_setSource_19 : decode cX4_setSource 19 = .ok (.iconst 1, 1) := dk_4 (dk_at dksX4_setSource_0 19 rfl rfl)
theorem dX4_setSource_20 : decode cX4_setSource 20 = .ok (.invokestatic 50, 3) := dk_184 0 50 (dk_at dksX4_setSource_0 20 rfl rfl)
theorem dX4_setSource_23 : decode cX4_setSource 23 = .ok (.ifCond .ne 5, 3) := dk_154 0 5 (dk_at dksX4_setSource_1 0 rfl rfl)
theorem dX4_setSource_26 : decode cX4_setSource 26 = .ok (.iconst (-1), 1) := dk_2 (dk_at dksX4_setSource_1 3 rfl rfl)
theorem dX4_setSource_27 : decode cX4_setSource 27 = .ok (.ireturn, 1) := dk_172 (dk_at dksX4_setSource_1 4 rfl rfl)
theorem dX4_setSource_28 : decode cX4_setSource 28 = .ok (.aload_n 0, 1) := dk_42 (dk_at dksX4_setSource_1 5 rfl rfl)
theorem dX4_setSource_29 : decode cX4_setSource 29 = .ok (.getfield 7, 3) := dk_180 0 7 (dk_at dksX4_setSource_1 6 rfl rfl)
theorem dX4_setSource_32 : decode cX4_setSource 32 = .ok (.sipush 407, 3) := dk_17 1 151 (dk_at dksX4_setSource_1 9 rfl rfl)
theorem dX4_setSource_35 : decode cX4_setSource 35 = .ok (.iload_n 1, 1) := dk_27 (dk_at dksX4_setSource_1 12 rfl rfl)
theorem dX4_setSource_36 : decode cX4_setSource 36 = .ok (.iadd, 1) := dk_96 (dk_at dksX4_setSource_1 13 rfl rfl)
theorem dX4_setSource_37 : decode cX4_setSource 37 = .ok (.iaload, 1) := dk_46 (dk_at dksX4_setSource_1 14 rfl rfl)
theorem dX4_setSource_38 : decode cX4_setSource 38 = .ok (.iload_n 2, 1) := dk_28 (dk_at dksX4_setSource_1 15 rfl rfl)
theorem dX4_setSource_39 : decode cX4_setSource 39 = .ok (.invokestatic 114, 3) := dk_184 0 114 (dk_at dksX4_setSource_1 16 rfl rfl)
theorem dX4_setSource_42 : decode cX4_setSource 42 = .ok (.iload_n 3, 1) := dk_29 (dk_at dksX4_setSource_1 19 rfl rfl)
theorem dX4_setSource_43 : decode cX4_setSource 43 = .ok (.iconst 1, 1) := dk_4 (dk_at dksX4_setSource_1 20 rfl rfl)
theorem dX4_setSource_44 : decode cX4_setSource 44 = .ok (.if_icmp .ne 7, 3) := dk_160 0 7 (dk_at dksX4_setSource_1 21 rfl rfl)
theorem dX4_setSource_47 : decode cX4_setSource 47 = .ok (.iconst 1, 1) := dk_4 (dk_at dksX4_setSource_2 0 rfl rfl)
theorem dX4_setSource_48 : decode cX4_setSource 48 = .ok (.goto 4, 3) := dk_167 0 4 (dk_at dksX4_setSource_2 1 rfl rfl)
theorem dX4_setSource_51 : decode cX4_setSource 51 = .ok (.iconst 0, 1) := dk_3 (dk_at dksX4_setSource_2 4 rfl rfl)
theorem dX4_setSource_52 : decode cX4_setSource 52 = .ok (.if_icmp .ne 6, 3) := dk_160 0 6 (dk_at dksX4_setSource_2 5 rfl rfl)
theorem dX4_setSource_55 : decode cX4_setSource 55 = .ok (.bipush (-2), 2) := dk_16 254 (dk_at dksX4_setSource_2 8 rfl rfl)
theorem dX4_setSource_57 : decode cX4_setSource 57 = .ok (.ireturn, 1) := dk_172 (dk_at dksX4_setSource_2 10 rfl rfl)
theorem dX4_setSource_58 : decode cX4_setSource 58 = .ok (.aload_n 0, 1) := dk_42 (dk_at dksX4_setSource_2 11 rfl rfl)
theorem dX4_setSource_59 : decode cX4_setSource 59 = .ok (.invokevirtual 97, 3) := dk_182 0 97 (dk_at dksX4_setSource_2 12 rfl rfl)
theorem dX4_setSource_62 : decode cX4_setSource 62 = .ok (.aload_n 0, 1) := dk_42 (dk_at dksX4_setSource_2 15 rfl rfl)
theorem dX4_setSource_63 : decode cX4_setSource 63 = .ok (.getfield 7, 3) := dk_180 0 7 (dk_at dksX4_setSource_2 16 rfl rfl)
theorem dX4_setSource_66 : decode cX4_setSource 66 = .ok (.sipush 407, 3) := dk_17 1 151 (dk_at dksX4_setSource_2 19 rfl rfl)
theorem dX4_setSource_69 : decode cX4_setSource 69 = .ok (.iload_n 1, 1) := dk_27 (dk_at dksX4_setSource_2 22 rfl rfl)
theorem dX4_setSource_70 : decode cX4_setSource 70 = .ok (.iadd, 1) := dk_96 (dk_at dksX4_setSource_2 23 rfl rfl)
theorem dX4_setSource_71 : decode cX4_setSource 71 = .ok (.dup2, 1) := dk_92 (dk_at dksX4_setSource_3 0 rfl rfl)
theorem dX4_setSource_72 : decode cX4_setSource 72 = .ok (.iaload, 1) := dk_46 (dk_at dksX4_setSource_3 1 rfl rfl)
theorem dX4_setSource_73 : decode cX4_setSource 73 = .ok (.iload_n 3, 1) := dk_29 (dk_at dksX4_setSource_3 2 rfl rfl)
theorem dX4_setSource_74 : decode cX4_setSource 74 = .ok (.iconst 1, 1) := dk_4 (dk_at dksX4_setSource_3 3 rfl rfl)
theorem dX4_setSource_75 : decode cX4_setSource 75 = .ok (.if_icmp .ne 9, 3) := dk_160 0 9 (dk_at dksX4_setSource_3 4 rfl rfl)
theorem dX4_setSource_78 : decode cX4_setSource 78 = .ok (.iconst 1, 1) := dk_4 (dk_at dksX4_setSource_3 7 rfl rfl)
theorem dX4_setSource_79 : decode cX4_setSource 79 = .ok (.iload_n 2, 1) := dk_28 (dk_at dksX4_setSource_3 8 rfl rfl)
theorem dX4_setSource_80 : decode cX4_setSource 80 = .ok (.ishl, 1) := dk_120 (dk_at dksX4_setSource_3 9 rfl rfl)
theorem dX4_setSource_81 : decode cX4_setSource 81 = .ok (.goto 7, 3) := dk_167 0 7 (dk_at dksX4_setSource_3 10 rfl rfl)
theorem dX4_setSource_84 : decode cX4_setSource 84 = .ok (.iconst 1, 1) := dk_4 (dk_at dksX4_setSource_3 13 rfl rfl)
theorem dX4_setSource_85 : decode cX4_setSource 85 = .ok (.iload_n 2, 1) := dk_28 (dk_at dksX4_setSource_3 14 rfl rfl)
theorem dX4_setSource_86 : decode cX4_setSource 86 = .ok (.ishl, 1) := dk_120 (dk_at dksX4_setSource_3 15 rfl rfl)
theorem dX4_setSource_87 : decode cX4_setSource 87 = .ok (.ineg, 1) := dk_116 (dk_at dksX4_setSource_3 16 rfl rfl)
theorem dX4_setSource_88 : decode cX4_setSource 88 = .ok (.iadd, 1) := dk_96 (dk_at dksX4_setSource_3 17 rfl rfl)
theorem dX4_setSource_89 : decode cX4_setSource 89 = .ok (.iastore, 1) := dk_79 (dk_at dksX4_setSource_3 18 rfl rfl)
theorem dX4_setSource_90 : decode cX4_setSource 90 = .ok (.aload_n 0, 1) := dk_42 (dk_at dksX4_setSource_3 19 rfl rfl)
theorem dX4_setSource_91 : decode cX4_setSource 91 = .ok (.sipush 407, 3) := dk_17 1 151 (dk_at dksX4_setSource_3 20 rfl rfl)
theorem dX4_setSource_94 : decode cX4_setSource 94 = .ok (.iload_n 2, 1) := dk_28 (dk_at dksX4_setSource_3 23 rfl rfl)
theorem dX4_setSource_95 : decode cX4_setSource 95 = .ok (.invokevirtual 117, 3) := dk_182 0 117 (dk_at dksX4_setSource_4 0 rfl rfl)
theorem dX4_setSource_98 : decode cX4_setSource 98 = .ok (.ireturn, 1) := dk_172 (dk_at dksX4_setSource_4 3 rfl rfl)
abbrev cX4_has : ByteArray := prog_20_method_34_code
def yX4_has : MethodName := ⟨RX4, "has", "(II)Z"⟩
def dkwX4_has_0 : List UInt8 := [26, 27, 122, 4, 126, 4, 160, 0, 7, 4, 167, 0, 4, 3, 172]
abbrev dktX4_has_0 : List UInt8 := dkwX4_has_0 ++ []
theorem dksX4_has_0 : cX4_has.data.toList.drop 0 = dktX4_has_0 := by decide +kernel
theorem dX4_has_0 : decode cX4_has 0 = .ok (.iload_n 0, 1) := dk_26 (dk_at dksX4_has_0 0 rfl rfl)
theorem dX4_has_1 : decode cX4_has 1 = .ok (.iload_n 1, 1) := dk_27 (dk_at dksX4_has_0 1 rfl rfl)
theorem dX4_has_2 : decode cX4_has 2 = .ok (.ishr, 1) := dk_122 (dk_at dksX4_has_0 2 rfl rfl)
theorem dX4_has_3 : decode cX4_has 3 = .ok (.iconst 1, 1) := dk_4 (dk_at dksX4_has_0 3 rfl rfl)
theorem dX4_has_4 : decode cX4_has 4 = .ok (.iand, 1) := dk_126 (dk_at dksX4_has_0 4 rfl rfl)
theorem dX4_has_5 : decode cX4_has 5 = .ok (.iconst 1, 1) := dk_4 (dk_at dksX4_has_0 5 rfl rfl)
theorem dX4_has_6 : decode cX4_has 6 = .ok (.if_icmp .ne 7, 3) := dk_160 0 7 (dk_at dksX4_has_0 6 rfl rfl)
theorem dX4_has_9 : decode cX4_has 9 = .ok (.iconst 1, 1) := dk_4 (dk_at dksX4_has_0 9 rfl rfl)
theorem dX4_has_10 : decode cX4_has 10 = .ok (.goto 4, 3) := dk_167 0 4 (dk_at dksX4_has_0 10 rfl rfl)
theorem dX4_has_13 : decode cX4_has 13 = .ok (.iconst 0, 1) := dk_3 (dk_at dksX4_has_0 13 rfl rfl)
theorem dX4_has_14 : decode cX4_has 14 = .ok (.ireturn, 1) := dk_172 (dk_at dksX4_has_0 14 rfl rfl)
abbrev cX4_withDye : ByteArray := prog_20_method_35_code
def yX4_withDye : MethodName := ⟨RX4, "withDye", "(II)I"⟩
def dkwX4_withDye_1 : List UInt8 := [28, 184, 0, 114, 153, 0, 7, 4, 167, 0, 4, 3, 96, 62, 132, 4, 1, 167, 255, 220, 29, 172]
abbrev dktX4_withDye_1 : List UInt8 := dkwX4_withDye_1 ++ []
def dkwX4_withDye_0 : List UInt8 := [3, 62, 3, 54, 4, 21, 4, 42, 182, 0, 46, 162, 0, 33, 29, 42, 180, 0, 7, 27, 21, 4, 96, 46]
abbrev dktX4_withDye_0 : List UInt8 := dkwX4_withDye_0 ++ dktX4_withDye_1
theorem dksX4_withDye_0 : cX4_withDye.data.toList.drop 0 = dktX4_withDye_0 := by decide +kernel
theorem dksX4_withDye_1 : cX4_withDye.data.toList.drop 24 = dktX4_withDye_1 := dk_seg dksX4_withDye_0 24 rfl rfl
theorem dX4_withDye_0 : decode cX4_withDye 0 = .ok (.iconst 0, 1) := dk_3 (dk_at dksX4_withDye_0 0 rfl rfl)
theorem dX4_withDye_1 : decode cX4_withDye 1 = .ok (.istore_n 3, 1) := dk_62 (dk_at dksX4_withDye_0 1 rfl rfl)
theorem dX4_withDye_2 : decode cX4_withDye 2 = .ok (.iconst 0, 1) := dk_3 (dk_at dksX4_withDye_0 2 rfl rfl)
theorem dX4_withDye_3 : decode cX4_withDye 3 = .ok (.istore 4, 2) := dk_54 4 (dk_at dksX4_withDye_0 3 rfl rfl)
theorem dX4_withDye_5 : decode cX4_withDye 5 = .ok (.iload 4, 2) := dk_21 4 (dk_at dksX4_withDye_0 5 rfl rfl)
theorem dX4_withDye_7 : decode cX4_withDye 7 = .ok (.aload_n 0, 1) := dk_42 (dk_at dksX4_withDye_0 7 rfl rfl)
theorem dX4_withDye_8 : decode cX4_withDye 8 = .ok (.invokevirtual 46, 3) := dk_182 0 46 (dk_at dksX4_withDye_0 8 rfl rfl)
theorem dX4_withDye_11 : decode cX4_withDye 11 = .ok (.if_icmp .ge 33, 3) := dk_162 0 33 (dk_at dksX4_withDye_0 11 rfl rfl)
theorem dX4_withDye_14 : decode cX4_withDye 14 = .ok (.iload_n 3, 1) := dk_29 (dk_at dksX4_withDye_0 14 rfl rfl)
theorem dX4_withDye_15 : decode cX4_withDye 15 = .ok (.aload_n 0, 1) := dk_42 (dk_at dksX4_withDye_0 15 rfl rfl)
theorem dX4_withDye_16 : decode cX4_withDye 16 = .ok (.getfield 7, 3) := dk_180 0 7 (dk_at dksX4_withDye_0 16 rfl rfl)
theorem dX4_withDye_19 : decode cX4_withDye 19 = .ok (.iload_n 1, 1) := dk_27 (dk_at dksX4_withDye_0 19 rfl rfl)
theorem dX4_withDye_20 : decode cX4_withDye 20 = .ok (.iload 4, 2) := dk_21 4 (dk_at dksX4_withDye_0 20 rfl rfl)
theorem dX4_withDye_22 : decode cX4_withDye 22 = .ok (.iadd, 1) := dk_96 (dk_at dksX4_withDye_0 22 rfl rfl)
theorem dX4_withDye_23 : decode cX4_withDye 23 = .ok (.iaload, 1) := dk_46 (dk_at dksX4_withDye_0 23 rfl rfl)
theorem dX4_withDye_24 : decode cX4_withDye 24 = .ok (.iload_n 2, 1) := dk_28 (dk_at dksX4_withDye_1 0 rfl rfl)
theorem dX4_withDye_25 : decode cX4_withDye 25 = .ok (.invokestatic 114, 3) := dk_184 0 114 (dk_at dksX4_withDye_1 1 rfl rfl)
theorem dX4_withDye_28 : decode cX4_withDye 28 = .ok (.ifCond .eq 7, 3) := dk_153 0 7 (dk_at dksX4_withDye_1 4 rfl rfl)
theorem dX4_withDye_31 : decode cX4_withDye 31 = .ok (.iconst 1, 1) := dk_4 (dk_at dksX4_withDye_1 7 rfl rfl)
theorem dX4_withDye_32 : decode cX4_withDye 32 = .ok (.goto 4, 3) := dk_167 0 4 (dk_at dksX4_withDye_1 8 rfl rfl)
theorem dX4_withDye_35 : decode cX4_withDye 35 = .ok (.iconst 0, 1) := dk_3 (dk_at dksX4_withDye_1 11 rfl rfl)
theorem dX4_withDye_36 : decode cX4_withDye 36 = .ok (.iadd, 1) := dk_96 (dk_at dksX4_withDye_1 12 rfl rfl)
theorem dX4_withDye_37 : decode cX4_withDye 37 = .ok (.istore_n 3, 1) := dk_62 (dk_at dksX4_withDye_1 13 rfl rfl)
theorem dX4_withDye_38 : decode cX4_withDye 38 = .ok (.iinc 4 1, 3) := dk_132 4 1 (dk_at dksX4_withDye_1 14 rfl rfl)
theorem dX4_withDye_41 : decode cX4_withDye 41 = .ok (.goto (-36), 3) := dk_167 255 220 (dk_at dksX4_withDye_1 17 rfl rfl)
theorem dX4_withDye_44 : decode cX4_withDye 44 = .ok (.iload_n 3, 1) := dk_29 (dk_at dksX4_withDye_1 20 rfl rfl)
theorem dX4_withDye_45 : decode cX4_withDye 45 = .ok (.ireturn, 1) := dk_172 (dk_at dksX4_withDye_1 21 rfl rfl)
abbrev cX4_setReaction : ByteArray := prog_20_method_38_code
def yX4_setReaction : MethodName := ⟨RX4, "setReaction", "(III)I"⟩
def dkwX4_setReaction_4 : List UInt8 := [21, 4, 120, 116, 96, 79, 42, 182, 0, 120, 172]
abbrev dktX4_setReaction_4 : List UInt8 := dkwX4_setReaction_4 ++ []
def dkwX4_setReaction_3 : List UInt8 := [182, 0, 97, 42, 180, 0, 7, 16, 6, 92, 46, 29, 4, 160, 0, 10, 4, 21, 4, 120, 167, 0, 8, 4]
abbrev dktX4_setReaction_3 : List UInt8 := dkwX4_setReaction_3 ++ dktX4_setReaction_4
def dkwX4_setReaction_2 : List UInt8 := [21, 4, 184, 0, 114, 29, 4, 160, 0, 7, 4, 167, 0, 4, 3, 160, 0, 6, 16, 254, 172, 42]
abbrev dktX4_setReaction_2 : List UInt8 := dkwX4_setReaction_2 ++ dktX4_setReaction_3
def dkwX4_setReaction_1 : List UInt8 := [153, 0, 8, 27, 28, 160, 0, 5, 2, 172, 27, 28, 96, 4, 100, 54, 4, 42, 180, 0, 7, 16, 6, 46]
abbrev dktX4_setReaction_1 : List UInt8 := dkwX4_setReaction_1 ++ dktX4_setReaction_2
def dkwX4_setReaction_0 : List UInt8 := [27, 3, 5, 184, 0, 50, 153, 0, 26, 28, 3, 5, 184, 0, 50, 153, 0, 17, 29, 3, 4, 184, 0, 50]
abbrev dktX4_setReaction_0 : List UInt8 := dkwX4_setReaction_0 ++ dktX4_setReaction_1
theorem dksX4_setReaction_0 : cX4_setReaction.data.toList.drop 0 = dktX4_setReaction_0 := by decide +kernel
theorem dksX4_setReaction_1 : cX4_setReaction.data.toList.drop 24 = dktX4_setReaction_1 := dk_seg dksX4_setReaction_0 24 rfl rfl
theorem dksX4_setReaction_2 : cX4_setReaction.data.toList.drop 48 = dktX4_setReaction_2 := dk_seg dksX4_setReaction_1 24 rfl rfl
theorem dksX4_setReaction_3 : cX4_setReaction.data.toList.drop 70 = dktX4_setReaction_3 := dk_seg dksX4_setReaction_2 22 rfl rfl
theorem dksX4_setReaction_4 : cX4_setReaction.data.toList.drop 94 = dktX4_setReaction_4 := dk_seg dksX4_setReaction_3 24 rfl rfl
theorem dX4_setReaction_0 : decode cX4_setReaction 0 = .ok (.iload_n 1, 1) := dk_27 (dk_at dksX4_setReaction_0 0 rfl rfl)
theorem dX4_setReaction_1 : decode cX4_setReaction 1 = .ok (.iconst 0, 1) := dk_3 (dk_at dksX4_setReaction_0 1 rfl rfl)
theorem dX4_setReaction_2 : decode cX4_setReaction 2 = .ok (.iconst 2, 1) := dk_5 (dk_at dksX4_setReaction_0 2 rfl rfl)
theorem dX4_setReaction_3 : decode cX4_setReaction 3 = .ok (.invokestatic 50, 3) := dk_184 0 50 (dk_at dksX4_setReaction_0 3 rfl rfl)
theorem dX4_setReaction_6 : decode cX4_setReaction 6 = .ok (.ifCond .eq 26, 3) := dk_153 0 26 (dk_at dksX4_setReaction_0 6 rfl rfl)
theorem dX4_setReaction_9 : decode cX4_setReaction 9 = .ok (.iload_n 2, 1) := dk_28 (dk_at dksX4_setReaction_0 9 rfl rfl)
theorem dX4_setReaction_10 : decode cX4_setReaction 10 = .ok (.iconst 0, 1) := dk_3 (dk_at dksX4_setReaction_0 10 rfl rfl)
theorem dX4_setReaction_11 : decode cX4_setReaction 11 = .ok (.iconst 2, 1) := dk_5 (dk_at dksX4_setReaction_0 11 rfl rfl)
theorem dX4_setReaction_12 : decode cX4_setReaction 12 = .ok (.invokestatic 50, 3) := dk_184 0 50 (dk_at dksX4_setReaction_0 12 rfl rfl)
theorem dX4_setReaction_15 : decode cX4_setReaction 15 = .ok (.ifCond .eq 17, 3) := dk_153 0 17 (dk_at dksX4_setReaction_0 15 rfl rfl)
theorem dX4_setReaction_18 : decode cX4_setReaction 18 = .ok (.iload_n 3, 1) := dk_29 (dk_at dksX4_setReaction_0 18 rfl rfl)
theorem dX4_setReaction_19 : decode cX4_setReaction 19 = .ok (.iconst 0, 1) := dk_3 (dk_at dksX4_setReaction_0 19 rfl rfl)
theorem dX4_setReaction_20 : decode cX4_setReaction 20 = .ok (.iconst 1, 1) := dk_4 (dk_at dksX4_setReaction_0 20 rfl rfl)
theorem dX4_setReaction_21 : decode cX4_setReaction 21 = .ok (.invokestatic 50, 3) := dk_184 0 50 (dk_at dksX4_setReaction_0 21 rfl rfl)
theorem dX4_setReaction_24 : decode cX4_setReaction 24 = .ok (.ifCond .eq 8, 3) := dk_153 0 8 (dk_at dksX4_setReaction_1 0 rfl rfl)
theorem dX4_setReaction_27 : decode cX4_setReaction 27 = .ok (.iload_n 1, 1) := dk_27 (dk_at dksX4_setReaction_1 3 rfl rfl)
theorem dX4_setReaction_28 : decode cX4_setReaction 28 = .ok (.iload_n 2, 1) := dk_28 (dk_at dksX4_setReaction_1 4 rfl rfl)
theorem dX4_setReaction_29 : decode cX4_setReaction 29 = .ok (.if_icmp .ne 5, 3) := dk_160 0 5 (dk_at dksX4_setReaction_1 5 rfl rfl)
theorem dX4_setReaction_32 : decode cX4_setReaction 32 = .ok (.iconst (-1), 1) := dk_2 (dk_at dksX4_setReaction_1 8 rfl rfl)
theorem dX4_setReaction_33 : decode cX4_setReaction 33 = .ok (.ireturn, 1) := dk_172 (dk_at dksX4_setReaction_1 9 rfl rfl)
theorem dX4_setReaction_34 : decode cX4_setReaction 34 = .ok (.iload_n 1, 1) := dk_27 (dk_at dksX4_setReaction_1 10 rfl rfl)
theorem dX4_setReaction_35 : decode cX4_setReaction 35 = .ok (.iload_n 2, 1) := dk_28 (dk_at dksX4_setReaction_1 11 rfl rfl)
theorem dX4_setReaction_36 : decode cX4_setReaction 36 = .ok (.iadd, 1) := dk_96 (dk_at dksX4_setReaction_1 12 rfl rfl)
theorem dX4_setReaction_37 : decode cX4_setReaction 37 = .ok (.iconst 1, 1) := dk_4 (dk_at dksX4_setReaction_1 13 rfl rfl)
theorem dX4_setReaction_38 : decode cX4_setReaction 38 = .ok (.isub, 1) := dk_100 (dk_at dksX4_setReaction_1 14 rfl rfl)
theorem dX4_setReaction_39 : decode cX4_setReaction 39 = .ok (.istore 4, 2) := dk_54 4 (dk_at dksX4_setReaction_1 15 rfl rfl)
theorem dX4_setReaction_41 : decode cX4_setReaction 41 = .ok (.aload_n 0, 1) := dk_42 (dk_at dksX4_setReaction_1 17 rfl rfl)
theorem dX4_setReaction_42 : decode cX4_setReaction 42 = .ok (.getfield 7, 3) := dk_180 0 7 (dk_at dksX4_setReaction_1 18 rfl rfl)
theorem dX4_setReaction_45 : decode cX4_setReaction 45 = .ok (.bipush 6, 2) := dk_16 6 (dk_at dksX4_setReaction_1 21 rfl rfl)
theorem dX4_setReaction_47 : decode cX4_setReaction 47 = .ok (.iaload, 1) := dk_46 (dk_at dksX4_setReaction_1 23 rfl rfl)
theorem dX4_setReaction_48 : decode cX4_setReaction 48 = .ok (.iload 4, 2) := dk_21 4 (dk_at dksX4_setReaction_2 0 rfl rfl)
theorem dX4_setReaction_50 : decode cX4_setReaction 50 = .ok (.invokestatic 114, 3) := dk_184 0 114 (dk_at dksX4_setReaction_2 2 rfl rfl)
theorem dX4_setReaction_53 : decode cX4_setReaction 53 = .ok (.iload_n 3, 1) := dk_29 (dk_at dksX4_setReaction_2 5 rfl rfl)
theorem dX4_setReaction_54 : decode cX4_setReaction 54 = .ok (.iconst 1, 1) := dk_4 (dk_at dksX4_setReaction_2 6 rfl rfl)
theorem dX4_setReaction_55 : decode cX4_setReaction 55 = .ok (.if_icmp .ne 7, 3) := dk_160 0 7 (dk_at dksX4_setReaction_2 7 rfl rfl)
theorem dX4_setReaction_58 : decode cX4_setReaction 58 = .ok (.iconst 1, 1) := dk_4 (dk_at dksX4_setReaction_2 10 rfl rfl)
theorem dX4_setReaction_59 : decode cX4_setReaction 59 = .ok (.goto 4, 3) := dk_167 0 4 (dk_at dksX4_setReaction_2 11 rfl rfl)
theorem dX4_setReaction_62 : decode cX4_setReaction 62 = .ok (.iconst 0, 1) := dk_3 (dk_at dksX4_setReaction_2 14 rfl rfl)
theorem dX4_setReaction_63 : decode cX4_setReaction 63 = .ok (.if_icmp .ne 6, 3) := dk_160 0 6 (dk_at dksX4_setReaction_2 15 rfl rfl)
theorem dX4_setReaction_66 : decode cX4_setReaction 66 = .ok (.bipush (-2), 2) := dk_16 254 (dk_at dksX4_setReaction_2 18 rfl rfl)
theorem dX4_setReaction_68 : decode cX4_setReaction 68 = .ok (.ireturn, 1) := dk_172 (dk_at dksX4_setReaction_2 20 rfl rfl)
theorem dX4_setReaction_69 : decode cX4_setReaction 69 = .ok (.aload_n 0, 1) := dk_42 (dk_at dksX4_setReaction_2 21 rfl rfl)
theorem dX4_setReaction_70 : decode cX4_setReaction 70 = .ok (.invokevirtual 97, 3) := dk_182 0 97 (dk_at dksX4_setReaction_3 0 rfl rfl)
theorem dX4_setReaction_73 : decode cX4_setReaction 73 = .ok (.aload_n 0, 1) := dk_42 (dk_at dksX4_setReaction_3 3 rfl rfl)
theorem dX4_setReaction_74 : decode cX4_setReaction 74 = .ok (.getfield 7, 3) := dk_180 0 7 (dk_at dksX4_setReaction_3 4 rfl rfl)
theorem dX4_setReaction_77 : decode cX4_setReaction 77 = .ok (.bipush 6, 2) := dk_16 6 (dk_at dksX4_setReaction_3 7 rfl rfl)
theorem dX4_setReaction_79 : decode cX4_setReaction 79 = .ok (.dup2, 1) := dk_92 (dk_at dksX4_setReaction_3 9 rfl rfl)
theorem dX4_setReaction_80 : decode cX4_setReaction 80 = .ok (.iaload, 1) := dk_46 (dk_at dksX4_setReaction_3 10 rfl rfl)
theorem dX4_setReaction_81 : decode cX4_setReaction 81 = .ok (.iload_n 3, 1) := dk_29 (dk_at dksX4_setReaction_3 11 rfl rfl)
theorem dX4_setReaction_82 : decode cX4_setReaction 82 = .ok (.iconst 1, 1) := dk_4 (dk_at dksX4_setReaction_3 12 rfl rfl)
theorem dX4_setReaction_83 : decode cX4_setReaction 83 = .ok (.if_icmp .ne 10, 3) := dk_160 0 10 (dk_at dksX4_setReaction_3 13 rfl rfl)
theorem dX4_setReaction_86 : decode cX4_setReaction 86 = .ok (.iconst 1, 1) := dk_4 (dk_at dksX4_setReaction_3 16 rfl rfl)
theorem dX4_setReaction_87 : decode cX4_setReaction 87 = .ok (.iload 4, 2) := dk_21 4 (dk_at dksX4_setReaction_3 17 rfl rfl)
theorem dX4_setReaction_89 : decode cX4_setReaction 89 = .ok (.ishl, 1) := dk_120 (dk_at dksX4_setReaction_3 19 rfl rfl)
theorem dX4_setReaction_90 : decode cX4_setReaction 90 = .ok (.goto 8, 3) := dk_167 0 8 (dk_at dksX4_setReaction_3 20 rfl rfl)
theorem dX4_setReaction_93 : decode cX4_setReaction 93 = .ok (.iconst 1, 1) := dk_4 (dk_at dksX4_setReaction_3 23 rfl rfl)
theorem dX4_setReaction_94 : decode cX4_setReaction 94 = .ok (.iload 4, 2) := dk_21 4 (dk_at dksX4_setReaction_4 0 rfl rfl)
theorem dX4_setReaction_96 : decode cX4_setReaction 96 = .ok (.ishl, 1) := dk_120 (dk_at dksX4_setReaction_4 2 rfl rfl)
theorem dX4_setReaction_97 : decode cX4_setReaction 97 = .ok (.ineg, 1) := dk_116 (dk_at dksX4_setReaction_4 3 rfl rfl)
theorem dX4_setReaction_98 : decode cX4_setReaction 98 = .ok (.iadd, 1) := dk_96 (dk_at dksX4_setReaction_4 4 rfl rfl)
theorem dX4_setReaction_99 : decode cX4_setReaction 99 = .ok (.iastore, 1) := dk_79 (dk_at dksX4_setReaction_4 5 rfl rfl)
theorem dX4_setReaction_100 : decode cX4_setReaction 100 = .ok (.aload_n 0, 1) := dk_42 (dk_at dksX4_setReaction_4 6 rfl rfl)
theorem dX4_setReaction_101 : decode cX4_setReaction 101 = .ok (.invokevirtual 120, 3) := dk_182 0 120 (dk_at dksX4_setReaction_4 7 rfl rfl)
theorem dX4_setReaction_104 : decode cX4_setReaction 104 = .ok (.ireturn, 1) := dk_172 (dk_at dksX4_setReaction_4 10 rfl rfl)
abbrev cX4_pairs : ByteArray := prog_20_method_37_code
def yX4_pairs : MethodName := ⟨RX4, "pairs", "()I"⟩
def dkwX4_pairs_1 : List UInt8 := [180, 0, 7, 16, 6, 46, 7, 108, 96, 172]
abbrev dktX4_pairs_1 : List UInt8 := dkwX4_pairs_1 ++ []
def dkwX4_pairs_0 : List UInt8 := [42, 180, 0, 7, 16, 6, 46, 5, 112, 42, 180, 0, 7, 16, 6, 46, 5, 108, 5, 112, 96, 42]
abbrev dktX4_pairs_0 : List UInt8 := dkwX4_pairs_0 ++ dktX4_pairs_1
theorem dksX4_pairs_0 : cX4_pairs.data.toList.drop 0 = dktX4_pairs_0 := by decide +kernel
theorem dksX4_pairs_1 : cX4_pairs.data.toList.drop 22 = dktX4_pairs_1 := dk_seg dksX4_pairs_0 22 rfl rfl
theorem dX4_pairs_0 : decode cX4_pairs 0 = .ok (.aload_n 0, 1) := dk_42 (dk_at dksX4_pairs_0 0 rfl rfl)
theorem dX4_pairs_1 : decode cX4_pairs 1 = .ok (.getfield 7, 3) := dk_180 0 7 (dk_at dksX4_pairs_0 1 rfl rfl)
theorem dX4_pairs_4 : decode cX4_pairs 4 = .ok (.bipush 6, 2) := dk_16 6 (dk_at dksX4_pairs_0 4 rfl rfl)
theorem dX4_pairs_6 : decode cX4_pairs 6 = .ok (.iaload, 1) := dk_46 (dk_at dksX4_pairs_0 6 rfl rfl)
theorem dX4_pairs_7 : decode cX4_pairs 7 = .ok (.iconst 2, 1) := dk_5 (dk_at dksX4_pairs_0 7 rfl rfl)
theorem dX4_pairs_8 : decode cX4_pairs 8 = .ok (.irem, 1) := dk_112 (dk_at dksX4_pairs_0 8 rfl rfl)
theorem dX4_pairs_9 : decode cX4_pairs 9 = .ok (.aload_n 0, 1) := dk_42 (dk_at dksX4_pairs_0 9 rfl rfl)
theorem dX4_pairs_10 : decode cX4_pairs 10 = .ok (.getfield 7, 3) := dk_180 0 7 (dk_at dksX4_pairs_0 10 rfl rfl)
theorem dX4_pairs_13 : decode cX4_pairs 13 = .ok (.bipush 6, 2) := dk_16 6 (dk_at dksX4_pairs_0 13 rfl rfl)
theorem dX4_pairs_15 : decode cX4_pairs 15 = .ok (.iaload, 1) := dk_46 (dk_at dksX4_pairs_0 15 rfl rfl)
theorem dX4_pairs_16 : decode cX4_pairs 16 = .ok (.iconst 2, 1) := dk_5 (dk_at dksX4_pairs_0 16 rfl rfl)
theorem dX4_pairs_17 : decode cX4_pairs 17 = .ok (.idiv, 1) := dk_108 (dk_at dksX4_pairs_0 17 rfl rfl)
theorem dX4_pairs_18 : decode cX4_pairs 18 = .ok (.iconst 2, 1) := dk_5 (dk_at dksX4_pairs_0 18 rfl rfl)
theorem dX4_pairs_19 : decode cX4_pairs 19 = .ok (.irem, 1) := dk_112 (dk_at dksX4_pairs_0 19 rfl rfl)
theorem dX4_pairs_20 : decode cX4_pairs 20 = .ok (.iadd, 1) := dk_96 (dk_at dksX4_pairs_0 20 rfl rfl)
theorem dX4_pairs_21 : decode cX4_pairs 21 = .ok (.aload_n 0, 1) := dk_42 (dk_at dksX4_pairs_0 21 rfl rfl)
theorem dX4_pairs_22 : decode cX4_pairs 22 = .ok (.getfield 7, 3) := dk_180 0 7 (dk_at dksX4_pairs_1 0 rfl rfl)
theorem dX4_pairs_25 : decode cX4_pairs 25 = .ok (.bipush 6, 2) := dk_16 6 (dk_at dksX4_pairs_1 3 rfl rfl)
theorem dX4_pairs_27 : decode cX4_pairs 27 = .ok (.iaload, 1) := dk_46 (dk_at dksX4_pairs_1 5 rfl rfl)
theorem dX4_pairs_28 : decode cX4_pairs 28 = .ok (.iconst 4, 1) := dk_7 (dk_at dksX4_pairs_1 6 rfl rfl)
theorem dX4_pairs_29 : decode cX4_pairs 29 = .ok (.idiv, 1) := dk_108 (dk_at dksX4_pairs_1 7 rfl rfl)
theorem dX4_pairs_30 : decode cX4_pairs 30 = .ok (.iadd, 1) := dk_96 (dk_at dksX4_pairs_1 8 rfl rfl)
theorem dX4_pairs_31 : decode cX4_pairs 31 = .ok (.ireturn, 1) := dk_172 (dk_at dksX4_pairs_1 9 rfl rfl)
abbrev cX4_setBeat : ByteArray := prog_20_method_39_code
def yX4_setBeat : MethodName := ⟨RX4, "setBeat", "(I)I"⟩
def dkwX4_setBeat_1 : List UInt8 := [180, 0, 7, 7, 27, 79, 28, 172]
abbrev dktX4_setBeat_1 : List UInt8 := dkwX4_setBeat_1 ++ []
def dkwX4_setBeat_0 : List UInt8 := [27, 4, 16, 9, 184, 0, 50, 154, 0, 5, 2, 172, 42, 180, 0, 7, 7, 46, 61, 42, 182, 0, 97, 42]
abbrev dktX4_setBeat_0 : List UInt8 := dkwX4_setBeat_0 ++ dktX4_setBeat_1
theorem dksX4_setBeat_0 : cX4_setBeat.data.toList.drop 0 = dktX4_setBeat_0 := by decide +kernel
theorem dksX4_setBeat_1 : cX4_setBeat.data.toList.drop 24 = dktX4_setBeat_1 := dk_seg dksX4_setBeat_0 24 rfl rfl
theorem dX4_setBeat_0 : decode cX4_setBeat 0 = .ok (.iload_n 1, 1) := dk_27 (dk_at dksX4_setBeat_0 0 rfl rfl)
theorem dX4_setBeat_1 : decode cX4_setBeat 1 = .ok (.iconst 1, 1) := dk_4 (dk_at dksX4_setBeat_0 1 rfl rfl)
theorem dX4_setBeat_2 : decode cX4_setBeat 2 = .ok (.bipush 9, 2) := dk_16 9 (dk_at dksX4_setBeat_0 2 rfl rfl)
theorem dX4_setBeat_4 : decode cX4_setBeat 4 = .ok (.invokestatic 50, 3) := dk_184 0 50 (dk_at dksX4_setBeat_0 4 rfl rfl)
theorem dX4_setBeat_7 : decode cX4_setBeat 7 = .ok (.ifCond .ne 5, 3) := dk_154 0 5 (dk_at dksX4_setBeat_0 7 rfl rfl)
theorem dX4_setBeat_10 : decode cX4_setBeat 10 = .ok (.iconst (-1), 1) := dk_2 (dk_at dksX4_setBeat_0 10 rfl rfl)
theorem dX4_setBeat_11 : decode cX4_setBeat 11 = .ok (.ireturn, 1) := dk_172 (dk_at dksX4_setBeat_0 11 rfl rfl)
theorem dX4_setBeat_12 : decode cX4_setBeat 12 = .ok (.aload_n 0, 1) := dk_42 (dk_at dksX4_setBeat_0 12 rfl rfl)
theorem dX4_setBeat_13 : decode cX4_setBeat 13 = .ok (.getfield 7, 3) := dk_180 0 7 (dk_at dksX4_setBeat_0 13 rfl rfl)
theorem dX4_setBeat_16 : decode cX4_setBeat 16 = .ok (.iconst 4, 1) := dk_7 (dk_at dksX4_setBeat_0 16 rfl rfl)
theorem dX4_setBeat_17 : decode cX4_setBeat 17 = .ok (.iaload, 1) := dk_46 (dk_at dksX4_setBeat_0 17 rfl rfl)
theorem dX4_setBeat_18 : decode cX4_setBeat 18 = .ok (.istore_n 2, 1) := dk_61 (dk_at dksX4_setBeat_0 18 rfl rfl)
theorem dX4_setBeat_19 : decode cX4_setBeat 19 = .ok (.aload_n 0, 1) := dk_42 (dk_at dksX4_setBeat_0 19 rfl rfl)
theorem dX4_setBeat_20 : decode cX4_setBeat 20 = .ok (.invokevirtual 97, 3) := dk_182 0 97 (dk_at dksX4_setBeat_0 20 rfl rfl)
theorem dX4_setBeat_23 : decode cX4_setBeat 23 = .ok (.aload_n 0, 1) := dk_42 (dk_at dksX4_setBeat_0 23 rfl rfl)
theorem dX4_setBeat_24 : decode cX4_setBeat 24 = .ok (.getfield 7, 3) := dk_180 0 7 (dk_at dksX4_setBeat_1 0 rfl rfl)
theorem dX4_setBeat_27 : decode cX4_setBeat 27 = .ok (.iconst 4, 1) := dk_7 (dk_at dksX4_setBeat_1 3 rfl rfl)
theorem dX4_setBeat_28 : decode cX4_setBeat 28 = .ok (.iload_n 1, 1) := dk_27 (dk_at dksX4_setBeat_1 4 rfl rfl)
theorem dX4_setBeat_29 : decode cX4_setBeat 29 = .ok (.iastore, 1) := dk_79 (dk_at dksX4_setBeat_1 5 rfl rfl)
theorem dX4_setBeat_30 : decode cX4_setBeat 30 = .ok (.iload_n 2, 1) := dk_28 (dk_at dksX4_setBeat_1 6 rfl rfl)
theorem dX4_setBeat_31 : decode cX4_setBeat 31 = .ok (.ireturn, 1) := dk_172 (dk_at dksX4_setBeat_1 7 rfl rfl)
abbrev cX4_run : ByteArray := prog_20_method_44_code
def yX4_run : MethodName := ⟨RX4, "run", "(I)I"⟩
def dkwX4_run_2 : List UInt8 := [96, 61, 132, 3, 1, 167, 255, 241, 28, 172]
abbrev dktX4_run_2 : List UInt8 := dkwX4_run_2 ++ []
def dkwX4_run_1 : List UInt8 := [164, 0, 6, 16, 253, 172, 42, 182, 0, 97, 3, 61, 3, 62, 29, 27, 162, 0, 16, 28, 42, 182, 0, 132]
abbrev dktX4_run_1 : List UInt8 := dkwX4_run_1 ++ dktX4_run_2
def dkwX4_run_0 : List UInt8 := [27, 4, 16, 60, 184, 0, 50, 154, 0, 5, 2, 172, 42, 180, 0, 7, 8, 46, 27, 96, 17, 3, 232]
abbrev dktX4_run_0 : List UInt8 := dkwX4_run_0 ++ dktX4_run_1
theorem dksX4_run_0 : cX4_run.data.toList.drop 0 = dktX4_run_0 := by decide +kernel
theorem dksX4_run_1 : cX4_run.data.toList.drop 23 = dktX4_run_1 := dk_seg dksX4_run_0 23 rfl rfl
theorem dksX4_run_2 : cX4_run.data.toList.drop 47 = dktX4_run_2 := dk_seg dksX4_run_1 24 rfl rfl
theorem dX4_run_0 : decode cX4_run 0 = .ok (.iload_n 1, 1) := dk_27 (dk_at dksX4_run_0 0 rfl rfl)
theorem dX4_run_1 : decode cX4_run 1 = .ok (.iconst 1, 1) := dk_4 (dk_at dksX4_run_0 1 rfl rfl)
theorem dX4_run_2 : decode cX4_run 2 = .ok (.bipush 60, 2) := dk_16 60 (dk_at dksX4_run_0 2 rfl rfl)
theorem dX4_run_4 : decode cX4_run 4 = .ok (.invokestatic 50, 3) := dk_184 0 50 (dk_at dksX4_run_0 4 rfl rfl)
theorem dX4_run_7 : decode cX4_run 7 = .ok (.ifCond .ne 5, 3) := dk_154 0 5 (dk_at dksX4_run_0 7 rfl rfl)
theorem dX4_run_10 : decode cX4_run 10 = .ok (.iconst (-1), 1) := dk_2 (dk_at dksX4_run_0 10 rfl rfl)
theorem dX4_run_11 : decode cX4_run 11 = .ok (.ireturn, 1) := dk_172 (dk_at dksX4_run_0 11 rfl rfl)
theorem dX4_run_12 : decode cX4_run 12 = .ok (.aload_n 0, 1) := dk_42 (dk_at dksX4_run_0 12 rfl rfl)
theorem dX4_run_13 : decode cX4_run 13 = .ok (.getfield 7, 3) := dk_180 0 7 (dk_at dksX4_run_0 13 rfl rfl)
theorem dX4_run_16 : decode cX4_run 16 = .ok (.iconst 5, 1) := dk_8 (dk_at dksX4_run_0 16 rfl rfl)
theorem dX4_run_17 : decode cX4_run 17 = .ok (.iaload, 1) := dk_46 (dk_at dksX4_run_0 17 rfl rfl)
theorem dX4_run_18 : decode cX4_run 18 = .ok (.iload_n 1, 1) := dk_27 (dk_at dksX4_run_0 18 rfl rfl)
theorem dX4_run_19 : decode cX4_run 19 = .ok (.iadd, 1) := dk_96 (dk_at dksX4_run_0 19 rfl rfl)
theorem dX4_run_20 : decode cX4_run 20 = .ok (.sipush 1000, 3) := dk_17 3 232 (dk_at dksX4_run_0 20 rfl rfl)
theorem dX4_run_23 : decode cX4_run 23 = .ok (.if_icmp .le 6, 3) := dk_164 0 6 (dk_at dksX4_run_1 0 rfl rfl)
theorem dX4_run_26 : decode cX4_run 26 = .ok (.bipush (-3), 2) := dk_16 253 (dk_at dksX4_run_1 3 rfl rfl)
theorem dX4_run_28 : decode cX4_run 28 = .ok (.ireturn, 1) := dk_172 (dk_at dksX4_run_1 5 rfl rfl)
theorem dX4_run_29 : decode cX4_run 29 = .ok (.aload_n 0, 1) := dk_42 (dk_at dksX4_run_1 6 rfl rfl)
theorem dX4_run_30 : decode cX4_run 30 = .ok (.invokevirtual 97, 3) := dk_182 0 97 (dk_at dksX4_run_1 7 rfl rfl)
theorem dX4_run_33 : decode cX4_run 33 = .ok (.iconst 0, 1) := dk_3 (dk_at dksX4_run_1 10 rfl rfl)
theorem dX4_run_34 : decode cX4_run 34 = .ok (.istore_n 2, 1) := dk_61 (dk_at dksX4_run_1 11 rfl rfl)
theorem dX4_run_35 : decode cX4_run 35 = .ok (.iconst 0, 1) := dk_3 (dk_at dksX4_run_1 12 rfl rfl)
theorem dX4_run_36 : decode cX4_run 36 = .ok (.istore_n 3, 1) := dk_62 (dk_at dksX4_run_1 13 rfl rfl)
theorem dX4_run_37 : decode cX4_run 37 = .ok (.iload_n 3, 1) := dk_29 (dk_at dksX4_run_1 14 rfl rfl)
theorem dX4_run_38 : decode cX4_run 38 = .ok (.iload_n 1, 1) := dk_27 (dk_at dksX4_run_1 15 rfl rfl)
theorem dX4_run_39 : decode cX4_run 39 = .ok (.if_icmp .ge 16, 3) := dk_162 0 16 (dk_at dksX4_run_1 16 rfl rfl)
theorem dX4_run_42 : decode cX4_run 42 = .ok (.iload_n 2, 1) := dk_28 (dk_at dksX4_run_1 19 rfl rfl)
theorem dX4_run_43 : decode cX4_run 43 = .ok (.aload_n 0, 1) := dk_42 (dk_at dksX4_run_1 20 rfl rfl)
theorem dX4_run_44 : decode cX4_run 44 = .ok (.invokevirtual 132, 3) := dk_182 0 132 (dk_at dksX4_run_1 21 rfl rfl)
theorem dX4_run_47 : decode cX4_run 47 = .ok (.iadd, 1) := dk_96 (dk_at dksX4_run_2 0 rfl rfl)
theorem dX4_run_48 : decode cX4_run 48 = .ok (.istore_n 2, 1) := dk_61 (dk_at dksX4_run_2 1 rfl rfl)
theorem dX4_run_49 : decode cX4_run 49 = .ok (.iinc 3 1, 3) := dk_132 3 1 (dk_at dksX4_run_2 2 rfl rfl)
theorem dX4_run_52 : decode cX4_run 52 = .ok (.goto (-15), 3) := dk_167 255 241 (dk_at dksX4_run_2 5 rfl rfl)
theorem dX4_run_55 : decode cX4_run 55 = .ok (.iload_n 2, 1) := dk_28 (dk_at dksX4_run_2 8 rfl rfl)
theorem dX4_run_56 : decode cX4_run 56 = .ok (.ireturn, 1) := dk_172 (dk_at dksX4_run_2 9 rfl rfl)
abbrev cX4_steps : ByteArray := prog_20_method_43_code
def yX4_steps : MethodName := ⟨RX4, "steps", "()I"⟩
def dkwX4_steps_14 : List UInt8 := [8, 92, 46, 4, 96, 79, 28, 172]
abbrev dktX4_steps_14 : List UInt8 := dkwX4_steps_14 ++ []
def dkwX4_steps_13 : List UInt8 := [29, 46, 182, 0, 129, 153, 0, 7, 4, 167, 0, 4, 3, 79, 132, 3, 1, 167, 255, 132, 42, 180, 0, 7]
abbrev dktX4_steps_13 : List UInt8 := dkwX4_steps_13 ++ dktX4_steps_14
def dkwX4_steps_12 : List UInt8 := [17, 2, 55, 29, 96, 42, 180, 0, 7, 17, 2, 55, 29, 96, 46, 4, 159, 0, 16, 42, 42, 180, 0, 32]
abbrev dktX4_steps_12 : List UInt8 := dkwX4_steps_12 ++ dktX4_steps_13
def dkwX4_steps_11 : List UInt8 := [167, 255, 207, 42, 180, 0, 7, 17, 1, 231, 29, 96, 42, 180, 0, 32, 29, 46, 79, 42, 180, 0, 7]
abbrev dktX4_steps_11 : List UInt8 := dkwX4_steps_11 ++ dktX4_steps_12
def dkwX4_steps_10 : List UInt8 := [17, 1, 231, 29, 96, 46, 21, 4, 184, 0, 114, 154, 0, 7, 4, 167, 0, 4, 3, 96, 61, 132, 4, 1]
abbrev dktX4_steps_10 : List UInt8 := dkwX4_steps_10 ++ dktX4_steps_11
def dkwX4_steps_9 : List UInt8 := [162, 0, 49, 28, 42, 180, 0, 32, 29, 46, 21, 4, 184, 0, 114, 153, 0, 25, 42, 180, 0, 7]
abbrev dktX4_steps_9 : List UInt8 := dkwX4_steps_9 ++ dktX4_steps_10
def dkwX4_steps_8 : List UInt8 := [132, 3, 1, 167, 255, 146, 3, 62, 29, 42, 182, 0, 46, 162, 0, 122, 3, 54, 4, 21, 4, 6]
abbrev dktX4_steps_8 : List UInt8 := dkwX4_steps_8 ++ dktX4_steps_9
def dkwX4_steps_7 : List UInt8 := [21, 4, 3, 182, 0, 76, 153, 0, 10, 42, 21, 5, 29, 182, 0, 126, 132, 4, 1, 167, 255, 163]
abbrev dktX4_steps_7 : List UInt8 := dkwX4_steps_7 ++ dktX4_steps_8
def dkwX4_steps_6 : List UInt8 := [29, 21, 4, 4, 182, 0, 76, 153, 0, 10, 42, 29, 21, 5, 182, 0, 126, 21, 6, 153, 0, 21, 42, 29]
abbrev dktX4_steps_6 : List UInt8 := dkwX4_steps_6 ++ dktX4_steps_7
def dkwX4_steps_5 : List UInt8 := [42, 29, 21, 4, 182, 0, 70, 7, 159, 0, 7, 4, 167, 0, 4, 3, 54, 6, 21, 6, 153, 0, 21, 42]
abbrev dktX4_steps_5 : List UInt8 := dkwX4_steps_5 ++ dktX4_steps_6
def dkwX4_steps_4 : List UInt8 := [7, 162, 0, 93, 42, 29, 21, 4, 182, 0, 62, 54, 5, 21, 5, 16, 247, 159, 0, 22, 27, 154, 0, 14]
abbrev dktX4_steps_4 : List UInt8 := dkwX4_steps_4 ++ dktX4_steps_5
def dkwX4_steps_3 : List UInt8 := [3, 128, 79, 132, 3, 1, 167, 255, 206, 3, 62, 29, 42, 182, 0, 46, 162, 0, 108, 3, 54, 4, 21, 4]
abbrev dktX4_steps_3 : List UInt8 := dkwX4_steps_3 ++ dktX4_steps_4
def dkwX4_steps_2 : List UInt8 := [29, 96, 46, 42, 29, 182, 0, 123, 153, 0, 16, 42, 180, 0, 7, 17, 1, 151, 29, 96, 46, 167, 0, 4]
abbrev dktX4_steps_2 : List UInt8 := dkwX4_steps_2 ++ dktX4_steps_3
def dkwX4_steps_1 : List UInt8 := [3, 61, 3, 62, 29, 42, 182, 0, 46, 162, 0, 48, 42, 180, 0, 32, 29, 42, 180, 0, 7, 17, 1, 231]
abbrev dktX4_steps_1 : List UInt8 := dkwX4_steps_1 ++ dktX4_steps_2
def dkwX4_steps_0 : List UInt8 := [42, 180, 0, 7, 8, 46, 42, 180, 0, 7, 7, 46, 108, 5, 112, 154, 0, 7, 4, 167, 0, 4, 3, 60]
abbrev dktX4_steps_0 : List UInt8 := dkwX4_steps_0 ++ dktX4_steps_1
theorem dksX4_steps_0 : cX4_steps.data.toList.drop 0 = dktX4_steps_0 := by decide +kernel
theorem dksX4_steps_1 : cX4_steps.data.toList.drop 24 = dktX4_steps_1 := dk_seg dksX4_steps_0 24 rfl rfl
theorem dksX4_steps_2 : cX4_steps.data.toList.drop 48 = dktX4_steps_2 := dk_seg dksX4_steps_1 24 rfl rfl
theorem dksX4_steps_3 : cX4_steps.data.toList.drop 72 = dktX4_steps_3 := dk_seg dksX4_steps_2 24 rfl rfl
theorem dksX4_steps_4 : cX4_steps.data.toList.drop 96 = dktX4_steps_4 := dk_seg dksX4_steps_3 24 rfl rfl
theorem dksX4_steps_5 : cX4_steps.data.toList.drop 120 = dktX4_steps_5 := dk_seg dksX4_steps_4 24 rfl rfl
theorem dksX4_steps_6 : cX4_steps.data.toList.drop 144 = dktX4_steps_6 := dk_seg dksX4_steps_5 24 rfl rfl
theorem dksX4_steps_7 : cX4_steps.data.toList.drop 168 = dktX4_steps_7 := dk_seg dksX4_steps_6 24 rfl rfl
theorem dksX4_steps_8 : cX4_steps.data.toList.drop 190 = dktX4_steps_8 := dk_seg dksX4_steps_7 22 rfl rfl
theorem dksX4_steps_9 : cX4_steps.data.toList.drop 212 = dktX4_steps_9 := dk_seg dksX4_steps_8 22 rfl rfl
theorem dksX4_steps_10 : cX4_steps.data.toList.drop 234 = dktX4_steps_10 := dk_seg dksX4_steps_9 22 rfl rfl
theorem dksX4_steps_11 : cX4_steps.data.toList.drop 258 = dktX4_steps_11 := dk_seg dksX4_steps_10 24 rfl rfl
theorem dksX4_steps_12 : cX4_steps.data.toList.drop 281 = dktX4_steps_12 := dk_seg dksX4_steps_11 23 rfl rfl
theorem dksX4_steps_13 : cX4_steps.data.toList.drop 305 = dktX4_steps_13 := dk_seg dksX4_steps_12 24 rfl rfl
theorem dksX4_steps_14 : cX4_steps.data.toList.drop 329 = dktX4_steps_14 := dk_seg dksX4_steps_13 24 rfl rfl
theorem dX4_steps_0 : decode cX4_steps 0 = .ok (.aload_n 0, 1) := dk_42 (dk_at dksX4_steps_0 0 rfl rfl)
theorem dX4_steps_1 : decode cX4_steps 1 = .ok (.getfield 7, 3) := dk_180 0 7 (dk_at dksX4_steps_0 1 rfl rfl)
theorem dX4_steps_4 : decode cX4_steps 4 = .ok (.iconst 5, 1) := dk_8 (dk_at dksX4_steps_0 4 rfl rfl)
theorem dX4_steps_5 : decode cX4_steps 5 = .ok (.iaload, 1) := dk_46 (dk_at dksX4_steps_0 5 rfl rfl)
theorem dX4_steps_6 : decode cX4_steps 6 = .ok (.aload_n 0, 1) := dk_42 (dk_at dksX4_steps_0 6 rfl rfl)
theorem dX4_steps_7 : decode cX4_steps 7 = .ok (.getfield 7, 3) := dk_180 0 7 (dk_at dksX4_steps_0 7 rfl rfl)
theorem dX4_steps_10 : decode cX4_steps 10 = .ok (.iconst 4, 1) := dk_7 (dk_at dksX4_steps_0 10 rfl rfl)
theorem dX4_steps_11 : decode cX4_steps 11 = .ok (.iaload, 1) := dk_46 (dk_at dksX4_steps_0 11 rfl rfl)
theorem dX4_steps_12 : decode cX4_steps 12 = .ok (.idiv, 1) := dk_108 (dk_at dksX4_steps_0 12 rfl rfl)
theorem dX4_steps_13 : decode cX4_steps 13 = .ok (.iconst 2, 1) := dk_5 (dk_at dksX4_steps_0 13 rfl rfl)
theorem dX4_steps_14 : decode cX4_steps 14 = .ok (.irem, 1) := dk_112 (dk_at dksX4_steps_0 14 rfl rfl)
theorem dX4_steps_15 : decode cX4_steps 15 = .ok (.ifCond .ne 7, 3) := dk_154 0 7 (dk_at dksX4_steps_0 15 rfl rfl)
theorem dX4_steps_18 : decode cX4_steps 18 = .ok (.iconst 1, 1) := dk_4 (dk_at dksX4_steps_0 18 rfl rfl)
theorem dX4_steps_19 : decode cX4_steps 19 = .ok (.goto 4, 3) := dk_167 0 4 (dk_at dksX4_steps_0 19 rfl rfl)
theorem dX4_steps_22 : decode cX4_steps 22 = .ok (.iconst 0, 1) := dk_3 (dk_at dksX4_steps_0 22 rfl rfl)
theorem dX4_steps_23 : decode cX4_steps 23 = .ok (.istore_n 1, 1) := dk_60 (dk_at dksX4_steps_0 23 rfl rfl)
theorem dX4_steps_24 : decode cX4_steps 24 = .ok (.iconst 0, 1) := dk_3 (dk_at dksX4_steps_1 0 rfl rfl)
theorem dX4_steps_25 : decode cX4_steps 25 = .ok (.istore_n 2, 1) := dk_61 (dk_at dksX4_steps_1 1 rfl rfl)
theorem dX4_steps_26 : decode cX4_steps 26 = .ok (.iconst 0, 1) := dk_3 (dk_at dksX4_steps_1 2 rfl rfl)
theorem dX4_steps_27 : decode cX4_steps 27 = .ok (.istore_n 3, 1) := dk_62 (dk_at dksX4_steps_1 3 rfl rfl)
theorem dX4_steps_28 : decode cX4_steps 28 = .ok (.iload_n 3, 1) := dk_29 (dk_at dksX4_steps_1 4 rfl rfl)
theorem dX4_steps_29 : decode cX4_steps 29 = .ok (.aload_n 0, 1) := dk_42 (dk_at dksX4_steps_1 5 rfl rfl)
theorem dX4_steps_30 : decode cX4_steps 30 = .ok (.invokevirtual 46, 3) := dk_182 0 46 (dk_at dksX4_steps_1 6 rfl rfl)
theorem dX4_steps_33 : decode cX4_steps 33 = .ok (.if_icmp .ge 48, 3) := dk_162 0 48 (dk_at dksX4_steps_1 9 rfl rfl)
theorem dX4_steps_36 : decode cX4_steps 36 = .ok (.aload_n 0, 1) := dk_42 (dk_at dksX4_steps_1 12 rfl rfl)
theorem dX4_steps_37 : decode cX4_steps 37 = .ok (.getfield 32, 3) := dk_180 0 32 (dk_at dksX4_steps_1 13 rfl rfl)
theorem dX4_steps_40 : decode cX4_steps 40 = .ok (.iload_n 3, 1) := dk_29 (dk_at dksX4_steps_1 16 rfl rfl)
theorem dX4_steps_41 : decode cX4_steps 41 = .ok (.aload_n 0, 1) := dk_42 (dk_at dksX4_steps_1 17 rfl rfl)
theorem dX4_steps_42 : decode cX4_steps 42 = .ok (.getfield 7, 3) := dk_180 0 7 (dk_at dksX4_steps_1 18 rfl rfl)
theorem dX4_steps_45 : decode cX4_steps 45 = .ok (.sipush 487, 3) := dk_17 1 231 (dk_at dksX4_steps_1 21 rfl rfl)
theorem dX4_steps_48 : decode cX4_steps 48 = .ok (.iload_n 3, 1) := dk_29 (dk_at dksX4_steps_2 0 rfl rfl)
theorem dX4_steps_49 : decode cX4_steps 49 = .ok (.iadd, 1) := dk_96 (dk_at dksX4_steps_2 1 rfl rfl)
theorem dX4_steps_50 : decode cX4_steps 50 = .ok (.iaload, 1) := dk_46 (dk_at dksX4_steps_2 2 rfl rfl)
theorem dX4_steps_51 : decode cX4_steps 51 = .ok (.aload_n 0, 1) := dk_42 (dk_at dksX4_steps_2 3 rfl rfl)
theorem dX4_steps_52 : decode cX4_steps 52 = .ok (.iload_n 3, 1) := dk_29 (dk_at dksX4_steps_2 4 rfl rfl)
theorem dX4_steps_53 : decode cX4_steps 53 = .ok (.invokevirtual 123, 3) := dk_182 0 123 (dk_at dksX4_steps_2 5 rfl rfl)
theorem dX4_steps_56 : decode cX4_steps 56 = .ok (.ifCond .eq 16, 3) := dk_153 0 16 (dk_at dksX4_steps_2 8 rfl rfl)
theorem dX4_steps_59 : decode cX4_steps 59 = .ok (.aload_n 0, 1) := dk_42 (dk_at dksX4_steps_2 11 rfl rfl)
theorem dX4_steps_60 : decode cX4_steps 60 = .ok (.getfield 7, 3) := dk_180 0 7 (dk_at dksX4_steps_2 12 rfl rfl)
theorem dX4_steps_63 : decode cX4_steps 63 = .ok (.sipush 407, 3) := dk_17 1 151 (dk_at dksX4_steps_2 15 rfl rfl)
theorem dX4_steps_66 : decode cX4_steps 66 = .ok (.iload_n 3, 1) := dk_29 (dk_at dksX4_steps_2 18 rfl rfl)
theorem dX4_steps_67 : decode cX4_steps 67 = .ok (.iadd, 1) := dk_96 (dk_at dksX4_steps_2 19 rfl rfl)
theorem dX4_steps_68 : decode cX4_steps 68 = .ok (.iaload, 1) := dk_46 (dk_at dksX4_steps_2 20 rfl rfl)
theorem dX4_steps_69 : decode cX4_steps 69 = .ok (.goto 4, 3) := dk_167 0 4 (dk_at dksX4_steps_2 21 rfl rfl)
theorem dX4_steps_72 : decode cX4_steps 72 = .ok (.iconst 0, 1) := dk_3 (dk_at dksX4_steps_3 0 rfl rfl)
theorem dX4_steps_73 : decode cX4_steps 73 = .ok (.ior, 1) := dk_128 (dk_at dksX4_steps_3 1 rfl rfl)
theorem dX4_steps_74 : decode cX4_steps 74 = .ok (.iastore, 1) := dk_79 (dk_at dksX4_steps_3 2 rfl rfl)
theorem dX4_steps_75 : decode cX4_steps 75 = .ok (.iinc 3 1, 3) := dk_132 3 1 (dk_at dksX4_steps_3 3 rfl rfl)
theorem dX4_steps_78 : decode cX4_steps 78 = .ok (.goto (-50), 3) := dk_167 255 206 (dk_at dksX4_steps_3 6 rfl rfl)
theorem dX4_steps_81 : decode cX4_steps 81 = .ok (.iconst 0, 1) := dk_3 (dk_at dksX4_steps_3 9 rfl rfl)
theorem dX4_steps_82 : decode cX4_steps 82 = .ok (.istore_n 3, 1) := dk_62 (dk_at dksX4_steps_3 10 rfl rfl)
theorem dX4_steps_83 : decode cX4_steps 83 = .ok (.iload_n 3, 1) := dk_29 (dk_at dksX4_steps_3 11 rfl rfl)
theorem dX4_steps_84 : decode cX4_steps 84 = .ok (.aload_n 0, 1) := dk_42 (dk_at dksX4_steps_3 12 rfl rfl)
theorem dX4_steps_85 : decode cX4_steps 85 = .ok (.invokevirtual 46, 3) := dk_182 0 46 (dk_at dksX4_steps_3 13 rfl rfl)
theorem dX4_steps_88 : decode cX4_steps 88 = .ok (.if_icmp .ge 108, 3) := dk_162 0 108 (dk_at dksX4_steps_3 16 rfl rfl)
theorem dX4_steps_91 : decode cX4_steps 91 = .ok (.iconst 0, 1) := dk_3 (dk_at dksX4_steps_3 19 rfl rfl)
theorem dX4_steps_92 : decode cX4_steps 92 = .ok (.istore 4, 2) := dk_54 4 (dk_at dksX4_steps_3 20 rfl rfl)
theorem dX4_steps_94 : decode cX4_steps 94 = .ok (.iload 4, 2) := dk_21 4 (dk_at dksX4_steps_3 22 rfl rfl)
theorem dX4_steps_96 : decode cX4_steps 96 = .ok (.iconst 4, 1) := dk_7 (dk_at dksX4_steps_4 0 rfl rfl)
theorem dX4_steps_97 : decode cX4_steps 97 = .ok (.if_icmp .ge 93, 3) := dk_162 0 93 (dk_at dksX4_steps_4 1 rfl rfl)
theorem dX4_steps_100 : decode cX4_steps 100 = .ok (.aload_n 0, 1) := dk_42 (dk_at dksX4_steps_4 4 rfl rfl)
theorem dX4_steps_101 : decode cX4_steps 101 = .ok (.iload_n 3, 1) := dk_29 (dk_at dksX4_steps_4 5 rfl rfl)
theorem dX4_steps_102 : decode cX4_steps 102 = .ok (.iload 4, 2) := dk_21 4 (dk_at dksX4_steps_4 6 rfl rfl)
theorem dX4_steps_104 : decode cX4_steps 104 = .ok (.invokevirtual 62, 3) := dk_182 0 62 (dk_at dksX4_steps_4 8 rfl rfl)
theorem dX4_steps_107 : decode cX4_steps 107 = .ok (.istore 5, 2) := dk_54 5 (dk_at dksX4_steps_4 11 rfl rfl)
theorem dX4_steps_109 : decode cX4_steps 109 = .ok (.iload 5, 2) := dk_21 5 (dk_at dksX4_steps_4 13 rfl rfl)
theorem dX4_steps_111 : decode cX4_steps 111 = .ok (.bipush (-9), 2) := dk_16 247 (dk_at dksX4_steps_4 15 rfl rfl)
theorem dX4_steps_113 : decode cX4_steps 113 = .ok (.if_icmp .eq 22, 3) := dk_159 0 22 (dk_at dksX4_steps_4 17 rfl rfl)
theorem dX4_steps_116 : decode cX4_steps 116 = .ok (.iload_n 1, 1) := dk_27 (dk_at dksX4_steps_4 20 rfl rfl)
theorem dX4_steps_117 : decode cX4_steps 117 = .ok (.ifCond .ne 14, 3) := dk_154 0 14 (dk_at dksX4_steps_4 21 rfl rfl)
theorem dX4_steps_120 : decode cX4_steps 120 = .ok (.aload_n 0, 1) := dk_42 (dk_at dksX4_steps_5 0 rfl rfl)
theorem dX4_steps_121 : decode cX4_steps 121 = .ok (.iload_n 3, 1) := dk_29 (dk_at dksX4_steps_5 1 rfl rfl)
theorem dX4_steps_122 : decode cX4_steps 122 = .ok (.iload 4, 2) := dk_21 4 (dk_at dksX4_steps_5 2 rfl rfl)
theorem dX4_steps_124 : decode cX4_steps 124 = .ok (.invokevirtual 70, 3) := dk_182 0 70 (dk_at dksX4_steps_5 4 rfl rfl)
theorem dX4_steps_127 : decode cX4_steps 127 = .ok (.iconst 4, 1) := dk_7 (dk_at dksX4_steps_5 7 rfl rfl)
theorem dX4_steps_128 : decode cX4_steps 128 = .ok (.if_icmp .eq 7, 3) := dk_159 0 7 (dk_at dksX4_steps_5 8 rfl rfl)
theorem dX4_steps_131 : decode cX4_steps 131 = .ok (.iconst 1, 1) := dk_4 (dk_at dksX4_steps_5 11 rfl rfl)
theorem dX4_steps_132 : decode cX4_steps 132 = .ok (.goto 4, 3) := dk_167 0 4 (dk_at dksX4_steps_5 12 rfl rfl)
theorem dX4_steps_135 : decode cX4_steps 135 = .ok (.iconst 0, 1) := dk_3 (dk_at dksX4_steps_5 15 rfl rfl)
theorem dX4_steps_136 : decode cX4_steps 136 = .ok (.istore 6, 2) := dk_54 6 (dk_at dksX4_steps_5 16 rfl rfl)
theorem dX4_steps_138 : decode cX4_steps 138 = .ok (.iload 6, 2) := dk_21 6 (dk_at dksX4_steps_5 18 rfl rfl)
theorem dX4_steps_140 : decode cX4_steps 140 = .ok (.ifCond .eq 21, 3) := dk_153 0 21 (dk_at dksX4_steps_5 20 rfl rfl)
theorem dX4_steps_143 : decode cX4_steps 143 = .ok (.aload_n 0, 1) := dk_42 (dk_at dksX4_steps_5 23 rfl rfl)
theorem dX4_steps_144 : decode cX4_steps 144 = .ok (.iload_n 3, 1) := dk_29 (dk_at dksX4_steps_6 0 rfl rfl)
theorem dX4_steps_145 : decode cX4_steps 145 = .ok (.iload 4, 2) := dk_21 4 (dk_at dksX4_steps_6 1 rfl rfl)
theorem dX4_steps_147 : decode cX4_steps 147 = .ok (.iconst 1, 1) := dk_4 (dk_at dksX4_steps_6 3 rfl rfl)
theorem dX4_steps_148 : decode cX4_steps 148 = .ok (.invokevirtual 76, 3) := dk_182 0 76 (dk_at dksX4_steps_6 4 rfl rfl)
theorem dX4_steps_151 : decode cX4_steps 151 = .ok (.ifCond .eq 10, 3) := dk_153 0 10 (dk_at dksX4_steps_6 7 rfl rfl)
theorem dX4_steps_154 : decode cX4_steps 154 = .ok (.aload_n 0, 1) := dk_42 (dk_at dksX4_steps_6 10 rfl rfl)
theorem dX4_steps_155 : decode cX4_steps 155 = .ok (.iload_n 3, 1) := dk_29 (dk_at dksX4_steps_6 11 rfl rfl)
theorem dX4_steps_156 : decode cX4_steps 156 = .ok (.iload 5, 2) := dk_21 5 (dk_at dksX4_steps_6 12 rfl rfl)
theorem dX4_steps_158 : decode cX4_steps 158 = .ok (.invokevirtual 126, 3) := dk_182 0 126 (dk_at dksX4_steps_6 14 rfl rfl)
theorem dX4_steps_161 : decode cX4_steps 161 = .ok (.iload 6, 2) := dk_21 6 (dk_at dksX4_steps_6 17 rfl rfl)
theorem dX4_steps_163 : decode cX4_steps 163 = .ok (.ifCond .eq 21, 3) := dk_153 0 21 (dk_at dksX4_steps_6 19 rfl rfl)
theorem dX4_steps_166 : decode cX4_steps 166 = .ok (.aload_n 0, 1) := dk_42 (dk_at dksX4_steps_6 22 rfl rfl)
theorem dX4_steps_167 : decode cX4_steps 167 = .ok (.iload_n 3, 1) := dk_29 (dk_at dksX4_steps_6 23 rfl rfl)
theorem dX4_steps_168 : decode cX4_steps 168 = .ok (.iload 4, 2) := dk_21 4 (dk_at dksX4_steps_7 0 rfl rfl)
theorem dX4_steps_170 : decode cX4_steps 170 = .ok (.iconst 0, 1) := dk_3 (dk_at dksX4_steps_7 2 rfl rfl)
theorem dX4_steps_171 : decode cX4_steps 171 = .ok (.invokevirtual 76, 3) := dk_182 0 76 (dk_at dksX4_steps_7 3 rfl rfl)
theorem dX4_steps_174 : decode cX4_steps 174 = .ok (.ifCond .eq 10, 3) := dk_153 0 10 (dk_at dksX4_steps_7 6 rfl rfl)
theorem dX4_steps_177 : decode cX4_steps 177 = .ok (.aload_n 0, 1) := dk_42 (dk_at dksX4_steps_7 9 rfl rfl)
theorem dX4_steps_178 : decode cX4_steps 178 = .ok (.iload 5, 2) := dk_21 5 (dk_at dksX4_steps_7 10 rfl rfl)
theorem dX4_steps_180 : decode cX4_steps 180 = .ok (.iload_n 3, 1) := dk_29 (dk_at dksX4_steps_7 12 rfl rfl)
theorem dX4_steps_181 : decode cX4_steps 181 = .ok (.invokevirtual 126, 3) := dk_182 0 126 (dk_at dksX4_steps_7 13 rfl rfl)
theorem dX4_steps_184 : decode cX4_steps 184 = .ok (.iinc 4 1, 3) := dk_132 4 1 (dk_at dksX4_steps_7 16 rfl rfl)
theorem dX4_steps_187 : decode cX4_steps 187 = .ok (.goto (-93), 3) := dk_167 255 163 (dk_at dksX4_steps_7 19 rfl rfl)
theorem dX4_steps_190 : decode cX4_steps 190 = .ok (.iinc 3 1, 3) := dk_132 3 1 (dk_at dksX4_steps_8 0 rfl rfl)
theorem dX4_steps_193 : decode cX4_steps 193 = .ok (.goto (-110), 3) := dk_167 255 146 (dk_at dksX4_steps_8 3 rfl rfl)
theorem dX4_steps_196 : decode cX4_steps 196 = .ok (.iconst 0, 1) := dk_3 (dk_at dksX4_steps_8 6 rfl rfl)
theorem dX4_steps_197 : decode cX4_steps 197 = .ok (.istore_n 3, 1) := dk_62 (dk_at dksX4_steps_8 7 rfl rfl)
theorem dX4_steps_198 : decode cX4_steps 198 = .ok (.iload_n 3, 1) := dk_29 (dk_at dksX4_steps_8 8 rfl rfl)
theorem dX4_steps_199 : decode cX4_steps 199 = .ok (.aload_n 0, 1) := dk_42 (dk_at dksX4_steps_8 9 rfl rfl)
theorem dX4_steps_200 : decode cX4_steps 200 = .ok (.invokevirtual 46, 3) := dk_182 0 46 (dk_at dksX4_steps_8 10 rfl rfl)
theorem dX4_steps_203 : decode cX4_steps 203 = .ok (.if_icmp .ge 122, 3) := dk_162 0 122 (dk_at dksX4_steps_8 13 rfl rfl)
theorem dX4_steps_206 : decode cX4_steps 206 = .ok (.iconst 0, 1) := dk_3 (dk_at dksX4_steps_8 16 rfl rfl)
theorem dX4_steps_207 : decode cX4_steps 207 = .ok (.istore 4, 2) := dk_54 4 (dk_at dksX4_steps_8 17 rfl rfl)
theorem dX4_steps_209 : decode cX4_steps 209 = .ok (.iload 4, 2) := dk_21 4 (dk_at dksX4_steps_8 19 rfl rfl)
theorem dX4_steps_211 : decode cX4_steps 211 = .ok (.iconst 3, 1) := dk_6 (dk_at dksX4_steps_8 21 rfl rfl)
theorem dX4_steps_212 : decode cX4_steps 212 = .ok (.if_icmp .ge 49, 3) := dk_162 0 49 (dk_at dksX4_steps_9 0 rfl rfl)
theorem dX4_steps_215 : decode cX4_steps 215 = .ok (.iload_n 2, 1) := dk_28 (dk_at dksX4_steps_9 3 rfl rfl)
theorem dX4_steps_216 : decode cX4_steps 216 = .ok (.aload_n 0, 1) := dk_42 (dk_at dksX4_steps_9 4 rfl rfl)
theorem dX4_steps_217 : decode cX4_steps 217 = .ok (.getfield 32, 3) := dk_180 0 32 (dk_at dksX4_steps_9 5 rfl rfl)
theorem dX4_steps_220 : decode cX4_steps 220 = .ok (.iload_n 3, 1) := dk_29 (dk_at dksX4_steps_9 8 rfl rfl)
theorem dX4_steps_221 : decode cX4_steps 221 = .ok (.iaload, 1) := dk_46 (dk_at dksX4_steps_9 9 rfl rfl)
theorem dX4_steps_222 : decode cX4_steps 222 = .ok (.iload 4, 2) := dk_21 4 (dk_at dksX4_steps_9 10 rfl rfl)
theorem dX4_steps_224 : decode cX4_steps 224 = .ok (.invokestatic 114, 3) := dk_184 0 114 (dk_at dksX4_steps_9 12 rfl rfl)
theorem dX4_steps_227 : decode cX4_steps 227 = .ok (.ifCond .eq 25, 3) := dk_153 0 25 (dk_at dksX4_steps_9 15 rfl rfl)
theorem dX4_steps_230 : decode cX4_steps 230 = .ok (.aload_n 0, 1) := dk_42 (dk_at dksX4_steps_9 18 rfl rfl)
theorem dX4_steps_231 : decode cX4_steps 231 = .ok (.getfield 7, 3) := dk_180 0 7 (dk_at dksX4_steps_9 19 rfl rfl)
theorem dX4_steps_234 : decode cX4_steps 234 = .ok (.sipush 487, 3) := dk_17 1 231 (dk_at dksX4_steps_10 0 rfl rfl)
theorem dX4_steps_237 : decode cX4_steps 237 = .ok (.iload_n 3, 1) := dk_29 (dk_at dksX4_steps_10 3 rfl rfl)
theorem dX4_steps_238 : decode cX4_steps 238 = .ok (.iadd, 1) := dk_96 (dk_at dksX4_steps_10 4 rfl rfl)
theorem dX4_steps_239 : decode cX4_steps 239 = .ok (.iaload, 1) := dk_46 (dk_at dksX4_steps_10 5 rfl rfl)
theorem dX4_steps_240 : decode cX4_steps 240 = .ok (.iload 4, 2) := dk_21 4 (dk_at dksX4_steps_10 6 rfl rfl)
theorem dX4_steps_242 : decode cX4_steps 242 = .ok (.invokestatic 114, 3) := dk_184 0 114 (dk_at dksX4_steps_10 8 rfl rfl)
theorem dX4_steps_245 : decode cX4_steps 245 = .ok (.ifCond .ne 7, 3) := dk_154 0 7 (dk_at dksX4_steps_10 11 rfl rfl)
theorem dX4_steps_248 : decode cX4_steps 248 = .ok (.iconst 1, 1) := dk_4 (dk_at dksX4_steps_10 14 rfl rfl)
theorem dX4_steps_249 : decode cX4_steps 249 = .ok (.goto 4, 3) := dk_167 0 4 (dk_at dksX4_steps_10 15 rfl rfl)
theorem dX4_steps_252 : decode cX4_steps 252 = .ok (.iconst 0, 1) := dk_3 (dk_at dksX4_steps_10 18 rfl rfl)
theorem dX4_steps_253 : decode cX4_steps 253 = .ok (.iadd, 1) := dk_96 (dk_at dksX4_steps_10 19 rfl rfl)
theorem dX4_steps_254 : decode cX4_steps 254 = .ok (.istore_n 2, 1) := dk_61 (dk_at dksX4_steps_10 20 rfl rfl)
theorem dX4_steps_255 : decode cX4_steps 255 = .ok (.iinc 4 1, 3) := dk_132 4 1 (dk_at dksX4_steps_10 21 rfl rfl)
theorem dX4_steps_258 : decode cX4_steps 258 = .ok (.goto (-49), 3) := dk_167 255 207 (dk_at dksX4_steps_11 0 rfl rfl)
theorem dX4_steps_261 : decode cX4_steps 261 = .ok (.aload_n 0, 1) := dk_42 (dk_at dksX4_steps_11 3 rfl rfl)
theorem dX4_steps_262 : decode cX4_steps 262 = .ok (.getfield 7, 3) := dk_180 0 7 (dk_at dksX4_steps_11 4 rfl rfl)
theorem dX4_steps_265 : decode cX4_steps 265 = .ok (.sipush 487, 3) := dk_17 1 231 (dk_at dksX4_steps_11 7 rfl rfl)
theorem dX4_steps_268 : decode cX4_steps 268 = .ok (.iload_n 3, 1) := dk_29 (dk_at dksX4_steps_11 10 rfl rfl)
theorem dX4_steps_269 : decode cX4_steps 269 = .ok (.iadd, 1) := dk_96 (dk_at dksX4_steps_11 11 rfl rfl)
theorem dX4_steps_270 : decode cX4_steps 270 = .ok (.aload_n 0, 1) := dk_42 (dk_at dksX4_steps_11 12 rfl rfl)
theorem dX4_steps_271 : decode cX4_steps 271 = .ok (.getfield 32, 3) := dk_180 0 32 (dk_at dksX4_steps_11 13 rfl rfl)
theorem dX4_steps_274 : decode cX4_steps 274 = .ok (.iload_n 3, 1) := dk_29 (dk_at dksX4_steps_11 16 rfl rfl)
theorem dX4_steps_275 : decode cX4_steps 275 = .ok (.iaload, 1) := dk_46 (dk_at dksX4_steps_11 17 rfl rfl)
theorem dX4_steps_276 : decode cX4_steps 276 = .ok (.iastore, 1) := dk_79 (dk_at dksX4_steps_11 18 rfl rfl)
theorem dX4_steps_277 : decode cX4_steps 277 = .ok (.aload_n 0, 1) := dk_42 (dk_at dksX4_steps_11 19 rfl rfl)
theorem dX4_steps_278 : decode cX4_steps 278 = .ok (.getfield 7, 3) := dk_180 0 7 (dk_at dksX4_steps_11 20 rfl rfl)
theorem dX4_steps_281 : decode cX4_steps 281 = .ok (.sipush 567, 3) := dk_17 2 55 (dk_at dksX4_steps_12 0 rfl rfl)
theorem dX4_steps_284 : decode cX4_steps 284 = .ok (.iload_n 3, 1) := dk_29 (dk_at dksX4_steps_12 3 rfl rfl)
theorem dX4_steps_285 : decode cX4_steps 285 = .ok (.iadd, 1) := dk_96 (dk_at dksX4_steps_12 4 rfl rfl)
theorem dX4_steps_286 : decode cX4_steps 286 = .ok (.aload_n 0, 1) := dk_42 (dk_at dksX4_steps_12 5 rfl rfl)
theorem dX4_steps_287 : decode cX4_steps 287 = .ok (.getfield 7, 3) := dk_180 0 7 (dk_at dksX4_steps_12 6 rfl rfl)
theorem dX4_steps_290 : decode cX4_steps 290 = .ok (.sipush 567, 3) := dk_17 2 55 (dk_at dksX4_steps_12 9 rfl rfl)
theorem dX4_steps_293 : decode cX4_steps 293 = .ok (.iload_n 3, 1) := dk_29 (dk_at dksX4_steps_12 12 rfl rfl)
theorem dX4_steps_294 : decode cX4_steps 294 = .ok (.iadd, 1) := dk_96 (dk_at dksX4_steps_12 13 rfl rfl)
theorem dX4_steps_295 : decode cX4_steps 295 = .ok (.iaload, 1) := dk_46 (dk_at dksX4_steps_12 14 rfl rfl)
theorem dX4_steps_296 : decode cX4_steps 296 = .ok (.iconst 1, 1) := dk_4 (dk_at dksX4_steps_12 15 rfl rfl)
theorem dX4_steps_297 : decode cX4_steps 297 = .ok (.if_icmp .eq 16, 3) := dk_159 0 16 (dk_at dksX4_steps_12 16 rfl rfl)
theorem dX4_steps_300 : decode cX4_steps 300 = .ok (.aload_n 0, 1) := dk_42 (dk_at dksX4_steps_12 19 rfl rfl)
theorem dX4_steps_301 : decode cX4_steps 301 = .ok (.aload_n 0, 1) := dk_42 (dk_at dksX4_steps_12 20 rfl rfl)
theorem dX4_steps_302 : decode cX4_steps 302 = .ok (.getfield 32, 3) := dk_180 0 32 (dk_at dksX4_steps_12 21 rfl rfl)
theorem dX4_steps_305 : decode cX4_steps 305 = .ok (.iload_n 3, 1) := dk_29 (dk_at dksX4_steps_13 0 rfl rfl)
theorem dX4_steps_306 : decode cX4_steps 306 = .ok (.iaload, 1) := dk_46 (dk_at dksX4_steps_13 1 rfl rfl)
theorem dX4_steps_307 : decode cX4_steps 307 = .ok (.invokevirtual 129, 3) := dk_182 0 129 (dk_at dksX4_steps_13 2 rfl rfl)
theorem dX4_steps_310 : decode cX4_steps 310 = .ok (.ifCond .eq 7, 3) := dk_153 0 7 (dk_at dksX4_steps_13 5 rfl rfl)
theorem dX4_steps_313 : decode cX4_steps 313 = .ok (.iconst 1, 1) := dk_4 (dk_at dksX4_steps_13 8 rfl rfl)
theorem dX4_steps_314 : decode cX4_steps 314 = .ok (.goto 4, 3) := dk_167 0 4 (dk_at dksX4_steps_13 9 rfl rfl)
theorem dX4_steps_317 : decode cX4_steps 317 = .ok (.iconst 0, 1) := dk_3 (dk_at dksX4_steps_13 12 rfl rfl)
theorem dX4_steps_318 : decode cX4_steps 318 = .ok (.iastore, 1) := dk_79 (dk_at dksX4_steps_13 13 rfl rfl)
theorem dX4_steps_319 : decode cX4_steps 319 = .ok (.iinc 3 1, 3) := dk_132 3 1 (dk_at dksX4_steps_13 14 rfl rfl)
theorem dX4_steps_322 : decode cX4_steps 322 = .ok (.goto (-124), 3) := dk_167 255 132 (dk_at dksX4_steps_13 17 rfl rfl)
theorem dX4_steps_325 : decode cX4_steps 325 = .ok (.aload_n 0, 1) := dk_42 (dk_at dksX4_steps_13 20 rfl rfl)
theorem dX4_steps_326 : decode cX4_steps 326 = .ok (.getfield 7, 3) := dk_180 0 7 (dk_at dksX4_steps_13 21 rfl rfl)
theorem dX4_steps_329 : decode cX4_steps 329 = .ok (.iconst 5, 1) := dk_8 (dk_at dksX4_steps_14 0 rfl rfl)
theorem dX4_steps_330 : decode cX4_steps 330 = .ok (.dup2, 1) := dk_92 (dk_at dksX4_steps_14 1 rfl rfl)
theorem dX4_steps_331 : decode cX4_steps 331 = .ok (.iaload, 1) := dk_46 (dk_at dksX4_steps_14 2 rfl rfl)
theorem dX4_steps_332 : decode cX4_steps 332 = .ok (.iconst 1, 1) := dk_4 (dk_at dksX4_steps_14 3 rfl rfl)
theorem dX4_steps_333 : decode cX4_steps 333 = .ok (.iadd, 1) := dk_96 (dk_at dksX4_steps_14 4 rfl rfl)
theorem dX4_steps_334 : decode cX4_steps 334 = .ok (.iastore, 1) := dk_79 (dk_at dksX4_steps_14 5 rfl rfl)
theorem dX4_steps_335 : decode cX4_steps 335 = .ok (.iload_n 2, 1) := dk_28 (dk_at dksX4_steps_14 6 rfl rfl)
theorem dX4_steps_336 : decode cX4_steps 336 = .ok (.ireturn, 1) := dk_172 (dk_at dksX4_steps_14 7 rfl rfl)
abbrev cX4_isFlowing : ByteArray := prog_20_method_40_code
def yX4_isFlowing : MethodName := ⟨RX4, "isFlowing", "(I)Z"⟩
def dkwX4_isFlowing_1 : List UInt8 := [154, 0, 7, 4, 167, 0, 4, 3, 172]
abbrev dktX4_isFlowing_1 : List UInt8 := dkwX4_isFlowing_1 ++ []
def dkwX4_isFlowing_0 : List UInt8 := [42, 27, 42, 180, 0, 7, 6, 46, 182, 0, 66, 153, 0, 20, 42, 180, 0, 7, 17, 2, 55, 27, 96, 46]
abbrev dktX4_isFlowing_0 : List UInt8 := dkwX4_isFlowing_0 ++ dktX4_isFlowing_1
theorem dksX4_isFlowing_0 : cX4_isFlowing.data.toList.drop 0 = dktX4_isFlowing_0 := by decide +kernel
theorem dksX4_isFlowing_1 : cX4_isFlowing.data.toList.drop 24 = dktX4_isFlowing_1 := dk_seg dksX4_isFlowing_0 24 rfl rfl
theorem dX4_isFlowing_0 : decode cX4_isFlowing 0 = .ok (.aload_n 0, 1) := dk_42 (dk_at dksX4_isFlowing_0 0 rfl rfl)
theorem dX4_isFlowing_1 : decode cX4_isFlowing 1 = .ok (.iload_n 1, 1) := dk_27 (dk_at dksX4_isFlowing_0 1 rfl rfl)
theorem dX4_isFlowing_2 : decode cX4_isFlowing 2 = .ok (.aload_n 0, 1) := dk_42 (dk_at dksX4_isFlowing_0 2 rfl rfl)
theorem dX4_isFlowing_3 : decode cX4_isFlowing 3 = .ok (.getfield 7, 3) := dk_180 0 7 (dk_at dksX4_isFlowing_0 3 rfl rfl)
theorem dX4_isFlowing_6 : decode cX4_isFlowing 6 = .ok (.iconst 3, 1) := dk_6 (dk_at dksX4_isFlowing_0 6 rfl rfl)
theorem dX4_isFlowing_7 : decode cX4_isFlowing 7 = .ok (.iaload, 1) := dk_46 (dk_at dksX4_isFlowing_0 7 rfl rfl)
theorem dX4_isFlowing_8 : decode cX4_isFlowing 8 = .ok (.invokevirtual 66, 3) := dk_182 0 66 (dk_at dksX4_isFlowing_0 8 rfl rfl)
theorem dX4_isFlowing_11 : decode cX4_isFlowing 11 = .ok (.ifCond .eq 20, 3) := dk_153 0 20 (dk_at dksX4_isFlowing_0 11 rfl rfl)
theorem dX4_isFlowing_14 : decode cX4_isFlowing 14 = .ok (.aload_n 0, 1) := dk_42 (dk_at dksX4_isFlowing_0 14 rfl rfl)
theorem dX4_isFlowing_15 : decode cX4_isFlowing 15 = .ok (.getfield 7, 3) := dk_180 0 7 (dk_at dksX4_isFlowing_0 15 rfl rfl)
theorem dX4_isFlowing_18 : decode cX4_isFlowing 18 = .ok (.sipush 567, 3) := dk_17 2 55 (dk_at dksX4_isFlowing_0 18 rfl rfl)
theorem dX4_isFlowing_21 : decode cX4_isFlowing 21 = .ok (.iload_n 1, 1) := dk_27 (dk_at dksX4_isFlowing_0 21 rfl rfl)
theorem dX4_isFlowing_22 : decode cX4_isFlowing 22 = .ok (.iadd, 1) := dk_96 (dk_at dksX4_isFlowing_0 22 rfl rfl)
theorem dX4_isFlowing_23 : decode cX4_isFlowing 23 = .ok (.iaload, 1) := dk_46 (dk_at dksX4_isFlowing_0 23 rfl rfl)
theorem dX4_isFlowing_24 : decode cX4_isFlowing 24 = .ok (.ifCond .ne 7, 3) := dk_154 0 7 (dk_at dksX4_isFlowing_1 0 rfl rfl)
theorem dX4_isFlowing_27 : decode cX4_isFlowing 27 = .ok (.iconst 1, 1) := dk_4 (dk_at dksX4_isFlowing_1 3 rfl rfl)
theorem dX4_isFlowing_28 : decode cX4_isFlowing 28 = .ok (.goto 4, 3) := dk_167 0 4 (dk_at dksX4_isFlowing_1 4 rfl rfl)
theorem dX4_isFlowing_31 : decode cX4_isFlowing 31 = .ok (.iconst 0, 1) := dk_3 (dk_at dksX4_isFlowing_1 7 rfl rfl)
theorem dX4_isFlowing_32 : decode cX4_isFlowing 32 = .ok (.ireturn, 1) := dk_172 (dk_at dksX4_isFlowing_1 8 rfl rfl)
abbrev cX4_lets : ByteArray := prog_20_method_18_code
def yX4_lets : MethodName := ⟨RX4, "lets", "(IIZ)Z"⟩
def dkwX4_lets_1 : List UInt8 := [5, 159, 0, 7, 4, 167, 0, 4, 3, 172]
abbrev dktX4_lets_1 : List UInt8 := dkwX4_lets_1 ++ []
def dkwX4_lets_0 : List UInt8 := [42, 27, 28, 182, 0, 70, 54, 4, 21, 4, 4, 159, 0, 21, 21, 4, 29, 153, 0, 7, 6, 167, 0, 4]
abbrev dktX4_lets_0 : List UInt8 := dkwX4_lets_0 ++ dktX4_lets_1
theorem dksX4_lets_0 : cX4_lets.data.toList.drop 0 = dktX4_lets_0 := by decide +kernel
theorem dksX4_lets_1 : cX4_lets.data.toList.drop 24 = dktX4_lets_1 := dk_seg dksX4_lets_0 24 rfl rfl
theorem dX4_lets_0 : decode cX4_lets 0 = .ok (.aload_n 0, 1) := dk_42 (dk_at dksX4_lets_0 0 rfl rfl)
theorem dX4_lets_1 : decode cX4_lets 1 = .ok (.iload_n 1, 1) := dk_27 (dk_at dksX4_lets_0 1 rfl rfl)
theorem dX4_lets_2 : decode cX4_lets 2 = .ok (.iload_n 2, 1) := dk_28 (dk_at dksX4_lets_0 2 rfl rfl)
theorem dX4_lets_3 : decode cX4_lets 3 = .ok (.invokevirtual 70, 3) := dk_182 0 70 (dk_at dksX4_lets_0 3 rfl rfl)
theorem dX4_lets_6 : decode cX4_lets 6 = .ok (.istore 4, 2) := dk_54 4 (dk_at dksX4_lets_0 6 rfl rfl)
theorem dX4_lets_8 : decode cX4_lets 8 = .ok (.iload 4, 2) := dk_21 4 (dk_at dksX4_lets_0 8 rfl rfl)
theorem dX4_lets_10 : decode cX4_lets 10 = .ok (.iconst 1, 1) := dk_4 (dk_at dksX4_lets_0 10 rfl rfl)
theorem dX4_lets_11 : decode cX4_lets 11 = .ok (.if_icmp .eq 21, 3) := dk_159 0 21 (dk_at dksX4_lets_0 11 rfl rfl)
theorem dX4_lets_14 : decode cX4_lets 14 = .ok (.iload 4, 2) := dk_21 4 (dk_at dksX4_lets_0 14 rfl rfl)
theorem dX4_lets_16 : decode cX4_lets 16 = .ok (.iload_n 3, 1) := dk_29 (dk_at dksX4_lets_0 16 rfl rfl)
theorem dX4_lets_17 : decode cX4_lets 17 = .ok (.ifCond .eq 7, 3) := dk_153 0 7 (dk_at dksX4_lets_0 17 rfl rfl)
theorem dX4_lets_20 : decode cX4_lets 20 = .ok (.iconst 3, 1) := dk_6 (dk_at dksX4_lets_0 20 rfl rfl)
theorem dX4_lets_21 : decode cX4_lets 21 = .ok (.goto 4, 3) := dk_167 0 4 (dk_at dksX4_lets_0 21 rfl rfl)
theorem dX4_lets_24 : decode cX4_lets 24 = .ok (.iconst 2, 1) := dk_5 (dk_at dksX4_lets_1 0 rfl rfl)
theorem dX4_lets_25 : decode cX4_lets 25 = .ok (.if_icmp .eq 7, 3) := dk_159 0 7 (dk_at dksX4_lets_1 1 rfl rfl)
theorem dX4_lets_28 : decode cX4_lets 28 = .ok (.iconst 1, 1) := dk_4 (dk_at dksX4_lets_1 4 rfl rfl)
theorem dX4_lets_29 : decode cX4_lets 29 = .ok (.goto 4, 3) := dk_167 0 4 (dk_at dksX4_lets_1 5 rfl rfl)
theorem dX4_lets_32 : decode cX4_lets 32 = .ok (.iconst 0, 1) := dk_3 (dk_at dksX4_lets_1 8 rfl rfl)
theorem dX4_lets_33 : decode cX4_lets 33 = .ok (.ireturn, 1) := dk_172 (dk_at dksX4_lets_1 9 rfl rfl)
abbrev cX4_flows : ByteArray := prog_20_method_41_code
def yX4_flows : MethodName := ⟨RX4, "flows", "(II)V"⟩
def dkwX4_flows_1 : List UInt8 := [180, 0, 7, 17, 1, 231, 27, 96, 46, 128, 79, 177]
abbrev dktX4_flows_1 : List UInt8 := dkwX4_flows_1 ++ []
def dkwX4_flows_0 : List UInt8 := [42, 27, 182, 0, 123, 153, 0, 30, 42, 28, 182, 0, 123, 153, 0, 22, 42, 180, 0, 32, 28, 92, 46, 42]
abbrev dktX4_flows_0 : List UInt8 := dkwX4_flows_0 ++ dktX4_flows_1
theorem dksX4_flows_0 : cX4_flows.data.toList.drop 0 = dktX4_flows_0 := by decide +kernel
theorem dksX4_flows_1 : cX4_flows.data.toList.drop 24 = dktX4_flows_1 := dk_seg dksX4_flows_0 24 rfl rfl
theorem dX4_flows_0 : decode cX4_flows 0 = .ok (.aload_n 0, 1) := dk_42 (dk_at dksX4_flows_0 0 rfl rfl)
theorem dX4_flows_1 : decode cX4_flows 1 = .ok (.iload_n 1, 1) := dk_27 (dk_at dksX4_flows_0 1 rfl rfl)
theorem dX4_flows_2 : decode cX4_flows 2 = .ok (.invokevirtual 123, 3) := dk_182 0 123 (dk_at dksX4_flows_0 2 rfl rfl)
theorem dX4_flows_5 : decode cX4_flows 5 = .ok (.ifCond .eq 30, 3) := dk_153 0 30 (dk_at dksX4_flows_0 5 rfl rfl)
theorem dX4_flows_8 : decode cX4_flows 8 = .ok (.aload_n 0, 1) := dk_42 (dk_at dksX4_flows_0 8 rfl rfl)
theorem dX4_flows_9 : decode cX4_flows 9 = .ok (.iload_n 2, 1) := dk_28 (dk_at dksX4_flows_0 9 rfl rfl)
theorem dX4_flows_10 : decode cX4_flows 10 = .ok (.invokevirtual 123, 3) := dk_182 0 123 (dk_at dksX4_flows_0 10 rfl rfl)
theorem dX4_flows_13 : decode cX4_flows 13 = .ok (.ifCond .eq 22, 3) := dk_153 0 22 (dk_at dksX4_flows_0 13 rfl rfl)
theorem dX4_flows_16 : decode cX4_flows 16 = .ok (.aload_n 0, 1) := dk_42 (dk_at dksX4_flows_0 16 rfl rfl)
theorem dX4_flows_17 : decode cX4_flows 17 = .ok (.getfield 32, 3) := dk_180 0 32 (dk_at dksX4_flows_0 17 rfl rfl)
theorem dX4_flows_20 : decode cX4_flows 20 = .ok (.iload_n 2, 1) := dk_28 (dk_at dksX4_flows_0 20 rfl rfl)
theorem dX4_flows_21 : decode cX4_flows 21 = .ok (.dup2, 1) := dk_92 (dk_at dksX4_flows_0 21 rfl rfl)
theorem dX4_flows_22 : decode cX4_flows 22 = .ok (.iaload, 1) := dk_46 (dk_at dksX4_flows_0 22 rfl rfl)
theorem dX4_flows_23 : decode cX4_flows 23 = .ok (.aload_n 0, 1) := dk_42 (dk_at dksX4_flows_0 23 rfl rfl)
theorem dX4_flows_24 : decode cX4_flows 24 = .ok (.getfield 7, 3) := dk_180 0 7 (dk_at dksX4_flows_1 0 rfl rfl)
theorem dX4_flows_27 : decode cX4_flows 27 = .ok (.sipush 487, 3) := dk_17 1 231 (dk_at dksX4_flows_1 3 rfl rfl)
theorem dX4_flows_30 : decode cX4_flows 30 = .ok (.iload_n 1, 1) := dk_27 (dk_at dksX4_flows_1 6 rfl rfl)
theorem dX4_flows_31 : decode cX4_flows 31 = .ok (.iadd, 1) := dk_96 (dk_at dksX4_flows_1 7 rfl rfl)
theorem dX4_flows_32 : decode cX4_flows 32 = .ok (.iaload, 1) := dk_46 (dk_at dksX4_flows_1 8 rfl rfl)
theorem dX4_flows_33 : decode cX4_flows 33 = .ok (.ior, 1) := dk_128 (dk_at dksX4_flows_1 9 rfl rfl)
theorem dX4_flows_34 : decode cX4_flows 34 = .ok (.iastore, 1) := dk_79 (dk_at dksX4_flows_1 10 rfl rfl)
theorem dX4_flows_35 : decode cX4_flows 35 = .ok (.return_, 1) := dk_177 (dk_at dksX4_flows_1 11 rfl rfl)
abbrev cX4_reacts : ByteArray := prog_20_method_42_code
def yX4_reacts : MethodName := ⟨RX4, "reacts", "(I)Z"⟩
def dkwX4_reacts_4 : List UInt8 := [153, 0, 21, 42, 180, 0, 7, 16, 6, 46, 5, 184, 0, 114, 153, 0, 7, 4, 167, 0, 4, 3, 172]
abbrev dktX4_reacts_4 : List UInt8 := dkwX4_reacts_4 ++ []
def dkwX4_reacts_3 : List UInt8 := [167, 0, 4, 3, 61, 28, 154, 0, 33, 27, 4, 184, 0, 114, 153, 0, 29, 27, 5, 184, 0, 114]
abbrev dktX4_reacts_3 : List UInt8 := dkwX4_reacts_3 ++ dktX4_reacts_4
def dkwX4_reacts_2 : List UInt8 := [27, 5, 184, 0, 114, 153, 0, 21, 42, 180, 0, 7, 16, 6, 46, 4, 184, 0, 114, 153, 0, 7, 4]
abbrev dktX4_reacts_2 : List UInt8 := dkwX4_reacts_2 ++ dktX4_reacts_3
def dkwX4_reacts_1 : List UInt8 := [184, 0, 114, 153, 0, 7, 4, 167, 0, 4, 3, 61, 28, 154, 0, 33, 27, 3, 184, 0, 114, 153, 0, 29]
abbrev dktX4_reacts_1 : List UInt8 := dkwX4_reacts_1 ++ dktX4_reacts_2
def dkwX4_reacts_0 : List UInt8 := [27, 3, 184, 0, 114, 153, 0, 29, 27, 4, 184, 0, 114, 153, 0, 21, 42, 180, 0, 7, 16, 6, 46, 3]
abbrev dktX4_reacts_0 : List UInt8 := dkwX4_reacts_0 ++ dktX4_reacts_1
theorem dksX4_reacts_0 : cX4_reacts.data.toList.drop 0 = dktX4_reacts_0 := by decide +kernel
theorem dksX4_reacts_1 : cX4_reacts.data.toList.drop 24 = dktX4_reacts_1 := dk_seg dksX4_reacts_0 24 rfl rfl
theorem dksX4_reacts_2 : cX4_reacts.data.toList.drop 48 = dktX4_reacts_2 := dk_seg dksX4_reacts_1 24 rfl rfl
theorem dksX4_reacts_3 : cX4_reacts.data.toList.drop 71 = dktX4_reacts_3 := dk_seg dksX4_reacts_2 23 rfl rfl
theorem dksX4_reacts_4 : cX4_reacts.data.toList.drop 93 = dktX4_reacts_4 := dk_seg dksX4_reacts_3 22 rfl rfl
theorem dX4_reacts_0 : decode cX4_reacts 0 = .ok (.iload_n 1, 1) := dk_27 (dk_at dksX4_reacts_0 0 rfl rfl)
theorem dX4_reacts_1 : decode cX4_reacts 1 = .ok (.iconst 0, 1) := dk_3 (dk_at dksX4_reacts_0 1 rfl rfl)
theorem dX4_reacts_2 : decode cX4_reacts 2 = .ok (.invokestatic 114, 3) := dk_184 0 114 (dk_at dksX4_reacts_0 2 rfl rfl)
theorem dX4_reacts_5 : decode cX4_reacts 5 = .ok (.ifCond .eq 29, 3) := dk_153 0 29 (dk_at dksX4_reacts_0 5 rfl rfl)
theorem dX4_reacts_8 : decode cX4_reacts 8 = .ok (.iload_n 1, 1) := dk_27 (dk_at dksX4_reacts_0 8 rfl rfl)
theorem dX4_reacts_9 : decode cX4_reacts 9 = .ok (.iconst 1, 1) := dk_4 (dk_at dksX4_reacts_0 9 rfl rfl)
theorem dX4_reacts_10 : decode cX4_reacts 10 = .ok (.invokestatic 114, 3) := dk_184 0 114 (dk_at dksX4_reacts_0 10 rfl rfl)
theorem dX4_reacts_13 : decode cX4_reacts 13 = .ok (.ifCond .eq 21, 3) := dk_153 0 21 (dk_at dksX4_reacts_0 13 rfl rfl)
theorem dX4_reacts_16 : decode cX4_reacts 16 = .ok (.aload_n 0, 1) := dk_42 (dk_at dksX4_reacts_0 16 rfl rfl)
theorem dX4_reacts_17 : decode cX4_reacts 17 = .ok (.getfield 7, 3) := dk_180 0 7 (dk_at dksX4_reacts_0 17 rfl rfl)
theorem dX4_reacts_20 : decode cX4_reacts 20 = .ok (.bipush 6, 2) := dk_16 6 (dk_at dksX4_reacts_0 20 rfl rfl)
theorem dX4_reacts_22 : decode cX4_reacts 22 = .ok (.iaload, 1) := dk_46 (dk_at dksX4_reacts_0 22 rfl rfl)
theorem dX4_reacts_23 : decode cX4_reacts 23 = .ok (.iconst 0, 1) := dk_3 (dk_at dksX4_reacts_0 23 rfl rfl)
theorem dX4_reacts_24 : decode cX4_reacts 24 = .ok (.invokestatic 114, 3) := dk_184 0 114 (dk_at dksX4_reacts_1 0 rfl rfl)
theorem dX4_reacts_27 : decode cX4_reacts 27 = .ok (.ifCond .eq 7, 3) := dk_153 0 7 (dk_at dksX4_reacts_1 3 rfl rfl)
theorem dX4_reacts_30 : decode cX4_reacts 30 = .ok (.iconst 1, 1) := dk_4 (dk_at dksX4_reacts_1 6 rfl rfl)
theorem dX4_reacts_31 : decode cX4_reacts 31 = .ok (.goto 4, 3) := dk_167 0 4 (dk_at dksX4_reacts_1 7 rfl rfl)
theorem dX4_reacts_34 : decode cX4_reacts 34 = .ok (.iconst 0, 1) := dk_3 (dk_at dksX4_reacts_1 10 rfl rfl)
theorem dX4_reacts_35 : decode cX4_reacts 35 = .ok (.istore_n 2, 1) := dk_61 (dk_at dksX4_reacts_1 11 rfl rfl)
theorem dX4_reacts_36 : decode cX4_reacts 36 = .ok (.iload_n 2, 1) := dk_28 (dk_at dksX4_reacts_1 12 rfl rfl)
theorem dX4_reacts_37 : decode cX4_reacts 37 = .ok (.ifCond .ne 33, 3) := dk_154 0 33 (dk_at dksX4_reacts_1 13 rfl rfl)
theorem dX4_reacts_40 : decode cX4_reacts 40 = .ok (.iload_n 1, 1) := dk_27 (dk_at dksX4_reacts_1 16 rfl rfl)
theorem dX4_reacts_41 : decode cX4_reacts 41 = .ok (.iconst 0, 1) := dk_3 (dk_at dksX4_reacts_1 17 rfl rfl)
theorem dX4_reacts_42 : decode cX4_reacts 42 = .ok (.invokestatic 114, 3) := dk_184 0 114 (dk_at dksX4_reacts_1 18 rfl rfl)
theorem dX4_reacts_45 : decode cX4_reacts 45 = .ok (.ifCond .eq 29, 3) := dk_153 0 29 (dk_at dksX4_reacts_1 21 rfl rfl)
theorem dX4_reacts_48 : decode cX4_reacts 48 = .ok (.iload_n 1, 1) := dk_27 (dk_at dksX4_reacts_2 0 rfl rfl)
theorem dX4_reacts_49 : decode cX4_reacts 49 = .ok (.iconst 2, 1) := dk_5 (dk_at dksX4_reacts_2 1 rfl rfl)
theorem dX4_reacts_50 : decode cX4_reacts 50 = .ok (.invokestatic 114, 3) := dk_184 0 114 (dk_at dksX4_reacts_2 2 rfl rfl)
theorem dX4_reacts_53 : decode cX4_reacts 53 = .ok (.ifCond .eq 21, 3) := dk_153 0 21 (dk_at dksX4_reacts_2 5 rfl rfl)
theorem dX4_reacts_56 : decode cX4_reacts 56 = .ok (.aload_n 0, 1) := dk_42 (dk_at dksX4_reacts_2 8 rfl rfl)
theorem dX4_reacts_57 : decode cX4_reacts 57 = .ok (.getfield 7, 3) := dk_180 0 7 (dk_at dksX4_reacts_2 9 rfl rfl)
theorem dX4_reacts_60 : decode cX4_reacts 60 = .ok (.bipush 6, 2) := dk_16 6 (dk_at dksX4_reacts_2 12 rfl rfl)
theorem dX4_reacts_62 : decode cX4_reacts 62 = .ok (.iaload, 1) := dk_46 (dk_at dksX4_reacts_2 14 rfl rfl)
theorem dX4_reacts_63 : decode cX4_reacts 63 = .ok (.iconst 1, 1) := dk_4 (dk_at dksX4_reacts_2 15 rfl rfl)
theorem dX4_reacts_64 : decode cX4_reacts 64 = .ok (.invokestatic 114, 3) := dk_184 0 114 (dk_at dksX4_reacts_2 16 rfl rfl)
theorem dX4_reacts_67 : decode cX4_reacts 67 = .ok (.ifCond .eq 7, 3) := dk_153 0 7 (dk_at dksX4_reacts_2 19 rfl rfl)
theorem dX4_reacts_70 : decode cX4_reacts 70 = .ok (.iconst 1, 1) := dk_4 (dk_at dksX4_reacts_2 22 rfl rfl)
theorem dX4_reacts_71 : decode cX4_reacts 71 = .ok (.goto 4, 3) := dk_167 0 4 (dk_at dksX4_reacts_3 0 rfl rfl)
theorem dX4_reacts_74 : decode cX4_reacts 74 = .ok (.iconst 0, 1) := dk_3 (dk_at dksX4_reacts_3 3 rfl rfl)
theorem dX4_reacts_75 : decode cX4_reacts 75 = .ok (.istore_n 2, 1) := dk_61 (dk_at dksX4_reacts_3 4 rfl rfl)
theorem dX4_reacts_76 : decode cX4_reacts 76 = .ok (.iload_n 2, 1) := dk_28 (dk_at dksX4_reacts_3 5 rfl rfl)
theorem dX4_reacts_77 : decode cX4_reacts 77 = .ok (.ifCond .ne 33, 3) := dk_154 0 33 (dk_at dksX4_reacts_3 6 rfl rfl)
theorem dX4_reacts_80 : decode cX4_reacts 80 = .ok (.iload_n 1, 1) := dk_27 (dk_at dksX4_reacts_3 9 rfl rfl)
theorem dX4_reacts_81 : decode cX4_reacts 81 = .ok (.iconst 1, 1) := dk_4 (dk_at dksX4_reacts_3 10 rfl rfl)
theorem dX4_reacts_82 : decode cX4_reacts 82 = .ok (.invokestatic 114, 3) := dk_184 0 114 (dk_at dksX4_reacts_3 11 rfl rfl)
theorem dX4_reacts_85 : decode cX4_reacts 85 = .ok (.ifCond .eq 29, 3) := dk_153 0 29 (dk_at dksX4_reacts_3 14 rfl rfl)
theorem dX4_reacts_88 : decode cX4_reacts 88 = .ok (.iload_n 1, 1) := dk_27 (dk_at dksX4_reacts_3 17 rfl rfl)
theorem dX4_reacts_89 : decode cX4_reacts 89 = .ok (.iconst 2, 1) := dk_5 (dk_at dksX4_reacts_3 18 rfl rfl)
theorem dX4_reacts_90 : decode cX4_reacts 90 = .ok (.invokestatic 114, 3) := dk_184 0 114 (dk_at dksX4_reacts_3 19 rfl rfl)
theorem dX4_reacts_93 : decode cX4_reacts 93 = .ok (.ifCond .eq 21, 3) := dk_153 0 21 (dk_at dksX4_reacts_4 0 rfl rfl)
theorem dX4_reacts_96 : decode cX4_reacts 96 = .ok (.aload_n 0, 1) := dk_42 (dk_at dksX4_reacts_4 3 rfl rfl)
theorem dX4_reacts_97 : decode cX4_reacts 97 = .ok (.getfield 7, 3) := dk_180 0 7 (dk_at dksX4_reacts_4 4 rfl rfl)
theorem dX4_reacts_100 : decode cX4_reacts 100 = .ok (.bipush 6, 2) := dk_16 6 (dk_at dksX4_reacts_4 7 rfl rfl)
theorem dX4_reacts_102 : decode cX4_reacts 102 = .ok (.iaload, 1) := dk_46 (dk_at dksX4_reacts_4 9 rfl rfl)
theorem dX4_reacts_103 : decode cX4_reacts 103 = .ok (.iconst 2, 1) := dk_5 (dk_at dksX4_reacts_4 10 rfl rfl)
theorem dX4_reacts_104 : decode cX4_reacts 104 = .ok (.invokestatic 114, 3) := dk_184 0 114 (dk_at dksX4_reacts_4 11 rfl rfl)
theorem dX4_reacts_107 : decode cX4_reacts 107 = .ok (.ifCond .eq 7, 3) := dk_153 0 7 (dk_at dksX4_reacts_4 14 rfl rfl)
theorem dX4_reacts_110 : decode cX4_reacts 110 = .ok (.iconst 1, 1) := dk_4 (dk_at dksX4_reacts_4 17 rfl rfl)
theorem dX4_reacts_111 : decode cX4_reacts 111 = .ok (.goto 4, 3) := dk_167 0 4 (dk_at dksX4_reacts_4 18 rfl rfl)
theorem dX4_reacts_114 : decode cX4_reacts 114 = .ok (.iconst 0, 1) := dk_3 (dk_at dksX4_reacts_4 21 rfl rfl)
theorem dX4_reacts_115 : decode cX4_reacts 115 = .ok (.ireturn, 1) := dk_172 (dk_at dksX4_reacts_4 22 rfl rfl)
abbrev cX4_rinse : ByteArray := prog_20_method_45_code
def yX4_rinse : MethodName := ⟨RX4, "rinse", "()I"⟩
def dkwX4_rinse_3 : List UInt8 := [27, 172]
abbrev dktX4_rinse_3 : List UInt8 := dkwX4_rinse_3 ++ []
def dkwX4_rinse_2 : List UInt8 := [42, 180, 0, 7, 17, 2, 55, 28, 96, 3, 79, 132, 2, 1, 167, 255, 202, 42, 180, 0, 7, 8, 3, 79]
abbrev dktX4_rinse_2 : List UInt8 := dkwX4_rinse_2 ++ dktX4_rinse_3
def dkwX4_rinse_1 : List UInt8 := [28, 96, 46, 154, 0, 7, 3, 167, 0, 4, 4, 96, 60, 42, 180, 0, 7, 17, 1, 231, 28, 96, 3, 79]
abbrev dktX4_rinse_1 : List UInt8 := dkwX4_rinse_1 ++ dktX4_rinse_2
def dkwX4_rinse_0 : List UInt8 := [42, 182, 0, 97, 3, 60, 3, 61, 28, 42, 182, 0, 46, 162, 0, 52, 27, 42, 180, 0, 7, 17, 1, 231]
abbrev dktX4_rinse_0 : List UInt8 := dkwX4_rinse_0 ++ dktX4_rinse_1
theorem dksX4_rinse_0 : cX4_rinse.data.toList.drop 0 = dktX4_rinse_0 := by decide +kernel
theorem dksX4_rinse_1 : cX4_rinse.data.toList.drop 24 = dktX4_rinse_1 := dk_seg dksX4_rinse_0 24 rfl rfl
theorem dksX4_rinse_2 : cX4_rinse.data.toList.drop 48 = dktX4_rinse_2 := dk_seg dksX4_rinse_1 24 rfl rfl
theorem dksX4_rinse_3 : cX4_rinse.data.toList.drop 72 = dktX4_rinse_3 := dk_seg dksX4_rinse_2 24 rfl rfl
theorem dX4_rinse_0 : decode cX4_rinse 0 = .ok (.aload_n 0, 1) := dk_42 (dk_at dksX4_rinse_0 0 rfl rfl)
theorem dX4_rinse_1 : decode cX4_rinse 1 = .ok (.invokevirtual 97, 3) := dk_182 0 97 (dk_at dksX4_rinse_0 1 rfl rfl)
theorem dX4_rinse_4 : decode cX4_rinse 4 = .ok (.iconst 0, 1) := dk_3 (dk_at dksX4_rinse_0 4 rfl rfl)
theorem dX4_rinse_5 : decode cX4_rinse 5 = .ok (.istore_n 1, 1) := dk_60 (dk_at dksX4_rinse_0 5 rfl rfl)
theorem dX4_rinse_6 : decode cX4_rinse 6 = .ok (.iconst 0, 1) := dk_3 (dk_at dksX4_rinse_0 6 rfl rfl)
theorem dX4_rinse_7 : decode cX4_rinse 7 = .ok (.istore_n 2, 1) := dk_61 (dk_at dksX4_rinse_0 7 rfl rfl)
theorem dX4_rinse_8 : decode cX4_rinse 8 = .ok (.iload_n 2, 1) := dk_28 (dk_at dksX4_rinse_0 8 rfl rfl)
theorem dX4_rinse_9 : decode cX4_rinse 9 = .ok (.aload_n 0, 1) := dk_42 (dk_at dksX4_rinse_0 9 rfl rfl)
theorem dX4_rinse_10 : decode cX4_rinse 10 = .ok (.invokevirtual 46, 3) := dk_182 0 46 (dk_at dksX4_rinse_0 10 rfl rfl)
theorem dX4_rinse_13 : decode cX4_rinse 13 = .ok (.if_icmp .ge 52, 3) := dk_162 0 52 (dk_at dksX4_rinse_0 13 rfl rfl)
theorem dX4_rinse_16 : decode cX4_rinse 16 = .ok (.iload_n 1, 1) := dk_27 (dk_at dksX4_rinse_0 16 rfl rfl)
theorem dX4_rinse_17 : decode cX4_rinse 17 = .ok (.aload_n 0, 1) := dk_42 (dk_at dksX4_rinse_0 17 rfl rfl)
theorem dX4_rinse_18 : decode cX4_rinse 18 = .ok (.getfield 7, 3) := dk_180 0 7 (dk_at dksX4_rinse_0 18 rfl rfl)
theorem dX4_rinse_21 : decode cX4_rinse 21 = .ok (.sipush 487, 3) := dk_17 1 231 (dk_at dksX4_rinse_0 21 rfl rfl)
theorem dX4_rinse_24 : decode cX4_rinse 24 = .ok (.iload_n 2, 1) := dk_28 (dk_at dksX4_rinse_1 0 rfl rfl)
theorem dX4_rinse_25 : decode cX4_rinse 25 = .ok (.iadd, 1) := dk_96 (dk_at dksX4_rinse_1 1 rfl rfl)
theorem dX4_rinse_26 : decode cX4_rinse 26 = .ok (.iaload, 1) := dk_46 (dk_at dksX4_rinse_1 2 rfl rfl)
theorem dX4_rinse_27 : decode cX4_rinse 27 = .ok (.ifCond .ne 7, 3) := dk_154 0 7 (dk_at dksX4_rinse_1 3 rfl rfl)
theorem dX4_rinse_30 : decode cX4_rinse 30 = .ok (.iconst 0, 1) := dk_3 (dk_at dksX4_rinse_1 6 rfl rfl)
theorem dX4_rinse_31 : decode cX4_rinse 31 = .ok (.goto 4, 3) := dk_167 0 4 (dk_at dksX4_rinse_1 7 rfl rfl)
theorem dX4_rinse_34 : decode cX4_rinse 34 = .ok (.iconst 1, 1) := dk_4 (dk_at dksX4_rinse_1 10 rfl rfl)
theorem dX4_rinse_35 : decode cX4_rinse 35 = .ok (.iadd, 1) := dk_96 (dk_at dksX4_rinse_1 11 rfl rfl)
theorem dX4_rinse_36 : decode cX4_rinse 36 = .ok (.istore_n 1, 1) := dk_60 (dk_at dksX4_rinse_1 12 rfl rfl)
theorem dX4_rinse_37 : decode cX4_rinse 37 = .ok (.aload_n 0, 1) := dk_42 (dk_at dksX4_rinse_1 13 rfl rfl)
theorem dX4_rinse_38 : decode cX4_rinse 38 = .ok (.getfield 7, 3) := dk_180 0 7 (dk_at dksX4_rinse_1 14 rfl rfl)
theorem dX4_rinse_41 : decode cX4_rinse 41 = .ok (.sipush 487, 3) := dk_17 1 231 (dk_at dksX4_rinse_1 17 rfl rfl)
theorem dX4_rinse_44 : decode cX4_rinse 44 = .ok (.iload_n 2, 1) := dk_28 (dk_at dksX4_rinse_1 20 rfl rfl)
theorem dX4_rinse_45 : decode cX4_rinse 45 = .ok (.iadd, 1) := dk_96 (dk_at dksX4_rinse_1 21 rfl rfl)
theorem dX4_rinse_46 : decode cX4_rinse 46 = .ok (.iconst 0, 1) := dk_3 (dk_at dksX4_rinse_1 22 rfl rfl)
theorem dX4_rinse_47 : decode cX4_rinse 47 = .ok (.iastore, 1) := dk_79 (dk_at dksX4_rinse_1 23 rfl rfl)
theorem dX4_rinse_48 : decode cX4_rinse 48 = .ok (.aload_n 0, 1) := dk_42 (dk_at dksX4_rinse_2 0 rfl rfl)
theorem dX4_rinse_49 : decode cX4_rinse 49 = .ok (.getfield 7, 3) := dk_180 0 7 (dk_at dksX4_rinse_2 1 rfl rfl)
theorem dX4_rinse_52 : decode cX4_rinse 52 = .ok (.sipush 567, 3) := dk_17 2 55 (dk_at dksX4_rinse_2 4 rfl rfl)
theorem dX4_rinse_55 : decode cX4_rinse 55 = .ok (.iload_n 2, 1) := dk_28 (dk_at dksX4_rinse_2 7 rfl rfl)
theorem dX4_rinse_56 : decode cX4_rinse 56 = .ok (.iadd, 1) := dk_96 (dk_at dksX4_rinse_2 8 rfl rfl)
theorem dX4_rinse_57 : decode cX4_rinse 57 = .ok (.iconst 0, 1) := dk_3 (dk_at dksX4_rinse_2 9 rfl rfl)
theorem dX4_rinse_58 : decode cX4_rinse 58 = .ok (.iastore, 1) := dk_79 (dk_at dksX4_rinse_2 10 rfl rfl)
theorem dX4_rinse_59 : decode cX4_rinse 59 = .ok (.iinc 2 1, 3) := dk_132 2 1 (dk_at dksX4_rinse_2 11 rfl rfl)
theorem dX4_rinse_62 : decode cX4_rinse 62 = .ok (.goto (-54), 3) := dk_167 255 202 (dk_at dksX4_rinse_2 14 rfl rfl)
theorem dX4_rinse_65 : decode cX4_rinse 65 = .ok (.aload_n 0, 1) := dk_42 (dk_at dksX4_rinse_2 17 rfl rfl)
theorem dX4_rinse_66 : decode cX4_rinse 66 = .ok (.getfield 7, 3) := dk_180 0 7 (dk_at dksX4_rinse_2 18 rfl rfl)
theorem dX4_rinse_69 : decode cX4_rinse 69 = .ok (.iconst 5, 1) := dk_8 (dk_at dksX4_rinse_2 21 rfl rfl)
theorem dX4_rinse_70 : decode cX4_rinse 70 = .ok (.iconst 0, 1) := dk_3 (dk_at dksX4_rinse_2 22 rfl rfl)
theorem dX4_rinse_71 : decode cX4_rinse 71 = .ok (.iastore, 1) := dk_79 (dk_at dksX4_rinse_2 23 rfl rfl)
theorem dX4_rinse_72 : decode cX4_rinse 72 = .ok (.iload_n 1, 1) := dk_27 (dk_at dksX4_rinse_3 0 rfl rfl)
theorem dX4_rinse_73 : decode cX4_rinse 73 = .ok (.ireturn, 1) := dk_172 (dk_at dksX4_rinse_3 1 rfl rfl)
abbrev cX4_count : ByteArray := prog_20_method_47_code
def yX4_count : MethodName := ⟨RX4, "count", "(I)I"⟩
def dkwX4_count_4 : List UInt8 := [182, 0, 138, 172, 42, 182, 0, 120, 172, 42, 180, 0, 42, 172, 42, 180, 0, 141, 172, 2, 172]
abbrev dktX4_count_4 : List UInt8 := dkwX4_count_4 ++ []
def dkwX4_count_3 : List UInt8 := [42, 182, 0, 104, 172, 42, 42, 180, 0, 7, 6, 46, 182, 0, 111, 172, 42, 180, 0, 94, 172, 42]
abbrev dktX4_count_3 : List UInt8 := dkwX4_count_3 ++ dktX4_count_4
def dkwX4_count_2 : List UInt8 := [170, 0, 0, 0, 82, 0, 0, 0, 6, 0, 0, 0, 12, 0, 0, 0, 41, 0, 0, 0, 46, 0, 0, 0, 57, 0, 0, 0, 62, 0, 0, 0, 67, 0, 0, 0, 72, 0, 0, 0, 77]
abbrev dktX4_count_2 : List UInt8 := dkwX4_count_2 ++ dktX4_count_3
def dkwX4_count_1 : List UInt8 := [182, 0, 135, 27]
abbrev dktX4_count_1 : List UInt8 := dkwX4_count_1 ++ dktX4_count_2
def dkwX4_count_0 : List UInt8 := [27, 3, 8, 184, 0, 50, 153, 0, 10, 42, 180, 0, 7, 27, 46, 172, 42, 42, 180, 0, 7, 6, 46]
abbrev dktX4_count_0 : List UInt8 := dkwX4_count_0 ++ dktX4_count_1
theorem dksX4_count_0 : cX4_count.data.toList.drop 0 = dktX4_count_0 := by decide +kernel
theorem dksX4_count_1 : cX4_count.data.toList.drop 23 = dktX4_count_1 := dk_seg dksX4_count_0 23 rfl rfl
theorem dksX4_count_2 : cX4_count.data.toList.drop 27 = dktX4_count_2 := dk_seg dksX4_count_1 4 rfl rfl
theorem dksX4_count_3 : cX4_count.data.toList.drop 68 = dktX4_count_3 := dk_seg dksX4_count_2 41 rfl rfl
theorem dksX4_count_4 : cX4_count.data.toList.drop 90 = dktX4_count_4 := dk_seg dksX4_count_3 22 rfl rfl
theorem dX4_count_0 : decode cX4_count 0 = .ok (.iload_n 1, 1) := dk_27 (dk_at dksX4_count_0 0 rfl rfl)
theorem dX4_count_1 : decode cX4_count 1 = .ok (.iconst 0, 1) := dk_3 (dk_at dksX4_count_0 1 rfl rfl)
theorem dX4_count_2 : decode cX4_count 2 = .ok (.iconst 5, 1) := dk_8 (dk_at dksX4_count_0 2 rfl rfl)
theorem dX4_count_3 : decode cX4_count 3 = .ok (.invokestatic 50, 3) := dk_184 0 50 (dk_at dksX4_count_0 3 rfl rfl)
theorem dX4_count_6 : decode cX4_count 6 = .ok (.ifCond .eq 10, 3) := dk_153 0 10 (dk_at dksX4_count_0 6 rfl rfl)
theorem dX4_count_9 : decode cX4_count 9 = .ok (.aload_n 0, 1) := dk_42 (dk_at dksX4_count_0 9 rfl rfl)
theorem dX4_count_10 : decode cX4_count 10 = .ok (.getfield 7, 3) := dk_180 0 7 (dk_at dksX4_count_0 10 rfl rfl)
theorem dX4_count_13 : decode cX4_count 13 = .ok (.iload_n 1, 1) := dk_27 (dk_at dksX4_count_0 13 rfl rfl)
theorem dX4_count_14 : decode cX4_count 14 = .ok (.iaload, 1) := dk_46 (dk_at dksX4_count_0 14 rfl rfl)
theorem dX4_count_15 : decode cX4_count 15 = .ok (.ireturn, 1) := dk_172 (dk_at dksX4_count_0 15 rfl rfl)
theorem dX4_count_16 : decode cX4_count 16 = .ok (.aload_n 0, 1) := dk_42 (dk_at dksX4_count_0 16 rfl rfl)
theorem dX4_count_17 : decode cX4_count 17 = .ok (.aload_n 0, 1) := dk_42 (dk_at dksX4_count_0 17 rfl rfl)
theorem dX4_count_18 : decode cX4_count 18 = .ok (.getfield 7, 3) := dk_180 0 7 (dk_at dksX4_count_0 18 rfl rfl)
theorem dX4_count_21 : decode cX4_count 21 = .ok (.iconst 3, 1) := dk_6 (dk_at dksX4_count_0 21 rfl rfl)
theorem dX4_count_22 : decode cX4_count 22 = .ok (.iaload, 1) := dk_46 (dk_at dksX4_count_0 22 rfl rfl)
theorem dX4_count_23 : decode cX4_count 23 = .ok (.invokevirtual 135, 3) := dk_182 0 135 (dk_at dksX4_count_1 0 rfl rfl)
theorem dX4_count_26 : decode cX4_count 26 = .ok (.iload_n 1, 1) := dk_27 (dk_at dksX4_count_1 3 rfl rfl)
theorem dX4_count_27 : decode cX4_count 27 = .ok (.tableswitch 82 6 12 #[41, 46, 57, 62, 67, 72, 77], 41) := by decide +kernel
theorem dX4_count_68 : decode cX4_count 68 = .ok (.aload_n 0, 1) := dk_42 (dk_at dksX4_count_3 0 rfl rfl)
theorem dX4_count_69 : decode cX4_count 69 = .ok (.invokevirtual 104, 3) := dk_182 0 104 (dk_at dksX4_count_3 1 rfl rfl)
theorem dX4_count_72 : decode cX4_count 72 = .ok (.ireturn, 1) := dk_172 (dk_at dksX4_count_3 4 rfl rfl)
theorem dX4_count_73 : decode cX4_count 73 = .ok (.aload_n 0, 1) := dk_42 (dk_at dksX4_count_3 5 rfl rfl)
theorem dX4_count_74 : decode cX4_count 74 = .ok (.aload_n 0, 1) := dk_42 (dk_at dksX4_count_3 6 rfl rfl)
theorem dX4_count_75 : decode cX4_count 75 = .ok (.getfield 7, 3) := dk_180 0 7 (dk_at dksX4_count_3 7 rfl rfl)
theorem dX4_count_78 : decode cX4_count 78 = .ok (.iconst 3, 1) := dk_6 (dk_at dksX4_count_3 10 rfl rfl)
theorem dX4_count_79 : decode cX4_count 79 = .ok (.iaload, 1) := dk_46 (dk_at dksX4_count_3 11 rfl rfl)
theorem dX4_count_80 : decode cX4_count 80 = .ok (.invokevirtual 111, 3) := dk_182 0 111 (dk_at dksX4_count_3 12 rfl rfl)
theorem dX4_count_83 : decode cX4_count 83 = .ok (.ireturn, 1) := dk_172 (dk_at dksX4_count_3 15 rfl rfl)
theorem dX4_count_84 : decode cX4_count 84 = .ok (.aload_n 0, 1) := dk_42 (dk_at dksX4_count_3 16 rfl rfl)
theorem dX4_count_85 : decode cX4_count 85 = .ok (.getfield 94, 3) := dk_180 0 94 (dk_at dksX4_count_3 17 rfl rfl)
theorem dX4_count_88 : decode cX4_count 88 = .ok (.ireturn, 1) := dk_172 (dk_at dksX4_count_3 20 rfl rfl)
theorem dX4_count_89 : decode cX4_count 89 = .ok (.aload_n 0, 1) := dk_42 (dk_at dksX4_count_3 21 rfl rfl)
theorem dX4_count_90 : decode cX4_count 90 = .ok (.invokevirtual 138, 3) := dk_182 0 138 (dk_at dksX4_count_4 0 rfl rfl)
theorem dX4_count_93 : decode cX4_count 93 = .ok (.ireturn, 1) := dk_172 (dk_at dksX4_count_4 3 rfl rfl)
theorem dX4_count_94 : decode cX4_count 94 = .ok (.aload_n 0, 1) := dk_42 (dk_at dksX4_count_4 4 rfl rfl)
theorem dX4_count_95 : decode cX4_count 95 = .ok (.invokevirtual 120, 3) := dk_182 0 120 (dk_at dksX4_count_4 5 rfl rfl)
theorem dX4_count_98 : decode cX4_count 98 = .ok (.ireturn, 1) := dk_172 (dk_at dksX4_count_4 8 rfl rfl)
theorem dX4_count_99 : decode cX4_count 99 = .ok (.aload_n 0, 1) := dk_42 (dk_at dksX4_count_4 9 rfl rfl)
theorem dX4_count_100 : decode cX4_count 100 = .ok (.getfield 42, 3) := dk_180 0 42 (dk_at dksX4_count_4 10 rfl rfl)
theorem dX4_count_103 : decode cX4_count 103 = .ok (.ireturn, 1) := dk_172 (dk_at dksX4_count_4 13 rfl rfl)
theorem dX4_count_104 : decode cX4_count 104 = .ok (.aload_n 0, 1) := dk_42 (dk_at dksX4_count_4 14 rfl rfl)
theorem dX4_count_105 : decode cX4_count 105 = .ok (.getfield 141, 3) := dk_180 0 141 (dk_at dksX4_count_4 15 rfl rfl)
theorem dX4_count_108 : decode cX4_count 108 = .ok (.ireturn, 1) := dk_172 (dk_at dksX4_count_4 18 rfl rfl)
theorem dX4_count_109 : decode cX4_count 109 = .ok (.iconst (-1), 1) := dk_2 (dk_at dksX4_count_4 19 rfl rfl)
theorem dX4_count_110 : decode cX4_count 110 = .ok (.ireturn, 1) := dk_172 (dk_at dksX4_count_4 20 rfl rfl)
abbrev cX4_laysClusters : ByteArray := prog_20_method_24_code
def yX4_laysClusters : MethodName := ⟨RX4, "laysClusters", "(I)V"⟩
def dkwX4_laysClusters_5 : List UInt8 := [180, 0, 94, 4, 96, 181, 0, 94, 132, 2, 1, 167, 255, 164, 177]
abbrev dktX4_laysClusters_5 : List UInt8 := dkwX4_laysClusters_5 ++ []
def dkwX4_laysClusters_4 : List UInt8 := [180, 0, 29, 42, 180, 0, 22, 29, 46, 42, 180, 0, 94, 79, 132, 3, 1, 167, 255, 230, 42, 89]
abbrev dktX4_laysClusters_4 : List UInt8 := dkwX4_laysClusters_4 ++ dktX4_laysClusters_5
def dkwX4_laysClusters_3 : List UInt8 := [182, 0, 80, 42, 27, 16, 247, 4, 182, 0, 90, 3, 62, 29, 42, 180, 0, 73, 162, 0, 24, 42]
abbrev dktX4_laysClusters_3 : List UInt8 := dkwX4_laysClusters_3 ++ dktX4_laysClusters_4
def dkwX4_laysClusters_2 : List UInt8 := [153, 0, 75, 42, 180, 0, 29, 28, 46, 16, 247, 160, 0, 64, 42, 182, 0, 87, 42, 28, 27, 16, 247]
abbrev dktX4_laysClusters_2 : List UInt8 := dkwX4_laysClusters_2 ++ dktX4_laysClusters_3
def dkwX4_laysClusters_1 : List UInt8 := [132, 2, 1, 167, 255, 237, 3, 61, 28, 42, 182, 0, 46, 162, 0, 90, 42, 28, 27, 182, 0, 66]
abbrev dktX4_laysClusters_1 : List UInt8 := dkwX4_laysClusters_1 ++ dktX4_laysClusters_2
def dkwX4_laysClusters_0 : List UInt8 := [42, 3, 181, 0, 94, 3, 61, 28, 42, 182, 0, 46, 162, 0, 17, 42, 180, 0, 29, 28, 16, 247, 79]
abbrev dktX4_laysClusters_0 : List UInt8 := dkwX4_laysClusters_0 ++ dktX4_laysClusters_1
theorem dksX4_laysClusters_0 : cX4_laysClusters.data.toList.drop 0 = dktX4_laysClusters_0 := by decide +kernel
theorem dksX4_laysClusters_1 : cX4_laysClusters.data.toList.drop 23 = dktX4_laysClusters_1 := dk_seg dksX4_laysClusters_0 23 rfl rfl
theorem dksX4_laysClusters_2 : cX4_laysClusters.data.toList.drop 45 = dktX4_laysClusters_2 := dk_seg dksX4_laysClusters_1 22 rfl rfl
theorem dksX4_laysClusters_3 : cX4_laysClusters.data.toList.drop 68 = dktX4_laysClusters_3 := dk_seg dksX4_laysClusters_2 23 rfl rfl
theorem dksX4_laysClusters_4 : cX4_laysClusters.data.toList.drop 90 = dktX4_laysClusters_4 := dk_seg dksX4_laysClusters_3 22 rfl rfl
theorem dksX4_laysClusters_5 : cX4_laysClusters.data.toList.drop 112 = dktX4_laysClusters_5 := dk_seg dksX4_laysClusters_4 22 rfl rfl
theorem dX4_laysClusters_0 : decode cX4_laysClusters 0 = .ok (.aload_n 0, 1) := dk_42 (dk_at dksX4_laysClusters_0 0 rfl rfl)
theorem dX4_laysClusters_1 : decode cX4_laysClusters 1 = .ok (.iconst 0, 1) := dk_3 (dk_at dksX4_laysClusters_0 1 rfl rfl)
theorem dX4_laysClusters_2 : decode cX4_laysClusters 2 = .ok (.putfield 94, 3) := dk_181 0 94 (dk_at dksX4_laysClusters_0 2 rfl rfl)
theorem dX4_laysClusters_5 : decode cX4_laysClusters 5 = .ok (.iconst 0, 1) := dk_3 (dk_at dksX4_laysClusters_0 5 rfl rfl)
theorem dX4_laysClusters_6 : decode cX4_laysClusters 6 = .ok (.istore_n 2, 1) := dk_61 (dk_at dksX4_laysClusters_0 6 rfl rfl)
theorem dX4_laysClusters_7 : decode cX4_laysClusters 7 = .ok (.iload_n 2, 1) := dk_28 (dk_at dksX4_laysClusters_0 7 rfl rfl)
theorem dX4_laysClusters_8 : decode cX4_laysClusters 8 = .ok (.aload_n 0, 1) := dk_42 (dk_at dksX4_laysClusters_0 8 rfl rfl)
theorem dX4_laysClusters_9 : decode cX4_laysClusters 9 = .ok (.invokevirtual 46, 3) := dk_182 0 46 (dk_at dksX4_laysClusters_0 9 rfl rfl)
theorem dX4_laysClusters_12 : decode cX4_laysClusters 12 = .ok (.if_icmp .ge 17, 3) := dk_162 0 17 (dk_at dksX4_laysClusters_0 12 rfl rfl)
theorem dX4_laysClusters_15 : decode cX4_laysClusters 15 = .ok (.aload_n 0, 1) := dk_42 (dk_at dksX4_laysClusters_0 15 rfl rfl)
theorem dX4_laysClusters_16 : decode cX4_laysClusters 16 = .ok (.getfield 29, 3) := dk_180 0 29 (dk_at dksX4_laysClusters_0 16 rfl rfl)
theorem dX4_laysClusters_19 : decode cX4_laysClusters 19 = .ok (.iload_n 2, 1) := dk_28 (dk_at dksX4_laysClusters_0 19 rfl rfl)
theorem dX4_laysClusters_20 : decode cX4_laysClusters 20 = .ok (.bipush (-9), 2) := dk_16 247 (dk_at dksX4_laysClusters_0 20 rfl rfl)
theorem dX4_laysClusters_22 : decode cX4_laysClusters 22 = .ok (.iastore, 1) := dk_79 (dk_at dksX4_laysClusters_0 22 rfl rfl)
theorem dX4_laysClusters_23 : decode cX4_laysClusters 23 = .ok (.iinc 2 1, 3) := dk_132 2 1 (dk_at dksX4_laysClusters_1 0 rfl rfl)
theorem dX4_laysClusters_26 : decode cX4_laysClusters 26 = .ok (.goto (-19), 3) := dk_167 255 237 (dk_at dksX4_laysClusters_1 3 rfl rfl)
theorem dX4_laysClusters_29 : decode cX4_laysClusters 29 = .ok (.iconst 0, 1) := dk_3 (dk_at dksX4_laysClusters_1 6 rfl rfl)
theorem dX4_laysClusters_30 : decode cX4_laysClusters 30 = .ok (.istore_n 2, 1) := dk_61 (dk_at dksX4_laysClusters_1 7 rfl rfl)
theorem dX4_laysClusters_31 : decode cX4_laysClusters 31 = .ok (.iload_n 2, 1) := dk_28 (dk_at dksX4_laysClusters_1 8 rfl rfl)
theorem dX4_laysClusters_32 : decode cX4_laysClusters 32 = .ok (.aload_n 0, 1) := dk_42 (dk_at dksX4_laysClusters_1 9 rfl rfl)
theorem dX4_laysClusters_33 : decode cX4_laysClusters 33 = .ok (.invokevirtual 46, 3) := dk_182 0 46 (dk_at dksX4_laysClusters_1 10 rfl rfl)
theorem dX4_laysClusters_36 : decode cX4_laysClusters 36 = .ok (.if_icmp .ge 90, 3) := dk_162 0 90 (dk_at dksX4_laysClusters_1 13 rfl rfl)
theorem dX4_laysClusters_39 : decode cX4_laysClusters 39 = .ok (.aload_n 0, 1) := dk_42 (dk_at dksX4_laysClusters_1 16 rfl rfl)
theorem dX4_laysClusters_40 : decode cX4_laysClusters 40 = .ok (.iload_n 2, 1) := dk_28 (dk_at dksX4_laysClusters_1 17 rfl rfl)
theorem dX4_laysClusters_41 : decode cX4_laysClusters 41 = .ok (.iload_n 1, 1) := dk_27 (dk_at dksX4_laysClusters_1 18 rfl rfl)
theorem dX4_laysClusters_42 : decode cX4_laysClusters 42 = .ok (.invokevirtual 66, 3) := dk_182 0 66 (dk_at dksX4_laysClusters_1 19 rfl rfl)
theorem dX4_laysClusters_45 : decode cX4_laysClusters 45 = .ok (.ifCond .eq 75, 3) := dk_153 0 75 (dk_at dksX4_laysClusters_2 0 rfl rfl)
theorem dX4_laysClusters_48 : decode cX4_laysClusters 48 = .ok (.aload_n 0, 1) := dk_42 (dk_at dksX4_laysClusters_2 3 rfl rfl)
theorem dX4_laysClusters_49 : decode cX4_laysClusters 49 = .ok (.getfield 29, 3) := dk_180 0 29 (dk_at dksX4_laysClusters_2 4 rfl rfl)
theorem dX4_laysClusters_52 : decode cX4_laysClusters 52 = .ok (.iload_n 2, 1) := dk_28 (dk_at dksX4_laysClusters_2 7 rfl rfl)
theorem dX4_laysClusters_53 : decode cX4_laysClusters 53 = .ok (.iaload, 1) := dk_46 (dk_at dksX4_laysClusters_2 8 rfl rfl)
theorem dX4_laysClusters_54 : decode cX4_laysClusters 54 = .ok (.bipush (-9), 2) := dk_16 247 (dk_at dksX4_laysClusters_2 9 rfl rfl)
theorem dX4_laysClusters_56 : decode cX4_laysClusters 56 = .ok (.if_icmp .ne 64, 3) := dk_160 0 64 (dk_at dksX4_laysClusters_2 11 rfl rfl)
theorem dX4_laysClusters_59 : decode cX4_laysClusters 59 = .ok (.aload_n 0, 1) := dk_42 (dk_at dksX4_laysClusters_2 14 rfl rfl)
theorem dX4_laysClusters_60 : decode cX4_laysClusters 60 = .ok (.invokevirtual 87, 3) := dk_182 0 87 (dk_at dksX4_laysClusters_2 15 rfl rfl)
theorem dX4_laysClusters_63 : decode cX4_laysClusters 63 = .ok (.aload_n 0, 1) := dk_42 (dk_at dksX4_laysClusters_2 18 rfl rfl)
theorem dX4_laysClusters_64 : decode cX4_laysClusters 64 = .ok (.iload_n 2, 1) := dk_28 (dk_at dksX4_laysClusters_2 19 rfl rfl)
theorem dX4_laysClusters_65 : decode cX4_laysClusters 65 = .ok (.iload_n 1, 1) := dk_27 (dk_at dksX4_laysClusters_2 20 rfl rfl)
theorem dX4_laysClusters_66 : decode cX4_laysClusters 66 = .ok (.bipush (-9), 2) := dk_16 247 (dk_at dksX4_laysClusters_2 21 rfl rfl)
theorem dX4_laysClusters_68 : decode cX4_laysClusters 68 = .ok (.invokevirtual 80, 3) := dk_182 0 80 (dk_at dksX4_laysClusters_3 0 rfl rfl)
theorem dX4_laysClusters_71 : decode cX4_laysClusters 71 = .ok (.aload_n 0, 1) := dk_42 (dk_at dksX4_laysClusters_3 3 rfl rfl)
theorem dX4_laysClusters_72 : decode cX4_laysClusters 72 = .ok (.iload_n 1, 1) := dk_27 (dk_at dksX4_laysClusters_3 4 rfl rfl)
theorem dX4_laysClusters_73 : decode cX4_laysClusters 73 = .ok (.bipush (-9), 2) := dk_16 247 (dk_at dksX4_laysClusters_3 5 rfl rfl)
theorem dX4_laysClusters_75 : decode cX4_laysClusters 75 = .ok (.iconst 1, 1) := dk_4 (dk_at dksX4_laysClusters_3 7 rfl rfl)
theorem dX4_laysClusters_76 : decode cX4_laysClusters 76 = .ok (.invokevirtual 90, 3) := dk_182 0 90 (dk_at dksX4_laysClusters_3 8 rfl rfl)
theorem dX4_laysClusters_79 : decode cX4_laysClusters 79 = .ok (.iconst 0, 1) := dk_3 (dk_at dksX4_laysClusters_3 11 rfl rfl)
theorem dX4_laysClusters_80 : decode cX4_laysClusters 80 = .ok (.istore_n 3, 1) := dk_62 (dk_at dksX4_laysClusters_3 12 rfl rfl)
theorem dX4_laysClusters_81 : decode cX4_laysClusters 81 = .ok (.iload_n 3, 1) := dk_29 (dk_at dksX4_laysClusters_3 13 rfl rfl)
theorem dX4_laysClusters_82 : decode cX4_laysClusters 82 = .ok (.aload_n 0, 1) := dk_42 (dk_at dksX4_laysClusters_3 14 rfl rfl)
theorem dX4_laysClusters_83 : decode cX4_laysClusters 83 = .ok (.getfield 73, 3) := dk_180 0 73 (dk_at dksX4_laysClusters_3 15 rfl rfl)
theorem dX4_laysClusters_86 : decode cX4_laysClusters 86 = .ok (.if_icmp .ge 24, 3) := dk_162 0 24 (dk_at dksX4_laysClusters_3 18 rfl rfl)
theorem dX4_laysClusters_89 : decode cX4_laysClusters 89 = .ok (.aload_n 0, 1) := dk_42 (dk_at dksX4_laysClusters_3 21 rfl rfl)
theorem dX4_laysClusters_90 : decode cX4_laysClusters 90 = .ok (.getfield 29, 3) := dk_180 0 29 (dk_at dksX4_laysClusters_4 0 rfl rfl)
theorem dX4_laysClusters_93 : decode cX4_laysClusters 93 = .ok (.aload_n 0, 1) := dk_42 (dk_at dksX4_laysClusters_4 3 rfl rfl)
theorem dX4_laysClusters_94 : decode cX4_laysClusters 94 = .ok (.getfield 22, 3) := dk_180 0 22 (dk_at dksX4_laysClusters_4 4 rfl rfl)
theorem dX4_laysClusters_97 : decode cX4_laysClusters 97 = .ok (.iload_n 3, 1) := dk_29 (dk_at dksX4_laysClusters_4 7 rfl rfl)
theorem dX4_laysClusters_98 : decode cX4_laysClusters 98 = .ok (.iaload, 1) := dk_46 (dk_at dksX4_laysClusters_4 8 rfl rfl)
theorem dX4_laysClusters_99 : decode cX4_laysClusters 99 = .ok (.aload_n 0, 1) := dk_42 (dk_at dksX4_laysClusters_4 9 rfl rfl)
theorem dX4_laysClusters_100 : decode cX4_laysClusters 100 = .ok (.getfield 94, 3) := dk_180 0 94 (dk_at dksX4_laysClusters_4 10 rfl rfl)
theorem dX4_laysClusters_103 : decode cX4_laysClusters 103 = .ok (.iastore, 1) := dk_79 (dk_at dksX4_laysClusters_4 13 rfl rfl)
theorem dX4_laysClusters_104 : decode cX4_laysClusters 104 = .ok (.iinc 3 1, 3) := dk_132 3 1 (dk_at dksX4_laysClusters_4 14 rfl rfl)
theorem dX4_laysClusters_107 : decode cX4_laysClusters 107 = .ok (.goto (-26), 3) := dk_167 255 230 (dk_at dksX4_laysClusters_4 17 rfl rfl)
theorem dX4_laysClusters_110 : decode cX4_laysClusters 110 = .ok (.aload_n 0, 1) := dk_42 (dk_at dksX4_laysClusters_4 20 rfl rfl)
theorem dX4_laysClusters_111 : decode cX4_laysClusters 111 = .ok (.dup, 1) := dk_89 (dk_at dksX4_laysClusters_4 21 rfl rfl)
theorem dX4_laysClusters_112 : decode cX4_laysClusters 112 = .ok (.getfield 94, 3) := dk_180 0 94 (dk_at dksX4_laysClusters_5 0 rfl rfl)
theorem dX4_laysClusters_115 : decode cX4_laysClusters 115 = .ok (.iconst 1, 1) := dk_4 (dk_at dksX4_laysClusters_5 3 rfl rfl)
theorem dX4_laysClusters_116 : decode cX4_laysClusters 116 = .ok (.iadd, 1) := dk_96 (dk_at dksX4_laysClusters_5 4 rfl rfl)
theorem dX4_laysClusters_117 : decode cX4_laysClusters 117 = .ok (.putfield 94, 3) := dk_181 0 94 (dk_at dksX4_laysClusters_5 5 rfl rfl)
theorem dX4_laysClusters_120 : decode cX4_laysClusters 120 = .ok (.iinc 2 1, 3) := dk_132 2 1 (dk_at dksX4_laysClusters_5 8 rfl rfl)
theorem dX4_laysClusters_123 : decode cX4_laysClusters 123 = .ok (.goto (-92), 3) := dk_167 255 164 (dk_at dksX4_laysClusters_5 11 rfl rfl)
theorem dX4_laysClusters_126 : decode cX4_laysClusters 126 = .ok (.return_, 1) := dk_177 (dk_at dksX4_laysClusters_5 14 rfl rfl)
abbrev cX4_forgets : ByteArray := prog_20_method_19_code
def yX4_forgets : MethodName := ⟨RX4, "forgets", "()V"⟩
def dkwX4_forgets_1 : List UInt8 := [167, 255, 240, 177]
abbrev dktX4_forgets_1 : List UInt8 := dkwX4_forgets_1 ++ []
def dkwX4_forgets_0 : List UInt8 := [42, 3, 181, 0, 73, 3, 60, 27, 16, 80, 162, 0, 16, 42, 180, 0, 25, 27, 3, 84, 132, 1, 1]
abbrev dktX4_forgets_0 : List UInt8 := dkwX4_forgets_0 ++ dktX4_forgets_1
theorem dksX4_forgets_0 : cX4_forgets.data.toList.drop 0 = dktX4_forgets_0 := by decide +kernel
theorem dksX4_forgets_1 : cX4_forgets.data.toList.drop 23 = dktX4_forgets_1 := dk_seg dksX4_forgets_0 23 rfl rfl
theorem dX4_forgets_0 : decode cX4_forgets 0 = .ok (.aload_n 0, 1) := dk_42 (dk_at dksX4_forgets_0 0 rfl rfl)
theorem dX4_forgets_1 : decode cX4_forgets 1 = .ok (.iconst 0, 1) := dk_3 (dk_at dksX4_forgets_0 1 rfl rfl)
theorem dX4_forgets_2 : decode cX4_forgets 2 = .ok (.putfield 73, 3) := dk_181 0 73 (dk_at dksX4_forgets_0 2 rfl rfl)
theorem dX4_forgets_5 : decode cX4_forgets 5 = .ok (.iconst 0, 1) := dk_3 (dk_at dksX4_forgets_0 5 rfl rfl)
theorem dX4_forgets_6 : decode cX4_forgets 6 = .ok (.istore_n 1, 1) := dk_60 (dk_at dksX4_forgets_0 6 rfl rfl)
theorem dX4_forgets_7 : decode cX4_forgets 7 = .ok (.iload_n 1, 1) := dk_27 (dk_at dksX4_forgets_0 7 rfl rfl)
theorem dX4_forgets_8 : decode cX4_forgets 8 = .ok (.bipush 80, 2) := dk_16 80 (dk_at dksX4_forgets_0 8 rfl rfl)
theorem dX4_forgets_10 : decode cX4_forgets 10 = .ok (.if_icmp .ge 16, 3) := dk_162 0 16 (dk_at dksX4_forgets_0 10 rfl rfl)
theorem dX4_forgets_13 : decode cX4_forgets 13 = .ok (.aload_n 0, 1) := dk_42 (dk_at dksX4_forgets_0 13 rfl rfl)
theorem dX4_forgets_14 : decode cX4_forgets 14 = .ok (.getfield 25, 3) := dk_180 0 25 (dk_at dksX4_forgets_0 14 rfl rfl)
theorem dX4_forgets_17 : decode cX4_forgets 17 = .ok (.iload_n 1, 1) := dk_27 (dk_at dksX4_forgets_0 17 rfl rfl)
theorem dX4_forgets_18 : decode cX4_forgets 18 = .ok (.iconst 0, 1) := dk_3 (dk_at dksX4_forgets_0 18 rfl rfl)
theorem dX4_forgets_19 : decode cX4_forgets 19 = .ok (.bastore, 1) := dk_84 (dk_at dksX4_forgets_0 19 rfl rfl)
theorem dX4_forgets_20 : decode cX4_forgets 20 = .ok (.iinc 1 1, 3) := dk_132 1 1 (dk_at dksX4_forgets_0 20 rfl rfl)
theorem dX4_forgets_23 : decode cX4_forgets 23 = .ok (.goto (-16), 3) := dk_167 255 240 (dk_at dksX4_forgets_1 0 rfl rfl)
theorem dX4_forgets_26 : decode cX4_forgets 26 = .ok (.return_, 1) := dk_177 (dk_at dksX4_forgets_1 3 rfl rfl)
abbrev cX4_meets : ByteArray := prog_20_method_20_code
def yX4_meets : MethodName := ⟨RX4, "meets", "(III)V"⟩
def dkwX4_meets_2 : List UInt8 := [89, 180, 0, 73, 4, 96, 181, 0, 73, 177]
abbrev dktX4_meets_2 : List UInt8 := dkwX4_meets_2 ++ []
def dkwX4_meets_1 : List UInt8 := [182, 0, 66, 153, 0, 30, 42, 180, 0, 25, 27, 4, 84, 42, 180, 0, 22, 42, 180, 0, 73, 27, 79, 42]
abbrev dktX4_meets_1 : List UInt8 := dkwX4_meets_1 ++ dktX4_meets_2
def dkwX4_meets_0 : List UInt8 := [27, 16, 247, 159, 0, 53, 27, 29, 159, 0, 48, 42, 180, 0, 25, 27, 51, 154, 0, 39, 42, 27, 28]
abbrev dktX4_meets_0 : List UInt8 := dkwX4_meets_0 ++ dktX4_meets_1
theorem dksX4_meets_0 : cX4_meets.data.toList.drop 0 = dktX4_meets_0 := by decide +kernel
theorem dksX4_meets_1 : cX4_meets.data.toList.drop 23 = dktX4_meets_1 := dk_seg dksX4_meets_0 23 rfl rfl
theorem dksX4_meets_2 : cX4_meets.data.toList.drop 47 = dktX4_meets_2 := dk_seg dksX4_meets_1 24 rfl rfl
theorem dX4_meets_0 : decode cX4_meets 0 = .ok (.iload_n 1, 1) := dk_27 (dk_at dksX4_meets_0 0 rfl rfl)
theorem dX4_meets_1 : decode cX4_meets 1 = .ok (.bipush (-9), 2) := dk_16 247 (dk_at dksX4_meets_0 1 rfl rfl)
theorem dX4_meets_3 : decode cX4_meets 3 = .ok (.if_icmp .eq 53, 3) := dk_159 0 53 (dk_at dksX4_meets_0 3 rfl rfl)
theorem dX4_meets_6 : decode cX4_meets 6 = .ok (.iload_n 1, 1) := dk_27 (dk_at dksX4_meets_0 6 rfl rfl)
theorem dX4_meets_7 : decode cX4_meets 7 = .ok (.iload_n 3, 1) := dk_29 (dk_at dksX4_meets_0 7 rfl rfl)
theorem dX4_meets_8 : decode cX4_meets 8 = .ok (.if_icmp .eq 48, 3) := dk_159 0 48 (dk_at dksX4_meets_0 8 rfl rfl)
theorem dX4_meets_11 : decode cX4_meets 11 = .ok (.aload_n 0, 1) := dk_42 (dk_at dksX4_meets_0 11 rfl rfl)
theorem dX4_meets_12 : decode cX4_meets 12 = .ok (.getfield 25, 3) := dk_180 0 25 (dk_at dksX4_meets_0 12 rfl rfl)
theorem dX4_meets_15 : decode cX4_meets 15 = .ok (.iload_n 1, 1) := dk_27 (dk_at dksX4_meets_0 15 rfl rfl)
theorem dX4_meets_16 : decode cX4_meets 16 = .ok (.baload, 1) := dk_51 (dk_at dksX4_meets_0 16 rfl rfl)
theorem dX4_meets_17 : decode cX4_meets 17 = .ok (.ifCond .ne 39, 3) := dk_154 0 39 (dk_at dksX4_meets_0 17 rfl rfl)
theorem dX4_meets_20 : decode cX4_meets 20 = .ok (.aload_n 0, 1) := dk_42 (dk_at dksX4_meets_0 20 rfl rfl)
theorem dX4_meets_21 : decode cX4_meets 21 = .ok (.iload_n 1, 1) := dk_27 (dk_at dksX4_meets_0 21 rfl rfl)
theorem dX4_meets_22 : decode cX4_meets 22 = .ok (.iload_n 2, 1) := dk_28 (dk_at dksX4_meets_0 22 rfl rfl)
theorem dX4_meets_23 : decode cX4_meets 23 = .ok (.invokevirtual 66, 3) := dk_182 0 66 (dk_at dksX4_meets_1 0 rfl rfl)
theorem dX4_meets_26 : decode cX4_meets 26 = .ok (.ifCond .eq 30, 3) := dk_153 0 30 (dk_at dksX4_meets_1 3 rfl rfl)
theorem dX4_meets_29 : decode cX4_meets 29 = .ok (.aload_n 0, 1) := dk_42 (dk_at dksX4_meets_1 6 rfl rfl)
theorem dX4_meets_30 : decode cX4_meets 30 = .ok (.getfield 25, 3) := dk_180 0 25 (dk_at dksX4_meets_1 7 rfl rfl)
theorem dX4_meets_33 : decode cX4_meets 33 = .ok (.iload_n 1, 1) := dk_27 (dk_at dksX4_meets_1 10 rfl rfl)
theorem dX4_meets_34 : decode cX4_meets 34 = .ok (.iconst 1, 1) := dk_4 (dk_at dksX4_meets_1 11 rfl rfl)
theorem dX4_meets_35 : decode cX4_meets 35 = .ok (.bastore, 1) := dk_84 (dk_at dksX4_meets_1 12 rfl rfl)
theorem dX4_meets_36 : decode cX4_meets 36 = .ok (.aload_n 0, 1) := dk_42 (dk_at dksX4_meets_1 13 rfl rfl)
theorem dX4_meets_37 : decode cX4_meets 37 = .ok (.getfield 22, 3) := dk_180 0 22 (dk_at dksX4_meets_1 14 rfl rfl)
theorem dX4_meets_40 : decode cX4_meets 40 = .ok (.aload_n 0, 1) := dk_42 (dk_at dksX4_meets_1 17 rfl rfl)
theorem dX4_meets_41 : decode cX4_meets 41 = .ok (.getfield 73, 3) := dk_180 0 73 (dk_at dksX4_meets_1 18 rfl rfl)
theorem dX4_meets_44 : decode cX4_meets 44 = .ok (.iload_n 1, 1) := dk_27 (dk_at dksX4_meets_1 21 rfl rfl)
theorem dX4_meets_45 : decode cX4_meets 45 = .ok (.iastore, 1) := dk_79 (dk_at dksX4_meets_1 22 rfl rfl)
theorem dX4_meets_46 : decode cX4_meets 46 = .ok (.aload_n 0, 1) := dk_42 (dk_at dksX4_meets_1 23 rfl rfl)
theorem dX4_meets_47 : decode cX4_meets 47 = .ok (.dup, 1) := dk_89 (dk_at dksX4_meets_2 0 rfl rfl)
theorem dX4_meets_48 : decode cX4_meets 48 = .ok (.getfield 73, 3) := dk_180 0 73 (dk_at dksX4_meets_2 1 rfl rfl)
theorem dX4_meets_51 : decode cX4_meets 51 = .ok (.iconst 1, 1) := dk_4 (dk_at dksX4_meets_2 4 rfl rfl)
theorem dX4_meets_52 : decode cX4_meets 52 = .ok (.iadd, 1) := dk_96 (dk_at dksX4_meets_2 5 rfl rfl)
theorem dX4_meets_53 : decode cX4_meets 53 = .ok (.putfield 73, 3) := dk_181 0 73 (dk_at dksX4_meets_2 6 rfl rfl)
theorem dX4_meets_56 : decode cX4_meets 56 = .ok (.return_, 1) := dk_177 (dk_at dksX4_meets_2 9 rfl rfl)
abbrev cX4_walks : ByteArray := prog_20_method_21_code
def yX4_walks : MethodName := ⟨RX4, "walks", "(IIZ)V"⟩
def dkwX4_walks_6 : List UInt8 := [132, 6, 1, 167, 255, 135, 132, 4, 1, 167, 255, 108, 177]
abbrev dktX4_walks_6 : List UInt8 := dkwX4_walks_6 ++ []
def dkwX4_walks_5 : List UInt8 := [167, 0, 15, 42, 21, 8, 21, 6, 3, 182, 0, 76, 153, 0, 11, 42, 21, 8, 27, 28, 182, 0, 80]
abbrev dktX4_walks_5 : List UInt8 := dkwX4_walks_5 ++ dktX4_walks_6
def dkwX4_walks_4 : List UInt8 := [21, 8, 16, 247, 159, 0, 42, 29, 153, 0, 18, 42, 21, 8, 21, 6, 182, 0, 70, 4, 159, 0, 26]
abbrev dktX4_walks_4 : List UInt8 := dkwX4_walks_4 ++ dktX4_walks_5
def dkwX4_walks_3 : List UInt8 := [182, 0, 76, 153, 0, 11, 42, 21, 7, 27, 28, 182, 0, 80, 42, 21, 5, 21, 6, 182, 0, 84, 54, 8]
abbrev dktX4_walks_3 : List UInt8 := dkwX4_walks_3 ++ dktX4_walks_4
def dkwX4_walks_2 : List UInt8 := [153, 0, 18, 42, 21, 5, 21, 6, 182, 0, 70, 4, 159, 0, 26, 167, 0, 15, 42, 21, 5, 21, 6, 4]
abbrev dktX4_walks_2 : List UInt8 := dkwX4_walks_2 ++ dktX4_walks_3
def dkwX4_walks_1 : List UInt8 := [21, 6, 7, 162, 0, 121, 42, 21, 5, 21, 6, 182, 0, 62, 54, 7, 21, 7, 16, 247, 159, 0, 42, 29]
abbrev dktX4_walks_1 : List UInt8 := dkwX4_walks_1 ++ dktX4_walks_2
def dkwX4_walks_0 : List UInt8 := [3, 54, 4, 21, 4, 42, 180, 0, 73, 162, 0, 145, 42, 180, 0, 22, 21, 4, 46, 54, 5, 3, 54, 6]
abbrev dktX4_walks_0 : List UInt8 := dkwX4_walks_0 ++ dktX4_walks_1
theorem dksX4_walks_0 : cX4_walks.data.toList.drop 0 = dktX4_walks_0 := by decide +kernel
theorem dksX4_walks_1 : cX4_walks.data.toList.drop 24 = dktX4_walks_1 := dk_seg dksX4_walks_0 24 rfl rfl
theorem dksX4_walks_2 : cX4_walks.data.toList.drop 48 = dktX4_walks_2 := dk_seg dksX4_walks_1 24 rfl rfl
theorem dksX4_walks_3 : cX4_walks.data.toList.drop 72 = dktX4_walks_3 := dk_seg dksX4_walks_2 24 rfl rfl
theorem dksX4_walks_4 : cX4_walks.data.toList.drop 96 = dktX4_walks_4 := dk_seg dksX4_walks_3 24 rfl rfl
theorem dksX4_walks_5 : cX4_walks.data.toList.drop 119 = dktX4_walks_5 := dk_seg dksX4_walks_4 23 rfl rfl
theorem dksX4_walks_6 : cX4_walks.data.toList.drop 142 = dktX4_walks_6 := dk_seg dksX4_walks_5 23 rfl rfl
theorem dX4_walks_0 : decode cX4_walks 0 = .ok (.iconst 0, 1) := dk_3 (dk_at dksX4_walks_0 0 rfl rfl)
theorem dX4_walks_1 : decode cX4_walks 1 = .ok (.istore 4, 2) := dk_54 4 (dk_at dksX4_walks_0 1 rfl rfl)
theorem dX4_walks_3 : decode cX4_walks 3 = .ok (.iload 4, 2) := dk_21 4 (dk_at dksX4_walks_0 3 rfl rfl)
theorem dX4_walks_5 : decode cX4_walks 5 = .ok (.aload_n 0, 1) := dk_42 (dk_at dksX4_walks_0 5 rfl rfl)
theorem dX4_walks_6 : decode cX4_walks 6 = .ok (.getfield 73, 3) := dk_180 0 73 (dk_at dksX4_walks_0 6 rfl rfl)
theorem dX4_walks_9 : decode cX4_walks 9 = .ok (.if_icmp .ge 145, 3) := dk_162 0 145 (dk_at dksX4_walks_0 9 rfl rfl)
theorem dX4_walks_12 : decode cX4_walks 12 = .ok (.aload_n 0, 1) := dk_42 (dk_at dksX4_walks_0 12 rfl rfl)
theorem dX4_walks_13 : decode cX4_walks 13 = .ok (.getfield 22, 3) := dk_180 0 22 (dk_at dksX4_walks_0 13 rfl rfl)
theorem dX4_walks_16 : decode cX4_walks 16 = .ok (.iload 4, 2) := dk_21 4 (dk_at dksX4_walks_0 16 rfl rfl)
theorem dX4_walks_18 : decode cX4_walks 18 = .ok (.iaload, 1) := dk_46 (dk_at dksX4_walks_0 18 rfl rfl)
theorem dX4_walks_19 : decode cX4_walks 19 = .ok (.istore 5, 2) := dk_54 5 (dk_at dksX4_walks_0 19 rfl rfl)
theorem dX4_walks_21 : decode cX4_walks 21 = .ok (.iconst 0, 1) := dk_3 (dk_at dksX4_walks_0 21 rfl rfl)
theorem dX4_walks_22 : decode cX4_walks 22 = .ok (.istore 6, 2) := dk_54 6 (dk_at dksX4_walks_0 22 rfl rfl)
theorem dX4_walks_24 : decode cX4_walks 24 = .ok (.iload 6, 2) := dk_21 6 (dk_at dksX4_walks_1 0 rfl rfl)
theorem dX4_walks_26 : decode cX4_walks 26 = .ok (.iconst 4, 1) := dk_7 (dk_at dksX4_walks_1 2 rfl rfl)
theorem dX4_walks_27 : decode cX4_walks 27 = .ok (.if_icmp .ge 121, 3) := dk_162 0 121 (dk_at dksX4_walks_1 3 rfl rfl)
theorem dX4_walks_30 : decode cX4_walks 30 = .ok (.aload_n 0, 1) := dk_42 (dk_at dksX4_walks_1 6 rfl rfl)
theorem dX4_walks_31 : decode cX4_walks 31 = .ok (.iload 5, 2) := dk_21 5 (dk_at dksX4_walks_1 7 rfl rfl)
theorem dX4_walks_33 : decode cX4_walks 33 = .ok (.iload 6, 2) := dk_21 6 (dk_at dksX4_walks_1 9 rfl rfl)
theorem dX4_walks_35 : decode cX4_walks 35 = .ok (.invokevirtual 62, 3) := dk_182 0 62 (dk_at dksX4_walks_1 11 rfl rfl)
theorem dX4_walks_38 : decode cX4_walks 38 = .ok (.istore 7, 2) := dk_54 7 (dk_at dksX4_walks_1 14 rfl rfl)
theorem dX4_walks_40 : decode cX4_walks 40 = .ok (.iload 7, 2) := dk_21 7 (dk_at dksX4_walks_1 16 rfl rfl)
theorem dX4_walks_42 : decode cX4_walks 42 = .ok (.bipush (-9), 2) := dk_16 247 (dk_at dksX4_walks_1 18 rfl rfl)
theorem dX4_walks_44 : decode cX4_walks 44 = .ok (.if_icmp .eq 42, 3) := dk_159 0 42 (dk_at dksX4_walks_1 20 rfl rfl)
theorem dX4_walks_47 : decode cX4_walks 47 = .ok (.iload_n 3, 1) := dk_29 (dk_at dksX4_walks_1 23 rfl rfl)
theorem dX4_walks_48 : decode cX4_walks 48 = .ok (.ifCond .eq 18, 3) := dk_153 0 18 (dk_at dksX4_walks_2 0 rfl rfl)
theorem dX4_walks_51 : decode cX4_walks 51 = .ok (.aload_n 0, 1) := dk_42 (dk_at dksX4_walks_2 3 rfl rfl)
theorem dX4_walks_52 : decode cX4_walks 52 = .ok (.iload 5, 2) := dk_21 5 (dk_at dksX4_walks_2 4 rfl rfl)
theorem dX4_walks_54 : decode cX4_walks 54 = .ok (.iload 6, 2) := dk_21 6 (dk_at dksX4_walks_2 6 rfl rfl)
theorem dX4_walks_56 : decode cX4_walks 56 = .ok (.invokevirtual 70, 3) := dk_182 0 70 (dk_at dksX4_walks_2 8 rfl rfl)
theorem dX4_walks_59 : decode cX4_walks 59 = .ok (.iconst 1, 1) := dk_4 (dk_at dksX4_walks_2 11 rfl rfl)
theorem dX4_walks_60 : decode cX4_walks 60 = .ok (.if_icmp .eq 26, 3) := dk_159 0 26 (dk_at dksX4_walks_2 12 rfl rfl)
theorem dX4_walks_63 : decode cX4_walks 63 = .ok (.goto 15, 3) := dk_167 0 15 (dk_at dksX4_walks_2 15 rfl rfl)
theorem dX4_walks_66 : decode cX4_walks 66 = .ok (.aload_n 0, 1) := dk_42 (dk_at dksX4_walks_2 18 rfl rfl)
theorem dX4_walks_67 : decode cX4_walks 67 = .ok (.iload 5, 2) := dk_21 5 (dk_at dksX4_walks_2 19 rfl rfl)
theorem dX4_walks_69 : decode cX4_walks 69 = .ok (.iload 6, 2) := dk_21 6 (dk_at dksX4_walks_2 21 rfl rfl)
theorem dX4_walks_71 : decode cX4_walks 71 = .ok (.iconst 1, 1) := dk_4 (dk_at dksX4_walks_2 23 rfl rfl)
theorem dX4_walks_72 : decode cX4_walks 72 = .ok (.invokevirtual 76, 3) := dk_182 0 76 (dk_at dksX4_walks_3 0 rfl rfl)
theorem dX4_walks_75 : decode cX4_walks 75 = .ok (.ifCond .eq 11, 3) := dk_153 0 11 (dk_at dksX4_walks_3 3 rfl rfl)
theorem dX4_walks_78 : decode cX4_walks 78 = .ok (.aload_n 0, 1) := dk_42 (dk_at dksX4_walks_3 6 rfl rfl)
theorem dX4_walks_79 : decode cX4_walks 79 = .ok (.iload 7, 2) := dk_21 7 (dk_at dksX4_walks_3 7 rfl rfl)
theorem dX4_walks_81 : decode cX4_walks 81 = .ok (.iload_n 1, 1) := dk_27 (dk_at dksX4_walks_3 9 rfl rfl)
theorem dX4_walks_82 : decode cX4_walks 82 = .ok (.iload_n 2, 1) := dk_28 (dk_at dksX4_walks_3 10 rfl rfl)
theorem dX4_walks_83 : decode cX4_walks 83 = .ok (.invokevirtual 80, 3) := dk_182 0 80 (dk_at dksX4_walks_3 11 rfl rfl)
theorem dX4_walks_86 : decode cX4_walks 86 = .ok (.aload_n 0, 1) := dk_42 (dk_at dksX4_walks_3 14 rfl rfl)
theorem dX4_walks_87 : decode cX4_walks 87 = .ok (.iload 5, 2) := dk_21 5 (dk_at dksX4_walks_3 15 rfl rfl)
theorem dX4_walks_89 : decode cX4_walks 89 = .ok (.iload 6, 2) := dk_21 6 (dk_at dksX4_walks_3 17 rfl rfl)
theorem dX4_walks_91 : decode cX4_walks 91 = .ok (.invokevirtual 84, 3) := dk_182 0 84 (dk_at dksX4_walks_3 19 rfl rfl)
theorem dX4_walks_94 : decode cX4_walks 94 = .ok (.istore 8, 2) := dk_54 8 (dk_at dksX4_walks_3 22 rfl rfl)
theorem dX4_walks_96 : decode cX4_walks 96 = .ok (.iload 8, 2) := dk_21 8 (dk_at dksX4_walks_4 0 rfl rfl)
theorem dX4_walks_98 : decode cX4_walks 98 = .ok (.bipush (-9), 2) := dk_16 247 (dk_at dksX4_walks_4 2 rfl rfl)
theorem dX4_walks_100 : decode cX4_walks 100 = .ok (.if_icmp .eq 42, 3) := dk_159 0 42 (dk_at dksX4_walks_4 4 rfl rfl)
theorem dX4_walks_103 : decode cX4_walks 103 = .ok (.iload_n 3, 1) := dk_29 (dk_at dksX4_walks_4 7 rfl rfl)
theorem dX4_walks_104 : decode cX4_walks 104 = .ok (.ifCond .eq 18, 3) := dk_153 0 18 (dk_at dksX4_walks_4 8 rfl rfl)
theorem dX4_walks_107 : decode cX4_walks 107 = .ok (.aload_n 0, 1) := dk_42 (dk_at dksX4_walks_4 11 rfl rfl)
theorem dX4_walks_108 : decode cX4_walks 108 = .ok (.iload 8, 2) := dk_21 8 (dk_at dksX4_walks_4 12 rfl rfl)
theorem dX4_walks_110 : decode cX4_walks 110 = .ok (.iload 6, 2) := dk_21 6 (dk_at dksX4_walks_4 14 rfl rfl)
theorem dX4_walks_112 : decode cX4_walks 112 = .ok (.invokevirtual 70, 3) := dk_182 0 70 (dk_at dksX4_walks_4 16 rfl rfl)
theorem dX4_walks_115 : decode cX4_walks 115 = .ok (.iconst 1, 1) := dk_4 (dk_at dksX4_walks_4 19 rfl rfl)
theorem dX4_walks_116 : decode cX4_walks 116 = .ok (.if_icmp .eq 26, 3) := dk_159 0 26 (dk_at dksX4_walks_4 20 rfl rfl)
theorem dX4_walks_119 : decode cX4_walks 119 = .ok (.goto 15, 3) := dk_167 0 15 (dk_at dksX4_walks_5 0 rfl rfl)
theorem dX4_walks_122 : decode cX4_walks 122 = .ok (.aload_n 0, 1) := dk_42 (dk_at dksX4_walks_5 3 rfl rfl)
theorem dX4_walks_123 : decode cX4_walks 123 = .ok (.iload 8, 2) := dk_21 8 (dk_at dksX4_walks_5 4 rfl rfl)
theorem dX4_walks_125 : decode cX4_walks 125 = .ok (.iload 6, 2) := dk_21 6 (dk_at dksX4_walks_5 6 rfl rfl)
theorem dX4_walks_127 : decode cX4_walks 127 = .ok (.iconst 0, 1) := dk_3 (dk_at dksX4_walks_5 8 rfl rfl)
theorem dX4_walks_128 : decode cX4_walks 128 = .ok (.invokevirtual 76, 3) := dk_182 0 76 (dk_at dksX4_walks_5 9 rfl rfl)
theorem dX4_walks_131 : decode cX4_walks 131 = .ok (.ifCond .eq 11, 3) := dk_153 0 11 (dk_at dksX4_walks_5 12 rfl rfl)
theorem dX4_walks_134 : decode cX4_walks 134 = .ok (.aload_n 0, 1) := dk_42 (dk_at dksX4_walks_5 15 rfl rfl)
theorem dX4_walks_135 : decode cX4_walks 135 = .ok (.iload 8, 2) := dk_21 8 (dk_at dksX4_walks_5 16 rfl rfl)
theorem dX4_walks_137 : decode cX4_walks 137 = .ok (.iload_n 1, 1) := dk_27 (dk_at dksX4_walks_5 18 rfl rfl)
theorem dX4_walks_138 : decode cX4_walks 138 = .ok (.iload_n 2, 1) := dk_28 (dk_at dksX4_walks_5 19 rfl rfl)
theorem dX4_walks_139 : decode cX4_walks 139 = .ok (.invokevirtual 80, 3) := dk_182 0 80 (dk_at dksX4_walks_5 20 rfl rfl)
theorem dX4_walks_142 : decode cX4_walks 142 = .ok (.iinc 6 1, 3) := dk_132 6 1 (dk_at dksX4_walks_6 0 rfl rfl)
theorem dX4_walks_145 : decode cX4_walks 145 = .ok (.goto (-121), 3) := dk_167 255 135 (dk_at dksX4_walks_6 3 rfl rfl)
theorem dX4_walks_148 : decode cX4_walks 148 = .ok (.iinc 4 1, 3) := dk_132 4 1 (dk_at dksX4_walks_6 6 rfl rfl)
theorem dX4_walks_151 : decode cX4_walks 151 = .ok (.goto (-148), 3) := dk_167 255 108 (dk_at dksX4_walks_6 9 rfl rfl)
theorem dX4_walks_154 : decode cX4_walks 154 = .ok (.return_, 1) := dk_177 (dk_at dksX4_walks_6 12 rfl rfl)
abbrev cX4_first : ByteArray := prog_20_method_13_code
def yX4_first : MethodName := ⟨RX4, "first", "(II)I"⟩
def dkwX4_first_3 : List UInt8 := [16, 247, 172]
abbrev dktX4_first_3 : List UInt8 := dkwX4_first_3 ++ []
def dkwX4_first_2 : List UInt8 := [62, 42, 29, 182, 0, 54, 153, 0, 17, 42, 29, 28, 182, 0, 62, 27, 160, 0, 7, 29, 167, 0, 5]
abbrev dktX4_first_2 : List UInt8 := dkwX4_first_2 ++ dktX4_first_3
def dkwX4_first_1 : List UInt8 := [5, 160, 0, 14, 42, 180, 0, 7, 3, 46, 4, 100, 167, 0, 11, 42, 180, 0, 7, 3, 46, 4, 96, 100]
abbrev dktX4_first_1 : List UInt8 := dkwX4_first_1 ++ dktX4_first_2
def dkwX4_first_0 : List UInt8 := [27, 28, 154, 0, 7, 4, 167, 0, 41, 28, 4, 160, 0, 12, 42, 180, 0, 7, 3, 46, 167, 0, 27, 28]
abbrev dktX4_first_0 : List UInt8 := dkwX4_first_0 ++ dktX4_first_1
theorem dksX4_first_0 : cX4_first.data.toList.drop 0 = dktX4_first_0 := by decide +kernel
theorem dksX4_first_1 : cX4_first.data.toList.drop 24 = dktX4_first_1 := dk_seg dksX4_first_0 24 rfl rfl
theorem dksX4_first_2 : cX4_first.data.toList.drop 48 = dktX4_first_2 := dk_seg dksX4_first_1 24 rfl rfl
theorem dksX4_first_3 : cX4_first.data.toList.drop 71 = dktX4_first_3 := dk_seg dksX4_first_2 23 rfl rfl
theorem dX4_first_0 : decode cX4_first 0 = .ok (.iload_n 1, 1) := dk_27 (dk_at dksX4_first_0 0 rfl rfl)
theorem dX4_first_1 : decode cX4_first 1 = .ok (.iload_n 2, 1) := dk_28 (dk_at dksX4_first_0 1 rfl rfl)
theorem dX4_first_2 : decode cX4_first 2 = .ok (.ifCond .ne 7, 3) := dk_154 0 7 (dk_at dksX4_first_0 2 rfl rfl)
theorem dX4_first_5 : decode cX4_first 5 = .ok (.iconst 1, 1) := dk_4 (dk_at dksX4_first_0 5 rfl rfl)
theorem dX4_first_6 : decode cX4_first 6 = .ok (.goto 41, 3) := dk_167 0 41 (dk_at dksX4_first_0 6 rfl rfl)
theorem dX4_first_9 : decode cX4_first 9 = .ok (.iload_n 2, 1) := dk_28 (dk_at dksX4_first_0 9 rfl rfl)
theorem dX4_first_10 : decode cX4_first 10 = .ok (.iconst 1, 1) := dk_4 (dk_at dksX4_first_0 10 rfl rfl)
theorem dX4_first_11 : decode cX4_first 11 = .ok (.if_icmp .ne 12, 3) := dk_160 0 12 (dk_at dksX4_first_0 11 rfl rfl)
theorem dX4_first_14 : decode cX4_first 14 = .ok (.aload_n 0, 1) := dk_42 (dk_at dksX4_first_0 14 rfl rfl)
theorem dX4_first_15 : decode cX4_first 15 = .ok (.getfield 7, 3) := dk_180 0 7 (dk_at dksX4_first_0 15 rfl rfl)
theorem dX4_first_18 : decode cX4_first 18 = .ok (.iconst 0, 1) := dk_3 (dk_at dksX4_first_0 18 rfl rfl)
theorem dX4_first_19 : decode cX4_first 19 = .ok (.iaload, 1) := dk_46 (dk_at dksX4_first_0 19 rfl rfl)
theorem dX4_first_20 : decode cX4_first 20 = .ok (.goto 27, 3) := dk_167 0 27 (dk_at dksX4_first_0 20 rfl rfl)
theorem dX4_first_23 : decode cX4_first 23 = .ok (.iload_n 2, 1) := dk_28 (dk_at dksX4_first_0 23 rfl rfl)
theorem dX4_first_24 : decode cX4_first 24 = .ok (.iconst 2, 1) := dk_5 (dk_at dksX4_first_1 0 rfl rfl)
theorem dX4_first_25 : decode cX4_first 25 = .ok (.if_icmp .ne 14, 3) := dk_160 0 14 (dk_at dksX4_first_1 1 rfl rfl)
theorem dX4_first_28 : decode cX4_first 28 = .ok (.aload_n 0, 1) := dk_42 (dk_at dksX4_first_1 4 rfl rfl)
theorem dX4_first_29 : decode cX4_first 29 = .ok (.getfield 7, 3) := dk_180 0 7 (dk_at dksX4_first_1 5 rfl rfl)
theorem dX4_first_32 : decode cX4_first 32 = .ok (.iconst 0, 1) := dk_3 (dk_at dksX4_first_1 8 rfl rfl)
theorem dX4_first_33 : decode cX4_first 33 = .ok (.iaload, 1) := dk_46 (dk_at dksX4_first_1 9 rfl rfl)
theorem dX4_first_34 : decode cX4_first 34 = .ok (.iconst 1, 1) := dk_4 (dk_at dksX4_first_1 10 rfl rfl)
theorem dX4_first_35 : decode cX4_first 35 = .ok (.isub, 1) := dk_100 (dk_at dksX4_first_1 11 rfl rfl)
theorem dX4_first_36 : decode cX4_first 36 = .ok (.goto 11, 3) := dk_167 0 11 (dk_at dksX4_first_1 12 rfl rfl)
theorem dX4_first_39 : decode cX4_first 39 = .ok (.aload_n 0, 1) := dk_42 (dk_at dksX4_first_1 15 rfl rfl)
theorem dX4_first_40 : decode cX4_first 40 = .ok (.getfield 7, 3) := dk_180 0 7 (dk_at dksX4_first_1 16 rfl rfl)
theorem dX4_first_43 : decode cX4_first 43 = .ok (.iconst 0, 1) := dk_3 (dk_at dksX4_first_1 19 rfl rfl)
theorem dX4_first_44 : decode cX4_first 44 = .ok (.iaload, 1) := dk_46 (dk_at dksX4_first_1 20 rfl rfl)
theorem dX4_first_45 : decode cX4_first 45 = .ok (.iconst 1, 1) := dk_4 (dk_at dksX4_first_1 21 rfl rfl)
theorem dX4_first_46 : decode cX4_first 46 = .ok (.iadd, 1) := dk_96 (dk_at dksX4_first_1 22 rfl rfl)
theorem dX4_first_47 : decode cX4_first 47 = .ok (.isub, 1) := dk_100 (dk_at dksX4_first_1 23 rfl rfl)
theorem dX4_first_48 : decode cX4_first 48 = .ok (.istore_n 3, 1) := dk_62 (dk_at dksX4_first_2 0 rfl rfl)
theorem dX4_first_49 : decode cX4_first 49 = .ok (.aload_n 0, 1) := dk_42 (dk_at dksX4_first_2 1 rfl rfl)
theorem dX4_first_50 : decode cX4_first 50 = .ok (.iload_n 3, 1) := dk_29 (dk_at dksX4_first_2 2 rfl rfl)
theorem dX4_first_51 : decode cX4_first 51 = .ok (.invokevirtual 54, 3) := dk_182 0 54 (dk_at dksX4_first_2 3 rfl rfl)
theorem dX4_first_54 : decode cX4_first 54 = .ok (.ifCond .eq 17, 3) := dk_153 0 17 (dk_at dksX4_first_2 6 rfl rfl)
theorem dX4_first_57 : decode cX4_first 57 = .ok (.aload_n 0, 1) := dk_42 (dk_at dksX4_first_2 9 rfl rfl)
theorem dX4_first_58 : decode cX4_first 58 = .ok (.iload_n 3, 1) := dk_29 (dk_at dksX4_first_2 10 rfl rfl)
theorem dX4_first_59 : decode cX4_first 59 = .ok (.iload_n 2, 1) := dk_28 (dk_at dksX4_first_2 11 rfl rfl)
theorem dX4_first_60 : decode cX4_first 60 = .ok (.invokevirtual 62, 3) := dk_182 0 62 (dk_at dksX4_first_2 12 rfl rfl)
theorem dX4_first_63 : decode cX4_first 63 = .ok (.iload_n 1, 1) := dk_27 (dk_at dksX4_first_2 15 rfl rfl)
theorem dX4_first_64 : decode cX4_first 64 = .ok (.if_icmp .ne 7, 3) := dk_160 0 7 (dk_at dksX4_first_2 16 rfl rfl)
theorem dX4_first_67 : decode cX4_first 67 = .ok (.iload_n 3, 1) := dk_29 (dk_at dksX4_first_2 19 rfl rfl)
theorem dX4_first_68 : decode cX4_first 68 = .ok (.goto 5, 3) := dk_167 0 5 (dk_at dksX4_first_2 20 rfl rfl)
theorem dX4_first_71 : decode cX4_first 71 = .ok (.bipush (-9), 2) := dk_16 247 (dk_at dksX4_first_3 0 rfl rfl)
theorem dX4_first_73 : decode cX4_first 73 = .ok (.ireturn, 1) := dk_172 (dk_at dksX4_first_3 2 rfl rfl)
abbrev cX4_clogged : ByteArray := prog_20_method_46_code
def yX4_clogged : MethodName := ⟨RX4, "clogged", "()I"⟩
def dkwX4_clogged_1 : List UInt8 := [60, 132, 2, 1, 167, 255, 232, 27, 172]
abbrev dktX4_clogged_1 : List UInt8 := dkwX4_clogged_1 ++ []
def dkwX4_clogged_0 : List UInt8 := [3, 60, 3, 61, 28, 42, 182, 0, 46, 162, 0, 22, 27, 42, 180, 0, 7, 17, 2, 55, 28, 96, 46, 96]
abbrev dktX4_clogged_0 : List UInt8 := dkwX4_clogged_0 ++ dktX4_clogged_1
theorem dksX4_clogged_0 : cX4_clogged.data.toList.drop 0 = dktX4_clogged_0 := by decide +kernel
theorem dksX4_clogged_1 : cX4_clogged.data.toList.drop 24 = dktX4_clogged_1 := dk_seg dksX4_clogged_0 24 rfl rfl
theorem dX4_clogged_0 : decode cX4_clogged 0 = .ok (.iconst 0, 1) := dk_3 (dk_at dksX4_clogged_0 0 rfl rfl)
theorem dX4_clogged_1 : decode cX4_clogged 1 = .ok (.istore_n 1, 1) := dk_60 (dk_at dksX4_clogged_0 1 rfl rfl)
theorem dX4_clogged_2 : decode cX4_clogged 2 = .ok (.iconst 0, 1) := dk_3 (dk_at dksX4_clogged_0 2 rfl rfl)
theorem dX4_clogged_3 : decode cX4_clogged 3 = .ok (.istore_n 2, 1) := dk_61 (dk_at dksX4_clogged_0 3 rfl rfl)
theorem dX4_clogged_4 : decode cX4_clogged 4 = .ok (.iload_n 2, 1) := dk_28 (dk_at dksX4_clogged_0 4 rfl rfl)
theorem dX4_clogged_5 : decode cX4_clogged 5 = .ok (.aload_n 0, 1) := dk_42 (dk_at dksX4_clogged_0 5 rfl rfl)
theorem dX4_clogged_6 : decode cX4_clogged 6 = .ok (.invokevirtual 46, 3) := dk_182 0 46 (dk_at dksX4_clogged_0 6 rfl rfl)
theorem dX4_clogged_9 : decode cX4_clogged 9 = .ok (.if_icmp .ge 22, 3) := dk_162 0 22 (dk_at dksX4_clogged_0 9 rfl rfl)
theorem dX4_clogged_12 : decode cX4_clogged 12 = .ok (.iload_n 1, 1) := dk_27 (dk_at dksX4_clogged_0 12 rfl rfl)
theorem dX4_clogged_13 : decode cX4_clogged 13 = .ok (.aload_n 0, 1) := dk_42 (dk_at dksX4_clogged_0 13 rfl rfl)
theorem dX4_clogged_14 : decode cX4_clogged 14 = .ok (.getfield 7, 3) := dk_180 0 7 (dk_at dksX4_clogged_0 14 rfl rfl)
theorem dX4_clogged_17 : decode cX4_clogged 17 = .ok (.sipush 567, 3) := dk_17 2 55 (dk_at dksX4_clogged_0 17 rfl rfl)
theorem dX4_clogged_20 : decode cX4_clogged 20 = .ok (.iload_n 2, 1) := dk_28 (dk_at dksX4_clogged_0 20 rfl rfl)
theorem dX4_clogged_21 : decode cX4_clogged 21 = .ok (.iadd, 1) := dk_96 (dk_at dksX4_clogged_0 21 rfl rfl)
theorem dX4_clogged_22 : decode cX4_clogged 22 = .ok (.iaload, 1) := dk_46 (dk_at dksX4_clogged_0 22 rfl rfl)
theorem dX4_clogged_23 : decode cX4_clogged 23 = .ok (.iadd, 1) := dk_96 (dk_at dksX4_clogged_0 23 rfl rfl)
theorem dX4_clogged_24 : decode cX4_clogged 24 = .ok (.istore_n 1, 1) := dk_60 (dk_at dksX4_clogged_1 0 rfl rfl)
theorem dX4_clogged_25 : decode cX4_clogged 25 = .ok (.iinc 2 1, 3) := dk_132 2 1 (dk_at dksX4_clogged_1 1 rfl rfl)
theorem dX4_clogged_28 : decode cX4_clogged 28 = .ok (.goto (-24), 3) := dk_167 255 232 (dk_at dksX4_clogged_1 4 rfl rfl)
theorem dX4_clogged_31 : decode cX4_clogged 31 = .ok (.iload_n 1, 1) := dk_27 (dk_at dksX4_clogged_1 7 rfl rfl)
theorem dX4_clogged_32 : decode cX4_clogged 32 = .ok (.ireturn, 1) := dk_172 (dk_at dksX4_clogged_1 8 rfl rfl)
abbrev cX4_cell : ByteArray := prog_20_method_49_code
def yX4_cell : MethodName := ⟨RX4, "cell", "(II)I"⟩
def dkwX4_cell_5 : List UInt8 := [182, 0, 144, 172, 2, 172]
abbrev dktX4_cell_5 : List UInt8 := dkwX4_cell_5 ++ []
def dkwX4_cell_4 : List UInt8 := [27, 96, 46, 172, 42, 180, 0, 7, 17, 2, 55, 27, 96, 46, 172, 42, 180, 0, 29, 27, 46, 172, 42, 27]
abbrev dktX4_cell_4 : List UInt8 := dkwX4_cell_4 ++ dktX4_cell_5
def dkwX4_cell_3 : List UInt8 := [4, 167, 0, 4, 3, 172, 42, 180, 0, 7, 17, 1, 151, 27, 96, 46, 172, 42, 180, 0, 7, 17, 1, 231]
abbrev dktX4_cell_3 : List UInt8 := dkwX4_cell_3 ++ dktX4_cell_4
def dkwX4_cell_2 : List UInt8 := [42, 180, 0, 7, 16, 7, 27, 96, 46, 172, 42, 27, 42, 180, 0, 7, 6, 46, 182, 0, 66, 153, 0, 7]
abbrev dktX4_cell_2 : List UInt8 := dkwX4_cell_2 ++ dktX4_cell_3
def dkwX4_cell_1 : List UInt8 := [170, 0, 0, 0, 0, 0, 119, 0, 0, 0, 0, 0, 0, 0, 6, 0, 0, 0, 43, 0, 0, 0, 53, 0, 0, 0, 73, 0, 0, 0, 84, 0, 0, 0, 95, 0, 0, 0, 106, 0, 0, 0, 113]
abbrev dktX4_cell_1 : List UInt8 := dkwX4_cell_1 ++ dktX4_cell_2
def dkwX4_cell_0 : List UInt8 := [42, 27, 182, 0, 54, 154, 0, 5, 2, 172, 42, 42, 180, 0, 7, 6, 46, 182, 0, 135, 28]
abbrev dktX4_cell_0 : List UInt8 := dkwX4_cell_0 ++ dktX4_cell_1
theorem dksX4_cell_0 : cX4_cell.data.toList.drop 0 = dktX4_cell_0 := by decide +kernel
theorem dksX4_cell_1 : cX4_cell.data.toList.drop 21 = dktX4_cell_1 := dk_seg dksX4_cell_0 21 rfl rfl
theorem dksX4_cell_2 : cX4_cell.data.toList.drop 64 = dktX4_cell_2 := dk_seg dksX4_cell_1 43 rfl rfl
theorem dksX4_cell_3 : cX4_cell.data.toList.drop 88 = dktX4_cell_3 := dk_seg dksX4_cell_2 24 rfl rfl
theorem dksX4_cell_4 : cX4_cell.data.toList.drop 112 = dktX4_cell_4 := dk_seg dksX4_cell_3 24 rfl rfl
theorem dksX4_cell_5 : cX4_cell.data.toList.drop 136 = dktX4_cell_5 := dk_seg dksX4_cell_4 24 rfl rfl
theorem dX4_cell_0 : decode cX4_cell 0 = .ok (.aload_n 0, 1) := dk_42 (dk_at dksX4_cell_0 0 rfl rfl)
theorem dX4_cell_1 : decode cX4_cell 1 = .ok (.iload_n 1, 1) := dk_27 (dk_at dksX4_cell_0 1 rfl rfl)
theorem dX4_cell_2 : decode cX4_cell 2 = .ok (.invokevirtual 54, 3) := dk_182 0 54 (dk_at dksX4_cell_0 2 rfl rfl)
theorem dX4_cell_5 : decode cX4_cell 5 = .ok (.ifCond .ne 5, 3) := dk_154 0 5 (dk_at dksX4_cell_0 5 rfl rfl)
theorem dX4_cell_8 : decode cX4_cell 8 = .ok (.iconst (-1), 1) := dk_2 (dk_at dksX4_cell_0 8 rfl rfl)
theorem dX4_cell_9 : decode cX4_cell 9 = .ok (.ireturn, 1) := dk_172 (dk_at dksX4_cell_0 9 rfl rfl)
theorem dX4_cell_10 : decode cX4_cell 10 = .ok (.aload_n 0, 1) := dk_42 (dk_at dksX4_cell_0 10 rfl rfl)
theorem dX4_cell_11 : decode cX4_cell 11 = .ok (.aload_n 0, 1) := dk_42 (dk_at dksX4_cell_0 11 rfl rfl)
theorem dX4_cell_12 : decode cX4_cell 12 = .ok (.getfield 7, 3) := dk_180 0 7 (dk_at dksX4_cell_0 12 rfl rfl)
theorem dX4_cell_15 : decode cX4_cell 15 = .ok (.iconst 3, 1) := dk_6 (dk_at dksX4_cell_0 15 rfl rfl)
theorem dX4_cell_16 : decode cX4_cell 16 = .ok (.iaload, 1) := dk_46 (dk_at dksX4_cell_0 16 rfl rfl)
theorem dX4_cell_17 : decode cX4_cell 17 = .ok (.invokevirtual 135, 3) := dk_182 0 135 (dk_at dksX4_cell_0 17 rfl rfl)
theorem dX4_cell_20 : decode cX4_cell 20 = .ok (.iload_n 2, 1) := dk_28 (dk_at dksX4_cell_0 20 rfl rfl)
theorem dX4_cell_21 : decode cX4_cell 21 = .ok (.tableswitch 119 0 6 #[43, 53, 73, 84, 95, 106, 113], 43) := by decide +kernel
theorem dX4_cell_64 : decode cX4_cell 64 = .ok (.aload_n 0, 1) := dk_42 (dk_at dksX4_cell_2 0 rfl rfl)
theorem dX4_cell_65 : decode cX4_cell 65 = .ok (.getfield 7, 3) := dk_180 0 7 (dk_at dksX4_cell_2 1 rfl rfl)
theorem dX4_cell_68 : decode cX4_cell 68 = .ok (.bipush 7, 2) := dk_16 7 (dk_at dksX4_cell_2 4 rfl rfl)
theorem dX4_cell_70 : decode cX4_cell 70 = .ok (.iload_n 1, 1) := dk_27 (dk_at dksX4_cell_2 6 rfl rfl)
theorem dX4_cell_71 : decode cX4_cell 71 = .ok (.iadd, 1) := dk_96 (dk_at dksX4_cell_2 7 rfl rfl)
theorem dX4_cell_72 : decode cX4_cell 72 = .ok (.iaload, 1) := dk_46 (dk_at dksX4_cell_2 8 rfl rfl)
theorem dX4_cell_73 : decode cX4_cell 73 = .ok (.ireturn, 1) := dk_172 (dk_at dksX4_cell_2 9 rfl rfl)
theorem dX4_cell_74 : decode cX4_cell 74 = .ok (.aload_n 0, 1) := dk_42 (dk_at dksX4_cell_2 10 rfl rfl)
theorem dX4_cell_75 : decode cX4_cell 75 = .ok (.iload_n 1, 1) := dk_27 (dk_at dksX4_cell_2 11 rfl rfl)
theorem dX4_cell_76 : decode cX4_cell 76 = .ok (.aload_n 0, 1) := dk_42 (dk_at dksX4_cell_2 12 rfl rfl)
theorem dX4_cell_77 : decode cX4_cell 77 = .ok (.getfield 7, 3) := dk_180 0 7 (dk_at dksX4_cell_2 13 rfl rfl)
theorem dX4_cell_80 : decode cX4_cell 80 = .ok (.iconst 3, 1) := dk_6 (dk_at dksX4_cell_2 16 rfl rfl)
theorem dX4_cell_81 : decode cX4_cell 81 = .ok (.iaload, 1) := dk_46 (dk_at dksX4_cell_2 17 rfl rfl)
theorem dX4_cell_82 : decode cX4_cell 82 = .ok (.invokevirtual 66, 3) := dk_182 0 66 (dk_at dksX4_cell_2 18 rfl rfl)
theorem dX4_cell_85 : decode cX4_cell 85 = .ok (.ifCond .eq 7, 3) := dk_153 0 7 (dk_at dksX4_cell_2 21 rfl rfl)
theorem dX4_cell_88 : decode cX4_cell 88 = .ok (.iconst 1, 1) := dk_4 (dk_at dksX4_cell_3 0 rfl rfl)
theorem dX4_cell_89 : decode cX4_cell 89 = .ok (.goto 4, 3) := dk_167 0 4 (dk_at dksX4_cell_3 1 rfl rfl)
theorem dX4_cell_92 : decode cX4_cell 92 = .ok (.iconst 0, 1) := dk_3 (dk_at dksX4_cell_3 4 rfl rfl)
theorem dX4_cell_93 : decode cX4_cell 93 = .ok (.ireturn, 1) := dk_172 (dk_at dksX4_cell_3 5 rfl rfl)
theorem dX4_cell_94 : decode cX4_cell 94 = .ok (.aload_n 0, 1) := dk_42 (dk_at dksX4_cell_3 6 rfl rfl)
theorem dX4_cell_95 : decode cX4_cell 95 = .ok (.getfield 7, 3) := dk_180 0 7 (dk_at dksX4_cell_3 7 rfl rfl)
theorem dX4_cell_98 : decode cX4_cell 98 = .ok (.sipush 407, 3) := dk_17 1 151 (dk_at dksX4_cell_3 10 rfl rfl)
theorem dX4_cell_101 : decode cX4_cell 101 = .ok (.iload_n 1, 1) := dk_27 (dk_at dksX4_cell_3 13 rfl rfl)
theorem dX4_cell_102 : decode cX4_cell 102 = .ok (.iadd, 1) := dk_96 (dk_at dksX4_cell_3 14 rfl rfl)
theorem dX4_cell_103 : decode cX4_cell 103 = .ok (.iaload, 1) := dk_46 (dk_at dksX4_cell_3 15 rfl rfl)
theorem dX4_cell_104 : decode cX4_cell 104 = .ok (.ireturn, 1) := dk_172 (dk_at dksX4_cell_3 16 rfl rfl)
theorem dX4_cell_105 : decode cX4_cell 105 = .ok (.aload_n 0, 1) := dk_42 (dk_at dksX4_cell_3 17 rfl rfl)
theorem dX4_cell_106 : decode cX4_cell 106 = .ok (.getfield 7, 3) := dk_180 0 7 (dk_at dksX4_cell_3 18 rfl rfl)
theorem dX4_cell_109 : decode cX4_cell 109 = .ok (.sipush 487, 3) := dk_17 1 231 (dk_at dksX4_cell_3 21 rfl rfl)
theorem dX4_cell_112 : decode cX4_cell 112 = .ok (.iload_n 1, 1) := dk_27 (dk_at dksX4_cell_4 0 rfl rfl)
theorem dX4_cell_113 : decode cX4_cell 113 = .ok (.iadd, 1) := dk_96 (dk_at dksX4_cell_4 1 rfl rfl)
theorem dX4_cell_114 : decode cX4_cell 114 = .ok (.iaload, 1) := dk_46 (dk_at dksX4_cell_4 2 rfl rfl)
theorem dX4_cell_115 : decode cX4_cell 115 = .ok (.ireturn, 1) := dk_172 (dk_at dksX4_cell_4 3 rfl rfl)
theorem dX4_cell_116 : decode cX4_cell 116 = .ok (.aload_n 0, 1) := dk_42 (dk_at dksX4_cell_4 4 rfl rfl)
theorem dX4_cell_117 : decode cX4_cell 117 = .ok (.getfield 7, 3) := dk_180 0 7 (dk_at dksX4_cell_4 5 rfl rfl)
theorem dX4_cell_120 : decode cX4_cell 120 = .ok (.sipush 567, 3) := dk_17 2 55 (dk_at dksX4_cell_4 8 rfl rfl)
theorem dX4_cell_123 : decode cX4_cell 123 = .ok (.iload_n 1, 1) := dk_27 (dk_at dksX4_cell_4 11 rfl rfl)
theorem dX4_cell_124 : decode cX4_cell 124 = .ok (.iadd, 1) := dk_96 (dk_at dksX4_cell_4 12 rfl rfl)
theorem dX4_cell_125 : decode cX4_cell 125 = .ok (.iaload, 1) := dk_46 (dk_at dksX4_cell_4 13 rfl rfl)
theorem dX4_cell_126 : decode cX4_cell 126 = .ok (.ireturn, 1) := dk_172 (dk_at dksX4_cell_4 14 rfl rfl)
theorem dX4_cell_127 : decode cX4_cell 127 = .ok (.aload_n 0, 1) := dk_42 (dk_at dksX4_cell_4 15 rfl rfl)
theorem dX4_cell_128 : decode cX4_cell 128 = .ok (.getfield 29, 3) := dk_180 0 29 (dk_at dksX4_cell_4 16 rfl rfl)
theorem dX4_cell_131 : decode cX4_cell 131 = .ok (.iload_n 1, 1) := dk_27 (dk_at dksX4_cell_4 19 rfl rfl)
theorem dX4_cell_132 : decode cX4_cell 132 = .ok (.iaload, 1) := dk_46 (dk_at dksX4_cell_4 20 rfl rfl)
theorem dX4_cell_133 : decode cX4_cell 133 = .ok (.ireturn, 1) := dk_172 (dk_at dksX4_cell_4 21 rfl rfl)
theorem dX4_cell_134 : decode cX4_cell 134 = .ok (.aload_n 0, 1) := dk_42 (dk_at dksX4_cell_4 22 rfl rfl)
theorem dX4_cell_135 : decode cX4_cell 135 = .ok (.iload_n 1, 1) := dk_27 (dk_at dksX4_cell_4 23 rfl rfl)
theorem dX4_cell_136 : decode cX4_cell 136 = .ok (.invokevirtual 144, 3) := dk_182 0 144 (dk_at dksX4_cell_5 0 rfl rfl)
theorem dX4_cell_139 : decode cX4_cell 139 = .ok (.ireturn, 1) := dk_172 (dk_at dksX4_cell_5 3 rfl rfl)
theorem dX4_cell_140 : decode cX4_cell 140 = .ok (.iconst (-1), 1) := dk_2 (dk_at dksX4_cell_5 4 rfl rfl)
theorem dX4_cell_141 : decode cX4_cell 141 = .ok (.ireturn, 1) := dk_172 (dk_at dksX4_cell_5 5 rfl rfl)
abbrev cX4_endsAt : ByteArray := prog_20_method_48_code
def yX4_endsAt : MethodName := ⟨RX4, "endsAt", "(I)I"⟩
def dkwX4_endsAt_2 : List UInt8 := [160, 0, 7, 4, 167, 0, 4, 3, 96, 61, 132, 4, 1, 167, 255, 212, 132, 3, 1, 167, 255, 195, 28, 172]
abbrev dktX4_endsAt_2 : List UInt8 := dkwX4_endsAt_2 ++ []
def dkwX4_endsAt_1 : List UInt8 := [21, 4, 182, 0, 62, 54, 5, 28, 21, 5, 16, 247, 159, 0, 18, 29, 27, 159, 0, 9, 21, 5, 27]
abbrev dktX4_endsAt_1 : List UInt8 := dkwX4_endsAt_1 ++ dktX4_endsAt_2
def dkwX4_endsAt_0 : List UInt8 := [3, 61, 3, 62, 29, 42, 182, 0, 46, 162, 0, 59, 3, 54, 4, 21, 4, 7, 162, 0, 44, 42, 29]
abbrev dktX4_endsAt_0 : List UInt8 := dkwX4_endsAt_0 ++ dktX4_endsAt_1
theorem dksX4_endsAt_0 : cX4_endsAt.data.toList.drop 0 = dktX4_endsAt_0 := by decide +kernel
theorem dksX4_endsAt_1 : cX4_endsAt.data.toList.drop 23 = dktX4_endsAt_1 := dk_seg dksX4_endsAt_0 23 rfl rfl
theorem dksX4_endsAt_2 : cX4_endsAt.data.toList.drop 46 = dktX4_endsAt_2 := dk_seg dksX4_endsAt_1 23 rfl rfl
theorem dX4_endsAt_0 : decode cX4_endsAt 0 = .ok (.iconst 0, 1) := dk_3 (dk_at dksX4_endsAt_0 0 rfl rfl)
theorem dX4_endsAt_1 : decode cX4_endsAt 1 = .ok (.istore_n 2, 1) := dk_61 (dk_at dksX4_endsAt_0 1 rfl rfl)
theorem dX4_endsAt_2 : decode cX4_endsAt 2 = .ok (.iconst 0, 1) := dk_3 (dk_at dksX4_endsAt_0 2 rfl rfl)
theorem dX4_endsAt_3 : decode cX4_endsAt 3 = .ok (.istore_n 3, 1) := dk_62 (dk_at dksX4_endsAt_0 3 rfl rfl)
theorem dX4_endsAt_4 : decode cX4_endsAt 4 = .ok (.iload_n 3, 1) := dk_29 (dk_at dksX4_endsAt_0 4 rfl rfl)
theorem dX4_endsAt_5 : decode cX4_endsAt 5 = .ok (.aload_n 0, 1) := dk_42 (dk_at dksX4_endsAt_0 5 rfl rfl)
theorem dX4_endsAt_6 : decode cX4_endsAt 6 = .ok (.invokevirtual 46, 3) := dk_182 0 46 (dk_at dksX4_endsAt_0 6 rfl rfl)
theorem dX4_endsAt_9 : decode cX4_endsAt 9 = .ok (.if_icmp .ge 59, 3) := dk_162 0 59 (dk_at dksX4_endsAt_0 9 rfl rfl)
theorem dX4_endsAt_12 : decode cX4_endsAt 12 = .ok (.iconst 0, 1) := dk_3 (dk_at dksX4_endsAt_0 12 rfl rfl)
theorem dX4_endsAt_13 : decode cX4_endsAt 13 = .ok (.istore 4, 2) := dk_54 4 (dk_at dksX4_endsAt_0 13 rfl rfl)
theorem dX4_endsAt_15 : decode cX4_endsAt 15 = .ok (.iload 4, 2) := dk_21 4 (dk_at dksX4_endsAt_0 15 rfl rfl)
theorem dX4_endsAt_17 : decode cX4_endsAt 17 = .ok (.iconst 4, 1) := dk_7 (dk_at dksX4_endsAt_0 17 rfl rfl)
theorem dX4_endsAt_18 : decode cX4_endsAt 18 = .ok (.if_icmp .ge 44, 3) := dk_162 0 44 (dk_at dksX4_endsAt_0 18 rfl rfl)
theorem dX4_endsAt_21 : decode cX4_endsAt 21 = .ok (.aload_n 0, 1) := dk_42 (dk_at dksX4_endsAt_0 21 rfl rfl)
theorem dX4_endsAt_22 : decode cX4_endsAt 22 = .ok (.iload_n 3, 1) := dk_29 (dk_at dksX4_endsAt_0 22 rfl rfl)
theorem dX4_endsAt_23 : decode cX4_endsAt 23 = .ok (.iload 4, 2) := dk_21 4 (dk_at dksX4_endsAt_1 0 rfl rfl)
theorem dX4_endsAt_25 : decode cX4_endsAt 25 = .ok (.invokevirtual 62, 3) := dk_182 0 62 (dk_at dksX4_endsAt_1 2 rfl rfl)
theorem dX4_endsAt_28 : decode cX4_endsAt 28 = .ok (.istore 5, 2) := dk_54 5 (dk_at dksX4_endsAt_1 5 rfl rfl)
theorem dX4_endsAt_30 : decode cX4_endsAt 30 = .ok (.iload_n 2, 1) := dk_28 (dk_at dksX4_endsAt_1 7 rfl rfl)
theorem dX4_endsAt_31 : decode cX4_endsAt 31 = .ok (.iload 5, 2) := dk_21 5 (dk_at dksX4_endsAt_1 8 rfl rfl)
theorem dX4_endsAt_33 : decode cX4_endsAt 33 = .ok (.bipush (-9), 2) := dk_16 247 (dk_at dksX4_endsAt_1 10 rfl rfl)
theorem dX4_endsAt_35 : decode cX4_endsAt 35 = .ok (.if_icmp .eq 18, 3) := dk_159 0 18 (dk_at dksX4_endsAt_1 12 rfl rfl)
theorem dX4_endsAt_38 : decode cX4_endsAt 38 = .ok (.iload_n 3, 1) := dk_29 (dk_at dksX4_endsAt_1 15 rfl rfl)
theorem dX4_endsAt_39 : decode cX4_endsAt 39 = .ok (.iload_n 1, 1) := dk_27 (dk_at dksX4_endsAt_1 16 rfl rfl)
theorem dX4_endsAt_40 : decode cX4_endsAt 40 = .ok (.if_icmp .eq 9, 3) := dk_159 0 9 (dk_at dksX4_endsAt_1 17 rfl rfl)
theorem dX4_endsAt_43 : decode cX4_endsAt 43 = .ok (.iload 5, 2) := dk_21 5 (dk_at dksX4_endsAt_1 20 rfl rfl)
theorem dX4_endsAt_45 : decode cX4_endsAt 45 = .ok (.iload_n 1, 1) := dk_27 (dk_at dksX4_endsAt_1 22 rfl rfl)
theorem dX4_endsAt_46 : decode cX4_endsAt 46 = .ok (.if_icmp .ne 7, 3) := dk_160 0 7 (dk_at dksX4_endsAt_2 0 rfl rfl)
theorem dX4_endsAt_49 : decode cX4_endsAt 49 = .ok (.iconst 1, 1) := dk_4 (dk_at dksX4_endsAt_2 3 rfl rfl)
theorem dX4_endsAt_50 : decode cX4_endsAt 50 = .ok (.goto 4, 3) := dk_167 0 4 (dk_at dksX4_endsAt_2 4 rfl rfl)
theorem dX4_endsAt_53 : decode cX4_endsAt 53 = .ok (.iconst 0, 1) := dk_3 (dk_at dksX4_endsAt_2 7 rfl rfl)
theorem dX4_endsAt_54 : decode cX4_endsAt 54 = .ok (.iadd, 1) := dk_96 (dk_at dksX4_endsAt_2 8 rfl rfl)
theorem dX4_endsAt_55 : decode cX4_endsAt 55 = .ok (.istore_n 2, 1) := dk_61 (dk_at dksX4_endsAt_2 9 rfl rfl)
theorem dX4_endsAt_56 : decode cX4_endsAt 56 = .ok (.iinc 4 1, 3) := dk_132 4 1 (dk_at dksX4_endsAt_2 10 rfl rfl)
theorem dX4_endsAt_59 : decode cX4_endsAt 59 = .ok (.goto (-44), 3) := dk_167 255 212 (dk_at dksX4_endsAt_2 13 rfl rfl)
theorem dX4_endsAt_62 : decode cX4_endsAt 62 = .ok (.iinc 3 1, 3) := dk_132 3 1 (dk_at dksX4_endsAt_2 16 rfl rfl)
theorem dX4_endsAt_65 : decode cX4_endsAt 65 = .ok (.goto (-61), 3) := dk_167 255 195 (dk_at dksX4_endsAt_2 19 rfl rfl)
theorem dX4_endsAt_68 : decode cX4_endsAt 68 = .ok (.iload_n 2, 1) := dk_28 (dk_at dksX4_endsAt_2 22 rfl rfl)
theorem dX4_endsAt_69 : decode cX4_endsAt 69 = .ok (.ireturn, 1) := dk_172 (dk_at dksX4_endsAt_2 23 rfl rfl)
abbrev cX4_valve : ByteArray := prog_20_method_50_code
def yX4_valve : MethodName := ⟨RX4, "valve", "(II)I"⟩
def dkwX4_valve_0 : List UInt8 := [42, 27, 28, 182, 0, 62, 16, 247, 160, 0, 7, 2, 167, 0, 9, 42, 27, 28, 182, 0, 70, 172]
abbrev dktX4_valve_0 : List UInt8 := dkwX4_valve_0 ++ []
theorem dksX4_valve_0 : cX4_valve.data.toList.drop 0 = dktX4_valve_0 := by decide +kernel
theorem dX4_valve_0 : decode cX4_valve 0 = .ok (.aload_n 0, 1) := dk_42 (dk_at dksX4_valve_0 0 rfl rfl)
theorem dX4_valve_1 : decode cX4_valve 1 = .ok (.iload_n 1, 1) := dk_27 (dk_at dksX4_valve_0 1 rfl rfl)
theorem dX4_valve_2 : decode cX4_valve 2 = .ok (.iload_n 2, 1) := dk_28 (dk_at dksX4_valve_0 2 rfl rfl)
theorem dX4_valve_3 : decode cX4_valve 3 = .ok (.invokevirtual 62, 3) := dk_182 0 62 (dk_at dksX4_valve_0 3 rfl rfl)
theorem dX4_valve_6 : decode cX4_valve 6 = .ok (.bipush (-9), 2) := dk_16 247 (dk_at dksX4_valve_0 6 rfl rfl)
theorem dX4_valve_8 : decode cX4_valve 8 = .ok (.if_icmp .ne 7, 3) := dk_160 0 7 (dk_at dksX4_valve_0 8 rfl rfl)
theorem dX4_valve_11 : decode cX4_valve 11 = .ok (.iconst (-1), 1) := dk_2 (dk_at dksX4_valve_0 11 rfl rfl)
theorem dX4_valve_12 : decode cX4_valve 12 = .ok (.goto 9, 3) := dk_167 0 9 (dk_at dksX4_valve_0 12 rfl rfl)
theorem dX4_valve_15 : decode cX4_valve 15 = .ok (.aload_n 0, 1) := dk_42 (dk_at dksX4_valve_0 15 rfl rfl)
theorem dX4_valve_16 : decode cX4_valve 16 = .ok (.iload_n 1, 1) := dk_27 (dk_at dksX4_valve_0 16 rfl rfl)
theorem dX4_valve_17 : decode cX4_valve 17 = .ok (.iload_n 2, 1) := dk_28 (dk_at dksX4_valve_0 17 rfl rfl)
theorem dX4_valve_18 : decode cX4_valve 18 = .ok (.invokevirtual 70, 3) := dk_182 0 70 (dk_at dksX4_valve_0 18 rfl rfl)
theorem dX4_valve_21 : decode cX4_valve 21 = .ok (.ireturn, 1) := dk_172 (dk_at dksX4_valve_0 21 rfl rfl)
abbrev cX4_dyed : ByteArray := prog_20_method_51_code
def yX4_dyed : MethodName := ⟨RX4, "dyed", "(I)I"⟩
def dkwX4_dyed_0 : List UInt8 := [27, 3, 5, 184, 0, 50, 153, 0, 14, 42, 17, 1, 231, 27, 182, 0, 117, 167, 0, 4, 2, 172]
abbrev dktX4_dyed_0 : List UInt8 := dkwX4_dyed_0 ++ []
theorem dksX4_dyed_0 : cX4_dyed.data.toList.drop 0 = dktX4_dyed_0 := by decide +kernel
theorem dX4_dyed_0 : decode cX4_dyed 0 = .ok (.iload_n 1, 1) := dk_27 (dk_at dksX4_dyed_0 0 rfl rfl)
theorem dX4_dyed_1 : decode cX4_dyed 1 = .ok (.iconst 0, 1) := dk_3 (dk_at dksX4_dyed_0 1 rfl rfl)
theorem dX4_dyed_2 : decode cX4_dyed 2 = .ok (.iconst 2, 1) := dk_5 (dk_at dksX4_dyed_0 2 rfl rfl)
theorem dX4_dyed_3 : decode cX4_dyed 3 = .ok (.invokestatic 50, 3) := dk_184 0 50 (dk_at dksX4_dyed_0 3 rfl rfl)
theorem dX4_dyed_6 : decode cX4_dyed 6 = .ok (.ifCond .eq 14, 3) := dk_153 0 14 (dk_at dksX4_dyed_0 6 rfl rfl)
theorem dX4_dyed_9 : decode cX4_dyed 9 = .ok (.aload_n 0, 1) := dk_42 (dk_at dksX4_dyed_0 9 rfl rfl)
theorem dX4_dyed_10 : decode cX4_dyed 10 = .ok (.sipush 487, 3) := dk_17 1 231 (dk_at dksX4_dyed_0 10 rfl rfl)
theorem dX4_dyed_13 : decode cX4_dyed 13 = .ok (.iload_n 1, 1) := dk_27 (dk_at dksX4_dyed_0 13 rfl rfl)
theorem dX4_dyed_14 : decode cX4_dyed 14 = .ok (.invokevirtual 117, 3) := dk_182 0 117 (dk_at dksX4_dyed_0 14 rfl rfl)
theorem dX4_dyed_17 : decode cX4_dyed 17 = .ok (.goto 4, 3) := dk_167 0 4 (dk_at dksX4_dyed_0 17 rfl rfl)
theorem dX4_dyed_20 : decode cX4_dyed 20 = .ok (.iconst (-1), 1) := dk_2 (dk_at dksX4_dyed_0 20 rfl rfl)
theorem dX4_dyed_21 : decode cX4_dyed 21 = .ok (.ireturn, 1) := dk_172 (dk_at dksX4_dyed_0 21 rfl rfl)
abbrev cX4_reach : ByteArray := prog_20_method_52_code
def yX4_reach : MethodName := ⟨RX4, "reach", "(I)I"⟩
def dkwX4_reach_3 : List UInt8 := [16, 247, 3, 182, 0, 90, 42, 180, 0, 73, 172]
abbrev dktX4_reach_3 : List UInt8 := dkwX4_reach_3 ++ []
def dkwX4_reach_2 : List UInt8 := [180, 0, 7, 6, 46, 16, 247, 182, 0, 80, 132, 2, 1, 167, 255, 215, 42, 42, 180, 0, 7, 6, 46]
abbrev dktX4_reach_2 : List UInt8 := dkwX4_reach_2 ++ dktX4_reach_3
def dkwX4_reach_1 : List UInt8 := [162, 0, 39, 42, 180, 0, 7, 17, 1, 151, 28, 96, 46, 27, 184, 0, 114, 153, 0, 16, 42, 28, 42]
abbrev dktX4_reach_1 : List UInt8 := dkwX4_reach_1 ++ dktX4_reach_2
def dkwX4_reach_0 : List UInt8 := [27, 3, 5, 184, 0, 50, 154, 0, 5, 2, 172, 42, 182, 0, 87, 3, 61, 28, 42, 182, 0, 46]
abbrev dktX4_reach_0 : List UInt8 := dkwX4_reach_0 ++ dktX4_reach_1
theorem dksX4_reach_0 : cX4_reach.data.toList.drop 0 = dktX4_reach_0 := by decide +kernel
theorem dksX4_reach_1 : cX4_reach.data.toList.drop 22 = dktX4_reach_1 := dk_seg dksX4_reach_0 22 rfl rfl
theorem dksX4_reach_2 : cX4_reach.data.toList.drop 45 = dktX4_reach_2 := dk_seg dksX4_reach_1 23 rfl rfl
theorem dksX4_reach_3 : cX4_reach.data.toList.drop 68 = dktX4_reach_3 := dk_seg dksX4_reach_2 23 rfl rfl
theorem dX4_reach_0 : decode cX4_reach 0 = .ok (.iload_n 1, 1) := dk_27 (dk_at dksX4_reach_0 0 rfl rfl)
theorem dX4_reach_1 : decode cX4_reach 1 = .ok (.iconst 0, 1) := dk_3 (dk_at dksX4_reach_0 1 rfl rfl)
theorem dX4_reach_2 : decode cX4_reach 2 = .ok (.iconst 2, 1) := dk_5 (dk_at dksX4_reach_0 2 rfl rfl)
theorem dX4_reach_3 : decode cX4_reach 3 = .ok (.invokestatic 50, 3) := dk_184 0 50 (dk_at dksX4_reach_0 3 rfl rfl)
theorem dX4_reach_6 : decode cX4_reach 6 = .ok (.ifCond .ne 5, 3) := dk_154 0 5 (dk_at dksX4_reach_0 6 rfl rfl)
theorem dX4_reach_9 : decode cX4_reach 9 = .ok (.iconst (-1), 1) := dk_2 (dk_at dksX4_reach_0 9 rfl rfl)
theorem dX4_reach_10 : decode cX4_reach 10 = .ok (.ireturn, 1) := dk_172 (dk_at dksX4_reach_0 10 rfl rfl)
theorem dX4_reach_11 : decode cX4_reach 11 = .ok (.aload_n 0, 1) := dk_42 (dk_at dksX4_reach_0 11 rfl rfl)
theorem dX4_reach_12 : decode cX4_reach 12 = .ok (.invokevirtual 87, 3) := dk_182 0 87 (dk_at dksX4_reach_0 12 rfl rfl)
theorem dX4_reach_15 : decode cX4_reach 15 = .ok (.iconst 0, 1) := dk_3 (dk_at dksX4_reach_0 15 rfl rfl)
theorem dX4_reach_16 : decode cX4_reach 16 = .ok (.istore_n 2, 1) := dk_61 (dk_at dksX4_reach_0 16 rfl rfl)
theorem dX4_reach_17 : decode cX4_reach 17 = .ok (.iload_n 2, 1) := dk_28 (dk_at dksX4_reach_0 17 rfl rfl)
theorem dX4_reach_18 : decode cX4_reach 18 = .ok (.aload_n 0, 1) := dk_42 (dk_at dksX4_reach_0 18 rfl rfl)
theorem dX4_reach_19 : decode cX4_reach 19 = .ok (.invokevirtual 46, 3) := dk_182 0 46 (dk_at dksX4_reach_0 19 rfl rfl)
theorem dX4_reach_22 : decode cX4_reach 22 = .ok (.if_icmp .ge 39, 3) := dk_162 0 39 (dk_at dksX4_reach_1 0 rfl rfl)
theorem dX4_reach_25 : decode cX4_reach 25 = .ok (.aload_n 0, 1) := dk_42 (dk_at dksX4_reach_1 3 rfl rfl)
theorem dX4_reach_26 : decode cX4_reach 26 = .ok (.getfield 7, 3) := dk_180 0 7 (dk_at dksX4_reach_1 4 rfl rfl)
theorem dX4_reach_29 : decode cX4_reach 29 = .ok (.sipush 407, 3) := dk_17 1 151 (dk_at dksX4_reach_1 7 rfl rfl)
theorem dX4_reach_32 : decode cX4_reach 32 = .ok (.iload_n 2, 1) := dk_28 (dk_at dksX4_reach_1 10 rfl rfl)
theorem dX4_reach_33 : decode cX4_reach 33 = .ok (.iadd, 1) := dk_96 (dk_at dksX4_reach_1 11 rfl rfl)
theorem dX4_reach_34 : decode cX4_reach 34 = .ok (.iaload, 1) := dk_46 (dk_at dksX4_reach_1 12 rfl rfl)
theorem dX4_reach_35 : decode cX4_reach 35 = .ok (.iload_n 1, 1) := dk_27 (dk_at dksX4_reach_1 13 rfl rfl)
theorem dX4_reach_36 : decode cX4_reach 36 = .ok (.invokestatic 114, 3) := dk_184 0 114 (dk_at dksX4_reach_1 14 rfl rfl)
theorem dX4_reach_39 : decode cX4_reach 39 = .ok (.ifCond .eq 16, 3) := dk_153 0 16 (dk_at dksX4_reach_1 17 rfl rfl)
theorem dX4_reach_42 : decode cX4_reach 42 = .ok (.aload_n 0, 1) := dk_42 (dk_at dksX4_reach_1 20 rfl rfl)
theorem dX4_reach_43 : decode cX4_reach 43 = .ok (.iload_n 2, 1) := dk_28 (dk_at dksX4_reach_1 21 rfl rfl)
theorem dX4_reach_44 : decode cX4_reach 44 = .ok (.aload_n 0, 1) := dk_42 (dk_at dksX4_reach_1 22 rfl rfl)
theorem dX4_reach_45 : decode cX4_reach 45 = .ok (.getfield 7, 3) := dk_180 0 7 (dk_at dksX4_reach_2 0 rfl rfl)
theorem dX4_reach_48 : decode cX4_reach 48 = .ok (.iconst 3, 1) := dk_6 (dk_at dksX4_reach_2 3 rfl rfl)
theorem dX4_reach_49 : decode cX4_reach 49 = .ok (.iaload, 1) := dk_46 (dk_at dksX4_reach_2 4 rfl rfl)
theorem dX4_reach_50 : decode cX4_reach 50 = .ok (.bipush (-9), 2) := dk_16 247 (dk_at dksX4_reach_2 5 rfl rfl)
theorem dX4_reach_52 : decode cX4_reach 52 = .ok (.invokevirtual 80, 3) := dk_182 0 80 (dk_at dksX4_reach_2 7 rfl rfl)
theorem dX4_reach_55 : decode cX4_reach 55 = .ok (.iinc 2 1, 3) := dk_132 2 1 (dk_at dksX4_reach_2 10 rfl rfl)
theorem dX4_reach_58 : decode cX4_reach 58 = .ok (.goto (-41), 3) := dk_167 255 215 (dk_at dksX4_reach_2 13 rfl rfl)
theorem dX4_reach_61 : decode cX4_reach 61 = .ok (.aload_n 0, 1) := dk_42 (dk_at dksX4_reach_2 16 rfl rfl)
theorem dX4_reach_62 : decode cX4_reach 62 = .ok (.aload_n 0, 1) := dk_42 (dk_at dksX4_reach_2 17 rfl rfl)
theorem dX4_reach_63 : decode cX4_reach 63 = .ok (.getfield 7, 3) := dk_180 0 7 (dk_at dksX4_reach_2 18 rfl rfl)
theorem dX4_reach_66 : decode cX4_reach 66 = .ok (.iconst 3, 1) := dk_6 (dk_at dksX4_reach_2 21 rfl rfl)
theorem dX4_reach_67 : decode cX4_reach 67 = .ok (.iaload, 1) := dk_46 (dk_at dksX4_reach_2 22 rfl rfl)
theorem dX4_reach_68 : decode cX4_reach 68 = .ok (.bipush (-9), 2) := dk_16 247 (dk_at dksX4_reach_3 0 rfl rfl)
theorem dX4_reach_70 : decode cX4_reach 70 = .ok (.iconst 0, 1) := dk_3 (dk_at dksX4_reach_3 2 rfl rfl)
theorem dX4_reach_71 : decode cX4_reach 71 = .ok (.invokevirtual 90, 3) := dk_182 0 90 (dk_at dksX4_reach_3 3 rfl rfl)
theorem dX4_reach_74 : decode cX4_reach 74 = .ok (.aload_n 0, 1) := dk_42 (dk_at dksX4_reach_3 6 rfl rfl)
theorem dX4_reach_75 : decode cX4_reach 75 = .ok (.getfield 73, 3) := dk_180 0 73 (dk_at dksX4_reach_3 7 rfl rfl)
theorem dX4_reach_78 : decode cX4_reach 78 = .ok (.ireturn, 1) := dk_172 (dk_at dksX4_reach_3 10 rfl rfl)
abbrev cX4_arrival : ByteArray := prog_20_method_53_code
def yX4_arrival : MethodName := ⟨RX4, "arrival", "(II)I"⟩
def dkwX4_arrival_3 : List UInt8 := [167, 0, 4, 29, 172]
abbrev dktX4_arrival_3 : List UInt8 := dkwX4_arrival_3 ++ []
def dkwX4_arrival_2 : List UInt8 := [42, 182, 0, 132, 54, 4, 132, 3, 1, 167, 255, 224, 42, 182, 0, 150, 29, 16, 60, 164, 0, 8, 16, 247]
abbrev dktX4_arrival_2 : List UInt8 := dkwX4_arrival_2 ++ dktX4_arrival_3
def dkwX4_arrival_1 : List UInt8 := [62, 29, 16, 60, 163, 0, 32, 42, 180, 0, 7, 17, 1, 231, 28, 96, 46, 27, 184, 0, 114, 154, 0, 15]
abbrev dktX4_arrival_1 : List UInt8 := dkwX4_arrival_1 ++ dktX4_arrival_2
def dkwX4_arrival_0 : List UInt8 := [27, 3, 5, 184, 0, 50, 153, 0, 11, 42, 28, 182, 0, 54, 154, 0, 5, 2, 172, 42, 182, 0, 147, 3]
abbrev dktX4_arrival_0 : List UInt8 := dkwX4_arrival_0 ++ dktX4_arrival_1
theorem dksX4_arrival_0 : cX4_arrival.data.toList.drop 0 = dktX4_arrival_0 := by decide +kernel
theorem dksX4_arrival_1 : cX4_arrival.data.toList.drop 24 = dktX4_arrival_1 := dk_seg dksX4_arrival_0 24 rfl rfl
theorem dksX4_arrival_2 : cX4_arrival.data.toList.drop 48 = dktX4_arrival_2 := dk_seg dksX4_arrival_1 24 rfl rfl
theorem dksX4_arrival_3 : cX4_arrival.data.toList.drop 72 = dktX4_arrival_3 := dk_seg dksX4_arrival_2 24 rfl rfl
theorem dX4_arrival_0 : decode cX4_arrival 0 = .ok (.iload_n 1, 1) := dk_27 (dk_at dksX4_arrival_0 0 rfl rfl)
theorem dX4_arrival_1 : decode cX4_arrival 1 = .ok (.iconst 0, 1) := dk_3 (dk_at dksX4_arrival_0 1 rfl rfl)
theorem dX4_arrival_2 : decode cX4_arrival 2 = .ok (.iconst 2, 1) := dk_5 (dk_at dksX4_arrival_0 2 rfl rfl)
theorem dX4_arrival_3 : decode cX4_arrival 3 = .ok (.invokestatic 50, 3) := dk_184 0 50 (dk_at dksX4_arrival_0 3 rfl rfl)
theorem dX4_arrival_6 : decode cX4_arrival 6 = .ok (.ifCond .eq 11, 3) := dk_153 0 11 (dk_at dksX4_arrival_0 6 rfl rfl)
theorem dX4_arrival_9 : decode cX4_arrival 9 = .ok (.aload_n 0, 1) := dk_42 (dk_at dksX4_arrival_0 9 rfl rfl)
theorem dX4_arrival_10 : decode cX4_arrival 10 = .ok (.iload_n 2, 1) := dk_28 (dk_at dksX4_arrival_0 10 rfl rfl)
theorem dX4_arrival_11 : decode cX4_arrival 11 = .ok (.invokevirtual 54, 3) := dk_182 0 54 (dk_at dksX4_arrival_0 11 rfl rfl)
theorem dX4_arrival_14 : decode cX4_arrival 14 = .ok (.ifCond .ne 5, 3) := dk_154 0 5 (dk_at dksX4_arrival_0 14 rfl rfl)
theorem dX4_arrival_17 : decode cX4_arrival 17 = .ok (.iconst (-1), 1) := dk_2 (dk_at dksX4_arrival_0 17 rfl rfl)
theorem dX4_arrival_18 : decode cX4_arrival 18 = .ok (.ireturn, 1) := dk_172 (dk_at dksX4_arrival_0 18 rfl rfl)
theorem dX4_arrival_19 : decode cX4_arrival 19 = .ok (.aload_n 0, 1) := dk_42 (dk_at dksX4_arrival_0 19 rfl rfl)
theorem dX4_arrival_20 : decode cX4_arrival 20 = .ok (.invokevirtual 147, 3) := dk_182 0 147 (dk_at dksX4_arrival_0 20 rfl rfl)
theorem dX4_arrival_23 : decode cX4_arrival 23 = .ok (.iconst 0, 1) := dk_3 (dk_at dksX4_arrival_0 23 rfl rfl)
theorem dX4_arrival_24 : decode cX4_arrival 24 = .ok (.istore_n 3, 1) := dk_62 (dk_at dksX4_arrival_1 0 rfl rfl)
theorem dX4_arrival_25 : decode cX4_arrival 25 = .ok (.iload_n 3, 1) := dk_29 (dk_at dksX4_arrival_1 1 rfl rfl)
theorem dX4_arrival_26 : decode cX4_arrival 26 = .ok (.bipush 60, 2) := dk_16 60 (dk_at dksX4_arrival_1 2 rfl rfl)
theorem dX4_arrival_28 : decode cX4_arrival 28 = .ok (.if_icmp .gt 32, 3) := dk_163 0 32 (dk_at dksX4_arrival_1 4 rfl rfl)
theorem dX4_arrival_31 : decode cX4_arrival 31 = .ok (.aload_n 0, 1) := dk_42 (dk_at dksX4_arrival_1 7 rfl rfl)
theorem dX4_arrival_32 : decode cX4_arrival 32 = .ok (.getfield 7, 3) := dk_180 0 7 (dk_at dksX4_arrival_1 8 rfl rfl)
theorem dX4_arrival_35 : decode cX4_arrival 35 = .ok (.sipush 487, 3) := dk_17 1 231 (dk_at dksX4_arrival_1 11 rfl rfl)
theorem dX4_arrival_38 : decode cX4_arrival 38 = .ok (.iload_n 2, 1) := dk_28 (dk_at dksX4_arrival_1 14 rfl rfl)
theorem dX4_arrival_39 : decode cX4_arrival 39 = .ok (.iadd, 1) := dk_96 (dk_at dksX4_arrival_1 15 rfl rfl)
theorem dX4_arrival_40 : decode cX4_arrival 40 = .ok (.iaload, 1) := dk_46 (dk_at dksX4_arrival_1 16 rfl rfl)
theorem dX4_arrival_41 : decode cX4_arrival 41 = .ok (.iload_n 1, 1) := dk_27 (dk_at dksX4_arrival_1 17 rfl rfl)
theorem dX4_arrival_42 : decode cX4_arrival 42 = .ok (.invokestatic 114, 3) := dk_184 0 114 (dk_at dksX4_arrival_1 18 rfl rfl)
theorem dX4_arrival_45 : decode cX4_arrival 45 = .ok (.ifCond .ne 15, 3) := dk_154 0 15 (dk_at dksX4_arrival_1 21 rfl rfl)
theorem dX4_arrival_48 : decode cX4_arrival 48 = .ok (.aload_n 0, 1) := dk_42 (dk_at dksX4_arrival_2 0 rfl rfl)
theorem dX4_arrival_49 : decode cX4_arrival 49 = .ok (.invokevirtual 132, 3) := dk_182 0 132 (dk_at dksX4_arrival_2 1 rfl rfl)
theorem dX4_arrival_52 : decode cX4_arrival 52 = .ok (.istore 4, 2) := dk_54 4 (dk_at dksX4_arrival_2 4 rfl rfl)
theorem dX4_arrival_54 : decode cX4_arrival 54 = .ok (.iinc 3 1, 3) := dk_132 3 1 (dk_at dksX4_arrival_2 6 rfl rfl)
theorem dX4_arrival_57 : decode cX4_arrival 57 = .ok (.goto (-32), 3) := dk_167 255 224 (dk_at dksX4_arrival_2 9 rfl rfl)
theorem dX4_arrival_60 : decode cX4_arrival 60 = .ok (.aload_n 0, 1) := dk_42 (dk_at dksX4_arrival_2 12 rfl rfl)
theorem dX4_arrival_61 : decode cX4_arrival 61 = .ok (.invokevirtual 150, 3) := dk_182 0 150 (dk_at dksX4_arrival_2 13 rfl rfl)
theorem dX4_arrival_64 : decode cX4_arrival 64 = .ok (.iload_n 3, 1) := dk_29 (dk_at dksX4_arrival_2 16 rfl rfl)
theorem dX4_arrival_65 : decode cX4_arrival 65 = .ok (.bipush 60, 2) := dk_16 60 (dk_at dksX4_arrival_2 17 rfl rfl)
theorem dX4_arrival_67 : decode cX4_arrival 67 = .ok (.if_icmp .le 8, 3) := dk_164 0 8 (dk_at dksX4_arrival_2 19 rfl rfl)
theorem dX4_arrival_70 : decode cX4_arrival 70 = .ok (.bipush (-9), 2) := dk_16 247 (dk_at dksX4_arrival_2 22 rfl rfl)
theorem dX4_arrival_72 : decode cX4_arrival 72 = .ok (.goto 4, 3) := dk_167 0 4 (dk_at dksX4_arrival_3 0 rfl rfl)
theorem dX4_arrival_75 : decode cX4_arrival 75 = .ok (.iload_n 3, 1) := dk_29 (dk_at dksX4_arrival_3 3 rfl rfl)
theorem dX4_arrival_76 : decode cX4_arrival 76 = .ok (.ireturn, 1) := dk_172 (dk_at dksX4_arrival_3 4 rfl rfl)
abbrev cX4_keeps : ByteArray := prog_20_method_6_code
def yX4_keeps : MethodName := ⟨RX4, "keeps", "()V"⟩
def dkwX4_keeps_1 : List UInt8 := [167, 255, 234, 177]
abbrev dktX4_keeps_1 : List UInt8 := dkwX4_keeps_1 ++ []
def dkwX4_keeps_0 : List UInt8 := [3, 60, 27, 17, 2, 135, 162, 0, 21, 42, 180, 0, 16, 27, 42, 180, 0, 7, 27, 46, 79, 132, 1, 1]
abbrev dktX4_keeps_0 : List UInt8 := dkwX4_keeps_0 ++ dktX4_keeps_1
theorem dksX4_keeps_0 : cX4_keeps.data.toList.drop 0 = dktX4_keeps_0 := by decide +kernel
theorem dksX4_keeps_1 : cX4_keeps.data.toList.drop 24 = dktX4_keeps_1 := dk_seg dksX4_keeps_0 24 rfl rfl
theorem dX4_keeps_0 : decode cX4_keeps 0 = .ok (.iconst 0, 1) := dk_3 (dk_at dksX4_keeps_0 0 rfl rfl)
theorem dX4_keeps_1 : decode cX4_keeps 1 = .ok (.istore_n 1, 1) := dk_60 (dk_at dksX4_keeps_0 1 rfl rfl)
theorem dX4_keeps_2 : decode cX4_keeps 2 = .ok (.iload_n 1, 1) := dk_27 (dk_at dksX4_keeps_0 2 rfl rfl)
theorem dX4_keeps_3 : decode cX4_keeps 3 = .ok (.sipush 647, 3) := dk_17 2 135 (dk_at dksX4_keeps_0 3 rfl rfl)
theorem dX4_keeps_6 : decode cX4_keeps 6 = .ok (.if_icmp .ge 21, 3) := dk_162 0 21 (dk_at dksX4_keeps_0 6 rfl rfl)
theorem dX4_keeps_9 : decode cX4_keeps 9 = .ok (.aload_n 0, 1) := dk_42 (dk_at dksX4_keeps_0 9 rfl rfl)
theorem dX4_keeps_10 : decode cX4_keeps 10 = .ok (.getfield 16, 3) := dk_180 0 16 (dk_at dksX4_keeps_0 10 rfl rfl)
theorem dX4_keeps_13 : decode cX4_keeps 13 = .ok (.iload_n 1, 1) := dk_27 (dk_at dksX4_keeps_0 13 rfl rfl)
theorem dX4_keeps_14 : decode cX4_keeps 14 = .ok (.aload_n 0, 1) := dk_42 (dk_at dksX4_keeps_0 14 rfl rfl)
theorem dX4_keeps_15 : decode cX4_keeps 15 = .ok (.getfield 7, 3) := dk_180 0 7 (dk_at dksX4_keeps_0 15 rfl rfl)
theorem dX4_keeps_18 : decode cX4_keeps 18 = .ok (.iload_n 1, 1) := dk_27 (dk_at dksX4_keeps_0 18 rfl rfl)
theorem dX4_keeps_19 : decode cX4_keeps 19 = .ok (.iaload, 1) := dk_46 (dk_at dksX4_keeps_0 19 rfl rfl)
theorem dX4_keeps_20 : decode cX4_keeps 20 = .ok (.iastore, 1) := dk_79 (dk_at dksX4_keeps_0 20 rfl rfl)
theorem dX4_keeps_21 : decode cX4_keeps 21 = .ok (.iinc 1 1, 3) := dk_132 1 1 (dk_at dksX4_keeps_0 21 rfl rfl)
theorem dX4_keeps_24 : decode cX4_keeps 24 = .ok (.goto (-22), 3) := dk_167 255 234 (dk_at dksX4_keeps_1 0 rfl rfl)
theorem dX4_keeps_27 : decode cX4_keeps 27 = .ok (.return_, 1) := dk_177 (dk_at dksX4_keeps_1 3 rfl rfl)
abbrev cX4_returns : ByteArray := prog_20_method_7_code
def yX4_returns : MethodName := ⟨RX4, "returns", "()V"⟩
def dkwX4_returns_1 : List UInt8 := [167, 255, 234, 177]
abbrev dktX4_returns_1 : List UInt8 := dkwX4_returns_1 ++ []
def dkwX4_returns_0 : List UInt8 := [3, 60, 27, 17, 2, 135, 162, 0, 21, 42, 180, 0, 7, 27, 42, 180, 0, 16, 27, 46, 79, 132, 1, 1]
abbrev dktX4_returns_0 : List UInt8 := dkwX4_returns_0 ++ dktX4_returns_1
theorem dksX4_returns_0 : cX4_returns.data.toList.drop 0 = dktX4_returns_0 := by decide +kernel
theorem dksX4_returns_1 : cX4_returns.data.toList.drop 24 = dktX4_returns_1 := dk_seg dksX4_returns_0 24 rfl rfl
theorem dX4_returns_0 : decode cX4_returns 0 = .ok (.iconst 0, 1) := dk_3 (dk_at dksX4_returns_0 0 rfl rfl)
theorem dX4_returns_1 : decode cX4_returns 1 = .ok (.istore_n 1, 1) := dk_60 (dk_at dksX4_returns_0 1 rfl rfl)
theorem dX4_returns_2 : decode cX4_returns 2 = .ok (.iload_n 1, 1) := dk_27 (dk_at dksX4_returns_0 2 rfl rfl)
theorem dX4_returns_3 : decode cX4_returns 3 = .ok (.sipush 647, 3) := dk_17 2 135 (dk_at dksX4_returns_0 3 rfl rfl)
theorem dX4_returns_6 : decode cX4_returns 6 = .ok (.if_icmp .ge 21, 3) := dk_162 0 21 (dk_at dksX4_returns_0 6 rfl rfl)
theorem dX4_returns_9 : decode cX4_returns 9 = .ok (.aload_n 0, 1) := dk_42 (dk_at dksX4_returns_0 9 rfl rfl)
theorem dX4_returns_10 : decode cX4_returns 10 = .ok (.getfield 7, 3) := dk_180 0 7 (dk_at dksX4_returns_0 10 rfl rfl)
theorem dX4_returns_13 : decode cX4_returns 13 = .ok (.iload_n 1, 1) := dk_27 (dk_at dksX4_returns_0 13 rfl rfl)
theorem dX4_returns_14 : decode cX4_returns 14 = .ok (.aload_n 0, 1) := dk_42 (dk_at dksX4_returns_0 14 rfl rfl)
theorem dX4_returns_15 : decode cX4_returns 15 = .ok (.getfield 16, 3) := dk_180 0 16 (dk_at dksX4_returns_0 15 rfl rfl)
theorem dX4_returns_18 : decode cX4_returns 18 = .ok (.iload_n 1, 1) := dk_27 (dk_at dksX4_returns_0 18 rfl rfl)
theorem dX4_returns_19 : decode cX4_returns 19 = .ok (.iaload, 1) := dk_46 (dk_at dksX4_returns_0 19 rfl rfl)
theorem dX4_returns_20 : decode cX4_returns 20 = .ok (.iastore, 1) := dk_79 (dk_at dksX4_returns_0 20 rfl rfl)
theorem dX4_returns_21 : decode cX4_returns 21 = .ok (.iinc 1 1, 3) := dk_132 1 1 (dk_at dksX4_returns_0 21 rfl rfl)
theorem dX4_returns_24 : decode cX4_returns 24 = .ok (.goto (-22), 3) := dk_167 255 234 (dk_at dksX4_returns_1 0 rfl rfl)
theorem dX4_returns_27 : decode cX4_returns 27 = .ok (.return_, 1) := dk_177 (dk_at dksX4_returns_1 3 rfl rfl)
abbrev cX4_cluster : ByteArray := prog_20_method_57_code
def yX4_cluster : MethodName := ⟨RX4, "cluster", "(II)I"⟩
def dkwX4_cluster_5 : List UInt8 := [100, 182, 0, 162, 172]
abbrev dktX4_cluster_5 : List UInt8 := dkwX4_cluster_5 ++ []
def dkwX4_cluster_4 : List UInt8 := [29, 172, 42, 27, 182, 0, 153, 172, 42, 27, 182, 0, 156, 172, 42, 27, 182, 0, 159, 172, 42, 27, 28, 6]
abbrev dktX4_cluster_4 : List UInt8 := dkwX4_cluster_4 ++ dktX4_cluster_5
def dkwX4_cluster_3 : List UInt8 := [170, 0, 0, 0, 49, 0, 0, 0, 0, 0, 0, 0, 3, 0, 0, 0, 29, 0, 0, 0, 31, 0, 0, 0, 37, 0, 0, 0, 43]
abbrev dktX4_cluster_3 : List UInt8 := dkwX4_cluster_3 ++ dktX4_cluster_4
def dkwX4_cluster_2 : List UInt8 := [159, 0, 9, 132, 3, 1, 167, 255, 243, 28]
abbrev dktX4_cluster_2 : List UInt8 := dkwX4_cluster_2 ++ dktX4_cluster_3
def dkwX4_cluster_1 : List UInt8 := [182, 0, 135, 27, 42, 180, 0, 94, 161, 0, 6, 16, 247, 172, 3, 62, 42, 180, 0, 29, 29, 46, 27]
abbrev dktX4_cluster_1 : List UInt8 := dkwX4_cluster_1 ++ dktX4_cluster_2
def dkwX4_cluster_0 : List UInt8 := [27, 155, 0, 12, 28, 3, 8, 184, 0, 50, 154, 0, 5, 2, 172, 42, 42, 180, 0, 7, 6, 46]
abbrev dktX4_cluster_0 : List UInt8 := dkwX4_cluster_0 ++ dktX4_cluster_1
theorem dksX4_cluster_0 : cX4_cluster.data.toList.drop 0 = dktX4_cluster_0 := by decide +kernel
theorem dksX4_cluster_1 : cX4_cluster.data.toList.drop 22 = dktX4_cluster_1 := dk_seg dksX4_cluster_0 22 rfl rfl
theorem dksX4_cluster_2 : cX4_cluster.data.toList.drop 45 = dktX4_cluster_2 := dk_seg dksX4_cluster_1 23 rfl rfl
theorem dksX4_cluster_3 : cX4_cluster.data.toList.drop 55 = dktX4_cluster_3 := dk_seg dksX4_cluster_2 10 rfl rfl
theorem dksX4_cluster_4 : cX4_cluster.data.toList.drop 84 = dktX4_cluster_4 := dk_seg dksX4_cluster_3 29 rfl rfl
theorem dksX4_cluster_5 : cX4_cluster.data.toList.drop 108 = dktX4_cluster_5 := dk_seg dksX4_cluster_4 24 rfl rfl
theorem dX4_cluster_0 : decode cX4_cluster 0 = .ok (.iload_n 1, 1) := dk_27 (dk_at dksX4_cluster_0 0 rfl rfl)
theorem dX4_cluster_1 : decode cX4_cluster 1 = .ok (.ifCond .lt 12, 3) := dk_155 0 12 (dk_at dksX4_cluster_0 1 rfl rfl)
theorem dX4_cluster_4 : decode cX4_cluster 4 = .ok (.iload_n 2, 1) := dk_28 (dk_at dksX4_cluster_0 4 rfl rfl)
theorem dX4_cluster_5 : decode cX4_cluster 5 = .ok (.iconst 0, 1) := dk_3 (dk_at dksX4_cluster_0 5 rfl rfl)
theorem dX4_cluster_6 : decode cX4_cluster 6 = .ok (.iconst 5, 1) := dk_8 (dk_at dksX4_cluster_0 6 rfl rfl)
theorem dX4_cluster_7 : decode cX4_cluster 7 = .ok (.invokestatic 50, 3) := dk_184 0 50 (dk_at dksX4_cluster_0 7 rfl rfl)
theorem dX4_cluster_10 : decode cX4_cluster 10 = .ok (.ifCond .ne 5, 3) := dk_154 0 5 (dk_at dksX4_cluster_0 10 rfl rfl)
theorem dX4_cluster_13 : decode cX4_cluster 13 = .ok (.iconst (-1), 1) := dk_2 (dk_at dksX4_cluster_0 13 rfl rfl)
theorem dX4_cluster_14 : decode cX4_cluster 14 = .ok (.ireturn, 1) := dk_172 (dk_at dksX4_cluster_0 14 rfl rfl)
theorem dX4_cluster_15 : decode cX4_cluster 15 = .ok (.aload_n 0, 1) := dk_42 (dk_at dksX4_cluster_0 15 rfl rfl)
theorem dX4_cluster_16 : decode cX4_cluster 16 = .ok (.aload_n 0, 1) := dk_42 (dk_at dksX4_cluster_0 16 rfl rfl)
theorem dX4_cluster_17 : decode cX4_cluster 17 = .ok (.getfield 7, 3) := dk_180 0 7 (dk_at dksX4_cluster_0 17 rfl rfl)
theorem dX4_cluster_20 : decode cX4_cluster 20 = .ok (.iconst 3, 1) := dk_6 (dk_at dksX4_cluster_0 20 rfl rfl)
theorem dX4_cluster_21 : decode cX4_cluster 21 = .ok (.iaload, 1) := dk_46 (dk_at dksX4_cluster_0 21 rfl rfl)
theorem dX4_cluster_22 : decode cX4_cluster 22 = .ok (.invokevirtual 135, 3) := dk_182 0 135 (dk_at dksX4_cluster_1 0 rfl rfl)
theorem dX4_cluster_25 : decode cX4_cluster 25 = .ok (.iload_n 1, 1) := dk_27 (dk_at dksX4_cluster_1 3 rfl rfl)
theorem dX4_cluster_26 : decode cX4_cluster 26 = .ok (.aload_n 0, 1) := dk_42 (dk_at dksX4_cluster_1 4 rfl rfl)
theorem dX4_cluster_27 : decode cX4_cluster 27 = .ok (.getfield 94, 3) := dk_180 0 94 (dk_at dksX4_cluster_1 5 rfl rfl)
theorem dX4_cluster_30 : decode cX4_cluster 30 = .ok (.if_icmp .lt 6, 3) := dk_161 0 6 (dk_at dksX4_cluster_1 8 rfl rfl)
theorem dX4_cluster_33 : decode cX4_cluster 33 = .ok (.bipush (-9), 2) := dk_16 247 (dk_at dksX4_cluster_1 11 rfl rfl)
theorem dX4_cluster_35 : decode cX4_cluster 35 = .ok (.ireturn, 1) := dk_172 (dk_at dksX4_cluster_1 13 rfl rfl)
theorem dX4_cluster_36 : decode cX4_cluster 36 = .ok (.iconst 0, 1) := dk_3 (dk_at dksX4_cluster_1 14 rfl rfl)
theorem dX4_cluster_37 : decode cX4_cluster 37 = .ok (.istore_n 3, 1) := dk_62 (dk_at dksX4_cluster_1 15 rfl rfl)
theorem dX4_cluster_38 : decode cX4_cluster 38 = .ok (.aload_n 0, 1) := dk_42 (dk_at dksX4_cluster_1 16 rfl rfl)
theorem dX4_cluster_39 : decode cX4_cluster 39 = .ok (.getfield 29, 3) := dk_180 0 29 (dk_at dksX4_cluster_1 17 rfl rfl)
theorem dX4_cluster_42 : decode cX4_cluster 42 = .ok (.iload_n 3, 1) := dk_29 (dk_at dksX4_cluster_1 20 rfl rfl)
theorem dX4_cluster_43 : decode cX4_cluster 43 = .ok (.iaload, 1) := dk_46 (dk_at dksX4_cluster_1 21 rfl rfl)
theorem dX4_cluster_44 : decode cX4_cluster 44 = .ok (.iload_n 1, 1) := dk_27 (dk_at dksX4_cluster_1 22 rfl rfl)
theorem dX4_cluster_45 : decode cX4_cluster 45 = .ok (.if_icmp .eq 9, 3) := dk_159 0 9 (dk_at dksX4_cluster_2 0 rfl rfl)
theorem dX4_cluster_48 : decode cX4_cluster 48 = .ok (.iinc 3 1, 3) := dk_132 3 1 (dk_at dksX4_cluster_2 3 rfl rfl)
theorem dX4_cluster_51 : decode cX4_cluster 51 = .ok (.goto (-13), 3) := dk_167 255 243 (dk_at dksX4_cluster_2 6 rfl rfl)
theorem dX4_cluster_54 : decode cX4_cluster 54 = .ok (.iload_n 2, 1) := dk_28 (dk_at dksX4_cluster_2 9 rfl rfl)
theorem dX4_cluster_55 : decode cX4_cluster 55 = .ok (.tableswitch 49 0 3 #[29, 31, 37, 43], 29) := by decide +kernel
theorem dX4_cluster_84 : decode cX4_cluster 84 = .ok (.iload_n 3, 1) := dk_29 (dk_at dksX4_cluster_4 0 rfl rfl)
theorem dX4_cluster_85 : decode cX4_cluster 85 = .ok (.ireturn, 1) := dk_172 (dk_at dksX4_cluster_4 1 rfl rfl)
theorem dX4_cluster_86 : decode cX4_cluster 86 = .ok (.aload_n 0, 1) := dk_42 (dk_at dksX4_cluster_4 2 rfl rfl)
theorem dX4_cluster_87 : decode cX4_cluster 87 = .ok (.iload_n 1, 1) := dk_27 (dk_at dksX4_cluster_4 3 rfl rfl)
theorem dX4_cluster_88 : decode cX4_cluster 88 = .ok (.invokevirtual 153, 3) := dk_182 0 153 (dk_at dksX4_cluster_4 4 rfl rfl)
theorem dX4_cluster_91 : decode cX4_cluster 91 = .ok (.ireturn, 1) := dk_172 (dk_at dksX4_cluster_4 7 rfl rfl)
theorem dX4_cluster_92 : decode cX4_cluster 92 = .ok (.aload_n 0, 1) := dk_42 (dk_at dksX4_cluster_4 8 rfl rfl)
theorem dX4_cluster_93 : decode cX4_cluster 93 = .ok (.iload_n 1, 1) := dk_27 (dk_at dksX4_cluster_4 9 rfl rfl)
theorem dX4_cluster_94 : decode cX4_cluster 94 = .ok (.invokevirtual 156, 3) := dk_182 0 156 (dk_at dksX4_cluster_4 10 rfl rfl)
theorem dX4_cluster_97 : decode cX4_cluster 97 = .ok (.ireturn, 1) := dk_172 (dk_at dksX4_cluster_4 13 rfl rfl)
theorem dX4_cluster_98 : decode cX4_cluster 98 = .ok (.aload_n 0, 1) := dk_42 (dk_at dksX4_cluster_4 14 rfl rfl)
theorem dX4_cluster_99 : decode cX4_cluster 99 = .ok (.iload_n 1, 1) := dk_27 (dk_at dksX4_cluster_4 15 rfl rfl)
theorem dX4_cluster_100 : decode cX4_cluster 100 = .ok (.invokevirtual 159, 3) := dk_182 0 159 (dk_at dksX4_cluster_4 16 rfl rfl)
theorem dX4_cluster_103 : decode cX4_cluster 103 = .ok (.ireturn, 1) := dk_172 (dk_at dksX4_cluster_4 19 rfl rfl)
theorem dX4_cluster_104 : decode cX4_cluster 104 = .ok (.aload_n 0, 1) := dk_42 (dk_at dksX4_cluster_4 20 rfl rfl)
theorem dX4_cluster_105 : decode cX4_cluster 105 = .ok (.iload_n 1, 1) := dk_27 (dk_at dksX4_cluster_4 21 rfl rfl)
theorem dX4_cluster_106 : decode cX4_cluster 106 = .ok (.iload_n 2, 1) := dk_28 (dk_at dksX4_cluster_4 22 rfl rfl)
theorem dX4_cluster_107 : decode cX4_cluster 107 = .ok (.iconst 3, 1) := dk_6 (dk_at dksX4_cluster_4 23 rfl rfl)
theorem dX4_cluster_108 : decode cX4_cluster 108 = .ok (.isub, 1) := dk_100 (dk_at dksX4_cluster_5 0 rfl rfl)
theorem dX4_cluster_109 : decode cX4_cluster 109 = .ok (.invokevirtual 162, 3) := dk_182 0 162 (dk_at dksX4_cluster_5 1 rfl rfl)
theorem dX4_cluster_112 : decode cX4_cluster 112 = .ok (.ireturn, 1) := dk_172 (dk_at dksX4_cluster_5 4 rfl rfl)
abbrev cX4_sizeOf : ByteArray := prog_20_method_25_code
def yX4_sizeOf : MethodName := ⟨RX4, "sizeOf", "(I)I"⟩
def dkwX4_sizeOf_1 : List UInt8 := [167, 0, 4, 3, 96, 61, 132, 3, 1, 167, 255, 227, 28, 172]
abbrev dktX4_sizeOf_1 : List UInt8 := dkwX4_sizeOf_1 ++ []
def dkwX4_sizeOf_0 : List UInt8 := [3, 61, 3, 62, 29, 42, 182, 0, 46, 162, 0, 27, 28, 42, 180, 0, 29, 29, 46, 27, 160, 0, 7, 4]
abbrev dktX4_sizeOf_0 : List UInt8 := dkwX4_sizeOf_0 ++ dktX4_sizeOf_1
theorem dksX4_sizeOf_0 : cX4_sizeOf.data.toList.drop 0 = dktX4_sizeOf_0 := by decide +kernel
theorem dksX4_sizeOf_1 : cX4_sizeOf.data.toList.drop 24 = dktX4_sizeOf_1 := dk_seg dksX4_sizeOf_0 24 rfl rfl
theorem dX4_sizeOf_0 : decode cX4_sizeOf 0 = .ok (.iconst 0, 1) := dk_3 (dk_at dksX4_sizeOf_0 0 rfl rfl)
theorem dX4_sizeOf_1 : decode cX4_sizeOf 1 = .ok (.istore_n 2, 1) := dk_61 (dk_at dksX4_sizeOf_0 1 rfl rfl)
theorem dX4_sizeOf_2 : decode cX4_sizeOf 2 = .ok (.iconst 0, 1) := dk_3 (dk_at dksX4_sizeOf_0 2 rfl rfl)
theorem dX4_sizeOf_3 : decode cX4_sizeOf 3 = .ok (.istore_n 3, 1) := dk_62 (dk_at dksX4_sizeOf_0 3 rfl rfl)
theorem dX4_sizeOf_4 : decode cX4_sizeOf 4 = .ok (.iload_n 3, 1) := dk_29 (dk_at dksX4_sizeOf_0 4 rfl rfl)
theorem dX4_sizeOf_5 : decode cX4_sizeOf 5 = .ok (.aload_n 0, 1) := dk_42 (dk_at dksX4_sizeOf_0 5 rfl rfl)
theorem dX4_sizeOf_6 : decode cX4_sizeOf 6 = .ok (.invokevirtual 46, 3) := dk_182 0 46 (dk_at dksX4_sizeOf_0 6 rfl rfl)
theorem dX4_sizeOf_9 : decode cX4_sizeOf 9 = .ok (.if_icmp .ge 27, 3) := dk_162 0 27 (dk_at dksX4_sizeOf_0 9 rfl rfl)
theorem dX4_sizeOf_12 : decode cX4_sizeOf 12 = .ok (.iload_n 2, 1) := dk_28 (dk_at dksX4_sizeOf_0 12 rfl rfl)
theorem dX4_sizeOf_13 : decode cX4_sizeOf 13 = .ok (.aload_n 0, 1) := dk_42 (dk_at dksX4_sizeOf_0 13 rfl rfl)
theorem dX4_sizeOf_14 : decode cX4_sizeOf 14 = .ok (.getfield 29, 3) := dk_180 0 29 (dk_at dksX4_sizeOf_0 14 rfl rfl)
theorem dX4_sizeOf_17 : decode cX4_sizeOf 17 = .ok (.iload_n 3, 1) := dk_29 (dk_at dksX4_sizeOf_0 17 rfl rfl)
theorem dX4_sizeOf_18 : decode cX4_sizeOf 18 = .ok (.iaload, 1) := dk_46 (dk_at dksX4_sizeOf_0 18 rfl rfl)
theorem dX4_sizeOf_19 : decode cX4_sizeOf 19 = .ok (.iload_n 1, 1) := dk_27 (dk_at dksX4_sizeOf_0 19 rfl rfl)
theorem dX4_sizeOf_20 : decode cX4_sizeOf 20 = .ok (.if_icmp .ne 7, 3) := dk_160 0 7 (dk_at dksX4_sizeOf_0 20 rfl rfl)
theorem dX4_sizeOf_23 : decode cX4_sizeOf 23 = .ok (.iconst 1, 1) := dk_4 (dk_at dksX4_sizeOf_0 23 rfl rfl)
theorem dX4_sizeOf_24 : decode cX4_sizeOf 24 = .ok (.goto 4, 3) := dk_167 0 4 (dk_at dksX4_sizeOf_1 0 rfl rfl)
theorem dX4_sizeOf_27 : decode cX4_sizeOf 27 = .ok (.iconst 0, 1) := dk_3 (dk_at dksX4_sizeOf_1 3 rfl rfl)
theorem dX4_sizeOf_28 : decode cX4_sizeOf 28 = .ok (.iadd, 1) := dk_96 (dk_at dksX4_sizeOf_1 4 rfl rfl)
theorem dX4_sizeOf_29 : decode cX4_sizeOf 29 = .ok (.istore_n 2, 1) := dk_61 (dk_at dksX4_sizeOf_1 5 rfl rfl)
theorem dX4_sizeOf_30 : decode cX4_sizeOf 30 = .ok (.iinc 3 1, 3) := dk_132 3 1 (dk_at dksX4_sizeOf_1 6 rfl rfl)
theorem dX4_sizeOf_33 : decode cX4_sizeOf 33 = .ok (.goto (-29), 3) := dk_167 255 227 (dk_at dksX4_sizeOf_1 9 rfl rfl)
theorem dX4_sizeOf_36 : decode cX4_sizeOf 36 = .ok (.iload_n 2, 1) := dk_28 (dk_at dksX4_sizeOf_1 12 rfl rfl)
theorem dX4_sizeOf_37 : decode cX4_sizeOf 37 = .ok (.ireturn, 1) := dk_172 (dk_at dksX4_sizeOf_1 13 rfl rfl)
abbrev cX4_grainsOf : ByteArray := prog_20_method_54_code
def yX4_grainsOf : MethodName := ⟨RX4, "grainsOf", "(I)I"⟩
def dkwX4_grainsOf_1 : List UInt8 := [180, 0, 7, 16, 7, 29, 96, 46, 167, 0, 4, 3, 96, 61, 132, 3, 1, 167, 255, 219, 28, 172]
abbrev dktX4_grainsOf_1 : List UInt8 := dkwX4_grainsOf_1 ++ []
def dkwX4_grainsOf_0 : List UInt8 := [3, 61, 3, 62, 29, 42, 182, 0, 46, 162, 0, 35, 28, 42, 180, 0, 29, 29, 46, 27, 160, 0, 15, 42]
abbrev dktX4_grainsOf_0 : List UInt8 := dkwX4_grainsOf_0 ++ dktX4_grainsOf_1
theorem dksX4_grainsOf_0 : cX4_grainsOf.data.toList.drop 0 = dktX4_grainsOf_0 := by decide +kernel
theorem dksX4_grainsOf_1 : cX4_grainsOf.data.toList.drop 24 = dktX4_grainsOf_1 := dk_seg dksX4_grainsOf_0 24 rfl rfl
theorem dX4_grainsOf_0 : decode cX4_grainsOf 0 = .ok (.iconst 0, 1) := dk_3 (dk_at dksX4_grainsOf_0 0 rfl rfl)
theorem dX4_grainsOf_1 : decode cX4_grainsOf 1 = .ok (.istore_n 2, 1) := dk_61 (dk_at dksX4_grainsOf_0 1 rfl rfl)
theorem dX4_grainsOf_2 : decode cX4_grainsOf 2 = .ok (.iconst 0, 1) := dk_3 (dk_at dksX4_grainsOf_0 2 rfl rfl)
theorem dX4_grainsOf_3 : decode cX4_grainsOf 3 = .ok (.istore_n 3, 1) := dk_62 (dk_at dksX4_grainsOf_0 3 rfl rfl)
theorem dX4_grainsOf_4 : decode cX4_grainsOf 4 = .ok (.iload_n 3, 1) := dk_29 (dk_at dksX4_grainsOf_0 4 rfl rfl)
theorem dX4_grainsOf_5 : decode cX4_grainsOf 5 = .ok (.aload_n 0, 1) := dk_42 (dk_at dksX4_grainsOf_0 5 rfl rfl)
theorem dX4_grainsOf_6 : decode cX4_grainsOf 6 = .ok (.invokevirtual 46, 3) := dk_182 0 46 (dk_at dksX4_grainsOf_0 6 rfl rfl)
theorem dX4_grainsOf_9 : decode cX4_grainsOf 9 = .ok (.if_icmp .ge 35, 3) := dk_162 0 35 (dk_at dksX4_grainsOf_0 9 rfl rfl)
theorem dX4_grainsOf_12 : decode cX4_grainsOf 12 = .ok (.iload_n 2, 1) := dk_28 (dk_at dksX4_grainsOf_0 12 rfl rfl)
theorem dX4_grainsOf_13 : decode cX4_grainsOf 13 = .ok (.aload_n 0, 1) := dk_42 (dk_at dksX4_grainsOf_0 13 rfl rfl)
theorem dX4_grainsOf_14 : decode cX4_grainsOf 14 = .ok (.getfield 29, 3) := dk_180 0 29 (dk_at dksX4_grainsOf_0 14 rfl rfl)
theorem dX4_grainsOf_17 : decode cX4_grainsOf 17 = .ok (.iload_n 3, 1) := dk_29 (dk_at dksX4_grainsOf_0 17 rfl rfl)
theorem dX4_grainsOf_18 : decode cX4_grainsOf 18 = .ok (.iaload, 1) := dk_46 (dk_at dksX4_grainsOf_0 18 rfl rfl)
theorem dX4_grainsOf_19 : decode cX4_grainsOf 19 = .ok (.iload_n 1, 1) := dk_27 (dk_at dksX4_grainsOf_0 19 rfl rfl)
theorem dX4_grainsOf_20 : decode cX4_grainsOf 20 = .ok (.if_icmp .ne 15, 3) := dk_160 0 15 (dk_at dksX4_grainsOf_0 20 rfl rfl)
theorem dX4_grainsOf_23 : decode cX4_grainsOf 23 = .ok (.aload_n 0, 1) := dk_42 (dk_at dksX4_grainsOf_0 23 rfl rfl)
theorem dX4_grainsOf_24 : decode cX4_grainsOf 24 = .ok (.getfield 7, 3) := dk_180 0 7 (dk_at dksX4_grainsOf_1 0 rfl rfl)
theorem dX4_grainsOf_27 : decode cX4_grainsOf 27 = .ok (.bipush 7, 2) := dk_16 7 (dk_at dksX4_grainsOf_1 3 rfl rfl)
theorem dX4_grainsOf_29 : decode cX4_grainsOf 29 = .ok (.iload_n 3, 1) := dk_29 (dk_at dksX4_grainsOf_1 5 rfl rfl)
theorem dX4_grainsOf_30 : decode cX4_grainsOf 30 = .ok (.iadd, 1) := dk_96 (dk_at dksX4_grainsOf_1 6 rfl rfl)
theorem dX4_grainsOf_31 : decode cX4_grainsOf 31 = .ok (.iaload, 1) := dk_46 (dk_at dksX4_grainsOf_1 7 rfl rfl)
theorem dX4_grainsOf_32 : decode cX4_grainsOf 32 = .ok (.goto 4, 3) := dk_167 0 4 (dk_at dksX4_grainsOf_1 8 rfl rfl)
theorem dX4_grainsOf_35 : decode cX4_grainsOf 35 = .ok (.iconst 0, 1) := dk_3 (dk_at dksX4_grainsOf_1 11 rfl rfl)
theorem dX4_grainsOf_36 : decode cX4_grainsOf 36 = .ok (.iadd, 1) := dk_96 (dk_at dksX4_grainsOf_1 12 rfl rfl)
theorem dX4_grainsOf_37 : decode cX4_grainsOf 37 = .ok (.istore_n 2, 1) := dk_61 (dk_at dksX4_grainsOf_1 13 rfl rfl)
theorem dX4_grainsOf_38 : decode cX4_grainsOf 38 = .ok (.iinc 3 1, 3) := dk_132 3 1 (dk_at dksX4_grainsOf_1 14 rfl rfl)
theorem dX4_grainsOf_41 : decode cX4_grainsOf 41 = .ok (.goto (-37), 3) := dk_167 255 219 (dk_at dksX4_grainsOf_1 17 rfl rfl)
theorem dX4_grainsOf_44 : decode cX4_grainsOf 44 = .ok (.iload_n 2, 1) := dk_28 (dk_at dksX4_grainsOf_1 20 rfl rfl)
theorem dX4_grainsOf_45 : decode cX4_grainsOf 45 = .ok (.ireturn, 1) := dk_172 (dk_at dksX4_grainsOf_1 21 rfl rfl)
abbrev cX4_sidesOf : ByteArray := prog_20_method_55_code
def yX4_sidesOf : MethodName := ⟨RX4, "sidesOf", "(I)I"⟩
def dkwX4_sidesOf_4 : List UInt8 := [167, 0, 4, 3, 128, 128, 61, 132, 3, 1, 167, 255, 155, 28, 172]
abbrev dktX4_sidesOf_4 : List UInt8 := dkwX4_sidesOf_4 ++ []
def dkwX4_sidesOf_3 : List UInt8 := [3, 128, 29, 42, 180, 0, 7, 3, 46, 108, 42, 180, 0, 7, 4, 46, 4, 100, 160, 0, 8, 16, 8]
abbrev dktX4_sidesOf_3 : List UInt8 := dkwX4_sidesOf_3 ++ dktX4_sidesOf_4
def dkwX4_sidesOf_2 : List UInt8 := [100, 160, 0, 7, 5, 167, 0, 4, 3, 128, 29, 42, 180, 0, 7, 3, 46, 162, 0, 7, 7, 167, 0, 4]
abbrev dktX4_sidesOf_2 : List UInt8 := dkwX4_sidesOf_2 ++ dktX4_sidesOf_3
def dkwX4_sidesOf_1 : List UInt8 := [29, 182, 0, 58, 154, 0, 7, 4, 167, 0, 4, 3, 42, 29, 182, 0, 58, 42, 180, 0, 7, 3, 46, 4]
abbrev dktX4_sidesOf_1 : List UInt8 := dkwX4_sidesOf_1 ++ dktX4_sidesOf_2
def dkwX4_sidesOf_0 : List UInt8 := [3, 61, 3, 62, 29, 42, 182, 0, 46, 162, 0, 99, 42, 180, 0, 29, 29, 46, 27, 160, 0, 83, 28, 42]
abbrev dktX4_sidesOf_0 : List UInt8 := dkwX4_sidesOf_0 ++ dktX4_sidesOf_1
theorem dksX4_sidesOf_0 : cX4_sidesOf.data.toList.drop 0 = dktX4_sidesOf_0 := by decide +kernel
theorem dksX4_sidesOf_1 : cX4_sidesOf.data.toList.drop 24 = dktX4_sidesOf_1 := dk_seg dksX4_sidesOf_0 24 rfl rfl
theorem dksX4_sidesOf_2 : cX4_sidesOf.data.toList.drop 48 = dktX4_sidesOf_2 := dk_seg dksX4_sidesOf_1 24 rfl rfl
theorem dksX4_sidesOf_3 : cX4_sidesOf.data.toList.drop 72 = dktX4_sidesOf_3 := dk_seg dksX4_sidesOf_2 24 rfl rfl
theorem dksX4_sidesOf_4 : cX4_sidesOf.data.toList.drop 95 = dktX4_sidesOf_4 := dk_seg dksX4_sidesOf_3 23 rfl rfl
theorem dX4_sidesOf_0 : decode cX4_sidesOf 0 = .ok (.iconst 0, 1) := dk_3 (dk_at dksX4_sidesOf_0 0 rfl rfl)
theorem dX4_sidesOf_1 : decode cX4_sidesOf 1 = .ok (.istore_n 2, 1) := dk_61 (dk_at dksX4_sidesOf_0 1 rfl rfl)
theorem dX4_sidesOf_2 : decode cX4_sidesOf 2 = .ok (.iconst 0, 1) := dk_3 (dk_at dksX4_sidesOf_0 2 rfl rfl)
theorem dX4_sidesOf_3 : decode cX4_sidesOf 3 = .ok (.istore_n 3, 1) := dk_62 (dk_at dksX4_sidesOf_0 3 rfl rfl)
theorem dX4_sidesOf_4 : decode cX4_sidesOf 4 = .ok (.iload_n 3, 1) := dk_29 (dk_at dksX4_sidesOf_0 4 rfl rfl)
theorem dX4_sidesOf_5 : decode cX4_sidesOf 5 = .ok (.aload_n 0, 1) := dk_42 (dk_at dksX4_sidesOf_0 5 rfl rfl)
theorem dX4_sidesOf_6 : decode cX4_sidesOf 6 = .ok (.invokevirtual 46, 3) := dk_182 0 46 (dk_at dksX4_sidesOf_0 6 rfl rfl)
theorem dX4_sidesOf_9 : decode cX4_sidesOf 9 = .ok (.if_icmp .ge 99, 3) := dk_162 0 99 (dk_at dksX4_sidesOf_0 9 rfl rfl)
theorem dX4_sidesOf_12 : decode cX4_sidesOf 12 = .ok (.aload_n 0, 1) := dk_42 (dk_at dksX4_sidesOf_0 12 rfl rfl)
theorem dX4_sidesOf_13 : decode cX4_sidesOf 13 = .ok (.getfield 29, 3) := dk_180 0 29 (dk_at dksX4_sidesOf_0 13 rfl rfl)
theorem dX4_sidesOf_16 : decode cX4_sidesOf 16 = .ok (.iload_n 3, 1) := dk_29 (dk_at dksX4_sidesOf_0 16 rfl rfl)
theorem dX4_sidesOf_17 : decode cX4_sidesOf 17 = .ok (.iaload, 1) := dk_46 (dk_at dksX4_sidesOf_0 17 rfl rfl)
theorem dX4_sidesOf_18 : decode cX4_sidesOf 18 = .ok (.iload_n 1, 1) := dk_27 (dk_at dksX4_sidesOf_0 18 rfl rfl)
theorem dX4_sidesOf_19 : decode cX4_sidesOf 19 = .ok (.if_icmp .ne 83, 3) := dk_160 0 83 (dk_at dksX4_sidesOf_0 19 rfl rfl)
theorem dX4_sidesOf_22 : decode cX4_sidesOf 22 = .ok (.iload_n 2, 1) := dk_28 (dk_at dksX4_sidesOf_0 22 rfl rfl)
theorem dX4_sidesOf_23 : decode cX4_sidesOf 23 = .ok (.aload_n 0, 1) := dk_42 (dk_at dksX4_sidesOf_0 23 rfl rfl)
theorem dX4_sidesOf_24 : decode cX4_sidesOf 24 = .ok (.iload_n 3, 1) := dk_29 (dk_at dksX4_sidesOf_1 0 rfl rfl)
theorem dX4_sidesOf_25 : decode cX4_sidesOf 25 = .ok (.invokevirtual 58, 3) := dk_182 0 58 (dk_at dksX4_sidesOf_1 1 rfl rfl)
theorem dX4_sidesOf_28 : decode cX4_sidesOf 28 = .ok (.ifCond .ne 7, 3) := dk_154 0 7 (dk_at dksX4_sidesOf_1 4 rfl rfl)
theorem dX4_sidesOf_31 : decode cX4_sidesOf 31 = .ok (.iconst 1, 1) := dk_4 (dk_at dksX4_sidesOf_1 7 rfl rfl)
theorem dX4_sidesOf_32 : decode cX4_sidesOf 32 = .ok (.goto 4, 3) := dk_167 0 4 (dk_at dksX4_sidesOf_1 8 rfl rfl)
theorem dX4_sidesOf_35 : decode cX4_sidesOf 35 = .ok (.iconst 0, 1) := dk_3 (dk_at dksX4_sidesOf_1 11 rfl rfl)
theorem dX4_sidesOf_36 : decode cX4_sidesOf 36 = .ok (.aload_n 0, 1) := dk_42 (dk_at dksX4_sidesOf_1 12 rfl rfl)
theorem dX4_sidesOf_37 : decode cX4_sidesOf 37 = .ok (.iload_n 3, 1) := dk_29 (dk_at dksX4_sidesOf_1 13 rfl rfl)
theorem dX4_sidesOf_38 : decode cX4_sidesOf 38 = .ok (.invokevirtual 58, 3) := dk_182 0 58 (dk_at dksX4_sidesOf_1 14 rfl rfl)
theorem dX4_sidesOf_41 : decode cX4_sidesOf 41 = .ok (.aload_n 0, 1) := dk_42 (dk_at dksX4_sidesOf_1 17 rfl rfl)
theorem dX4_sidesOf_42 : decode cX4_sidesOf 42 = .ok (.getfield 7, 3) := dk_180 0 7 (dk_at dksX4_sidesOf_1 18 rfl rfl)
theorem dX4_sidesOf_45 : decode cX4_sidesOf 45 = .ok (.iconst 0, 1) := dk_3 (dk_at dksX4_sidesOf_1 21 rfl rfl)
theorem dX4_sidesOf_46 : decode cX4_sidesOf 46 = .ok (.iaload, 1) := dk_46 (dk_at dksX4_sidesOf_1 22 rfl rfl)
theorem dX4_sidesOf_47 : decode cX4_sidesOf 47 = .ok (.iconst 1, 1) := dk_4 (dk_at dksX4_sidesOf_1 23 rfl rfl)
theorem dX4_sidesOf_48 : decode cX4_sidesOf 48 = .ok (.isub, 1) := dk_100 (dk_at dksX4_sidesOf_2 0 rfl rfl)
theorem dX4_sidesOf_49 : decode cX4_sidesOf 49 = .ok (.if_icmp .ne 7, 3) := dk_160 0 7 (dk_at dksX4_sidesOf_2 1 rfl rfl)
theorem dX4_sidesOf_52 : decode cX4_sidesOf 52 = .ok (.iconst 2, 1) := dk_5 (dk_at dksX4_sidesOf_2 4 rfl rfl)
theorem dX4_sidesOf_53 : decode cX4_sidesOf 53 = .ok (.goto 4, 3) := dk_167 0 4 (dk_at dksX4_sidesOf_2 5 rfl rfl)
theorem dX4_sidesOf_56 : decode cX4_sidesOf 56 = .ok (.iconst 0, 1) := dk_3 (dk_at dksX4_sidesOf_2 8 rfl rfl)
theorem dX4_sidesOf_57 : decode cX4_sidesOf 57 = .ok (.ior, 1) := dk_128 (dk_at dksX4_sidesOf_2 9 rfl rfl)
theorem dX4_sidesOf_58 : decode cX4_sidesOf 58 = .ok (.iload_n 3, 1) := dk_29 (dk_at dksX4_sidesOf_2 10 rfl rfl)
theorem dX4_sidesOf_59 : decode cX4_sidesOf 59 = .ok (.aload_n 0, 1) := dk_42 (dk_at dksX4_sidesOf_2 11 rfl rfl)
theorem dX4_sidesOf_60 : decode cX4_sidesOf 60 = .ok (.getfield 7, 3) := dk_180 0 7 (dk_at dksX4_sidesOf_2 12 rfl rfl)
theorem dX4_sidesOf_63 : decode cX4_sidesOf 63 = .ok (.iconst 0, 1) := dk_3 (dk_at dksX4_sidesOf_2 15 rfl rfl)
theorem dX4_sidesOf_64 : decode cX4_sidesOf 64 = .ok (.iaload, 1) := dk_46 (dk_at dksX4_sidesOf_2 16 rfl rfl)
theorem dX4_sidesOf_65 : decode cX4_sidesOf 65 = .ok (.if_icmp .ge 7, 3) := dk_162 0 7 (dk_at dksX4_sidesOf_2 17 rfl rfl)
theorem dX4_sidesOf_68 : decode cX4_sidesOf 68 = .ok (.iconst 4, 1) := dk_7 (dk_at dksX4_sidesOf_2 20 rfl rfl)
theorem dX4_sidesOf_69 : decode cX4_sidesOf 69 = .ok (.goto 4, 3) := dk_167 0 4 (dk_at dksX4_sidesOf_2 21 rfl rfl)
theorem dX4_sidesOf_72 : decode cX4_sidesOf 72 = .ok (.iconst 0, 1) := dk_3 (dk_at dksX4_sidesOf_3 0 rfl rfl)
theorem dX4_sidesOf_73 : decode cX4_sidesOf 73 = .ok (.ior, 1) := dk_128 (dk_at dksX4_sidesOf_3 1 rfl rfl)
theorem dX4_sidesOf_74 : decode cX4_sidesOf 74 = .ok (.iload_n 3, 1) := dk_29 (dk_at dksX4_sidesOf_3 2 rfl rfl)
theorem dX4_sidesOf_75 : decode cX4_sidesOf 75 = .ok (.aload_n 0, 1) := dk_42 (dk_at dksX4_sidesOf_3 3 rfl rfl)
theorem dX4_sidesOf_76 : decode cX4_sidesOf 76 = .ok (.getfield 7, 3) := dk_180 0 7 (dk_at dksX4_sidesOf_3 4 rfl rfl)
theorem dX4_sidesOf_79 : decode cX4_sidesOf 79 = .ok (.iconst 0, 1) := dk_3 (dk_at dksX4_sidesOf_3 7 rfl rfl)
theorem dX4_sidesOf_80 : decode cX4_sidesOf 80 = .ok (.iaload, 1) := dk_46 (dk_at dksX4_sidesOf_3 8 rfl rfl)
theorem dX4_sidesOf_81 : decode cX4_sidesOf 81 = .ok (.idiv, 1) := dk_108 (dk_at dksX4_sidesOf_3 9 rfl rfl)
theorem dX4_sidesOf_82 : decode cX4_sidesOf 82 = .ok (.aload_n 0, 1) := dk_42 (dk_at dksX4_sidesOf_3 10 rfl rfl)
theorem dX4_sidesOf_83 : decode cX4_sidesOf 83 = .ok (.getfield 7, 3) := dk_180 0 7 (dk_at dksX4_sidesOf_3 11 rfl rfl)
theorem dX4_sidesOf_86 : decode cX4_sidesOf 86 = .ok (.iconst 1, 1) := dk_4 (dk_at dksX4_sidesOf_3 14 rfl rfl)
theorem dX4_sidesOf_87 : decode cX4_sidesOf 87 = .ok (.iaload, 1) := dk_46 (dk_at dksX4_sidesOf_3 15 rfl rfl)
theorem dX4_sidesOf_88 : decode cX4_sidesOf 88 = .ok (.iconst 1, 1) := dk_4 (dk_at dksX4_sidesOf_3 16 rfl rfl)
theorem dX4_sidesOf_89 : decode cX4_sidesOf 89 = .ok (.isub, 1) := dk_100 (dk_at dksX4_sidesOf_3 17 rfl rfl)
theorem dX4_sidesOf_90 : decode cX4_sidesOf 90 = .ok (.if_icmp .ne 8, 3) := dk_160 0 8 (dk_at dksX4_sidesOf_3 18 rfl rfl)
theorem dX4_sidesOf_93 : decode cX4_sidesOf 93 = .ok (.bipush 8, 2) := dk_16 8 (dk_at dksX4_sidesOf_3 21 rfl rfl)
theorem dX4_sidesOf_95 : decode cX4_sidesOf 95 = .ok (.goto 4, 3) := dk_167 0 4 (dk_at dksX4_sidesOf_4 0 rfl rfl)
theorem dX4_sidesOf_98 : decode cX4_sidesOf 98 = .ok (.iconst 0, 1) := dk_3 (dk_at dksX4_sidesOf_4 3 rfl rfl)
theorem dX4_sidesOf_99 : decode cX4_sidesOf 99 = .ok (.ior, 1) := dk_128 (dk_at dksX4_sidesOf_4 4 rfl rfl)
theorem dX4_sidesOf_100 : decode cX4_sidesOf 100 = .ok (.ior, 1) := dk_128 (dk_at dksX4_sidesOf_4 5 rfl rfl)
theorem dX4_sidesOf_101 : decode cX4_sidesOf 101 = .ok (.istore_n 2, 1) := dk_61 (dk_at dksX4_sidesOf_4 6 rfl rfl)
theorem dX4_sidesOf_102 : decode cX4_sidesOf 102 = .ok (.iinc 3 1, 3) := dk_132 3 1 (dk_at dksX4_sidesOf_4 7 rfl rfl)
theorem dX4_sidesOf_105 : decode cX4_sidesOf 105 = .ok (.goto (-101), 3) := dk_167 255 155 (dk_at dksX4_sidesOf_4 10 rfl rfl)
theorem dX4_sidesOf_108 : decode cX4_sidesOf 108 = .ok (.iload_n 2, 1) := dk_28 (dk_at dksX4_sidesOf_4 13 rfl rfl)
theorem dX4_sidesOf_109 : decode cX4_sidesOf 109 = .ok (.ireturn, 1) := dk_172 (dk_at dksX4_sidesOf_4 14 rfl rfl)
abbrev cX4_bondsOf : ByteArray := prog_20_method_56_code
def yX4_bondsOf : MethodName := ⟨RX4, "bondsOf", "(II)I"⟩
def dkwX4_bondsOf_5 : List UInt8 := [167, 255, 142, 29, 172]
abbrev dktX4_bondsOf_5 : List UInt8 := dkwX4_bondsOf_5 ++ []
def dkwX4_bondsOf_4 : List UInt8 := [182, 0, 70, 4, 159, 0, 7, 4, 167, 0, 4, 3, 96, 62, 132, 5, 1, 167, 255, 160, 132, 4, 1]
abbrev dktX4_bondsOf_4 : List UInt8 := dkwX4_bondsOf_4 ++ dktX4_bondsOf_5
def dkwX4_bondsOf_3 : List UInt8 := [167, 0, 4, 3, 96, 54, 7, 29, 21, 7, 28, 160, 0, 24, 28, 4, 159, 0, 15, 42, 21, 4, 21, 5]
abbrev dktX4_bondsOf_3 : List UInt8 := dkwX4_bondsOf_3 ++ dktX4_bondsOf_4
def dkwX4_bondsOf_2 : List UInt8 := [21, 4, 46, 27, 160, 0, 7, 4, 167, 0, 4, 3, 42, 180, 0, 29, 21, 6, 46, 27, 160, 0, 7, 4]
abbrev dktX4_bondsOf_2 : List UInt8 := dkwX4_bondsOf_2 ++ dktX4_bondsOf_3
def dkwX4_bondsOf_1 : List UInt8 := [21, 4, 21, 5, 182, 0, 62, 54, 6, 21, 6, 16, 247, 160, 0, 7, 3, 167, 0, 36, 42, 180, 0, 29]
abbrev dktX4_bondsOf_1 : List UInt8 := dkwX4_bondsOf_1 ++ dktX4_bondsOf_2
def dkwX4_bondsOf_0 : List UInt8 := [3, 62, 3, 54, 4, 21, 4, 42, 182, 0, 46, 162, 0, 111, 3, 54, 5, 21, 5, 7, 162, 0, 96, 42]
abbrev dktX4_bondsOf_0 : List UInt8 := dkwX4_bondsOf_0 ++ dktX4_bondsOf_1
theorem dksX4_bondsOf_0 : cX4_bondsOf.data.toList.drop 0 = dktX4_bondsOf_0 := by decide +kernel
theorem dksX4_bondsOf_1 : cX4_bondsOf.data.toList.drop 24 = dktX4_bondsOf_1 := dk_seg dksX4_bondsOf_0 24 rfl rfl
theorem dksX4_bondsOf_2 : cX4_bondsOf.data.toList.drop 48 = dktX4_bondsOf_2 := dk_seg dksX4_bondsOf_1 24 rfl rfl
theorem dksX4_bondsOf_3 : cX4_bondsOf.data.toList.drop 72 = dktX4_bondsOf_3 := dk_seg dksX4_bondsOf_2 24 rfl rfl
theorem dksX4_bondsOf_4 : cX4_bondsOf.data.toList.drop 96 = dktX4_bondsOf_4 := dk_seg dksX4_bondsOf_3 24 rfl rfl
theorem dksX4_bondsOf_5 : cX4_bondsOf.data.toList.drop 119 = dktX4_bondsOf_5 := dk_seg dksX4_bondsOf_4 23 rfl rfl
theorem dX4_bondsOf_0 : decode cX4_bondsOf 0 = .ok (.iconst 0, 1) := dk_3 (dk_at dksX4_bondsOf_0 0 rfl rfl)
theorem dX4_bondsOf_1 : decode cX4_bondsOf 1 = .ok (.istore_n 3, 1) := dk_62 (dk_at dksX4_bondsOf_0 1 rfl rfl)
theorem dX4_bondsOf_2 : decode cX4_bondsOf 2 = .ok (.iconst 0, 1) := dk_3 (dk_at dksX4_bondsOf_0 2 rfl rfl)
theorem dX4_bondsOf_3 : decode cX4_bondsOf 3 = .ok (.istore 4, 2) := dk_54 4 (dk_at dksX4_bondsOf_0 3 rfl rfl)
theorem dX4_bondsOf_5 : decode cX4_bondsOf 5 = .ok (.iload 4, 2) := dk_21 4 (dk_at dksX4_bondsOf_0 5 rfl rfl)
theorem dX4_bondsOf_7 : decode cX4_bondsOf 7 = .ok (.aload_n 0, 1) := dk_42 (dk_at dksX4_bondsOf_0 7 rfl rfl)
theorem dX4_bondsOf_8 : decode cX4_bondsOf 8 = .ok (.invokevirtual 46, 3) := dk_182 0 46 (dk_at dksX4_bondsOf_0 8 rfl rfl)
theorem dX4_bondsOf_11 : decode cX4_bondsOf 11 = .ok (.if_icmp .ge 111, 3) := dk_162 0 111 (dk_at dksX4_bondsOf_0 11 rfl rfl)
theorem dX4_bondsOf_14 : decode cX4_bondsOf 14 = .ok (.iconst 0, 1) := dk_3 (dk_at dksX4_bondsOf_0 14 rfl rfl)
theorem dX4_bondsOf_15 : decode cX4_bondsOf 15 = .ok (.istore 5, 2) := dk_54 5 (dk_at dksX4_bondsOf_0 15 rfl rfl)
theorem dX4_bondsOf_17 : decode cX4_bondsOf 17 = .ok (.iload 5, 2) := dk_21 5 (dk_at dksX4_bondsOf_0 17 rfl rfl)
theorem dX4_bondsOf_19 : decode cX4_bondsOf 19 = .ok (.iconst 4, 1) := dk_7 (dk_at dksX4_bondsOf_0 19 rfl rfl)
theorem dX4_bondsOf_20 : decode cX4_bondsOf 20 = .ok (.if_icmp .ge 96, 3) := dk_162 0 96 (dk_at dksX4_bondsOf_0 20 rfl rfl)
theorem dX4_bondsOf_23 : decode cX4_bondsOf 23 = .ok (.aload_n 0, 1) := dk_42 (dk_at dksX4_bondsOf_0 23 rfl rfl)
theorem dX4_bondsOf_24 : decode cX4_bondsOf 24 = .ok (.iload 4, 2) := dk_21 4 (dk_at dksX4_bondsOf_1 0 rfl rfl)
theorem dX4_bondsOf_26 : decode cX4_bondsOf 26 = .ok (.iload 5, 2) := dk_21 5 (dk_at dksX4_bondsOf_1 2 rfl rfl)
theorem dX4_bondsOf_28 : decode cX4_bondsOf 28 = .ok (.invokevirtual 62, 3) := dk_182 0 62 (dk_at dksX4_bondsOf_1 4 rfl rfl)
theorem dX4_bondsOf_31 : decode cX4_bondsOf 31 = .ok (.istore 6, 2) := dk_54 6 (dk_at dksX4_bondsOf_1 7 rfl rfl)
theorem dX4_bondsOf_33 : decode cX4_bondsOf 33 = .ok (.iload 6, 2) := dk_21 6 (dk_at dksX4_bondsOf_1 9 rfl rfl)
theorem dX4_bondsOf_35 : decode cX4_bondsOf 35 = .ok (.bipush (-9), 2) := dk_16 247 (dk_at dksX4_bondsOf_1 11 rfl rfl)
theorem dX4_bondsOf_37 : decode cX4_bondsOf 37 = .ok (.if_icmp .ne 7, 3) := dk_160 0 7 (dk_at dksX4_bondsOf_1 13 rfl rfl)
theorem dX4_bondsOf_40 : decode cX4_bondsOf 40 = .ok (.iconst 0, 1) := dk_3 (dk_at dksX4_bondsOf_1 16 rfl rfl)
theorem dX4_bondsOf_41 : decode cX4_bondsOf 41 = .ok (.goto 36, 3) := dk_167 0 36 (dk_at dksX4_bondsOf_1 17 rfl rfl)
theorem dX4_bondsOf_44 : decode cX4_bondsOf 44 = .ok (.aload_n 0, 1) := dk_42 (dk_at dksX4_bondsOf_1 20 rfl rfl)
theorem dX4_bondsOf_45 : decode cX4_bondsOf 45 = .ok (.getfield 29, 3) := dk_180 0 29 (dk_at dksX4_bondsOf_1 21 rfl rfl)
theorem dX4_bondsOf_48 : decode cX4_bondsOf 48 = .ok (.iload 4, 2) := dk_21 4 (dk_at dksX4_bondsOf_2 0 rfl rfl)
theorem dX4_bondsOf_50 : decode cX4_bondsOf 50 = .ok (.iaload, 1) := dk_46 (dk_at dksX4_bondsOf_2 2 rfl rfl)
theorem dX4_bondsOf_51 : decode cX4_bondsOf 51 = .ok (.iload_n 1, 1) := dk_27 (dk_at dksX4_bondsOf_2 3 rfl rfl)
theorem dX4_bondsOf_52 : decode cX4_bondsOf 52 = .ok (.if_icmp .ne 7, 3) := dk_160 0 7 (dk_at dksX4_bondsOf_2 4 rfl rfl)
theorem dX4_bondsOf_55 : decode cX4_bondsOf 55 = .ok (.iconst 1, 1) := dk_4 (dk_at dksX4_bondsOf_2 7 rfl rfl)
theorem dX4_bondsOf_56 : decode cX4_bondsOf 56 = .ok (.goto 4, 3) := dk_167 0 4 (dk_at dksX4_bondsOf_2 8 rfl rfl)
theorem dX4_bondsOf_59 : decode cX4_bondsOf 59 = .ok (.iconst 0, 1) := dk_3 (dk_at dksX4_bondsOf_2 11 rfl rfl)
theorem dX4_bondsOf_60 : decode cX4_bondsOf 60 = .ok (.aload_n 0, 1) := dk_42 (dk_at dksX4_bondsOf_2 12 rfl rfl)
theorem dX4_bondsOf_61 : decode cX4_bondsOf 61 = .ok (.getfield 29, 3) := dk_180 0 29 (dk_at dksX4_bondsOf_2 13 rfl rfl)
theorem dX4_bondsOf_64 : decode cX4_bondsOf 64 = .ok (.iload 6, 2) := dk_21 6 (dk_at dksX4_bondsOf_2 16 rfl rfl)
theorem dX4_bondsOf_66 : decode cX4_bondsOf 66 = .ok (.iaload, 1) := dk_46 (dk_at dksX4_bondsOf_2 18 rfl rfl)
theorem dX4_bondsOf_67 : decode cX4_bondsOf 67 = .ok (.iload_n 1, 1) := dk_27 (dk_at dksX4_bondsOf_2 19 rfl rfl)
theorem dX4_bondsOf_68 : decode cX4_bondsOf 68 = .ok (.if_icmp .ne 7, 3) := dk_160 0 7 (dk_at dksX4_bondsOf_2 20 rfl rfl)
theorem dX4_bondsOf_71 : decode cX4_bondsOf 71 = .ok (.iconst 1, 1) := dk_4 (dk_at dksX4_bondsOf_2 23 rfl rfl)
theorem dX4_bondsOf_72 : decode cX4_bondsOf 72 = .ok (.goto 4, 3) := dk_167 0 4 (dk_at dksX4_bondsOf_3 0 rfl rfl)
theorem dX4_bondsOf_75 : decode cX4_bondsOf 75 = .ok (.iconst 0, 1) := dk_3 (dk_at dksX4_bondsOf_3 3 rfl rfl)
theorem dX4_bondsOf_76 : decode cX4_bondsOf 76 = .ok (.iadd, 1) := dk_96 (dk_at dksX4_bondsOf_3 4 rfl rfl)
theorem dX4_bondsOf_77 : decode cX4_bondsOf 77 = .ok (.istore 7, 2) := dk_54 7 (dk_at dksX4_bondsOf_3 5 rfl rfl)
theorem dX4_bondsOf_79 : decode cX4_bondsOf 79 = .ok (.iload_n 3, 1) := dk_29 (dk_at dksX4_bondsOf_3 7 rfl rfl)
theorem dX4_bondsOf_80 : decode cX4_bondsOf 80 = .ok (.iload 7, 2) := dk_21 7 (dk_at dksX4_bondsOf_3 8 rfl rfl)
theorem dX4_bondsOf_82 : decode cX4_bondsOf 82 = .ok (.iload_n 2, 1) := dk_28 (dk_at dksX4_bondsOf_3 10 rfl rfl)
theorem dX4_bondsOf_83 : decode cX4_bondsOf 83 = .ok (.if_icmp .ne 24, 3) := dk_160 0 24 (dk_at dksX4_bondsOf_3 11 rfl rfl)
theorem dX4_bondsOf_86 : decode cX4_bondsOf 86 = .ok (.iload_n 2, 1) := dk_28 (dk_at dksX4_bondsOf_3 14 rfl rfl)
theorem dX4_bondsOf_87 : decode cX4_bondsOf 87 = .ok (.iconst 1, 1) := dk_4 (dk_at dksX4_bondsOf_3 15 rfl rfl)
theorem dX4_bondsOf_88 : decode cX4_bondsOf 88 = .ok (.if_icmp .eq 15, 3) := dk_159 0 15 (dk_at dksX4_bondsOf_3 16 rfl rfl)
theorem dX4_bondsOf_91 : decode cX4_bondsOf 91 = .ok (.aload_n 0, 1) := dk_42 (dk_at dksX4_bondsOf_3 19 rfl rfl)
theorem dX4_bondsOf_92 : decode cX4_bondsOf 92 = .ok (.iload 4, 2) := dk_21 4 (dk_at dksX4_bondsOf_3 20 rfl rfl)
theorem dX4_bondsOf_94 : decode cX4_bondsOf 94 = .ok (.iload 5, 2) := dk_21 5 (dk_at dksX4_bondsOf_3 22 rfl rfl)
theorem dX4_bondsOf_96 : decode cX4_bondsOf 96 = .ok (.invokevirtual 70, 3) := dk_182 0 70 (dk_at dksX4_bondsOf_4 0 rfl rfl)
theorem dX4_bondsOf_99 : decode cX4_bondsOf 99 = .ok (.iconst 1, 1) := dk_4 (dk_at dksX4_bondsOf_4 3 rfl rfl)
theorem dX4_bondsOf_100 : decode cX4_bondsOf 100 = .ok (.if_icmp .eq 7, 3) := dk_159 0 7 (dk_at dksX4_bondsOf_4 4 rfl rfl)
theorem dX4_bondsOf_103 : decode cX4_bondsOf 103 = .ok (.iconst 1, 1) := dk_4 (dk_at dksX4_bondsOf_4 7 rfl rfl)
theorem dX4_bondsOf_104 : decode cX4_bondsOf 104 = .ok (.goto 4, 3) := dk_167 0 4 (dk_at dksX4_bondsOf_4 8 rfl rfl)
theorem dX4_bondsOf_107 : decode cX4_bondsOf 107 = .ok (.iconst 0, 1) := dk_3 (dk_at dksX4_bondsOf_4 11 rfl rfl)
theorem dX4_bondsOf_108 : decode cX4_bondsOf 108 = .ok (.iadd, 1) := dk_96 (dk_at dksX4_bondsOf_4 12 rfl rfl)
theorem dX4_bondsOf_109 : decode cX4_bondsOf 109 = .ok (.istore_n 3, 1) := dk_62 (dk_at dksX4_bondsOf_4 13 rfl rfl)
theorem dX4_bondsOf_110 : decode cX4_bondsOf 110 = .ok (.iinc 5 1, 3) := dk_132 5 1 (dk_at dksX4_bondsOf_4 14 rfl rfl)
theorem dX4_bondsOf_113 : decode cX4_bondsOf 113 = .ok (.goto (-96), 3) := dk_167 255 160 (dk_at dksX4_bondsOf_4 17 rfl rfl)
theorem dX4_bondsOf_116 : decode cX4_bondsOf 116 = .ok (.iinc 4 1, 3) := dk_132 4 1 (dk_at dksX4_bondsOf_4 20 rfl rfl)
theorem dX4_bondsOf_119 : decode cX4_bondsOf 119 = .ok (.goto (-114), 3) := dk_167 255 142 (dk_at dksX4_bondsOf_5 0 rfl rfl)
theorem dX4_bondsOf_122 : decode cX4_bondsOf 122 = .ok (.iload_n 3, 1) := dk_29 (dk_at dksX4_bondsOf_5 3 rfl rfl)
theorem dX4_bondsOf_123 : decode cX4_bondsOf 123 = .ok (.ireturn, 1) := dk_172 (dk_at dksX4_bondsOf_5 4 rfl rfl)
abbrev cX4_ledger : ByteArray := prog_20_method_58_code
def yX4_ledger : MethodName := ⟨RX4, "ledger", "(II)I"⟩
def dkwX4_ledger_5 : List UInt8 := [160, 0, 10, 42, 180, 0, 94, 167, 0, 14, 28, 5, 160, 0, 7, 29, 167, 0, 5, 21, 4, 172]
abbrev dktX4_ledger_5 : List UInt8 := dkwX4_ledger_5 ++ []
def dkwX4_ledger_4 : List UInt8 := [54, 4, 132, 5, 1, 167, 255, 213, 28, 154, 0, 11, 42, 27, 182, 0, 111, 167, 0, 26, 28, 4]
abbrev dktX4_ledger_4 : List UInt8 := dkwX4_ledger_4 ++ dktX4_ledger_5
def dkwX4_ledger_3 : List UInt8 := [54, 6, 21, 6, 29, 164, 0, 8, 21, 6, 167, 0, 4, 29, 62, 21, 4, 21, 6, 21, 6, 104, 96]
abbrev dktX4_ledger_3 : List UInt8 := dkwX4_ledger_3 ++ dktX4_ledger_4
def dkwX4_ledger_2 : List UInt8 := [3, 62, 3, 54, 4, 3, 54, 5, 21, 5, 42, 180, 0, 94, 162, 0, 40, 42, 21, 5, 182, 0, 153]
abbrev dktX4_ledger_2 : List UInt8 := dkwX4_ledger_2 ++ dktX4_ledger_3
def dkwX4_ledger_1 : List UInt8 := [160, 0, 19, 42, 27, 16, 247, 182, 0, 165, 153, 0, 7, 4, 167, 0, 4, 3, 172, 42, 27, 182, 0, 135]
abbrev dktX4_ledger_1 : List UInt8 := dkwX4_ledger_1 ++ dktX4_ledger_2
def dkwX4_ledger_0 : List UInt8 := [27, 3, 16, 100, 184, 0, 50, 153, 0, 12, 28, 3, 7, 184, 0, 50, 154, 0, 5, 2, 172, 28, 7]
abbrev dktX4_ledger_0 : List UInt8 := dkwX4_ledger_0 ++ dktX4_ledger_1
theorem dksX4_ledger_0 : cX4_ledger.data.toList.drop 0 = dktX4_ledger_0 := by decide +kernel
theorem dksX4_ledger_1 : cX4_ledger.data.toList.drop 23 = dktX4_ledger_1 := dk_seg dksX4_ledger_0 23 rfl rfl
theorem dksX4_ledger_2 : cX4_ledger.data.toList.drop 47 = dktX4_ledger_2 := dk_seg dksX4_ledger_1 24 rfl rfl
theorem dksX4_ledger_3 : cX4_ledger.data.toList.drop 70 = dktX4_ledger_3 := dk_seg dksX4_ledger_2 23 rfl rfl
theorem dksX4_ledger_4 : cX4_ledger.data.toList.drop 93 = dktX4_ledger_4 := dk_seg dksX4_ledger_3 23 rfl rfl
theorem dksX4_ledger_5 : cX4_ledger.data.toList.drop 115 = dktX4_ledger_5 := dk_seg dksX4_ledger_4 22 rfl rfl
theorem dX4_ledger_0 : decode cX4_ledger 0 = .ok (.iload_n 1, 1) := dk_27 (dk_at dksX4_ledger_0 0 rfl rfl)
theorem dX4_ledger_1 : decode cX4_ledger 1 = .ok (.iconst 0, 1) := dk_3 (dk_at dksX4_ledger_0 1 rfl rfl)
theorem dX4_ledger_2 : decode cX4_ledger 2 = .ok (.bipush 100, 2) := dk_16 100 (dk_at dksX4_ledger_0 2 rfl rfl)
theorem dX4_ledger_4 : decode cX4_ledger 4 = .ok (.invokestatic 50, 3) := dk_184 0 50 (dk_at dksX4_ledger_0 4 rfl rfl)
theorem dX4_ledger_7 : decode cX4_ledger 7 = .ok (.ifCond .eq 12, 3) := dk_153 0 12 (dk_at dksX4_ledger_0 7 rfl rfl)
theorem dX4_ledger_10 : decode cX4_ledger 10 = .ok (.iload_n 2, 1) := dk_28 (dk_at dksX4_ledger_0 10 rfl rfl)
theorem dX4_ledger_11 : decode cX4_ledger 11 = .ok (.iconst 0, 1) := dk_3 (dk_at dksX4_ledger_0 11 rfl rfl)
theorem dX4_ledger_12 : decode cX4_ledger 12 = .ok (.iconst 4, 1) := dk_7 (dk_at dksX4_ledger_0 12 rfl rfl)
theorem dX4_ledger_13 : decode cX4_ledger 13 = .ok (.invokestatic 50, 3) := dk_184 0 50 (dk_at dksX4_ledger_0 13 rfl rfl)
theorem dX4_ledger_16 : decode cX4_ledger 16 = .ok (.ifCond .ne 5, 3) := dk_154 0 5 (dk_at dksX4_ledger_0 16 rfl rfl)
theorem dX4_ledger_19 : decode cX4_ledger 19 = .ok (.iconst (-1), 1) := dk_2 (dk_at dksX4_ledger_0 19 rfl rfl)
theorem dX4_ledger_20 : decode cX4_ledger 20 = .ok (.ireturn, 1) := dk_172 (dk_at dksX4_ledger_0 20 rfl rfl)
theorem dX4_ledger_21 : decode cX4_ledger 21 = .ok (.iload_n 2, 1) := dk_28 (dk_at dksX4_ledger_0 21 rfl rfl)
theorem dX4_ledger_22 : decode cX4_ledger 22 = .ok (.iconst 4, 1) := dk_7 (dk_at dksX4_ledger_0 22 rfl rfl)
theorem dX4_ledger_23 : decode cX4_ledger 23 = .ok (.if_icmp .ne 19, 3) := dk_160 0 19 (dk_at dksX4_ledger_1 0 rfl rfl)
theorem dX4_ledger_26 : decode cX4_ledger 26 = .ok (.aload_n 0, 1) := dk_42 (dk_at dksX4_ledger_1 3 rfl rfl)
theorem dX4_ledger_27 : decode cX4_ledger 27 = .ok (.iload_n 1, 1) := dk_27 (dk_at dksX4_ledger_1 4 rfl rfl)
theorem dX4_ledger_28 : decode cX4_ledger 28 = .ok (.bipush (-9), 2) := dk_16 247 (dk_at dksX4_ledger_1 5 rfl rfl)
theorem dX4_ledger_30 : decode cX4_ledger 30 = .ok (.invokevirtual 165, 3) := dk_182 0 165 (dk_at dksX4_ledger_1 7 rfl rfl)
theorem dX4_ledger_33 : decode cX4_ledger 33 = .ok (.ifCond .eq 7, 3) := dk_153 0 7 (dk_at dksX4_ledger_1 10 rfl rfl)
theorem dX4_ledger_36 : decode cX4_ledger 36 = .ok (.iconst 1, 1) := dk_4 (dk_at dksX4_ledger_1 13 rfl rfl)
theorem dX4_ledger_37 : decode cX4_ledger 37 = .ok (.goto 4, 3) := dk_167 0 4 (dk_at dksX4_ledger_1 14 rfl rfl)
theorem dX4_ledger_40 : decode cX4_ledger 40 = .ok (.iconst 0, 1) := dk_3 (dk_at dksX4_ledger_1 17 rfl rfl)
theorem dX4_ledger_41 : decode cX4_ledger 41 = .ok (.ireturn, 1) := dk_172 (dk_at dksX4_ledger_1 18 rfl rfl)
theorem dX4_ledger_42 : decode cX4_ledger 42 = .ok (.aload_n 0, 1) := dk_42 (dk_at dksX4_ledger_1 19 rfl rfl)
theorem dX4_ledger_43 : decode cX4_ledger 43 = .ok (.iload_n 1, 1) := dk_27 (dk_at dksX4_ledger_1 20 rfl rfl)
theorem dX4_ledger_44 : decode cX4_ledger 44 = .ok (.invokevirtual 135, 3) := dk_182 0 135 (dk_at dksX4_ledger_1 21 rfl rfl)
theorem dX4_ledger_47 : decode cX4_ledger 47 = .ok (.iconst 0, 1) := dk_3 (dk_at dksX4_ledger_2 0 rfl rfl)
theorem dX4_ledger_48 : decode cX4_ledger 48 = .ok (.istore_n 3, 1) := dk_62 (dk_at dksX4_ledger_2 1 rfl rfl)
theorem dX4_ledger_49 : decode cX4_ledger 49 = .ok (.iconst 0, 1) := dk_3 (dk_at dksX4_ledger_2 2 rfl rfl)
theorem dX4_ledger_50 : decode cX4_ledger 50 = .ok (.istore 4, 2) := dk_54 4 (dk_at dksX4_ledger_2 3 rfl rfl)
theorem dX4_ledger_52 : decode cX4_ledger 52 = .ok (.iconst 0, 1) := dk_3 (dk_at dksX4_ledger_2 5 rfl rfl)
theorem dX4_ledger_53 : decode cX4_ledger 53 = .ok (.istore 5, 2) := dk_54 5 (dk_at dksX4_ledger_2 6 rfl rfl)
theorem dX4_ledger_55 : decode cX4_ledger 55 = .ok (.iload 5, 2) := dk_21 5 (dk_at dksX4_ledger_2 8 rfl rfl)
theorem dX4_ledger_57 : decode cX4_ledger 57 = .ok (.aload_n 0, 1) := dk_42 (dk_at dksX4_ledger_2 10 rfl rfl)
theorem dX4_ledger_58 : decode cX4_ledger 58 = .ok (.getfield 94, 3) := dk_180 0 94 (dk_at dksX4_ledger_2 11 rfl rfl)
theorem dX4_ledger_61 : decode cX4_ledger 61 = .ok (.if_icmp .ge 40, 3) := dk_162 0 40 (dk_at dksX4_ledger_2 14 rfl rfl)
theorem dX4_ledger_64 : decode cX4_ledger 64 = .ok (.aload_n 0, 1) := dk_42 (dk_at dksX4_ledger_2 17 rfl rfl)
theorem dX4_ledger_65 : decode cX4_ledger 65 = .ok (.iload 5, 2) := dk_21 5 (dk_at dksX4_ledger_2 18 rfl rfl)
theorem dX4_ledger_67 : decode cX4_ledger 67 = .ok (.invokevirtual 153, 3) := dk_182 0 153 (dk_at dksX4_ledger_2 20 rfl rfl)
theorem dX4_ledger_70 : decode cX4_ledger 70 = .ok (.istore 6, 2) := dk_54 6 (dk_at dksX4_ledger_3 0 rfl rfl)
theorem dX4_ledger_72 : decode cX4_ledger 72 = .ok (.iload 6, 2) := dk_21 6 (dk_at dksX4_ledger_3 2 rfl rfl)
theorem dX4_ledger_74 : decode cX4_ledger 74 = .ok (.iload_n 3, 1) := dk_29 (dk_at dksX4_ledger_3 4 rfl rfl)
theorem dX4_ledger_75 : decode cX4_ledger 75 = .ok (.if_icmp .le 8, 3) := dk_164 0 8 (dk_at dksX4_ledger_3 5 rfl rfl)
theorem dX4_ledger_78 : decode cX4_ledger 78 = .ok (.iload 6, 2) := dk_21 6 (dk_at dksX4_ledger_3 8 rfl rfl)
theorem dX4_ledger_80 : decode cX4_ledger 80 = .ok (.goto 4, 3) := dk_167 0 4 (dk_at dksX4_ledger_3 10 rfl rfl)
theorem dX4_ledger_83 : decode cX4_ledger 83 = .ok (.iload_n 3, 1) := dk_29 (dk_at dksX4_ledger_3 13 rfl rfl)
theorem dX4_ledger_84 : decode cX4_ledger 84 = .ok (.istore_n 3, 1) := dk_62 (dk_at dksX4_ledger_3 14 rfl rfl)
theorem dX4_ledger_85 : decode cX4_ledger 85 = .ok (.iload 4, 2) := dk_21 4 (dk_at dksX4_ledger_3 15 rfl rfl)
theorem dX4_ledger_87 : decode cX4_ledger 87 = .ok (.iload 6, 2) := dk_21 6 (dk_at dksX4_ledger_3 17 rfl rfl)
theorem dX4_ledger_89 : decode cX4_ledger 89 = .ok (.iload 6, 2) := dk_21 6 (dk_at dksX4_ledger_3 19 rfl rfl)
theorem dX4_ledger_91 : decode cX4_ledger 91 = .ok (.imul, 1) := dk_104 (dk_at dksX4_ledger_3 21 rfl rfl)
theorem dX4_ledger_92 : decode cX4_ledger 92 = .ok (.iadd, 1) := dk_96 (dk_at dksX4_ledger_3 22 rfl rfl)
theorem dX4_ledger_93 : decode cX4_ledger 93 = .ok (.istore 4, 2) := dk_54 4 (dk_at dksX4_ledger_4 0 rfl rfl)
theorem dX4_ledger_95 : decode cX4_ledger 95 = .ok (.iinc 5 1, 3) := dk_132 5 1 (dk_at dksX4_ledger_4 2 rfl rfl)
theorem dX4_ledger_98 : decode cX4_ledger 98 = .ok (.goto (-43), 3) := dk_167 255 213 (dk_at dksX4_ledger_4 5 rfl rfl)
theorem dX4_ledger_101 : decode cX4_ledger 101 = .ok (.iload_n 2, 1) := dk_28 (dk_at dksX4_ledger_4 8 rfl rfl)
theorem dX4_ledger_102 : decode cX4_ledger 102 = .ok (.ifCond .ne 11, 3) := dk_154 0 11 (dk_at dksX4_ledger_4 9 rfl rfl)
theorem dX4_ledger_105 : decode cX4_ledger 105 = .ok (.aload_n 0, 1) := dk_42 (dk_at dksX4_ledger_4 12 rfl rfl)
theorem dX4_ledger_106 : decode cX4_ledger 106 = .ok (.iload_n 1, 1) := dk_27 (dk_at dksX4_ledger_4 13 rfl rfl)
theorem dX4_ledger_107 : decode cX4_ledger 107 = .ok (.invokevirtual 111, 3) := dk_182 0 111 (dk_at dksX4_ledger_4 14 rfl rfl)
theorem dX4_ledger_110 : decode cX4_ledger 110 = .ok (.goto 26, 3) := dk_167 0 26 (dk_at dksX4_ledger_4 17 rfl rfl)
theorem dX4_ledger_113 : decode cX4_ledger 113 = .ok (.iload_n 2, 1) := dk_28 (dk_at dksX4_ledger_4 20 rfl rfl)
theorem dX4_ledger_114 : decode cX4_ledger 114 = .ok (.iconst 1, 1) := dk_4 (dk_at dksX4_ledger_4 21 rfl rfl)
theorem dX4_ledger_115 : decode cX4_ledger 115 = .ok (.if_icmp .ne 10, 3) := dk_160 0 10 (dk_at dksX4_ledger_5 0 rfl rfl)
theorem dX4_ledger_118 : decode cX4_ledger 118 = .ok (.aload_n 0, 1) := dk_42 (dk_at dksX4_ledger_5 3 rfl rfl)
theorem dX4_ledger_119 : decode cX4_ledger 119 = .ok (.getfield 94, 3) := dk_180 0 94 (dk_at dksX4_ledger_5 4 rfl rfl)
theorem dX4_ledger_122 : decode cX4_ledger 122 = .ok (.goto 14, 3) := dk_167 0 14 (dk_at dksX4_ledger_5 7 rfl rfl)
theorem dX4_ledger_125 : decode cX4_ledger 125 = .ok (.iload_n 2, 1) := dk_28 (dk_at dksX4_ledger_5 10 rfl rfl)
theorem dX4_ledger_126 : decode cX4_ledger 126 = .ok (.iconst 2, 1) := dk_5 (dk_at dksX4_ledger_5 11 rfl rfl)
theorem dX4_ledger_127 : decode cX4_ledger 127 = .ok (.if_icmp .ne 7, 3) := dk_160 0 7 (dk_at dksX4_ledger_5 12 rfl rfl)
theorem dX4_ledger_130 : decode cX4_ledger 130 = .ok (.iload_n 3, 1) := dk_29 (dk_at dksX4_ledger_5 15 rfl rfl)
theorem dX4_ledger_131 : decode cX4_ledger 131 = .ok (.goto 5, 3) := dk_167 0 5 (dk_at dksX4_ledger_5 16 rfl rfl)
theorem dX4_ledger_134 : decode cX4_ledger 134 = .ok (.iload 4, 2) := dk_21 4 (dk_at dksX4_ledger_5 19 rfl rfl)
theorem dX4_ledger_136 : decode cX4_ledger 136 = .ok (.ireturn, 1) := dk_172 (dk_at dksX4_ledger_5 21 rfl rfl)
abbrev cX4_spans : ByteArray := prog_20_method_22_code
def yX4_spans : MethodName := ⟨RX4, "spans", "(II)Z"⟩
def dkwX4_spans_4 : List UInt8 := [62, 132, 4, 1, 167, 255, 206, 29, 172]
abbrev dktX4_spans_4 : List UInt8 := dkwX4_spans_4 ++ []
def dkwX4_spans_3 : List UInt8 := [180, 0, 7, 3, 46, 104, 42, 180, 0, 7, 3, 46, 96, 4, 100, 51, 153, 0, 7, 4, 167, 0, 4, 3]
abbrev dktX4_spans_3 : List UInt8 := dkwX4_spans_3 ++ dktX4_spans_4
def dkwX4_spans_2 : List UInt8 := [21, 4, 42, 180, 0, 7, 4, 46, 162, 0, 45, 29, 154, 0, 29, 42, 180, 0, 25, 21, 4, 42]
abbrev dktX4_spans_2 : List UInt8 := dkwX4_spans_2 ++ dktX4_spans_3
def dkwX4_spans_1 : List UInt8 := [104, 27, 28, 182, 0, 80, 132, 3, 1, 167, 255, 229, 42, 27, 28, 3, 182, 0, 90, 3, 62, 3, 54, 4]
abbrev dktX4_spans_1 : List UInt8 := dkwX4_spans_1 ++ dktX4_spans_2
def dkwX4_spans_0 : List UInt8 := [42, 182, 0, 87, 3, 62, 29, 42, 180, 0, 7, 4, 46, 162, 0, 23, 42, 29, 42, 180, 0, 7, 3, 46]
abbrev dktX4_spans_0 : List UInt8 := dkwX4_spans_0 ++ dktX4_spans_1
theorem dksX4_spans_0 : cX4_spans.data.toList.drop 0 = dktX4_spans_0 := by decide +kernel
theorem dksX4_spans_1 : cX4_spans.data.toList.drop 24 = dktX4_spans_1 := dk_seg dksX4_spans_0 24 rfl rfl
theorem dksX4_spans_2 : cX4_spans.data.toList.drop 48 = dktX4_spans_2 := dk_seg dksX4_spans_1 24 rfl rfl
theorem dksX4_spans_3 : cX4_spans.data.toList.drop 70 = dktX4_spans_3 := dk_seg dksX4_spans_2 22 rfl rfl
theorem dksX4_spans_4 : cX4_spans.data.toList.drop 94 = dktX4_spans_4 := dk_seg dksX4_spans_3 24 rfl rfl
theorem dX4_spans_0 : decode cX4_spans 0 = .ok (.aload_n 0, 1) := dk_42 (dk_at dksX4_spans_0 0 rfl rfl)
theorem dX4_spans_1 : decode cX4_spans 1 = .ok (.invokevirtual 87, 3) := dk_182 0 87 (dk_at dksX4_spans_0 1 rfl rfl)
theorem dX4_spans_4 : decode cX4_spans 4 = .ok (.iconst 0, 1) := dk_3 (dk_at dksX4_spans_0 4 rfl rfl)
theorem dX4_spans_5 : decode cX4_spans 5 = .ok (.istore_n 3, 1) := dk_62 (dk_at dksX4_spans_0 5 rfl rfl)
theorem dX4_spans_6 : decode cX4_spans 6 = .ok (.iload_n 3, 1) := dk_29 (dk_at dksX4_spans_0 6 rfl rfl)
theorem dX4_spans_7 : decode cX4_spans 7 = .ok (.aload_n 0, 1) := dk_42 (dk_at dksX4_spans_0 7 rfl rfl)
theorem dX4_spans_8 : decode cX4_spans 8 = .ok (.getfield 7, 3) := dk_180 0 7 (dk_at dksX4_spans_0 8 rfl rfl)
theorem dX4_spans_11 : decode cX4_spans 11 = .ok (.iconst 1, 1) := dk_4 (dk_at dksX4_spans_0 11 rfl rfl)
theorem dX4_spans_12 : decode cX4_spans 12 = .ok (.iaload, 1) := dk_46 (dk_at dksX4_spans_0 12 rfl rfl)
theorem dX4_spans_13 : decode cX4_spans 13 = .ok (.if_icmp .ge 23, 3) := dk_162 0 23 (dk_at dksX4_spans_0 13 rfl rfl)
theorem dX4_spans_16 : decode cX4_spans 16 = .ok (.aload_n 0, 1) := dk_42 (dk_at dksX4_spans_0 16 rfl rfl)
theorem dX4_spans_17 : decode cX4_spans 17 = .ok (.iload_n 3, 1) := dk_29 (dk_at dksX4_spans_0 17 rfl rfl)
theorem dX4_spans_18 : decode cX4_spans 18 = .ok (.aload_n 0, 1) := dk_42 (dk_at dksX4_spans_0 18 rfl rfl)
theorem dX4_spans_19 : decode cX4_spans 19 = .ok (.getfield 7, 3) := dk_180 0 7 (dk_at dksX4_spans_0 19 rfl rfl)
theorem dX4_spans_22 : decode cX4_spans 22 = .ok (.iconst 0, 1) := dk_3 (dk_at dksX4_spans_0 22 rfl rfl)
theorem dX4_spans_23 : decode cX4_spans 23 = .ok (.iaload, 1) := dk_46 (dk_at dksX4_spans_0 23 rfl rfl)
theorem dX4_spans_24 : decode cX4_spans 24 = .ok (.imul, 1) := dk_104 (dk_at dksX4_spans_1 0 rfl rfl)
theorem dX4_spans_25 : decode cX4_spans 25 = .ok (.iload_n 1, 1) := dk_27 (dk_at dksX4_spans_1 1 rfl rfl)
theorem dX4_spans_26 : decode cX4_spans 26 = .ok (.iload_n 2, 1) := dk_28 (dk_at dksX4_spans_1 2 rfl rfl)
theorem dX4_spans_27 : decode cX4_spans 27 = .ok (.invokevirtual 80, 3) := dk_182 0 80 (dk_at dksX4_spans_1 3 rfl rfl)
theorem dX4_spans_30 : decode cX4_spans 30 = .ok (.iinc 3 1, 3) := dk_132 3 1 (dk_at dksX4_spans_1 6 rfl rfl)
theorem dX4_spans_33 : decode cX4_spans 33 = .ok (.goto (-27), 3) := dk_167 255 229 (dk_at dksX4_spans_1 9 rfl rfl)
theorem dX4_spans_36 : decode cX4_spans 36 = .ok (.aload_n 0, 1) := dk_42 (dk_at dksX4_spans_1 12 rfl rfl)
theorem dX4_spans_37 : decode cX4_spans 37 = .ok (.iload_n 1, 1) := dk_27 (dk_at dksX4_spans_1 13 rfl rfl)
theorem dX4_spans_38 : decode cX4_spans 38 = .ok (.iload_n 2, 1) := dk_28 (dk_at dksX4_spans_1 14 rfl rfl)
theorem dX4_spans_39 : decode cX4_spans 39 = .ok (.iconst 0, 1) := dk_3 (dk_at dksX4_spans_1 15 rfl rfl)
theorem dX4_spans_40 : decode cX4_spans 40 = .ok (.invokevirtual 90, 3) := dk_182 0 90 (dk_at dksX4_spans_1 16 rfl rfl)
theorem dX4_spans_43 : decode cX4_spans 43 = .ok (.iconst 0, 1) := dk_3 (dk_at dksX4_spans_1 19 rfl rfl)
theorem dX4_spans_44 : decode cX4_spans 44 = .ok (.istore_n 3, 1) := dk_62 (dk_at dksX4_spans_1 20 rfl rfl)
theorem dX4_spans_45 : decode cX4_spans 45 = .ok (.iconst 0, 1) := dk_3 (dk_at dksX4_spans_1 21 rfl rfl)
theorem dX4_spans_46 : decode cX4_spans 46 = .ok (.istore 4, 2) := dk_54 4 (dk_at dksX4_spans_1 22 rfl rfl)
theorem dX4_spans_48 : decode cX4_spans 48 = .ok (.iload 4, 2) := dk_21 4 (dk_at dksX4_spans_2 0 rfl rfl)
theorem dX4_spans_50 : decode cX4_spans 50 = .ok (.aload_n 0, 1) := dk_42 (dk_at dksX4_spans_2 2 rfl rfl)
theorem dX4_spans_51 : decode cX4_spans 51 = .ok (.getfield 7, 3) := dk_180 0 7 (dk_at dksX4_spans_2 3 rfl rfl)
theorem dX4_spans_54 : decode cX4_spans 54 = .ok (.iconst 1, 1) := dk_4 (dk_at dksX4_spans_2 6 rfl rfl)
theorem dX4_spans_55 : decode cX4_spans 55 = .ok (.iaload, 1) := dk_46 (dk_at dksX4_spans_2 7 rfl rfl)
theorem dX4_spans_56 : decode cX4_spans 56 = .ok (.if_icmp .ge 45, 3) := dk_162 0 45 (dk_at dksX4_spans_2 8 rfl rfl)
theorem dX4_spans_59 : decode cX4_spans 59 = .ok (.iload_n 3, 1) := dk_29 (dk_at dksX4_spans_2 11 rfl rfl)
theorem dX4_spans_60 : decode cX4_spans 60 = .ok (.ifCond .ne 29, 3) := dk_154 0 29 (dk_at dksX4_spans_2 12 rfl rfl)
theorem dX4_spans_63 : decode cX4_spans 63 = .ok (.aload_n 0, 1) := dk_42 (dk_at dksX4_spans_2 15 rfl rfl)
theorem dX4_spans_64 : decode cX4_spans 64 = .ok (.getfield 25, 3) := dk_180 0 25 (dk_at dksX4_spans_2 16 rfl rfl)
theorem dX4_spans_67 : decode cX4_spans 67 = .ok (.iload 4, 2) := dk_21 4 (dk_at dksX4_spans_2 19 rfl rfl)
theorem dX4_spans_69 : decode cX4_spans 69 = .ok (.aload_n 0, 1) := dk_42 (dk_at dksX4_spans_2 21 rfl rfl)
theorem dX4_spans_70 : decode cX4_spans 70 = .ok (.getfield 7, 3) := dk_180 0 7 (dk_at dksX4_spans_3 0 rfl rfl)
theorem dX4_spans_73 : decode cX4_spans 73 = .ok (.iconst 0, 1) := dk_3 (dk_at dksX4_spans_3 3 rfl rfl)
theorem dX4_spans_74 : decode cX4_spans 74 = .ok (.iaload, 1) := dk_46 (dk_at dksX4_spans_3 4 rfl rfl)
theorem dX4_spans_75 : decode cX4_spans 75 = .ok (.imul, 1) := dk_104 (dk_at dksX4_spans_3 5 rfl rfl)
theorem dX4_spans_76 : decode cX4_spans 76 = .ok (.aload_n 0, 1) := dk_42 (dk_at dksX4_spans_3 6 rfl rfl)
theorem dX4_spans_77 : decode cX4_spans 77 = .ok (.getfield 7, 3) := dk_180 0 7 (dk_at dksX4_spans_3 7 rfl rfl)
theorem dX4_spans_80 : decode cX4_spans 80 = .ok (.iconst 0, 1) := dk_3 (dk_at dksX4_spans_3 10 rfl rfl)
theorem dX4_spans_81 : decode cX4_spans 81 = .ok (.iaload, 1) := dk_46 (dk_at dksX4_spans_3 11 rfl rfl)
theorem dX4_spans_82 : decode cX4_spans 82 = .ok (.iadd, 1) := dk_96 (dk_at dksX4_spans_3 12 rfl rfl)
theorem dX4_spans_83 : decode cX4_spans 83 = .ok (.iconst 1, 1) := dk_4 (dk_at dksX4_spans_3 13 rfl rfl)
theorem dX4_spans_84 : decode cX4_spans 84 = .ok (.isub, 1) := dk_100 (dk_at dksX4_spans_3 14 rfl rfl)
theorem dX4_spans_85 : decode cX4_spans 85 = .ok (.baload, 1) := dk_51 (dk_at dksX4_spans_3 15 rfl rfl)
theorem dX4_spans_86 : decode cX4_spans 86 = .ok (.ifCond .eq 7, 3) := dk_153 0 7 (dk_at dksX4_spans_3 16 rfl rfl)
theorem dX4_spans_89 : decode cX4_spans 89 = .ok (.iconst 1, 1) := dk_4 (dk_at dksX4_spans_3 19 rfl rfl)
theorem dX4_spans_90 : decode cX4_spans 90 = .ok (.goto 4, 3) := dk_167 0 4 (dk_at dksX4_spans_3 20 rfl rfl)
theorem dX4_spans_93 : decode cX4_spans 93 = .ok (.iconst 0, 1) := dk_3 (dk_at dksX4_spans_3 23 rfl rfl)
theorem dX4_spans_94 : decode cX4_spans 94 = .ok (.istore_n 3, 1) := dk_62 (dk_at dksX4_spans_4 0 rfl rfl)
theorem dX4_spans_95 : decode cX4_spans 95 = .ok (.iinc 4 1, 3) := dk_132 4 1 (dk_at dksX4_spans_4 1 rfl rfl)
theorem dX4_spans_98 : decode cX4_spans 98 = .ok (.goto (-50), 3) := dk_167 255 206 (dk_at dksX4_spans_4 4 rfl rfl)
theorem dX4_spans_101 : decode cX4_spans 101 = .ok (.iload_n 3, 1) := dk_29 (dk_at dksX4_spans_4 7 rfl rfl)
theorem dX4_spans_102 : decode cX4_spans 102 = .ok (.ireturn, 1) := dk_172 (dk_at dksX4_spans_4 8 rfl rfl)
abbrev cX4_threshold : ByteArray := prog_20_method_60_code
def yX4_threshold : MethodName := ⟨RX4, "threshold", "()I"⟩
def dkwX4_threshold_0 : List UInt8 := [42, 182, 0, 168, 60, 27, 16, 100, 164, 0, 8, 16, 247, 167, 0, 4, 27, 172]
abbrev dktX4_threshold_0 : List UInt8 := dkwX4_threshold_0 ++ []
theorem dksX4_threshold_0 : cX4_threshold.data.toList.drop 0 = dktX4_threshold_0 := by decide +kernel
theorem dX4_threshold_0 : decode cX4_threshold 0 = .ok (.aload_n 0, 1) := dk_42 (dk_at dksX4_threshold_0 0 rfl rfl)
theorem dX4_threshold_1 : decode cX4_threshold 1 = .ok (.invokevirtual 168, 3) := dk_182 0 168 (dk_at dksX4_threshold_0 1 rfl rfl)
theorem dX4_threshold_4 : decode cX4_threshold 4 = .ok (.istore_n 1, 1) := dk_60 (dk_at dksX4_threshold_0 4 rfl rfl)
theorem dX4_threshold_5 : decode cX4_threshold 5 = .ok (.iload_n 1, 1) := dk_27 (dk_at dksX4_threshold_0 5 rfl rfl)
theorem dX4_threshold_6 : decode cX4_threshold 6 = .ok (.bipush 100, 2) := dk_16 100 (dk_at dksX4_threshold_0 6 rfl rfl)
theorem dX4_threshold_8 : decode cX4_threshold 8 = .ok (.if_icmp .le 8, 3) := dk_164 0 8 (dk_at dksX4_threshold_0 8 rfl rfl)
theorem dX4_threshold_11 : decode cX4_threshold 11 = .ok (.bipush (-9), 2) := dk_16 247 (dk_at dksX4_threshold_0 11 rfl rfl)
theorem dX4_threshold_13 : decode cX4_threshold 13 = .ok (.goto 4, 3) := dk_167 0 4 (dk_at dksX4_threshold_0 13 rfl rfl)
theorem dX4_threshold_16 : decode cX4_threshold 16 = .ok (.iload_n 1, 1) := dk_27 (dk_at dksX4_threshold_0 16 rfl rfl)
theorem dX4_threshold_17 : decode cX4_threshold 17 = .ok (.ireturn, 1) := dk_172 (dk_at dksX4_threshold_0 17 rfl rfl)
abbrev cX4_smallest : ByteArray := prog_20_method_59_code
def yX4_smallest : MethodName := ⟨RX4, "smallest", "()I"⟩
def dkwX4_smallest_2 : List UInt8 := [28, 61, 21, 4, 153, 0, 7, 27, 167, 0, 6, 29, 4, 96, 60, 167, 255, 212, 27, 172]
abbrev dktX4_smallest_2 : List UInt8 := dkwX4_smallest_2 ++ []
def dkwX4_smallest_1 : List UInt8 := [27, 28, 96, 5, 108, 62, 42, 29, 16, 247, 182, 0, 165, 54, 4, 21, 4, 153, 0, 7, 29, 167, 0, 4]
abbrev dktX4_smallest_1 : List UInt8 := dkwX4_smallest_1 ++ dktX4_smallest_2
def dkwX4_smallest_0 : List UInt8 := [42, 16, 100, 16, 247, 182, 0, 165, 154, 0, 6, 16, 101, 172, 3, 60, 16, 100, 61, 27, 28, 162, 0, 45]
abbrev dktX4_smallest_0 : List UInt8 := dkwX4_smallest_0 ++ dktX4_smallest_1
theorem dksX4_smallest_0 : cX4_smallest.data.toList.drop 0 = dktX4_smallest_0 := by decide +kernel
theorem dksX4_smallest_1 : cX4_smallest.data.toList.drop 24 = dktX4_smallest_1 := dk_seg dksX4_smallest_0 24 rfl rfl
theorem dksX4_smallest_2 : cX4_smallest.data.toList.drop 48 = dktX4_smallest_2 := dk_seg dksX4_smallest_1 24 rfl rfl
theorem dX4_smallest_0 : decode cX4_smallest 0 = .ok (.aload_n 0, 1) := dk_42 (dk_at dksX4_smallest_0 0 rfl rfl)
theorem dX4_smallest_1 : decode cX4_smallest 1 = .ok (.bipush 100, 2) := dk_16 100 (dk_at dksX4_smallest_0 1 rfl rfl)
theorem dX4_smallest_3 : decode cX4_smallest 3 = .ok (.bipush (-9), 2) := dk_16 247 (dk_at dksX4_smallest_0 3 rfl rfl)
theorem dX4_smallest_5 : decode cX4_smallest 5 = .ok (.invokevirtual 165, 3) := dk_182 0 165 (dk_at dksX4_smallest_0 5 rfl rfl)
theorem dX4_smallest_8 : decode cX4_smallest 8 = .ok (.ifCond .ne 6, 3) := dk_154 0 6 (dk_at dksX4_smallest_0 8 rfl rfl)
theorem dX4_smallest_11 : decode cX4_smallest 11 = .ok (.bipush 101, 2) := dk_16 101 (dk_at dksX4_smallest_0 11 rfl rfl)
theorem dX4_smallest_13 : decode cX4_smallest 13 = .ok (.ireturn, 1) := dk_172 (dk_at dksX4_smallest_0 13 rfl rfl)
theorem dX4_smallest_14 : decode cX4_smallest 14 = .ok (.iconst 0, 1) := dk_3 (dk_at dksX4_smallest_0 14 rfl rfl)
theorem dX4_smallest_15 : decode cX4_smallest 15 = .ok (.istore_n 1, 1) := dk_60 (dk_at dksX4_smallest_0 15 rfl rfl)
theorem dX4_smallest_16 : decode cX4_smallest 16 = .ok (.bipush 100, 2) := dk_16 100 (dk_at dksX4_smallest_0 16 rfl rfl)
theorem dX4_smallest_18 : decode cX4_smallest 18 = .ok (.istore_n 2, 1) := dk_61 (dk_at dksX4_smallest_0 18 rfl rfl)
theorem dX4_smallest_19 : decode cX4_smallest 19 = .ok (.iload_n 1, 1) := dk_27 (dk_at dksX4_smallest_0 19 rfl rfl)
theorem dX4_smallest_20 : decode cX4_smallest 20 = .ok (.iload_n 2, 1) := dk_28 (dk_at dksX4_smallest_0 20 rfl rfl)
theorem dX4_smallest_21 : decode cX4_smallest 21 = .ok (.if_icmp .ge 45, 3) := dk_162 0 45 (dk_at dksX4_smallest_0 21 rfl rfl)
theorem dX4_smallest_24 : decode cX4_smallest 24 = .ok (.iload_n 1, 1) := dk_27 (dk_at dksX4_smallest_1 0 rfl rfl)
theorem dX4_smallest_25 : decode cX4_smallest 25 = .ok (.iload_n 2, 1) := dk_28 (dk_at dksX4_smallest_1 1 rfl rfl)
theorem dX4_smallest_26 : decode cX4_smallest 26 = .ok (.iadd, 1) := dk_96 (dk_at dksX4_smallest_1 2 rfl rfl)
theorem dX4_smallest_27 : decode cX4_smallest 27 = .ok (.iconst 2, 1) := dk_5 (dk_at dksX4_smallest_1 3 rfl rfl)
theorem dX4_smallest_28 : decode cX4_smallest 28 = .ok (.idiv, 1) := dk_108 (dk_at dksX4_smallest_1 4 rfl rfl)
theorem dX4_smallest_29 : decode cX4_smallest 29 = .ok (.istore_n 3, 1) := dk_62 (dk_at dksX4_smallest_1 5 rfl rfl)
theorem dX4_smallest_30 : decode cX4_smallest 30 = .ok (.aload_n 0, 1) := dk_42 (dk_at dksX4_smallest_1 6 rfl rfl)
theorem dX4_smallest_31 : decode cX4_smallest 31 = .ok (.iload_n 3, 1) := dk_29 (dk_at dksX4_smallest_1 7 rfl rfl)
theorem dX4_smallest_32 : decode cX4_smallest 32 = .ok (.bipush (-9), 2) := dk_16 247 (dk_at dksX4_smallest_1 8 rfl rfl)
theorem dX4_smallest_34 : decode cX4_smallest 34 = .ok (.invokevirtual 165, 3) := dk_182 0 165 (dk_at dksX4_smallest_1 10 rfl rfl)
theorem dX4_smallest_37 : decode cX4_smallest 37 = .ok (.istore 4, 2) := dk_54 4 (dk_at dksX4_smallest_1 13 rfl rfl)
theorem dX4_smallest_39 : decode cX4_smallest 39 = .ok (.iload 4, 2) := dk_21 4 (dk_at dksX4_smallest_1 15 rfl rfl)
theorem dX4_smallest_41 : decode cX4_smallest 41 = .ok (.ifCond .eq 7, 3) := dk_153 0 7 (dk_at dksX4_smallest_1 17 rfl rfl)
theorem dX4_smallest_44 : decode cX4_smallest 44 = .ok (.iload_n 3, 1) := dk_29 (dk_at dksX4_smallest_1 20 rfl rfl)
theorem dX4_smallest_45 : decode cX4_smallest 45 = .ok (.goto 4, 3) := dk_167 0 4 (dk_at dksX4_smallest_1 21 rfl rfl)
theorem dX4_smallest_48 : decode cX4_smallest 48 = .ok (.iload_n 2, 1) := dk_28 (dk_at dksX4_smallest_2 0 rfl rfl)
theorem dX4_smallest_49 : decode cX4_smallest 49 = .ok (.istore_n 2, 1) := dk_61 (dk_at dksX4_smallest_2 1 rfl rfl)
theorem dX4_smallest_50 : decode cX4_smallest 50 = .ok (.iload 4, 2) := dk_21 4 (dk_at dksX4_smallest_2 2 rfl rfl)
theorem dX4_smallest_52 : decode cX4_smallest 52 = .ok (.ifCond .eq 7, 3) := dk_153 0 7 (dk_at dksX4_smallest_2 4 rfl rfl)
theorem dX4_smallest_55 : decode cX4_smallest 55 = .ok (.iload_n 1, 1) := dk_27 (dk_at dksX4_smallest_2 7 rfl rfl)
theorem dX4_smallest_56 : decode cX4_smallest 56 = .ok (.goto 6, 3) := dk_167 0 6 (dk_at dksX4_smallest_2 8 rfl rfl)
theorem dX4_smallest_59 : decode cX4_smallest 59 = .ok (.iload_n 3, 1) := dk_29 (dk_at dksX4_smallest_2 11 rfl rfl)
theorem dX4_smallest_60 : decode cX4_smallest 60 = .ok (.iconst 1, 1) := dk_4 (dk_at dksX4_smallest_2 12 rfl rfl)
theorem dX4_smallest_61 : decode cX4_smallest 61 = .ok (.iadd, 1) := dk_96 (dk_at dksX4_smallest_2 13 rfl rfl)
theorem dX4_smallest_62 : decode cX4_smallest 62 = .ok (.istore_n 1, 1) := dk_60 (dk_at dksX4_smallest_2 14 rfl rfl)
theorem dX4_smallest_63 : decode cX4_smallest 63 = .ok (.goto (-44), 3) := dk_167 255 212 (dk_at dksX4_smallest_2 15 rfl rfl)
theorem dX4_smallest_66 : decode cX4_smallest 66 = .ok (.iload_n 1, 1) := dk_27 (dk_at dksX4_smallest_2 18 rfl rfl)
theorem dX4_smallest_67 : decode cX4_smallest 67 = .ok (.ireturn, 1) := dk_172 (dk_at dksX4_smallest_2 19 rfl rfl)
abbrev cX4_probe : ByteArray := prog_20_method_61_code
def yX4_probe : MethodName := ⟨RX4, "probe", "(I)I"⟩
def dkwX4_probe_3 : List UInt8 := [132, 4, 1, 167, 255, 196, 16, 247, 172]
abbrev dktX4_probe_3 : List UInt8 := dkwX4_probe_3 ++ []
def dkwX4_probe_2 : List UInt8 := [153, 0, 8, 21, 5, 167, 0, 4, 29, 62, 21, 6, 153, 0, 7, 28, 167, 0, 7, 21, 5, 4, 96, 61]
abbrev dktX4_probe_2 : List UInt8 := dkwX4_probe_2 ++ dktX4_probe_3
def dkwX4_probe_1 : List UInt8 := [54, 5, 21, 4, 27, 160, 0, 6, 21, 5, 172, 42, 21, 5, 16, 247, 182, 0, 165, 54, 6, 21, 6]
abbrev dktX4_probe_1 : List UInt8 := dkwX4_probe_1 ++ dktX4_probe_2
def dkwX4_probe_0 : List UInt8 := [27, 156, 0, 5, 2, 172, 3, 61, 16, 100, 62, 3, 54, 4, 28, 29, 162, 0, 61, 28, 29, 96, 5, 108]
abbrev dktX4_probe_0 : List UInt8 := dkwX4_probe_0 ++ dktX4_probe_1
theorem dksX4_probe_0 : cX4_probe.data.toList.drop 0 = dktX4_probe_0 := by decide +kernel
theorem dksX4_probe_1 : cX4_probe.data.toList.drop 24 = dktX4_probe_1 := dk_seg dksX4_probe_0 24 rfl rfl
theorem dksX4_probe_2 : cX4_probe.data.toList.drop 47 = dktX4_probe_2 := dk_seg dksX4_probe_1 23 rfl rfl
theorem dksX4_probe_3 : cX4_probe.data.toList.drop 71 = dktX4_probe_3 := dk_seg dksX4_probe_2 24 rfl rfl
theorem dX4_probe_0 : decode cX4_probe 0 = .ok (.iload_n 1, 1) := dk_27 (dk_at dksX4_probe_0 0 rfl rfl)
theorem dX4_probe_1 : decode cX4_probe 1 = .ok (.ifCond .ge 5, 3) := dk_156 0 5 (dk_at dksX4_probe_0 1 rfl rfl)
theorem dX4_probe_4 : decode cX4_probe 4 = .ok (.iconst (-1), 1) := dk_2 (dk_at dksX4_probe_0 4 rfl rfl)
theorem dX4_probe_5 : decode cX4_probe 5 = .ok (.ireturn, 1) := dk_172 (dk_at dksX4_probe_0 5 rfl rfl)
theorem dX4_probe_6 : decode cX4_probe 6 = .ok (.iconst 0, 1) := dk_3 (dk_at dksX4_probe_0 6 rfl rfl)
theorem dX4_probe_7 : decode cX4_probe 7 = .ok (.istore_n 2, 1) := dk_61 (dk_at dksX4_probe_0 7 rfl rfl)
theorem dX4_probe_8 : decode cX4_probe 8 = .ok (.bipush 100, 2) := dk_16 100 (dk_at dksX4_probe_0 8 rfl rfl)
theorem dX4_probe_10 : decode cX4_probe 10 = .ok (.istore_n 3, 1) := dk_62 (dk_at dksX4_probe_0 10 rfl rfl)
theorem dX4_probe_11 : decode cX4_probe 11 = .ok (.iconst 0, 1) := dk_3 (dk_at dksX4_probe_0 11 rfl rfl)
theorem dX4_probe_12 : decode cX4_probe 12 = .ok (.istore 4, 2) := dk_54 4 (dk_at dksX4_probe_0 12 rfl rfl)
theorem dX4_probe_14 : decode cX4_probe 14 = .ok (.iload_n 2, 1) := dk_28 (dk_at dksX4_probe_0 14 rfl rfl)
theorem dX4_probe_15 : decode cX4_probe 15 = .ok (.iload_n 3, 1) := dk_29 (dk_at dksX4_probe_0 15 rfl rfl)
theorem dX4_probe_16 : decode cX4_probe 16 = .ok (.if_icmp .ge 61, 3) := dk_162 0 61 (dk_at dksX4_probe_0 16 rfl rfl)
theorem dX4_probe_19 : decode cX4_probe 19 = .ok (.iload_n 2, 1) := dk_28 (dk_at dksX4_probe_0 19 rfl rfl)
theorem dX4_probe_20 : decode cX4_probe 20 = .ok (.iload_n 3, 1) := dk_29 (dk_at dksX4_probe_0 20 rfl rfl)
theorem dX4_probe_21 : decode cX4_probe 21 = .ok (.iadd, 1) := dk_96 (dk_at dksX4_probe_0 21 rfl rfl)
theorem dX4_probe_22 : decode cX4_probe 22 = .ok (.iconst 2, 1) := dk_5 (dk_at dksX4_probe_0 22 rfl rfl)
theorem dX4_probe_23 : decode cX4_probe 23 = .ok (.idiv, 1) := dk_108 (dk_at dksX4_probe_0 23 rfl rfl)
theorem dX4_probe_24 : decode cX4_probe 24 = .ok (.istore 5, 2) := dk_54 5 (dk_at dksX4_probe_1 0 rfl rfl)
theorem dX4_probe_26 : decode cX4_probe 26 = .ok (.iload 4, 2) := dk_21 4 (dk_at dksX4_probe_1 2 rfl rfl)
theorem dX4_probe_28 : decode cX4_probe 28 = .ok (.iload_n 1, 1) := dk_27 (dk_at dksX4_probe_1 4 rfl rfl)
theorem dX4_probe_29 : decode cX4_probe 29 = .ok (.if_icmp .ne 6, 3) := dk_160 0 6 (dk_at dksX4_probe_1 5 rfl rfl)
theorem dX4_probe_32 : decode cX4_probe 32 = .ok (.iload 5, 2) := dk_21 5 (dk_at dksX4_probe_1 8 rfl rfl)
theorem dX4_probe_34 : decode cX4_probe 34 = .ok (.ireturn, 1) := dk_172 (dk_at dksX4_probe_1 10 rfl rfl)
theorem dX4_probe_35 : decode cX4_probe 35 = .ok (.aload_n 0, 1) := dk_42 (dk_at dksX4_probe_1 11 rfl rfl)
theorem dX4_probe_36 : decode cX4_probe 36 = .ok (.iload 5, 2) := dk_21 5 (dk_at dksX4_probe_1 12 rfl rfl)
theorem dX4_probe_38 : decode cX4_probe 38 = .ok (.bipush (-9), 2) := dk_16 247 (dk_at dksX4_probe_1 14 rfl rfl)
theorem dX4_probe_40 : decode cX4_probe 40 = .ok (.invokevirtual 165, 3) := dk_182 0 165 (dk_at dksX4_probe_1 16 rfl rfl)
theorem dX4_probe_43 : decode cX4_probe 43 = .ok (.istore 6, 2) := dk_54 6 (dk_at dksX4_probe_1 19 rfl rfl)
theorem dX4_probe_45 : decode cX4_probe 45 = .ok (.iload 6, 2) := dk_21 6 (dk_at dksX4_probe_1 21 rfl rfl)
theorem dX4_probe_47 : decode cX4_probe 47 = .ok (.ifCond .eq 8, 3) := dk_153 0 8 (dk_at dksX4_probe_2 0 rfl rfl)
theorem dX4_probe_50 : decode cX4_probe 50 = .ok (.iload 5, 2) := dk_21 5 (dk_at dksX4_probe_2 3 rfl rfl)
theorem dX4_probe_52 : decode cX4_probe 52 = .ok (.goto 4, 3) := dk_167 0 4 (dk_at dksX4_probe_2 5 rfl rfl)
theorem dX4_probe_55 : decode cX4_probe 55 = .ok (.iload_n 3, 1) := dk_29 (dk_at dksX4_probe_2 8 rfl rfl)
theorem dX4_probe_56 : decode cX4_probe 56 = .ok (.istore_n 3, 1) := dk_62 (dk_at dksX4_probe_2 9 rfl rfl)
theorem dX4_probe_57 : decode cX4_probe 57 = .ok (.iload 6, 2) := dk_21 6 (dk_at dksX4_probe_2 10 rfl rfl)
theorem dX4_probe_59 : decode cX4_probe 59 = .ok (.ifCond .eq 7, 3) := dk_153 0 7 (dk_at dksX4_probe_2 12 rfl rfl)
theorem dX4_probe_62 : decode cX4_probe 62 = .ok (.iload_n 2, 1) := dk_28 (dk_at dksX4_probe_2 15 rfl rfl)
theorem dX4_probe_63 : decode cX4_probe 63 = .ok (.goto 7, 3) := dk_167 0 7 (dk_at dksX4_probe_2 16 rfl rfl)
theorem dX4_probe_66 : decode cX4_probe 66 = .ok (.iload 5, 2) := dk_21 5 (dk_at dksX4_probe_2 19 rfl rfl)
theorem dX4_probe_68 : decode cX4_probe 68 = .ok (.iconst 1, 1) := dk_4 (dk_at dksX4_probe_2 21 rfl rfl)
theorem dX4_probe_69 : decode cX4_probe 69 = .ok (.iadd, 1) := dk_96 (dk_at dksX4_probe_2 22 rfl rfl)
theorem dX4_probe_70 : decode cX4_probe 70 = .ok (.istore_n 2, 1) := dk_61 (dk_at dksX4_probe_2 23 rfl rfl)
theorem dX4_probe_71 : decode cX4_probe 71 = .ok (.iinc 4 1, 3) := dk_132 4 1 (dk_at dksX4_probe_3 0 rfl rfl)
theorem dX4_probe_74 : decode cX4_probe 74 = .ok (.goto (-60), 3) := dk_167 255 196 (dk_at dksX4_probe_3 3 rfl rfl)
theorem dX4_probe_77 : decode cX4_probe 77 = .ok (.bipush (-9), 2) := dk_16 247 (dk_at dksX4_probe_3 6 rfl rfl)
theorem dX4_probe_79 : decode cX4_probe 79 = .ok (.ireturn, 1) := dk_172 (dk_at dksX4_probe_3 8 rfl rfl)
abbrev cX4_thresholdBetween : ByteArray := prog_20_method_62_code
def yX4_thresholdBetween : MethodName := ⟨RX4, "thresholdBetween", "(II)I"⟩
def dkwX4_thresholdBetween_1 : List UInt8 := [163, 0, 21, 42, 27, 28, 29, 182, 0, 171, 153, 0, 5, 29, 172, 132, 3, 1, 167, 255, 235, 16, 247, 172]
abbrev dktX4_thresholdBetween_1 : List UInt8 := dkwX4_thresholdBetween_1 ++ []
def dkwX4_thresholdBetween_0 : List UInt8 := [42, 27, 182, 0, 54, 153, 0, 11, 42, 28, 182, 0, 54, 154, 0, 5, 2, 172, 4, 62, 29, 16, 100]
abbrev dktX4_thresholdBetween_0 : List UInt8 := dkwX4_thresholdBetween_0 ++ dktX4_thresholdBetween_1
theorem dksX4_thresholdBetween_0 : cX4_thresholdBetween.data.toList.drop 0 = dktX4_thresholdBetween_0 := by decide +kernel
theorem dksX4_thresholdBetween_1 : cX4_thresholdBetween.data.toList.drop 23 = dktX4_thresholdBetween_1 := dk_seg dksX4_thresholdBetween_0 23 rfl rfl
theorem dX4_thresholdBetween_0 : decode cX4_thresholdBetween 0 = .ok (.aload_n 0, 1) := dk_42 (dk_at dksX4_thresholdBetween_0 0 rfl rfl)
theorem dX4_thresholdBetween_1 : decode cX4_thresholdBetween 1 = .ok (.iload_n 1, 1) := dk_27 (dk_at dksX4_thresholdBetween_0 1 rfl rfl)
theorem dX4_thresholdBetween_2 : decode cX4_thresholdBetween 2 = .ok (.invokevirtual 54, 3) := dk_182 0 54 (dk_at dksX4_thresholdBetween_0 2 rfl rfl)
theorem dX4_thresholdBetween_5 : decode cX4_thresholdBetween 5 = .ok (.ifCond .eq 11, 3) := dk_153 0 11 (dk_at dksX4_thresholdBetween_0 5 rfl rfl)
theorem dX4_thresholdBetween_8 : decode cX4_thresholdBetween 8 = .ok (.aload_n 0, 1) := dk_42 (dk_at dksX4_thresholdBetween_0 8 rfl rfl)
theorem dX4_thresholdBetween_9 : decode cX4_thresholdBetween 9 = .ok (.iload_n 2, 1) := dk_28 (dk_at dksX4_thresholdBetween_0 9 rfl rfl)
theorem dX4_thresholdBetween_10 : decode cX4_thresholdBetween 10 = .ok (.invokevirtual 54, 3) := dk_182 0 54 (dk_at dksX4_thresholdBetween_0 10 rfl rfl)
theorem dX4_thresholdBetween_13 : decode cX4_thresholdBetween 13 = .ok (.ifCond .ne 5, 3) := dk_154 0 5 (dk_at dksX4_thresholdBetween_0 13 rfl rfl)
theorem dX4_thresholdBetween_16 : decode cX4_thresholdBetween 16 = .ok (.iconst (-1), 1) := dk_2 (dk_at dksX4_thresholdBetween_0 16 rfl rfl)
theorem dX4_thresholdBetween_17 : decode cX4_thresholdBetween 17 = .ok (.ireturn, 1) := dk_172 (dk_at dksX4_thresholdBetween_0 17 rfl rfl)
theorem dX4_thresholdBetween_18 : decode cX4_thresholdBetween 18 = .ok (.iconst 1, 1) := dk_4 (dk_at dksX4_thresholdBetween_0 18 rfl rfl)
theorem dX4_thresholdBetween_19 : decode cX4_thresholdBetween 19 = .ok (.istore_n 3, 1) := dk_62 (dk_at dksX4_thresholdBetween_0 19 rfl rfl)
theorem dX4_thresholdBetween_20 : decode cX4_thresholdBetween 20 = .ok (.iload_n 3, 1) := dk_29 (dk_at dksX4_thresholdBetween_0 20 rfl rfl)
theorem dX4_thresholdBetween_21 : decode cX4_thresholdBetween 21 = .ok (.bipush 100, 2) := dk_16 100 (dk_at dksX4_thresholdBetween_0 21 rfl rfl)
theorem dX4_thresholdBetween_23 : decode cX4_thresholdBetween 23 = .ok (.if_icmp .gt 21, 3) := dk_163 0 21 (dk_at dksX4_thresholdBetween_1 0 rfl rfl)
theorem dX4_thresholdBetween_26 : decode cX4_thresholdBetween 26 = .ok (.aload_n 0, 1) := dk_42 (dk_at dksX4_thresholdBetween_1 3 rfl rfl)
theorem dX4_thresholdBetween_27 : decode cX4_thresholdBetween 27 = .ok (.iload_n 1, 1) := dk_27 (dk_at dksX4_thresholdBetween_1 4 rfl rfl)
theorem dX4_thresholdBetween_28 : decode cX4_thresholdBetween 28 = .ok (.iload_n 2, 1) := dk_28 (dk_at dksX4_thresholdBetween_1 5 rfl rfl)
theorem dX4_thresholdBetween_29 : decode cX4_thresholdBetween 29 = .ok (.iload_n 3, 1) := dk_29 (dk_at dksX4_thresholdBetween_1 6 rfl rfl)
theorem dX4_thresholdBetween_30 : decode cX4_thresholdBetween 30 = .ok (.invokevirtual 171, 3) := dk_182 0 171 (dk_at dksX4_thresholdBetween_1 7 rfl rfl)
theorem dX4_thresholdBetween_33 : decode cX4_thresholdBetween 33 = .ok (.ifCond .eq 5, 3) := dk_153 0 5 (dk_at dksX4_thresholdBetween_1 10 rfl rfl)
theorem dX4_thresholdBetween_36 : decode cX4_thresholdBetween 36 = .ok (.iload_n 3, 1) := dk_29 (dk_at dksX4_thresholdBetween_1 13 rfl rfl)
theorem dX4_thresholdBetween_37 : decode cX4_thresholdBetween 37 = .ok (.ireturn, 1) := dk_172 (dk_at dksX4_thresholdBetween_1 14 rfl rfl)
theorem dX4_thresholdBetween_38 : decode cX4_thresholdBetween 38 = .ok (.iinc 3 1, 3) := dk_132 3 1 (dk_at dksX4_thresholdBetween_1 15 rfl rfl)
theorem dX4_thresholdBetween_41 : decode cX4_thresholdBetween 41 = .ok (.goto (-21), 3) := dk_167 255 235 (dk_at dksX4_thresholdBetween_1 18 rfl rfl)
theorem dX4_thresholdBetween_44 : decode cX4_thresholdBetween 44 = .ok (.bipush (-9), 2) := dk_16 247 (dk_at dksX4_thresholdBetween_1 21 rfl rfl)
theorem dX4_thresholdBetween_46 : decode cX4_thresholdBetween 46 = .ok (.ireturn, 1) := dk_172 (dk_at dksX4_thresholdBetween_1 23 rfl rfl)
abbrev cX4_isWay : ByteArray := prog_20_method_23_code
def yX4_isWay : MethodName := ⟨RX4, "isWay", "(III)Z"⟩
def dkwX4_isWay_1 : List UInt8 := [28, 51, 172]
abbrev dktX4_isWay_1 : List UInt8 := dkwX4_isWay_1 ++ []
def dkwX4_isWay_0 : List UInt8 := [42, 182, 0, 87, 42, 27, 29, 16, 247, 182, 0, 80, 42, 29, 16, 247, 3, 182, 0, 90, 42, 180, 0, 25]
abbrev dktX4_isWay_0 : List UInt8 := dkwX4_isWay_0 ++ dktX4_isWay_1
theorem dksX4_isWay_0 : cX4_isWay.data.toList.drop 0 = dktX4_isWay_0 := by decide +kernel
theorem dksX4_isWay_1 : cX4_isWay.data.toList.drop 24 = dktX4_isWay_1 := dk_seg dksX4_isWay_0 24 rfl rfl
theorem dX4_isWay_0 : decode cX4_isWay 0 = .ok (.aload_n 0, 1) := dk_42 (dk_at dksX4_isWay_0 0 rfl rfl)
theorem dX4_isWay_1 : decode cX4_isWay 1 = .ok (.invokevirtual 87, 3) := dk_182 0 87 (dk_at dksX4_isWay_0 1 rfl rfl)
theorem dX4_isWay_4 : decode cX4_isWay 4 = .ok (.aload_n 0, 1) := dk_42 (dk_at dksX4_isWay_0 4 rfl rfl)
theorem dX4_isWay_5 : decode cX4_isWay 5 = .ok (.iload_n 1, 1) := dk_27 (dk_at dksX4_isWay_0 5 rfl rfl)
theorem dX4_isWay_6 : decode cX4_isWay 6 = .ok (.iload_n 3, 1) := dk_29 (dk_at dksX4_isWay_0 6 rfl rfl)
theorem dX4_isWay_7 : decode cX4_isWay 7 = .ok (.bipush (-9), 2) := dk_16 247 (dk_at dksX4_isWay_0 7 rfl rfl)
theorem dX4_isWay_9 : decode cX4_isWay 9 = .ok (.invokevirtual 80, 3) := dk_182 0 80 (dk_at dksX4_isWay_0 9 rfl rfl)
theorem dX4_isWay_12 : decode cX4_isWay 12 = .ok (.aload_n 0, 1) := dk_42 (dk_at dksX4_isWay_0 12 rfl rfl)
theorem dX4_isWay_13 : decode cX4_isWay 13 = .ok (.iload_n 3, 1) := dk_29 (dk_at dksX4_isWay_0 13 rfl rfl)
theorem dX4_isWay_14 : decode cX4_isWay 14 = .ok (.bipush (-9), 2) := dk_16 247 (dk_at dksX4_isWay_0 14 rfl rfl)
theorem dX4_isWay_16 : decode cX4_isWay 16 = .ok (.iconst 0, 1) := dk_3 (dk_at dksX4_isWay_0 16 rfl rfl)
theorem dX4_isWay_17 : decode cX4_isWay 17 = .ok (.invokevirtual 90, 3) := dk_182 0 90 (dk_at dksX4_isWay_0 17 rfl rfl)
theorem dX4_isWay_20 : decode cX4_isWay 20 = .ok (.aload_n 0, 1) := dk_42 (dk_at dksX4_isWay_0 20 rfl rfl)
theorem dX4_isWay_21 : decode cX4_isWay 21 = .ok (.getfield 25, 3) := dk_180 0 25 (dk_at dksX4_isWay_0 21 rfl rfl)
theorem dX4_isWay_24 : decode cX4_isWay 24 = .ok (.iload_n 2, 1) := dk_28 (dk_at dksX4_isWay_1 0 rfl rfl)
theorem dX4_isWay_25 : decode cX4_isWay 25 = .ok (.baload, 1) := dk_51 (dk_at dksX4_isWay_1 1 rfl rfl)
theorem dX4_isWay_26 : decode cX4_isWay 26 = .ok (.ireturn, 1) := dk_172 (dk_at dksX4_isWay_1 2 rfl rfl)
abbrev cX4_pivots : ByteArray := prog_20_method_63_code
def yX4_pivots : MethodName := ⟨RX4, "pivots", "()I"⟩
def dkwX4_pivots_3 : List UInt8 := [167, 255, 209, 27, 172]
abbrev dktX4_pivots_3 : List UInt8 := dkwX4_pivots_3 ++ []
def dkwX4_pivots_2 : List UInt8 := [180, 0, 7, 6, 46, 28, 182, 0, 165, 154, 0, 7, 4, 167, 0, 4, 3, 96, 60, 132, 2, 1]
abbrev dktX4_pivots_2 : List UInt8 := dkwX4_pivots_2 ++ dktX4_pivots_3
def dkwX4_pivots_1 : List UInt8 := [182, 0, 46, 162, 0, 45, 27, 42, 28, 42, 180, 0, 7, 6, 46, 182, 0, 66, 153, 0, 21, 42, 42]
abbrev dktX4_pivots_1 : List UInt8 := dkwX4_pivots_1 ++ dktX4_pivots_2
def dkwX4_pivots_0 : List UInt8 := [42, 42, 180, 0, 7, 6, 46, 16, 247, 182, 0, 165, 154, 0, 6, 16, 254, 172, 3, 60, 3, 61, 28, 42]
abbrev dktX4_pivots_0 : List UInt8 := dkwX4_pivots_0 ++ dktX4_pivots_1
theorem dksX4_pivots_0 : cX4_pivots.data.toList.drop 0 = dktX4_pivots_0 := by decide +kernel
theorem dksX4_pivots_1 : cX4_pivots.data.toList.drop 24 = dktX4_pivots_1 := dk_seg dksX4_pivots_0 24 rfl rfl
theorem dksX4_pivots_2 : cX4_pivots.data.toList.drop 47 = dktX4_pivots_2 := dk_seg dksX4_pivots_1 23 rfl rfl
theorem dksX4_pivots_3 : cX4_pivots.data.toList.drop 69 = dktX4_pivots_3 := dk_seg dksX4_pivots_2 22 rfl rfl
theorem dX4_pivots_0 : decode cX4_pivots 0 = .ok (.aload_n 0, 1) := dk_42 (dk_at dksX4_pivots_0 0 rfl rfl)
theorem dX4_pivots_1 : decode cX4_pivots 1 = .ok (.aload_n 0, 1) := dk_42 (dk_at dksX4_pivots_0 1 rfl rfl)
theorem dX4_pivots_2 : decode cX4_pivots 2 = .ok (.getfield 7, 3) := dk_180 0 7 (dk_at dksX4_pivots_0 2 rfl rfl)
theorem dX4_pivots_5 : decode cX4_pivots 5 = .ok (.iconst 3, 1) := dk_6 (dk_at dksX4_pivots_0 5 rfl rfl)
theorem dX4_pivots_6 : decode cX4_pivots 6 = .ok (.iaload, 1) := dk_46 (dk_at dksX4_pivots_0 6 rfl rfl)
theorem dX4_pivots_7 : decode cX4_pivots 7 = .ok (.bipush (-9), 2) := dk_16 247 (dk_at dksX4_pivots_0 7 rfl rfl)
theorem dX4_pivots_9 : decode cX4_pivots 9 = .ok (.invokevirtual 165, 3) := dk_182 0 165 (dk_at dksX4_pivots_0 9 rfl rfl)
theorem dX4_pivots_12 : decode cX4_pivots 12 = .ok (.ifCond .ne 6, 3) := dk_154 0 6 (dk_at dksX4_pivots_0 12 rfl rfl)
theorem dX4_pivots_15 : decode cX4_pivots 15 = .ok (.bipush (-2), 2) := dk_16 254 (dk_at dksX4_pivots_0 15 rfl rfl)
theorem dX4_pivots_17 : decode cX4_pivots 17 = .ok (.ireturn, 1) := dk_172 (dk_at dksX4_pivots_0 17 rfl rfl)
theorem dX4_pivots_18 : decode cX4_pivots 18 = .ok (.iconst 0, 1) := dk_3 (dk_at dksX4_pivots_0 18 rfl rfl)
theorem dX4_pivots_19 : decode cX4_pivots 19 = .ok (.istore_n 1, 1) := dk_60 (dk_at dksX4_pivots_0 19 rfl rfl)
theorem dX4_pivots_20 : decode cX4_pivots 20 = .ok (.iconst 0, 1) := dk_3 (dk_at dksX4_pivots_0 20 rfl rfl)
theorem dX4_pivots_21 : decode cX4_pivots 21 = .ok (.istore_n 2, 1) := dk_61 (dk_at dksX4_pivots_0 21 rfl rfl)
theorem dX4_pivots_22 : decode cX4_pivots 22 = .ok (.iload_n 2, 1) := dk_28 (dk_at dksX4_pivots_0 22 rfl rfl)
theorem dX4_pivots_23 : decode cX4_pivots 23 = .ok (.aload_n 0, 1) := dk_42 (dk_at dksX4_pivots_0 23 rfl rfl)
theorem dX4_pivots_24 : decode cX4_pivots 24 = .ok (.invokevirtual 46, 3) := dk_182 0 46 (dk_at dksX4_pivots_1 0 rfl rfl)
theorem dX4_pivots_27 : decode cX4_pivots 27 = .ok (.if_icmp .ge 45, 3) := dk_162 0 45 (dk_at dksX4_pivots_1 3 rfl rfl)
theorem dX4_pivots_30 : decode cX4_pivots 30 = .ok (.iload_n 1, 1) := dk_27 (dk_at dksX4_pivots_1 6 rfl rfl)
theorem dX4_pivots_31 : decode cX4_pivots 31 = .ok (.aload_n 0, 1) := dk_42 (dk_at dksX4_pivots_1 7 rfl rfl)
theorem dX4_pivots_32 : decode cX4_pivots 32 = .ok (.iload_n 2, 1) := dk_28 (dk_at dksX4_pivots_1 8 rfl rfl)
theorem dX4_pivots_33 : decode cX4_pivots 33 = .ok (.aload_n 0, 1) := dk_42 (dk_at dksX4_pivots_1 9 rfl rfl)
theorem dX4_pivots_34 : decode cX4_pivots 34 = .ok (.getfield 7, 3) := dk_180 0 7 (dk_at dksX4_pivots_1 10 rfl rfl)
theorem dX4_pivots_37 : decode cX4_pivots 37 = .ok (.iconst 3, 1) := dk_6 (dk_at dksX4_pivots_1 13 rfl rfl)
theorem dX4_pivots_38 : decode cX4_pivots 38 = .ok (.iaload, 1) := dk_46 (dk_at dksX4_pivots_1 14 rfl rfl)
theorem dX4_pivots_39 : decode cX4_pivots 39 = .ok (.invokevirtual 66, 3) := dk_182 0 66 (dk_at dksX4_pivots_1 15 rfl rfl)
theorem dX4_pivots_42 : decode cX4_pivots 42 = .ok (.ifCond .eq 21, 3) := dk_153 0 21 (dk_at dksX4_pivots_1 18 rfl rfl)
theorem dX4_pivots_45 : decode cX4_pivots 45 = .ok (.aload_n 0, 1) := dk_42 (dk_at dksX4_pivots_1 21 rfl rfl)
theorem dX4_pivots_46 : decode cX4_pivots 46 = .ok (.aload_n 0, 1) := dk_42 (dk_at dksX4_pivots_1 22 rfl rfl)
theorem dX4_pivots_47 : decode cX4_pivots 47 = .ok (.getfield 7, 3) := dk_180 0 7 (dk_at dksX4_pivots_2 0 rfl rfl)
theorem dX4_pivots_50 : decode cX4_pivots 50 = .ok (.iconst 3, 1) := dk_6 (dk_at dksX4_pivots_2 3 rfl rfl)
theorem dX4_pivots_51 : decode cX4_pivots 51 = .ok (.iaload, 1) := dk_46 (dk_at dksX4_pivots_2 4 rfl rfl)
theorem dX4_pivots_52 : decode cX4_pivots 52 = .ok (.iload_n 2, 1) := dk_28 (dk_at dksX4_pivots_2 5 rfl rfl)
theorem dX4_pivots_53 : decode cX4_pivots 53 = .ok (.invokevirtual 165, 3) := dk_182 0 165 (dk_at dksX4_pivots_2 6 rfl rfl)
theorem dX4_pivots_56 : decode cX4_pivots 56 = .ok (.ifCond .ne 7, 3) := dk_154 0 7 (dk_at dksX4_pivots_2 9 rfl rfl)
theorem dX4_pivots_59 : decode cX4_pivots 59 = .ok (.iconst 1, 1) := dk_4 (dk_at dksX4_pivots_2 12 rfl rfl)
theorem dX4_pivots_60 : decode cX4_pivots 60 = .ok (.goto 4, 3) := dk_167 0 4 (dk_at dksX4_pivots_2 13 rfl rfl)
theorem dX4_pivots_63 : decode cX4_pivots 63 = .ok (.iconst 0, 1) := dk_3 (dk_at dksX4_pivots_2 16 rfl rfl)
theorem dX4_pivots_64 : decode cX4_pivots 64 = .ok (.iadd, 1) := dk_96 (dk_at dksX4_pivots_2 17 rfl rfl)
theorem dX4_pivots_65 : decode cX4_pivots 65 = .ok (.istore_n 1, 1) := dk_60 (dk_at dksX4_pivots_2 18 rfl rfl)
theorem dX4_pivots_66 : decode cX4_pivots 66 = .ok (.iinc 2 1, 3) := dk_132 2 1 (dk_at dksX4_pivots_2 19 rfl rfl)
theorem dX4_pivots_69 : decode cX4_pivots 69 = .ok (.goto (-47), 3) := dk_167 255 209 (dk_at dksX4_pivots_3 0 rfl rfl)
theorem dX4_pivots_72 : decode cX4_pivots 72 = .ok (.iload_n 1, 1) := dk_27 (dk_at dksX4_pivots_3 3 rfl rfl)
theorem dX4_pivots_73 : decode cX4_pivots 73 = .ok (.ireturn, 1) := dk_172 (dk_at dksX4_pivots_3 4 rfl rfl)
abbrev cX4_bestValve : ByteArray := prog_20_method_64_code
def yX4_bestValve : MethodName := ⟨RX4, "bestValve", "()I"⟩
def dkwX4_bestValve_4 : List UInt8 := [167, 0, 4, 28, 61, 132, 3, 1, 167, 255, 164, 27, 172]
abbrev dktX4_bestValve_4 : List UInt8 := dkwX4_bestValve_4 ++ []
def dkwX4_bestValve_3 : List UInt8 := [4, 79, 21, 4, 28, 162, 0, 7, 29, 167, 0, 4, 27, 60, 21, 4, 28, 162, 0, 8, 21, 4]
abbrev dktX4_bestValve_3 : List UInt8 := dkwX4_bestValve_3 ++ dktX4_bestValve_4
def dkwX4_bestValve_2 : List UInt8 := [42, 180, 0, 7, 16, 87, 29, 96, 3, 79, 42, 182, 0, 168, 54, 4, 42, 180, 0, 7, 16, 87, 29, 96]
abbrev dktX4_bestValve_2 : List UInt8 := dkwX4_bestValve_2 ++ dktX4_bestValve_3
def dkwX4_bestValve_1 : List UInt8 := [29, 7, 112, 182, 0, 62, 16, 247, 159, 0, 67, 42, 180, 0, 7, 16, 87, 29, 96, 46, 4, 160, 0, 54]
abbrev dktX4_bestValve_1 : List UInt8 := dkwX4_bestValve_1 ++ dktX4_bestValve_2
def dkwX4_bestValve_0 : List UInt8 := [16, 247, 60, 42, 182, 0, 168, 61, 3, 62, 29, 7, 42, 182, 0, 46, 104, 162, 0, 88, 42, 29, 7, 108]
abbrev dktX4_bestValve_0 : List UInt8 := dkwX4_bestValve_0 ++ dktX4_bestValve_1
theorem dksX4_bestValve_0 : cX4_bestValve.data.toList.drop 0 = dktX4_bestValve_0 := by decide +kernel
theorem dksX4_bestValve_1 : cX4_bestValve.data.toList.drop 24 = dktX4_bestValve_1 := dk_seg dksX4_bestValve_0 24 rfl rfl
theorem dksX4_bestValve_2 : cX4_bestValve.data.toList.drop 48 = dktX4_bestValve_2 := dk_seg dksX4_bestValve_1 24 rfl rfl
theorem dksX4_bestValve_3 : cX4_bestValve.data.toList.drop 72 = dktX4_bestValve_3 := dk_seg dksX4_bestValve_2 24 rfl rfl
theorem dksX4_bestValve_4 : cX4_bestValve.data.toList.drop 94 = dktX4_bestValve_4 := dk_seg dksX4_bestValve_3 22 rfl rfl
theorem dX4_bestValve_0 : decode cX4_bestValve 0 = .ok (.bipush (-9), 2) := dk_16 247 (dk_at dksX4_bestValve_0 0 rfl rfl)
theorem dX4_bestValve_2 : decode cX4_bestValve 2 = .ok (.istore_n 1, 1) := dk_60 (dk_at dksX4_bestValve_0 2 rfl rfl)
theorem dX4_bestValve_3 : decode cX4_bestValve 3 = .ok (.aload_n 0, 1) := dk_42 (dk_at dksX4_bestValve_0 3 rfl rfl)
theorem dX4_bestValve_4 : decode cX4_bestValve 4 = .ok (.invokevirtual 168, 3) := dk_182 0 168 (dk_at dksX4_bestValve_0 4 rfl rfl)
theorem dX4_bestValve_7 : decode cX4_bestValve 7 = .ok (.istore_n 2, 1) := dk_61 (dk_at dksX4_bestValve_0 7 rfl rfl)
theorem dX4_bestValve_8 : decode cX4_bestValve 8 = .ok (.iconst 0, 1) := dk_3 (dk_at dksX4_bestValve_0 8 rfl rfl)
theorem dX4_bestValve_9 : decode cX4_bestValve 9 = .ok (.istore_n 3, 1) := dk_62 (dk_at dksX4_bestValve_0 9 rfl rfl)
theorem dX4_bestValve_10 : decode cX4_bestValve 10 = .ok (.iload_n 3, 1) := dk_29 (dk_at dksX4_bestValve_0 10 rfl rfl)
theorem dX4_bestValve_11 : decode cX4_bestValve 11 = .ok (.iconst 4, 1) := dk_7 (dk_at dksX4_bestValve_0 11 rfl rfl)
theorem dX4_bestValve_12 : decode cX4_bestValve 12 = .ok (.aload_n 0, 1) := dk_42 (dk_at dksX4_bestValve_0 12 rfl rfl)
theorem dX4_bestValve_13 : decode cX4_bestValve 13 = .ok (.invokevirtual 46, 3) := dk_182 0 46 (dk_at dksX4_bestValve_0 13 rfl rfl)
theorem dX4_bestValve_16 : decode cX4_bestValve 16 = .ok (.imul, 1) := dk_104 (dk_at dksX4_bestValve_0 16 rfl rfl)
theorem dX4_bestValve_17 : decode cX4_bestValve 17 = .ok (.if_icmp .ge 88, 3) := dk_162 0 88 (dk_at dksX4_bestValve_0 17 rfl rfl)
theorem dX4_bestValve_20 : decode cX4_bestValve 20 = .ok (.aload_n 0, 1) := dk_42 (dk_at dksX4_bestValve_0 20 rfl rfl)
theorem dX4_bestValve_21 : decode cX4_bestValve 21 = .ok (.iload_n 3, 1) := dk_29 (dk_at dksX4_bestValve_0 21 rfl rfl)
theorem dX4_bestValve_22 : decode cX4_bestValve 22 = .ok (.iconst 4, 1) := dk_7 (dk_at dksX4_bestValve_0 22 rfl rfl)
theorem dX4_bestValve_23 : decode cX4_bestValve 23 = .ok (.idiv, 1) := dk_108 (dk_at dksX4_bestValve_0 23 rfl rfl)
theorem dX4_bestValve_24 : decode cX4_bestValve 24 = .ok (.iload_n 3, 1) := dk_29 (dk_at dksX4_bestValve_1 0 rfl rfl)
theorem dX4_bestValve_25 : decode cX4_bestValve 25 = .ok (.iconst 4, 1) := dk_7 (dk_at dksX4_bestValve_1 1 rfl rfl)
theorem dX4_bestValve_26 : decode cX4_bestValve 26 = .ok (.irem, 1) := dk_112 (dk_at dksX4_bestValve_1 2 rfl rfl)
theorem dX4_bestValve_27 : decode cX4_bestValve 27 = .ok (.invokevirtual 62, 3) := dk_182 0 62 (dk_at dksX4_bestValve_1 3 rfl rfl)
theorem dX4_bestValve_30 : decode cX4_bestValve 30 = .ok (.bipush (-9), 2) := dk_16 247 (dk_at dksX4_bestValve_1 6 rfl rfl)
theorem dX4_bestValve_32 : decode cX4_bestValve 32 = .ok (.if_icmp .eq 67, 3) := dk_159 0 67 (dk_at dksX4_bestValve_1 8 rfl rfl)
theorem dX4_bestValve_35 : decode cX4_bestValve 35 = .ok (.aload_n 0, 1) := dk_42 (dk_at dksX4_bestValve_1 11 rfl rfl)
theorem dX4_bestValve_36 : decode cX4_bestValve 36 = .ok (.getfield 7, 3) := dk_180 0 7 (dk_at dksX4_bestValve_1 12 rfl rfl)
theorem dX4_bestValve_39 : decode cX4_bestValve 39 = .ok (.bipush 87, 2) := dk_16 87 (dk_at dksX4_bestValve_1 15 rfl rfl)
theorem dX4_bestValve_41 : decode cX4_bestValve 41 = .ok (.iload_n 3, 1) := dk_29 (dk_at dksX4_bestValve_1 17 rfl rfl)
theorem dX4_bestValve_42 : decode cX4_bestValve 42 = .ok (.iadd, 1) := dk_96 (dk_at dksX4_bestValve_1 18 rfl rfl)
theorem dX4_bestValve_43 : decode cX4_bestValve 43 = .ok (.iaload, 1) := dk_46 (dk_at dksX4_bestValve_1 19 rfl rfl)
theorem dX4_bestValve_44 : decode cX4_bestValve 44 = .ok (.iconst 1, 1) := dk_4 (dk_at dksX4_bestValve_1 20 rfl rfl)
theorem dX4_bestValve_45 : decode cX4_bestValve 45 = .ok (.if_icmp .ne 54, 3) := dk_160 0 54 (dk_at dksX4_bestValve_1 21 rfl rfl)
theorem dX4_bestValve_48 : decode cX4_bestValve 48 = .ok (.aload_n 0, 1) := dk_42 (dk_at dksX4_bestValve_2 0 rfl rfl)
theorem dX4_bestValve_49 : decode cX4_bestValve 49 = .ok (.getfield 7, 3) := dk_180 0 7 (dk_at dksX4_bestValve_2 1 rfl rfl)
theorem dX4_bestValve_52 : decode cX4_bestValve 52 = .ok (.bipush 87, 2) := dk_16 87 (dk_at dksX4_bestValve_2 4 rfl rfl)
theorem dX4_bestValve_54 : decode cX4_bestValve 54 = .ok (.iload_n 3, 1) := dk_29 (dk_at dksX4_bestValve_2 6 rfl rfl)
theorem dX4_bestValve_55 : decode cX4_bestValve 55 = .ok (.iadd, 1) := dk_96 (dk_at dksX4_bestValve_2 7 rfl rfl)
theorem dX4_bestValve_56 : decode cX4_bestValve 56 = .ok (.iconst 0, 1) := dk_3 (dk_at dksX4_bestValve_2 8 rfl rfl)
theorem dX4_bestValve_57 : decode cX4_bestValve 57 = .ok (.iastore, 1) := dk_79 (dk_at dksX4_bestValve_2 9 rfl rfl)
theorem dX4_bestValve_58 : decode cX4_bestValve 58 = .ok (.aload_n 0, 1) := dk_42 (dk_at dksX4_bestValve_2 10 rfl rfl)
theorem dX4_bestValve_59 : decode cX4_bestValve 59 = .ok (.invokevirtual 168, 3) := dk_182 0 168 (dk_at dksX4_bestValve_2 11 rfl rfl)
theorem dX4_bestValve_62 : decode cX4_bestValve 62 = .ok (.istore 4, 2) := dk_54 4 (dk_at dksX4_bestValve_2 14 rfl rfl)
theorem dX4_bestValve_64 : decode cX4_bestValve 64 = .ok (.aload_n 0, 1) := dk_42 (dk_at dksX4_bestValve_2 16 rfl rfl)
theorem dX4_bestValve_65 : decode cX4_bestValve 65 = .ok (.getfield 7, 3) := dk_180 0 7 (dk_at dksX4_bestValve_2 17 rfl rfl)
theorem dX4_bestValve_68 : decode cX4_bestValve 68 = .ok (.bipush 87, 2) := dk_16 87 (dk_at dksX4_bestValve_2 20 rfl rfl)
theorem dX4_bestValve_70 : decode cX4_bestValve 70 = .ok (.iload_n 3, 1) := dk_29 (dk_at dksX4_bestValve_2 22 rfl rfl)
theorem dX4_bestValve_71 : decode cX4_bestValve 71 = .ok (.iadd, 1) := dk_96 (dk_at dksX4_bestValve_2 23 rfl rfl)
theorem dX4_bestValve_72 : decode cX4_bestValve 72 = .ok (.iconst 1, 1) := dk_4 (dk_at dksX4_bestValve_3 0 rfl rfl)
theorem dX4_bestValve_73 : decode cX4_bestValve 73 = .ok (.iastore, 1) := dk_79 (dk_at dksX4_bestValve_3 1 rfl rfl)
theorem dX4_bestValve_74 : decode cX4_bestValve 74 = .ok (.iload 4, 2) := dk_21 4 (dk_at dksX4_bestValve_3 2 rfl rfl)
theorem dX4_bestValve_76 : decode cX4_bestValve 76 = .ok (.iload_n 2, 1) := dk_28 (dk_at dksX4_bestValve_3 4 rfl rfl)
theorem dX4_bestValve_77 : decode cX4_bestValve 77 = .ok (.if_icmp .ge 7, 3) := dk_162 0 7 (dk_at dksX4_bestValve_3 5 rfl rfl)
theorem dX4_bestValve_80 : decode cX4_bestValve 80 = .ok (.iload_n 3, 1) := dk_29 (dk_at dksX4_bestValve_3 8 rfl rfl)
theorem dX4_bestValve_81 : decode cX4_bestValve 81 = .ok (.goto 4, 3) := dk_167 0 4 (dk_at dksX4_bestValve_3 9 rfl rfl)
theorem dX4_bestValve_84 : decode cX4_bestValve 84 = .ok (.iload_n 1, 1) := dk_27 (dk_at dksX4_bestValve_3 12 rfl rfl)
theorem dX4_bestValve_85 : decode cX4_bestValve 85 = .ok (.istore_n 1, 1) := dk_60 (dk_at dksX4_bestValve_3 13 rfl rfl)
theorem dX4_bestValve_86 : decode cX4_bestValve 86 = .ok (.iload 4, 2) := dk_21 4 (dk_at dksX4_bestValve_3 14 rfl rfl)
theorem dX4_bestValve_88 : decode cX4_bestValve 88 = .ok (.iload_n 2, 1) := dk_28 (dk_at dksX4_bestValve_3 16 rfl rfl)
theorem dX4_bestValve_89 : decode cX4_bestValve 89 = .ok (.if_icmp .ge 8, 3) := dk_162 0 8 (dk_at dksX4_bestValve_3 17 rfl rfl)
theorem dX4_bestValve_92 : decode cX4_bestValve 92 = .ok (.iload 4, 2) := dk_21 4 (dk_at dksX4_bestValve_3 20 rfl rfl)
theorem dX4_bestValve_94 : decode cX4_bestValve 94 = .ok (.goto 4, 3) := dk_167 0 4 (dk_at dksX4_bestValve_4 0 rfl rfl)
theorem dX4_bestValve_97 : decode cX4_bestValve 97 = .ok (.iload_n 2, 1) := dk_28 (dk_at dksX4_bestValve_4 3 rfl rfl)
theorem dX4_bestValve_98 : decode cX4_bestValve 98 = .ok (.istore_n 2, 1) := dk_61 (dk_at dksX4_bestValve_4 4 rfl rfl)
theorem dX4_bestValve_99 : decode cX4_bestValve 99 = .ok (.iinc 3 1, 3) := dk_132 3 1 (dk_at dksX4_bestValve_4 5 rfl rfl)
theorem dX4_bestValve_102 : decode cX4_bestValve 102 = .ok (.goto (-92), 3) := dk_167 255 164 (dk_at dksX4_bestValve_4 8 rfl rfl)
theorem dX4_bestValve_105 : decode cX4_bestValve 105 = .ok (.iload_n 1, 1) := dk_27 (dk_at dksX4_bestValve_4 11 rfl rfl)
theorem dX4_bestValve_106 : decode cX4_bestValve 106 = .ok (.ireturn, 1) := dk_172 (dk_at dksX4_bestValve_4 12 rfl rfl)
abbrev cX4_append : ByteArray := prog_20_method_65_code
def yX4_append : MethodName := ⟨RX4, "append", "(I)I"⟩
def dkwX4_append_2 : List UInt8 := [180, 0, 141, 172]
abbrev dktX4_append_2 : List UInt8 := dkwX4_append_2 ++ []
def dkwX4_append_1 : List UInt8 := [172, 42, 180, 0, 19, 42, 180, 0, 141, 27, 79, 42, 89, 180, 0, 141, 4, 96, 181, 0, 141, 42]
abbrev dktX4_append_1 : List UInt8 := dkwX4_append_1 ++ dktX4_append_2
def dkwX4_append_0 : List UInt8 := [27, 4, 17, 0, 255, 184, 0, 50, 154, 0, 5, 2, 172, 42, 180, 0, 141, 16, 120, 160, 0, 6, 16, 253]
abbrev dktX4_append_0 : List UInt8 := dkwX4_append_0 ++ dktX4_append_1
theorem dksX4_append_0 : cX4_append.data.toList.drop 0 = dktX4_append_0 := by decide +kernel
theorem dksX4_append_1 : cX4_append.data.toList.drop 24 = dktX4_append_1 := dk_seg dksX4_append_0 24 rfl rfl
theorem dksX4_append_2 : cX4_append.data.toList.drop 46 = dktX4_append_2 := dk_seg dksX4_append_1 22 rfl rfl
theorem dX4_append_0 : decode cX4_append 0 = .ok (.iload_n 1, 1) := dk_27 (dk_at dksX4_append_0 0 rfl rfl)
theorem dX4_append_1 : decode cX4_append 1 = .ok (.iconst 1, 1) := dk_4 (dk_at dksX4_append_0 1 rfl rfl)
theorem dX4_append_2 : decode cX4_append 2 = .ok (.sipush 255, 3) := dk_17 0 255 (dk_at dksX4_append_0 2 rfl rfl)
theorem dX4_append_5 : decode cX4_append 5 = .ok (.invokestatic 50, 3) := dk_184 0 50 (dk_at dksX4_append_0 5 rfl rfl)
theorem dX4_append_8 : decode cX4_append 8 = .ok (.ifCond .ne 5, 3) := dk_154 0 5 (dk_at dksX4_append_0 8 rfl rfl)
theorem dX4_append_11 : decode cX4_append 11 = .ok (.iconst (-1), 1) := dk_2 (dk_at dksX4_append_0 11 rfl rfl)
theorem dX4_append_12 : decode cX4_append 12 = .ok (.ireturn, 1) := dk_172 (dk_at dksX4_append_0 12 rfl rfl)
theorem dX4_append_13 : decode cX4_append 13 = .ok (.aload_n 0, 1) := dk_42 (dk_at dksX4_append_0 13 rfl rfl)
theorem dX4_append_14 : decode cX4_append 14 = .ok (.getfield 141, 3) := dk_180 0 141 (dk_at dksX4_append_0 14 rfl rfl)
theorem dX4_append_17 : decode cX4_append 17 = .ok (.bipush 120, 2) := dk_16 120 (dk_at dksX4_append_0 17 rfl rfl)
theorem dX4_append_19 : decode cX4_append 19 = .ok (.if_icmp .ne 6, 3) := dk_160 0 6 (dk_at dksX4_append_0 19 rfl rfl)
theorem dX4_append_22 : decode cX4_append 22 = .ok (.bipush (-3), 2) := dk_16 253 (dk_at dksX4_append_0 22 rfl rfl)
theorem dX4_append_24 : decode cX4_append 24 = .ok (.ireturn, 1) := dk_172 (dk_at dksX4_append_1 0 rfl rfl)
theorem dX4_append_25 : decode cX4_append 25 = .ok (.aload_n 0, 1) := dk_42 (dk_at dksX4_append_1 1 rfl rfl)
theorem dX4_append_26 : decode cX4_append 26 = .ok (.getfield 19, 3) := dk_180 0 19 (dk_at dksX4_append_1 2 rfl rfl)
theorem dX4_append_29 : decode cX4_append 29 = .ok (.aload_n 0, 1) := dk_42 (dk_at dksX4_append_1 5 rfl rfl)
theorem dX4_append_30 : decode cX4_append 30 = .ok (.getfield 141, 3) := dk_180 0 141 (dk_at dksX4_append_1 6 rfl rfl)
theorem dX4_append_33 : decode cX4_append 33 = .ok (.iload_n 1, 1) := dk_27 (dk_at dksX4_append_1 9 rfl rfl)
theorem dX4_append_34 : decode cX4_append 34 = .ok (.iastore, 1) := dk_79 (dk_at dksX4_append_1 10 rfl rfl)
theorem dX4_append_35 : decode cX4_append 35 = .ok (.aload_n 0, 1) := dk_42 (dk_at dksX4_append_1 11 rfl rfl)
theorem dX4_append_36 : decode cX4_append 36 = .ok (.dup, 1) := dk_89 (dk_at dksX4_append_1 12 rfl rfl)
theorem dX4_append_37 : decode cX4_append 37 = .ok (.getfield 141, 3) := dk_180 0 141 (dk_at dksX4_append_1 13 rfl rfl)
theorem dX4_append_40 : decode cX4_append 40 = .ok (.iconst 1, 1) := dk_4 (dk_at dksX4_append_1 16 rfl rfl)
theorem dX4_append_41 : decode cX4_append 41 = .ok (.iadd, 1) := dk_96 (dk_at dksX4_append_1 17 rfl rfl)
theorem dX4_append_42 : decode cX4_append 42 = .ok (.putfield 141, 3) := dk_181 0 141 (dk_at dksX4_append_1 18 rfl rfl)
theorem dX4_append_45 : decode cX4_append 45 = .ok (.aload_n 0, 1) := dk_42 (dk_at dksX4_append_1 21 rfl rfl)
theorem dX4_append_46 : decode cX4_append 46 = .ok (.getfield 141, 3) := dk_180 0 141 (dk_at dksX4_append_2 0 rfl rfl)
theorem dX4_append_49 : decode cX4_append 49 = .ok (.ireturn, 1) := dk_172 (dk_at dksX4_append_2 3 rfl rfl)
abbrev cX4_clearText : ByteArray := prog_20_method_66_code
def yX4_clearText : MethodName := ⟨RX4, "clearText", "()I"⟩
def dkwX4_clearText_0 : List UInt8 := [42, 180, 0, 141, 60, 42, 3, 181, 0, 141, 27, 172]
abbrev dktX4_clearText_0 : List UInt8 := dkwX4_clearText_0 ++ []
theorem dksX4_clearText_0 : cX4_clearText.data.toList.drop 0 = dktX4_clearText_0 := by decide +kernel
theorem dX4_clearText_0 : decode cX4_clearText 0 = .ok (.aload_n 0, 1) := dk_42 (dk_at dksX4_clearText_0 0 rfl rfl)
theorem dX4_clearText_1 : decode cX4_clearText 1 = .ok (.getfield 141, 3) := dk_180 0 141 (dk_at dksX4_clearText_0 1 rfl rfl)
theorem dX4_clearText_4 : decode cX4_clearText 4 = .ok (.istore_n 1, 1) := dk_60 (dk_at dksX4_clearText_0 4 rfl rfl)
theorem dX4_clearText_5 : decode cX4_clearText 5 = .ok (.aload_n 0, 1) := dk_42 (dk_at dksX4_clearText_0 5 rfl rfl)
theorem dX4_clearText_6 : decode cX4_clearText 6 = .ok (.iconst 0, 1) := dk_3 (dk_at dksX4_clearText_0 6 rfl rfl)
theorem dX4_clearText_7 : decode cX4_clearText 7 = .ok (.putfield 141, 3) := dk_181 0 141 (dk_at dksX4_clearText_0 7 rfl rfl)
theorem dX4_clearText_10 : decode cX4_clearText 10 = .ok (.iload_n 1, 1) := dk_27 (dk_at dksX4_clearText_0 10 rfl rfl)
theorem dX4_clearText_11 : decode cX4_clearText 11 = .ok (.ireturn, 1) := dk_172 (dk_at dksX4_clearText_0 11 rfl rfl)
abbrev cX4_load : ByteArray := prog_20_method_82_code
def yX4_load : MethodName := ⟨RX4, "load", "()I"⟩
def dkwX4_load_3 : List UInt8 := [181, 0, 141, 27, 172]
abbrev dktX4_load_3 : List UInt8 := dkwX4_load_3 ++ []
def dkwX4_load_2 : List UInt8 := [180, 0, 192, 153, 0, 15, 42, 182, 0, 150, 16, 246, 42, 180, 0, 177, 100, 172, 42, 182, 0, 239, 42, 3]
abbrev dktX4_load_2 : List UInt8 := dkwX4_load_2 ++ dktX4_load_3
def dkwX4_load_1 : List UInt8 := [154, 0, 21, 42, 182, 0, 196, 153, 0, 14, 42, 27, 182, 0, 236, 132, 1, 1, 167, 255, 234, 42]
abbrev dktX4_load_1 : List UInt8 := dkwX4_load_1 ++ dktX4_load_2
def dkwX4_load_0 : List UInt8 := [42, 182, 0, 147, 42, 182, 0, 35, 42, 3, 181, 0, 174, 42, 3, 181, 0, 192, 3, 60, 42, 180, 0, 192]
abbrev dktX4_load_0 : List UInt8 := dkwX4_load_0 ++ dktX4_load_1
theorem dksX4_load_0 : cX4_load.data.toList.drop 0 = dktX4_load_0 := by decide +kernel
theorem dksX4_load_1 : cX4_load.data.toList.drop 24 = dktX4_load_1 := dk_seg dksX4_load_0 24 rfl rfl
theorem dksX4_load_2 : cX4_load.data.toList.drop 46 = dktX4_load_2 := dk_seg dksX4_load_1 22 rfl rfl
theorem dksX4_load_3 : cX4_load.data.toList.drop 70 = dktX4_load_3 := dk_seg dksX4_load_2 24 rfl rfl
theorem dX4_load_0 : decode cX4_load 0 = .ok (.aload_n 0, 1) := dk_42 (dk_at dksX4_load_0 0 rfl rfl)
theorem dX4_load_1 : decode cX4_load 1 = .ok (.invokevirtual 147, 3) := dk_182 0 147 (dk_at dksX4_load_0 1 rfl rfl)
theorem dX4_load_4 : decode cX4_load 4 = .ok (.aload_n 0, 1) := dk_42 (dk_at dksX4_load_0 4 rfl rfl)
theorem dX4_load_5 : decode cX4_load 5 = .ok (.invokevirtual 35, 3) := dk_182 0 35 (dk_at dksX4_load_0 5 rfl rfl)
theorem dX4_load_8 : decode cX4_load 8 = .ok (.aload_n 0, 1) := dk_42 (dk_at dksX4_load_0 8 rfl rfl)
theorem dX4_load_9 : decode cX4_load 9 = .ok (.iconst 0, 1) := dk_3 (dk_at dksX4_load_0 9 rfl rfl)
theorem dX4_load_10 : decode cX4_load 10 = .ok (.putfield 174, 3) := dk_181 0 174 (dk_at dksX4_load_0 10 rfl rfl)
theorem dX4_load_13 : decode cX4_load 13 = .ok (.aload_n 0, 1) := dk_42 (dk_at dksX4_load_0 13 rfl rfl)
theorem dX4_load_14 : decode cX4_load 14 = .ok (.iconst 0, 1) := dk_3 (dk_at dksX4_load_0 14 rfl rfl)
theorem dX4_load_15 : decode cX4_load 15 = .ok (.putfield 192, 3) := dk_181 0 192 (dk_at dksX4_load_0 15 rfl rfl)
theorem dX4_load_18 : decode cX4_load 18 = .ok (.iconst 0, 1) := dk_3 (dk_at dksX4_load_0 18 rfl rfl)
theorem dX4_load_19 : decode cX4_load 19 = .ok (.istore_n 1, 1) := dk_60 (dk_at dksX4_load_0 19 rfl rfl)
theorem dX4_load_20 : decode cX4_load 20 = .ok (.aload_n 0, 1) := dk_42 (dk_at dksX4_load_0 20 rfl rfl)
theorem dX4_load_21 : decode cX4_load 21 = .ok (.getfield 192, 3) := dk_180 0 192 (dk_at dksX4_load_0 21 rfl rfl)
theorem dX4_load_24 : decode cX4_load 24 = .ok (.ifCond .ne 21, 3) := dk_154 0 21 (dk_at dksX4_load_1 0 rfl rfl)
theorem dX4_load_27 : decode cX4_load 27 = .ok (.aload_n 0, 1) := dk_42 (dk_at dksX4_load_1 3 rfl rfl)
theorem dX4_load_28 : decode cX4_load 28 = .ok (.invokevirtual 196, 3) := dk_182 0 196 (dk_at dksX4_load_1 4 rfl rfl)
theorem dX4_load_31 : decode cX4_load 31 = .ok (.ifCond .eq 14, 3) := dk_153 0 14 (dk_at dksX4_load_1 7 rfl rfl)
theorem dX4_load_34 : decode cX4_load 34 = .ok (.aload_n 0, 1) := dk_42 (dk_at dksX4_load_1 10 rfl rfl)
theorem dX4_load_35 : decode cX4_load 35 = .ok (.iload_n 1, 1) := dk_27 (dk_at dksX4_load_1 11 rfl rfl)
theorem dX4_load_36 : decode cX4_load 36 = .ok (.invokevirtual 236, 3) := dk_182 0 236 (dk_at dksX4_load_1 12 rfl rfl)
theorem dX4_load_39 : decode cX4_load 39 = .ok (.iinc 1 1, 3) := dk_132 1 1 (dk_at dksX4_load_1 15 rfl rfl)
theorem dX4_load_42 : decode cX4_load 42 = .ok (.goto (-22), 3) := dk_167 255 234 (dk_at dksX4_load_1 18 rfl rfl)
theorem dX4_load_45 : decode cX4_load 45 = .ok (.aload_n 0, 1) := dk_42 (dk_at dksX4_load_1 21 rfl rfl)
theorem dX4_load_46 : decode cX4_load 46 = .ok (.getfield 192, 3) := dk_180 0 192 (dk_at dksX4_load_2 0 rfl rfl)
theorem dX4_load_49 : decode cX4_load 49 = .ok (.ifCond .eq 15, 3) := dk_153 0 15 (dk_at dksX4_load_2 3 rfl rfl)
theorem dX4_load_52 : decode cX4_load 52 = .ok (.aload_n 0, 1) := dk_42 (dk_at dksX4_load_2 6 rfl rfl)
theorem dX4_load_53 : decode cX4_load 53 = .ok (.invokevirtual 150, 3) := dk_182 0 150 (dk_at dksX4_load_2 7 rfl rfl)
theorem dX4_load_56 : decode cX4_load 56 = .ok (.bipush (-10), 2) := dk_16 246 (dk_at dksX4_load_2 10 rfl rfl)
theorem dX4_load_58 : decode cX4_load 58 = .ok (.aload_n 0, 1) := dk_42 (dk_at dksX4_load_2 12 rfl rfl)
theorem dX4_load_59 : decode cX4_load 59 = .ok (.getfield 177, 3) := dk_180 0 177 (dk_at dksX4_load_2 13 rfl rfl)
theorem dX4_load_62 : decode cX4_load 62 = .ok (.isub, 1) := dk_100 (dk_at dksX4_load_2 16 rfl rfl)
theorem dX4_load_63 : decode cX4_load 63 = .ok (.ireturn, 1) := dk_172 (dk_at dksX4_load_2 17 rfl rfl)
theorem dX4_load_64 : decode cX4_load 64 = .ok (.aload_n 0, 1) := dk_42 (dk_at dksX4_load_2 18 rfl rfl)
theorem dX4_load_65 : decode cX4_load 65 = .ok (.invokevirtual 239, 3) := dk_182 0 239 (dk_at dksX4_load_2 19 rfl rfl)
theorem dX4_load_68 : decode cX4_load 68 = .ok (.aload_n 0, 1) := dk_42 (dk_at dksX4_load_2 22 rfl rfl)
theorem dX4_load_69 : decode cX4_load 69 = .ok (.iconst 0, 1) := dk_3 (dk_at dksX4_load_2 23 rfl rfl)
theorem dX4_load_70 : decode cX4_load 70 = .ok (.putfield 141, 3) := dk_181 0 141 (dk_at dksX4_load_3 0 rfl rfl)
theorem dX4_load_73 : decode cX4_load 73 = .ok (.iload_n 1, 1) := dk_27 (dk_at dksX4_load_3 3 rfl rfl)
theorem dX4_load_74 : decode cX4_load 74 = .ok (.ireturn, 1) := dk_172 (dk_at dksX4_load_3 4 rfl rfl)
abbrev cX4_goes : ByteArray := prog_20_method_69_code
def yX4_goes : MethodName := ⟨RX4, "goes", "()Z"⟩
def dkwX4_goes_7 : List UInt8 := [172]
abbrev dktX4_goes_7 : List UInt8 := dkwX4_goes_7 ++ []
def dkwX4_goes_6 : List UInt8 := [180, 0, 174, 46, 184, 0, 183, 153, 0, 16, 42, 89, 180, 0, 174, 4, 96, 181, 0, 174, 167, 255, 197, 4]
abbrev dktX4_goes_6 : List UInt8 := dkwX4_goes_6 ++ dktX4_goes_7
def dkwX4_goes_5 : List UInt8 := [180, 0, 19, 42, 180, 0, 174, 46, 184, 0, 180, 154, 0, 22, 28, 153, 0, 31, 42, 180, 0, 19, 42]
abbrev dktX4_goes_5 : List UInt8 := dkwX4_goes_5 ++ dktX4_goes_6
def dkwX4_goes_4 : List UInt8 := [180, 0, 174, 4, 96, 181, 0, 174, 42, 180, 0, 174, 42, 180, 0, 141, 162, 0, 54, 27, 153, 0, 18, 42]
abbrev dktX4_goes_4 : List UInt8 := dkwX4_goes_4 ++ dktX4_goes_5
def dkwX4_goes_3 : List UInt8 := [180, 0, 177, 46, 184, 0, 180, 60, 42, 180, 0, 19, 42, 180, 0, 177, 46, 184, 0, 183, 61, 42, 89]
abbrev dktX4_goes_3 : List UInt8 := dkwX4_goes_3 ++ dktX4_goes_4
def dkwX4_goes_2 : List UInt8 := [180, 0, 177, 181, 0, 174, 42, 180, 0, 177, 42, 180, 0, 141, 160, 0, 5, 3, 172, 42, 180, 0, 19, 42]
abbrev dktX4_goes_2 : List UInt8 := dkwX4_goes_2 ++ dktX4_goes_3
def dkwX4_goes_1 : List UInt8 := [180, 0, 177, 46, 16, 32, 160, 0, 16, 42, 89, 180, 0, 177, 4, 96, 181, 0, 177, 167, 255, 221, 42, 42]
abbrev dktX4_goes_1 : List UInt8 := dkwX4_goes_1 ++ dktX4_goes_2
def dkwX4_goes_0 : List UInt8 := [42, 42, 180, 0, 174, 181, 0, 177, 42, 180, 0, 177, 42, 180, 0, 141, 162, 0, 30, 42, 180, 0, 19, 42]
abbrev dktX4_goes_0 : List UInt8 := dkwX4_goes_0 ++ dktX4_goes_1
theorem dksX4_goes_0 : cX4_goes.data.toList.drop 0 = dktX4_goes_0 := by decide +kernel
theorem dksX4_goes_1 : cX4_goes.data.toList.drop 24 = dktX4_goes_1 := dk_seg dksX4_goes_0 24 rfl rfl
theorem dksX4_goes_2 : cX4_goes.data.toList.drop 48 = dktX4_goes_2 := dk_seg dksX4_goes_1 24 rfl rfl
theorem dksX4_goes_3 : cX4_goes.data.toList.drop 72 = dktX4_goes_3 := dk_seg dksX4_goes_2 24 rfl rfl
theorem dksX4_goes_4 : cX4_goes.data.toList.drop 95 = dktX4_goes_4 := dk_seg dksX4_goes_3 23 rfl rfl
theorem dksX4_goes_5 : cX4_goes.data.toList.drop 119 = dktX4_goes_5 := dk_seg dksX4_goes_4 24 rfl rfl
theorem dksX4_goes_6 : cX4_goes.data.toList.drop 142 = dktX4_goes_6 := dk_seg dksX4_goes_5 23 rfl rfl
theorem dksX4_goes_7 : cX4_goes.data.toList.drop 166 = dktX4_goes_7 := dk_seg dksX4_goes_6 24 rfl rfl
theorem dX4_goes_0 : decode cX4_goes 0 = .ok (.aload_n 0, 1) := dk_42 (dk_at dksX4_goes_0 0 rfl rfl)
theorem dX4_goes_1 : decode cX4_goes 1 = .ok (.aload_n 0, 1) := dk_42 (dk_at dksX4_goes_0 1 rfl rfl)
theorem dX4_goes_2 : decode cX4_goes 2 = .ok (.getfield 174, 3) := dk_180 0 174 (dk_at dksX4_goes_0 2 rfl rfl)
theorem dX4_goes_5 : decode cX4_goes 5 = .ok (.putfield 177, 3) := dk_181 0 177 (dk_at dksX4_goes_0 5 rfl rfl)
theorem dX4_goes_8 : decode cX4_goes 8 = .ok (.aload_n 0, 1) := dk_42 (dk_at dksX4_goes_0 8 rfl rfl)
theorem dX4_goes_9 : decode cX4_goes 9 = .ok (.getfield 177, 3) := dk_180 0 177 (dk_at dksX4_goes_0 9 rfl rfl)
theorem dX4_goes_12 : decode cX4_goes 12 = .ok (.aload_n 0, 1) := dk_42 (dk_at dksX4_goes_0 12 rfl rfl)
theorem dX4_goes_13 : decode cX4_goes 13 = .ok (.getfield 141, 3) := dk_180 0 141 (dk_at dksX4_goes_0 13 rfl rfl)
theorem dX4_goes_16 : decode cX4_goes 16 = .ok (.if_icmp .ge 30, 3) := dk_162 0 30 (dk_at dksX4_goes_0 16 rfl rfl)
theorem dX4_goes_19 : decode cX4_goes 19 = .ok (.aload_n 0, 1) := dk_42 (dk_at dksX4_goes_0 19 rfl rfl)
theorem dX4_goes_20 : decode cX4_goes 20 = .ok (.getfield 19, 3) := dk_180 0 19 (dk_at dksX4_goes_0 20 rfl rfl)
theorem dX4_goes_23 : decode cX4_goes 23 = .ok (.aload_n 0, 1) := dk_42 (dk_at dksX4_goes_0 23 rfl rfl)
theorem dX4_goes_24 : decode cX4_goes 24 = .ok (.getfield 177, 3) := dk_180 0 177 (dk_at dksX4_goes_1 0 rfl rfl)
theorem dX4_goes_27 : decode cX4_goes 27 = .ok (.iaload, 1) := dk_46 (dk_at dksX4_goes_1 3 rfl rfl)
theorem dX4_goes_28 : decode cX4_goes 28 = .ok (.bipush 32, 2) := dk_16 32 (dk_at dksX4_goes_1 4 rfl rfl)
theorem dX4_goes_30 : decode cX4_goes 30 = .ok (.if_icmp .ne 16, 3) := dk_160 0 16 (dk_at dksX4_goes_1 6 rfl rfl)
theorem dX4_goes_33 : decode cX4_goes 33 = .ok (.aload_n 0, 1) := dk_42 (dk_at dksX4_goes_1 9 rfl rfl)
theorem dX4_goes_34 : decode cX4_goes 34 = .ok (.dup, 1) := dk_89 (dk_at dksX4_goes_1 10 rfl rfl)
theorem dX4_goes_35 : decode cX4_goes 35 = .ok (.getfield 177, 3) := dk_180 0 177 (dk_at dksX4_goes_1 11 rfl rfl)
theorem dX4_goes_38 : decode cX4_goes 38 = .ok (.iconst 1, 1) := dk_4 (dk_at dksX4_goes_1 14 rfl rfl)
theorem dX4_goes_39 : decode cX4_goes 39 = .ok (.iadd, 1) := dk_96 (dk_at dksX4_goes_1 15 rfl rfl)
theorem dX4_goes_40 : decode cX4_goes 40 = .ok (.putfield 177, 3) := dk_181 0 177 (dk_at dksX4_goes_1 16 rfl rfl)
theorem dX4_goes_43 : decode cX4_goes 43 = .ok (.goto (-35), 3) := dk_167 255 221 (dk_at dksX4_goes_1 19 rfl rfl)
theorem dX4_goes_46 : decode cX4_goes 46 = .ok (.aload_n 0, 1) := dk_42 (dk_at dksX4_goes_1 22 rfl rfl)
theorem dX4_goes_47 : decode cX4_goes 47 = .ok (.aload_n 0, 1) := dk_42 (dk_at dksX4_goes_1 23 rfl rfl)
theorem dX4_goes_48 : decode cX4_goes 48 = .ok (.getfield 177, 3) := dk_180 0 177 (dk_at dksX4_goes_2 0 rfl rfl)
theorem dX4_goes_51 : decode cX4_goes 51 = .ok (.putfield 174, 3) := dk_181 0 174 (dk_at dksX4_goes_2 3 rfl rfl)
theorem dX4_goes_54 : decode cX4_goes 54 = .ok (.aload_n 0, 1) := dk_42 (dk_at dksX4_goes_2 6 rfl rfl)
theorem dX4_goes_55 : decode cX4_goes 55 = .ok (.getfield 177, 3) := dk_180 0 177 (dk_at dksX4_goes_2 7 rfl rfl)
theorem dX4_goes_58 : decode cX4_goes 58 = .ok (.aload_n 0, 1) := dk_42 (dk_at dksX4_goes_2 10 rfl rfl)
theorem dX4_goes_59 : decode cX4_goes 59 = .ok (.getfield 141, 3) := dk_180 0 141 (dk_at dksX4_goes_2 11 rfl rfl)
theorem dX4_goes_62 : decode cX4_goes 62 = .ok (.if_icmp .ne 5, 3) := dk_160 0 5 (dk_at dksX4_goes_2 14 rfl rfl)
theorem dX4_goes_65 : decode cX4_goes 65 = .ok (.iconst 0, 1) := dk_3 (dk_at dksX4_goes_2 17 rfl rfl)
theorem dX4_goes_66 : decode cX4_goes 66 = .ok (.ireturn, 1) := dk_172 (dk_at dksX4_goes_2 18 rfl rfl)
theorem dX4_goes_67 : decode cX4_goes 67 = .ok (.aload_n 0, 1) := dk_42 (dk_at dksX4_goes_2 19 rfl rfl)
theorem dX4_goes_68 : decode cX4_goes 68 = .ok (.getfield 19, 3) := dk_180 0 19 (dk_at dksX4_goes_2 20 rfl rfl)
theorem dX4_goes_71 : decode cX4_goes 71 = .ok (.aload_n 0, 1) := dk_42 (dk_at dksX4_goes_2 23 rfl rfl)
theorem dX4_goes_72 : decode cX4_goes 72 = .ok (.getfield 177, 3) := dk_180 0 177 (dk_at dksX4_goes_3 0 rfl rfl)
theorem dX4_goes_75 : decode cX4_goes 75 = .ok (.iaload, 1) := dk_46 (dk_at dksX4_goes_3 3 rfl rfl)
theorem dX4_goes_76 : decode cX4_goes 76 = .ok (.invokestatic 180, 3) := dk_184 0 180 (dk_at dksX4_goes_3 4 rfl rfl)
theorem dX4_goes_79 : decode cX4_goes 79 = .ok (.istore_n 1, 1) := dk_60 (dk_at dksX4_goes_3 7 rfl rfl)
theorem dX4_goes_80 : decode cX4_goes 80 = .ok (.aload_n 0, 1) := dk_42 (dk_at dksX4_goes_3 8 rfl rfl)
theorem dX4_goes_81 : decode cX4_goes 81 = .ok (.getfield 19, 3) := dk_180 0 19 (dk_at dksX4_goes_3 9 rfl rfl)
theorem dX4_goes_84 : decode cX4_goes 84 = .ok (.aload_n 0, 1) := dk_42 (dk_at dksX4_goes_3 12 rfl rfl)
theorem dX4_goes_85 : decode cX4_goes 85 = .ok (.getfield 177, 3) := dk_180 0 177 (dk_at dksX4_goes_3 13 rfl rfl)
theorem dX4_goes_88 : decode cX4_goes 88 = .ok (.iaload, 1) := dk_46 (dk_at dksX4_goes_3 16 rfl rfl)
theorem dX4_goes_89 : decode cX4_goes 89 = .ok (.invokestatic 183, 3) := dk_184 0 183 (dk_at dksX4_goes_3 17 rfl rfl)
theorem dX4_goes_92 : decode cX4_goes 92 = .ok (.istore_n 2, 1) := dk_61 (dk_at dksX4_goes_3 20 rfl rfl)
theorem dX4_goes_93 : decode cX4_goes 93 = .ok (.aload_n 0, 1) := dk_42 (dk_at dksX4_goes_3 21 rfl rfl)
theorem dX4_goes_94 : decode cX4_goes 94 = .ok (.dup, 1) := dk_89 (dk_at dksX4_goes_3 22 rfl rfl)
theorem dX4_goes_95 : decode cX4_goes 95 = .ok (.getfield 174, 3) := dk_180 0 174 (dk_at dksX4_goes_4 0 rfl rfl)
theorem dX4_goes_98 : decode cX4_goes 98 = .ok (.iconst 1, 1) := dk_4 (dk_at dksX4_goes_4 3 rfl rfl)
theorem dX4_goes_99 : decode cX4_goes 99 = .ok (.iadd, 1) := dk_96 (dk_at dksX4_goes_4 4 rfl rfl)
theorem dX4_goes_100 : decode cX4_goes 100 = .ok (.putfield 174, 3) := dk_181 0 174 (dk_at dksX4_goes_4 5 rfl rfl)
theorem dX4_goes_103 : decode cX4_goes 103 = .ok (.aload_n 0, 1) := dk_42 (dk_at dksX4_goes_4 8 rfl rfl)
theorem dX4_goes_104 : decode cX4_goes 104 = .ok (.getfield 174, 3) := dk_180 0 174 (dk_at dksX4_goes_4 9 rfl rfl)
theorem dX4_goes_107 : decode cX4_goes 107 = .ok (.aload_n 0, 1) := dk_42 (dk_at dksX4_goes_4 12 rfl rfl)
theorem dX4_goes_108 : decode cX4_goes 108 = .ok (.getfield 141, 3) := dk_180 0 141 (dk_at dksX4_goes_4 13 rfl rfl)
theorem dX4_goes_111 : decode cX4_goes 111 = .ok (.if_icmp .ge 54, 3) := dk_162 0 54 (dk_at dksX4_goes_4 16 rfl rfl)
theorem dX4_goes_114 : decode cX4_goes 114 = .ok (.iload_n 1, 1) := dk_27 (dk_at dksX4_goes_4 19 rfl rfl)
theorem dX4_goes_115 : decode cX4_goes 115 = .ok (.ifCond .eq 18, 3) := dk_153 0 18 (dk_at dksX4_goes_4 20 rfl rfl)
theorem dX4_goes_118 : decode cX4_goes 118 = .ok (.aload_n 0, 1) := dk_42 (dk_at dksX4_goes_4 23 rfl rfl)
theorem dX4_goes_119 : decode cX4_goes 119 = .ok (.getfield 19, 3) := dk_180 0 19 (dk_at dksX4_goes_5 0 rfl rfl)
theorem dX4_goes_122 : decode cX4_goes 122 = .ok (.aload_n 0, 1) := dk_42 (dk_at dksX4_goes_5 3 rfl rfl)
theorem dX4_goes_123 : decode cX4_goes 123 = .ok (.getfield 174, 3) := dk_180 0 174 (dk_at dksX4_goes_5 4 rfl rfl)
theorem dX4_goes_126 : decode cX4_goes 126 = .ok (.iaload, 1) := dk_46 (dk_at dksX4_goes_5 7 rfl rfl)
theorem dX4_goes_127 : decode cX4_goes 127 = .ok (.invokestatic 180, 3) := dk_184 0 180 (dk_at dksX4_goes_5 8 rfl rfl)
theorem dX4_goes_130 : decode cX4_goes 130 = .ok (.ifCond .ne 22, 3) := dk_154 0 22 (dk_at dksX4_goes_5 11 rfl rfl)
theorem dX4_goes_133 : decode cX4_goes 133 = .ok (.iload_n 2, 1) := dk_28 (dk_at dksX4_goes_5 14 rfl rfl)
theorem dX4_goes_134 : decode cX4_goes 134 = .ok (.ifCond .eq 31, 3) := dk_153 0 31 (dk_at dksX4_goes_5 15 rfl rfl)
theorem dX4_goes_137 : decode cX4_goes 137 = .ok (.aload_n 0, 1) := dk_42 (dk_at dksX4_goes_5 18 rfl rfl)
theorem dX4_goes_138 : decode cX4_goes 138 = .ok (.getfield 19, 3) := dk_180 0 19 (dk_at dksX4_goes_5 19 rfl rfl)
theorem dX4_goes_141 : decode cX4_goes 141 = .ok (.aload_n 0, 1) := dk_42 (dk_at dksX4_goes_5 22 rfl rfl)
theorem dX4_goes_142 : decode cX4_goes 142 = .ok (.getfield 174, 3) := dk_180 0 174 (dk_at dksX4_goes_6 0 rfl rfl)
theorem dX4_goes_145 : decode cX4_goes 145 = .ok (.iaload, 1) := dk_46 (dk_at dksX4_goes_6 3 rfl rfl)
theorem dX4_goes_146 : decode cX4_goes 146 = .ok (.invokestatic 183, 3) := dk_184 0 183 (dk_at dksX4_goes_6 4 rfl rfl)
theorem dX4_goes_149 : decode cX4_goes 149 = .ok (.ifCond .eq 16, 3) := dk_153 0 16 (dk_at dksX4_goes_6 7 rfl rfl)
theorem dX4_goes_152 : decode cX4_goes 152 = .ok (.aload_n 0, 1) := dk_42 (dk_at dksX4_goes_6 10 rfl rfl)
theorem dX4_goes_153 : decode cX4_goes 153 = .ok (.dup, 1) := dk_89 (dk_at dksX4_goes_6 11 rfl rfl)
theorem dX4_goes_154 : decode cX4_goes 154 = .ok (.getfield 174, 3) := dk_180 0 174 (dk_at dksX4_goes_6 12 rfl rfl)
theorem dX4_goes_157 : decode cX4_goes 157 = .ok (.iconst 1, 1) := dk_4 (dk_at dksX4_goes_6 15 rfl rfl)
theorem dX4_goes_158 : decode cX4_goes 158 = .ok (.iadd, 1) := dk_96 (dk_at dksX4_goes_6 16 rfl rfl)
theorem dX4_goes_159 : decode cX4_goes 159 = .ok (.putfield 174, 3) := dk_181 0 174 (dk_at dksX4_goes_6 17 rfl rfl)
theorem dX4_goes_162 : decode cX4_goes 162 = .ok (.goto (-59), 3) := dk_167 255 197 (dk_at dksX4_goes_6 20 rfl rfl)
theorem dX4_goes_165 : decode cX4_goes 165 = .ok (.iconst 1, 1) := dk_4 (dk_at dksX4_goes_6 23 rfl rfl)
theorem dX4_goes_166 : decode cX4_goes 166 = .ok (.ireturn, 1) := dk_172 (dk_at dksX4_goes_7 0 rfl rfl)
abbrev cX4_isLetter : ByteArray := prog_20_method_67_code
def yX4_isLetter : MethodName := ⟨RX4, "isLetter", "(I)Z"⟩
def dkwX4_isLetter_0 : List UInt8 := [26, 16, 97, 16, 122, 184, 0, 50, 172]
abbrev dktX4_isLetter_0 : List UInt8 := dkwX4_isLetter_0 ++ []
theorem dksX4_isLetter_0 : cX4_isLetter.data.toList.drop 0 = dktX4_isLetter_0 := by decide +kernel
theorem dX4_isLetter_0 : decode cX4_isLetter 0 = .ok (.iload_n 0, 1) := dk_26 (dk_at dksX4_isLetter_0 0 rfl rfl)
theorem dX4_isLetter_1 : decode cX4_isLetter 1 = .ok (.bipush 97, 2) := dk_16 97 (dk_at dksX4_isLetter_0 1 rfl rfl)
theorem dX4_isLetter_3 : decode cX4_isLetter 3 = .ok (.bipush 122, 2) := dk_16 122 (dk_at dksX4_isLetter_0 3 rfl rfl)
theorem dX4_isLetter_5 : decode cX4_isLetter 5 = .ok (.invokestatic 50, 3) := dk_184 0 50 (dk_at dksX4_isLetter_0 5 rfl rfl)
theorem dX4_isLetter_8 : decode cX4_isLetter 8 = .ok (.ireturn, 1) := dk_172 (dk_at dksX4_isLetter_0 8 rfl rfl)
abbrev cX4_isDigit : ByteArray := prog_20_method_68_code
def yX4_isDigit : MethodName := ⟨RX4, "isDigit", "(I)Z"⟩
def dkwX4_isDigit_0 : List UInt8 := [26, 16, 48, 16, 57, 184, 0, 50, 172]
abbrev dktX4_isDigit_0 : List UInt8 := dkwX4_isDigit_0 ++ []
theorem dksX4_isDigit_0 : cX4_isDigit.data.toList.drop 0 = dktX4_isDigit_0 := by decide +kernel
theorem dX4_isDigit_0 : decode cX4_isDigit 0 = .ok (.iload_n 0, 1) := dk_26 (dk_at dksX4_isDigit_0 0 rfl rfl)
theorem dX4_isDigit_1 : decode cX4_isDigit 1 = .ok (.bipush 48, 2) := dk_16 48 (dk_at dksX4_isDigit_0 1 rfl rfl)
theorem dX4_isDigit_3 : decode cX4_isDigit 3 = .ok (.bipush 57, 2) := dk_16 57 (dk_at dksX4_isDigit_0 3 rfl rfl)
theorem dX4_isDigit_5 : decode cX4_isDigit 5 = .ok (.invokestatic 50, 3) := dk_184 0 50 (dk_at dksX4_isDigit_0 5 rfl rfl)
theorem dX4_isDigit_8 : decode cX4_isDigit 8 = .ok (.ireturn, 1) := dk_172 (dk_at dksX4_isDigit_0 8 rfl rfl)
abbrev cX4_readsItem : ByteArray := prog_20_method_81_code
def yX4_readsItem : MethodName := ⟨RX4, "readsItem", "(I)V"⟩
def dkwX4_readsItem_11 : List UInt8 := [16, 59, 182, 0, 233, 177]
abbrev dktX4_readsItem_11 : List UInt8 := dkwX4_readsItem_11 ++ []
def dkwX4_readsItem_10 : List UInt8 := [153, 0, 12, 42, 180, 0, 7, 6, 46, 167, 0, 5, 21, 4, 79, 167, 0, 8, 42, 4, 181, 0, 192, 42]
abbrev dktX4_readsItem_10 : List UInt8 := dkwX4_readsItem_10 ++ dktX4_readsItem_11
def dkwX4_readsItem_9 : List UInt8 := [148, 154, 0, 39, 42, 3, 16, 100, 182, 0, 212, 54, 4, 42, 180, 0, 7, 6, 42, 180, 0, 192]
abbrev dktX4_readsItem_9 : List UInt8 := dkwX4_readsItem_9 ++ dktX4_readsItem_10
def dkwX4_readsItem_8 : List UInt8 := [184, 0, 208, 148, 154, 0, 10, 42, 182, 0, 230, 167, 0, 58, 32, 16, 97, 16, 116, 3, 3, 184, 0, 204]
abbrev dktX4_readsItem_8 : List UInt8 := dkwX4_readsItem_8 ++ dktX4_readsItem_9
def dkwX4_readsItem_7 : List UInt8 := [182, 0, 227, 167, 0, 90, 32, 16, 115, 16, 111, 16, 117, 16, 114, 184, 0, 204, 16, 99, 16, 101, 3, 3]
abbrev dktX4_readsItem_7 : List UInt8 := dkwX4_readsItem_7 ++ dktX4_readsItem_8
def dkwX4_readsItem_6 : List UInt8 := [16, 97, 16, 108, 16, 118, 184, 0, 204, 16, 101, 3, 3, 3, 184, 0, 208, 148, 154, 0, 10, 42]
abbrev dktX4_readsItem_6 : List UInt8 := dkwX4_readsItem_6 ++ dktX4_readsItem_7
def dkwX4_readsItem_5 : List UInt8 := [182, 0, 212, 54, 4, 42, 180, 0, 192, 154, 0, 9, 42, 21, 4, 182, 0, 108, 167, 0, 121, 32, 16, 118]
abbrev dktX4_readsItem_5 : List UInt8 := dkwX4_readsItem_5 ++ dktX4_readsItem_6
def dkwX4_readsItem_4 : List UInt8 := [167, 0, 163, 32, 16, 102, 16, 105, 16, 108, 16, 108, 184, 0, 204, 148, 154, 0, 29, 42, 3, 17, 39, 15]
abbrev dktX4_readsItem_4 : List UInt8 := dkwX4_readsItem_4 ++ dktX4_readsItem_5
def dkwX4_readsItem_3 : List UInt8 := [167, 0, 185, 32, 16, 114, 16, 111, 16, 119, 3, 184, 0, 204, 148, 154, 0, 10, 42, 182, 0, 224]
abbrev dktX4_readsItem_3 : List UInt8 := dkwX4_readsItem_3 ++ dktX4_readsItem_4
def dkwX4_readsItem_2 : List UInt8 := [154, 0, 25, 42, 182, 0, 221, 54, 4, 42, 180, 0, 192, 154, 0, 9, 42, 21, 4, 182, 0, 100]
abbrev dktX4_readsItem_2 : List UInt8 := dkwX4_readsItem_2 ++ dktX4_readsItem_3
def dkwX4_readsItem_1 : List UInt8 := [154, 0, 10, 42, 182, 0, 218, 167, 0, 223, 32, 16, 107, 16, 105, 16, 110, 16, 100, 184, 0, 204, 148]
abbrev dktX4_readsItem_1 : List UInt8 := dkwX4_readsItem_1 ++ dktX4_readsItem_2
def dkwX4_readsItem_0 : List UInt8 := [42, 182, 0, 200, 65, 32, 16, 115, 16, 105, 16, 122, 16, 101, 184, 0, 204, 148, 154, 0, 14, 27]
abbrev dktX4_readsItem_0 : List UInt8 := dkwX4_readsItem_0 ++ dktX4_readsItem_1
theorem dksX4_readsItem_0 : cX4_readsItem.data.toList.drop 0 = dktX4_readsItem_0 := by decide +kernel
theorem dksX4_readsItem_1 : cX4_readsItem.data.toList.drop 22 = dktX4_readsItem_1 := dk_seg dksX4_readsItem_0 22 rfl rfl
theorem dksX4_readsItem_2 : cX4_readsItem.data.toList.drop 45 = dktX4_readsItem_2 := dk_seg dksX4_readsItem_1 23 rfl rfl
theorem dksX4_readsItem_3 : cX4_readsItem.data.toList.drop 67 = dktX4_readsItem_3 := dk_seg dksX4_readsItem_2 22 rfl rfl
theorem dksX4_readsItem_4 : cX4_readsItem.data.toList.drop 89 = dktX4_readsItem_4 := dk_seg dksX4_readsItem_3 22 rfl rfl
theorem dksX4_readsItem_5 : cX4_readsItem.data.toList.drop 113 = dktX4_readsItem_5 := dk_seg dksX4_readsItem_4 24 rfl rfl
theorem dksX4_readsItem_6 : cX4_readsItem.data.toList.drop 137 = dktX4_readsItem_6 := dk_seg dksX4_readsItem_5 24 rfl rfl
theorem dksX4_readsItem_7 : cX4_readsItem.data.toList.drop 159 = dktX4_readsItem_7 := dk_seg dksX4_readsItem_6 22 rfl rfl
theorem dksX4_readsItem_8 : cX4_readsItem.data.toList.drop 183 = dktX4_readsItem_8 := dk_seg dksX4_readsItem_7 24 rfl rfl
theorem dksX4_readsItem_9 : cX4_readsItem.data.toList.drop 207 = dktX4_readsItem_9 := dk_seg dksX4_readsItem_8 24 rfl rfl
theorem dksX4_readsItem_10 : cX4_readsItem.data.toList.drop 229 = dktX4_readsItem_10 := dk_seg dksX4_readsItem_9 22 rfl rfl
theorem dksX4_readsItem_11 : cX4_readsItem.data.toList.drop 253 = dktX4_readsItem_11 := dk_seg dksX4_readsItem_10 24 rfl rfl
theorem dX4_readsItem_0 : decode cX4_readsItem 0 = .ok (.aload_n 0, 1) := dk_42 (dk_at dksX4_readsItem_0 0 rfl rfl)
theorem dX4_readsItem_1 : decode cX4_readsItem 1 = .ok (.invokevirtual 200, 3) := dk_182 0 200 (dk_at dksX4_readsItem_0 1 rfl rfl)
theorem dX4_readsItem_4 : decode cX4_readsItem 4 = .ok (.lstore_n 2, 1) := dk_65 (dk_at dksX4_readsItem_0 4 rfl rfl)
theorem dX4_readsItem_5 : decode cX4_readsItem 5 = .ok (.lload_n 2, 1) := dk_32 (dk_at dksX4_readsItem_0 5 rfl rfl)
theorem dX4_readsItem_6 : decode cX4_readsItem 6 = .ok (.bipush 115, 2) := dk_16 115 (dk_at dksX4_readsItem_0 6 rfl rfl)
theorem dX4_readsItem_8 : decode cX4_readsItem 8 = .ok (.bipush 105, 2) := dk_16 105 (dk_at dksX4_readsItem_0 8 rfl rfl)
theorem dX4_readsItem_10 : decode cX4_readsItem 10 = .ok (.bipush 122, 2) := dk_16 122 (dk_at dksX4_readsItem_0 10 rfl rfl)
theorem dX4_readsItem_12 : decode cX4_readsItem 12 = .ok (.bipush 101, 2) := dk_16 101 (dk_at dksX4_readsItem_0 12 rfl rfl)
theorem dX4_readsItem_14 : decode cX4_readsItem 14 = .ok (.invokestatic 204, 3) := dk_184 0 204 (dk_at dksX4_readsItem_0 14 rfl rfl)
theorem dX4_readsItem_17 : decode cX4_readsItem 17 = .ok (.lcmp, 1) := dk_148 (dk_at dksX4_readsItem_0 17 rfl rfl)
theorem dX4_readsItem_18 : decode cX4_readsItem 18 = .ok (.ifCond .ne 14, 3) := dk_154 0 14 (dk_at dksX4_readsItem_0 18 rfl rfl)
theorem dX4_readsItem_21 : decode cX4_readsItem 21 = .ok (.iload_n 1, 1) := dk_27 (dk_at dksX4_readsItem_0 21 rfl rfl)
theorem dX4_readsItem_22 : decode cX4_readsItem 22 = .ok (.ifCond .ne 10, 3) := dk_154 0 10 (dk_at dksX4_readsItem_1 0 rfl rfl)
theorem dX4_readsItem_25 : decode cX4_readsItem 25 = .ok (.aload_n 0, 1) := dk_42 (dk_at dksX4_readsItem_1 3 rfl rfl)
theorem dX4_readsItem_26 : decode cX4_readsItem 26 = .ok (.invokevirtual 218, 3) := dk_182 0 218 (dk_at dksX4_readsItem_1 4 rfl rfl)
theorem dX4_readsItem_29 : decode cX4_readsItem 29 = .ok (.goto 223, 3) := dk_167 0 223 (dk_at dksX4_readsItem_1 7 rfl rfl)
theorem dX4_readsItem_32 : decode cX4_readsItem 32 = .ok (.lload_n 2, 1) := dk_32 (dk_at dksX4_readsItem_1 10 rfl rfl)
theorem dX4_readsItem_33 : decode cX4_readsItem 33 = .ok (.bipush 107, 2) := dk_16 107 (dk_at dksX4_readsItem_1 11 rfl rfl)
theorem dX4_readsItem_35 : decode cX4_readsItem 35 = .ok (.bipush 105, 2) := dk_16 105 (dk_at dksX4_readsItem_1 13 rfl rfl)
theorem dX4_readsItem_37 : decode cX4_readsItem 37 = .ok (.bipush 110, 2) := dk_16 110 (dk_at dksX4_readsItem_1 15 rfl rfl)
theorem dX4_readsItem_39 : decode cX4_readsItem 39 = .ok (.bipush 100, 2) := dk_16 100 (dk_at dksX4_readsItem_1 17 rfl rfl)
theorem dX4_readsItem_41 : decode cX4_readsItem 41 = .ok (.invokestatic 204, 3) := dk_184 0 204 (dk_at dksX4_readsItem_1 19 rfl rfl)
theorem dX4_readsItem_44 : decode cX4_readsItem 44 = .ok (.lcmp, 1) := dk_148 (dk_at dksX4_readsItem_1 22 rfl rfl)
theorem dX4_readsItem_45 : decode cX4_readsItem 45 = .ok (.ifCond .ne 25, 3) := dk_154 0 25 (dk_at dksX4_readsItem_2 0 rfl rfl)
theorem dX4_readsItem_48 : decode cX4_readsItem 48 = .ok (.aload_n 0, 1) := dk_42 (dk_at dksX4_readsItem_2 3 rfl rfl)
theorem dX4_readsItem_49 : decode cX4_readsItem 49 = .ok (.invokevirtual 221, 3) := dk_182 0 221 (dk_at dksX4_readsItem_2 4 rfl rfl)
theorem dX4_readsItem_52 : decode cX4_readsItem 52 = .ok (.istore 4, 2) := dk_54 4 (dk_at dksX4_readsItem_2 7 rfl rfl)
theorem dX4_readsItem_54 : decode cX4_readsItem 54 = .ok (.aload_n 0, 1) := dk_42 (dk_at dksX4_readsItem_2 9 rfl rfl)
theorem dX4_readsItem_55 : decode cX4_readsItem 55 = .ok (.getfield 192, 3) := dk_180 0 192 (dk_at dksX4_readsItem_2 10 rfl rfl)
theorem dX4_readsItem_58 : decode cX4_readsItem 58 = .ok (.ifCond .ne 9, 3) := dk_154 0 9 (dk_at dksX4_readsItem_2 13 rfl rfl)
theorem dX4_readsItem_61 : decode cX4_readsItem 61 = .ok (.aload_n 0, 1) := dk_42 (dk_at dksX4_readsItem_2 16 rfl rfl)
theorem dX4_readsItem_62 : decode cX4_readsItem 62 = .ok (.iload 4, 2) := dk_21 4 (dk_at dksX4_readsItem_2 17 rfl rfl)
theorem dX4_readsItem_64 : decode cX4_readsItem 64 = .ok (.invokevirtual 100, 3) := dk_182 0 100 (dk_at dksX4_readsItem_2 19 rfl rfl)
theorem dX4_readsItem_67 : decode cX4_readsItem 67 = .ok (.goto 185, 3) := dk_167 0 185 (dk_at dksX4_readsItem_3 0 rfl rfl)
theorem dX4_readsItem_70 : decode cX4_readsItem 70 = .ok (.lload_n 2, 1) := dk_32 (dk_at dksX4_readsItem_3 3 rfl rfl)
theorem dX4_readsItem_71 : decode cX4_readsItem 71 = .ok (.bipush 114, 2) := dk_16 114 (dk_at dksX4_readsItem_3 4 rfl rfl)
theorem dX4_readsItem_73 : decode cX4_readsItem 73 = .ok (.bipush 111, 2) := dk_16 111 (dk_at dksX4_readsItem_3 6 rfl rfl)
theorem dX4_readsItem_75 : decode cX4_readsItem 75 = .ok (.bipush 119, 2) := dk_16 119 (dk_at dksX4_readsItem_3 8 rfl rfl)
theorem dX4_readsItem_77 : decode cX4_readsItem 77 = .ok (.iconst 0, 1) := dk_3 (dk_at dksX4_readsItem_3 10 rfl rfl)
theorem dX4_readsItem_78 : decode cX4_readsItem 78 = .ok (.invokestatic 204, 3) := dk_184 0 204 (dk_at dksX4_readsItem_3 11 rfl rfl)
theorem dX4_readsItem_81 : decode cX4_readsItem 81 = .ok (.lcmp, 1) := dk_148 (dk_at dksX4_readsItem_3 14 rfl rfl)
theorem dX4_readsItem_82 : decode cX4_readsItem 82 = .ok (.ifCond .ne 10, 3) := dk_154 0 10 (dk_at dksX4_readsItem_3 15 rfl rfl)
theorem dX4_readsItem_85 : decode cX4_readsItem 85 = .ok (.aload_n 0, 1) := dk_42 (dk_at dksX4_readsItem_3 18 rfl rfl)
theorem dX4_readsItem_86 : decode cX4_readsItem 86 = .ok (.invokevirtual 224, 3) := dk_182 0 224 (dk_at dksX4_readsItem_3 19 rfl rfl)
theorem dX4_readsItem_89 : decode cX4_readsItem 89 = .ok (.goto 163, 3) := dk_167 0 163 (dk_at dksX4_readsItem_4 0 rfl rfl)
theorem dX4_readsItem_92 : decode cX4_readsItem 92 = .ok (.lload_n 2, 1) := dk_32 (dk_at dksX4_readsItem_4 3 rfl rfl)
theorem dX4_readsItem_93 : decode cX4_readsItem 93 = .ok (.bipush 102, 2) := dk_16 102 (dk_at dksX4_readsItem_4 4 rfl rfl)
theorem dX4_readsItem_95 : decode cX4_readsItem 95 = .ok (.bipush 105, 2) := dk_16 105 (dk_at dksX4_readsItem_4 6 rfl rfl)
theorem dX4_readsItem_97 : decode cX4_readsItem 97 = .ok (.bipush 108, 2) := dk_16 108 (dk_at dksX4_readsItem_4 8 rfl rfl)
theorem dX4_readsItem_99 : decode cX4_readsItem 99 = .ok (.bipush 108, 2) := dk_16 108 (dk_at dksX4_readsItem_4 10 rfl rfl)
theorem dX4_readsItem_101 : decode cX4_readsItem 101 = .ok (.invokestatic 204, 3) := dk_184 0 204 (dk_at dksX4_readsItem_4 12 rfl rfl)
theorem dX4_readsItem_104 : decode cX4_readsItem 104 = .ok (.lcmp, 1) := dk_148 (dk_at dksX4_readsItem_4 15 rfl rfl)
theorem dX4_readsItem_105 : decode cX4_readsItem 105 = .ok (.ifCond .ne 29, 3) := dk_154 0 29 (dk_at dksX4_readsItem_4 16 rfl rfl)
theorem dX4_readsItem_108 : decode cX4_readsItem 108 = .ok (.aload_n 0, 1) := dk_42 (dk_at dksX4_readsItem_4 19 rfl rfl)
theorem dX4_readsItem_109 : decode cX4_readsItem 109 = .ok (.iconst 0, 1) := dk_3 (dk_at dksX4_readsItem_4 20 rfl rfl)
theorem dX4_readsItem_110 : decode cX4_readsItem 110 = .ok (.sipush 9999, 3) := dk_17 39 15 (dk_at dksX4_readsItem_4 21 rfl rfl)
theorem dX4_readsItem_113 : decode cX4_readsItem 113 = .ok (.invokevirtual 212, 3) := dk_182 0 212 (dk_at dksX4_readsItem_5 0 rfl rfl)
theorem dX4_readsItem_116 : decode cX4_readsItem 116 = .ok (.istore 4, 2) := dk_54 4 (dk_at dksX4_readsItem_5 3 rfl rfl)
theorem dX4_readsItem_118 : decode cX4_readsItem 118 = .ok (.aload_n 0, 1) := dk_42 (dk_at dksX4_readsItem_5 5 rfl rfl)
theorem dX4_readsItem_119 : decode cX4_readsItem 119 = .ok (.getfield 192, 3) := dk_180 0 192 (dk_at dksX4_readsItem_5 6 rfl rfl)
theorem dX4_readsItem_122 : decode cX4_readsItem 122 = .ok (.ifCond .ne 9, 3) := dk_154 0 9 (dk_at dksX4_readsItem_5 9 rfl rfl)
theorem dX4_readsItem_125 : decode cX4_readsItem 125 = .ok (.aload_n 0, 1) := dk_42 (dk_at dksX4_readsItem_5 12 rfl rfl)
theorem dX4_readsItem_126 : decode cX4_readsItem 126 = .ok (.iload 4, 2) := dk_21 4 (dk_at dksX4_readsItem_5 13 rfl rfl)
theorem dX4_readsItem_128 : decode cX4_readsItem 128 = .ok (.invokevirtual 108, 3) := dk_182 0 108 (dk_at dksX4_readsItem_5 15 rfl rfl)
theorem dX4_readsItem_131 : decode cX4_readsItem 131 = .ok (.goto 121, 3) := dk_167 0 121 (dk_at dksX4_readsItem_5 18 rfl rfl)
theorem dX4_readsItem_134 : decode cX4_readsItem 134 = .ok (.lload_n 2, 1) := dk_32 (dk_at dksX4_readsItem_5 21 rfl rfl)
theorem dX4_readsItem_135 : decode cX4_readsItem 135 = .ok (.bipush 118, 2) := dk_16 118 (dk_at dksX4_readsItem_5 22 rfl rfl)
theorem dX4_readsItem_137 : decode cX4_readsItem 137 = .ok (.bipush 97, 2) := dk_16 97 (dk_at dksX4_readsItem_6 0 rfl rfl)
theorem dX4_readsItem_139 : decode cX4_readsItem 139 = .ok (.bipush 108, 2) := dk_16 108 (dk_at dksX4_readsItem_6 2 rfl rfl)
theorem dX4_readsItem_141 : decode cX4_readsItem 141 = .ok (.bipush 118, 2) := dk_16 118 (dk_at dksX4_readsItem_6 4 rfl rfl)
theorem dX4_readsItem_143 : decode cX4_readsItem 143 = .ok (.invokestatic 204, 3) := dk_184 0 204 (dk_at dksX4_readsItem_6 6 rfl rfl)
theorem dX4_readsItem_146 : decode cX4_readsItem 146 = .ok (.bipush 101, 2) := dk_16 101 (dk_at dksX4_readsItem_6 9 rfl rfl)
theorem dX4_readsItem_148 : decode cX4_readsItem 148 = .ok (.iconst 0, 1) := dk_3 (dk_at dksX4_readsItem_6 11 rfl rfl)
theorem dX4_readsItem_149 : decode cX4_readsItem 149 = .ok (.iconst 0, 1) := dk_3 (dk_at dksX4_readsItem_6 12 rfl rfl)
theorem dX4_readsItem_150 : decode cX4_readsItem 150 = .ok (.iconst 0, 1) := dk_3 (dk_at dksX4_readsItem_6 13 rfl rfl)
theorem dX4_readsItem_151 : decode cX4_readsItem 151 = .ok (.invokestatic 208, 3) := dk_184 0 208 (dk_at dksX4_readsItem_6 14 rfl rfl)
theorem dX4_readsItem_154 : decode cX4_readsItem 154 = .ok (.lcmp, 1) := dk_148 (dk_at dksX4_readsItem_6 17 rfl rfl)
theorem dX4_readsItem_155 : decode cX4_readsItem 155 = .ok (.ifCond .ne 10, 3) := dk_154 0 10 (dk_at dksX4_readsItem_6 18 rfl rfl)
theorem dX4_readsItem_158 : decode cX4_readsItem 158 = .ok (.aload_n 0, 1) := dk_42 (dk_at dksX4_readsItem_6 21 rfl rfl)
theorem dX4_readsItem_159 : decode cX4_readsItem 159 = .ok (.invokevirtual 227, 3) := dk_182 0 227 (dk_at dksX4_readsItem_7 0 rfl rfl)
theorem dX4_readsItem_162 : decode cX4_readsItem 162 = .ok (.goto 90, 3) := dk_167 0 90 (dk_at dksX4_readsItem_7 3 rfl rfl)
theorem dX4_readsItem_165 : decode cX4_readsItem 165 = .ok (.lload_n 2, 1) := dk_32 (dk_at dksX4_readsItem_7 6 rfl rfl)
theorem dX4_readsItem_166 : decode cX4_readsItem 166 = .ok (.bipush 115, 2) := dk_16 115 (dk_at dksX4_readsItem_7 7 rfl rfl)
theorem dX4_readsItem_168 : decode cX4_readsItem 168 = .ok (.bipush 111, 2) := dk_16 111 (dk_at dksX4_readsItem_7 9 rfl rfl)
theorem dX4_readsItem_170 : decode cX4_readsItem 170 = .ok (.bipush 117, 2) := dk_16 117 (dk_at dksX4_readsItem_7 11 rfl rfl)
theorem dX4_readsItem_172 : decode cX4_readsItem 172 = .ok (.bipush 114, 2) := dk_16 114 (dk_at dksX4_readsItem_7 13 rfl rfl)
theorem dX4_readsItem_174 : decode cX4_readsItem 174 = .ok (.invokestatic 204, 3) := dk_184 0 204 (dk_at dksX4_readsItem_7 15 rfl rfl)
theorem dX4_readsItem_177 : decode cX4_readsItem 177 = .ok (.bipush 99, 2) := dk_16 99 (dk_at dksX4_readsItem_7 18 rfl rfl)
theorem dX4_readsItem_179 : decode cX4_readsItem 179 = .ok (.bipush 101, 2) := dk_16 101 (dk_at dksX4_readsItem_7 20 rfl rfl)
theorem dX4_readsItem_181 : decode cX4_readsItem 181 = .ok (.iconst 0, 1) := dk_3 (dk_at dksX4_readsItem_7 22 rfl rfl)
theorem dX4_readsItem_182 : decode cX4_readsItem 182 = .ok (.iconst 0, 1) := dk_3 (dk_at dksX4_readsItem_7 23 rfl rfl)
theorem dX4_readsItem_183 : decode cX4_readsItem 183 = .ok (.invokestatic 208, 3) := dk_184 0 208 (dk_at dksX4_readsItem_8 0 rfl rfl)
theorem dX4_readsItem_186 : decode cX4_readsItem 186 = .ok (.lcmp, 1) := dk_148 (dk_at dksX4_readsItem_8 3 rfl rfl)
theorem dX4_readsItem_187 : decode cX4_readsItem 187 = .ok (.ifCond .ne 10, 3) := dk_154 0 10 (dk_at dksX4_readsItem_8 4 rfl rfl)
theorem dX4_readsItem_190 : decode cX4_readsItem 190 = .ok (.aload_n 0, 1) := dk_42 (dk_at dksX4_readsItem_8 7 rfl rfl)
theorem dX4_readsItem_191 : decode cX4_readsItem 191 = .ok (.invokevirtual 230, 3) := dk_182 0 230 (dk_at dksX4_readsItem_8 8 rfl rfl)
theorem dX4_readsItem_194 : decode cX4_readsItem 194 = .ok (.goto 58, 3) := dk_167 0 58 (dk_at dksX4_readsItem_8 11 rfl rfl)
theorem dX4_readsItem_197 : decode cX4_readsItem 197 = .ok (.lload_n 2, 1) := dk_32 (dk_at dksX4_readsItem_8 14 rfl rfl)
theorem dX4_readsItem_198 : decode cX4_readsItem 198 = .ok (.bipush 97, 2) := dk_16 97 (dk_at dksX4_readsItem_8 15 rfl rfl)
theorem dX4_readsItem_200 : decode cX4_readsItem 200 = .ok (.bipush 116, 2) := dk_16 116 (dk_at dksX4_readsItem_8 17 rfl rfl)
theorem dX4_readsItem_202 : decode cX4_readsItem 202 = .ok (.iconst 0, 1) := dk_3 (dk_at dksX4_readsItem_8 19 rfl rfl)
theorem dX4_readsItem_203 : decode cX4_readsItem 203 = .ok (.iconst 0, 1) := dk_3 (dk_at dksX4_readsItem_8 20 rfl rfl)
theorem dX4_readsItem_204 : decode cX4_readsItem 204 = .ok (.invokestatic 204, 3) := dk_184 0 204 (dk_at dksX4_readsItem_8 21 rfl rfl)
theorem dX4_readsItem_207 : decode cX4_readsItem 207 = .ok (.lcmp, 1) := dk_148 (dk_at dksX4_readsItem_9 0 rfl rfl)
theorem dX4_readsItem_208 : decode cX4_readsItem 208 = .ok (.ifCond .ne 39, 3) := dk_154 0 39 (dk_at dksX4_readsItem_9 1 rfl rfl)
theorem dX4_readsItem_211 : decode cX4_readsItem 211 = .ok (.aload_n 0, 1) := dk_42 (dk_at dksX4_readsItem_9 4 rfl rfl)
theorem dX4_readsItem_212 : decode cX4_readsItem 212 = .ok (.iconst 0, 1) := dk_3 (dk_at dksX4_readsItem_9 5 rfl rfl)
theorem dX4_readsItem_213 : decode cX4_readsItem 213 = .ok (.bipush 100, 2) := dk_16 100 (dk_at dksX4_readsItem_9 6 rfl rfl)
theorem dX4_readsItem_215 : decode cX4_readsItem 215 = .ok (.invokevirtual 212, 3) := dk_182 0 212 (dk_at dksX4_readsItem_9 8 rfl rfl)
theorem dX4_readsItem_218 : decode cX4_readsItem 218 = .ok (.istore 4, 2) := dk_54 4 (dk_at dksX4_readsItem_9 11 rfl rfl)
theorem dX4_readsItem_220 : decode cX4_readsItem 220 = .ok (.aload_n 0, 1) := dk_42 (dk_at dksX4_readsItem_9 13 rfl rfl)
theorem dX4_readsItem_221 : decode cX4_readsItem 221 = .ok (.getfield 7, 3) := dk_180 0 7 (dk_at dksX4_readsItem_9 14 rfl rfl)
theorem dX4_readsItem_224 : decode cX4_readsItem 224 = .ok (.iconst 3, 1) := dk_6 (dk_at dksX4_readsItem_9 17 rfl rfl)
theorem dX4_readsItem_225 : decode cX4_readsItem 225 = .ok (.aload_n 0, 1) := dk_42 (dk_at dksX4_readsItem_9 18 rfl rfl)
theorem dX4_readsItem_226 : decode cX4_readsItem 226 = .ok (.getfield 192, 3) := dk_180 0 192 (dk_at dksX4_readsItem_9 19 rfl rfl)
theorem dX4_readsItem_229 : decode cX4_readsItem 229 = .ok (.ifCond .eq 12, 3) := dk_153 0 12 (dk_at dksX4_readsItem_10 0 rfl rfl)
theorem dX4_readsItem_232 : decode cX4_readsItem 232 = .ok (.aload_n 0, 1) := dk_42 (dk_at dksX4_readsItem_10 3 rfl rfl)
theorem dX4_readsItem_233 : decode cX4_readsItem 233 = .ok (.getfield 7, 3) := dk_180 0 7 (dk_at dksX4_readsItem_10 4 rfl rfl)
theorem dX4_readsItem_236 : decode cX4_readsItem 236 = .ok (.iconst 3, 1) := dk_6 (dk_at dksX4_readsItem_10 7 rfl rfl)
theorem dX4_readsItem_237 : decode cX4_readsItem 237 = .ok (.iaload, 1) := dk_46 (dk_at dksX4_readsItem_10 8 rfl rfl)
theorem dX4_readsItem_238 : decode cX4_readsItem 238 = .ok (.goto 5, 3) := dk_167 0 5 (dk_at dksX4_readsItem_10 9 rfl rfl)
theorem dX4_readsItem_241 : decode cX4_readsItem 241 = .ok (.iload 4, 2) := dk_21 4 (dk_at dksX4_readsItem_10 12 rfl rfl)
theorem dX4_readsItem_243 : decode cX4_readsItem 243 = .ok (.iastore, 1) := dk_79 (dk_at dksX4_readsItem_10 14 rfl rfl)
theorem dX4_readsItem_244 : decode cX4_readsItem 244 = .ok (.goto 8, 3) := dk_167 0 8 (dk_at dksX4_readsItem_10 15 rfl rfl)
theorem dX4_readsItem_247 : decode cX4_readsItem 247 = .ok (.aload_n 0, 1) := dk_42 (dk_at dksX4_readsItem_10 18 rfl rfl)
theorem dX4_readsItem_248 : decode cX4_readsItem 248 = .ok (.iconst 1, 1) := dk_4 (dk_at dksX4_readsItem_10 19 rfl rfl)
theorem dX4_readsItem_249 : decode cX4_readsItem 249 = .ok (.putfield 192, 3) := dk_181 0 192 (dk_at dksX4_readsItem_10 20 rfl rfl)
theorem dX4_readsItem_252 : decode cX4_readsItem 252 = .ok (.aload_n 0, 1) := dk_42 (dk_at dksX4_readsItem_10 23 rfl rfl)
theorem dX4_readsItem_253 : decode cX4_readsItem 253 = .ok (.bipush 59, 2) := dk_16 59 (dk_at dksX4_readsItem_11 0 rfl rfl)
theorem dX4_readsItem_255 : decode cX4_readsItem 255 = .ok (.invokevirtual 233, 3) := dk_182 0 233 (dk_at dksX4_readsItem_11 2 rfl rfl)
theorem dX4_readsItem_258 : decode cX4_readsItem 258 = .ok (.return_, 1) := dk_177 (dk_at dksX4_readsItem_11 5 rfl rfl)
abbrev cX4_word : ByteArray := prog_20_method_70_code
def yX4_word : MethodName := ⟨RX4, "word", "()J"⟩
def dkwX4_word_3 : List UInt8 := [132, 3, 1, 167, 255, 188, 31, 173]
abbrev dktX4_word_3 : List UInt8 := dkwX4_word_3 ++ []
def dkwX4_word_2 : List UInt8 := [46, 133, 97, 20, 0, 188, 101, 10, 97, 167, 0, 6, 20, 0, 190, 64, 31, 9, 148, 156, 0, 5, 31, 173]
abbrev dktX4_word_2 : List UInt8 := dkwX4_word_2 ++ dktX4_word_3
def dkwX4_word_1 : List UInt8 := [153, 0, 36, 29, 42, 180, 0, 177, 100, 16, 12, 162, 0, 25, 20, 0, 186, 31, 105, 42, 180, 0, 19, 29]
abbrev dktX4_word_1 : List UInt8 := dkwX4_word_1 ++ dktX4_word_2
def dkwX4_word_0 : List UInt8 := [9, 64, 42, 180, 0, 177, 62, 29, 42, 180, 0, 174, 162, 0, 66, 42, 180, 0, 19, 29, 46, 184, 0, 180]
abbrev dktX4_word_0 : List UInt8 := dkwX4_word_0 ++ dktX4_word_1
theorem dksX4_word_0 : cX4_word.data.toList.drop 0 = dktX4_word_0 := by decide +kernel
theorem dksX4_word_1 : cX4_word.data.toList.drop 24 = dktX4_word_1 := dk_seg dksX4_word_0 24 rfl rfl
theorem dksX4_word_2 : cX4_word.data.toList.drop 48 = dktX4_word_2 := dk_seg dksX4_word_1 24 rfl rfl
theorem dksX4_word_3 : cX4_word.data.toList.drop 72 = dktX4_word_3 := dk_seg dksX4_word_2 24 rfl rfl
theorem dX4_word_0 : decode cX4_word 0 = .ok (.lconst 0, 1) := dk_9 (dk_at dksX4_word_0 0 rfl rfl)
theorem dX4_word_1 : decode cX4_word 1 = .ok (.lstore_n 1, 1) := dk_64 (dk_at dksX4_word_0 1 rfl rfl)
theorem dX4_word_2 : decode cX4_word 2 = .ok (.aload_n 0, 1) := dk_42 (dk_at dksX4_word_0 2 rfl rfl)
theorem dX4_word_3 : decode cX4_word 3 = .ok (.getfield 177, 3) := dk_180 0 177 (dk_at dksX4_word_0 3 rfl rfl)
theorem dX4_word_6 : decode cX4_word 6 = .ok (.istore_n 3, 1) := dk_62 (dk_at dksX4_word_0 6 rfl rfl)
theorem dX4_word_7 : decode cX4_word 7 = .ok (.iload_n 3, 1) := dk_29 (dk_at dksX4_word_0 7 rfl rfl)
theorem dX4_word_8 : decode cX4_word 8 = .ok (.aload_n 0, 1) := dk_42 (dk_at dksX4_word_0 8 rfl rfl)
theorem dX4_word_9 : decode cX4_word 9 = .ok (.getfield 174, 3) := dk_180 0 174 (dk_at dksX4_word_0 9 rfl rfl)
theorem dX4_word_12 : decode cX4_word 12 = .ok (.if_icmp .ge 66, 3) := dk_162 0 66 (dk_at dksX4_word_0 12 rfl rfl)
theorem dX4_word_15 : decode cX4_word 15 = .ok (.aload_n 0, 1) := dk_42 (dk_at dksX4_word_0 15 rfl rfl)
theorem dX4_word_16 : decode cX4_word 16 = .ok (.getfield 19, 3) := dk_180 0 19 (dk_at dksX4_word_0 16 rfl rfl)
theorem dX4_word_19 : decode cX4_word 19 = .ok (.iload_n 3, 1) := dk_29 (dk_at dksX4_word_0 19 rfl rfl)
theorem dX4_word_20 : decode cX4_word 20 = .ok (.iaload, 1) := dk_46 (dk_at dksX4_word_0 20 rfl rfl)
theorem dX4_word_21 : decode cX4_word 21 = .ok (.invokestatic 180, 3) := dk_184 0 180 (dk_at dksX4_word_0 21 rfl rfl)
theorem dX4_word_24 : decode cX4_word 24 = .ok (.ifCond .eq 36, 3) := dk_153 0 36 (dk_at dksX4_word_1 0 rfl rfl)
theorem dX4_word_27 : decode cX4_word 27 = .ok (.iload_n 3, 1) := dk_29 (dk_at dksX4_word_1 3 rfl rfl)
theorem dX4_word_28 : decode cX4_word 28 = .ok (.aload_n 0, 1) := dk_42 (dk_at dksX4_word_1 4 rfl rfl)
theorem dX4_word_29 : decode cX4_word 29 = .ok (.getfield 177, 3) := dk_180 0 177 (dk_at dksX4_word_1 5 rfl rfl)
theorem dX4_word_32 : decode cX4_word 32 = .ok (.isub, 1) := dk_100 (dk_at dksX4_word_1 8 rfl rfl)
theorem dX4_word_33 : decode cX4_word 33 = .ok (.bipush 12, 2) := dk_16 12 (dk_at dksX4_word_1 9 rfl rfl)
theorem dX4_word_35 : decode cX4_word 35 = .ok (.if_icmp .ge 25, 3) := dk_162 0 25 (dk_at dksX4_word_1 11 rfl rfl)
theorem dX4_word_38 : decode cX4_word 38 = .ok (.ldc2_w 186, 3) := dk_20 0 186 (dk_at dksX4_word_1 14 rfl rfl)
theorem dX4_word_41 : decode cX4_word 41 = .ok (.lload_n 1, 1) := dk_31 (dk_at dksX4_word_1 17 rfl rfl)
theorem dX4_word_42 : decode cX4_word 42 = .ok (.lmul, 1) := dk_105 (dk_at dksX4_word_1 18 rfl rfl)
theorem dX4_word_43 : decode cX4_word 43 = .ok (.aload_n 0, 1) := dk_42 (dk_at dksX4_word_1 19 rfl rfl)
theorem dX4_word_44 : decode cX4_word 44 = .ok (.getfield 19, 3) := dk_180 0 19 (dk_at dksX4_word_1 20 rfl rfl)
theorem dX4_word_47 : decode cX4_word 47 = .ok (.iload_n 3, 1) := dk_29 (dk_at dksX4_word_1 23 rfl rfl)
theorem dX4_word_48 : decode cX4_word 48 = .ok (.iaload, 1) := dk_46 (dk_at dksX4_word_2 0 rfl rfl)
theorem dX4_word_49 : decode cX4_word 49 = .ok (.i2l, 1) := dk_133 (dk_at dksX4_word_2 1 rfl rfl)
theorem dX4_word_50 : decode cX4_word 50 = .ok (.ladd, 1) := dk_97 (dk_at dksX4_word_2 2 rfl rfl)
theorem dX4_word_51 : decode cX4_word 51 = .ok (.ldc2_w 188, 3) := dk_20 0 188 (dk_at dksX4_word_2 3 rfl rfl)
theorem dX4_word_54 : decode cX4_word 54 = .ok (.lsub, 1) := dk_101 (dk_at dksX4_word_2 6 rfl rfl)
theorem dX4_word_55 : decode cX4_word 55 = .ok (.lconst 1, 1) := dk_10 (dk_at dksX4_word_2 7 rfl rfl)
theorem dX4_word_56 : decode cX4_word 56 = .ok (.ladd, 1) := dk_97 (dk_at dksX4_word_2 8 rfl rfl)
theorem dX4_word_57 : decode cX4_word 57 = .ok (.goto 6, 3) := dk_167 0 6 (dk_at dksX4_word_2 9 rfl rfl)
theorem dX4_word_60 : decode cX4_word 60 = .ok (.ldc2_w 190, 3) := dk_20 0 190 (dk_at dksX4_word_2 12 rfl rfl)
theorem dX4_word_63 : decode cX4_word 63 = .ok (.lstore_n 1, 1) := dk_64 (dk_at dksX4_word_2 15 rfl rfl)
theorem dX4_word_64 : decode cX4_word 64 = .ok (.lload_n 1, 1) := dk_31 (dk_at dksX4_word_2 16 rfl rfl)
theorem dX4_word_65 : decode cX4_word 65 = .ok (.lconst 0, 1) := dk_9 (dk_at dksX4_word_2 17 rfl rfl)
theorem dX4_word_66 : decode cX4_word 66 = .ok (.lcmp, 1) := dk_148 (dk_at dksX4_word_2 18 rfl rfl)
theorem dX4_word_67 : decode cX4_word 67 = .ok (.ifCond .ge 5, 3) := dk_156 0 5 (dk_at dksX4_word_2 19 rfl rfl)
theorem dX4_word_70 : decode cX4_word 70 = .ok (.lload_n 1, 1) := dk_31 (dk_at dksX4_word_2 22 rfl rfl)
theorem dX4_word_71 : decode cX4_word 71 = .ok (.lreturn, 1) := dk_173 (dk_at dksX4_word_2 23 rfl rfl)
theorem dX4_word_72 : decode cX4_word 72 = .ok (.iinc 3 1, 3) := dk_132 3 1 (dk_at dksX4_word_3 0 rfl rfl)
theorem dX4_word_75 : decode cX4_word 75 = .ok (.goto (-68), 3) := dk_167 255 188 (dk_at dksX4_word_3 3 rfl rfl)
theorem dX4_word_78 : decode cX4_word 78 = .ok (.lload_n 1, 1) := dk_31 (dk_at dksX4_word_3 6 rfl rfl)
theorem dX4_word_79 : decode cX4_word 79 = .ok (.lreturn, 1) := dk_173 (dk_at dksX4_word_3 7 rfl rfl)
abbrev cX4_spelled : ByteArray := prog_20_method_71_code
def yX4_spelled : MethodName := ⟨RX4, "spelled", "(IIII)J"⟩
def dkwX4_spelled_3 : List UInt8 := [10, 97, 173]
abbrev dktX4_spelled_3 : List UInt8 := dkwX4_spelled_3 ++ []
def dkwX4_spelled_2 : List UInt8 := [55, 4, 29, 154, 0, 8, 22, 4, 167, 0, 18, 20, 0, 186, 22, 4, 105, 29, 133, 97, 20, 0, 188, 101]
abbrev dktX4_spelled_2 : List UInt8 := dkwX4_spelled_2 ++ dktX4_spelled_3
def dkwX4_spelled_1 : List UInt8 := [154, 0, 8, 22, 4, 167, 0, 18, 20, 0, 186, 22, 4, 105, 28, 133, 97, 20, 0, 188, 101, 10, 97]
abbrev dktX4_spelled_1 : List UInt8 := dkwX4_spelled_1 ++ dktX4_spelled_2
def dkwX4_spelled_0 : List UInt8 := [20, 0, 186, 26, 16, 97, 100, 4, 96, 133, 105, 27, 133, 97, 20, 0, 188, 101, 10, 97, 55, 4, 28]
abbrev dktX4_spelled_0 : List UInt8 := dkwX4_spelled_0 ++ dktX4_spelled_1
theorem dksX4_spelled_0 : cX4_spelled.data.toList.drop 0 = dktX4_spelled_0 := by decide +kernel
theorem dksX4_spelled_1 : cX4_spelled.data.toList.drop 23 = dktX4_spelled_1 := dk_seg dksX4_spelled_0 23 rfl rfl
theorem dksX4_spelled_2 : cX4_spelled.data.toList.drop 46 = dktX4_spelled_2 := dk_seg dksX4_spelled_1 23 rfl rfl
theorem dksX4_spelled_3 : cX4_spelled.data.toList.drop 70 = dktX4_spelled_3 := dk_seg dksX4_spelled_2 24 rfl rfl
theorem dX4_spelled_0 : decode cX4_spelled 0 = .ok (.ldc2_w 186, 3) := dk_20 0 186 (dk_at dksX4_spelled_0 0 rfl rfl)
theorem dX4_spelled_3 : decode cX4_spelled 3 = .ok (.iload_n 0, 1) := dk_26 (dk_at dksX4_spelled_0 3 rfl rfl)
theorem dX4_spelled_4 : decode cX4_spelled 4 = .ok (.bipush 97, 2) := dk_16 97 (dk_at dksX4_spelled_0 4 rfl rfl)
theorem dX4_spelled_6 : decode cX4_spelled 6 = .ok (.isub, 1) := dk_100 (dk_at dksX4_spelled_0 6 rfl rfl)
theorem dX4_spelled_7 : decode cX4_spelled 7 = .ok (.iconst 1, 1) := dk_4 (dk_at dksX4_spelled_0 7 rfl rfl)
theorem dX4_spelled_8 : decode cX4_spelled 8 = .ok (.iadd, 1) := dk_96 (dk_at dksX4_spelled_0 8 rfl rfl)
theorem dX4_spelled_9 : decode cX4_spelled 9 = .ok (.i2l, 1) := dk_133 (dk_at dksX4_spelled_0 9 rfl rfl)
theorem dX4_spelled_10 : decode cX4_spelled 10 = .ok (.lmul, 1) := dk_105 (dk_at dksX4_spelled_0 10 rfl rfl)
theorem dX4_spelled_11 : decode cX4_spelled 11 = .ok (.iload_n 1, 1) := dk_27 (dk_at dksX4_spelled_0 11 rfl rfl)
theorem dX4_spelled_12 : decode cX4_spelled 12 = .ok (.i2l, 1) := dk_133 (dk_at dksX4_spelled_0 12 rfl rfl)
theorem dX4_spelled_13 : decode cX4_spelled 13 = .ok (.ladd, 1) := dk_97 (dk_at dksX4_spelled_0 13 rfl rfl)
theorem dX4_spelled_14 : decode cX4_spelled 14 = .ok (.ldc2_w 188, 3) := dk_20 0 188 (dk_at dksX4_spelled_0 14 rfl rfl)
theorem dX4_spelled_17 : decode cX4_spelled 17 = .ok (.lsub, 1) := dk_101 (dk_at dksX4_spelled_0 17 rfl rfl)
theorem dX4_spelled_18 : decode cX4_spelled 18 = .ok (.lconst 1, 1) := dk_10 (dk_at dksX4_spelled_0 18 rfl rfl)
theorem dX4_spelled_19 : decode cX4_spelled 19 = .ok (.ladd, 1) := dk_97 (dk_at dksX4_spelled_0 19 rfl rfl)
theorem dX4_spelled_20 : decode cX4_spelled 20 = .ok (.lstore 4, 2) := dk_55 4 (dk_at dksX4_spelled_0 20 rfl rfl)
theorem dX4_spelled_22 : decode cX4_spelled 22 = .ok (.iload_n 2, 1) := dk_28 (dk_at dksX4_spelled_0 22 rfl rfl)
theorem dX4_spelled_23 : decode cX4_spelled 23 = .ok (.ifCond .ne 8, 3) := dk_154 0 8 (dk_at dksX4_spelled_1 0 rfl rfl)
theorem dX4_spelled_26 : decode cX4_spelled 26 = .ok (.lload 4, 2) := dk_22 4 (dk_at dksX4_spelled_1 3 rfl rfl)
theorem dX4_spelled_28 : decode cX4_spelled 28 = .ok (.goto 18, 3) := dk_167 0 18 (dk_at dksX4_spelled_1 5 rfl rfl)
theorem dX4_spelled_31 : decode cX4_spelled 31 = .ok (.ldc2_w 186, 3) := dk_20 0 186 (dk_at dksX4_spelled_1 8 rfl rfl)
theorem dX4_spelled_34 : decode cX4_spelled 34 = .ok (.lload 4, 2) := dk_22 4 (dk_at dksX4_spelled_1 11 rfl rfl)
theorem dX4_spelled_36 : decode cX4_spelled 36 = .ok (.lmul, 1) := dk_105 (dk_at dksX4_spelled_1 13 rfl rfl)
theorem dX4_spelled_37 : decode cX4_spelled 37 = .ok (.iload_n 2, 1) := dk_28 (dk_at dksX4_spelled_1 14 rfl rfl)
theorem dX4_spelled_38 : decode cX4_spelled 38 = .ok (.i2l, 1) := dk_133 (dk_at dksX4_spelled_1 15 rfl rfl)
theorem dX4_spelled_39 : decode cX4_spelled 39 = .ok (.ladd, 1) := dk_97 (dk_at dksX4_spelled_1 16 rfl rfl)
theorem dX4_spelled_40 : decode cX4_spelled 40 = .ok (.ldc2_w 188, 3) := dk_20 0 188 (dk_at dksX4_spelled_1 17 rfl rfl)
theorem dX4_spelled_43 : decode cX4_spelled 43 = .ok (.lsub, 1) := dk_101 (dk_at dksX4_spelled_1 20 rfl rfl)
theorem dX4_spelled_44 : decode cX4_spelled 44 = .ok (.lconst 1, 1) := dk_10 (dk_at dksX4_spelled_1 21 rfl rfl)
theorem dX4_spelled_45 : decode cX4_spelled 45 = .ok (.ladd, 1) := dk_97 (dk_at dksX4_spelled_1 22 rfl rfl)
theorem dX4_spelled_46 : decode cX4_spelled 46 = .ok (.lstore 4, 2) := dk_55 4 (dk_at dksX4_spelled_2 0 rfl rfl)
theorem dX4_spelled_48 : decode cX4_spelled 48 = .ok (.iload_n 3, 1) := dk_29 (dk_at dksX4_spelled_2 2 rfl rfl)
theorem dX4_spelled_49 : decode cX4_spelled 49 = .ok (.ifCond .ne 8, 3) := dk_154 0 8 (dk_at dksX4_spelled_2 3 rfl rfl)
theorem dX4_spelled_52 : decode cX4_spelled 52 = .ok (.lload 4, 2) := dk_22 4 (dk_at dksX4_spelled_2 6 rfl rfl)
theorem dX4_spelled_54 : decode cX4_spelled 54 = .ok (.goto 18, 3) := dk_167 0 18 (dk_at dksX4_spelled_2 8 rfl rfl)
theorem dX4_spelled_57 : decode cX4_spelled 57 = .ok (.ldc2_w 186, 3) := dk_20 0 186 (dk_at dksX4_spelled_2 11 rfl rfl)
theorem dX4_spelled_60 : decode cX4_spelled 60 = .ok (.lload 4, 2) := dk_22 4 (dk_at dksX4_spelled_2 14 rfl rfl)
theorem dX4_spelled_62 : decode cX4_spelled 62 = .ok (.lmul, 1) := dk_105 (dk_at dksX4_spelled_2 16 rfl rfl)
theorem dX4_spelled_63 : decode cX4_spelled 63 = .ok (.iload_n 3, 1) := dk_29 (dk_at dksX4_spelled_2 17 rfl rfl)
theorem dX4_spelled_64 : decode cX4_spelled 64 = .ok (.i2l, 1) := dk_133 (dk_at dksX4_spelled_2 18 rfl rfl)
theorem dX4_spelled_65 : decode cX4_spelled 65 = .ok (.ladd, 1) := dk_97 (dk_at dksX4_spelled_2 19 rfl rfl)
theorem dX4_spelled_66 : decode cX4_spelled 66 = .ok (.ldc2_w 188, 3) := dk_20 0 188 (dk_at dksX4_spelled_2 20 rfl rfl)
theorem dX4_spelled_69 : decode cX4_spelled 69 = .ok (.lsub, 1) := dk_101 (dk_at dksX4_spelled_2 23 rfl rfl)
theorem dX4_spelled_70 : decode cX4_spelled 70 = .ok (.lconst 1, 1) := dk_10 (dk_at dksX4_spelled_3 0 rfl rfl)
theorem dX4_spelled_71 : decode cX4_spelled 71 = .ok (.ladd, 1) := dk_97 (dk_at dksX4_spelled_3 1 rfl rfl)
theorem dX4_spelled_72 : decode cX4_spelled 72 = .ok (.lreturn, 1) := dk_173 (dk_at dksX4_spelled_3 2 rfl rfl)
abbrev cX4_readsSize : ByteArray := prog_20_method_80_code
def yX4_readsSize : MethodName := ⟨RX4, "readsSize", "()V"⟩
def dkwX4_readsSize_1 : List UInt8 := [27, 28, 182, 0, 38, 177]
abbrev dktX4_readsSize_1 : List UInt8 := dkwX4_readsSize_1 ++ []
def dkwX4_readsSize_0 : List UInt8 := [42, 5, 16, 10, 182, 0, 212, 60, 42, 5, 16, 8, 182, 0, 212, 61, 42, 180, 0, 192, 154, 0, 9, 42]
abbrev dktX4_readsSize_0 : List UInt8 := dkwX4_readsSize_0 ++ dktX4_readsSize_1
theorem dksX4_readsSize_0 : cX4_readsSize.data.toList.drop 0 = dktX4_readsSize_0 := by decide +kernel
theorem dksX4_readsSize_1 : cX4_readsSize.data.toList.drop 24 = dktX4_readsSize_1 := dk_seg dksX4_readsSize_0 24 rfl rfl
theorem dX4_readsSize_0 : decode cX4_readsSize 0 = .ok (.aload_n 0, 1) := dk_42 (dk_at dksX4_readsSize_0 0 rfl rfl)
theorem dX4_readsSize_1 : decode cX4_readsSize 1 = .ok (.iconst 2, 1) := dk_5 (dk_at dksX4_readsSize_0 1 rfl rfl)
theorem dX4_readsSize_2 : decode cX4_readsSize 2 = .ok (.bipush 10, 2) := dk_16 10 (dk_at dksX4_readsSize_0 2 rfl rfl)
theorem dX4_readsSize_4 : decode cX4_readsSize 4 = .ok (.invokevirtual 212, 3) := dk_182 0 212 (dk_at dksX4_readsSize_0 4 rfl rfl)
theorem dX4_readsSize_7 : decode cX4_readsSize 7 = .ok (.istore_n 1, 1) := dk_60 (dk_at dksX4_readsSize_0 7 rfl rfl)
theorem dX4_readsSize_8 : decode cX4_readsSize 8 = .ok (.aload_n 0, 1) := dk_42 (dk_at dksX4_readsSize_0 8 rfl rfl)
theorem dX4_readsSize_9 : decode cX4_readsSize 9 = .ok (.iconst 2, 1) := dk_5 (dk_at dksX4_readsSize_0 9 rfl rfl)
theorem dX4_readsSize_10 : decode cX4_readsSize 10 = .ok (.bipush 8, 2) := dk_16 8 (dk_at dksX4_readsSize_0 10 rfl rfl)
theorem dX4_readsSize_12 : decode cX4_readsSize 12 = .ok (.invokevirtual 212, 3) := dk_182 0 212 (dk_at dksX4_readsSize_0 12 rfl rfl)
theorem dX4_readsSize_15 : decode cX4_readsSize 15 = .ok (.istore_n 2, 1) := dk_61 (dk_at dksX4_readsSize_0 15 rfl rfl)
theorem dX4_readsSize_16 : decode cX4_readsSize 16 = .ok (.aload_n 0, 1) := dk_42 (dk_at dksX4_readsSize_0 16 rfl rfl)
theorem dX4_readsSize_17 : decode cX4_readsSize 17 = .ok (.getfield 192, 3) := dk_180 0 192 (dk_at dksX4_readsSize_0 17 rfl rfl)
theorem dX4_readsSize_20 : decode cX4_readsSize 20 = .ok (.ifCond .ne 9, 3) := dk_154 0 9 (dk_at dksX4_readsSize_0 20 rfl rfl)
theorem dX4_readsSize_23 : decode cX4_readsSize 23 = .ok (.aload_n 0, 1) := dk_42 (dk_at dksX4_readsSize_0 23 rfl rfl)
theorem dX4_readsSize_24 : decode cX4_readsSize 24 = .ok (.iload_n 1, 1) := dk_27 (dk_at dksX4_readsSize_1 0 rfl rfl)
theorem dX4_readsSize_25 : decode cX4_readsSize 25 = .ok (.iload_n 2, 1) := dk_28 (dk_at dksX4_readsSize_1 1 rfl rfl)
theorem dX4_readsSize_26 : decode cX4_readsSize 26 = .ok (.invokevirtual 38, 3) := dk_182 0 38 (dk_at dksX4_readsSize_1 2 rfl rfl)
theorem dX4_readsSize_29 : decode cX4_readsSize 29 = .ok (.return_, 1) := dk_177 (dk_at dksX4_readsSize_1 5 rfl rfl)
abbrev cX4_number : ByteArray := prog_20_method_73_code
def yX4_number : MethodName := ⟨RX4, "number", "(II)I"⟩
def dkwX4_number_5 : List UInt8 := [28, 184, 0, 50, 154, 0, 7, 4, 167, 0, 4, 3, 181, 0, 192, 29, 172]
abbrev dktX4_number_5 : List UInt8 := dkwX4_number_5 ++ []
def dkwX4_number_4 : List UInt8 := [180, 0, 177, 46, 16, 48, 160, 0, 16, 42, 180, 0, 174, 42, 180, 0, 177, 4, 96, 163, 0, 12, 29, 27]
abbrev dktX4_number_4 : List UInt8 := dkwX4_number_4 ++ dktX4_number_5
def dkwX4_number_3 : List UInt8 := [180, 0, 19, 21, 4, 46, 96, 16, 48, 100, 62, 132, 4, 1, 167, 255, 217, 42, 42, 180, 0, 19, 42]
abbrev dktX4_number_3 : List UInt8 := dkwX4_number_3 ++ dktX4_number_4
def dkwX4_number_2 : List UInt8 := [180, 0, 174, 162, 0, 36, 29, 17, 39, 15, 164, 0, 7, 29, 167, 0, 18, 16, 10, 29, 104, 42]
abbrev dktX4_number_2 : List UInt8 := dkwX4_number_2 ++ dktX4_number_3
def dkwX4_number_1 : List UInt8 := [184, 0, 183, 154, 0, 10, 42, 4, 181, 0, 192, 3, 172, 3, 62, 42, 180, 0, 177, 54, 4, 21, 4, 42]
abbrev dktX4_number_1 : List UInt8 := dkwX4_number_1 ++ dktX4_number_2
def dkwX4_number_0 : List UInt8 := [42, 180, 0, 192, 154, 0, 25, 42, 182, 0, 196, 153, 0, 18, 42, 180, 0, 19, 42, 180, 0, 177, 46]
abbrev dktX4_number_0 : List UInt8 := dkwX4_number_0 ++ dktX4_number_1
theorem dksX4_number_0 : cX4_number.data.toList.drop 0 = dktX4_number_0 := by decide +kernel
theorem dksX4_number_1 : cX4_number.data.toList.drop 23 = dktX4_number_1 := dk_seg dksX4_number_0 23 rfl rfl
theorem dksX4_number_2 : cX4_number.data.toList.drop 47 = dktX4_number_2 := dk_seg dksX4_number_1 24 rfl rfl
theorem dksX4_number_3 : cX4_number.data.toList.drop 69 = dktX4_number_3 := dk_seg dksX4_number_2 22 rfl rfl
theorem dksX4_number_4 : cX4_number.data.toList.drop 92 = dktX4_number_4 := dk_seg dksX4_number_3 23 rfl rfl
theorem dksX4_number_5 : cX4_number.data.toList.drop 116 = dktX4_number_5 := dk_seg dksX4_number_4 24 rfl rfl
theorem dX4_number_0 : decode cX4_number 0 = .ok (.aload_n 0, 1) := dk_42 (dk_at dksX4_number_0 0 rfl rfl)
theorem dX4_number_1 : decode cX4_number 1 = .ok (.getfield 192, 3) := dk_180 0 192 (dk_at dksX4_number_0 1 rfl rfl)
theorem dX4_number_4 : decode cX4_number 4 = .ok (.ifCond .ne 25, 3) := dk_154 0 25 (dk_at dksX4_number_0 4 rfl rfl)
theorem dX4_number_7 : decode cX4_number 7 = .ok (.aload_n 0, 1) := dk_42 (dk_at dksX4_number_0 7 rfl rfl)
theorem dX4_number_8 : decode cX4_number 8 = .ok (.invokevirtual 196, 3) := dk_182 0 196 (dk_at dksX4_number_0 8 rfl rfl)
theorem dX4_number_11 : decode cX4_number 11 = .ok (.ifCond .eq 18, 3) := dk_153 0 18 (dk_at dksX4_number_0 11 rfl rfl)
theorem dX4_number_14 : decode cX4_number 14 = .ok (.aload_n 0, 1) := dk_42 (dk_at dksX4_number_0 14 rfl rfl)
theorem dX4_number_15 : decode cX4_number 15 = .ok (.getfield 19, 3) := dk_180 0 19 (dk_at dksX4_number_0 15 rfl rfl)
theorem dX4_number_18 : decode cX4_number 18 = .ok (.aload_n 0, 1) := dk_42 (dk_at dksX4_number_0 18 rfl rfl)
theorem dX4_number_19 : decode cX4_number 19 = .ok (.getfield 177, 3) := dk_180 0 177 (dk_at dksX4_number_0 19 rfl rfl)
theorem dX4_number_22 : decode cX4_number 22 = .ok (.iaload, 1) := dk_46 (dk_at dksX4_number_0 22 rfl rfl)
theorem dX4_number_23 : decode cX4_number 23 = .ok (.invokestatic 183, 3) := dk_184 0 183 (dk_at dksX4_number_1 0 rfl rfl)
theorem dX4_number_26 : decode cX4_number 26 = .ok (.ifCond .ne 10, 3) := dk_154 0 10 (dk_at dksX4_number_1 3 rfl rfl)
theorem dX4_number_29 : decode cX4_number 29 = .ok (.aload_n 0, 1) := dk_42 (dk_at dksX4_number_1 6 rfl rfl)
theorem dX4_number_30 : decode cX4_number 30 = .ok (.iconst 1, 1) := dk_4 (dk_at dksX4_number_1 7 rfl rfl)
theorem dX4_number_31 : decode cX4_number 31 = .ok (.putfield 192, 3) := dk_181 0 192 (dk_at dksX4_number_1 8 rfl rfl)
theorem dX4_number_34 : decode cX4_number 34 = .ok (.iconst 0, 1) := dk_3 (dk_at dksX4_number_1 11 rfl rfl)
theorem dX4_number_35 : decode cX4_number 35 = .ok (.ireturn, 1) := dk_172 (dk_at dksX4_number_1 12 rfl rfl)
theorem dX4_number_36 : decode cX4_number 36 = .ok (.iconst 0, 1) := dk_3 (dk_at dksX4_number_1 13 rfl rfl)
theorem dX4_number_37 : decode cX4_number 37 = .ok (.istore_n 3, 1) := dk_62 (dk_at dksX4_number_1 14 rfl rfl)
theorem dX4_number_38 : decode cX4_number 38 = .ok (.aload_n 0, 1) := dk_42 (dk_at dksX4_number_1 15 rfl rfl)
theorem dX4_number_39 : decode cX4_number 39 = .ok (.getfield 177, 3) := dk_180 0 177 (dk_at dksX4_number_1 16 rfl rfl)
theorem dX4_number_42 : decode cX4_number 42 = .ok (.istore 4, 2) := dk_54 4 (dk_at dksX4_number_1 19 rfl rfl)
theorem dX4_number_44 : decode cX4_number 44 = .ok (.iload 4, 2) := dk_21 4 (dk_at dksX4_number_1 21 rfl rfl)
theorem dX4_number_46 : decode cX4_number 46 = .ok (.aload_n 0, 1) := dk_42 (dk_at dksX4_number_1 23 rfl rfl)
theorem dX4_number_47 : decode cX4_number 47 = .ok (.getfield 174, 3) := dk_180 0 174 (dk_at dksX4_number_2 0 rfl rfl)
theorem dX4_number_50 : decode cX4_number 50 = .ok (.if_icmp .ge 36, 3) := dk_162 0 36 (dk_at dksX4_number_2 3 rfl rfl)
theorem dX4_number_53 : decode cX4_number 53 = .ok (.iload_n 3, 1) := dk_29 (dk_at dksX4_number_2 6 rfl rfl)
theorem dX4_number_54 : decode cX4_number 54 = .ok (.sipush 9999, 3) := dk_17 39 15 (dk_at dksX4_number_2 7 rfl rfl)
theorem dX4_number_57 : decode cX4_number 57 = .ok (.if_icmp .le 7, 3) := dk_164 0 7 (dk_at dksX4_number_2 10 rfl rfl)
theorem dX4_number_60 : decode cX4_number 60 = .ok (.iload_n 3, 1) := dk_29 (dk_at dksX4_number_2 13 rfl rfl)
theorem dX4_number_61 : decode cX4_number 61 = .ok (.goto 18, 3) := dk_167 0 18 (dk_at dksX4_number_2 14 rfl rfl)
theorem dX4_number_64 : decode cX4_number 64 = .ok (.bipush 10, 2) := dk_16 10 (dk_at dksX4_number_2 17 rfl rfl)
theorem dX4_number_66 : decode cX4_number 66 = .ok (.iload_n 3, 1) := dk_29 (dk_at dksX4_number_2 19 rfl rfl)
theorem dX4_number_67 : decode cX4_number 67 = .ok (.imul, 1) := dk_104 (dk_at dksX4_number_2 20 rfl rfl)
theorem dX4_number_68 : decode cX4_number 68 = .ok (.aload_n 0, 1) := dk_42 (dk_at dksX4_number_2 21 rfl rfl)
theorem dX4_number_69 : decode cX4_number 69 = .ok (.getfield 19, 3) := dk_180 0 19 (dk_at dksX4_number_3 0 rfl rfl)
theorem dX4_number_72 : decode cX4_number 72 = .ok (.iload 4, 2) := dk_21 4 (dk_at dksX4_number_3 3 rfl rfl)
theorem dX4_number_74 : decode cX4_number 74 = .ok (.iaload, 1) := dk_46 (dk_at dksX4_number_3 5 rfl rfl)
theorem dX4_number_75 : decode cX4_number 75 = .ok (.iadd, 1) := dk_96 (dk_at dksX4_number_3 6 rfl rfl)
theorem dX4_number_76 : decode cX4_number 76 = .ok (.bipush 48, 2) := dk_16 48 (dk_at dksX4_number_3 7 rfl rfl)
theorem dX4_number_78 : decode cX4_number 78 = .ok (.isub, 1) := dk_100 (dk_at dksX4_number_3 9 rfl rfl)
theorem dX4_number_79 : decode cX4_number 79 = .ok (.istore_n 3, 1) := dk_62 (dk_at dksX4_number_3 10 rfl rfl)
theorem dX4_number_80 : decode cX4_number 80 = .ok (.iinc 4 1, 3) := dk_132 4 1 (dk_at dksX4_number_3 11 rfl rfl)
theorem dX4_number_83 : decode cX4_number 83 = .ok (.goto (-39), 3) := dk_167 255 217 (dk_at dksX4_number_3 14 rfl rfl)
theorem dX4_number_86 : decode cX4_number 86 = .ok (.aload_n 0, 1) := dk_42 (dk_at dksX4_number_3 17 rfl rfl)
theorem dX4_number_87 : decode cX4_number 87 = .ok (.aload_n 0, 1) := dk_42 (dk_at dksX4_number_3 18 rfl rfl)
theorem dX4_number_88 : decode cX4_number 88 = .ok (.getfield 19, 3) := dk_180 0 19 (dk_at dksX4_number_3 19 rfl rfl)
theorem dX4_number_91 : decode cX4_number 91 = .ok (.aload_n 0, 1) := dk_42 (dk_at dksX4_number_3 22 rfl rfl)
theorem dX4_number_92 : decode cX4_number 92 = .ok (.getfield 177, 3) := dk_180 0 177 (dk_at dksX4_number_4 0 rfl rfl)
theorem dX4_number_95 : decode cX4_number 95 = .ok (.iaload, 1) := dk_46 (dk_at dksX4_number_4 3 rfl rfl)
theorem dX4_number_96 : decode cX4_number 96 = .ok (.bipush 48, 2) := dk_16 48 (dk_at dksX4_number_4 4 rfl rfl)
theorem dX4_number_98 : decode cX4_number 98 = .ok (.if_icmp .ne 16, 3) := dk_160 0 16 (dk_at dksX4_number_4 6 rfl rfl)
theorem dX4_number_101 : decode cX4_number 101 = .ok (.aload_n 0, 1) := dk_42 (dk_at dksX4_number_4 9 rfl rfl)
theorem dX4_number_102 : decode cX4_number 102 = .ok (.getfield 174, 3) := dk_180 0 174 (dk_at dksX4_number_4 10 rfl rfl)
theorem dX4_number_105 : decode cX4_number 105 = .ok (.aload_n 0, 1) := dk_42 (dk_at dksX4_number_4 13 rfl rfl)
theorem dX4_number_106 : decode cX4_number 106 = .ok (.getfield 177, 3) := dk_180 0 177 (dk_at dksX4_number_4 14 rfl rfl)
theorem dX4_number_109 : decode cX4_number 109 = .ok (.iconst 1, 1) := dk_4 (dk_at dksX4_number_4 17 rfl rfl)
theorem dX4_number_110 : decode cX4_number 110 = .ok (.iadd, 1) := dk_96 (dk_at dksX4_number_4 18 rfl rfl)
theorem dX4_number_111 : decode cX4_number 111 = .ok (.if_icmp .gt 12, 3) := dk_163 0 12 (dk_at dksX4_number_4 19 rfl rfl)
theorem dX4_number_114 : decode cX4_number 114 = .ok (.iload_n 3, 1) := dk_29 (dk_at dksX4_number_4 22 rfl rfl)
theorem dX4_number_115 : decode cX4_number 115 = .ok (.iload_n 1, 1) := dk_27 (dk_at dksX4_number_4 23 rfl rfl)
theorem dX4_number_116 : decode cX4_number 116 = .ok (.iload_n 2, 1) := dk_28 (dk_at dksX4_number_5 0 rfl rfl)
theorem dX4_number_117 : decode cX4_number 117 = .ok (.invokestatic 50, 3) := dk_184 0 50 (dk_at dksX4_number_5 1 rfl rfl)
theorem dX4_number_120 : decode cX4_number 120 = .ok (.ifCond .ne 7, 3) := dk_154 0 7 (dk_at dksX4_number_5 4 rfl rfl)
theorem dX4_number_123 : decode cX4_number 123 = .ok (.iconst 1, 1) := dk_4 (dk_at dksX4_number_5 7 rfl rfl)
theorem dX4_number_124 : decode cX4_number 124 = .ok (.goto 4, 3) := dk_167 0 4 (dk_at dksX4_number_5 8 rfl rfl)
theorem dX4_number_127 : decode cX4_number 127 = .ok (.iconst 0, 1) := dk_3 (dk_at dksX4_number_5 11 rfl rfl)
theorem dX4_number_128 : decode cX4_number 128 = .ok (.putfield 192, 3) := dk_181 0 192 (dk_at dksX4_number_5 12 rfl rfl)
theorem dX4_number_131 : decode cX4_number 131 = .ok (.iload_n 3, 1) := dk_29 (dk_at dksX4_number_5 15 rfl rfl)
theorem dX4_number_132 : decode cX4_number 132 = .ok (.ireturn, 1) := dk_172 (dk_at dksX4_number_5 16 rfl rfl)
abbrev cX4_kindTold : ByteArray := prog_20_method_75_code
def yX4_kindTold : MethodName := ⟨RX4, "kindTold", "()I"⟩
def dkwX4_kindTold_6 : List UInt8 := [181, 0, 192, 21, 7, 172]
abbrev dktX4_kindTold_6 : List UInt8 := dkwX4_kindTold_6 ++ []
def dkwX4_kindTold_5 : List UInt8 := [16, 247, 54, 7, 42, 42, 180, 0, 192, 154, 0, 10, 21, 7, 16, 247, 160, 0, 7, 4, 167, 0, 4, 3]
abbrev dktX4_kindTold_5 : List UInt8 := dkwX4_kindTold_5 ++ dktX4_kindTold_6
def dkwX4_kindTold_4 : List UInt8 := [4, 167, 0, 25, 31, 16, 102, 16, 117, 16, 108, 16, 108, 184, 0, 204, 148, 154, 0, 7, 5, 167, 0, 5]
abbrev dktX4_kindTold_4 : List UInt8 := dkwX4_kindTold_4 ++ dktX4_kindTold_5
def dkwX4_kindTold_3 : List UInt8 := [3, 3, 184, 0, 208, 55, 5, 31, 33, 148, 154, 0, 7, 3, 167, 0, 36, 31, 22, 5, 148, 154, 0, 7]
abbrev dktX4_kindTold_3 : List UInt8 := dkwX4_kindTold_3 ++ dktX4_kindTold_4
def dkwX4_kindTold_2 : List UInt8 := [16, 114, 16, 105, 16, 97, 184, 0, 204, 16, 110, 16, 103, 16, 117, 16, 108, 184, 0, 208, 16, 97, 16, 114]
abbrev dktX4_kindTold_2 : List UInt8 := dkwX4_kindTold_2 ++ dktX4_kindTold_3
def dkwX4_kindTold_1 : List UInt8 := [64, 16, 115, 16, 113, 16, 117, 16, 97, 184, 0, 204, 16, 114, 16, 101, 3, 3, 184, 0, 208, 66, 16, 116]
abbrev dktX4_kindTold_1 : List UInt8 := dkwX4_kindTold_1 ++ dktX4_kindTold_2
def dkwX4_kindTold_0 : List UInt8 := [42, 180, 0, 192, 154, 0, 10, 42, 182, 0, 196, 154, 0, 9, 20, 0, 190, 167, 0, 7, 42, 182, 0, 200]
abbrev dktX4_kindTold_0 : List UInt8 := dkwX4_kindTold_0 ++ dktX4_kindTold_1
theorem dksX4_kindTold_0 : cX4_kindTold.data.toList.drop 0 = dktX4_kindTold_0 := by decide +kernel
theorem dksX4_kindTold_1 : cX4_kindTold.data.toList.drop 24 = dktX4_kindTold_1 := dk_seg dksX4_kindTold_0 24 rfl rfl
theorem dksX4_kindTold_2 : cX4_kindTold.data.toList.drop 48 = dktX4_kindTold_2 := dk_seg dksX4_kindTold_1 24 rfl rfl
theorem dksX4_kindTold_3 : cX4_kindTold.data.toList.drop 72 = dktX4_kindTold_3 := dk_seg dksX4_kindTold_2 24 rfl rfl
theorem dksX4_kindTold_4 : cX4_kindTold.data.toList.drop 96 = dktX4_kindTold_4 := dk_seg dksX4_kindTold_3 24 rfl rfl
theorem dksX4_kindTold_5 : cX4_kindTold.data.toList.drop 120 = dktX4_kindTold_5 := dk_seg dksX4_kindTold_4 24 rfl rfl
theorem dksX4_kindTold_6 : cX4_kindTold.data.toList.drop 144 = dktX4_kindTold_6 := dk_seg dksX4_kindTold_5 24 rfl rfl
theorem dX4_kindTold_0 : decode cX4_kindTold 0 = .ok (.aload_n 0, 1) := dk_42 (dk_at dksX4_kindTold_0 0 rfl rfl)
theorem dX4_kindTold_1 : decode cX4_kindTold 1 = .ok (.getfield 192, 3) := dk_180 0 192 (dk_at dksX4_kindTold_0 1 rfl rfl)
theorem dX4_kindTold_4 : decode cX4_kindTold 4 = .ok (.ifCond .ne 10, 3) := dk_154 0 10 (dk_at dksX4_kindTold_0 4 rfl rfl)
theorem dX4_kindTold_7 : decode cX4_kindTold 7 = .ok (.aload_n 0, 1) := dk_42 (dk_at dksX4_kindTold_0 7 rfl rfl)
theorem dX4_kindTold_8 : decode cX4_kindTold 8 = .ok (.invokevirtual 196, 3) := dk_182 0 196 (dk_at dksX4_kindTold_0 8 rfl rfl)
theorem dX4_kindTold_11 : decode cX4_kindTold 11 = .ok (.ifCond .ne 9, 3) := dk_154 0 9 (dk_at dksX4_kindTold_0 11 rfl rfl)
theorem dX4_kindTold_14 : decode cX4_kindTold 14 = .ok (.ldc2_w 190, 3) := dk_20 0 190 (dk_at dksX4_kindTold_0 14 rfl rfl)
theorem dX4_kindTold_17 : decode cX4_kindTold 17 = .ok (.goto 7, 3) := dk_167 0 7 (dk_at dksX4_kindTold_0 17 rfl rfl)
theorem dX4_kindTold_20 : decode cX4_kindTold 20 = .ok (.aload_n 0, 1) := dk_42 (dk_at dksX4_kindTold_0 20 rfl rfl)
theorem dX4_kindTold_21 : decode cX4_kindTold 21 = .ok (.invokevirtual 200, 3) := dk_182 0 200 (dk_at dksX4_kindTold_0 21 rfl rfl)
theorem dX4_kindTold_24 : decode cX4_kindTold 24 = .ok (.lstore_n 1, 1) := dk_64 (dk_at dksX4_kindTold_1 0 rfl rfl)
theorem dX4_kindTold_25 : decode cX4_kindTold 25 = .ok (.bipush 115, 2) := dk_16 115 (dk_at dksX4_kindTold_1 1 rfl rfl)
theorem dX4_kindTold_27 : decode cX4_kindTold 27 = .ok (.bipush 113, 2) := dk_16 113 (dk_at dksX4_kindTold_1 3 rfl rfl)
theorem dX4_kindTold_29 : decode cX4_kindTold 29 = .ok (.bipush 117, 2) := dk_16 117 (dk_at dksX4_kindTold_1 5 rfl rfl)
theorem dX4_kindTold_31 : decode cX4_kindTold 31 = .ok (.bipush 97, 2) := dk_16 97 (dk_at dksX4_kindTold_1 7 rfl rfl)
theorem dX4_kindTold_33 : decode cX4_kindTold 33 = .ok (.invokestatic 204, 3) := dk_184 0 204 (dk_at dksX4_kindTold_1 9 rfl rfl)
theorem dX4_kindTold_36 : decode cX4_kindTold 36 = .ok (.bipush 114, 2) := dk_16 114 (dk_at dksX4_kindTold_1 12 rfl rfl)
theorem dX4_kindTold_38 : decode cX4_kindTold 38 = .ok (.bipush 101, 2) := dk_16 101 (dk_at dksX4_kindTold_1 14 rfl rfl)
theorem dX4_kindTold_40 : decode cX4_kindTold 40 = .ok (.iconst 0, 1) := dk_3 (dk_at dksX4_kindTold_1 16 rfl rfl)
theorem dX4_kindTold_41 : decode cX4_kindTold 41 = .ok (.iconst 0, 1) := dk_3 (dk_at dksX4_kindTold_1 17 rfl rfl)
theorem dX4_kindTold_42 : decode cX4_kindTold 42 = .ok (.invokestatic 208, 3) := dk_184 0 208 (dk_at dksX4_kindTold_1 18 rfl rfl)
theorem dX4_kindTold_45 : decode cX4_kindTold 45 = .ok (.lstore_n 3, 1) := dk_66 (dk_at dksX4_kindTold_1 21 rfl rfl)
theorem dX4_kindTold_46 : decode cX4_kindTold 46 = .ok (.bipush 116, 2) := dk_16 116 (dk_at dksX4_kindTold_1 22 rfl rfl)
theorem dX4_kindTold_48 : decode cX4_kindTold 48 = .ok (.bipush 114, 2) := dk_16 114 (dk_at dksX4_kindTold_2 0 rfl rfl)
theorem dX4_kindTold_50 : decode cX4_kindTold 50 = .ok (.bipush 105, 2) := dk_16 105 (dk_at dksX4_kindTold_2 2 rfl rfl)
theorem dX4_kindTold_52 : decode cX4_kindTold 52 = .ok (.bipush 97, 2) := dk_16 97 (dk_at dksX4_kindTold_2 4 rfl rfl)
theorem dX4_kindTold_54 : decode cX4_kindTold 54 = .ok (.invokestatic 204, 3) := dk_184 0 204 (dk_at dksX4_kindTold_2 6 rfl rfl)
theorem dX4_kindTold_57 : decode cX4_kindTold 57 = .ok (.bipush 110, 2) := dk_16 110 (dk_at dksX4_kindTold_2 9 rfl rfl)
theorem dX4_kindTold_59 : decode cX4_kindTold 59 = .ok (.bipush 103, 2) := dk_16 103 (dk_at dksX4_kindTold_2 11 rfl rfl)
theorem dX4_kindTold_61 : decode cX4_kindTold 61 = .ok (.bipush 117, 2) := dk_16 117 (dk_at dksX4_kindTold_2 13 rfl rfl)
theorem dX4_kindTold_63 : decode cX4_kindTold 63 = .ok (.bipush 108, 2) := dk_16 108 (dk_at dksX4_kindTold_2 15 rfl rfl)
theorem dX4_kindTold_65 : decode cX4_kindTold 65 = .ok (.invokestatic 208, 3) := dk_184 0 208 (dk_at dksX4_kindTold_2 17 rfl rfl)
theorem dX4_kindTold_68 : decode cX4_kindTold 68 = .ok (.bipush 97, 2) := dk_16 97 (dk_at dksX4_kindTold_2 20 rfl rfl)
theorem dX4_kindTold_70 : decode cX4_kindTold 70 = .ok (.bipush 114, 2) := dk_16 114 (dk_at dksX4_kindTold_2 22 rfl rfl)
theorem dX4_kindTold_72 : decode cX4_kindTold 72 = .ok (.iconst 0, 1) := dk_3 (dk_at dksX4_kindTold_3 0 rfl rfl)
theorem dX4_kindTold_73 : decode cX4_kindTold 73 = .ok (.iconst 0, 1) := dk_3 (dk_at dksX4_kindTold_3 1 rfl rfl)
theorem dX4_kindTold_74 : decode cX4_kindTold 74 = .ok (.invokestatic 208, 3) := dk_184 0 208 (dk_at dksX4_kindTold_3 2 rfl rfl)
theorem dX4_kindTold_77 : decode cX4_kindTold 77 = .ok (.lstore 5, 2) := dk_55 5 (dk_at dksX4_kindTold_3 5 rfl rfl)
theorem dX4_kindTold_79 : decode cX4_kindTold 79 = .ok (.lload_n 1, 1) := dk_31 (dk_at dksX4_kindTold_3 7 rfl rfl)
theorem dX4_kindTold_80 : decode cX4_kindTold 80 = .ok (.lload_n 3, 1) := dk_33 (dk_at dksX4_kindTold_3 8 rfl rfl)
theorem dX4_kindTold_81 : decode cX4_kindTold 81 = .ok (.lcmp, 1) := dk_148 (dk_at dksX4_kindTold_3 9 rfl rfl)
theorem dX4_kindTold_82 : decode cX4_kindTold 82 = .ok (.ifCond .ne 7, 3) := dk_154 0 7 (dk_at dksX4_kindTold_3 10 rfl rfl)
theorem dX4_kindTold_85 : decode cX4_kindTold 85 = .ok (.iconst 0, 1) := dk_3 (dk_at dksX4_kindTold_3 13 rfl rfl)
theorem dX4_kindTold_86 : decode cX4_kindTold 86 = .ok (.goto 36, 3) := dk_167 0 36 (dk_at dksX4_kindTold_3 14 rfl rfl)
theorem dX4_kindTold_89 : decode cX4_kindTold 89 = .ok (.lload_n 1, 1) := dk_31 (dk_at dksX4_kindTold_3 17 rfl rfl)
theorem dX4_kindTold_90 : decode cX4_kindTold 90 = .ok (.lload 5, 2) := dk_22 5 (dk_at dksX4_kindTold_3 18 rfl rfl)
theorem dX4_kindTold_92 : decode cX4_kindTold 92 = .ok (.lcmp, 1) := dk_148 (dk_at dksX4_kindTold_3 20 rfl rfl)
theorem dX4_kindTold_93 : decode cX4_kindTold 93 = .ok (.ifCond .ne 7, 3) := dk_154 0 7 (dk_at dksX4_kindTold_3 21 rfl rfl)
theorem dX4_kindTold_96 : decode cX4_kindTold 96 = .ok (.iconst 1, 1) := dk_4 (dk_at dksX4_kindTold_4 0 rfl rfl)
theorem dX4_kindTold_97 : decode cX4_kindTold 97 = .ok (.goto 25, 3) := dk_167 0 25 (dk_at dksX4_kindTold_4 1 rfl rfl)
theorem dX4_kindTold_100 : decode cX4_kindTold 100 = .ok (.lload_n 1, 1) := dk_31 (dk_at dksX4_kindTold_4 4 rfl rfl)
theorem dX4_kindTold_101 : decode cX4_kindTold 101 = .ok (.bipush 102, 2) := dk_16 102 (dk_at dksX4_kindTold_4 5 rfl rfl)
theorem dX4_kindTold_103 : decode cX4_kindTold 103 = .ok (.bipush 117, 2) := dk_16 117 (dk_at dksX4_kindTold_4 7 rfl rfl)
theorem dX4_kindTold_105 : decode cX4_kindTold 105 = .ok (.bipush 108, 2) := dk_16 108 (dk_at dksX4_kindTold_4 9 rfl rfl)
theorem dX4_kindTold_107 : decode cX4_kindTold 107 = .ok (.bipush 108, 2) := dk_16 108 (dk_at dksX4_kindTold_4 11 rfl rfl)
theorem dX4_kindTold_109 : decode cX4_kindTold 109 = .ok (.invokestatic 204, 3) := dk_184 0 204 (dk_at dksX4_kindTold_4 13 rfl rfl)
theorem dX4_kindTold_112 : decode cX4_kindTold 112 = .ok (.lcmp, 1) := dk_148 (dk_at dksX4_kindTold_4 16 rfl rfl)
theorem dX4_kindTold_113 : decode cX4_kindTold 113 = .ok (.ifCond .ne 7, 3) := dk_154 0 7 (dk_at dksX4_kindTold_4 17 rfl rfl)
theorem dX4_kindTold_116 : decode cX4_kindTold 116 = .ok (.iconst 2, 1) := dk_5 (dk_at dksX4_kindTold_4 20 rfl rfl)
theorem dX4_kindTold_117 : decode cX4_kindTold 117 = .ok (.goto 5, 3) := dk_167 0 5 (dk_at dksX4_kindTold_4 21 rfl rfl)
theorem dX4_kindTold_120 : decode cX4_kindTold 120 = .ok (.bipush (-9), 2) := dk_16 247 (dk_at dksX4_kindTold_5 0 rfl rfl)
theorem dX4_kindTold_122 : decode cX4_kindTold 122 = .ok (.istore 7, 2) := dk_54 7 (dk_at dksX4_kindTold_5 2 rfl rfl)
theorem dX4_kindTold_124 : decode cX4_kindTold 124 = .ok (.aload_n 0, 1) := dk_42 (dk_at dksX4_kindTold_5 4 rfl rfl)
theorem dX4_kindTold_125 : decode cX4_kindTold 125 = .ok (.aload_n 0, 1) := dk_42 (dk_at dksX4_kindTold_5 5 rfl rfl)
theorem dX4_kindTold_126 : decode cX4_kindTold 126 = .ok (.getfield 192, 3) := dk_180 0 192 (dk_at dksX4_kindTold_5 6 rfl rfl)
theorem dX4_kindTold_129 : decode cX4_kindTold 129 = .ok (.ifCond .ne 10, 3) := dk_154 0 10 (dk_at dksX4_kindTold_5 9 rfl rfl)
theorem dX4_kindTold_132 : decode cX4_kindTold 132 = .ok (.iload 7, 2) := dk_21 7 (dk_at dksX4_kindTold_5 12 rfl rfl)
theorem dX4_kindTold_134 : decode cX4_kindTold 134 = .ok (.bipush (-9), 2) := dk_16 247 (dk_at dksX4_kindTold_5 14 rfl rfl)
theorem dX4_kindTold_136 : decode cX4_kindTold 136 = .ok (.if_icmp .ne 7, 3) := dk_160 0 7 (dk_at dksX4_kindTold_5 16 rfl rfl)
theorem dX4_kindTold_139 : decode cX4_kindTold 139 = .ok (.iconst 1, 1) := dk_4 (dk_at dksX4_kindTold_5 19 rfl rfl)
theorem dX4_kindTold_140 : decode cX4_kindTold 140 = .ok (.goto 4, 3) := dk_167 0 4 (dk_at dksX4_kindTold_5 20 rfl rfl)
theorem dX4_kindTold_143 : decode cX4_kindTold 143 = .ok (.iconst 0, 1) := dk_3 (dk_at dksX4_kindTold_5 23 rfl rfl)
theorem dX4_kindTold_144 : decode cX4_kindTold 144 = .ok (.putfield 192, 3) := dk_181 0 192 (dk_at dksX4_kindTold_6 0 rfl rfl)
theorem dX4_kindTold_147 : decode cX4_kindTold 147 = .ok (.iload 7, 2) := dk_21 7 (dk_at dksX4_kindTold_6 3 rfl rfl)
theorem dX4_kindTold_149 : decode cX4_kindTold 149 = .ok (.ireturn, 1) := dk_172 (dk_at dksX4_kindTold_6 5 rfl rfl)
abbrev cX4_longer : ByteArray := prog_20_method_72_code
def yX4_longer : MethodName := ⟨RX4, "longer", "(JIIII)J"⟩
def dkwX4_longer_4 : List UInt8 := [20, 0, 188, 101, 10, 97, 173]
abbrev dktX4_longer_4 : List UInt8 := dkwX4_longer_4 ++ []
def dkwX4_longer_3 : List UInt8 := [55, 6, 21, 5, 154, 0, 8, 22, 6, 167, 0, 19, 20, 0, 186, 22, 6, 105, 21, 5, 133, 97]
abbrev dktX4_longer_3 : List UInt8 := dkwX4_longer_3 ++ dktX4_longer_4
def dkwX4_longer_2 : List UInt8 := [154, 0, 8, 22, 6, 167, 0, 19, 20, 0, 186, 22, 6, 105, 21, 4, 133, 97, 20, 0, 188, 101, 10, 97]
abbrev dktX4_longer_2 : List UInt8 := dkwX4_longer_2 ++ dktX4_longer_3
def dkwX4_longer_1 : List UInt8 := [167, 0, 18, 20, 0, 186, 22, 6, 105, 29, 133, 97, 20, 0, 188, 101, 10, 97, 55, 6, 21, 4]
abbrev dktX4_longer_1 : List UInt8 := dkwX4_longer_1 ++ dktX4_longer_2
def dkwX4_longer_0 : List UInt8 := [20, 0, 186, 30, 105, 28, 133, 97, 20, 0, 188, 101, 10, 97, 55, 6, 29, 154, 0, 8, 22, 6]
abbrev dktX4_longer_0 : List UInt8 := dkwX4_longer_0 ++ dktX4_longer_1
theorem dksX4_longer_0 : cX4_longer.data.toList.drop 0 = dktX4_longer_0 := by decide +kernel
theorem dksX4_longer_1 : cX4_longer.data.toList.drop 22 = dktX4_longer_1 := dk_seg dksX4_longer_0 22 rfl rfl
theorem dksX4_longer_2 : cX4_longer.data.toList.drop 44 = dktX4_longer_2 := dk_seg dksX4_longer_1 22 rfl rfl
theorem dksX4_longer_3 : cX4_longer.data.toList.drop 68 = dktX4_longer_3 := dk_seg dksX4_longer_2 24 rfl rfl
theorem dksX4_longer_4 : cX4_longer.data.toList.drop 90 = dktX4_longer_4 := dk_seg dksX4_longer_3 22 rfl rfl
theorem dX4_longer_0 : decode cX4_longer 0 = .ok (.ldc2_w 186, 3) := dk_20 0 186 (dk_at dksX4_longer_0 0 rfl rfl)
theorem dX4_longer_3 : decode cX4_longer 3 = .ok (.lload_n 0, 1) := dk_30 (dk_at dksX4_longer_0 3 rfl rfl)
theorem dX4_longer_4 : decode cX4_longer 4 = .ok (.lmul, 1) := dk_105 (dk_at dksX4_longer_0 4 rfl rfl)
theorem dX4_longer_5 : decode cX4_longer 5 = .ok (.iload_n 2, 1) := dk_28 (dk_at dksX4_longer_0 5 rfl rfl)
theorem dX4_longer_6 : decode cX4_longer 6 = .ok (.i2l, 1) := dk_133 (dk_at dksX4_longer_0 6 rfl rfl)
theorem dX4_longer_7 : decode cX4_longer 7 = .ok (.ladd, 1) := dk_97 (dk_at dksX4_longer_0 7 rfl rfl)
theorem dX4_longer_8 : decode cX4_longer 8 = .ok (.ldc2_w 188, 3) := dk_20 0 188 (dk_at dksX4_longer_0 8 rfl rfl)
theorem dX4_longer_11 : decode cX4_longer 11 = .ok (.lsub, 1) := dk_101 (dk_at dksX4_longer_0 11 rfl rfl)
theorem dX4_longer_12 : decode cX4_longer 12 = .ok (.lconst 1, 1) := dk_10 (dk_at dksX4_longer_0 12 rfl rfl)
theorem dX4_longer_13 : decode cX4_longer 13 = .ok (.ladd, 1) := dk_97 (dk_at dksX4_longer_0 13 rfl rfl)
theorem dX4_longer_14 : decode cX4_longer 14 = .ok (.lstore 6, 2) := dk_55 6 (dk_at dksX4_longer_0 14 rfl rfl)
theorem dX4_longer_16 : decode cX4_longer 16 = .ok (.iload_n 3, 1) := dk_29 (dk_at dksX4_longer_0 16 rfl rfl)
theorem dX4_longer_17 : decode cX4_longer 17 = .ok (.ifCond .ne 8, 3) := dk_154 0 8 (dk_at dksX4_longer_0 17 rfl rfl)
theorem dX4_longer_20 : decode cX4_longer 20 = .ok (.lload 6, 2) := dk_22 6 (dk_at dksX4_longer_0 20 rfl rfl)
theorem dX4_longer_22 : decode cX4_longer 22 = .ok (.goto 18, 3) := dk_167 0 18 (dk_at dksX4_longer_1 0 rfl rfl)
theorem dX4_longer_25 : decode cX4_longer 25 = .ok (.ldc2_w 186, 3) := dk_20 0 186 (dk_at dksX4_longer_1 3 rfl rfl)
theorem dX4_longer_28 : decode cX4_longer 28 = .ok (.lload 6, 2) := dk_22 6 (dk_at dksX4_longer_1 6 rfl rfl)
theorem dX4_longer_30 : decode cX4_longer 30 = .ok (.lmul, 1) := dk_105 (dk_at dksX4_longer_1 8 rfl rfl)
theorem dX4_longer_31 : decode cX4_longer 31 = .ok (.iload_n 3, 1) := dk_29 (dk_at dksX4_longer_1 9 rfl rfl)
theorem dX4_longer_32 : decode cX4_longer 32 = .ok (.i2l, 1) := dk_133 (dk_at dksX4_longer_1 10 rfl rfl)
theorem dX4_longer_33 : decode cX4_longer 33 = .ok (.ladd, 1) := dk_97 (dk_at dksX4_longer_1 11 rfl rfl)
theorem dX4_longer_34 : decode cX4_longer 34 = .ok (.ldc2_w 188, 3) := dk_20 0 188 (dk_at dksX4_longer_1 12 rfl rfl)
theorem dX4_longer_37 : decode cX4_longer 37 = .ok (.lsub, 1) := dk_101 (dk_at dksX4_longer_1 15 rfl rfl)
theorem dX4_longer_38 : decode cX4_longer 38 = .ok (.lconst 1, 1) := dk_10 (dk_at dksX4_longer_1 16 rfl rfl)
theorem dX4_longer_39 : decode cX4_longer 39 = .ok (.ladd, 1) := dk_97 (dk_at dksX4_longer_1 17 rfl rfl)
theorem dX4_longer_40 : decode cX4_longer 40 = .ok (.lstore 6, 2) := dk_55 6 (dk_at dksX4_longer_1 18 rfl rfl)
theorem dX4_longer_42 : decode cX4_longer 42 = .ok (.iload 4, 2) := dk_21 4 (dk_at dksX4_longer_1 20 rfl rfl)
theorem dX4_longer_44 : decode cX4_longer 44 = .ok (.ifCond .ne 8, 3) := dk_154 0 8 (dk_at dksX4_longer_2 0 rfl rfl)
theorem dX4_longer_47 : decode cX4_longer 47 = .ok (.lload 6, 2) := dk_22 6 (dk_at dksX4_longer_2 3 rfl rfl)
theorem dX4_longer_49 : decode cX4_longer 49 = .ok (.goto 19, 3) := dk_167 0 19 (dk_at dksX4_longer_2 5 rfl rfl)
theorem dX4_longer_52 : decode cX4_longer 52 = .ok (.ldc2_w 186, 3) := dk_20 0 186 (dk_at dksX4_longer_2 8 rfl rfl)
theorem dX4_longer_55 : decode cX4_longer 55 = .ok (.lload 6, 2) := dk_22 6 (dk_at dksX4_longer_2 11 rfl rfl)
theorem dX4_longer_57 : decode cX4_longer 57 = .ok (.lmul, 1) := dk_105 (dk_at dksX4_longer_2 13 rfl rfl)
theorem dX4_longer_58 : decode cX4_longer 58 = .ok (.iload 4, 2) := dk_21 4 (dk_at dksX4_longer_2 14 rfl rfl)
theorem dX4_longer_60 : decode cX4_longer 60 = .ok (.i2l, 1) := dk_133 (dk_at dksX4_longer_2 16 rfl rfl)
theorem dX4_longer_61 : decode cX4_longer 61 = .ok (.ladd, 1) := dk_97 (dk_at dksX4_longer_2 17 rfl rfl)
theorem dX4_longer_62 : decode cX4_longer 62 = .ok (.ldc2_w 188, 3) := dk_20 0 188 (dk_at dksX4_longer_2 18 rfl rfl)
theorem dX4_longer_65 : decode cX4_longer 65 = .ok (.lsub, 1) := dk_101 (dk_at dksX4_longer_2 21 rfl rfl)
theorem dX4_longer_66 : decode cX4_longer 66 = .ok (.lconst 1, 1) := dk_10 (dk_at dksX4_longer_2 22 rfl rfl)
theorem dX4_longer_67 : decode cX4_longer 67 = .ok (.ladd, 1) := dk_97 (dk_at dksX4_longer_2 23 rfl rfl)
theorem dX4_longer_68 : decode cX4_longer 68 = .ok (.lstore 6, 2) := dk_55 6 (dk_at dksX4_longer_3 0 rfl rfl)
theorem dX4_longer_70 : decode cX4_longer 70 = .ok (.iload 5, 2) := dk_21 5 (dk_at dksX4_longer_3 2 rfl rfl)
theorem dX4_longer_72 : decode cX4_longer 72 = .ok (.ifCond .ne 8, 3) := dk_154 0 8 (dk_at dksX4_longer_3 4 rfl rfl)
theorem dX4_longer_75 : decode cX4_longer 75 = .ok (.lload 6, 2) := dk_22 6 (dk_at dksX4_longer_3 7 rfl rfl)
theorem dX4_longer_77 : decode cX4_longer 77 = .ok (.goto 19, 3) := dk_167 0 19 (dk_at dksX4_longer_3 9 rfl rfl)
theorem dX4_longer_80 : decode cX4_longer 80 = .ok (.ldc2_w 186, 3) := dk_20 0 186 (dk_at dksX4_longer_3 12 rfl rfl)
theorem dX4_longer_83 : decode cX4_longer 83 = .ok (.lload 6, 2) := dk_22 6 (dk_at dksX4_longer_3 15 rfl rfl)
theorem dX4_longer_85 : decode cX4_longer 85 = .ok (.lmul, 1) := dk_105 (dk_at dksX4_longer_3 17 rfl rfl)
theorem dX4_longer_86 : decode cX4_longer 86 = .ok (.iload 5, 2) := dk_21 5 (dk_at dksX4_longer_3 18 rfl rfl)
theorem dX4_longer_88 : decode cX4_longer 88 = .ok (.i2l, 1) := dk_133 (dk_at dksX4_longer_3 20 rfl rfl)
theorem dX4_longer_89 : decode cX4_longer 89 = .ok (.ladd, 1) := dk_97 (dk_at dksX4_longer_3 21 rfl rfl)
theorem dX4_longer_90 : decode cX4_longer 90 = .ok (.ldc2_w 188, 3) := dk_20 0 188 (dk_at dksX4_longer_4 0 rfl rfl)
theorem dX4_longer_93 : decode cX4_longer 93 = .ok (.lsub, 1) := dk_101 (dk_at dksX4_longer_4 3 rfl rfl)
theorem dX4_longer_94 : decode cX4_longer 94 = .ok (.lconst 1, 1) := dk_10 (dk_at dksX4_longer_4 4 rfl rfl)
theorem dX4_longer_95 : decode cX4_longer 95 = .ok (.ladd, 1) := dk_97 (dk_at dksX4_longer_4 5 rfl rfl)
theorem dX4_longer_96 : decode cX4_longer 96 = .ok (.lreturn, 1) := dk_173 (dk_at dksX4_longer_4 6 rfl rfl)
abbrev cX4_readsRow : ByteArray := prog_20_method_77_code
def yX4_readsRow : MethodName := ⟨RX4, "readsRow", "()V"⟩
def dkwX4_readsRow_3 : List UInt8 := [132, 2, 1, 167, 255, 202, 177]
abbrev dktX4_readsRow_3 : List UInt8 := dkwX4_readsRow_3 ++ []
def dkwX4_readsRow_2 : List UInt8 := [154, 0, 22, 42, 180, 0, 7, 16, 7, 27, 42, 180, 0, 7, 3, 46, 104, 96, 28, 96, 29, 79]
abbrev dktX4_readsRow_2 : List UInt8 := dkwX4_readsRow_2 ++ dktX4_readsRow_3
def dkwX4_readsRow_1 : List UInt8 := [162, 0, 50, 42, 180, 0, 192, 154, 0, 43, 42, 3, 16, 99, 182, 0, 212, 62, 42, 180, 0, 192]
abbrev dktX4_readsRow_1 : List UInt8 := dkwX4_readsRow_1 ++ dktX4_readsRow_2
def dkwX4_readsRow_0 : List UInt8 := [42, 3, 42, 180, 0, 7, 4, 46, 4, 100, 182, 0, 212, 60, 3, 61, 28, 42, 180, 0, 7, 3, 46]
abbrev dktX4_readsRow_0 : List UInt8 := dkwX4_readsRow_0 ++ dktX4_readsRow_1
theorem dksX4_readsRow_0 : cX4_readsRow.data.toList.drop 0 = dktX4_readsRow_0 := by decide +kernel
theorem dksX4_readsRow_1 : cX4_readsRow.data.toList.drop 23 = dktX4_readsRow_1 := dk_seg dksX4_readsRow_0 23 rfl rfl
theorem dksX4_readsRow_2 : cX4_readsRow.data.toList.drop 45 = dktX4_readsRow_2 := dk_seg dksX4_readsRow_1 22 rfl rfl
theorem dksX4_readsRow_3 : cX4_readsRow.data.toList.drop 67 = dktX4_readsRow_3 := dk_seg dksX4_readsRow_2 22 rfl rfl
theorem dX4_readsRow_0 : decode cX4_readsRow 0 = .ok (.aload_n 0, 1) := dk_42 (dk_at dksX4_readsRow_0 0 rfl rfl)
theorem dX4_readsRow_1 : decode cX4_readsRow 1 = .ok (.iconst 0, 1) := dk_3 (dk_at dksX4_readsRow_0 1 rfl rfl)
theorem dX4_readsRow_2 : decode cX4_readsRow 2 = .ok (.aload_n 0, 1) := dk_42 (dk_at dksX4_readsRow_0 2 rfl rfl)
theorem dX4_readsRow_3 : decode cX4_readsRow 3 = .ok (.getfield 7, 3) := dk_180 0 7 (dk_at dksX4_readsRow_0 3 rfl rfl)
theorem dX4_readsRow_6 : decode cX4_readsRow 6 = .ok (.iconst 1, 1) := dk_4 (dk_at dksX4_readsRow_0 6 rfl rfl)
theorem dX4_readsRow_7 : decode cX4_readsRow 7 = .ok (.iaload, 1) := dk_46 (dk_at dksX4_readsRow_0 7 rfl rfl)
theorem dX4_readsRow_8 : decode cX4_readsRow 8 = .ok (.iconst 1, 1) := dk_4 (dk_at dksX4_readsRow_0 8 rfl rfl)
theorem dX4_readsRow_9 : decode cX4_readsRow 9 = .ok (.isub, 1) := dk_100 (dk_at dksX4_readsRow_0 9 rfl rfl)
theorem dX4_readsRow_10 : decode cX4_readsRow 10 = .ok (.invokevirtual 212, 3) := dk_182 0 212 (dk_at dksX4_readsRow_0 10 rfl rfl)
theorem dX4_readsRow_13 : decode cX4_readsRow 13 = .ok (.istore_n 1, 1) := dk_60 (dk_at dksX4_readsRow_0 13 rfl rfl)
theorem dX4_readsRow_14 : decode cX4_readsRow 14 = .ok (.iconst 0, 1) := dk_3 (dk_at dksX4_readsRow_0 14 rfl rfl)
theorem dX4_readsRow_15 : decode cX4_readsRow 15 = .ok (.istore_n 2, 1) := dk_61 (dk_at dksX4_readsRow_0 15 rfl rfl)
theorem dX4_readsRow_16 : decode cX4_readsRow 16 = .ok (.iload_n 2, 1) := dk_28 (dk_at dksX4_readsRow_0 16 rfl rfl)
theorem dX4_readsRow_17 : decode cX4_readsRow 17 = .ok (.aload_n 0, 1) := dk_42 (dk_at dksX4_readsRow_0 17 rfl rfl)
theorem dX4_readsRow_18 : decode cX4_readsRow 18 = .ok (.getfield 7, 3) := dk_180 0 7 (dk_at dksX4_readsRow_0 18 rfl rfl)
theorem dX4_readsRow_21 : decode cX4_readsRow 21 = .ok (.iconst 0, 1) := dk_3 (dk_at dksX4_readsRow_0 21 rfl rfl)
theorem dX4_readsRow_22 : decode cX4_readsRow 22 = .ok (.iaload, 1) := dk_46 (dk_at dksX4_readsRow_0 22 rfl rfl)
theorem dX4_readsRow_23 : decode cX4_readsRow 23 = .ok (.if_icmp .ge 50, 3) := dk_162 0 50 (dk_at dksX4_readsRow_1 0 rfl rfl)
theorem dX4_readsRow_26 : decode cX4_readsRow 26 = .ok (.aload_n 0, 1) := dk_42 (dk_at dksX4_readsRow_1 3 rfl rfl)
theorem dX4_readsRow_27 : decode cX4_readsRow 27 = .ok (.getfield 192, 3) := dk_180 0 192 (dk_at dksX4_readsRow_1 4 rfl rfl)
theorem dX4_readsRow_30 : decode cX4_readsRow 30 = .ok (.ifCond .ne 43, 3) := dk_154 0 43 (dk_at dksX4_readsRow_1 7 rfl rfl)
theorem dX4_readsRow_33 : decode cX4_readsRow 33 = .ok (.aload_n 0, 1) := dk_42 (dk_at dksX4_readsRow_1 10 rfl rfl)
theorem dX4_readsRow_34 : decode cX4_readsRow 34 = .ok (.iconst 0, 1) := dk_3 (dk_at dksX4_readsRow_1 11 rfl rfl)
theorem dX4_readsRow_35 : decode cX4_readsRow 35 = .ok (.bipush 99, 2) := dk_16 99 (dk_at dksX4_readsRow_1 12 rfl rfl)
theorem dX4_readsRow_37 : decode cX4_readsRow 37 = .ok (.invokevirtual 212, 3) := dk_182 0 212 (dk_at dksX4_readsRow_1 14 rfl rfl)
theorem dX4_readsRow_40 : decode cX4_readsRow 40 = .ok (.istore_n 3, 1) := dk_62 (dk_at dksX4_readsRow_1 17 rfl rfl)
theorem dX4_readsRow_41 : decode cX4_readsRow 41 = .ok (.aload_n 0, 1) := dk_42 (dk_at dksX4_readsRow_1 18 rfl rfl)
theorem dX4_readsRow_42 : decode cX4_readsRow 42 = .ok (.getfield 192, 3) := dk_180 0 192 (dk_at dksX4_readsRow_1 19 rfl rfl)
theorem dX4_readsRow_45 : decode cX4_readsRow 45 = .ok (.ifCond .ne 22, 3) := dk_154 0 22 (dk_at dksX4_readsRow_2 0 rfl rfl)
theorem dX4_readsRow_48 : decode cX4_readsRow 48 = .ok (.aload_n 0, 1) := dk_42 (dk_at dksX4_readsRow_2 3 rfl rfl)
theorem dX4_readsRow_49 : decode cX4_readsRow 49 = .ok (.getfield 7, 3) := dk_180 0 7 (dk_at dksX4_readsRow_2 4 rfl rfl)
theorem dX4_readsRow_52 : decode cX4_readsRow 52 = .ok (.bipush 7, 2) := dk_16 7 (dk_at dksX4_readsRow_2 7 rfl rfl)
theorem dX4_readsRow_54 : decode cX4_readsRow 54 = .ok (.iload_n 1, 1) := dk_27 (dk_at dksX4_readsRow_2 9 rfl rfl)
theorem dX4_readsRow_55 : decode cX4_readsRow 55 = .ok (.aload_n 0, 1) := dk_42 (dk_at dksX4_readsRow_2 10 rfl rfl)
theorem dX4_readsRow_56 : decode cX4_readsRow 56 = .ok (.getfield 7, 3) := dk_180 0 7 (dk_at dksX4_readsRow_2 11 rfl rfl)
theorem dX4_readsRow_59 : decode cX4_readsRow 59 = .ok (.iconst 0, 1) := dk_3 (dk_at dksX4_readsRow_2 14 rfl rfl)
theorem dX4_readsRow_60 : decode cX4_readsRow 60 = .ok (.iaload, 1) := dk_46 (dk_at dksX4_readsRow_2 15 rfl rfl)
theorem dX4_readsRow_61 : decode cX4_readsRow 61 = .ok (.imul, 1) := dk_104 (dk_at dksX4_readsRow_2 16 rfl rfl)
theorem dX4_readsRow_62 : decode cX4_readsRow 62 = .ok (.iadd, 1) := dk_96 (dk_at dksX4_readsRow_2 17 rfl rfl)
theorem dX4_readsRow_63 : decode cX4_readsRow 63 = .ok (.iload_n 2, 1) := dk_28 (dk_at dksX4_readsRow_2 18 rfl rfl)
theorem dX4_readsRow_64 : decode cX4_readsRow 64 = .ok (.iadd, 1) := dk_96 (dk_at dksX4_readsRow_2 19 rfl rfl)
theorem dX4_readsRow_65 : decode cX4_readsRow 65 = .ok (.iload_n 3, 1) := dk_29 (dk_at dksX4_readsRow_2 20 rfl rfl)
theorem dX4_readsRow_66 : decode cX4_readsRow 66 = .ok (.iastore, 1) := dk_79 (dk_at dksX4_readsRow_2 21 rfl rfl)
theorem dX4_readsRow_67 : decode cX4_readsRow 67 = .ok (.iinc 2 1, 3) := dk_132 2 1 (dk_at dksX4_readsRow_3 0 rfl rfl)
theorem dX4_readsRow_70 : decode cX4_readsRow 70 = .ok (.goto (-54), 3) := dk_167 255 202 (dk_at dksX4_readsRow_3 3 rfl rfl)
theorem dX4_readsRow_73 : decode cX4_readsRow 73 = .ok (.return_, 1) := dk_177 (dk_at dksX4_readsRow_3 6 rfl rfl)
abbrev cX4_readsValve : ByteArray := prog_20_method_78_code
def yX4_readsValve : MethodName := ⟨RX4, "readsValve", "()V"⟩
def dkwX4_readsValve_3 : List UInt8 := [79, 177]
abbrev dktX4_readsValve_3 : List UInt8 := dkwX4_readsValve_3 ++ []
def dkwX4_readsValve_2 : List UInt8 := [182, 0, 215, 62, 42, 180, 0, 192, 154, 0, 17, 42, 180, 0, 7, 16, 87, 7, 27, 104, 96, 28, 96, 29]
abbrev dktX4_readsValve_2 : List UInt8 := dkwX4_readsValve_2 ++ dktX4_readsValve_3
def dkwX4_readsValve_1 : List UInt8 := [154, 0, 14, 42, 27, 28, 182, 0, 62, 16, 247, 160, 0, 7, 4, 167, 0, 4, 3, 181, 0, 192, 42]
abbrev dktX4_readsValve_1 : List UInt8 := dkwX4_readsValve_1 ++ dktX4_readsValve_2
def dkwX4_readsValve_0 : List UInt8 := [42, 3, 42, 182, 0, 46, 4, 100, 182, 0, 212, 60, 42, 3, 6, 182, 0, 212, 61, 42, 42, 180, 0, 192]
abbrev dktX4_readsValve_0 : List UInt8 := dkwX4_readsValve_0 ++ dktX4_readsValve_1
theorem dksX4_readsValve_0 : cX4_readsValve.data.toList.drop 0 = dktX4_readsValve_0 := by decide +kernel
theorem dksX4_readsValve_1 : cX4_readsValve.data.toList.drop 24 = dktX4_readsValve_1 := dk_seg dksX4_readsValve_0 24 rfl rfl
theorem dksX4_readsValve_2 : cX4_readsValve.data.toList.drop 47 = dktX4_readsValve_2 := dk_seg dksX4_readsValve_1 23 rfl rfl
theorem dksX4_readsValve_3 : cX4_readsValve.data.toList.drop 71 = dktX4_readsValve_3 := dk_seg dksX4_readsValve_2 24 rfl rfl
theorem dX4_readsValve_0 : decode cX4_readsValve 0 = .ok (.aload_n 0, 1) := dk_42 (dk_at dksX4_readsValve_0 0 rfl rfl)
theorem dX4_readsValve_1 : decode cX4_readsValve 1 = .ok (.iconst 0, 1) := dk_3 (dk_at dksX4_readsValve_0 1 rfl rfl)
theorem dX4_readsValve_2 : decode cX4_readsValve 2 = .ok (.aload_n 0, 1) := dk_42 (dk_at dksX4_readsValve_0 2 rfl rfl)
theorem dX4_readsValve_3 : decode cX4_readsValve 3 = .ok (.invokevirtual 46, 3) := dk_182 0 46 (dk_at dksX4_readsValve_0 3 rfl rfl)
theorem dX4_readsValve_6 : decode cX4_readsValve 6 = .ok (.iconst 1, 1) := dk_4 (dk_at dksX4_readsValve_0 6 rfl rfl)
theorem dX4_readsValve_7 : decode cX4_readsValve 7 = .ok (.isub, 1) := dk_100 (dk_at dksX4_readsValve_0 7 rfl rfl)
theorem dX4_readsValve_8 : decode cX4_readsValve 8 = .ok (.invokevirtual 212, 3) := dk_182 0 212 (dk_at dksX4_readsValve_0 8 rfl rfl)
theorem dX4_readsValve_11 : decode cX4_readsValve 11 = .ok (.istore_n 1, 1) := dk_60 (dk_at dksX4_readsValve_0 11 rfl rfl)
theorem dX4_readsValve_12 : decode cX4_readsValve 12 = .ok (.aload_n 0, 1) := dk_42 (dk_at dksX4_readsValve_0 12 rfl rfl)
theorem dX4_readsValve_13 : decode cX4_readsValve 13 = .ok (.iconst 0, 1) := dk_3 (dk_at dksX4_readsValve_0 13 rfl rfl)
theorem dX4_readsValve_14 : decode cX4_readsValve 14 = .ok (.iconst 3, 1) := dk_6 (dk_at dksX4_readsValve_0 14 rfl rfl)
theorem dX4_readsValve_15 : decode cX4_readsValve 15 = .ok (.invokevirtual 212, 3) := dk_182 0 212 (dk_at dksX4_readsValve_0 15 rfl rfl)
theorem dX4_readsValve_18 : decode cX4_readsValve 18 = .ok (.istore_n 2, 1) := dk_61 (dk_at dksX4_readsValve_0 18 rfl rfl)
theorem dX4_readsValve_19 : decode cX4_readsValve 19 = .ok (.aload_n 0, 1) := dk_42 (dk_at dksX4_readsValve_0 19 rfl rfl)
theorem dX4_readsValve_20 : decode cX4_readsValve 20 = .ok (.aload_n 0, 1) := dk_42 (dk_at dksX4_readsValve_0 20 rfl rfl)
theorem dX4_readsValve_21 : decode cX4_readsValve 21 = .ok (.getfield 192, 3) := dk_180 0 192 (dk_at dksX4_readsValve_0 21 rfl rfl)
theorem dX4_readsValve_24 : decode cX4_readsValve 24 = .ok (.ifCond .ne 14, 3) := dk_154 0 14 (dk_at dksX4_readsValve_1 0 rfl rfl)
theorem dX4_readsValve_27 : decode cX4_readsValve 27 = .ok (.aload_n 0, 1) := dk_42 (dk_at dksX4_readsValve_1 3 rfl rfl)
theorem dX4_readsValve_28 : decode cX4_readsValve 28 = .ok (.iload_n 1, 1) := dk_27 (dk_at dksX4_readsValve_1 4 rfl rfl)
theorem dX4_readsValve_29 : decode cX4_readsValve 29 = .ok (.iload_n 2, 1) := dk_28 (dk_at dksX4_readsValve_1 5 rfl rfl)
theorem dX4_readsValve_30 : decode cX4_readsValve 30 = .ok (.invokevirtual 62, 3) := dk_182 0 62 (dk_at dksX4_readsValve_1 6 rfl rfl)
theorem dX4_readsValve_33 : decode cX4_readsValve 33 = .ok (.bipush (-9), 2) := dk_16 247 (dk_at dksX4_readsValve_1 9 rfl rfl)
theorem dX4_readsValve_35 : decode cX4_readsValve 35 = .ok (.if_icmp .ne 7, 3) := dk_160 0 7 (dk_at dksX4_readsValve_1 11 rfl rfl)
theorem dX4_readsValve_38 : decode cX4_readsValve 38 = .ok (.iconst 1, 1) := dk_4 (dk_at dksX4_readsValve_1 14 rfl rfl)
theorem dX4_readsValve_39 : decode cX4_readsValve 39 = .ok (.goto 4, 3) := dk_167 0 4 (dk_at dksX4_readsValve_1 15 rfl rfl)
theorem dX4_readsValve_42 : decode cX4_readsValve 42 = .ok (.iconst 0, 1) := dk_3 (dk_at dksX4_readsValve_1 18 rfl rfl)
theorem dX4_readsValve_43 : decode cX4_readsValve 43 = .ok (.putfield 192, 3) := dk_181 0 192 (dk_at dksX4_readsValve_1 19 rfl rfl)
theorem dX4_readsValve_46 : decode cX4_readsValve 46 = .ok (.aload_n 0, 1) := dk_42 (dk_at dksX4_readsValve_1 22 rfl rfl)
theorem dX4_readsValve_47 : decode cX4_readsValve 47 = .ok (.invokevirtual 215, 3) := dk_182 0 215 (dk_at dksX4_readsValve_2 0 rfl rfl)
theorem dX4_readsValve_50 : decode cX4_readsValve 50 = .ok (.istore_n 3, 1) := dk_62 (dk_at dksX4_readsValve_2 3 rfl rfl)
theorem dX4_readsValve_51 : decode cX4_readsValve 51 = .ok (.aload_n 0, 1) := dk_42 (dk_at dksX4_readsValve_2 4 rfl rfl)
theorem dX4_readsValve_52 : decode cX4_readsValve 52 = .ok (.getfield 192, 3) := dk_180 0 192 (dk_at dksX4_readsValve_2 5 rfl rfl)
theorem dX4_readsValve_55 : decode cX4_readsValve 55 = .ok (.ifCond .ne 17, 3) := dk_154 0 17 (dk_at dksX4_readsValve_2 8 rfl rfl)
theorem dX4_readsValve_58 : decode cX4_readsValve 58 = .ok (.aload_n 0, 1) := dk_42 (dk_at dksX4_readsValve_2 11 rfl rfl)
theorem dX4_readsValve_59 : decode cX4_readsValve 59 = .ok (.getfield 7, 3) := dk_180 0 7 (dk_at dksX4_readsValve_2 12 rfl rfl)
theorem dX4_readsValve_62 : decode cX4_readsValve 62 = .ok (.bipush 87, 2) := dk_16 87 (dk_at dksX4_readsValve_2 15 rfl rfl)
theorem dX4_readsValve_64 : decode cX4_readsValve 64 = .ok (.iconst 4, 1) := dk_7 (dk_at dksX4_readsValve_2 17 rfl rfl)
theorem dX4_readsValve_65 : decode cX4_readsValve 65 = .ok (.iload_n 1, 1) := dk_27 (dk_at dksX4_readsValve_2 18 rfl rfl)
theorem dX4_readsValve_66 : decode cX4_readsValve 66 = .ok (.imul, 1) := dk_104 (dk_at dksX4_readsValve_2 19 rfl rfl)
theorem dX4_readsValve_67 : decode cX4_readsValve 67 = .ok (.iadd, 1) := dk_96 (dk_at dksX4_readsValve_2 20 rfl rfl)
theorem dX4_readsValve_68 : decode cX4_readsValve 68 = .ok (.iload_n 2, 1) := dk_28 (dk_at dksX4_readsValve_2 21 rfl rfl)
theorem dX4_readsValve_69 : decode cX4_readsValve 69 = .ok (.iadd, 1) := dk_96 (dk_at dksX4_readsValve_2 22 rfl rfl)
theorem dX4_readsValve_70 : decode cX4_readsValve 70 = .ok (.iload_n 3, 1) := dk_29 (dk_at dksX4_readsValve_2 23 rfl rfl)
theorem dX4_readsValve_71 : decode cX4_readsValve 71 = .ok (.iastore, 1) := dk_79 (dk_at dksX4_readsValve_3 0 rfl rfl)
theorem dX4_readsValve_72 : decode cX4_readsValve 72 = .ok (.return_, 1) := dk_177 (dk_at dksX4_readsValve_3 1 rfl rfl)
abbrev cX4_valveTold : ByteArray := prog_20_method_76_code
def yX4_valveTold : MethodName := ⟨RX4, "valveTold", "()I"⟩
def dkwX4_valveTold_7 : List UInt8 := [160, 0, 7, 4, 167, 0, 4, 3, 181, 0, 192, 21, 7, 172]
abbrev dktX4_valveTold_7 : List UInt8 := dkwX4_valveTold_7 ++ []
def dkwX4_valveTold_6 : List UInt8 := [154, 0, 7, 7, 167, 0, 5, 16, 247, 54, 7, 42, 42, 180, 0, 192, 154, 0, 10, 21, 7, 16, 247]
abbrev dktX4_valveTold_6 : List UInt8 := dkwX4_valveTold_6 ++ dktX4_valveTold_7
def dkwX4_valveTold_5 : List UInt8 := [16, 98, 16, 97, 16, 99, 16, 107, 184, 0, 204, 148, 154, 0, 7, 6, 167, 0, 16, 31, 22, 5, 148]
abbrev dktX4_valveTold_5 : List UInt8 := dkwX4_valveTold_5 ++ dktX4_valveTold_6
def dkwX4_valveTold_4 : List UInt8 := [16, 116, 184, 0, 204, 148, 154, 0, 7, 4, 167, 0, 46, 31, 33, 148, 154, 0, 7, 5, 167, 0, 36, 31]
abbrev dktX4_valveTold_4 : List UInt8 := dkwX4_valveTold_4 ++ dktX4_valveTold_5
def dkwX4_valveTold_3 : List UInt8 := [16, 114, 16, 101, 16, 101, 184, 0, 204, 148, 154, 0, 7, 3, 167, 0, 66, 31, 16, 115, 16, 104, 16, 117]
abbrev dktX4_valveTold_3 : List UInt8 := dkwX4_valveTold_3 ++ dktX4_valveTold_4
def dkwX4_valveTold_2 : List UInt8 := [16, 101, 16, 97, 16, 116, 184, 0, 204, 16, 105, 16, 110, 16, 103, 3, 184, 0, 208, 55, 5, 31, 16, 102]
abbrev dktX4_valveTold_2 : List UInt8 := dkwX4_valveTold_2 ++ dktX4_valveTold_3
def dkwX4_valveTold_1 : List UInt8 := [64, 16, 102, 16, 111, 16, 114, 16, 116, 184, 0, 204, 16, 104, 3, 3, 3, 184, 0, 208, 66, 16, 98]
abbrev dktX4_valveTold_1 : List UInt8 := dkwX4_valveTold_1 ++ dktX4_valveTold_2
def dkwX4_valveTold_0 : List UInt8 := [42, 180, 0, 192, 154, 0, 10, 42, 182, 0, 196, 154, 0, 9, 20, 0, 190, 167, 0, 7, 42, 182, 0, 200]
abbrev dktX4_valveTold_0 : List UInt8 := dkwX4_valveTold_0 ++ dktX4_valveTold_1
theorem dksX4_valveTold_0 : cX4_valveTold.data.toList.drop 0 = dktX4_valveTold_0 := by decide +kernel
theorem dksX4_valveTold_1 : cX4_valveTold.data.toList.drop 24 = dktX4_valveTold_1 := dk_seg dksX4_valveTold_0 24 rfl rfl
theorem dksX4_valveTold_2 : cX4_valveTold.data.toList.drop 47 = dktX4_valveTold_2 := dk_seg dksX4_valveTold_1 23 rfl rfl
theorem dksX4_valveTold_3 : cX4_valveTold.data.toList.drop 71 = dktX4_valveTold_3 := dk_seg dksX4_valveTold_2 24 rfl rfl
theorem dksX4_valveTold_4 : cX4_valveTold.data.toList.drop 95 = dktX4_valveTold_4 := dk_seg dksX4_valveTold_3 24 rfl rfl
theorem dksX4_valveTold_5 : cX4_valveTold.data.toList.drop 119 = dktX4_valveTold_5 := dk_seg dksX4_valveTold_4 24 rfl rfl
theorem dksX4_valveTold_6 : cX4_valveTold.data.toList.drop 142 = dktX4_valveTold_6 := dk_seg dksX4_valveTold_5 23 rfl rfl
theorem dksX4_valveTold_7 : cX4_valveTold.data.toList.drop 165 = dktX4_valveTold_7 := dk_seg dksX4_valveTold_6 23 rfl rfl
theorem dX4_valveTold_0 : decode cX4_valveTold 0 = .ok (.aload_n 0, 1) := dk_42 (dk_at dksX4_valveTold_0 0 rfl rfl)
theorem dX4_valveTold_1 : decode cX4_valveTold 1 = .ok (.getfield 192, 3) := dk_180 0 192 (dk_at dksX4_valveTold_0 1 rfl rfl)
theorem dX4_valveTold_4 : decode cX4_valveTold 4 = .ok (.ifCond .ne 10, 3) := dk_154 0 10 (dk_at dksX4_valveTold_0 4 rfl rfl)
theorem dX4_valveTold_7 : decode cX4_valveTold 7 = .ok (.aload_n 0, 1) := dk_42 (dk_at dksX4_valveTold_0 7 rfl rfl)
theorem dX4_valveTold_8 : decode cX4_valveTold 8 = .ok (.invokevirtual 196, 3) := dk_182 0 196 (dk_at dksX4_valveTold_0 8 rfl rfl)
theorem dX4_valveTold_11 : decode cX4_valveTold 11 = .ok (.ifCond .ne 9, 3) := dk_154 0 9 (dk_at dksX4_valveTold_0 11 rfl rfl)
theorem dX4_valveTold_14 : decode cX4_valveTold 14 = .ok (.ldc2_w 190, 3) := dk_20 0 190 (dk_at dksX4_valveTold_0 14 rfl rfl)
theorem dX4_valveTold_17 : decode cX4_valveTold 17 = .ok (.goto 7, 3) := dk_167 0 7 (dk_at dksX4_valveTold_0 17 rfl rfl)
theorem dX4_valveTold_20 : decode cX4_valveTold 20 = .ok (.aload_n 0, 1) := dk_42 (dk_at dksX4_valveTold_0 20 rfl rfl)
theorem dX4_valveTold_21 : decode cX4_valveTold 21 = .ok (.invokevirtual 200, 3) := dk_182 0 200 (dk_at dksX4_valveTold_0 21 rfl rfl)
theorem dX4_valveTold_24 : decode cX4_valveTold 24 = .ok (.lstore_n 1, 1) := dk_64 (dk_at dksX4_valveTold_1 0 rfl rfl)
theorem dX4_valveTold_25 : decode cX4_valveTold 25 = .ok (.bipush 102, 2) := dk_16 102 (dk_at dksX4_valveTold_1 1 rfl rfl)
theorem dX4_valveTold_27 : decode cX4_valveTold 27 = .ok (.bipush 111, 2) := dk_16 111 (dk_at dksX4_valveTold_1 3 rfl rfl)
theorem dX4_valveTold_29 : decode cX4_valveTold 29 = .ok (.bipush 114, 2) := dk_16 114 (dk_at dksX4_valveTold_1 5 rfl rfl)
theorem dX4_valveTold_31 : decode cX4_valveTold 31 = .ok (.bipush 116, 2) := dk_16 116 (dk_at dksX4_valveTold_1 7 rfl rfl)
theorem dX4_valveTold_33 : decode cX4_valveTold 33 = .ok (.invokestatic 204, 3) := dk_184 0 204 (dk_at dksX4_valveTold_1 9 rfl rfl)
theorem dX4_valveTold_36 : decode cX4_valveTold 36 = .ok (.bipush 104, 2) := dk_16 104 (dk_at dksX4_valveTold_1 12 rfl rfl)
theorem dX4_valveTold_38 : decode cX4_valveTold 38 = .ok (.iconst 0, 1) := dk_3 (dk_at dksX4_valveTold_1 14 rfl rfl)
theorem dX4_valveTold_39 : decode cX4_valveTold 39 = .ok (.iconst 0, 1) := dk_3 (dk_at dksX4_valveTold_1 15 rfl rfl)
theorem dX4_valveTold_40 : decode cX4_valveTold 40 = .ok (.iconst 0, 1) := dk_3 (dk_at dksX4_valveTold_1 16 rfl rfl)
theorem dX4_valveTold_41 : decode cX4_valveTold 41 = .ok (.invokestatic 208, 3) := dk_184 0 208 (dk_at dksX4_valveTold_1 17 rfl rfl)
theorem dX4_valveTold_44 : decode cX4_valveTold 44 = .ok (.lstore_n 3, 1) := dk_66 (dk_at dksX4_valveTold_1 20 rfl rfl)
theorem dX4_valveTold_45 : decode cX4_valveTold 45 = .ok (.bipush 98, 2) := dk_16 98 (dk_at dksX4_valveTold_1 21 rfl rfl)
theorem dX4_valveTold_47 : decode cX4_valveTold 47 = .ok (.bipush 101, 2) := dk_16 101 (dk_at dksX4_valveTold_2 0 rfl rfl)
theorem dX4_valveTold_49 : decode cX4_valveTold 49 = .ok (.bipush 97, 2) := dk_16 97 (dk_at dksX4_valveTold_2 2 rfl rfl)
theorem dX4_valveTold_51 : decode cX4_valveTold 51 = .ok (.bipush 116, 2) := dk_16 116 (dk_at dksX4_valveTold_2 4 rfl rfl)
theorem dX4_valveTold_53 : decode cX4_valveTold 53 = .ok (.invokestatic 204, 3) := dk_184 0 204 (dk_at dksX4_valveTold_2 6 rfl rfl)
theorem dX4_valveTold_56 : decode cX4_valveTold 56 = .ok (.bipush 105, 2) := dk_16 105 (dk_at dksX4_valveTold_2 9 rfl rfl)
theorem dX4_valveTold_58 : decode cX4_valveTold 58 = .ok (.bipush 110, 2) := dk_16 110 (dk_at dksX4_valveTold_2 11 rfl rfl)
theorem dX4_valveTold_60 : decode cX4_valveTold 60 = .ok (.bipush 103, 2) := dk_16 103 (dk_at dksX4_valveTold_2 13 rfl rfl)
theorem dX4_valveTold_62 : decode cX4_valveTold 62 = .ok (.iconst 0, 1) := dk_3 (dk_at dksX4_valveTold_2 15 rfl rfl)
theorem dX4_valveTold_63 : decode cX4_valveTold 63 = .ok (.invokestatic 208, 3) := dk_184 0 208 (dk_at dksX4_valveTold_2 16 rfl rfl)
theorem dX4_valveTold_66 : decode cX4_valveTold 66 = .ok (.lstore 5, 2) := dk_55 5 (dk_at dksX4_valveTold_2 19 rfl rfl)
theorem dX4_valveTold_68 : decode cX4_valveTold 68 = .ok (.lload_n 1, 1) := dk_31 (dk_at dksX4_valveTold_2 21 rfl rfl)
theorem dX4_valveTold_69 : decode cX4_valveTold 69 = .ok (.bipush 102, 2) := dk_16 102 (dk_at dksX4_valveTold_2 22 rfl rfl)
theorem dX4_valveTold_71 : decode cX4_valveTold 71 = .ok (.bipush 114, 2) := dk_16 114 (dk_at dksX4_valveTold_3 0 rfl rfl)
theorem dX4_valveTold_73 : decode cX4_valveTold 73 = .ok (.bipush 101, 2) := dk_16 101 (dk_at dksX4_valveTold_3 2 rfl rfl)
theorem dX4_valveTold_75 : decode cX4_valveTold 75 = .ok (.bipush 101, 2) := dk_16 101 (dk_at dksX4_valveTold_3 4 rfl rfl)
theorem dX4_valveTold_77 : decode cX4_valveTold 77 = .ok (.invokestatic 204, 3) := dk_184 0 204 (dk_at dksX4_valveTold_3 6 rfl rfl)
theorem dX4_valveTold_80 : decode cX4_valveTold 80 = .ok (.lcmp, 1) := dk_148 (dk_at dksX4_valveTold_3 9 rfl rfl)
theorem dX4_valveTold_81 : decode cX4_valveTold 81 = .ok (.ifCond .ne 7, 3) := dk_154 0 7 (dk_at dksX4_valveTold_3 10 rfl rfl)
theorem dX4_valveTold_84 : decode cX4_valveTold 84 = .ok (.iconst 0, 1) := dk_3 (dk_at dksX4_valveTold_3 13 rfl rfl)
theorem dX4_valveTold_85 : decode cX4_valveTold 85 = .ok (.goto 66, 3) := dk_167 0 66 (dk_at dksX4_valveTold_3 14 rfl rfl)
theorem dX4_valveTold_88 : decode cX4_valveTold 88 = .ok (.lload_n 1, 1) := dk_31 (dk_at dksX4_valveTold_3 17 rfl rfl)
theorem dX4_valveTold_89 : decode cX4_valveTold 89 = .ok (.bipush 115, 2) := dk_16 115 (dk_at dksX4_valveTold_3 18 rfl rfl)
theorem dX4_valveTold_91 : decode cX4_valveTold 91 = .ok (.bipush 104, 2) := dk_16 104 (dk_at dksX4_valveTold_3 20 rfl rfl)
theorem dX4_valveTold_93 : decode cX4_valveTold 93 = .ok (.bipush 117, 2) := dk_16 117 (dk_at dksX4_valveTold_3 22 rfl rfl)
theorem dX4_valveTold_95 : decode cX4_valveTold 95 = .ok (.bipush 116, 2) := dk_16 116 (dk_at dksX4_valveTold_4 0 rfl rfl)
theorem dX4_valveTold_97 : decode cX4_valveTold 97 = .ok (.invokestatic 204, 3) := dk_184 0 204 (dk_at dksX4_valveTold_4 2 rfl rfl)
theorem dX4_valveTold_100 : decode cX4_valveTold 100 = .ok (.lcmp, 1) := dk_148 (dk_at dksX4_valveTold_4 5 rfl rfl)
theorem dX4_valveTold_101 : decode cX4_valveTold 101 = .ok (.ifCond .ne 7, 3) := dk_154 0 7 (dk_at dksX4_valveTold_4 6 rfl rfl)
theorem dX4_valveTold_104 : decode cX4_valveTold 104 = .ok (.iconst 1, 1) := dk_4 (dk_at dksX4_valveTold_4 9 rfl rfl)
theorem dX4_valveTold_105 : decode cX4_valveTold 105 = .ok (.goto 46, 3) := dk_167 0 46 (dk_at dksX4_valveTold_4 10 rfl rfl)
theorem dX4_valveTold_108 : decode cX4_valveTold 108 = .ok (.lload_n 1, 1) := dk_31 (dk_at dksX4_valveTold_4 13 rfl rfl)
theorem dX4_valveTold_109 : decode cX4_valveTold 109 = .ok (.lload_n 3, 1) := dk_33 (dk_at dksX4_valveTold_4 14 rfl rfl)
theorem dX4_valveTold_110 : decode cX4_valveTold 110 = .ok (.lcmp, 1) := dk_148 (dk_at dksX4_valveTold_4 15 rfl rfl)
theorem dX4_valveTold_111 : decode cX4_valveTold 111 = .ok (.ifCond .ne 7, 3) := dk_154 0 7 (dk_at dksX4_valveTold_4 16 rfl rfl)
theorem dX4_valveTold_114 : decode cX4_valveTold 114 = .ok (.iconst 2, 1) := dk_5 (dk_at dksX4_valveTold_4 19 rfl rfl)
theorem dX4_valveTold_115 : decode cX4_valveTold 115 = .ok (.goto 36, 3) := dk_167 0 36 (dk_at dksX4_valveTold_4 20 rfl rfl)
theorem dX4_valveTold_118 : decode cX4_valveTold 118 = .ok (.lload_n 1, 1) := dk_31 (dk_at dksX4_valveTold_4 23 rfl rfl)
theorem dX4_valveTold_119 : decode cX4_valveTold 119 = .ok (.bipush 98, 2) := dk_16 98 (dk_at dksX4_valveTold_5 0 rfl rfl)
theorem dX4_valveTold_121 : decode cX4_valveTold 121 = .ok (.bipush 97, 2) := dk_16 97 (dk_at dksX4_valveTold_5 2 rfl rfl)
theorem dX4_valveTold_123 : decode cX4_valveTold 123 = .ok (.bipush 99, 2) := dk_16 99 (dk_at dksX4_valveTold_5 4 rfl rfl)
theorem dX4_valveTold_125 : decode cX4_valveTold 125 = .ok (.bipush 107, 2) := dk_16 107 (dk_at dksX4_valveTold_5 6 rfl rfl)
theorem dX4_valveTold_127 : decode cX4_valveTold 127 = .ok (.invokestatic 204, 3) := dk_184 0 204 (dk_at dksX4_valveTold_5 8 rfl rfl)
theorem dX4_valveTold_130 : decode cX4_valveTold 130 = .ok (.lcmp, 1) := dk_148 (dk_at dksX4_valveTold_5 11 rfl rfl)
theorem dX4_valveTold_131 : decode cX4_valveTold 131 = .ok (.ifCond .ne 7, 3) := dk_154 0 7 (dk_at dksX4_valveTold_5 12 rfl rfl)
theorem dX4_valveTold_134 : decode cX4_valveTold 134 = .ok (.iconst 3, 1) := dk_6 (dk_at dksX4_valveTold_5 15 rfl rfl)
theorem dX4_valveTold_135 : decode cX4_valveTold 135 = .ok (.goto 16, 3) := dk_167 0 16 (dk_at dksX4_valveTold_5 16 rfl rfl)
theorem dX4_valveTold_138 : decode cX4_valveTold 138 = .ok (.lload_n 1, 1) := dk_31 (dk_at dksX4_valveTold_5 19 rfl rfl)
theorem dX4_valveTold_139 : decode cX4_valveTold 139 = .ok (.lload 5, 2) := dk_22 5 (dk_at dksX4_valveTold_5 20 rfl rfl)
theorem dX4_valveTold_141 : decode cX4_valveTold 141 = .ok (.lcmp, 1) := dk_148 (dk_at dksX4_valveTold_5 22 rfl rfl)
theorem dX4_valveTold_142 : decode cX4_valveTold 142 = .ok (.ifCond .ne 7, 3) := dk_154 0 7 (dk_at dksX4_valveTold_6 0 rfl rfl)
theorem dX4_valveTold_145 : decode cX4_valveTold 145 = .ok (.iconst 4, 1) := dk_7 (dk_at dksX4_valveTold_6 3 rfl rfl)
theorem dX4_valveTold_146 : decode cX4_valveTold 146 = .ok (.goto 5, 3) := dk_167 0 5 (dk_at dksX4_valveTold_6 4 rfl rfl)
theorem dX4_valveTold_149 : decode cX4_valveTold 149 = .ok (.bipush (-9), 2) := dk_16 247 (dk_at dksX4_valveTold_6 7 rfl rfl)
theorem dX4_valveTold_151 : decode cX4_valveTold 151 = .ok (.istore 7, 2) := dk_54 7 (dk_at dksX4_valveTold_6 9 rfl rfl)
theorem dX4_valveTold_153 : decode cX4_valveTold 153 = .ok (.aload_n 0, 1) := dk_42 (dk_at dksX4_valveTold_6 11 rfl rfl)
theorem dX4_valveTold_154 : decode cX4_valveTold 154 = .ok (.aload_n 0, 1) := dk_42 (dk_at dksX4_valveTold_6 12 rfl rfl)
theorem dX4_valveTold_155 : decode cX4_valveTold 155 = .ok (.getfield 192, 3) := dk_180 0 192 (dk_at dksX4_valveTold_6 13 rfl rfl)
theorem dX4_valveTold_158 : decode cX4_valveTold 158 = .ok (.ifCond .ne 10, 3) := dk_154 0 10 (dk_at dksX4_valveTold_6 16 rfl rfl)
theorem dX4_valveTold_161 : decode cX4_valveTold 161 = .ok (.iload 7, 2) := dk_21 7 (dk_at dksX4_valveTold_6 19 rfl rfl)
theorem dX4_valveTold_163 : decode cX4_valveTold 163 = .ok (.bipush (-9), 2) := dk_16 247 (dk_at dksX4_valveTold_6 21 rfl rfl)
theorem dX4_valveTold_165 : decode cX4_valveTold 165 = .ok (.if_icmp .ne 7, 3) := dk_160 0 7 (dk_at dksX4_valveTold_7 0 rfl rfl)
theorem dX4_valveTold_168 : decode cX4_valveTold 168 = .ok (.iconst 1, 1) := dk_4 (dk_at dksX4_valveTold_7 3 rfl rfl)
theorem dX4_valveTold_169 : decode cX4_valveTold 169 = .ok (.goto 4, 3) := dk_167 0 4 (dk_at dksX4_valveTold_7 4 rfl rfl)
theorem dX4_valveTold_172 : decode cX4_valveTold 172 = .ok (.iconst 0, 1) := dk_3 (dk_at dksX4_valveTold_7 7 rfl rfl)
theorem dX4_valveTold_173 : decode cX4_valveTold 173 = .ok (.putfield 192, 3) := dk_181 0 192 (dk_at dksX4_valveTold_7 8 rfl rfl)
theorem dX4_valveTold_176 : decode cX4_valveTold 176 = .ok (.iload 7, 2) := dk_21 7 (dk_at dksX4_valveTold_7 11 rfl rfl)
theorem dX4_valveTold_178 : decode cX4_valveTold 178 = .ok (.ireturn, 1) := dk_172 (dk_at dksX4_valveTold_7 13 rfl rfl)
abbrev cX4_readsSource : ByteArray := prog_20_method_79_code
def yX4_readsSource : MethodName := ⟨RX4, "readsSource", "()V"⟩
def dkwX4_readsSource_3 : List UInt8 := [120, 96, 79, 177]
abbrev dktX4_readsSource_3 : List UInt8 := dkwX4_readsSource_3 ++ []
def dkwX4_readsSource_2 : List UInt8 := [3, 181, 0, 192, 42, 180, 0, 192, 154, 0, 19, 42, 180, 0, 7, 17, 1, 151, 27, 96, 92, 46, 4, 28]
abbrev dktX4_readsSource_2 : List UInt8 := dkwX4_readsSource_2 ++ dktX4_readsSource_3
def dkwX4_readsSource_1 : List UInt8 := [154, 0, 20, 42, 180, 0, 7, 17, 1, 151, 27, 96, 46, 28, 184, 0, 114, 153, 0, 7, 4, 167, 0, 4]
abbrev dktX4_readsSource_1 : List UInt8 := dkwX4_readsSource_1 ++ dktX4_readsSource_2
def dkwX4_readsSource_0 : List UInt8 := [42, 3, 42, 182, 0, 46, 4, 100, 182, 0, 212, 60, 42, 3, 5, 182, 0, 212, 61, 42, 42, 180, 0, 192]
abbrev dktX4_readsSource_0 : List UInt8 := dkwX4_readsSource_0 ++ dktX4_readsSource_1
theorem dksX4_readsSource_0 : cX4_readsSource.data.toList.drop 0 = dktX4_readsSource_0 := by decide +kernel
theorem dksX4_readsSource_1 : cX4_readsSource.data.toList.drop 24 = dktX4_readsSource_1 := dk_seg dksX4_readsSource_0 24 rfl rfl
theorem dksX4_readsSource_2 : cX4_readsSource.data.toList.drop 48 = dktX4_readsSource_2 := dk_seg dksX4_readsSource_1 24 rfl rfl
theorem dksX4_readsSource_3 : cX4_readsSource.data.toList.drop 72 = dktX4_readsSource_3 := dk_seg dksX4_readsSource_2 24 rfl rfl
theorem dX4_readsSource_0 : decode cX4_readsSource 0 = .ok (.aload_n 0, 1) := dk_42 (dk_at dksX4_readsSource_0 0 rfl rfl)
theorem dX4_readsSource_1 : decode cX4_readsSource 1 = .ok (.iconst 0, 1) := dk_3 (dk_at dksX4_readsSource_0 1 rfl rfl)
theorem dX4_readsSource_2 : decode cX4_readsSource 2 = .ok (.aload_n 0, 1) := dk_42 (dk_at dksX4_readsSource_0 2 rfl rfl)
theorem dX4_readsSource_3 : decode cX4_readsSource 3 = .ok (.invokevirtual 46, 3) := dk_182 0 46 (dk_at dksX4_readsSource_0 3 rfl rfl)
theorem dX4_readsSource_6 : decode cX4_readsSource 6 = .ok (.iconst 1, 1) := dk_4 (dk_at dksX4_readsSource_0 6 rfl rfl)
theorem dX4_readsSource_7 : decode cX4_readsSource 7 = .ok (.isub, 1) := dk_100 (dk_at dksX4_readsSource_0 7 rfl rfl)
theorem dX4_readsSource_8 : decode cX4_readsSource 8 = .ok (.invokevirtual 212, 3) := dk_182 0 212 (dk_at dksX4_readsSource_0 8 rfl rfl)
theorem dX4_readsSource_11 : decode cX4_readsSource 11 = .ok (.istore_n 1, 1) := dk_60 (dk_at dksX4_readsSource_0 11 rfl rfl)
theorem dX4_readsSource_12 : decode cX4_readsSource 12 = .ok (.aload_n 0, 1) := dk_42 (dk_at dksX4_readsSource_0 12 rfl rfl)
theorem dX4_readsSource_13 : decode cX4_readsSource 13 = .ok (.iconst 0, 1) := dk_3 (dk_at dksX4_readsSource_0 13 rfl rfl)
theorem dX4_readsSource_14 : decode cX4_readsSource 14 = .ok (.iconst 2, 1) := dk_5 (dk_at dksX4_readsSource_0 14 rfl rfl)
theorem dX4_readsSource_15 : decode cX4_readsSource 15 = .ok (.invokevirtual 212, 3) := dk_182 0 212 (dk_at dksX4_readsSource_0 15 rfl rfl)
theorem dX4_readsSource_18 : decode cX4_readsSource 18 = .ok (.istore_n 2, 1) := dk_61 (dk_at dksX4_readsSource_0 18 rfl rfl)
theorem dX4_readsSource_19 : decode cX4_readsSource 19 = .ok (.aload_n 0, 1) := dk_42 (dk_at dksX4_readsSource_0 19 rfl rfl)
theorem dX4_readsSource_20 : decode cX4_readsSource 20 = .ok (.aload_n 0, 1) := dk_42 (dk_at dksX4_readsSource_0 20 rfl rfl)
theorem dX4_readsSource_21 : decode cX4_readsSource 21 = .ok (.getfield 192, 3) := dk_180 0 192 (dk_at dksX4_readsSource_0 21 rfl rfl)
theorem dX4_readsSource_24 : decode cX4_readsSource 24 = .ok (.ifCond .ne 20, 3) := dk_154 0 20 (dk_at dksX4_readsSource_1 0 rfl rfl)
theorem dX4_readsSource_27 : decode cX4_readsSource 27 = .ok (.aload_n 0, 1) := dk_42 (dk_at dksX4_readsSource_1 3 rfl rfl)
theorem dX4_readsSource_28 : decode cX4_readsSource 28 = .ok (.getfield 7, 3) := dk_180 0 7 (dk_at dksX4_readsSource_1 4 rfl rfl)
theorem dX4_readsSource_31 : decode cX4_readsSource 31 = .ok (.sipush 407, 3) := dk_17 1 151 (dk_at dksX4_readsSource_1 7 rfl rfl)
theorem dX4_readsSource_34 : decode cX4_readsSource 34 = .ok (.iload_n 1, 1) := dk_27 (dk_at dksX4_readsSource_1 10 rfl rfl)
theorem dX4_readsSource_35 : decode cX4_readsSource 35 = .ok (.iadd, 1) := dk_96 (dk_at dksX4_readsSource_1 11 rfl rfl)
theorem dX4_readsSource_36 : decode cX4_readsSource 36 = .ok (.iaload, 1) := dk_46 (dk_at dksX4_readsSource_1 12 rfl rfl)
theorem dX4_readsSource_37 : decode cX4_readsSource 37 = .ok (.iload_n 2, 1) := dk_28 (dk_at dksX4_readsSource_1 13 rfl rfl)
theorem dX4_readsSource_38 : decode cX4_readsSource 38 = .ok (.invokestatic 114, 3) := dk_184 0 114 (dk_at dksX4_readsSource_1 14 rfl rfl)
theorem dX4_readsSource_41 : decode cX4_readsSource 41 = .ok (.ifCond .eq 7, 3) := dk_153 0 7 (dk_at dksX4_readsSource_1 17 rfl rfl)
theorem dX4_readsSource_44 : decode cX4_readsSource 44 = .ok (.iconst 1, 1) := dk_4 (dk_at dksX4_readsSource_1 20 rfl rfl)
theorem dX4_readsSource_45 : decode cX4_readsSource 45 = .ok (.goto 4, 3) := dk_167 0 4 (dk_at dksX4_readsSource_1 21 rfl rfl)
theorem dX4_readsSource_48 : decode cX4_readsSource 48 = .ok (.iconst 0, 1) := dk_3 (dk_at dksX4_readsSource_2 0 rfl rfl)
theorem dX4_readsSource_49 : decode cX4_readsSource 49 = .ok (.putfield 192, 3) := dk_181 0 192 (dk_at dksX4_readsSource_2 1 rfl rfl)
theorem dX4_readsSource_52 : decode cX4_readsSource 52 = .ok (.aload_n 0, 1) := dk_42 (dk_at dksX4_readsSource_2 4 rfl rfl)
theorem dX4_readsSource_53 : decode cX4_readsSource 53 = .ok (.getfield 192, 3) := dk_180 0 192 (dk_at dksX4_readsSource_2 5 rfl rfl)
theorem dX4_readsSource_56 : decode cX4_readsSource 56 = .ok (.ifCond .ne 19, 3) := dk_154 0 19 (dk_at dksX4_readsSource_2 8 rfl rfl)
theorem dX4_readsSource_59 : decode cX4_readsSource 59 = .ok (.aload_n 0, 1) := dk_42 (dk_at dksX4_readsSource_2 11 rfl rfl)
theorem dX4_readsSource_60 : decode cX4_readsSource 60 = .ok (.getfield 7, 3) := dk_180 0 7 (dk_at dksX4_readsSource_2 12 rfl rfl)
theorem dX4_readsSource_63 : decode cX4_readsSource 63 = .ok (.sipush 407, 3) := dk_17 1 151 (dk_at dksX4_readsSource_2 15 rfl rfl)
theorem dX4_readsSource_66 : decode cX4_readsSource 66 = .ok (.iload_n 1, 1) := dk_27 (dk_at dksX4_readsSource_2 18 rfl rfl)
theorem dX4_readsSource_67 : decode cX4_readsSource 67 = .ok (.iadd, 1) := dk_96 (dk_at dksX4_readsSource_2 19 rfl rfl)
theorem dX4_readsSource_68 : decode cX4_readsSource 68 = .ok (.dup2, 1) := dk_92 (dk_at dksX4_readsSource_2 20 rfl rfl)
theorem dX4_readsSource_69 : decode cX4_readsSource 69 = .ok (.iaload, 1) := dk_46 (dk_at dksX4_readsSource_2 21 rfl rfl)
theorem dX4_readsSource_70 : decode cX4_readsSource 70 = .ok (.iconst 1, 1) := dk_4 (dk_at dksX4_readsSource_2 22 rfl rfl)
theorem dX4_readsSource_71 : decode cX4_readsSource 71 = .ok (.iload_n 2, 1) := dk_28 (dk_at dksX4_readsSource_2 23 rfl rfl)
theorem dX4_readsSource_72 : decode cX4_readsSource 72 = .ok (.ishl, 1) := dk_120 (dk_at dksX4_readsSource_3 0 rfl rfl)
theorem dX4_readsSource_73 : decode cX4_readsSource 73 = .ok (.iadd, 1) := dk_96 (dk_at dksX4_readsSource_3 1 rfl rfl)
theorem dX4_readsSource_74 : decode cX4_readsSource 74 = .ok (.iastore, 1) := dk_79 (dk_at dksX4_readsSource_3 2 rfl rfl)
theorem dX4_readsSource_75 : decode cX4_readsSource 75 = .ok (.return_, 1) := dk_177 (dk_at dksX4_readsSource_3 3 rfl rfl)
abbrev cX4_takes : ByteArray := prog_20_method_74_code
def yX4_takes : MethodName := ⟨RX4, "takes", "(I)V"⟩
def dkwX4_takes_1 : List UInt8 := [27, 159, 0, 7, 4, 167, 0, 4, 3, 181, 0, 192, 177]
abbrev dktX4_takes_1 : List UInt8 := dkwX4_takes_1 ++ []
def dkwX4_takes_0 : List UInt8 := [42, 42, 180, 0, 192, 154, 0, 23, 42, 182, 0, 196, 153, 0, 16, 42, 180, 0, 19, 42, 180, 0, 177, 46]
abbrev dktX4_takes_0 : List UInt8 := dkwX4_takes_0 ++ dktX4_takes_1
theorem dksX4_takes_0 : cX4_takes.data.toList.drop 0 = dktX4_takes_0 := by decide +kernel
theorem dksX4_takes_1 : cX4_takes.data.toList.drop 24 = dktX4_takes_1 := dk_seg dksX4_takes_0 24 rfl rfl
theorem dX4_takes_0 : decode cX4_takes 0 = .ok (.aload_n 0, 1) := dk_42 (dk_at dksX4_takes_0 0 rfl rfl)
theorem dX4_takes_1 : decode cX4_takes 1 = .ok (.aload_n 0, 1) := dk_42 (dk_at dksX4_takes_0 1 rfl rfl)
theorem dX4_takes_2 : decode cX4_takes 2 = .ok (.getfield 192, 3) := dk_180 0 192 (dk_at dksX4_takes_0 2 rfl rfl)
theorem dX4_takes_5 : decode cX4_takes 5 = .ok (.ifCond .ne 23, 3) := dk_154 0 23 (dk_at dksX4_takes_0 5 rfl rfl)
theorem dX4_takes_8 : decode cX4_takes 8 = .ok (.aload_n 0, 1) := dk_42 (dk_at dksX4_takes_0 8 rfl rfl)
theorem dX4_takes_9 : decode cX4_takes 9 = .ok (.invokevirtual 196, 3) := dk_182 0 196 (dk_at dksX4_takes_0 9 rfl rfl)
theorem dX4_takes_12 : decode cX4_takes 12 = .ok (.ifCond .eq 16, 3) := dk_153 0 16 (dk_at dksX4_takes_0 12 rfl rfl)
theorem dX4_takes_15 : decode cX4_takes 15 = .ok (.aload_n 0, 1) := dk_42 (dk_at dksX4_takes_0 15 rfl rfl)
theorem dX4_takes_16 : decode cX4_takes 16 = .ok (.getfield 19, 3) := dk_180 0 19 (dk_at dksX4_takes_0 16 rfl rfl)
theorem dX4_takes_19 : decode cX4_takes 19 = .ok (.aload_n 0, 1) := dk_42 (dk_at dksX4_takes_0 19 rfl rfl)
theorem dX4_takes_20 : decode cX4_takes 20 = .ok (.getfield 177, 3) := dk_180 0 177 (dk_at dksX4_takes_0 20 rfl rfl)
theorem dX4_takes_23 : decode cX4_takes 23 = .ok (.iaload, 1) := dk_46 (dk_at dksX4_takes_0 23 rfl rfl)
theorem dX4_takes_24 : decode cX4_takes 24 = .ok (.iload_n 1, 1) := dk_27 (dk_at dksX4_takes_1 0 rfl rfl)
theorem dX4_takes_25 : decode cX4_takes 25 = .ok (.if_icmp .eq 7, 3) := dk_159 0 7 (dk_at dksX4_takes_1 1 rfl rfl)
theorem dX4_takes_28 : decode cX4_takes 28 = .ok (.iconst 1, 1) := dk_4 (dk_at dksX4_takes_1 4 rfl rfl)
theorem dX4_takes_29 : decode cX4_takes 29 = .ok (.goto 4, 3) := dk_167 0 4 (dk_at dksX4_takes_1 5 rfl rfl)
theorem dX4_takes_32 : decode cX4_takes 32 = .ok (.iconst 0, 1) := dk_3 (dk_at dksX4_takes_1 8 rfl rfl)
theorem dX4_takes_33 : decode cX4_takes 33 = .ok (.putfield 192, 3) := dk_181 0 192 (dk_at dksX4_takes_1 9 rfl rfl)
theorem dX4_takes_36 : decode cX4_takes 36 = .ok (.return_, 1) := dk_177 (dk_at dksX4_takes_1 12 rfl rfl)
abbrev cX4_loads : ByteArray := prog_20_method_83_code
def yX4_loads : MethodName := ⟨RX4, "loads", "()V"⟩
def dkwX4_loads_2 : List UInt8 := [182, 0, 150, 177]
abbrev dktX4_loads_2 : List UInt8 := dkwX4_loads_2 ++ []
def dkwX4_loads_1 : List UInt8 := [180, 0, 16, 27, 46, 79, 42, 180, 0, 16, 27, 28, 79, 132, 1, 1, 167, 255, 220, 42, 182, 0, 97, 42]
abbrev dktX4_loads_1 : List UInt8 := dkwX4_loads_1 ++ dktX4_loads_2
def dkwX4_loads_0 : List UInt8 := [3, 60, 27, 17, 2, 135, 162, 0, 35, 42, 180, 0, 7, 27, 46, 61, 42, 180, 0, 7, 27, 42]
abbrev dktX4_loads_0 : List UInt8 := dkwX4_loads_0 ++ dktX4_loads_1
theorem dksX4_loads_0 : cX4_loads.data.toList.drop 0 = dktX4_loads_0 := by decide +kernel
theorem dksX4_loads_1 : cX4_loads.data.toList.drop 22 = dktX4_loads_1 := dk_seg dksX4_loads_0 22 rfl rfl
theorem dksX4_loads_2 : cX4_loads.data.toList.drop 46 = dktX4_loads_2 := dk_seg dksX4_loads_1 24 rfl rfl
theorem dX4_loads_0 : decode cX4_loads 0 = .ok (.iconst 0, 1) := dk_3 (dk_at dksX4_loads_0 0 rfl rfl)
theorem dX4_loads_1 : decode cX4_loads 1 = .ok (.istore_n 1, 1) := dk_60 (dk_at dksX4_loads_0 1 rfl rfl)
theorem dX4_loads_2 : decode cX4_loads 2 = .ok (.iload_n 1, 1) := dk_27 (dk_at dksX4_loads_0 2 rfl rfl)
theorem dX4_loads_3 : decode cX4_loads 3 = .ok (.sipush 647, 3) := dk_17 2 135 (dk_at dksX4_loads_0 3 rfl rfl)
theorem dX4_loads_6 : decode cX4_loads 6 = .ok (.if_icmp .ge 35, 3) := dk_162 0 35 (dk_at dksX4_loads_0 6 rfl rfl)
theorem dX4_loads_9 : decode cX4_loads 9 = .ok (.aload_n 0, 1) := dk_42 (dk_at dksX4_loads_0 9 rfl rfl)
theorem dX4_loads_10 : decode cX4_loads 10 = .ok (.getfield 7, 3) := dk_180 0 7 (dk_at dksX4_loads_0 10 rfl rfl)
theorem dX4_loads_13 : decode cX4_loads 13 = .ok (.iload_n 1, 1) := dk_27 (dk_at dksX4_loads_0 13 rfl rfl)
theorem dX4_loads_14 : decode cX4_loads 14 = .ok (.iaload, 1) := dk_46 (dk_at dksX4_loads_0 14 rfl rfl)
theorem dX4_loads_15 : decode cX4_loads 15 = .ok (.istore_n 2, 1) := dk_61 (dk_at dksX4_loads_0 15 rfl rfl)
theorem dX4_loads_16 : decode cX4_loads 16 = .ok (.aload_n 0, 1) := dk_42 (dk_at dksX4_loads_0 16 rfl rfl)
theorem dX4_loads_17 : decode cX4_loads 17 = .ok (.getfield 7, 3) := dk_180 0 7 (dk_at dksX4_loads_0 17 rfl rfl)
theorem dX4_loads_20 : decode cX4_loads 20 = .ok (.iload_n 1, 1) := dk_27 (dk_at dksX4_loads_0 20 rfl rfl)
theorem dX4_loads_21 : decode cX4_loads 21 = .ok (.aload_n 0, 1) := dk_42 (dk_at dksX4_loads_0 21 rfl rfl)
theorem dX4_loads_22 : decode cX4_loads 22 = .ok (.getfield 16, 3) := dk_180 0 16 (dk_at dksX4_loads_1 0 rfl rfl)
theorem dX4_loads_25 : decode cX4_loads 25 = .ok (.iload_n 1, 1) := dk_27 (dk_at dksX4_loads_1 3 rfl rfl)
theorem dX4_loads_26 : decode cX4_loads 26 = .ok (.iaload, 1) := dk_46 (dk_at dksX4_loads_1 4 rfl rfl)
theorem dX4_loads_27 : decode cX4_loads 27 = .ok (.iastore, 1) := dk_79 (dk_at dksX4_loads_1 5 rfl rfl)
theorem dX4_loads_28 : decode cX4_loads 28 = .ok (.aload_n 0, 1) := dk_42 (dk_at dksX4_loads_1 6 rfl rfl)
theorem dX4_loads_29 : decode cX4_loads 29 = .ok (.getfield 16, 3) := dk_180 0 16 (dk_at dksX4_loads_1 7 rfl rfl)
theorem dX4_loads_32 : decode cX4_loads 32 = .ok (.iload_n 1, 1) := dk_27 (dk_at dksX4_loads_1 10 rfl rfl)
theorem dX4_loads_33 : decode cX4_loads 33 = .ok (.iload_n 2, 1) := dk_28 (dk_at dksX4_loads_1 11 rfl rfl)
theorem dX4_loads_34 : decode cX4_loads 34 = .ok (.iastore, 1) := dk_79 (dk_at dksX4_loads_1 12 rfl rfl)
theorem dX4_loads_35 : decode cX4_loads 35 = .ok (.iinc 1 1, 3) := dk_132 1 1 (dk_at dksX4_loads_1 13 rfl rfl)
theorem dX4_loads_38 : decode cX4_loads 38 = .ok (.goto (-36), 3) := dk_167 255 220 (dk_at dksX4_loads_1 16 rfl rfl)
theorem dX4_loads_41 : decode cX4_loads 41 = .ok (.aload_n 0, 1) := dk_42 (dk_at dksX4_loads_1 19 rfl rfl)
theorem dX4_loads_42 : decode cX4_loads 42 = .ok (.invokevirtual 97, 3) := dk_182 0 97 (dk_at dksX4_loads_1 20 rfl rfl)
theorem dX4_loads_45 : decode cX4_loads 45 = .ok (.aload_n 0, 1) := dk_42 (dk_at dksX4_loads_1 23 rfl rfl)
theorem dX4_loads_46 : decode cX4_loads 46 = .ok (.invokevirtual 150, 3) := dk_182 0 150 (dk_at dksX4_loads_2 0 rfl rfl)
theorem dX4_loads_49 : decode cX4_loads 49 = .ok (.return_, 1) := dk_177 (dk_at dksX4_loads_2 3 rfl rfl)
theorem q95 : (Jvm.Cond.initialized "DyeLatticeModel") ∈ lw_all := lw_g (lw_at lw_m1 12 rfl) rfl
theorem q327 : (Jvm.Cond.selects "DyeLatticeModel" ({ cls := "java/lang/Object", name := "getClass", desc := "()Ljava/lang/Class;" } : Jvm.MethodName) ({ cls := "java/lang/Object", name := "getClass", desc := "()Ljava/lang/Class;" } : Jvm.MethodName)) ∈ lw_all := lw_g (lw_at lw_m2 4 rfl) rfl
theorem q1159 : (Jvm.Cond.instantiable "DyeLatticeModel" (15 : Nat)) ∈ lw_all := lw_g (lw_at lw_m5 116 rfl) rfl
theorem q1161 : (Jvm.Cond.instanceMethod ({ cls := "DyeLatticeModel", name := "<init>", desc := "()V" } : Jvm.MethodName)) ∈ lw_all := lw_g (lw_at lw_m5 118 rfl) rfl
theorem q1162 : (Jvm.Cond.code ({ cls := "DyeLatticeModel", name := "<init>", desc := "()V" } : Jvm.MethodName) prog_20_method_1_code (1 : Nat) (Option.none : Option Jvm.ClassFile.FieldType)) ∈ lw_all := lw_g (lw_at lw_m5 119 rfl) rfl
theorem q1163 : (Jvm.Cond.methodLink "DyeLatticeModel" (1 : Nat) ({ cls := "java/lang/Object", name := "<init>", desc := "()V" } : Jvm.MethodName)) ∈ lw_all := lw_g (lw_at lw_m5 120 rfl) rfl
theorem q1164 : (Jvm.Cond.methodLink "DyeLatticeModel" (35 : Nat) ({ cls := "DyeLatticeModel", name := "begins", desc := "()V" } : Jvm.MethodName)) ∈ lw_all := lw_g (lw_at lw_m5 121 rfl) rfl
theorem q1165 : (Jvm.Cond.privateMethod ({ cls := "DyeLatticeModel", name := "begins", desc := "()V" } : Jvm.MethodName)) ∈ lw_tbl := lw_at lw_m5 122 rfl
theorem q1166 : (Jvm.Cond.instanceMethod ({ cls := "DyeLatticeModel", name := "begins", desc := "()V" } : Jvm.MethodName)) ∈ lw_all := lw_g (lw_at lw_m5 123 rfl) rfl
theorem q1167 : (Jvm.Cond.code ({ cls := "DyeLatticeModel", name := "begins", desc := "()V" } : Jvm.MethodName) prog_20_method_2_code (2 : Nat) (Option.none : Option Jvm.ClassFile.FieldType)) ∈ lw_all := lw_g (lw_at lw_m5 124 rfl) rfl
theorem q1168 : (Jvm.Cond.methodLink "DyeLatticeModel" (38 : Nat) ({ cls := "DyeLatticeModel", name := "sizes", desc := "(II)V" } : Jvm.MethodName)) ∈ lw_all := lw_g (lw_at lw_m5 125 rfl) rfl
theorem q1169 : (Jvm.Cond.privateMethod ({ cls := "DyeLatticeModel", name := "sizes", desc := "(II)V" } : Jvm.MethodName)) ∈ lw_tbl := lw_at lw_m5 126 rfl
theorem q1170 : (Jvm.Cond.instanceMethod ({ cls := "DyeLatticeModel", name := "sizes", desc := "(II)V" } : Jvm.MethodName)) ∈ lw_all := lw_g (lw_at lw_m5 127 rfl) rfl
theorem q1171 : (Jvm.Cond.code ({ cls := "DyeLatticeModel", name := "sizes", desc := "(II)V" } : Jvm.MethodName) prog_20_method_3_code (4 : Nat) (Option.none : Option Jvm.ClassFile.FieldType)) ∈ lw_all := lw_g (lw_at lw_m5 128 rfl) rfl
theorem q1172 : (Jvm.Cond.fieldLink "DyeLatticeModel" (7 : Nat) "DyeLatticeModel" "now" "[I") ∈ lw_all := lw_g (lw_at lw_m5 129 rfl) rfl
theorem q1173 : (Jvm.Cond.fieldLink "DyeLatticeModel" (13 : Nat) "DyeLatticeModel" "past" "[I") ∈ lw_all := lw_g (lw_at lw_m5 130 rfl) rfl
theorem q1174 : (Jvm.Cond.fieldLink "DyeLatticeModel" (16 : Nat) "DyeLatticeModel" "kept" "[I") ∈ lw_all := lw_g (lw_at lw_m5 131 rfl) rfl
theorem q1175 : (Jvm.Cond.fieldLink "DyeLatticeModel" (42 : Nat) "DyeLatticeModel" "saved" "I") ∈ lw_all := lw_g (lw_at lw_m5 132 rfl) rfl
theorem q1176 : (Jvm.Cond.fieldLink "DyeLatticeModel" (19 : Nat) "DyeLatticeModel" "text" "[I") ∈ lw_all := lw_g (lw_at lw_m5 133 rfl) rfl
theorem q1177 : (Jvm.Cond.fieldLink "DyeLatticeModel" (141 : Nat) "DyeLatticeModel" "length" "I") ∈ lw_all := lw_g (lw_at lw_m5 134 rfl) rfl
theorem q1178 : (Jvm.Cond.fieldLink "DyeLatticeModel" (22 : Nat) "DyeLatticeModel" "queue" "[I") ∈ lw_all := lw_g (lw_at lw_m5 135 rfl) rfl
theorem q1179 : (Jvm.Cond.fieldLink "DyeLatticeModel" (25 : Nat) "DyeLatticeModel" "isMet" "[Z") ∈ lw_all := lw_g (lw_at lw_m5 136 rfl) rfl
theorem q1180 : (Jvm.Cond.fieldLink "DyeLatticeModel" (73 : Nat) "DyeLatticeModel" "met" "I") ∈ lw_all := lw_g (lw_at lw_m5 137 rfl) rfl
theorem q1181 : (Jvm.Cond.fieldLink "DyeLatticeModel" (29 : Nat) "DyeLatticeModel" "clusterOf" "[I") ∈ lw_all := lw_g (lw_at lw_m5 138 rfl) rfl
theorem q1182 : (Jvm.Cond.fieldLink "DyeLatticeModel" (94 : Nat) "DyeLatticeModel" "clusters" "I") ∈ lw_all := lw_g (lw_at lw_m5 139 rfl) rfl
theorem q1183 : (Jvm.Cond.fieldLink "DyeLatticeModel" (32 : Nat) "DyeLatticeModel" "fresh" "[I") ∈ lw_all := lw_g (lw_at lw_m5 140 rfl) rfl
theorem q1184 : (Jvm.Cond.fieldLink "DyeLatticeModel" (177 : Nat) "DyeLatticeModel" "from" "I") ∈ lw_all := lw_g (lw_at lw_m5 141 rfl) rfl
theorem q1185 : (Jvm.Cond.fieldLink "DyeLatticeModel" (174 : Nat) "DyeLatticeModel" "end" "I") ∈ lw_all := lw_g (lw_at lw_m5 142 rfl) rfl
theorem q1186 : (Jvm.Cond.fieldLink "DyeLatticeModel" (192 : Nat) "DyeLatticeModel" "isWrong" "Z") ∈ lw_all := lw_g (lw_at lw_m5 143 rfl) rfl
theorem q1187 : (Jvm.Cond.laysFinal "DyeLatticeModel" "DyeLatticeModel" "now" "[I") ∈ lw_all := lw_g (lw_at lw_m5 144 rfl) rfl
theorem q1188 : (Jvm.Cond.soleField "DyeLatticeModel" "now") ∈ lw_all := lw_g (lw_at lw_m5 145 rfl) rfl
theorem q1189 : (Jvm.Cond.laysFinal "DyeLatticeModel" "DyeLatticeModel" "past" "[I") ∈ lw_all := lw_g (lw_at lw_m5 146 rfl) rfl
theorem q1190 : (Jvm.Cond.soleField "DyeLatticeModel" "past") ∈ lw_all := lw_g (lw_at lw_m5 147 rfl) rfl
theorem q1191 : (Jvm.Cond.laysFinal "DyeLatticeModel" "DyeLatticeModel" "kept" "[I") ∈ lw_all := lw_g (lw_at lw_m5 148 rfl) rfl
theorem q1192 : (Jvm.Cond.soleField "DyeLatticeModel" "kept") ∈ lw_all := lw_g (lw_at lw_m5 149 rfl) rfl
theorem q1193 : (Jvm.Cond.lays "DyeLatticeModel" "DyeLatticeModel" "saved" "I") ∈ lw_all := lw_g (lw_at lw_m5 150 rfl) rfl
theorem q1194 : (Jvm.Cond.soleField "DyeLatticeModel" "saved") ∈ lw_all := lw_g (lw_at lw_m5 151 rfl) rfl
theorem q1195 : (Jvm.Cond.laysFinal "DyeLatticeModel" "DyeLatticeModel" "text" "[I") ∈ lw_all := lw_g (lw_at lw_m5 152 rfl) rfl
theorem q1196 : (Jvm.Cond.soleField "DyeLatticeModel" "text") ∈ lw_all := lw_g (lw_at lw_m5 153 rfl) rfl
theorem q1197 : (Jvm.Cond.lays "DyeLatticeModel" "DyeLatticeModel" "length" "I") ∈ lw_all := lw_g (lw_at lw_m5 154 rfl) rfl
theorem q1198 : (Jvm.Cond.soleField "DyeLatticeModel" "length") ∈ lw_all := lw_g (lw_at lw_m5 155 rfl) rfl
theorem q1199 : (Jvm.Cond.laysFinal "DyeLatticeModel" "DyeLatticeModel" "queue" "[I") ∈ lw_all := lw_g (lw_at lw_m5 156 rfl) rfl
theorem q1200 : (Jvm.Cond.soleField "DyeLatticeModel" "queue") ∈ lw_all := lw_g (lw_at lw_m5 157 rfl) rfl
theorem q1201 : (Jvm.Cond.laysFinal "DyeLatticeModel" "DyeLatticeModel" "isMet" "[Z") ∈ lw_all := lw_g (lw_at lw_m5 158 rfl) rfl
theorem q1202 : (Jvm.Cond.soleField "DyeLatticeModel" "isMet") ∈ lw_all := lw_g (lw_at lw_m5 159 rfl) rfl
theorem q1203 : (Jvm.Cond.lays "DyeLatticeModel" "DyeLatticeModel" "met" "I") ∈ lw_all := lw_g (lw_at lw_m5 160 rfl) rfl
theorem q1204 : (Jvm.Cond.soleField "DyeLatticeModel" "met") ∈ lw_all := lw_g (lw_at lw_m5 161 rfl) rfl
theorem q1205 : (Jvm.Cond.laysFinal "DyeLatticeModel" "DyeLatticeModel" "clusterOf" "[I") ∈ lw_all := lw_g (lw_at lw_m5 162 rfl) rfl
theorem q1206 : (Jvm.Cond.soleField "DyeLatticeModel" "clusterOf") ∈ lw_all := lw_g (lw_at lw_m5 163 rfl) rfl
theorem q1207 : (Jvm.Cond.lays "DyeLatticeModel" "DyeLatticeModel" "clusters" "I") ∈ lw_all := lw_g (lw_at lw_m5 164 rfl) rfl
theorem q1208 : (Jvm.Cond.soleField "DyeLatticeModel" "clusters") ∈ lw_all := lw_g (lw_at lw_m5 165 rfl) rfl
theorem q1209 : (Jvm.Cond.laysFinal "DyeLatticeModel" "DyeLatticeModel" "fresh" "[I") ∈ lw_all := lw_g (lw_at lw_m5 166 rfl) rfl
theorem q1210 : (Jvm.Cond.soleField "DyeLatticeModel" "fresh") ∈ lw_all := lw_g (lw_at lw_m5 167 rfl) rfl
theorem q1211 : (Jvm.Cond.lays "DyeLatticeModel" "DyeLatticeModel" "from" "I") ∈ lw_all := lw_g (lw_at lw_m5 168 rfl) rfl
theorem q1212 : (Jvm.Cond.soleField "DyeLatticeModel" "from") ∈ lw_all := lw_g (lw_at lw_m5 169 rfl) rfl
theorem q1213 : (Jvm.Cond.lays "DyeLatticeModel" "DyeLatticeModel" "end" "I") ∈ lw_all := lw_g (lw_at lw_m5 170 rfl) rfl
theorem q1214 : (Jvm.Cond.soleField "DyeLatticeModel" "end") ∈ lw_all := lw_g (lw_at lw_m5 171 rfl) rfl
theorem q1215 : (Jvm.Cond.lays "DyeLatticeModel" "DyeLatticeModel" "isWrong" "Z") ∈ lw_all := lw_g (lw_at lw_m5 172 rfl) rfl
theorem q1216 : (Jvm.Cond.soleField "DyeLatticeModel" "isWrong") ∈ lw_all := lw_g (lw_at lw_m5 173 rfl) rfl
theorem q1217 : (Jvm.Cond.superclass "DyeLatticeModel" "java/lang/Object") ∈ lw_all := lw_g (lw_at lw_m5 174 rfl) rfl
theorem q1219 : (Jvm.Cond.instanceMethod ({ cls := "DyeLatticeModel", name := "undo", desc := "()I" } : Jvm.MethodName)) ∈ lw_all := lw_g (lw_at lw_m5 176 rfl) rfl
theorem q1220 : (Jvm.Cond.selects "DyeLatticeModel" ({ cls := "DyeLatticeModel", name := "undo", desc := "()I" } : Jvm.MethodName) ({ cls := "DyeLatticeModel", name := "undo", desc := "()I" } : Jvm.MethodName)) ∈ lw_all := lw_g (lw_at lw_m5 177 rfl) rfl
theorem q1221 : (Jvm.Cond.code ({ cls := "DyeLatticeModel", name := "undo", desc := "()I" } : Jvm.MethodName) prog_20_method_5_code (2 : Nat) (Option.some Jvm.ClassFile.FieldType.int)) ∈ lw_all := lw_g (lw_at lw_m5 178 rfl) rfl
theorem q1223 : (Jvm.Cond.instanceMethod ({ cls := "DyeLatticeModel", name := "setSize", desc := "(II)I" } : Jvm.MethodName)) ∈ lw_all := lw_g (lw_at lw_m5 180 rfl) rfl
theorem q1224 : (Jvm.Cond.selects "DyeLatticeModel" ({ cls := "DyeLatticeModel", name := "setSize", desc := "(II)I" } : Jvm.MethodName) ({ cls := "DyeLatticeModel", name := "setSize", desc := "(II)I" } : Jvm.MethodName)) ∈ lw_all := lw_g (lw_at lw_m5 181 rfl) rfl
theorem q1225 : (Jvm.Cond.code ({ cls := "DyeLatticeModel", name := "setSize", desc := "(II)I" } : Jvm.MethodName) prog_20_method_26_code (3 : Nat) (Option.some Jvm.ClassFile.FieldType.int)) ∈ lw_all := lw_g (lw_at lw_m5 182 rfl) rfl
theorem q1226 : (Jvm.Cond.methodLink "DyeLatticeModel" (50 : Nat) ({ cls := "DyeLatticeModel", name := "within", desc := "(III)Z" } : Jvm.MethodName)) ∈ lw_all := lw_g (lw_at lw_m5 183 rfl) rfl
theorem q1227 : (Jvm.Cond.static ({ cls := "DyeLatticeModel", name := "within", desc := "(III)Z" } : Jvm.MethodName)) ∈ lw_all := lw_g (lw_at lw_m5 184 rfl) rfl
theorem q1228 : (Jvm.Cond.code ({ cls := "DyeLatticeModel", name := "within", desc := "(III)Z" } : Jvm.MethodName) prog_20_method_8_code (3 : Nat) (Option.some Jvm.ClassFile.FieldType.boolean)) ∈ lw_all := lw_g (lw_at lw_m5 185 rfl) rfl
theorem q1229 : (Jvm.Cond.methodLink "DyeLatticeModel" (97 : Nat) ({ cls := "DyeLatticeModel", name := "saves", desc := "()V" } : Jvm.MethodName)) ∈ lw_all := lw_g (lw_at lw_m5 186 rfl) rfl
theorem q1230 : (Jvm.Cond.privateMethod ({ cls := "DyeLatticeModel", name := "saves", desc := "()V" } : Jvm.MethodName)) ∈ lw_tbl := lw_at lw_m5 187 rfl
theorem q1231 : (Jvm.Cond.instanceMethod ({ cls := "DyeLatticeModel", name := "saves", desc := "()V" } : Jvm.MethodName)) ∈ lw_all := lw_g (lw_at lw_m5 188 rfl) rfl
theorem q1232 : (Jvm.Cond.code ({ cls := "DyeLatticeModel", name := "saves", desc := "()V" } : Jvm.MethodName) prog_20_method_4_code (2 : Nat) (Option.none : Option Jvm.ClassFile.FieldType)) ∈ lw_all := lw_g (lw_at lw_m5 189 rfl) rfl
theorem q1233 : (Jvm.Cond.methodLink "DyeLatticeModel" (46 : Nat) ({ cls := "DyeLatticeModel", name := "cells", desc := "()I" } : Jvm.MethodName)) ∈ lw_all := lw_g (lw_at lw_m5 190 rfl) rfl
theorem q1234 : (Jvm.Cond.privateMethod ({ cls := "DyeLatticeModel", name := "cells", desc := "()I" } : Jvm.MethodName)) ∈ lw_tbl := lw_at lw_m5 191 rfl
theorem q1235 : (Jvm.Cond.instanceMethod ({ cls := "DyeLatticeModel", name := "cells", desc := "()I" } : Jvm.MethodName)) ∈ lw_all := lw_g (lw_at lw_m5 192 rfl) rfl
theorem q1236 : (Jvm.Cond.code ({ cls := "DyeLatticeModel", name := "cells", desc := "()I" } : Jvm.MethodName) prog_20_method_9_code (1 : Nat) (Option.some Jvm.ClassFile.FieldType.int)) ∈ lw_all := lw_g (lw_at lw_m5 193 rfl) rfl
theorem q1238 : (Jvm.Cond.instanceMethod ({ cls := "DyeLatticeModel", name := "setKind", desc := "(I)I" } : Jvm.MethodName)) ∈ lw_all := lw_g (lw_at lw_m5 195 rfl) rfl
theorem q1239 : (Jvm.Cond.selects "DyeLatticeModel" ({ cls := "DyeLatticeModel", name := "setKind", desc := "(I)I" } : Jvm.MethodName) ({ cls := "DyeLatticeModel", name := "setKind", desc := "(I)I" } : Jvm.MethodName)) ∈ lw_all := lw_g (lw_at lw_m5 196 rfl) rfl
theorem q1240 : (Jvm.Cond.code ({ cls := "DyeLatticeModel", name := "setKind", desc := "(I)I" } : Jvm.MethodName) prog_20_method_28_code (2 : Nat) (Option.some Jvm.ClassFile.FieldType.int)) ∈ lw_all := lw_g (lw_at lw_m5 197 rfl) rfl
theorem q1241 : (Jvm.Cond.methodLink "DyeLatticeModel" (100 : Nat) ({ cls := "DyeLatticeModel", name := "kinds", desc := "(I)V" } : Jvm.MethodName)) ∈ lw_all := lw_g (lw_at lw_m5 198 rfl) rfl
theorem q1242 : (Jvm.Cond.privateMethod ({ cls := "DyeLatticeModel", name := "kinds", desc := "(I)V" } : Jvm.MethodName)) ∈ lw_tbl := lw_at lw_m5 199 rfl
theorem q1243 : (Jvm.Cond.instanceMethod ({ cls := "DyeLatticeModel", name := "kinds", desc := "(I)V" } : Jvm.MethodName)) ∈ lw_all := lw_g (lw_at lw_m5 200 rfl) rfl
theorem q1244 : (Jvm.Cond.code ({ cls := "DyeLatticeModel", name := "kinds", desc := "(I)V" } : Jvm.MethodName) prog_20_method_27_code (3 : Nat) (Option.none : Option Jvm.ClassFile.FieldType)) ∈ lw_all := lw_g (lw_at lw_m5 201 rfl) rfl
theorem q1245 : (Jvm.Cond.methodLink "DyeLatticeModel" (104 : Nat) ({ cls := "DyeLatticeModel", name := "bonds", desc := "()I" } : Jvm.MethodName)) ∈ lw_all := lw_g (lw_at lw_m5 202 rfl) rfl
theorem q1246 : (Jvm.Cond.privateMethod ({ cls := "DyeLatticeModel", name := "bonds", desc := "()I" } : Jvm.MethodName)) ∈ lw_tbl := lw_at lw_m5 203 rfl
theorem q1247 : (Jvm.Cond.instanceMethod ({ cls := "DyeLatticeModel", name := "bonds", desc := "()I" } : Jvm.MethodName)) ∈ lw_all := lw_g (lw_at lw_m5 204 rfl) rfl
theorem q1248 : (Jvm.Cond.code ({ cls := "DyeLatticeModel", name := "bonds", desc := "()I" } : Jvm.MethodName) prog_20_method_17_code (4 : Nat) (Option.some Jvm.ClassFile.FieldType.int)) ∈ lw_all := lw_g (lw_at lw_m5 205 rfl) rfl
theorem q1249 : (Jvm.Cond.methodLink "DyeLatticeModel" (62 : Nat) ({ cls := "DyeLatticeModel", name := "second", desc := "(II)I" } : Jvm.MethodName)) ∈ lw_all := lw_g (lw_at lw_m5 206 rfl) rfl
theorem q1250 : (Jvm.Cond.privateMethod ({ cls := "DyeLatticeModel", name := "second", desc := "(II)I" } : Jvm.MethodName)) ∈ lw_tbl := lw_at lw_m5 207 rfl
theorem q1251 : (Jvm.Cond.instanceMethod ({ cls := "DyeLatticeModel", name := "second", desc := "(II)I" } : Jvm.MethodName)) ∈ lw_all := lw_g (lw_at lw_m5 208 rfl) rfl
theorem q1252 : (Jvm.Cond.code ({ cls := "DyeLatticeModel", name := "second", desc := "(II)I" } : Jvm.MethodName) prog_20_method_12_code (5 : Nat) (Option.some Jvm.ClassFile.FieldType.int)) ∈ lw_all := lw_g (lw_at lw_m5 209 rfl) rfl
theorem q1253 : (Jvm.Cond.methodLink "DyeLatticeModel" (54 : Nat) ({ cls := "DyeLatticeModel", name := "isCell", desc := "(I)Z" } : Jvm.MethodName)) ∈ lw_all := lw_g (lw_at lw_m5 210 rfl) rfl
theorem q1254 : (Jvm.Cond.privateMethod ({ cls := "DyeLatticeModel", name := "isCell", desc := "(I)Z" } : Jvm.MethodName)) ∈ lw_tbl := lw_at lw_m5 211 rfl
theorem q1255 : (Jvm.Cond.instanceMethod ({ cls := "DyeLatticeModel", name := "isCell", desc := "(I)Z" } : Jvm.MethodName)) ∈ lw_all := lw_g (lw_at lw_m5 212 rfl) rfl
theorem q1256 : (Jvm.Cond.code ({ cls := "DyeLatticeModel", name := "isCell", desc := "(I)Z" } : Jvm.MethodName) prog_20_method_10_code (2 : Nat) (Option.some Jvm.ClassFile.FieldType.boolean)) ∈ lw_all := lw_g (lw_at lw_m5 213 rfl) rfl
theorem q1257 : (Jvm.Cond.methodLink "DyeLatticeModel" (58 : Nat) ({ cls := "DyeLatticeModel", name := "column", desc := "(I)I" } : Jvm.MethodName)) ∈ lw_all := lw_g (lw_at lw_m5 214 rfl) rfl
theorem q1258 : (Jvm.Cond.privateMethod ({ cls := "DyeLatticeModel", name := "column", desc := "(I)I" } : Jvm.MethodName)) ∈ lw_tbl := lw_at lw_m5 215 rfl
theorem q1259 : (Jvm.Cond.instanceMethod ({ cls := "DyeLatticeModel", name := "column", desc := "(I)I" } : Jvm.MethodName)) ∈ lw_all := lw_g (lw_at lw_m5 216 rfl) rfl
theorem q1260 : (Jvm.Cond.code ({ cls := "DyeLatticeModel", name := "column", desc := "(I)I" } : Jvm.MethodName) prog_20_method_11_code (2 : Nat) (Option.some Jvm.ClassFile.FieldType.int)) ∈ lw_all := lw_g (lw_at lw_m5 217 rfl) rfl
theorem q1262 : (Jvm.Cond.instanceMethod ({ cls := "DyeLatticeModel", name := "setGrain", desc := "(II)I" } : Jvm.MethodName)) ∈ lw_all := lw_g (lw_at lw_m5 219 rfl) rfl
theorem q1263 : (Jvm.Cond.selects "DyeLatticeModel" ({ cls := "DyeLatticeModel", name := "setGrain", desc := "(II)I" } : Jvm.MethodName) ({ cls := "DyeLatticeModel", name := "setGrain", desc := "(II)I" } : Jvm.MethodName)) ∈ lw_all := lw_g (lw_at lw_m5 220 rfl) rfl
theorem q1264 : (Jvm.Cond.code ({ cls := "DyeLatticeModel", name := "setGrain", desc := "(II)I" } : Jvm.MethodName) prog_20_method_29_code (4 : Nat) (Option.some Jvm.ClassFile.FieldType.int)) ∈ lw_all := lw_g (lw_at lw_m5 221 rfl) rfl
theorem q1266 : (Jvm.Cond.instanceMethod ({ cls := "DyeLatticeModel", name := "fill", desc := "(I)I" } : Jvm.MethodName)) ∈ lw_all := lw_g (lw_at lw_m5 223 rfl) rfl
theorem q1267 : (Jvm.Cond.selects "DyeLatticeModel" ({ cls := "DyeLatticeModel", name := "fill", desc := "(I)I" } : Jvm.MethodName) ({ cls := "DyeLatticeModel", name := "fill", desc := "(I)I" } : Jvm.MethodName)) ∈ lw_all := lw_g (lw_at lw_m5 224 rfl) rfl
theorem q1268 : (Jvm.Cond.code ({ cls := "DyeLatticeModel", name := "fill", desc := "(I)I" } : Jvm.MethodName) prog_20_method_31_code (2 : Nat) (Option.some Jvm.ClassFile.FieldType.int)) ∈ lw_all := lw_g (lw_at lw_m5 225 rfl) rfl
theorem q1269 : (Jvm.Cond.methodLink "DyeLatticeModel" (108 : Nat) ({ cls := "DyeLatticeModel", name := "fills", desc := "(I)V" } : Jvm.MethodName)) ∈ lw_all := lw_g (lw_at lw_m5 226 rfl) rfl
theorem q1270 : (Jvm.Cond.privateMethod ({ cls := "DyeLatticeModel", name := "fills", desc := "(I)V" } : Jvm.MethodName)) ∈ lw_tbl := lw_at lw_m5 227 rfl
theorem q1271 : (Jvm.Cond.instanceMethod ({ cls := "DyeLatticeModel", name := "fills", desc := "(I)V" } : Jvm.MethodName)) ∈ lw_all := lw_g (lw_at lw_m5 228 rfl) rfl
theorem q1272 : (Jvm.Cond.code ({ cls := "DyeLatticeModel", name := "fills", desc := "(I)V" } : Jvm.MethodName) prog_20_method_30_code (4 : Nat) (Option.none : Option Jvm.ClassFile.FieldType)) ∈ lw_all := lw_g (lw_at lw_m5 229 rfl) rfl
theorem q1273 : (Jvm.Cond.constant "DyeLatticeModel" (107 : Nat) (65537 : Int32)) ∈ lw_all := lw_g (lw_at lw_m5 230 rfl) rfl
theorem q1274 : (Jvm.Cond.methodLink "DyeLatticeModel" (111 : Nat) ({ cls := "DyeLatticeModel", name := "openAt", desc := "(I)I" } : Jvm.MethodName)) ∈ lw_all := lw_g (lw_at lw_m5 231 rfl) rfl
theorem q1275 : (Jvm.Cond.privateMethod ({ cls := "DyeLatticeModel", name := "openAt", desc := "(I)I" } : Jvm.MethodName)) ∈ lw_tbl := lw_at lw_m5 232 rfl
theorem q1276 : (Jvm.Cond.instanceMethod ({ cls := "DyeLatticeModel", name := "openAt", desc := "(I)I" } : Jvm.MethodName)) ∈ lw_all := lw_g (lw_at lw_m5 233 rfl) rfl
theorem q1277 : (Jvm.Cond.code ({ cls := "DyeLatticeModel", name := "openAt", desc := "(I)I" } : Jvm.MethodName) prog_20_method_16_code (4 : Nat) (Option.some Jvm.ClassFile.FieldType.int)) ∈ lw_all := lw_g (lw_at lw_m5 234 rfl) rfl
theorem q1278 : (Jvm.Cond.methodLink "DyeLatticeModel" (66 : Nat) ({ cls := "DyeLatticeModel", name := "isOpen", desc := "(II)Z" } : Jvm.MethodName)) ∈ lw_all := lw_g (lw_at lw_m5 235 rfl) rfl
theorem q1279 : (Jvm.Cond.privateMethod ({ cls := "DyeLatticeModel", name := "isOpen", desc := "(II)Z" } : Jvm.MethodName)) ∈ lw_tbl := lw_at lw_m5 236 rfl
theorem q1280 : (Jvm.Cond.instanceMethod ({ cls := "DyeLatticeModel", name := "isOpen", desc := "(II)Z" } : Jvm.MethodName)) ∈ lw_all := lw_g (lw_at lw_m5 237 rfl) rfl
theorem q1281 : (Jvm.Cond.code ({ cls := "DyeLatticeModel", name := "isOpen", desc := "(II)Z" } : Jvm.MethodName) prog_20_method_15_code (3 : Nat) (Option.some Jvm.ClassFile.FieldType.boolean)) ∈ lw_all := lw_g (lw_at lw_m5 238 rfl) rfl
theorem q1283 : (Jvm.Cond.instanceMethod ({ cls := "DyeLatticeModel", name := "setValve", desc := "(III)I" } : Jvm.MethodName)) ∈ lw_all := lw_g (lw_at lw_m6 0 rfl) rfl
theorem q1284 : (Jvm.Cond.selects "DyeLatticeModel" ({ cls := "DyeLatticeModel", name := "setValve", desc := "(III)I" } : Jvm.MethodName) ({ cls := "DyeLatticeModel", name := "setValve", desc := "(III)I" } : Jvm.MethodName)) ∈ lw_all := lw_g (lw_at lw_m6 1 rfl) rfl
theorem q1285 : (Jvm.Cond.code ({ cls := "DyeLatticeModel", name := "setValve", desc := "(III)I" } : Jvm.MethodName) prog_20_method_32_code (5 : Nat) (Option.some Jvm.ClassFile.FieldType.int)) ∈ lw_all := lw_g (lw_at lw_m6 2 rfl) rfl
theorem q1286 : (Jvm.Cond.methodLink "DyeLatticeModel" (70 : Nat) ({ cls := "DyeLatticeModel", name := "valveOf", desc := "(II)I" } : Jvm.MethodName)) ∈ lw_all := lw_g (lw_at lw_m6 3 rfl) rfl
theorem q1287 : (Jvm.Cond.privateMethod ({ cls := "DyeLatticeModel", name := "valveOf", desc := "(II)I" } : Jvm.MethodName)) ∈ lw_tbl := lw_at lw_m6 4 rfl
theorem q1288 : (Jvm.Cond.instanceMethod ({ cls := "DyeLatticeModel", name := "valveOf", desc := "(II)I" } : Jvm.MethodName)) ∈ lw_all := lw_g (lw_at lw_m6 5 rfl) rfl
theorem q1289 : (Jvm.Cond.code ({ cls := "DyeLatticeModel", name := "valveOf", desc := "(II)I" } : Jvm.MethodName) prog_20_method_14_code (3 : Nat) (Option.some Jvm.ClassFile.FieldType.int)) ∈ lw_all := lw_g (lw_at lw_m6 6 rfl) rfl
theorem q1291 : (Jvm.Cond.instanceMethod ({ cls := "DyeLatticeModel", name := "setThreshold", desc := "(I)I" } : Jvm.MethodName)) ∈ lw_all := lw_g (lw_at lw_m6 8 rfl) rfl
theorem q1292 : (Jvm.Cond.selects "DyeLatticeModel" ({ cls := "DyeLatticeModel", name := "setThreshold", desc := "(I)I" } : Jvm.MethodName) ({ cls := "DyeLatticeModel", name := "setThreshold", desc := "(I)I" } : Jvm.MethodName)) ∈ lw_all := lw_g (lw_at lw_m6 9 rfl) rfl
theorem q1293 : (Jvm.Cond.code ({ cls := "DyeLatticeModel", name := "setThreshold", desc := "(I)I" } : Jvm.MethodName) prog_20_method_33_code (2 : Nat) (Option.some Jvm.ClassFile.FieldType.int)) ∈ lw_all := lw_g (lw_at lw_m6 10 rfl) rfl
theorem q1295 : (Jvm.Cond.instanceMethod ({ cls := "DyeLatticeModel", name := "setSource", desc := "(III)I" } : Jvm.MethodName)) ∈ lw_all := lw_g (lw_at lw_m6 12 rfl) rfl
theorem q1296 : (Jvm.Cond.selects "DyeLatticeModel" ({ cls := "DyeLatticeModel", name := "setSource", desc := "(III)I" } : Jvm.MethodName) ({ cls := "DyeLatticeModel", name := "setSource", desc := "(III)I" } : Jvm.MethodName)) ∈ lw_all := lw_g (lw_at lw_m6 13 rfl) rfl
theorem q1297 : (Jvm.Cond.code ({ cls := "DyeLatticeModel", name := "setSource", desc := "(III)I" } : Jvm.MethodName) prog_20_method_36_code (4 : Nat) (Option.some Jvm.ClassFile.FieldType.int)) ∈ lw_all := lw_g (lw_at lw_m6 14 rfl) rfl
theorem q1298 : (Jvm.Cond.methodLink "DyeLatticeModel" (114 : Nat) ({ cls := "DyeLatticeModel", name := "has", desc := "(II)Z" } : Jvm.MethodName)) ∈ lw_all := lw_g (lw_at lw_m6 15 rfl) rfl
theorem q1299 : (Jvm.Cond.static ({ cls := "DyeLatticeModel", name := "has", desc := "(II)Z" } : Jvm.MethodName)) ∈ lw_all := lw_g (lw_at lw_m6 16 rfl) rfl
theorem q1300 : (Jvm.Cond.code ({ cls := "DyeLatticeModel", name := "has", desc := "(II)Z" } : Jvm.MethodName) prog_20_method_34_code (2 : Nat) (Option.some Jvm.ClassFile.FieldType.boolean)) ∈ lw_all := lw_g (lw_at lw_m6 17 rfl) rfl
theorem q1301 : (Jvm.Cond.methodLink "DyeLatticeModel" (117 : Nat) ({ cls := "DyeLatticeModel", name := "withDye", desc := "(II)I" } : Jvm.MethodName)) ∈ lw_all := lw_g (lw_at lw_m6 18 rfl) rfl
theorem q1302 : (Jvm.Cond.privateMethod ({ cls := "DyeLatticeModel", name := "withDye", desc := "(II)I" } : Jvm.MethodName)) ∈ lw_tbl := lw_at lw_m6 19 rfl
theorem q1303 : (Jvm.Cond.instanceMethod ({ cls := "DyeLatticeModel", name := "withDye", desc := "(II)I" } : Jvm.MethodName)) ∈ lw_all := lw_g (lw_at lw_m6 20 rfl) rfl
theorem q1304 : (Jvm.Cond.code ({ cls := "DyeLatticeModel", name := "withDye", desc := "(II)I" } : Jvm.MethodName) prog_20_method_35_code (5 : Nat) (Option.some Jvm.ClassFile.FieldType.int)) ∈ lw_all := lw_g (lw_at lw_m6 21 rfl) rfl
theorem q1306 : (Jvm.Cond.instanceMethod ({ cls := "DyeLatticeModel", name := "setReaction", desc := "(III)I" } : Jvm.MethodName)) ∈ lw_all := lw_g (lw_at lw_m6 23 rfl) rfl
theorem q1307 : (Jvm.Cond.selects "DyeLatticeModel" ({ cls := "DyeLatticeModel", name := "setReaction", desc := "(III)I" } : Jvm.MethodName) ({ cls := "DyeLatticeModel", name := "setReaction", desc := "(III)I" } : Jvm.MethodName)) ∈ lw_all := lw_g (lw_at lw_m6 24 rfl) rfl
theorem q1308 : (Jvm.Cond.code ({ cls := "DyeLatticeModel", name := "setReaction", desc := "(III)I" } : Jvm.MethodName) prog_20_method_38_code (5 : Nat) (Option.some Jvm.ClassFile.FieldType.int)) ∈ lw_all := lw_g (lw_at lw_m6 25 rfl) rfl
theorem q1309 : (Jvm.Cond.methodLink "DyeLatticeModel" (120 : Nat) ({ cls := "DyeLatticeModel", name := "pairs", desc := "()I" } : Jvm.MethodName)) ∈ lw_all := lw_g (lw_at lw_m6 26 rfl) rfl
theorem q1310 : (Jvm.Cond.privateMethod ({ cls := "DyeLatticeModel", name := "pairs", desc := "()I" } : Jvm.MethodName)) ∈ lw_tbl := lw_at lw_m6 27 rfl
theorem q1311 : (Jvm.Cond.instanceMethod ({ cls := "DyeLatticeModel", name := "pairs", desc := "()I" } : Jvm.MethodName)) ∈ lw_all := lw_g (lw_at lw_m6 28 rfl) rfl
theorem q1312 : (Jvm.Cond.code ({ cls := "DyeLatticeModel", name := "pairs", desc := "()I" } : Jvm.MethodName) prog_20_method_37_code (1 : Nat) (Option.some Jvm.ClassFile.FieldType.int)) ∈ lw_all := lw_g (lw_at lw_m6 29 rfl) rfl
theorem q1314 : (Jvm.Cond.instanceMethod ({ cls := "DyeLatticeModel", name := "setBeat", desc := "(I)I" } : Jvm.MethodName)) ∈ lw_all := lw_g (lw_at lw_m6 31 rfl) rfl
theorem q1315 : (Jvm.Cond.selects "DyeLatticeModel" ({ cls := "DyeLatticeModel", name := "setBeat", desc := "(I)I" } : Jvm.MethodName) ({ cls := "DyeLatticeModel", name := "setBeat", desc := "(I)I" } : Jvm.MethodName)) ∈ lw_all := lw_g (lw_at lw_m6 32 rfl) rfl
theorem q1316 : (Jvm.Cond.code ({ cls := "DyeLatticeModel", name := "setBeat", desc := "(I)I" } : Jvm.MethodName) prog_20_method_39_code (3 : Nat) (Option.some Jvm.ClassFile.FieldType.int)) ∈ lw_all := lw_g (lw_at lw_m6 33 rfl) rfl
theorem q1318 : (Jvm.Cond.instanceMethod ({ cls := "DyeLatticeModel", name := "run", desc := "(I)I" } : Jvm.MethodName)) ∈ lw_all := lw_g (lw_at lw_m6 35 rfl) rfl
theorem q1319 : (Jvm.Cond.selects "DyeLatticeModel" ({ cls := "DyeLatticeModel", name := "run", desc := "(I)I" } : Jvm.MethodName) ({ cls := "DyeLatticeModel", name := "run", desc := "(I)I" } : Jvm.MethodName)) ∈ lw_all := lw_g (lw_at lw_m6 36 rfl) rfl
theorem q1320 : (Jvm.Cond.code ({ cls := "DyeLatticeModel", name := "run", desc := "(I)I" } : Jvm.MethodName) prog_20_method_44_code (4 : Nat) (Option.some Jvm.ClassFile.FieldType.int)) ∈ lw_all := lw_g (lw_at lw_m6 37 rfl) rfl
theorem q1321 : (Jvm.Cond.methodLink "DyeLatticeModel" (132 : Nat) ({ cls := "DyeLatticeModel", name := "steps", desc := "()I" } : Jvm.MethodName)) ∈ lw_all := lw_g (lw_at lw_m6 38 rfl) rfl
theorem q1322 : (Jvm.Cond.privateMethod ({ cls := "DyeLatticeModel", name := "steps", desc := "()I" } : Jvm.MethodName)) ∈ lw_tbl := lw_at lw_m6 39 rfl
theorem q1323 : (Jvm.Cond.instanceMethod ({ cls := "DyeLatticeModel", name := "steps", desc := "()I" } : Jvm.MethodName)) ∈ lw_all := lw_g (lw_at lw_m6 40 rfl) rfl
theorem q1324 : (Jvm.Cond.code ({ cls := "DyeLatticeModel", name := "steps", desc := "()I" } : Jvm.MethodName) prog_20_method_43_code (7 : Nat) (Option.some Jvm.ClassFile.FieldType.int)) ∈ lw_all := lw_g (lw_at lw_m6 41 rfl) rfl
theorem q1325 : (Jvm.Cond.methodLink "DyeLatticeModel" (123 : Nat) ({ cls := "DyeLatticeModel", name := "isFlowing", desc := "(I)Z" } : Jvm.MethodName)) ∈ lw_all := lw_g (lw_at lw_m6 42 rfl) rfl
theorem q1326 : (Jvm.Cond.privateMethod ({ cls := "DyeLatticeModel", name := "isFlowing", desc := "(I)Z" } : Jvm.MethodName)) ∈ lw_tbl := lw_at lw_m6 43 rfl
theorem q1327 : (Jvm.Cond.instanceMethod ({ cls := "DyeLatticeModel", name := "isFlowing", desc := "(I)Z" } : Jvm.MethodName)) ∈ lw_all := lw_g (lw_at lw_m6 44 rfl) rfl
theorem q1328 : (Jvm.Cond.code ({ cls := "DyeLatticeModel", name := "isFlowing", desc := "(I)Z" } : Jvm.MethodName) prog_20_method_40_code (2 : Nat) (Option.some Jvm.ClassFile.FieldType.boolean)) ∈ lw_all := lw_g (lw_at lw_m6 45 rfl) rfl
theorem q1329 : (Jvm.Cond.methodLink "DyeLatticeModel" (76 : Nat) ({ cls := "DyeLatticeModel", name := "lets", desc := "(IIZ)Z" } : Jvm.MethodName)) ∈ lw_all := lw_g (lw_at lw_m6 46 rfl) rfl
theorem q1330 : (Jvm.Cond.privateMethod ({ cls := "DyeLatticeModel", name := "lets", desc := "(IIZ)Z" } : Jvm.MethodName)) ∈ lw_tbl := lw_at lw_m6 47 rfl
theorem q1331 : (Jvm.Cond.instanceMethod ({ cls := "DyeLatticeModel", name := "lets", desc := "(IIZ)Z" } : Jvm.MethodName)) ∈ lw_all := lw_g (lw_at lw_m6 48 rfl) rfl
theorem q1332 : (Jvm.Cond.code ({ cls := "DyeLatticeModel", name := "lets", desc := "(IIZ)Z" } : Jvm.MethodName) prog_20_method_18_code (5 : Nat) (Option.some Jvm.ClassFile.FieldType.boolean)) ∈ lw_all := lw_g (lw_at lw_m6 49 rfl) rfl
theorem q1333 : (Jvm.Cond.methodLink "DyeLatticeModel" (126 : Nat) ({ cls := "DyeLatticeModel", name := "flows", desc := "(II)V" } : Jvm.MethodName)) ∈ lw_all := lw_g (lw_at lw_m6 50 rfl) rfl
theorem q1334 : (Jvm.Cond.privateMethod ({ cls := "DyeLatticeModel", name := "flows", desc := "(II)V" } : Jvm.MethodName)) ∈ lw_tbl := lw_at lw_m6 51 rfl
theorem q1335 : (Jvm.Cond.instanceMethod ({ cls := "DyeLatticeModel", name := "flows", desc := "(II)V" } : Jvm.MethodName)) ∈ lw_all := lw_g (lw_at lw_m6 52 rfl) rfl
theorem q1336 : (Jvm.Cond.code ({ cls := "DyeLatticeModel", name := "flows", desc := "(II)V" } : Jvm.MethodName) prog_20_method_41_code (3 : Nat) (Option.none : Option Jvm.ClassFile.FieldType)) ∈ lw_all := lw_g (lw_at lw_m6 53 rfl) rfl
theorem q1337 : (Jvm.Cond.methodLink "DyeLatticeModel" (129 : Nat) ({ cls := "DyeLatticeModel", name := "reacts", desc := "(I)Z" } : Jvm.MethodName)) ∈ lw_all := lw_g (lw_at lw_m6 54 rfl) rfl
theorem q1338 : (Jvm.Cond.privateMethod ({ cls := "DyeLatticeModel", name := "reacts", desc := "(I)Z" } : Jvm.MethodName)) ∈ lw_tbl := lw_at lw_m6 55 rfl
theorem q1339 : (Jvm.Cond.instanceMethod ({ cls := "DyeLatticeModel", name := "reacts", desc := "(I)Z" } : Jvm.MethodName)) ∈ lw_all := lw_g (lw_at lw_m6 56 rfl) rfl
theorem q1340 : (Jvm.Cond.code ({ cls := "DyeLatticeModel", name := "reacts", desc := "(I)Z" } : Jvm.MethodName) prog_20_method_42_code (3 : Nat) (Option.some Jvm.ClassFile.FieldType.boolean)) ∈ lw_all := lw_g (lw_at lw_m6 57 rfl) rfl
theorem q1342 : (Jvm.Cond.instanceMethod ({ cls := "DyeLatticeModel", name := "rinse", desc := "()I" } : Jvm.MethodName)) ∈ lw_all := lw_g (lw_at lw_m6 59 rfl) rfl
theorem q1343 : (Jvm.Cond.selects "DyeLatticeModel" ({ cls := "DyeLatticeModel", name := "rinse", desc := "()I" } : Jvm.MethodName) ({ cls := "DyeLatticeModel", name := "rinse", desc := "()I" } : Jvm.MethodName)) ∈ lw_all := lw_g (lw_at lw_m6 60 rfl) rfl
theorem q1344 : (Jvm.Cond.code ({ cls := "DyeLatticeModel", name := "rinse", desc := "()I" } : Jvm.MethodName) prog_20_method_45_code (3 : Nat) (Option.some Jvm.ClassFile.FieldType.int)) ∈ lw_all := lw_g (lw_at lw_m6 61 rfl) rfl
theorem q1346 : (Jvm.Cond.instanceMethod ({ cls := "DyeLatticeModel", name := "count", desc := "(I)I" } : Jvm.MethodName)) ∈ lw_all := lw_g (lw_at lw_m6 63 rfl) rfl
theorem q1347 : (Jvm.Cond.selects "DyeLatticeModel" ({ cls := "DyeLatticeModel", name := "count", desc := "(I)I" } : Jvm.MethodName) ({ cls := "DyeLatticeModel", name := "count", desc := "(I)I" } : Jvm.MethodName)) ∈ lw_all := lw_g (lw_at lw_m6 64 rfl) rfl
theorem q1348 : (Jvm.Cond.code ({ cls := "DyeLatticeModel", name := "count", desc := "(I)I" } : Jvm.MethodName) prog_20_method_47_code (2 : Nat) (Option.some Jvm.ClassFile.FieldType.int)) ∈ lw_all := lw_g (lw_at lw_m6 65 rfl) rfl
theorem q1349 : (Jvm.Cond.methodLink "DyeLatticeModel" (135 : Nat) ({ cls := "DyeLatticeModel", name := "laysClusters", desc := "(I)V" } : Jvm.MethodName)) ∈ lw_all := lw_g (lw_at lw_m6 66 rfl) rfl
theorem q1350 : (Jvm.Cond.privateMethod ({ cls := "DyeLatticeModel", name := "laysClusters", desc := "(I)V" } : Jvm.MethodName)) ∈ lw_tbl := lw_at lw_m6 67 rfl
theorem q1351 : (Jvm.Cond.instanceMethod ({ cls := "DyeLatticeModel", name := "laysClusters", desc := "(I)V" } : Jvm.MethodName)) ∈ lw_all := lw_g (lw_at lw_m6 68 rfl) rfl
theorem q1352 : (Jvm.Cond.code ({ cls := "DyeLatticeModel", name := "laysClusters", desc := "(I)V" } : Jvm.MethodName) prog_20_method_24_code (4 : Nat) (Option.none : Option Jvm.ClassFile.FieldType)) ∈ lw_all := lw_g (lw_at lw_m6 69 rfl) rfl
theorem q1353 : (Jvm.Cond.methodLink "DyeLatticeModel" (87 : Nat) ({ cls := "DyeLatticeModel", name := "forgets", desc := "()V" } : Jvm.MethodName)) ∈ lw_all := lw_g (lw_at lw_m6 70 rfl) rfl
theorem q1354 : (Jvm.Cond.privateMethod ({ cls := "DyeLatticeModel", name := "forgets", desc := "()V" } : Jvm.MethodName)) ∈ lw_tbl := lw_at lw_m6 71 rfl
theorem q1355 : (Jvm.Cond.instanceMethod ({ cls := "DyeLatticeModel", name := "forgets", desc := "()V" } : Jvm.MethodName)) ∈ lw_all := lw_g (lw_at lw_m6 72 rfl) rfl
theorem q1356 : (Jvm.Cond.code ({ cls := "DyeLatticeModel", name := "forgets", desc := "()V" } : Jvm.MethodName) prog_20_method_19_code (2 : Nat) (Option.none : Option Jvm.ClassFile.FieldType)) ∈ lw_all := lw_g (lw_at lw_m6 73 rfl) rfl
theorem q1357 : (Jvm.Cond.methodLink "DyeLatticeModel" (80 : Nat) ({ cls := "DyeLatticeModel", name := "meets", desc := "(III)V" } : Jvm.MethodName)) ∈ lw_all := lw_g (lw_at lw_m6 74 rfl) rfl
theorem q1358 : (Jvm.Cond.privateMethod ({ cls := "DyeLatticeModel", name := "meets", desc := "(III)V" } : Jvm.MethodName)) ∈ lw_tbl := lw_at lw_m6 75 rfl
theorem q1359 : (Jvm.Cond.instanceMethod ({ cls := "DyeLatticeModel", name := "meets", desc := "(III)V" } : Jvm.MethodName)) ∈ lw_all := lw_g (lw_at lw_m6 76 rfl) rfl
theorem q1360 : (Jvm.Cond.code ({ cls := "DyeLatticeModel", name := "meets", desc := "(III)V" } : Jvm.MethodName) prog_20_method_20_code (4 : Nat) (Option.none : Option Jvm.ClassFile.FieldType)) ∈ lw_all := lw_g (lw_at lw_m6 77 rfl) rfl
theorem q1361 : (Jvm.Cond.methodLink "DyeLatticeModel" (90 : Nat) ({ cls := "DyeLatticeModel", name := "walks", desc := "(IIZ)V" } : Jvm.MethodName)) ∈ lw_all := lw_g (lw_at lw_m6 78 rfl) rfl
theorem q1362 : (Jvm.Cond.privateMethod ({ cls := "DyeLatticeModel", name := "walks", desc := "(IIZ)V" } : Jvm.MethodName)) ∈ lw_tbl := lw_at lw_m6 79 rfl
theorem q1363 : (Jvm.Cond.instanceMethod ({ cls := "DyeLatticeModel", name := "walks", desc := "(IIZ)V" } : Jvm.MethodName)) ∈ lw_all := lw_g (lw_at lw_m6 80 rfl) rfl
theorem q1364 : (Jvm.Cond.code ({ cls := "DyeLatticeModel", name := "walks", desc := "(IIZ)V" } : Jvm.MethodName) prog_20_method_21_code (9 : Nat) (Option.none : Option Jvm.ClassFile.FieldType)) ∈ lw_all := lw_g (lw_at lw_m6 81 rfl) rfl
theorem q1365 : (Jvm.Cond.methodLink "DyeLatticeModel" (84 : Nat) ({ cls := "DyeLatticeModel", name := "first", desc := "(II)I" } : Jvm.MethodName)) ∈ lw_all := lw_g (lw_at lw_m6 82 rfl) rfl
theorem q1366 : (Jvm.Cond.privateMethod ({ cls := "DyeLatticeModel", name := "first", desc := "(II)I" } : Jvm.MethodName)) ∈ lw_tbl := lw_at lw_m6 83 rfl
theorem q1367 : (Jvm.Cond.instanceMethod ({ cls := "DyeLatticeModel", name := "first", desc := "(II)I" } : Jvm.MethodName)) ∈ lw_all := lw_g (lw_at lw_m6 84 rfl) rfl
theorem q1368 : (Jvm.Cond.code ({ cls := "DyeLatticeModel", name := "first", desc := "(II)I" } : Jvm.MethodName) prog_20_method_13_code (4 : Nat) (Option.some Jvm.ClassFile.FieldType.int)) ∈ lw_all := lw_g (lw_at lw_m6 85 rfl) rfl
theorem q1369 : (Jvm.Cond.methodLink "DyeLatticeModel" (138 : Nat) ({ cls := "DyeLatticeModel", name := "clogged", desc := "()I" } : Jvm.MethodName)) ∈ lw_all := lw_g (lw_at lw_m6 86 rfl) rfl
theorem q1370 : (Jvm.Cond.privateMethod ({ cls := "DyeLatticeModel", name := "clogged", desc := "()I" } : Jvm.MethodName)) ∈ lw_tbl := lw_at lw_m6 87 rfl
theorem q1371 : (Jvm.Cond.instanceMethod ({ cls := "DyeLatticeModel", name := "clogged", desc := "()I" } : Jvm.MethodName)) ∈ lw_all := lw_g (lw_at lw_m6 88 rfl) rfl
theorem q1372 : (Jvm.Cond.code ({ cls := "DyeLatticeModel", name := "clogged", desc := "()I" } : Jvm.MethodName) prog_20_method_46_code (3 : Nat) (Option.some Jvm.ClassFile.FieldType.int)) ∈ lw_all := lw_g (lw_at lw_m6 89 rfl) rfl
theorem q1374 : (Jvm.Cond.instanceMethod ({ cls := "DyeLatticeModel", name := "cell", desc := "(II)I" } : Jvm.MethodName)) ∈ lw_all := lw_g (lw_at lw_m6 91 rfl) rfl
theorem q1375 : (Jvm.Cond.selects "DyeLatticeModel" ({ cls := "DyeLatticeModel", name := "cell", desc := "(II)I" } : Jvm.MethodName) ({ cls := "DyeLatticeModel", name := "cell", desc := "(II)I" } : Jvm.MethodName)) ∈ lw_all := lw_g (lw_at lw_m6 92 rfl) rfl
theorem q1376 : (Jvm.Cond.code ({ cls := "DyeLatticeModel", name := "cell", desc := "(II)I" } : Jvm.MethodName) prog_20_method_49_code (3 : Nat) (Option.some Jvm.ClassFile.FieldType.int)) ∈ lw_all := lw_g (lw_at lw_m6 93 rfl) rfl
theorem q1377 : (Jvm.Cond.methodLink "DyeLatticeModel" (144 : Nat) ({ cls := "DyeLatticeModel", name := "endsAt", desc := "(I)I" } : Jvm.MethodName)) ∈ lw_all := lw_g (lw_at lw_m6 94 rfl) rfl
theorem q1378 : (Jvm.Cond.privateMethod ({ cls := "DyeLatticeModel", name := "endsAt", desc := "(I)I" } : Jvm.MethodName)) ∈ lw_tbl := lw_at lw_m6 95 rfl
theorem q1379 : (Jvm.Cond.instanceMethod ({ cls := "DyeLatticeModel", name := "endsAt", desc := "(I)I" } : Jvm.MethodName)) ∈ lw_all := lw_g (lw_at lw_m6 96 rfl) rfl
theorem q1380 : (Jvm.Cond.code ({ cls := "DyeLatticeModel", name := "endsAt", desc := "(I)I" } : Jvm.MethodName) prog_20_method_48_code (6 : Nat) (Option.some Jvm.ClassFile.FieldType.int)) ∈ lw_all := lw_g (lw_at lw_m6 97 rfl) rfl
theorem q1382 : (Jvm.Cond.instanceMethod ({ cls := "DyeLatticeModel", name := "valve", desc := "(II)I" } : Jvm.MethodName)) ∈ lw_all := lw_g (lw_at lw_m6 99 rfl) rfl
theorem q1383 : (Jvm.Cond.selects "DyeLatticeModel" ({ cls := "DyeLatticeModel", name := "valve", desc := "(II)I" } : Jvm.MethodName) ({ cls := "DyeLatticeModel", name := "valve", desc := "(II)I" } : Jvm.MethodName)) ∈ lw_all := lw_g (lw_at lw_m6 100 rfl) rfl
theorem q1384 : (Jvm.Cond.code ({ cls := "DyeLatticeModel", name := "valve", desc := "(II)I" } : Jvm.MethodName) prog_20_method_50_code (3 : Nat) (Option.some Jvm.ClassFile.FieldType.int)) ∈ lw_all := lw_g (lw_at lw_m6 101 rfl) rfl
theorem q1386 : (Jvm.Cond.instanceMethod ({ cls := "DyeLatticeModel", name := "dyed", desc := "(I)I" } : Jvm.MethodName)) ∈ lw_all := lw_g (lw_at lw_m6 103 rfl) rfl
theorem q1387 : (Jvm.Cond.selects "DyeLatticeModel" ({ cls := "DyeLatticeModel", name := "dyed", desc := "(I)I" } : Jvm.MethodName) ({ cls := "DyeLatticeModel", name := "dyed", desc := "(I)I" } : Jvm.MethodName)) ∈ lw_all := lw_g (lw_at lw_m6 104 rfl) rfl
theorem q1388 : (Jvm.Cond.code ({ cls := "DyeLatticeModel", name := "dyed", desc := "(I)I" } : Jvm.MethodName) prog_20_method_51_code (2 : Nat) (Option.some Jvm.ClassFile.FieldType.int)) ∈ lw_all := lw_g (lw_at lw_m6 105 rfl) rfl
theorem q1390 : (Jvm.Cond.instanceMethod ({ cls := "DyeLatticeModel", name := "reach", desc := "(I)I" } : Jvm.MethodName)) ∈ lw_all := lw_g (lw_at lw_m6 107 rfl) rfl
theorem q1391 : (Jvm.Cond.selects "DyeLatticeModel" ({ cls := "DyeLatticeModel", name := "reach", desc := "(I)I" } : Jvm.MethodName) ({ cls := "DyeLatticeModel", name := "reach", desc := "(I)I" } : Jvm.MethodName)) ∈ lw_all := lw_g (lw_at lw_m6 108 rfl) rfl
theorem q1392 : (Jvm.Cond.code ({ cls := "DyeLatticeModel", name := "reach", desc := "(I)I" } : Jvm.MethodName) prog_20_method_52_code (3 : Nat) (Option.some Jvm.ClassFile.FieldType.int)) ∈ lw_all := lw_g (lw_at lw_m6 109 rfl) rfl
theorem q1394 : (Jvm.Cond.instanceMethod ({ cls := "DyeLatticeModel", name := "arrival", desc := "(II)I" } : Jvm.MethodName)) ∈ lw_all := lw_g (lw_at lw_m6 111 rfl) rfl
theorem q1395 : (Jvm.Cond.selects "DyeLatticeModel" ({ cls := "DyeLatticeModel", name := "arrival", desc := "(II)I" } : Jvm.MethodName) ({ cls := "DyeLatticeModel", name := "arrival", desc := "(II)I" } : Jvm.MethodName)) ∈ lw_all := lw_g (lw_at lw_m6 112 rfl) rfl
theorem q1396 : (Jvm.Cond.code ({ cls := "DyeLatticeModel", name := "arrival", desc := "(II)I" } : Jvm.MethodName) prog_20_method_53_code (5 : Nat) (Option.some Jvm.ClassFile.FieldType.int)) ∈ lw_all := lw_g (lw_at lw_m6 113 rfl) rfl
theorem q1397 : (Jvm.Cond.methodLink "DyeLatticeModel" (147 : Nat) ({ cls := "DyeLatticeModel", name := "keeps", desc := "()V" } : Jvm.MethodName)) ∈ lw_all := lw_g (lw_at lw_m6 114 rfl) rfl
theorem q1398 : (Jvm.Cond.privateMethod ({ cls := "DyeLatticeModel", name := "keeps", desc := "()V" } : Jvm.MethodName)) ∈ lw_tbl := lw_at lw_m6 115 rfl
theorem q1399 : (Jvm.Cond.instanceMethod ({ cls := "DyeLatticeModel", name := "keeps", desc := "()V" } : Jvm.MethodName)) ∈ lw_all := lw_g (lw_at lw_m6 116 rfl) rfl
theorem q1400 : (Jvm.Cond.code ({ cls := "DyeLatticeModel", name := "keeps", desc := "()V" } : Jvm.MethodName) prog_20_method_6_code (2 : Nat) (Option.none : Option Jvm.ClassFile.FieldType)) ∈ lw_all := lw_g (lw_at lw_m6 117 rfl) rfl
theorem q1401 : (Jvm.Cond.methodLink "DyeLatticeModel" (150 : Nat) ({ cls := "DyeLatticeModel", name := "returns", desc := "()V" } : Jvm.MethodName)) ∈ lw_all := lw_g (lw_at lw_m6 118 rfl) rfl
theorem q1402 : (Jvm.Cond.privateMethod ({ cls := "DyeLatticeModel", name := "returns", desc := "()V" } : Jvm.MethodName)) ∈ lw_tbl := lw_at lw_m6 119 rfl
theorem q1403 : (Jvm.Cond.instanceMethod ({ cls := "DyeLatticeModel", name := "returns", desc := "()V" } : Jvm.MethodName)) ∈ lw_all := lw_g (lw_at lw_m6 120 rfl) rfl
theorem q1404 : (Jvm.Cond.code ({ cls := "DyeLatticeModel", name := "returns", desc := "()V" } : Jvm.MethodName) prog_20_method_7_code (2 : Nat) (Option.none : Option Jvm.ClassFile.FieldType)) ∈ lw_all := lw_g (lw_at lw_m6 121 rfl) rfl
theorem q1406 : (Jvm.Cond.instanceMethod ({ cls := "DyeLatticeModel", name := "cluster", desc := "(II)I" } : Jvm.MethodName)) ∈ lw_all := lw_g (lw_at lw_m6 123 rfl) rfl
theorem q1407 : (Jvm.Cond.selects "DyeLatticeModel" ({ cls := "DyeLatticeModel", name := "cluster", desc := "(II)I" } : Jvm.MethodName) ({ cls := "DyeLatticeModel", name := "cluster", desc := "(II)I" } : Jvm.MethodName)) ∈ lw_all := lw_g (lw_at lw_m6 124 rfl) rfl
theorem q1408 : (Jvm.Cond.code ({ cls := "DyeLatticeModel", name := "cluster", desc := "(II)I" } : Jvm.MethodName) prog_20_method_57_code (4 : Nat) (Option.some Jvm.ClassFile.FieldType.int)) ∈ lw_all := lw_g (lw_at lw_m6 125 rfl) rfl
theorem q1409 : (Jvm.Cond.methodLink "DyeLatticeModel" (153 : Nat) ({ cls := "DyeLatticeModel", name := "sizeOf", desc := "(I)I" } : Jvm.MethodName)) ∈ lw_all := lw_g (lw_at lw_m6 126 rfl) rfl
theorem q1410 : (Jvm.Cond.privateMethod ({ cls := "DyeLatticeModel", name := "sizeOf", desc := "(I)I" } : Jvm.MethodName)) ∈ lw_tbl := lw_at lw_m6 127 rfl
theorem q1411 : (Jvm.Cond.instanceMethod ({ cls := "DyeLatticeModel", name := "sizeOf", desc := "(I)I" } : Jvm.MethodName)) ∈ lw_all := lw_g (lw_at lw_m6 128 rfl) rfl
theorem q1412 : (Jvm.Cond.code ({ cls := "DyeLatticeModel", name := "sizeOf", desc := "(I)I" } : Jvm.MethodName) prog_20_method_25_code (4 : Nat) (Option.some Jvm.ClassFile.FieldType.int)) ∈ lw_all := lw_g (lw_at lw_m6 129 rfl) rfl
theorem q1413 : (Jvm.Cond.methodLink "DyeLatticeModel" (156 : Nat) ({ cls := "DyeLatticeModel", name := "grainsOf", desc := "(I)I" } : Jvm.MethodName)) ∈ lw_all := lw_g (lw_at lw_m6 130 rfl) rfl
theorem q1414 : (Jvm.Cond.privateMethod ({ cls := "DyeLatticeModel", name := "grainsOf", desc := "(I)I" } : Jvm.MethodName)) ∈ lw_tbl := lw_at lw_m6 131 rfl
theorem q1415 : (Jvm.Cond.instanceMethod ({ cls := "DyeLatticeModel", name := "grainsOf", desc := "(I)I" } : Jvm.MethodName)) ∈ lw_all := lw_g (lw_at lw_m6 132 rfl) rfl
theorem q1416 : (Jvm.Cond.code ({ cls := "DyeLatticeModel", name := "grainsOf", desc := "(I)I" } : Jvm.MethodName) prog_20_method_54_code (4 : Nat) (Option.some Jvm.ClassFile.FieldType.int)) ∈ lw_all := lw_g (lw_at lw_m6 133 rfl) rfl
theorem q1417 : (Jvm.Cond.methodLink "DyeLatticeModel" (159 : Nat) ({ cls := "DyeLatticeModel", name := "sidesOf", desc := "(I)I" } : Jvm.MethodName)) ∈ lw_all := lw_g (lw_at lw_m6 134 rfl) rfl
theorem q1418 : (Jvm.Cond.privateMethod ({ cls := "DyeLatticeModel", name := "sidesOf", desc := "(I)I" } : Jvm.MethodName)) ∈ lw_tbl := lw_at lw_m6 135 rfl
theorem q1419 : (Jvm.Cond.instanceMethod ({ cls := "DyeLatticeModel", name := "sidesOf", desc := "(I)I" } : Jvm.MethodName)) ∈ lw_all := lw_g (lw_at lw_m6 136 rfl) rfl
theorem q1420 : (Jvm.Cond.code ({ cls := "DyeLatticeModel", name := "sidesOf", desc := "(I)I" } : Jvm.MethodName) prog_20_method_55_code (4 : Nat) (Option.some Jvm.ClassFile.FieldType.int)) ∈ lw_all := lw_g (lw_at lw_m6 137 rfl) rfl
theorem q1421 : (Jvm.Cond.methodLink "DyeLatticeModel" (162 : Nat) ({ cls := "DyeLatticeModel", name := "bondsOf", desc := "(II)I" } : Jvm.MethodName)) ∈ lw_all := lw_g (lw_at lw_m6 138 rfl) rfl
theorem q1422 : (Jvm.Cond.privateMethod ({ cls := "DyeLatticeModel", name := "bondsOf", desc := "(II)I" } : Jvm.MethodName)) ∈ lw_tbl := lw_at lw_m6 139 rfl
theorem q1423 : (Jvm.Cond.instanceMethod ({ cls := "DyeLatticeModel", name := "bondsOf", desc := "(II)I" } : Jvm.MethodName)) ∈ lw_all := lw_g (lw_at lw_m6 140 rfl) rfl
theorem q1424 : (Jvm.Cond.code ({ cls := "DyeLatticeModel", name := "bondsOf", desc := "(II)I" } : Jvm.MethodName) prog_20_method_56_code (8 : Nat) (Option.some Jvm.ClassFile.FieldType.int)) ∈ lw_all := lw_g (lw_at lw_m6 141 rfl) rfl
theorem q1426 : (Jvm.Cond.instanceMethod ({ cls := "DyeLatticeModel", name := "ledger", desc := "(II)I" } : Jvm.MethodName)) ∈ lw_all := lw_g (lw_at lw_m6 143 rfl) rfl
theorem q1427 : (Jvm.Cond.selects "DyeLatticeModel" ({ cls := "DyeLatticeModel", name := "ledger", desc := "(II)I" } : Jvm.MethodName) ({ cls := "DyeLatticeModel", name := "ledger", desc := "(II)I" } : Jvm.MethodName)) ∈ lw_all := lw_g (lw_at lw_m6 144 rfl) rfl
theorem q1428 : (Jvm.Cond.code ({ cls := "DyeLatticeModel", name := "ledger", desc := "(II)I" } : Jvm.MethodName) prog_20_method_58_code (7 : Nat) (Option.some Jvm.ClassFile.FieldType.int)) ∈ lw_all := lw_g (lw_at lw_m6 145 rfl) rfl
theorem q1429 : (Jvm.Cond.methodLink "DyeLatticeModel" (165 : Nat) ({ cls := "DyeLatticeModel", name := "spans", desc := "(II)Z" } : Jvm.MethodName)) ∈ lw_all := lw_g (lw_at lw_m6 146 rfl) rfl
theorem q1430 : (Jvm.Cond.privateMethod ({ cls := "DyeLatticeModel", name := "spans", desc := "(II)Z" } : Jvm.MethodName)) ∈ lw_tbl := lw_at lw_m6 147 rfl
theorem q1431 : (Jvm.Cond.instanceMethod ({ cls := "DyeLatticeModel", name := "spans", desc := "(II)Z" } : Jvm.MethodName)) ∈ lw_all := lw_g (lw_at lw_m6 148 rfl) rfl
theorem q1432 : (Jvm.Cond.code ({ cls := "DyeLatticeModel", name := "spans", desc := "(II)Z" } : Jvm.MethodName) prog_20_method_22_code (5 : Nat) (Option.some Jvm.ClassFile.FieldType.boolean)) ∈ lw_all := lw_g (lw_at lw_m6 149 rfl) rfl
theorem q1434 : (Jvm.Cond.instanceMethod ({ cls := "DyeLatticeModel", name := "threshold", desc := "()I" } : Jvm.MethodName)) ∈ lw_all := lw_g (lw_at lw_m6 151 rfl) rfl
theorem q1435 : (Jvm.Cond.selects "DyeLatticeModel" ({ cls := "DyeLatticeModel", name := "threshold", desc := "()I" } : Jvm.MethodName) ({ cls := "DyeLatticeModel", name := "threshold", desc := "()I" } : Jvm.MethodName)) ∈ lw_all := lw_g (lw_at lw_m6 152 rfl) rfl
theorem q1436 : (Jvm.Cond.code ({ cls := "DyeLatticeModel", name := "threshold", desc := "()I" } : Jvm.MethodName) prog_20_method_60_code (2 : Nat) (Option.some Jvm.ClassFile.FieldType.int)) ∈ lw_all := lw_g (lw_at lw_m6 153 rfl) rfl
theorem q1437 : (Jvm.Cond.methodLink "DyeLatticeModel" (168 : Nat) ({ cls := "DyeLatticeModel", name := "smallest", desc := "()I" } : Jvm.MethodName)) ∈ lw_all := lw_g (lw_at lw_m6 154 rfl) rfl
theorem q1438 : (Jvm.Cond.privateMethod ({ cls := "DyeLatticeModel", name := "smallest", desc := "()I" } : Jvm.MethodName)) ∈ lw_tbl := lw_at lw_m6 155 rfl
theorem q1439 : (Jvm.Cond.instanceMethod ({ cls := "DyeLatticeModel", name := "smallest", desc := "()I" } : Jvm.MethodName)) ∈ lw_all := lw_g (lw_at lw_m6 156 rfl) rfl
theorem q1440 : (Jvm.Cond.code ({ cls := "DyeLatticeModel", name := "smallest", desc := "()I" } : Jvm.MethodName) prog_20_method_59_code (5 : Nat) (Option.some Jvm.ClassFile.FieldType.int)) ∈ lw_all := lw_g (lw_at lw_m6 157 rfl) rfl
theorem q1442 : (Jvm.Cond.instanceMethod ({ cls := "DyeLatticeModel", name := "probe", desc := "(I)I" } : Jvm.MethodName)) ∈ lw_all := lw_g (lw_at lw_m6 159 rfl) rfl
theorem q1443 : (Jvm.Cond.selects "DyeLatticeModel" ({ cls := "DyeLatticeModel", name := "probe", desc := "(I)I" } : Jvm.MethodName) ({ cls := "DyeLatticeModel", name := "probe", desc := "(I)I" } : Jvm.MethodName)) ∈ lw_all := lw_g (lw_at lw_m6 160 rfl) rfl
theorem q1444 : (Jvm.Cond.code ({ cls := "DyeLatticeModel", name := "probe", desc := "(I)I" } : Jvm.MethodName) prog_20_method_61_code (7 : Nat) (Option.some Jvm.ClassFile.FieldType.int)) ∈ lw_all := lw_g (lw_at lw_m6 161 rfl) rfl
theorem q1446 : (Jvm.Cond.instanceMethod ({ cls := "DyeLatticeModel", name := "thresholdBetween", desc := "(II)I" } : Jvm.MethodName)) ∈ lw_all := lw_g (lw_at lw_m6 163 rfl) rfl
theorem q1447 : (Jvm.Cond.selects "DyeLatticeModel" ({ cls := "DyeLatticeModel", name := "thresholdBetween", desc := "(II)I" } : Jvm.MethodName) ({ cls := "DyeLatticeModel", name := "thresholdBetween", desc := "(II)I" } : Jvm.MethodName)) ∈ lw_all := lw_g (lw_at lw_m6 164 rfl) rfl
theorem q1448 : (Jvm.Cond.code ({ cls := "DyeLatticeModel", name := "thresholdBetween", desc := "(II)I" } : Jvm.MethodName) prog_20_method_62_code (4 : Nat) (Option.some Jvm.ClassFile.FieldType.int)) ∈ lw_all := lw_g (lw_at lw_m6 165 rfl) rfl
theorem q1449 : (Jvm.Cond.methodLink "DyeLatticeModel" (171 : Nat) ({ cls := "DyeLatticeModel", name := "isWay", desc := "(III)Z" } : Jvm.MethodName)) ∈ lw_all := lw_g (lw_at lw_m6 166 rfl) rfl
theorem q1450 : (Jvm.Cond.privateMethod ({ cls := "DyeLatticeModel", name := "isWay", desc := "(III)Z" } : Jvm.MethodName)) ∈ lw_tbl := lw_at lw_m6 167 rfl
theorem q1451 : (Jvm.Cond.instanceMethod ({ cls := "DyeLatticeModel", name := "isWay", desc := "(III)Z" } : Jvm.MethodName)) ∈ lw_all := lw_g (lw_at lw_m6 168 rfl) rfl
theorem q1452 : (Jvm.Cond.code ({ cls := "DyeLatticeModel", name := "isWay", desc := "(III)Z" } : Jvm.MethodName) prog_20_method_23_code (4 : Nat) (Option.some Jvm.ClassFile.FieldType.boolean)) ∈ lw_all := lw_g (lw_at lw_m6 169 rfl) rfl
theorem q1454 : (Jvm.Cond.instanceMethod ({ cls := "DyeLatticeModel", name := "pivots", desc := "()I" } : Jvm.MethodName)) ∈ lw_all := lw_g (lw_at lw_m6 171 rfl) rfl
theorem q1455 : (Jvm.Cond.selects "DyeLatticeModel" ({ cls := "DyeLatticeModel", name := "pivots", desc := "()I" } : Jvm.MethodName) ({ cls := "DyeLatticeModel", name := "pivots", desc := "()I" } : Jvm.MethodName)) ∈ lw_all := lw_g (lw_at lw_m6 172 rfl) rfl
theorem q1456 : (Jvm.Cond.code ({ cls := "DyeLatticeModel", name := "pivots", desc := "()I" } : Jvm.MethodName) prog_20_method_63_code (3 : Nat) (Option.some Jvm.ClassFile.FieldType.int)) ∈ lw_all := lw_g (lw_at lw_m6 173 rfl) rfl
theorem q1458 : (Jvm.Cond.instanceMethod ({ cls := "DyeLatticeModel", name := "bestValve", desc := "()I" } : Jvm.MethodName)) ∈ lw_all := lw_g (lw_at lw_m6 175 rfl) rfl
theorem q1459 : (Jvm.Cond.selects "DyeLatticeModel" ({ cls := "DyeLatticeModel", name := "bestValve", desc := "()I" } : Jvm.MethodName) ({ cls := "DyeLatticeModel", name := "bestValve", desc := "()I" } : Jvm.MethodName)) ∈ lw_all := lw_g (lw_at lw_m6 176 rfl) rfl
theorem q1460 : (Jvm.Cond.code ({ cls := "DyeLatticeModel", name := "bestValve", desc := "()I" } : Jvm.MethodName) prog_20_method_64_code (5 : Nat) (Option.some Jvm.ClassFile.FieldType.int)) ∈ lw_all := lw_g (lw_at lw_m6 177 rfl) rfl
theorem q1462 : (Jvm.Cond.instanceMethod ({ cls := "DyeLatticeModel", name := "append", desc := "(I)I" } : Jvm.MethodName)) ∈ lw_all := lw_g (lw_at lw_m6 179 rfl) rfl
theorem q1463 : (Jvm.Cond.selects "DyeLatticeModel" ({ cls := "DyeLatticeModel", name := "append", desc := "(I)I" } : Jvm.MethodName) ({ cls := "DyeLatticeModel", name := "append", desc := "(I)I" } : Jvm.MethodName)) ∈ lw_all := lw_g (lw_at lw_m6 180 rfl) rfl
theorem q1464 : (Jvm.Cond.code ({ cls := "DyeLatticeModel", name := "append", desc := "(I)I" } : Jvm.MethodName) prog_20_method_65_code (2 : Nat) (Option.some Jvm.ClassFile.FieldType.int)) ∈ lw_all := lw_g (lw_at lw_m6 181 rfl) rfl
theorem q1466 : (Jvm.Cond.instanceMethod ({ cls := "DyeLatticeModel", name := "clearText", desc := "()I" } : Jvm.MethodName)) ∈ lw_all := lw_g (lw_at lw_m6 183 rfl) rfl
theorem q1467 : (Jvm.Cond.selects "DyeLatticeModel" ({ cls := "DyeLatticeModel", name := "clearText", desc := "()I" } : Jvm.MethodName) ({ cls := "DyeLatticeModel", name := "clearText", desc := "()I" } : Jvm.MethodName)) ∈ lw_all := lw_g (lw_at lw_m6 184 rfl) rfl
theorem q1468 : (Jvm.Cond.code ({ cls := "DyeLatticeModel", name := "clearText", desc := "()I" } : Jvm.MethodName) prog_20_method_66_code (2 : Nat) (Option.some Jvm.ClassFile.FieldType.int)) ∈ lw_all := lw_g (lw_at lw_m6 185 rfl) rfl
theorem q1470 : (Jvm.Cond.instanceMethod ({ cls := "DyeLatticeModel", name := "load", desc := "()I" } : Jvm.MethodName)) ∈ lw_all := lw_g (lw_at lw_m6 187 rfl) rfl
theorem q1471 : (Jvm.Cond.selects "DyeLatticeModel" ({ cls := "DyeLatticeModel", name := "load", desc := "()I" } : Jvm.MethodName) ({ cls := "DyeLatticeModel", name := "load", desc := "()I" } : Jvm.MethodName)) ∈ lw_all := lw_g (lw_at lw_m6 188 rfl) rfl
theorem q1472 : (Jvm.Cond.code ({ cls := "DyeLatticeModel", name := "load", desc := "()I" } : Jvm.MethodName) prog_20_method_82_code (2 : Nat) (Option.some Jvm.ClassFile.FieldType.int)) ∈ lw_all := lw_g (lw_at lw_m6 189 rfl) rfl
theorem q1473 : (Jvm.Cond.methodLink "DyeLatticeModel" (196 : Nat) ({ cls := "DyeLatticeModel", name := "goes", desc := "()Z" } : Jvm.MethodName)) ∈ lw_all := lw_g (lw_at lw_m6 190 rfl) rfl
theorem q1474 : (Jvm.Cond.privateMethod ({ cls := "DyeLatticeModel", name := "goes", desc := "()Z" } : Jvm.MethodName)) ∈ lw_tbl := lw_at lw_m6 191 rfl
theorem q1475 : (Jvm.Cond.instanceMethod ({ cls := "DyeLatticeModel", name := "goes", desc := "()Z" } : Jvm.MethodName)) ∈ lw_all := lw_g (lw_at lw_m6 192 rfl) rfl
theorem q1476 : (Jvm.Cond.code ({ cls := "DyeLatticeModel", name := "goes", desc := "()Z" } : Jvm.MethodName) prog_20_method_69_code (3 : Nat) (Option.some Jvm.ClassFile.FieldType.boolean)) ∈ lw_all := lw_g (lw_at lw_m6 193 rfl) rfl
theorem q1477 : (Jvm.Cond.methodLink "DyeLatticeModel" (180 : Nat) ({ cls := "DyeLatticeModel", name := "isLetter", desc := "(I)Z" } : Jvm.MethodName)) ∈ lw_all := lw_g (lw_at lw_m6 194 rfl) rfl
theorem q1478 : (Jvm.Cond.static ({ cls := "DyeLatticeModel", name := "isLetter", desc := "(I)Z" } : Jvm.MethodName)) ∈ lw_all := lw_g (lw_at lw_m6 195 rfl) rfl
theorem q1479 : (Jvm.Cond.code ({ cls := "DyeLatticeModel", name := "isLetter", desc := "(I)Z" } : Jvm.MethodName) prog_20_method_67_code (1 : Nat) (Option.some Jvm.ClassFile.FieldType.boolean)) ∈ lw_all := lw_g (lw_at lw_m6 196 rfl) rfl
theorem q1480 : (Jvm.Cond.methodLink "DyeLatticeModel" (183 : Nat) ({ cls := "DyeLatticeModel", name := "isDigit", desc := "(I)Z" } : Jvm.MethodName)) ∈ lw_all := lw_g (lw_at lw_m6 197 rfl) rfl
theorem q1481 : (Jvm.Cond.static ({ cls := "DyeLatticeModel", name := "isDigit", desc := "(I)Z" } : Jvm.MethodName)) ∈ lw_all := lw_g (lw_at lw_m6 198 rfl) rfl
theorem q1482 : (Jvm.Cond.code ({ cls := "DyeLatticeModel", name := "isDigit", desc := "(I)Z" } : Jvm.MethodName) prog_20_method_68_code (1 : Nat) (Option.some Jvm.ClassFile.FieldType.boolean)) ∈ lw_all := lw_g (lw_at lw_m6 199 rfl) rfl
theorem q1483 : (Jvm.Cond.methodLink "DyeLatticeModel" (236 : Nat) ({ cls := "DyeLatticeModel", name := "readsItem", desc := "(I)V" } : Jvm.MethodName)) ∈ lw_all := lw_g (lw_at lw_m6 200 rfl) rfl
theorem q1484 : (Jvm.Cond.privateMethod ({ cls := "DyeLatticeModel", name := "readsItem", desc := "(I)V" } : Jvm.MethodName)) ∈ lw_tbl := lw_at lw_m6 201 rfl
theorem q1485 : (Jvm.Cond.instanceMethod ({ cls := "DyeLatticeModel", name := "readsItem", desc := "(I)V" } : Jvm.MethodName)) ∈ lw_all := lw_g (lw_at lw_m6 202 rfl) rfl
theorem q1486 : (Jvm.Cond.code ({ cls := "DyeLatticeModel", name := "readsItem", desc := "(I)V" } : Jvm.MethodName) prog_20_method_81_code (5 : Nat) (Option.none : Option Jvm.ClassFile.FieldType)) ∈ lw_all := lw_g (lw_at lw_m6 203 rfl) rfl
theorem q1487 : (Jvm.Cond.methodLink "DyeLatticeModel" (200 : Nat) ({ cls := "DyeLatticeModel", name := "word", desc := "()J" } : Jvm.MethodName)) ∈ lw_all := lw_g (lw_at lw_m6 204 rfl) rfl
theorem q1488 : (Jvm.Cond.privateMethod ({ cls := "DyeLatticeModel", name := "word", desc := "()J" } : Jvm.MethodName)) ∈ lw_tbl := lw_at lw_m6 205 rfl
theorem q1489 : (Jvm.Cond.instanceMethod ({ cls := "DyeLatticeModel", name := "word", desc := "()J" } : Jvm.MethodName)) ∈ lw_all := lw_g (lw_at lw_m6 206 rfl) rfl
theorem q1490 : (Jvm.Cond.code ({ cls := "DyeLatticeModel", name := "word", desc := "()J" } : Jvm.MethodName) prog_20_method_70_code (4 : Nat) (Option.some Jvm.ClassFile.FieldType.long)) ∈ lw_all := lw_g (lw_at lw_m6 207 rfl) rfl
theorem q1491 : (Jvm.Cond.constantLong "DyeLatticeModel" (186 : Nat) (27 : Int64)) ∈ lw_all := lw_g (lw_at lw_m6 208 rfl) rfl
theorem q1492 : (Jvm.Cond.constantLong "DyeLatticeModel" (188 : Nat) (97 : Int64)) ∈ lw_all := lw_g (lw_at lw_m6 209 rfl) rfl
theorem q1493 : (Jvm.Cond.constantLong "DyeLatticeModel" (190 : Nat) (-1 : Int64)) ∈ lw_all := lw_g (lw_at lw_m6 210 rfl) rfl
theorem q1494 : (Jvm.Cond.methodLink "DyeLatticeModel" (204 : Nat) ({ cls := "DyeLatticeModel", name := "spelled", desc := "(IIII)J" } : Jvm.MethodName)) ∈ lw_all := lw_g (lw_at lw_m6 211 rfl) rfl
theorem q1495 : (Jvm.Cond.static ({ cls := "DyeLatticeModel", name := "spelled", desc := "(IIII)J" } : Jvm.MethodName)) ∈ lw_all := lw_g (lw_at lw_m6 212 rfl) rfl
theorem q1496 : (Jvm.Cond.code ({ cls := "DyeLatticeModel", name := "spelled", desc := "(IIII)J" } : Jvm.MethodName) prog_20_method_71_code (6 : Nat) (Option.some Jvm.ClassFile.FieldType.long)) ∈ lw_all := lw_g (lw_at lw_m6 213 rfl) rfl
theorem q1497 : (Jvm.Cond.methodLink "DyeLatticeModel" (218 : Nat) ({ cls := "DyeLatticeModel", name := "readsSize", desc := "()V" } : Jvm.MethodName)) ∈ lw_all := lw_g (lw_at lw_m6 214 rfl) rfl
theorem q1498 : (Jvm.Cond.privateMethod ({ cls := "DyeLatticeModel", name := "readsSize", desc := "()V" } : Jvm.MethodName)) ∈ lw_tbl := lw_at lw_m6 215 rfl
theorem q1499 : (Jvm.Cond.instanceMethod ({ cls := "DyeLatticeModel", name := "readsSize", desc := "()V" } : Jvm.MethodName)) ∈ lw_all := lw_g (lw_at lw_m6 216 rfl) rfl
theorem q1500 : (Jvm.Cond.code ({ cls := "DyeLatticeModel", name := "readsSize", desc := "()V" } : Jvm.MethodName) prog_20_method_80_code (3 : Nat) (Option.none : Option Jvm.ClassFile.FieldType)) ∈ lw_all := lw_g (lw_at lw_m6 217 rfl) rfl
theorem q1501 : (Jvm.Cond.methodLink "DyeLatticeModel" (212 : Nat) ({ cls := "DyeLatticeModel", name := "number", desc := "(II)I" } : Jvm.MethodName)) ∈ lw_all := lw_g (lw_at lw_m6 218 rfl) rfl
theorem q1502 : (Jvm.Cond.privateMethod ({ cls := "DyeLatticeModel", name := "number", desc := "(II)I" } : Jvm.MethodName)) ∈ lw_tbl := lw_at lw_m6 219 rfl
theorem q1503 : (Jvm.Cond.instanceMethod ({ cls := "DyeLatticeModel", name := "number", desc := "(II)I" } : Jvm.MethodName)) ∈ lw_all := lw_g (lw_at lw_m6 220 rfl) rfl
theorem q1504 : (Jvm.Cond.code ({ cls := "DyeLatticeModel", name := "number", desc := "(II)I" } : Jvm.MethodName) prog_20_method_73_code (5 : Nat) (Option.some Jvm.ClassFile.FieldType.int)) ∈ lw_all := lw_g (lw_at lw_m6 221 rfl) rfl
theorem q1505 : (Jvm.Cond.methodLink "DyeLatticeModel" (221 : Nat) ({ cls := "DyeLatticeModel", name := "kindTold", desc := "()I" } : Jvm.MethodName)) ∈ lw_all := lw_g (lw_at lw_m6 222 rfl) rfl
theorem q1506 : (Jvm.Cond.privateMethod ({ cls := "DyeLatticeModel", name := "kindTold", desc := "()I" } : Jvm.MethodName)) ∈ lw_tbl := lw_at lw_m6 223 rfl
theorem q1507 : (Jvm.Cond.instanceMethod ({ cls := "DyeLatticeModel", name := "kindTold", desc := "()I" } : Jvm.MethodName)) ∈ lw_all := lw_g (lw_at lw_m6 224 rfl) rfl
theorem q1508 : (Jvm.Cond.code ({ cls := "DyeLatticeModel", name := "kindTold", desc := "()I" } : Jvm.MethodName) prog_20_method_75_code (8 : Nat) (Option.some Jvm.ClassFile.FieldType.int)) ∈ lw_all := lw_g (lw_at lw_m6 225 rfl) rfl
theorem q1509 : (Jvm.Cond.methodLink "DyeLatticeModel" (208 : Nat) ({ cls := "DyeLatticeModel", name := "longer", desc := "(JIIII)J" } : Jvm.MethodName)) ∈ lw_all := lw_g (lw_at lw_m6 226 rfl) rfl
theorem q1510 : (Jvm.Cond.static ({ cls := "DyeLatticeModel", name := "longer", desc := "(JIIII)J" } : Jvm.MethodName)) ∈ lw_all := lw_g (lw_at lw_m6 227 rfl) rfl
theorem q1511 : (Jvm.Cond.code ({ cls := "DyeLatticeModel", name := "longer", desc := "(JIIII)J" } : Jvm.MethodName) prog_20_method_72_code (8 : Nat) (Option.some Jvm.ClassFile.FieldType.long)) ∈ lw_all := lw_g (lw_at lw_m6 228 rfl) rfl
theorem q1512 : (Jvm.Cond.methodLink "DyeLatticeModel" (224 : Nat) ({ cls := "DyeLatticeModel", name := "readsRow", desc := "()V" } : Jvm.MethodName)) ∈ lw_all := lw_g (lw_at lw_m6 229 rfl) rfl
theorem q1513 : (Jvm.Cond.privateMethod ({ cls := "DyeLatticeModel", name := "readsRow", desc := "()V" } : Jvm.MethodName)) ∈ lw_tbl := lw_at lw_m6 230 rfl
theorem q1514 : (Jvm.Cond.instanceMethod ({ cls := "DyeLatticeModel", name := "readsRow", desc := "()V" } : Jvm.MethodName)) ∈ lw_all := lw_g (lw_at lw_m6 231 rfl) rfl
theorem q1515 : (Jvm.Cond.code ({ cls := "DyeLatticeModel", name := "readsRow", desc := "()V" } : Jvm.MethodName) prog_20_method_77_code (4 : Nat) (Option.none : Option Jvm.ClassFile.FieldType)) ∈ lw_all := lw_g (lw_at lw_m6 232 rfl) rfl
theorem q1516 : (Jvm.Cond.methodLink "DyeLatticeModel" (227 : Nat) ({ cls := "DyeLatticeModel", name := "readsValve", desc := "()V" } : Jvm.MethodName)) ∈ lw_all := lw_g (lw_at lw_m6 233 rfl) rfl
theorem q1517 : (Jvm.Cond.privateMethod ({ cls := "DyeLatticeModel", name := "readsValve", desc := "()V" } : Jvm.MethodName)) ∈ lw_tbl := lw_at lw_m6 234 rfl
theorem q1518 : (Jvm.Cond.instanceMethod ({ cls := "DyeLatticeModel", name := "readsValve", desc := "()V" } : Jvm.MethodName)) ∈ lw_all := lw_g (lw_at lw_m6 235 rfl) rfl
theorem q1519 : (Jvm.Cond.code ({ cls := "DyeLatticeModel", name := "readsValve", desc := "()V" } : Jvm.MethodName) prog_20_method_78_code (4 : Nat) (Option.none : Option Jvm.ClassFile.FieldType)) ∈ lw_all := lw_g (lw_at lw_m6 236 rfl) rfl
theorem q1520 : (Jvm.Cond.methodLink "DyeLatticeModel" (215 : Nat) ({ cls := "DyeLatticeModel", name := "valveTold", desc := "()I" } : Jvm.MethodName)) ∈ lw_all := lw_g (lw_at lw_m6 237 rfl) rfl
theorem q1521 : (Jvm.Cond.privateMethod ({ cls := "DyeLatticeModel", name := "valveTold", desc := "()I" } : Jvm.MethodName)) ∈ lw_tbl := lw_at lw_m6 238 rfl
theorem q1522 : (Jvm.Cond.instanceMethod ({ cls := "DyeLatticeModel", name := "valveTold", desc := "()I" } : Jvm.MethodName)) ∈ lw_all := lw_g (lw_at lw_m6 239 rfl) rfl
theorem q1523 : (Jvm.Cond.code ({ cls := "DyeLatticeModel", name := "valveTold", desc := "()I" } : Jvm.MethodName) prog_20_method_76_code (8 : Nat) (Option.some Jvm.ClassFile.FieldType.int)) ∈ lw_all := lw_g (lw_at lw_m7 0 rfl) rfl
theorem q1524 : (Jvm.Cond.methodLink "DyeLatticeModel" (230 : Nat) ({ cls := "DyeLatticeModel", name := "readsSource", desc := "()V" } : Jvm.MethodName)) ∈ lw_all := lw_g (lw_at lw_m7 1 rfl) rfl
theorem q1525 : (Jvm.Cond.privateMethod ({ cls := "DyeLatticeModel", name := "readsSource", desc := "()V" } : Jvm.MethodName)) ∈ lw_tbl := lw_at lw_m7 2 rfl
theorem q1526 : (Jvm.Cond.instanceMethod ({ cls := "DyeLatticeModel", name := "readsSource", desc := "()V" } : Jvm.MethodName)) ∈ lw_all := lw_g (lw_at lw_m7 3 rfl) rfl
theorem q1527 : (Jvm.Cond.code ({ cls := "DyeLatticeModel", name := "readsSource", desc := "()V" } : Jvm.MethodName) prog_20_method_79_code (3 : Nat) (Option.none : Option Jvm.ClassFile.FieldType)) ∈ lw_all := lw_g (lw_at lw_m7 4 rfl) rfl
theorem q1528 : (Jvm.Cond.methodLink "DyeLatticeModel" (233 : Nat) ({ cls := "DyeLatticeModel", name := "takes", desc := "(I)V" } : Jvm.MethodName)) ∈ lw_all := lw_g (lw_at lw_m7 5 rfl) rfl
theorem q1529 : (Jvm.Cond.privateMethod ({ cls := "DyeLatticeModel", name := "takes", desc := "(I)V" } : Jvm.MethodName)) ∈ lw_tbl := lw_at lw_m7 6 rfl
theorem q1530 : (Jvm.Cond.instanceMethod ({ cls := "DyeLatticeModel", name := "takes", desc := "(I)V" } : Jvm.MethodName)) ∈ lw_all := lw_g (lw_at lw_m7 7 rfl) rfl
theorem q1531 : (Jvm.Cond.code ({ cls := "DyeLatticeModel", name := "takes", desc := "(I)V" } : Jvm.MethodName) prog_20_method_74_code (2 : Nat) (Option.none : Option Jvm.ClassFile.FieldType)) ∈ lw_all := lw_g (lw_at lw_m7 8 rfl) rfl
theorem q1532 : (Jvm.Cond.methodLink "DyeLatticeModel" (239 : Nat) ({ cls := "DyeLatticeModel", name := "loads", desc := "()V" } : Jvm.MethodName)) ∈ lw_all := lw_g (lw_at lw_m7 9 rfl) rfl
theorem q1533 : (Jvm.Cond.privateMethod ({ cls := "DyeLatticeModel", name := "loads", desc := "()V" } : Jvm.MethodName)) ∈ lw_tbl := lw_at lw_m7 10 rfl
theorem q1534 : (Jvm.Cond.instanceMethod ({ cls := "DyeLatticeModel", name := "loads", desc := "()V" } : Jvm.MethodName)) ∈ lw_all := lw_g (lw_at lw_m7 11 rfl) rfl
theorem q1535 : (Jvm.Cond.code ({ cls := "DyeLatticeModel", name := "loads", desc := "()V" } : Jvm.MethodName) prog_20_method_83_code (3 : Nat) (Option.none : Option Jvm.ClassFile.FieldType)) ∈ lw_all := lw_g (lw_at lw_m7 12 rfl) rfl
theorem q1553 : (Jvm.Cond.castable "DyeLatticeModel" "java/lang/Object") ∈ lw_tbl := lw_at lw_m7 30 rfl
