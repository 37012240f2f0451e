/-! DyeLattice$Lattice -/
set_option maxRecDepth 100000
abbrev cX1_init : ByteArray := prog_4_method_1_code
def yX1_init : MethodName := ⟨RX1, "<init>", "(II)V"⟩
def dkwX1_init_4 : List UInt8 := [167, 255, 238, 42, 182, 0, 53, 177]
abbrev dktX1_init_4 : List UInt8 := dkwX1_init_4 ++ []
def dkwX1_init_3 : List UInt8 := [181, 0, 49, 3, 54, 4, 21, 4, 29, 162, 0, 18, 42, 180, 0, 33, 21, 4, 16, 50, 79, 132, 4, 1]
abbrev dktX1_init_3 : List UInt8 := dkwX1_init_3 ++ dktX1_init_4
def dkwX1_init_2 : List UInt8 := [189, 0, 37, 181, 0, 39, 42, 29, 188, 10, 181, 0, 43, 42, 29, 188, 10, 181, 0, 46, 42, 29, 188, 4]
abbrev dktX1_init_2 : List UInt8 := dkwX1_init_2 ++ dktX1_init_3
def dkwX1_init_1 : List UInt8 := [181, 0, 27, 42, 28, 181, 0, 30, 27, 28, 104, 62, 42, 29, 188, 10, 181, 0, 33, 42, 7, 29, 104]
abbrev dktX1_init_1 : List UInt8 := dkwX1_init_1 ++ dktX1_init_2
def dkwX1_init_0 : List UInt8 := [42, 183, 0, 3, 42, 178, 0, 9, 181, 0, 15, 42, 16, 50, 181, 0, 20, 42, 4, 181, 0, 24, 42, 27]
abbrev dktX1_init_0 : List UInt8 := dkwX1_init_0 ++ dktX1_init_1
theorem dksX1_init_0 : cX1_init.data.toList.drop 0 = dktX1_init_0 := by decide +kernel
theorem dksX1_init_1 : cX1_init.data.toList.drop 24 = dktX1_init_1 := dk_seg dksX1_init_0 24 rfl rfl
theorem dksX1_init_2 : cX1_init.data.toList.drop 47 = dktX1_init_2 := dk_seg dksX1_init_1 23 rfl rfl
theorem dksX1_init_3 : cX1_init.data.toList.drop 71 = dktX1_init_3 := dk_seg dksX1_init_2 24 rfl rfl
theorem dksX1_init_4 : cX1_init.data.toList.drop 95 = dktX1_init_4 := dk_seg dksX1_init_3 24 rfl rfl
theorem dX1_init_0 : decode cX1_init 0 = .ok (.aload_n 0, 1) := dk_42 (dk_at dksX1_init_0 0 rfl rfl)
theorem dX1_init_1 : decode cX1_init 1 = .ok (.invokespecial 3, 3) := dk_183 0 3 (dk_at dksX1_init_0 1 rfl rfl)
theorem dX1_init_4 : decode cX1_init 4 = .ok (.aload_n 0, 1) := dk_42 (dk_at dksX1_init_0 4 rfl rfl)
theorem dX1_init_5 : decode cX1_init 5 = .ok (.getstatic 9, 3) := dk_178 0 9 (dk_at dksX1_init_0 5 rfl rfl)
theorem dX1_init_8 : decode cX1_init 8 = .ok (.putfield 15, 3) := dk_181 0 15 (dk_at dksX1_init_0 8 rfl rfl)
theorem dX1_init_11 : decode cX1_init 11 = .ok (.aload_n 0, 1) := dk_42 (dk_at dksX1_init_0 11 rfl rfl)
theorem dX1_init_12 : decode cX1_init 12 = .ok (.bipush 50, 2) := dk_16 50 (dk_at dksX1_init_0 12 rfl rfl)
theorem dX1_init_14 : decode cX1_init 14 = .ok (.putfield 20, 3) := dk_181 0 20 (dk_at dksX1_init_0 14 rfl rfl)
theorem dX1_init_17 : decode cX1_init 17 = .ok (.aload_n 0, 1) := dk_42 (dk_at dksX1_init_0 17 rfl rfl)
theorem dX1_init_18 : decode cX1_init 18 = .ok (.iconst 1, 1) := dk_4 (dk_at dksX1_init_0 18 rfl rfl)
theorem dX1_init_19 : decode cX1_init 19 = .ok (.putfield 24, 3) := dk_181 0 24 (dk_at dksX1_init_0 19 rfl rfl)
theorem dX1_init_22 : decode cX1_init 22 = .ok (.aload_n 0, 1) := dk_42 (dk_at dksX1_init_0 22 rfl rfl)
theorem dX1_init_23 : decode cX1_init 23 = .ok (.iload_n 1, 1) := dk_27 (dk_at dksX1_init_0 23 rfl rfl)
theorem dX1_init_24 : decode cX1_init 24 = .ok (.putfield 27, 3) := dk_181 0 27 (dk_at dksX1_init_1 0 rfl rfl)
theorem dX1_init_27 : decode cX1_init 27 = .ok (.aload_n 0, 1) := dk_42 (dk_at dksX1_init_1 3 rfl rfl)
theorem dX1_init_28 : decode cX1_init 28 = .ok (.iload_n 2, 1) := dk_28 (dk_at dksX1_init_1 4 rfl rfl)
theorem dX1_init_29 : decode cX1_init 29 = .ok (.putfield 30, 3) := dk_181 0 30 (dk_at dksX1_init_1 5 rfl rfl)
theorem dX1_init_32 : decode cX1_init 32 = .ok (.iload_n 1, 1) := dk_27 (dk_at dksX1_init_1 8 rfl rfl)
theorem dX1_init_33 : decode cX1_init 33 = .ok (.iload_n 2, 1) := dk_28 (dk_at dksX1_init_1 9 rfl rfl)
theorem dX1_init_34 : decode cX1_init 34 = .ok (.imul, 1) := dk_104 (dk_at dksX1_init_1 10 rfl rfl)
theorem dX1_init_35 : decode cX1_init 35 = .ok (.istore_n 3, 1) := dk_62 (dk_at dksX1_init_1 11 rfl rfl)
theorem dX1_init_36 : decode cX1_init 36 = .ok (.aload_n 0, 1) := dk_42 (dk_at dksX1_init_1 12 rfl rfl)
theorem dX1_init_37 : decode cX1_init 37 = .ok (.iload_n 3, 1) := dk_29 (dk_at dksX1_init_1 13 rfl rfl)
theorem dX1_init_38 : decode cX1_init 38 = .ok (.newarray .int, 2) := dk_188_10 (dk_at dksX1_init_1 14 rfl rfl)
theorem dX1_init_40 : decode cX1_init 40 = .ok (.putfield 33, 3) := dk_181 0 33 (dk_at dksX1_init_1 16 rfl rfl)
theorem dX1_init_43 : decode cX1_init 43 = .ok (.aload_n 0, 1) := dk_42 (dk_at dksX1_init_1 19 rfl rfl)
theorem dX1_init_44 : decode cX1_init 44 = .ok (.iconst 4, 1) := dk_7 (dk_at dksX1_init_1 20 rfl rfl)
theorem dX1_init_45 : decode cX1_init 45 = .ok (.iload_n 3, 1) := dk_29 (dk_at dksX1_init_1 21 rfl rfl)
theorem dX1_init_46 : decode cX1_init 46 = .ok (.imul, 1) := dk_104 (dk_at dksX1_init_1 22 rfl rfl)
theorem dX1_init_47 : decode cX1_init 47 = .ok (.anewarray 37, 3) := dk_189 0 37 (dk_at dksX1_init_2 0 rfl rfl)
theorem dX1_init_50 : decode cX1_init 50 = .ok (.putfield 39, 3) := dk_181 0 39 (dk_at dksX1_init_2 3 rfl rfl)
theorem dX1_init_53 : decode cX1_init 53 = .ok (.aload_n 0, 1) := dk_42 (dk_at dksX1_init_2 6 rfl rfl)
theorem dX1_init_54 : decode cX1_init 54 = .ok (.iload_n 3, 1) := dk_29 (dk_at dksX1_init_2 7 rfl rfl)
theorem dX1_init_55 : decode cX1_init 55 = .ok (.newarray .int, 2) := dk_188_10 (dk_at dksX1_init_2 8 rfl rfl)
theorem dX1_init_57 : decode cX1_init 57 = .ok (.putfield 43, 3) := dk_181 0 43 (dk_at dksX1_init_2 10 rfl rfl)
theorem dX1_init_60 : decode cX1_init 60 = .ok (.aload_n 0, 1) := dk_42 (dk_at dksX1_init_2 13 rfl rfl)
theorem dX1_init_61 : decode cX1_init 61 = .ok (.iload_n 3, 1) := dk_29 (dk_at dksX1_init_2 14 rfl rfl)
theorem dX1_init_62 : decode cX1_init 62 = .ok (.newarray .int, 2) := dk_188_10 (dk_at dksX1_init_2 15 rfl rfl)
theorem dX1_init_64 : decode cX1_init 64 = .ok (.putfield 46, 3) := dk_181 0 46 (dk_at dksX1_init_2 17 rfl rfl)
theorem dX1_init_67 : decode cX1_init 67 = .ok (.aload_n 0, 1) := dk_42 (dk_at dksX1_init_2 20 rfl rfl)
theorem dX1_init_68 : decode cX1_init 68 = .ok (.iload_n 3, 1) := dk_29 (dk_at dksX1_init_2 21 rfl rfl)
theorem dX1_init_69 : decode cX1_init 69 = .ok (.newarray .boolean, 2) := dk_188_4 (dk_at dksX1_init_2 22 rfl rfl)
theorem dX1_init_71 : decode cX1_init 71 = .ok (.putfield 49, 3) := dk_181 0 49 (dk_at dksX1_init_3 0 rfl rfl)
theorem dX1_init_74 : decode cX1_init 74 = .ok (.iconst 0, 1) := dk_3 (dk_at dksX1_init_3 3 rfl rfl)
theorem dX1_init_75 : decode cX1_init 75 = .ok (.istore 4, 2) := dk_54 4 (dk_at dksX1_init_3 4 rfl rfl)
theorem dX1_init_77 : decode cX1_init 77 = .ok (.iload 4, 2) := dk_21 4 (dk_at dksX1_init_3 6 rfl rfl)
theorem dX1_init_79 : decode cX1_init 79 = .ok (.iload_n 3, 1) := dk_29 (dk_at dksX1_init_3 8 rfl rfl)
theorem dX1_init_80 : decode cX1_init 80 = .ok (.if_icmp .ge 18, 3) := dk_162 0 18 (dk_at dksX1_init_3 9 rfl rfl)
theorem dX1_init_83 : decode cX1_init 83 = .ok (.aload_n 0, 1) := dk_42 (dk_at dksX1_init_3 12 rfl rfl)
theorem dX1_init_84 : decode cX1_init 84 = .ok (.getfield 33, 3) := dk_180 0 33 (dk_at dksX1_init_3 13 rfl rfl)
theorem dX1_init_87 : decode cX1_init 87 = .ok (.iload 4, 2) := dk_21 4 (dk_at dksX1_init_3 16 rfl rfl)
theorem dX1_init_89 : decode cX1_init 89 = .ok (.bipush 50, 2) := dk_16 50 (dk_at dksX1_init_3 18 rfl rfl)
theorem dX1_init_91 : decode cX1_init 91 = .ok (.iastore, 1) := dk_79 (dk_at dksX1_init_3 20 rfl rfl)
theorem dX1_init_92 : decode cX1_init 92 = .ok (.iinc 4 1, 3) := dk_132 4 1 (dk_at dksX1_init_3 21 rfl rfl)
theorem dX1_init_95 : decode cX1_init 95 = .ok (.goto (-18), 3) := dk_167 255 238 (dk_at dksX1_init_4 0 rfl rfl)
theorem dX1_init_98 : decode cX1_init 98 = .ok (.aload_n 0, 1) := dk_42 (dk_at dksX1_init_4 3 rfl rfl)
theorem dX1_init_99 : decode cX1_init 99 = .ok (.invokevirtual 53, 3) := dk_182 0 53 (dk_at dksX1_init_4 4 rfl rfl)
theorem dX1_init_102 : decode cX1_init 102 = .ok (.return_, 1) := dk_177 (dk_at dksX1_init_4 7 rfl rfl)
abbrev cX1_freeValves : ByteArray := prog_4_method_4_code
def yX1_freeValves : MethodName := ⟨RX1, "freeValves", "()V"⟩
def dkwX1_freeValves_1 : List UInt8 := [167, 255, 235, 177]
abbrev dktX1_freeValves_1 : List UInt8 := dkwX1_freeValves_1 ++ []
def dkwX1_freeValves_0 : List UInt8 := [3, 60, 27, 42, 180, 0, 39, 190, 162, 0, 18, 42, 180, 0, 39, 27, 178, 0, 75, 83, 132, 1, 1]
abbrev dktX1_freeValves_0 : List UInt8 := dkwX1_freeValves_0 ++ dktX1_freeValves_1
theorem dksX1_freeValves_0 : cX1_freeValves.data.toList.drop 0 = dktX1_freeValves_0 := by decide +kernel
theorem dksX1_freeValves_1 : cX1_freeValves.data.toList.drop 23 = dktX1_freeValves_1 := dk_seg dksX1_freeValves_0 23 rfl rfl
theorem dX1_freeValves_0 : decode cX1_freeValves 0 = .ok (.iconst 0, 1) := dk_3 (dk_at dksX1_freeValves_0 0 rfl rfl)
theorem dX1_freeValves_1 : decode cX1_freeValves 1 = .ok (.istore_n 1, 1) := dk_60 (dk_at dksX1_freeValves_0 1 rfl rfl)
theorem dX1_freeValves_2 : decode cX1_freeValves 2 = .ok (.iload_n 1, 1) := dk_27 (dk_at dksX1_freeValves_0 2 rfl rfl)
theorem dX1_freeValves_3 : decode cX1_freeValves 3 = .ok (.aload_n 0, 1) := dk_42 (dk_at dksX1_freeValves_0 3 rfl rfl)
theorem dX1_freeValves_4 : decode cX1_freeValves 4 = .ok (.getfield 39, 3) := dk_180 0 39 (dk_at dksX1_freeValves_0 4 rfl rfl)
theorem dX1_freeValves_7 : decode cX1_freeValves 7 = .ok (.arraylength, 1) := dk_190 (dk_at dksX1_freeValves_0 7 rfl rfl)
theorem dX1_freeValves_8 : decode cX1_freeValves 8 = .ok (.if_icmp .ge 18, 3) := dk_162 0 18 (dk_at dksX1_freeValves_0 8 rfl rfl)
theorem dX1_freeValves_11 : decode cX1_freeValves 11 = .ok (.aload_n 0, 1) := dk_42 (dk_at dksX1_freeValves_0 11 rfl rfl)
theorem dX1_freeValves_12 : decode cX1_freeValves 12 = .ok (.getfield 39, 3) := dk_180 0 39 (dk_at dksX1_freeValves_0 12 rfl rfl)
theorem dX1_freeValves_15 : decode cX1_freeValves 15 = .ok (.iload_n 1, 1) := dk_27 (dk_at dksX1_freeValves_0 15 rfl rfl)
theorem dX1_freeValves_16 : decode cX1_freeValves 16 = .ok (.getstatic 75, 3) := dk_178 0 75 (dk_at dksX1_freeValves_0 16 rfl rfl)
theorem dX1_freeValves_19 : decode cX1_freeValves 19 = .ok (.aastore, 1) := dk_83 (dk_at dksX1_freeValves_0 19 rfl rfl)
theorem dX1_freeValves_20 : decode cX1_freeValves 20 = .ok (.iinc 1 1, 3) := dk_132 1 1 (dk_at dksX1_freeValves_0 20 rfl rfl)
theorem dX1_freeValves_23 : decode cX1_freeValves 23 = .ok (.goto (-21), 3) := dk_167 255 235 (dk_at dksX1_freeValves_1 0 rfl rfl)
theorem dX1_freeValves_26 : decode cX1_freeValves 26 = .ok (.return_, 1) := dk_177 (dk_at dksX1_freeValves_1 3 rfl rfl)
abbrev cX1_resized : ByteArray := prog_4_method_3_code
def yX1_resized : MethodName := ⟨RX1, "resized", "(II)LDyeLattice$Lattice;"⟩
def dkwX1_resized_1 : List UInt8 := [181, 0, 20, 45, 42, 180, 0, 24, 181, 0, 24, 45, 42, 180, 0, 72, 181, 0, 72, 45, 176]
abbrev dktX1_resized_1 : List UInt8 := dkwX1_resized_1 ++ []
def dkwX1_resized_0 : List UInt8 := [187, 0, 16, 89, 27, 28, 183, 0, 69, 78, 45, 42, 180, 0, 15, 181, 0, 15, 45, 42, 180, 0, 20]
abbrev dktX1_resized_0 : List UInt8 := dkwX1_resized_0 ++ dktX1_resized_1
theorem dksX1_resized_0 : cX1_resized.data.toList.drop 0 = dktX1_resized_0 := by decide +kernel
theorem dksX1_resized_1 : cX1_resized.data.toList.drop 23 = dktX1_resized_1 := dk_seg dksX1_resized_0 23 rfl rfl
theorem dX1_resized_0 : decode cX1_resized 0 = .ok (.new 16, 3) := dk_187 0 16 (dk_at dksX1_resized_0 0 rfl rfl)
theorem dX1_resized_3 : decode cX1_resized 3 = .ok (.dup, 1) := dk_89 (dk_at dksX1_resized_0 3 rfl rfl)
theorem dX1_resized_4 : decode cX1_resized 4 = .ok (.iload_n 1, 1) := dk_27 (dk_at dksX1_resized_0 4 rfl rfl)
theorem dX1_resized_5 : decode cX1_resized 5 = .ok (.iload_n 2, 1) := dk_28 (dk_at dksX1_resized_0 5 rfl rfl)
theorem dX1_resized_6 : decode cX1_resized 6 = .ok (.invokespecial 69, 3) := dk_183 0 69 (dk_at dksX1_resized_0 6 rfl rfl)
theorem dX1_resized_9 : decode cX1_resized 9 = .ok (.astore_n 3, 1) := dk_78 (dk_at dksX1_resized_0 9 rfl rfl)
theorem dX1_resized_10 : decode cX1_resized 10 = .ok (.aload_n 3, 1) := dk_45 (dk_at dksX1_resized_0 10 rfl rfl)
theorem dX1_resized_11 : decode cX1_resized 11 = .ok (.aload_n 0, 1) := dk_42 (dk_at dksX1_resized_0 11 rfl rfl)
theorem dX1_resized_12 : decode cX1_resized 12 = .ok (.getfield 15, 3) := dk_180 0 15 (dk_at dksX1_resized_0 12 rfl rfl)
theorem dX1_resized_15 : decode cX1_resized 15 = .ok (.putfield 15, 3) := dk_181 0 15 (dk_at dksX1_resized_0 15 rfl rfl)
theorem dX1_resized_18 : decode cX1_resized 18 = .ok (.aload_n 3, 1) := dk_45 (dk_at dksX1_resized_0 18 rfl rfl)
theorem dX1_resized_19 : decode cX1_resized 19 = .ok (.aload_n 0, 1) := dk_42 (dk_at dksX1_resized_0 19 rfl rfl)
theorem dX1_resized_20 : decode cX1_resized 20 = .ok (.getfield 20, 3) := dk_180 0 20 (dk_at dksX1_resized_0 20 rfl rfl)
theorem dX1_resized_23 : decode cX1_resized 23 = .ok (.putfield 20, 3) := dk_181 0 20 (dk_at dksX1_resized_1 0 rfl rfl)
theorem dX1_resized_26 : decode cX1_resized 26 = .ok (.aload_n 3, 1) := dk_45 (dk_at dksX1_resized_1 3 rfl rfl)
theorem dX1_resized_27 : decode cX1_resized 27 = .ok (.aload_n 0, 1) := dk_42 (dk_at dksX1_resized_1 4 rfl rfl)
theorem dX1_resized_28 : decode cX1_resized 28 = .ok (.getfield 24, 3) := dk_180 0 24 (dk_at dksX1_resized_1 5 rfl rfl)
theorem dX1_resized_31 : decode cX1_resized 31 = .ok (.putfield 24, 3) := dk_181 0 24 (dk_at dksX1_resized_1 8 rfl rfl)
theorem dX1_resized_34 : decode cX1_resized 34 = .ok (.aload_n 3, 1) := dk_45 (dk_at dksX1_resized_1 11 rfl rfl)
theorem dX1_resized_35 : decode cX1_resized 35 = .ok (.aload_n 0, 1) := dk_42 (dk_at dksX1_resized_1 12 rfl rfl)
theorem dX1_resized_36 : decode cX1_resized 36 = .ok (.getfield 72, 3) := dk_180 0 72 (dk_at dksX1_resized_1 13 rfl rfl)
theorem dX1_resized_39 : decode cX1_resized 39 = .ok (.putfield 72, 3) := dk_181 0 72 (dk_at dksX1_resized_1 16 rfl rfl)
theorem dX1_resized_42 : decode cX1_resized 42 = .ok (.aload_n 3, 1) := dk_45 (dk_at dksX1_resized_1 19 rfl rfl)
theorem dX1_resized_43 : decode cX1_resized 43 = .ok (.areturn, 1) := dk_176 (dk_at dksX1_resized_1 20 rfl rfl)
abbrev cX1_cells : ByteArray := prog_4_method_5_code
def yX1_cells : MethodName := ⟨RX1, "cells", "()I"⟩
def dkwX1_cells_0 : List UInt8 := [42, 180, 0, 33, 190, 172]
abbrev dktX1_cells_0 : List UInt8 := dkwX1_cells_0 ++ []
theorem dksX1_cells_0 : cX1_cells.data.toList.drop 0 = dktX1_cells_0 := by decide +kernel
theorem dX1_cells_0 : decode cX1_cells 0 = .ok (.aload_n 0, 1) := dk_42 (dk_at dksX1_cells_0 0 rfl rfl)
theorem dX1_cells_1 : decode cX1_cells 1 = .ok (.getfield 33, 3) := dk_180 0 33 (dk_at dksX1_cells_0 1 rfl rfl)
theorem dX1_cells_4 : decode cX1_cells 4 = .ok (.arraylength, 1) := dk_190 (dk_at dksX1_cells_0 4 rfl rfl)
theorem dX1_cells_5 : decode cX1_cells 5 = .ok (.ireturn, 1) := dk_172 (dk_at dksX1_cells_0 5 rfl rfl)
abbrev cX1_copy : ByteArray := prog_4_method_2_code
def yX1_copy : MethodName := ⟨RX1, "copy", "()LDyeLattice$Lattice;"⟩
def dkwX1_copy_4 : List UInt8 := [184, 0, 63, 42, 180, 0, 49, 3, 43, 180, 0, 49, 3, 42, 180, 0, 49, 190, 184, 0, 63, 43, 176]
abbrev dktX1_copy_4 : List UInt8 := dkwX1_copy_4 ++ []
def dkwX1_copy_3 : List UInt8 := [180, 0, 43, 190, 184, 0, 63, 42, 180, 0, 46, 3, 43, 180, 0, 46, 3, 42, 180, 0, 46, 190]
abbrev dktX1_copy_3 : List UInt8 := dkwX1_copy_3 ++ dktX1_copy_4
def dkwX1_copy_2 : List UInt8 := [180, 0, 39, 3, 42, 180, 0, 39, 190, 184, 0, 63, 42, 180, 0, 43, 3, 43, 180, 0, 43, 3, 42]
abbrev dktX1_copy_2 : List UInt8 := dkwX1_copy_2 ++ dktX1_copy_3
def dkwX1_copy_1 : List UInt8 := [180, 0, 33, 3, 43, 180, 0, 33, 3, 42, 180, 0, 33, 190, 184, 0, 63, 42, 180, 0, 39, 3, 43]
abbrev dktX1_copy_1 : List UInt8 := dkwX1_copy_1 ++ dktX1_copy_2
def dkwX1_copy_0 : List UInt8 := [42, 42, 180, 0, 27, 42, 180, 0, 30, 182, 0, 56, 76, 43, 42, 180, 0, 60, 181, 0, 60, 42]
abbrev dktX1_copy_0 : List UInt8 := dkwX1_copy_0 ++ dktX1_copy_1
theorem dksX1_copy_0 : cX1_copy.data.toList.drop 0 = dktX1_copy_0 := by decide +kernel
theorem dksX1_copy_1 : cX1_copy.data.toList.drop 22 = dktX1_copy_1 := dk_seg dksX1_copy_0 22 rfl rfl
theorem dksX1_copy_2 : cX1_copy.data.toList.drop 45 = dktX1_copy_2 := dk_seg dksX1_copy_1 23 rfl rfl
theorem dksX1_copy_3 : cX1_copy.data.toList.drop 68 = dktX1_copy_3 := dk_seg dksX1_copy_2 23 rfl rfl
theorem dksX1_copy_4 : cX1_copy.data.toList.drop 90 = dktX1_copy_4 := dk_seg dksX1_copy_3 22 rfl rfl
theorem dX1_copy_0 : decode cX1_copy 0 = .ok (.aload_n 0, 1) := dk_42 (dk_at dksX1_copy_0 0 rfl rfl)
theorem dX1_copy_1 : decode cX1_copy 1 = .ok (.aload_n 0, 1) := dk_42 (dk_at dksX1_copy_0 1 rfl rfl)
theorem dX1_copy_2 : decode cX1_copy 2 = .ok (.getfield 27, 3) := dk_180 0 27 (dk_at dksX1_copy_0 2 rfl rfl)
theorem dX1_copy_5 : decode cX1_copy 5 = .ok (.aload_n 0, 1) := dk_42 (dk_at dksX1_copy_0 5 rfl rfl)
theorem dX1_copy_6 : decode cX1_copy 6 = .ok (.getfield 30, 3) := dk_180 0 30 (dk_at dksX1_copy_0 6 rfl rfl)
theorem dX1_copy_9 : decode cX1_copy 9 = .ok (.invokevirtual 56, 3) := dk_182 0 56 (dk_at dksX1_copy_0 9 rfl rfl)
theorem dX1_copy_12 : decode cX1_copy 12 = .ok (.astore_n 1, 1) := dk_76 (dk_at dksX1_copy_0 12 rfl rfl)
theorem dX1_copy_13 : decode cX1_copy 13 = .ok (.aload_n 1, 1) := dk_43 (dk_at dksX1_copy_0 13 rfl rfl)
theorem dX1_copy_14 : decode cX1_copy 14 = .ok (.aload_n 0, 1) := dk_42 (dk_at dksX1_copy_0 14 rfl rfl)
theorem dX1_copy_15 : decode cX1_copy 15 = .ok (.getfield 60, 3) := dk_180 0 60 (dk_at dksX1_copy_0 15 rfl rfl)
theorem dX1_copy_18 : decode cX1_copy 18 = .ok (.putfield 60, 3) := dk_181 0 60 (dk_at dksX1_copy_0 18 rfl rfl)
theorem dX1_copy_21 : decode cX1_copy 21 = .ok (.aload_n 0, 1) := dk_42 (dk_at dksX1_copy_0 21 rfl rfl)
theorem dX1_copy_22 : decode cX1_copy 22 = .ok (.getfield 33, 3) := dk_180 0 33 (dk_at dksX1_copy_1 0 rfl rfl)
theorem dX1_copy_25 : decode cX1_copy 25 = .ok (.iconst 0, 1) := dk_3 (dk_at dksX1_copy_1 3 rfl rfl)
theorem dX1_copy_26 : decode cX1_copy 26 = .ok (.aload_n 1, 1) := dk_43 (dk_at dksX1_copy_1 4 rfl rfl)
theorem dX1_copy_27 : decode cX1_copy 27 = .ok (.getfield 33, 3) := dk_180 0 33 (dk_at dksX1_copy_1 5 rfl rfl)
theorem dX1_copy_30 : decode cX1_copy 30 = .ok (.iconst 0, 1) := dk_3 (dk_at dksX1_copy_1 8 rfl rfl)
theorem dX1_copy_31 : decode cX1_copy 31 = .ok (.aload_n 0, 1) := dk_42 (dk_at dksX1_copy_1 9 rfl rfl)
theorem dX1_copy_32 : decode cX1_copy 32 = .ok (.getfield 33, 3) := dk_180 0 33 (dk_at dksX1_copy_1 10 rfl rfl)
theorem dX1_copy_35 : decode cX1_copy 35 = .ok (.arraylength, 1) := dk_190 (dk_at dksX1_copy_1 13 rfl rfl)
theorem dX1_copy_36 : decode cX1_copy 36 = .ok (.invokestatic 63, 3) := dk_184 0 63 (dk_at dksX1_copy_1 14 rfl rfl)
theorem dX1_copy_39 : decode cX1_copy 39 = .ok (.aload_n 0, 1) := dk_42 (dk_at dksX1_copy_1 17 rfl rfl)
theorem dX1_copy_40 : decode cX1_copy 40 = .ok (.getfield 39, 3) := dk_180 0 39 (dk_at dksX1_copy_1 18 rfl rfl)
theorem dX1_copy_43 : decode cX1_copy 43 = .ok (.iconst 0, 1) := dk_3 (dk_at dksX1_copy_1 21 rfl rfl)
theorem dX1_copy_44 : decode cX1_copy 44 = .ok (.aload_n 1, 1) := dk_43 (dk_at dksX1_copy_1 22 rfl rfl)
theorem dX1_copy_45 : decode cX1_copy 45 = .ok (.getfield 39, 3) := dk_180 0 39 (dk_at dksX1_copy_2 0 rfl rfl)
theorem dX1_copy_48 : decode cX1_copy 48 = .ok (.iconst 0, 1) := dk_3 (dk_at dksX1_copy_2 3 rfl rfl)
theorem dX1_copy_49 : decode cX1_copy 49 = .ok (.aload_n 0, 1) := dk_42 (dk_at dksX1_copy_2 4 rfl rfl)
theorem dX1_copy_50 : decode cX1_copy 50 = .ok (.getfield 39, 3) := dk_180 0 39 (dk_at dksX1_copy_2 5 rfl rfl)
theorem dX1_copy_53 : decode cX1_copy 53 = .ok (.arraylength, 1) := dk_190 (dk_at dksX1_copy_2 8 rfl rfl)
theorem dX1_copy_54 : decode cX1_copy 54 = .ok (.invokestatic 63, 3) := dk_184 0 63 (dk_at dksX1_copy_2 9 rfl rfl)
theorem dX1_copy_57 : decode cX1_copy 57 = .ok (.aload_n 0, 1) := dk_42 (dk_at dksX1_copy_2 12 rfl rfl)
theorem dX1_copy_58 : decode cX1_copy 58 = .ok (.getfield 43, 3) := dk_180 0 43 (dk_at dksX1_copy_2 13 rfl rfl)
theorem dX1_copy_61 : decode cX1_copy 61 = .ok (.iconst 0, 1) := dk_3 (dk_at dksX1_copy_2 16 rfl rfl)
theorem dX1_copy_62 : decode cX1_copy 62 = .ok (.aload_n 1, 1) := dk_43 (dk_at dksX1_copy_2 17 rfl rfl)
theorem dX1_copy_63 : decode cX1_copy 63 = .ok (.getfield 43, 3) := dk_180 0 43 (dk_at dksX1_copy_2 18 rfl rfl)
theorem dX1_copy_66 : decode cX1_copy 66 = .ok (.iconst 0, 1) := dk_3 (dk_at dksX1_copy_2 21 rfl rfl)
theorem dX1_copy_67 : decode cX1_copy 67 = .ok (.aload_n 0, 1) := dk_42 (dk_at dksX1_copy_2 22 rfl rfl)
theorem dX1_copy_68 : decode cX1_copy 68 = .ok (.getfield 43, 3) := dk_180 0 43 (dk_at dksX1_copy_3 0 rfl rfl)
theorem dX1_copy_71 : decode cX1_copy 71 = .ok (.arraylength, 1) := dk_190 (dk_at dksX1_copy_3 3 rfl rfl)
theorem dX1_copy_72 : decode cX1_copy 72 = .ok (.invokestatic 63, 3) := dk_184 0 63 (dk_at dksX1_copy_3 4 rfl rfl)
theorem dX1_copy_75 : decode cX1_copy 75 = .ok (.aload_n 0, 1) := dk_42 (dk_at dksX1_copy_3 7 rfl rfl)
theorem dX1_copy_76 : decode cX1_copy 76 = .ok (.getfield 46, 3) := dk_180 0 46 (dk_at dksX1_copy_3 8 rfl rfl)
theorem dX1_copy_79 : decode cX1_copy 79 = .ok (.iconst 0, 1) := dk_3 (dk_at dksX1_copy_3 11 rfl rfl)
theorem dX1_copy_80 : decode cX1_copy 80 = .ok (.aload_n 1, 1) := dk_43 (dk_at dksX1_copy_3 12 rfl rfl)
theorem dX1_copy_81 : decode cX1_copy 81 = .ok (.getfield 46, 3) := dk_180 0 46 (dk_at dksX1_copy_3 13 rfl rfl)
theorem dX1_copy_84 : decode cX1_copy 84 = .ok (.iconst 0, 1) := dk_3 (dk_at dksX1_copy_3 16 rfl rfl)
theorem dX1_copy_85 : decode cX1_copy 85 = .ok (.aload_n 0, 1) := dk_42 (dk_at dksX1_copy_3 17 rfl rfl)
theorem dX1_copy_86 : decode cX1_copy 86 = .ok (.getfield 46, 3) := dk_180 0 46 (dk_at dksX1_copy_3 18 rfl rfl)
theorem dX1_copy_89 : decode cX1_copy 89 = .ok (.arraylength, 1) := dk_190 (dk_at dksX1_copy_3 21 rfl rfl)
theorem dX1_copy_90 : decode cX1_copy 90 = .ok (.invokestatic 63, 3) := dk_184 0 63 (dk_at dksX1_copy_4 0 rfl rfl)
theorem dX1_copy_93 : decode cX1_copy 93 = .ok (.aload_n 0, 1) := dk_42 (dk_at dksX1_copy_4 3 rfl rfl)
theorem dX1_copy_94 : decode cX1_copy 94 = .ok (.getfield 49, 3) := dk_180 0 49 (dk_at dksX1_copy_4 4 rfl rfl)
theorem dX1_copy_97 : decode cX1_copy 97 = .ok (.iconst 0, 1) := dk_3 (dk_at dksX1_copy_4 7 rfl rfl)
theorem dX1_copy_98 : decode cX1_copy 98 = .ok (.aload_n 1, 1) := dk_43 (dk_at dksX1_copy_4 8 rfl rfl)
theorem dX1_copy_99 : decode cX1_copy 99 = .ok (.getfield 49, 3) := dk_180 0 49 (dk_at dksX1_copy_4 9 rfl rfl)
theorem dX1_copy_102 : decode cX1_copy 102 = .ok (.iconst 0, 1) := dk_3 (dk_at dksX1_copy_4 12 rfl rfl)
theorem dX1_copy_103 : decode cX1_copy 103 = .ok (.aload_n 0, 1) := dk_42 (dk_at dksX1_copy_4 13 rfl rfl)
theorem dX1_copy_104 : decode cX1_copy 104 = .ok (.getfield 49, 3) := dk_180 0 49 (dk_at dksX1_copy_4 14 rfl rfl)
theorem dX1_copy_107 : decode cX1_copy 107 = .ok (.arraylength, 1) := dk_190 (dk_at dksX1_copy_4 17 rfl rfl)
theorem dX1_copy_108 : decode cX1_copy 108 = .ok (.invokestatic 63, 3) := dk_184 0 63 (dk_at dksX1_copy_4 18 rfl rfl)
theorem dX1_copy_111 : decode cX1_copy 111 = .ok (.aload_n 1, 1) := dk_43 (dk_at dksX1_copy_4 21 rfl rfl)
theorem dX1_copy_112 : decode cX1_copy 112 = .ok (.areturn, 1) := dk_176 (dk_at dksX1_copy_4 22 rfl rfl)
abbrev cX1_bonds : ByteArray := prog_4_method_11_code
def yX1_bonds : MethodName := ⟨RX1, "bonds", "()I"⟩
def dkwX1_bonds_1 : List UInt8 := [153, 0, 7, 4, 167, 0, 4, 3, 96, 60, 132, 2, 1, 167, 255, 223, 27, 172]
abbrev dktX1_bonds_1 : List UInt8 := dkwX1_bonds_1 ++ []
def dkwX1_bonds_0 : List UInt8 := [3, 60, 3, 61, 28, 42, 180, 0, 39, 190, 162, 0, 30, 27, 42, 28, 7, 108, 28, 7, 112, 182, 0, 108]
abbrev dktX1_bonds_0 : List UInt8 := dkwX1_bonds_0 ++ dktX1_bonds_1
theorem dksX1_bonds_0 : cX1_bonds.data.toList.drop 0 = dktX1_bonds_0 := by decide +kernel
theorem dksX1_bonds_1 : cX1_bonds.data.toList.drop 24 = dktX1_bonds_1 := dk_seg dksX1_bonds_0 24 rfl rfl
theorem dX1_bonds_0 : decode cX1_bonds 0 = .ok (.iconst 0, 1) := dk_3 (dk_at dksX1_bonds_0 0 rfl rfl)
theorem dX1_bonds_1 : decode cX1_bonds 1 = .ok (.istore_n 1, 1) := dk_60 (dk_at dksX1_bonds_0 1 rfl rfl)
theorem dX1_bonds_2 : decode cX1_bonds 2 = .ok (.iconst 0, 1) := dk_3 (dk_at dksX1_bonds_0 2 rfl rfl)
theorem dX1_bonds_3 : decode cX1_bonds 3 = .ok (.istore_n 2, 1) := dk_61 (dk_at dksX1_bonds_0 3 rfl rfl)
theorem dX1_bonds_4 : decode cX1_bonds 4 = .ok (.iload_n 2, 1) := dk_28 (dk_at dksX1_bonds_0 4 rfl rfl)
theorem dX1_bonds_5 : decode cX1_bonds 5 = .ok (.aload_n 0, 1) := dk_42 (dk_at dksX1_bonds_0 5 rfl rfl)
theorem dX1_bonds_6 : decode cX1_bonds 6 = .ok (.getfield 39, 3) := dk_180 0 39 (dk_at dksX1_bonds_0 6 rfl rfl)
theorem dX1_bonds_9 : decode cX1_bonds 9 = .ok (.arraylength, 1) := dk_190 (dk_at dksX1_bonds_0 9 rfl rfl)
theorem dX1_bonds_10 : decode cX1_bonds 10 = .ok (.if_icmp .ge 30, 3) := dk_162 0 30 (dk_at dksX1_bonds_0 10 rfl rfl)
theorem dX1_bonds_13 : decode cX1_bonds 13 = .ok (.iload_n 1, 1) := dk_27 (dk_at dksX1_bonds_0 13 rfl rfl)
theorem dX1_bonds_14 : decode cX1_bonds 14 = .ok (.aload_n 0, 1) := dk_42 (dk_at dksX1_bonds_0 14 rfl rfl)
theorem dX1_bonds_15 : decode cX1_bonds 15 = .ok (.iload_n 2, 1) := dk_28 (dk_at dksX1_bonds_0 15 rfl rfl)
theorem dX1_bonds_16 : decode cX1_bonds 16 = .ok (.iconst 4, 1) := dk_7 (dk_at dksX1_bonds_0 16 rfl rfl)
theorem dX1_bonds_17 : decode cX1_bonds 17 = .ok (.idiv, 1) := dk_108 (dk_at dksX1_bonds_0 17 rfl rfl)
theorem dX1_bonds_18 : decode cX1_bonds 18 = .ok (.iload_n 2, 1) := dk_28 (dk_at dksX1_bonds_0 18 rfl rfl)
theorem dX1_bonds_19 : decode cX1_bonds 19 = .ok (.iconst 4, 1) := dk_7 (dk_at dksX1_bonds_0 19 rfl rfl)
theorem dX1_bonds_20 : decode cX1_bonds 20 = .ok (.irem, 1) := dk_112 (dk_at dksX1_bonds_0 20 rfl rfl)
theorem dX1_bonds_21 : decode cX1_bonds 21 = .ok (.invokevirtual 108, 3) := dk_182 0 108 (dk_at dksX1_bonds_0 21 rfl rfl)
theorem dX1_bonds_24 : decode cX1_bonds 24 = .ok (.ifCond .eq 7, 3) := dk_153 0 7 (dk_at dksX1_bonds_1 0 rfl rfl)
theorem dX1_bonds_27 : decode cX1_bonds 27 = .ok (.iconst 1, 1) := dk_4 (dk_at dksX1_bonds_1 3 rfl rfl)
theorem dX1_bonds_28 : decode cX1_bonds 28 = .ok (.goto 4, 3) := dk_167 0 4 (dk_at dksX1_bonds_1 4 rfl rfl)
theorem dX1_bonds_31 : decode cX1_bonds 31 = .ok (.iconst 0, 1) := dk_3 (dk_at dksX1_bonds_1 7 rfl rfl)
theorem dX1_bonds_32 : decode cX1_bonds 32 = .ok (.iadd, 1) := dk_96 (dk_at dksX1_bonds_1 8 rfl rfl)
theorem dX1_bonds_33 : decode cX1_bonds 33 = .ok (.istore_n 1, 1) := dk_60 (dk_at dksX1_bonds_1 9 rfl rfl)
theorem dX1_bonds_34 : decode cX1_bonds 34 = .ok (.iinc 2 1, 3) := dk_132 2 1 (dk_at dksX1_bonds_1 10 rfl rfl)
theorem dX1_bonds_37 : decode cX1_bonds 37 = .ok (.goto (-33), 3) := dk_167 255 223 (dk_at dksX1_bonds_1 13 rfl rfl)
theorem dX1_bonds_40 : decode cX1_bonds 40 = .ok (.iload_n 1, 1) := dk_27 (dk_at dksX1_bonds_1 16 rfl rfl)
theorem dX1_bonds_41 : decode cX1_bonds 41 = .ok (.ireturn, 1) := dk_172 (dk_at dksX1_bonds_1 17 rfl rfl)
abbrev cX1_isBond : ByteArray := prog_4_method_10_code
def yX1_isBond : MethodName := ⟨RX1, "isBond", "(II)Z"⟩
def dkwX1_isBond_1 : List UInt8 := [153, 0, 18, 42, 27, 28, 182, 0, 105, 16, 247, 159, 0, 7, 4, 167, 0, 4, 3, 172]
abbrev dktX1_isBond_1 : List UInt8 := dkwX1_isBond_1 ++ []
def dkwX1_isBond_0 : List UInt8 := [42, 27, 182, 0, 98, 153, 0, 35, 28, 3, 42, 180, 0, 15, 180, 0, 102, 4, 100, 184, 0, 83]
abbrev dktX1_isBond_0 : List UInt8 := dkwX1_isBond_0 ++ dktX1_isBond_1
theorem dksX1_isBond_0 : cX1_isBond.data.toList.drop 0 = dktX1_isBond_0 := by decide +kernel
theorem dksX1_isBond_1 : cX1_isBond.data.toList.drop 22 = dktX1_isBond_1 := dk_seg dksX1_isBond_0 22 rfl rfl
theorem dX1_isBond_0 : decode cX1_isBond 0 = .ok (.aload_n 0, 1) := dk_42 (dk_at dksX1_isBond_0 0 rfl rfl)
theorem dX1_isBond_1 : decode cX1_isBond 1 = .ok (.iload_n 1, 1) := dk_27 (dk_at dksX1_isBond_0 1 rfl rfl)
theorem dX1_isBond_2 : decode cX1_isBond 2 = .ok (.invokevirtual 98, 3) := dk_182 0 98 (dk_at dksX1_isBond_0 2 rfl rfl)
theorem dX1_isBond_5 : decode cX1_isBond 5 = .ok (.ifCond .eq 35, 3) := dk_153 0 35 (dk_at dksX1_isBond_0 5 rfl rfl)
theorem dX1_isBond_8 : decode cX1_isBond 8 = .ok (.iload_n 2, 1) := dk_28 (dk_at dksX1_isBond_0 8 rfl rfl)
theorem dX1_isBond_9 : decode cX1_isBond 9 = .ok (.iconst 0, 1) := dk_3 (dk_at dksX1_isBond_0 9 rfl rfl)
theorem dX1_isBond_10 : decode cX1_isBond 10 = .ok (.aload_n 0, 1) := dk_42 (dk_at dksX1_isBond_0 10 rfl rfl)
theorem dX1_isBond_11 : decode cX1_isBond 11 = .ok (.getfield 15, 3) := dk_180 0 15 (dk_at dksX1_isBond_0 11 rfl rfl)
theorem dX1_isBond_14 : decode cX1_isBond 14 = .ok (.getfield 102, 3) := dk_180 0 102 (dk_at dksX1_isBond_0 14 rfl rfl)
theorem dX1_isBond_17 : decode cX1_isBond 17 = .ok (.iconst 1, 1) := dk_4 (dk_at dksX1_isBond_0 17 rfl rfl)
theorem dX1_isBond_18 : decode cX1_isBond 18 = .ok (.isub, 1) := dk_100 (dk_at dksX1_isBond_0 18 rfl rfl)
theorem dX1_isBond_19 : decode cX1_isBond 19 = .ok (.invokestatic 83, 3) := dk_184 0 83 (dk_at dksX1_isBond_0 19 rfl rfl)
theorem dX1_isBond_22 : decode cX1_isBond 22 = .ok (.ifCond .eq 18, 3) := dk_153 0 18 (dk_at dksX1_isBond_1 0 rfl rfl)
theorem dX1_isBond_25 : decode cX1_isBond 25 = .ok (.aload_n 0, 1) := dk_42 (dk_at dksX1_isBond_1 3 rfl rfl)
theorem dX1_isBond_26 : decode cX1_isBond 26 = .ok (.iload_n 1, 1) := dk_27 (dk_at dksX1_isBond_1 4 rfl rfl)
theorem dX1_isBond_27 : decode cX1_isBond 27 = .ok (.iload_n 2, 1) := dk_28 (dk_at dksX1_isBond_1 5 rfl rfl)
theorem dX1_isBond_28 : decode cX1_isBond 28 = .ok (.invokevirtual 105, 3) := dk_182 0 105 (dk_at dksX1_isBond_1 6 rfl rfl)
theorem dX1_isBond_31 : decode cX1_isBond 31 = .ok (.bipush (-9), 2) := dk_16 247 (dk_at dksX1_isBond_1 9 rfl rfl)
theorem dX1_isBond_33 : decode cX1_isBond 33 = .ok (.if_icmp .eq 7, 3) := dk_159 0 7 (dk_at dksX1_isBond_1 11 rfl rfl)
theorem dX1_isBond_36 : decode cX1_isBond 36 = .ok (.iconst 1, 1) := dk_4 (dk_at dksX1_isBond_1 14 rfl rfl)
theorem dX1_isBond_37 : decode cX1_isBond 37 = .ok (.goto 4, 3) := dk_167 0 4 (dk_at dksX1_isBond_1 15 rfl rfl)
theorem dX1_isBond_40 : decode cX1_isBond 40 = .ok (.iconst 0, 1) := dk_3 (dk_at dksX1_isBond_1 18 rfl rfl)
theorem dX1_isBond_41 : decode cX1_isBond 41 = .ok (.ireturn, 1) := dk_172 (dk_at dksX1_isBond_1 19 rfl rfl)
abbrev cX1_isCell : ByteArray := prog_4_method_6_code
def yX1_isCell : MethodName := ⟨RX1, "isCell", "(I)Z"⟩
def dkwX1_isCell_0 : List UInt8 := [27, 3, 42, 182, 0, 79, 4, 100, 184, 0, 83, 172]
abbrev dktX1_isCell_0 : List UInt8 := dkwX1_isCell_0 ++ []
theorem dksX1_isCell_0 : cX1_isCell.data.toList.drop 0 = dktX1_isCell_0 := by decide +kernel
theorem dX1_isCell_0 : decode cX1_isCell 0 = .ok (.iload_n 1, 1) := dk_27 (dk_at dksX1_isCell_0 0 rfl rfl)
theorem dX1_isCell_1 : decode cX1_isCell 1 = .ok (.iconst 0, 1) := dk_3 (dk_at dksX1_isCell_0 1 rfl rfl)
theorem dX1_isCell_2 : decode cX1_isCell 2 = .ok (.aload_n 0, 1) := dk_42 (dk_at dksX1_isCell_0 2 rfl rfl)
theorem dX1_isCell_3 : decode cX1_isCell 3 = .ok (.invokevirtual 79, 3) := dk_182 0 79 (dk_at dksX1_isCell_0 3 rfl rfl)
theorem dX1_isCell_6 : decode cX1_isCell 6 = .ok (.iconst 1, 1) := dk_4 (dk_at dksX1_isCell_0 6 rfl rfl)
theorem dX1_isCell_7 : decode cX1_isCell 7 = .ok (.isub, 1) := dk_100 (dk_at dksX1_isCell_0 7 rfl rfl)
theorem dX1_isCell_8 : decode cX1_isCell 8 = .ok (.invokestatic 83, 3) := dk_184 0 83 (dk_at dksX1_isCell_0 8 rfl rfl)
theorem dX1_isCell_11 : decode cX1_isCell 11 = .ok (.ireturn, 1) := dk_172 (dk_at dksX1_isCell_0 11 rfl rfl)
abbrev cX1_second : ByteArray := prog_4_method_8_code
def yX1_second : MethodName := ⟨RX1, "second", "(II)I"⟩
def dkwX1_second_1 : List UInt8 := [182, 0, 94, 172]
abbrev dktX1_second_1 : List UInt8 := dkwX1_second_1 ++ []
def dkwX1_second_0 : List UInt8 := [42, 27, 42, 180, 0, 27, 112, 28, 184, 0, 87, 96, 27, 42, 180, 0, 27, 108, 28, 184, 0, 91, 96]
abbrev dktX1_second_0 : List UInt8 := dkwX1_second_0 ++ dktX1_second_1
theorem dksX1_second_0 : cX1_second.data.toList.drop 0 = dktX1_second_0 := by decide +kernel
theorem dksX1_second_1 : cX1_second.data.toList.drop 23 = dktX1_second_1 := dk_seg dksX1_second_0 23 rfl rfl
theorem dX1_second_0 : decode cX1_second 0 = .ok (.aload_n 0, 1) := dk_42 (dk_at dksX1_second_0 0 rfl rfl)
theorem dX1_second_1 : decode cX1_second 1 = .ok (.iload_n 1, 1) := dk_27 (dk_at dksX1_second_0 1 rfl rfl)
theorem dX1_second_2 : decode cX1_second 2 = .ok (.aload_n 0, 1) := dk_42 (dk_at dksX1_second_0 2 rfl rfl)
theorem dX1_second_3 : decode cX1_second 3 = .ok (.getfield 27, 3) := dk_180 0 27 (dk_at dksX1_second_0 3 rfl rfl)
theorem dX1_second_6 : decode cX1_second 6 = .ok (.irem, 1) := dk_112 (dk_at dksX1_second_0 6 rfl rfl)
theorem dX1_second_7 : decode cX1_second 7 = .ok (.iload_n 2, 1) := dk_28 (dk_at dksX1_second_0 7 rfl rfl)
theorem dX1_second_8 : decode cX1_second 8 = .ok (.invokestatic 87, 3) := dk_184 0 87 (dk_at dksX1_second_0 8 rfl rfl)
theorem dX1_second_11 : decode cX1_second 11 = .ok (.iadd, 1) := dk_96 (dk_at dksX1_second_0 11 rfl rfl)
theorem dX1_second_12 : decode cX1_second 12 = .ok (.iload_n 1, 1) := dk_27 (dk_at dksX1_second_0 12 rfl rfl)
theorem dX1_second_13 : decode cX1_second 13 = .ok (.aload_n 0, 1) := dk_42 (dk_at dksX1_second_0 13 rfl rfl)
theorem dX1_second_14 : decode cX1_second 14 = .ok (.getfield 27, 3) := dk_180 0 27 (dk_at dksX1_second_0 14 rfl rfl)
theorem dX1_second_17 : decode cX1_second 17 = .ok (.idiv, 1) := dk_108 (dk_at dksX1_second_0 17 rfl rfl)
theorem dX1_second_18 : decode cX1_second 18 = .ok (.iload_n 2, 1) := dk_28 (dk_at dksX1_second_0 18 rfl rfl)
theorem dX1_second_19 : decode cX1_second 19 = .ok (.invokestatic 91, 3) := dk_184 0 91 (dk_at dksX1_second_0 19 rfl rfl)
theorem dX1_second_22 : decode cX1_second 22 = .ok (.iadd, 1) := dk_96 (dk_at dksX1_second_0 22 rfl rfl)
theorem dX1_second_23 : decode cX1_second 23 = .ok (.invokevirtual 94, 3) := dk_182 0 94 (dk_at dksX1_second_1 0 rfl rfl)
theorem dX1_second_26 : decode cX1_second 26 = .ok (.ireturn, 1) := dk_172 (dk_at dksX1_second_1 3 rfl rfl)
abbrev cX1_cellAt : ByteArray := prog_4_method_7_code
def yX1_cellAt : MethodName := ⟨RX1, "cellAt", "(II)I"⟩
def dkwX1_cellAt_1 : List UInt8 := [184, 0, 83, 153, 0, 14, 28, 42, 180, 0, 27, 104, 27, 96, 167, 0, 5, 16, 247, 172]
abbrev dktX1_cellAt_1 : List UInt8 := dkwX1_cellAt_1 ++ []
def dkwX1_cellAt_0 : List UInt8 := [27, 3, 42, 180, 0, 27, 4, 100, 184, 0, 83, 153, 0, 28, 28, 3, 42, 180, 0, 30, 4, 100]
abbrev dktX1_cellAt_0 : List UInt8 := dkwX1_cellAt_0 ++ dktX1_cellAt_1
theorem dksX1_cellAt_0 : cX1_cellAt.data.toList.drop 0 = dktX1_cellAt_0 := by decide +kernel
theorem dksX1_cellAt_1 : cX1_cellAt.data.toList.drop 22 = dktX1_cellAt_1 := dk_seg dksX1_cellAt_0 22 rfl rfl
theorem dX1_cellAt_0 : decode cX1_cellAt 0 = .ok (.iload_n 1, 1) := dk_27 (dk_at dksX1_cellAt_0 0 rfl rfl)
theorem dX1_cellAt_1 : decode cX1_cellAt 1 = .ok (.iconst 0, 1) := dk_3 (dk_at dksX1_cellAt_0 1 rfl rfl)
theorem dX1_cellAt_2 : decode cX1_cellAt 2 = .ok (.aload_n 0, 1) := dk_42 (dk_at dksX1_cellAt_0 2 rfl rfl)
theorem dX1_cellAt_3 : decode cX1_cellAt 3 = .ok (.getfield 27, 3) := dk_180 0 27 (dk_at dksX1_cellAt_0 3 rfl rfl)
theorem dX1_cellAt_6 : decode cX1_cellAt 6 = .ok (.iconst 1, 1) := dk_4 (dk_at dksX1_cellAt_0 6 rfl rfl)
theorem dX1_cellAt_7 : decode cX1_cellAt 7 = .ok (.isub, 1) := dk_100 (dk_at dksX1_cellAt_0 7 rfl rfl)
theorem dX1_cellAt_8 : decode cX1_cellAt 8 = .ok (.invokestatic 83, 3) := dk_184 0 83 (dk_at dksX1_cellAt_0 8 rfl rfl)
theorem dX1_cellAt_11 : decode cX1_cellAt 11 = .ok (.ifCond .eq 28, 3) := dk_153 0 28 (dk_at dksX1_cellAt_0 11 rfl rfl)
theorem dX1_cellAt_14 : decode cX1_cellAt 14 = .ok (.iload_n 2, 1) := dk_28 (dk_at dksX1_cellAt_0 14 rfl rfl)
theorem dX1_cellAt_15 : decode cX1_cellAt 15 = .ok (.iconst 0, 1) := dk_3 (dk_at dksX1_cellAt_0 15 rfl rfl)
theorem dX1_cellAt_16 : decode cX1_cellAt 16 = .ok (.aload_n 0, 1) := dk_42 (dk_at dksX1_cellAt_0 16 rfl rfl)
theorem dX1_cellAt_17 : decode cX1_cellAt 17 = .ok (.getfield 30, 3) := dk_180 0 30 (dk_at dksX1_cellAt_0 17 rfl rfl)
theorem dX1_cellAt_20 : decode cX1_cellAt 20 = .ok (.iconst 1, 1) := dk_4 (dk_at dksX1_cellAt_0 20 rfl rfl)
theorem dX1_cellAt_21 : decode cX1_cellAt 21 = .ok (.isub, 1) := dk_100 (dk_at dksX1_cellAt_0 21 rfl rfl)
theorem dX1_cellAt_22 : decode cX1_cellAt 22 = .ok (.invokestatic 83, 3) := dk_184 0 83 (dk_at dksX1_cellAt_1 0 rfl rfl)
theorem dX1_cellAt_25 : decode cX1_cellAt 25 = .ok (.ifCond .eq 14, 3) := dk_153 0 14 (dk_at dksX1_cellAt_1 3 rfl rfl)
theorem dX1_cellAt_28 : decode cX1_cellAt 28 = .ok (.iload_n 2, 1) := dk_28 (dk_at dksX1_cellAt_1 6 rfl rfl)
theorem dX1_cellAt_29 : decode cX1_cellAt 29 = .ok (.aload_n 0, 1) := dk_42 (dk_at dksX1_cellAt_1 7 rfl rfl)
theorem dX1_cellAt_30 : decode cX1_cellAt 30 = .ok (.getfield 27, 3) := dk_180 0 27 (dk_at dksX1_cellAt_1 8 rfl rfl)
theorem dX1_cellAt_33 : decode cX1_cellAt 33 = .ok (.imul, 1) := dk_104 (dk_at dksX1_cellAt_1 11 rfl rfl)
theorem dX1_cellAt_34 : decode cX1_cellAt 34 = .ok (.iload_n 1, 1) := dk_27 (dk_at dksX1_cellAt_1 12 rfl rfl)
theorem dX1_cellAt_35 : decode cX1_cellAt 35 = .ok (.iadd, 1) := dk_96 (dk_at dksX1_cellAt_1 13 rfl rfl)
theorem dX1_cellAt_36 : decode cX1_cellAt 36 = .ok (.goto 5, 3) := dk_167 0 5 (dk_at dksX1_cellAt_1 14 rfl rfl)
theorem dX1_cellAt_39 : decode cX1_cellAt 39 = .ok (.bipush (-9), 2) := dk_16 247 (dk_at dksX1_cellAt_1 17 rfl rfl)
theorem dX1_cellAt_41 : decode cX1_cellAt 41 = .ok (.ireturn, 1) := dk_172 (dk_at dksX1_cellAt_1 19 rfl rfl)
abbrev cX1_fill : ByteArray := prog_4_method_15_code
def yX1_fill : MethodName := ⟨RX1, "fill", "(I)I"⟩
def dkwX1_fill_1 : List UInt8 := [180, 0, 33, 29, 28, 16, 100, 112, 79, 132, 3, 1, 167, 255, 224, 42, 182, 0, 119, 172]
abbrev dktX1_fill_1 : List UInt8 := dkwX1_fill_1 ++ []
def dkwX1_fill_0 : List UInt8 := [27, 61, 3, 62, 29, 42, 182, 0, 79, 162, 0, 30, 16, 75, 28, 104, 16, 74, 96, 18, 118, 112, 61, 42]
abbrev dktX1_fill_0 : List UInt8 := dkwX1_fill_0 ++ dktX1_fill_1
theorem dksX1_fill_0 : cX1_fill.data.toList.drop 0 = dktX1_fill_0 := by decide +kernel
theorem dksX1_fill_1 : cX1_fill.data.toList.drop 24 = dktX1_fill_1 := dk_seg dksX1_fill_0 24 rfl rfl
theorem dX1_fill_0 : decode cX1_fill 0 = .ok (.iload_n 1, 1) := dk_27 (dk_at dksX1_fill_0 0 rfl rfl)
theorem dX1_fill_1 : decode cX1_fill 1 = .ok (.istore_n 2, 1) := dk_61 (dk_at dksX1_fill_0 1 rfl rfl)
theorem dX1_fill_2 : decode cX1_fill 2 = .ok (.iconst 0, 1) := dk_3 (dk_at dksX1_fill_0 2 rfl rfl)
theorem dX1_fill_3 : decode cX1_fill 3 = .ok (.istore_n 3, 1) := dk_62 (dk_at dksX1_fill_0 3 rfl rfl)
theorem dX1_fill_4 : decode cX1_fill 4 = .ok (.iload_n 3, 1) := dk_29 (dk_at dksX1_fill_0 4 rfl rfl)
theorem dX1_fill_5 : decode cX1_fill 5 = .ok (.aload_n 0, 1) := dk_42 (dk_at dksX1_fill_0 5 rfl rfl)
theorem dX1_fill_6 : decode cX1_fill 6 = .ok (.invokevirtual 79, 3) := dk_182 0 79 (dk_at dksX1_fill_0 6 rfl rfl)
theorem dX1_fill_9 : decode cX1_fill 9 = .ok (.if_icmp .ge 30, 3) := dk_162 0 30 (dk_at dksX1_fill_0 9 rfl rfl)
theorem dX1_fill_12 : decode cX1_fill 12 = .ok (.bipush 75, 2) := dk_16 75 (dk_at dksX1_fill_0 12 rfl rfl)
theorem dX1_fill_14 : decode cX1_fill 14 = .ok (.iload_n 2, 1) := dk_28 (dk_at dksX1_fill_0 14 rfl rfl)
theorem dX1_fill_15 : decode cX1_fill 15 = .ok (.imul, 1) := dk_104 (dk_at dksX1_fill_0 15 rfl rfl)
theorem dX1_fill_16 : decode cX1_fill 16 = .ok (.bipush 74, 2) := dk_16 74 (dk_at dksX1_fill_0 16 rfl rfl)
theorem dX1_fill_18 : decode cX1_fill 18 = .ok (.iadd, 1) := dk_96 (dk_at dksX1_fill_0 18 rfl rfl)
theorem dX1_fill_19 : decode cX1_fill 19 = .ok (.ldc 118, 2) := dk_18 118 (dk_at dksX1_fill_0 19 rfl rfl)
theorem dX1_fill_21 : decode cX1_fill 21 = .ok (.irem, 1) := dk_112 (dk_at dksX1_fill_0 21 rfl rfl)
theorem dX1_fill_22 : decode cX1_fill 22 = .ok (.istore_n 2, 1) := dk_61 (dk_at dksX1_fill_0 22 rfl rfl)
theorem dX1_fill_23 : decode cX1_fill 23 = .ok (.aload_n 0, 1) := dk_42 (dk_at dksX1_fill_0 23 rfl rfl)
theorem dX1_fill_24 : decode cX1_fill 24 = .ok (.getfield 33, 3) := dk_180 0 33 (dk_at dksX1_fill_1 0 rfl rfl)
theorem dX1_fill_27 : decode cX1_fill 27 = .ok (.iload_n 3, 1) := dk_29 (dk_at dksX1_fill_1 3 rfl rfl)
theorem dX1_fill_28 : decode cX1_fill 28 = .ok (.iload_n 2, 1) := dk_28 (dk_at dksX1_fill_1 4 rfl rfl)
theorem dX1_fill_29 : decode cX1_fill 29 = .ok (.bipush 100, 2) := dk_16 100 (dk_at dksX1_fill_1 5 rfl rfl)
theorem dX1_fill_31 : decode cX1_fill 31 = .ok (.irem, 1) := dk_112 (dk_at dksX1_fill_1 7 rfl rfl)
theorem dX1_fill_32 : decode cX1_fill 32 = .ok (.iastore, 1) := dk_79 (dk_at dksX1_fill_1 8 rfl rfl)
theorem dX1_fill_33 : decode cX1_fill 33 = .ok (.iinc 3 1, 3) := dk_132 3 1 (dk_at dksX1_fill_1 9 rfl rfl)
theorem dX1_fill_36 : decode cX1_fill 36 = .ok (.goto (-32), 3) := dk_167 255 224 (dk_at dksX1_fill_1 12 rfl rfl)
theorem dX1_fill_39 : decode cX1_fill 39 = .ok (.aload_n 0, 1) := dk_42 (dk_at dksX1_fill_1 15 rfl rfl)
theorem dX1_fill_40 : decode cX1_fill 40 = .ok (.invokevirtual 119, 3) := dk_182 0 119 (dk_at dksX1_fill_1 16 rfl rfl)
theorem dX1_fill_43 : decode cX1_fill 43 = .ok (.ireturn, 1) := dk_172 (dk_at dksX1_fill_1 19 rfl rfl)
abbrev cX1_openCells : ByteArray := prog_4_method_14_code
def yX1_openCells : MethodName := ⟨RX1, "openCells", "()I"⟩
def dkwX1_openCells_1 : List UInt8 := [167, 0, 4, 3, 96, 60, 132, 2, 1, 167, 255, 229, 27, 172]
abbrev dktX1_openCells_1 : List UInt8 := dkwX1_openCells_1 ++ []
def dkwX1_openCells_0 : List UInt8 := [3, 60, 3, 61, 28, 42, 182, 0, 79, 162, 0, 25, 27, 42, 28, 182, 0, 115, 153, 0, 7, 4]
abbrev dktX1_openCells_0 : List UInt8 := dkwX1_openCells_0 ++ dktX1_openCells_1
theorem dksX1_openCells_0 : cX1_openCells.data.toList.drop 0 = dktX1_openCells_0 := by decide +kernel
theorem dksX1_openCells_1 : cX1_openCells.data.toList.drop 22 = dktX1_openCells_1 := dk_seg dksX1_openCells_0 22 rfl rfl
theorem dX1_openCells_0 : decode cX1_openCells 0 = .ok (.iconst 0, 1) := dk_3 (dk_at dksX1_openCells_0 0 rfl rfl)
theorem dX1_openCells_1 : decode cX1_openCells 1 = .ok (.istore_n 1, 1) := dk_60 (dk_at dksX1_openCells_0 1 rfl rfl)
theorem dX1_openCells_2 : decode cX1_openCells 2 = .ok (.iconst 0, 1) := dk_3 (dk_at dksX1_openCells_0 2 rfl rfl)
theorem dX1_openCells_3 : decode cX1_openCells 3 = .ok (.istore_n 2, 1) := dk_61 (dk_at dksX1_openCells_0 3 rfl rfl)
theorem dX1_openCells_4 : decode cX1_openCells 4 = .ok (.iload_n 2, 1) := dk_28 (dk_at dksX1_openCells_0 4 rfl rfl)
theorem dX1_openCells_5 : decode cX1_openCells 5 = .ok (.aload_n 0, 1) := dk_42 (dk_at dksX1_openCells_0 5 rfl rfl)
theorem dX1_openCells_6 : decode cX1_openCells 6 = .ok (.invokevirtual 79, 3) := dk_182 0 79 (dk_at dksX1_openCells_0 6 rfl rfl)
theorem dX1_openCells_9 : decode cX1_openCells 9 = .ok (.if_icmp .ge 25, 3) := dk_162 0 25 (dk_at dksX1_openCells_0 9 rfl rfl)
theorem dX1_openCells_12 : decode cX1_openCells 12 = .ok (.iload_n 1, 1) := dk_27 (dk_at dksX1_openCells_0 12 rfl rfl)
theorem dX1_openCells_13 : decode cX1_openCells 13 = .ok (.aload_n 0, 1) := dk_42 (dk_at dksX1_openCells_0 13 rfl rfl)
theorem dX1_openCells_14 : decode cX1_openCells 14 = .ok (.iload_n 2, 1) := dk_28 (dk_at dksX1_openCells_0 14 rfl rfl)
theorem dX1_openCells_15 : decode cX1_openCells 15 = .ok (.invokevirtual 115, 3) := dk_182 0 115 (dk_at dksX1_openCells_0 15 rfl rfl)
theorem dX1_openCells_18 : decode cX1_openCells 18 = .ok (.ifCond .eq 7, 3) := dk_153 0 7 (dk_at dksX1_openCells_0 18 rfl rfl)
theorem dX1_openCells_21 : decode cX1_openCells 21 = .ok (.iconst 1, 1) := dk_4 (dk_at dksX1_openCells_0 21 rfl rfl)
theorem dX1_openCells_22 : decode cX1_openCells 22 = .ok (.goto 4, 3) := dk_167 0 4 (dk_at dksX1_openCells_1 0 rfl rfl)
theorem dX1_openCells_25 : decode cX1_openCells 25 = .ok (.iconst 0, 1) := dk_3 (dk_at dksX1_openCells_1 3 rfl rfl)
theorem dX1_openCells_26 : decode cX1_openCells 26 = .ok (.iadd, 1) := dk_96 (dk_at dksX1_openCells_1 4 rfl rfl)
theorem dX1_openCells_27 : decode cX1_openCells 27 = .ok (.istore_n 1, 1) := dk_60 (dk_at dksX1_openCells_1 5 rfl rfl)
theorem dX1_openCells_28 : decode cX1_openCells 28 = .ok (.iinc 2 1, 3) := dk_132 2 1 (dk_at dksX1_openCells_1 6 rfl rfl)
theorem dX1_openCells_31 : decode cX1_openCells 31 = .ok (.goto (-27), 3) := dk_167 255 229 (dk_at dksX1_openCells_1 9 rfl rfl)
theorem dX1_openCells_34 : decode cX1_openCells 34 = .ok (.iload_n 1, 1) := dk_27 (dk_at dksX1_openCells_1 12 rfl rfl)
theorem dX1_openCells_35 : decode cX1_openCells 35 = .ok (.ireturn, 1) := dk_172 (dk_at dksX1_openCells_1 13 rfl rfl)
abbrev cX1_isOpen : ByteArray := prog_4_method_13_code
def yX1_isOpen : MethodName := ⟨RX1, "isOpen", "(I)Z"⟩
def dkwX1_isOpen_0 : List UInt8 := [42, 180, 0, 33, 27, 46, 42, 180, 0, 20, 162, 0, 7, 4, 167, 0, 4, 3, 172]
abbrev dktX1_isOpen_0 : List UInt8 := dkwX1_isOpen_0 ++ []
theorem dksX1_isOpen_0 : cX1_isOpen.data.toList.drop 0 = dktX1_isOpen_0 := by decide +kernel
theorem dX1_isOpen_0 : decode cX1_isOpen 0 = .ok (.aload_n 0, 1) := dk_42 (dk_at dksX1_isOpen_0 0 rfl rfl)
theorem dX1_isOpen_1 : decode cX1_isOpen 1 = .ok (.getfield 33, 3) := dk_180 0 33 (dk_at dksX1_isOpen_0 1 rfl rfl)
theorem dX1_isOpen_4 : decode cX1_isOpen 4 = .ok (.iload_n 1, 1) := dk_27 (dk_at dksX1_isOpen_0 4 rfl rfl)
theorem dX1_isOpen_5 : decode cX1_isOpen 5 = .ok (.iaload, 1) := dk_46 (dk_at dksX1_isOpen_0 5 rfl rfl)
theorem dX1_isOpen_6 : decode cX1_isOpen 6 = .ok (.aload_n 0, 1) := dk_42 (dk_at dksX1_isOpen_0 6 rfl rfl)
theorem dX1_isOpen_7 : decode cX1_isOpen 7 = .ok (.getfield 20, 3) := dk_180 0 20 (dk_at dksX1_isOpen_0 7 rfl rfl)
theorem dX1_isOpen_10 : decode cX1_isOpen 10 = .ok (.if_icmp .ge 7, 3) := dk_162 0 7 (dk_at dksX1_isOpen_0 10 rfl rfl)
theorem dX1_isOpen_13 : decode cX1_isOpen 13 = .ok (.iconst 1, 1) := dk_4 (dk_at dksX1_isOpen_0 13 rfl rfl)
theorem dX1_isOpen_14 : decode cX1_isOpen 14 = .ok (.goto 4, 3) := dk_167 0 4 (dk_at dksX1_isOpen_0 14 rfl rfl)
theorem dX1_isOpen_17 : decode cX1_isOpen 17 = .ok (.iconst 0, 1) := dk_3 (dk_at dksX1_isOpen_0 17 rfl rfl)
theorem dX1_isOpen_18 : decode cX1_isOpen 18 = .ok (.ireturn, 1) := dk_172 (dk_at dksX1_isOpen_0 18 rfl rfl)
abbrev cX1_sourcesOf : ByteArray := prog_4_method_16_code
def yX1_sourcesOf : MethodName := ⟨RX1, "sourcesOf", "(I)I"⟩
def dkwX1_sourcesOf_1 : List UInt8 := [46, 54, 6, 28, 21, 6, 27, 122, 4, 126, 96, 61, 132, 5, 1, 167, 255, 231, 28, 172]
abbrev dktX1_sourcesOf_1 : List UInt8 := dkwX1_sourcesOf_1 ++ []
def dkwX1_sourcesOf_0 : List UInt8 := [3, 61, 42, 180, 0, 43, 78, 45, 190, 54, 4, 3, 54, 5, 21, 5, 21, 4, 162, 0, 24, 45, 21, 5]
abbrev dktX1_sourcesOf_0 : List UInt8 := dkwX1_sourcesOf_0 ++ dktX1_sourcesOf_1
theorem dksX1_sourcesOf_0 : cX1_sourcesOf.data.toList.drop 0 = dktX1_sourcesOf_0 := by decide +kernel
theorem dksX1_sourcesOf_1 : cX1_sourcesOf.data.toList.drop 24 = dktX1_sourcesOf_1 := dk_seg dksX1_sourcesOf_0 24 rfl rfl
theorem dX1_sourcesOf_0 : decode cX1_sourcesOf 0 = .ok (.iconst 0, 1) := dk_3 (dk_at dksX1_sourcesOf_0 0 rfl rfl)
theorem dX1_sourcesOf_1 : decode cX1_sourcesOf 1 = .ok (.istore_n 2, 1) := dk_61 (dk_at dksX1_sourcesOf_0 1 rfl rfl)
theorem dX1_sourcesOf_2 : decode cX1_sourcesOf 2 = .ok (.aload_n 0, 1) := dk_42 (dk_at dksX1_sourcesOf_0 2 rfl rfl)
theorem dX1_sourcesOf_3 : decode cX1_sourcesOf 3 = .ok (.getfield 43, 3) := dk_180 0 43 (dk_at dksX1_sourcesOf_0 3 rfl rfl)
theorem dX1_sourcesOf_6 : decode cX1_sourcesOf 6 = .ok (.astore_n 3, 1) := dk_78 (dk_at dksX1_sourcesOf_0 6 rfl rfl)
theorem dX1_sourcesOf_7 : decode cX1_sourcesOf 7 = .ok (.aload_n 3, 1) := dk_45 (dk_at dksX1_sourcesOf_0 7 rfl rfl)
theorem dX1_sourcesOf_8 : decode cX1_sourcesOf 8 = .ok (.arraylength, 1) := dk_190 (dk_at dksX1_sourcesOf_0 8 rfl rfl)
theorem dX1_sourcesOf_9 : decode cX1_sourcesOf 9 = .ok (.istore 4, 2) := dk_54 4 (dk_at dksX1_sourcesOf_0 9 rfl rfl)
theorem dX1_sourcesOf_11 : decode cX1_sourcesOf 11 = .ok (.iconst 0, 1) := dk_3 (dk_at dksX1_sourcesOf_0 11 rfl rfl)
theorem dX1_sourcesOf_12 : decode cX1_sourcesOf 12 = .ok (.istore 5, 2) := dk_54 5 (dk_at dksX1_sourcesOf_0 12 rfl rfl)
theorem dX1_sourcesOf_14 : decode cX1_sourcesOf 14 = .ok (.iload 5, 2) := dk_21 5 (dk_at dksX1_sourcesOf_0 14 rfl rfl)
theorem dX1_sourcesOf_16 : decode cX1_sourcesOf 16 = .ok (.iload 4, 2) := dk_21 4 (dk_at dksX1_sourcesOf_0 16 rfl rfl)
theorem dX1_sourcesOf_18 : decode cX1_sourcesOf 18 = .ok (.if_icmp .ge 24, 3) := dk_162 0 24 (dk_at dksX1_sourcesOf_0 18 rfl rfl)
theorem dX1_sourcesOf_21 : decode cX1_sourcesOf 21 = .ok (.aload_n 3, 1) := dk_45 (dk_at dksX1_sourcesOf_0 21 rfl rfl)
theorem dX1_sourcesOf_22 : decode cX1_sourcesOf 22 = .ok (.iload 5, 2) := dk_21 5 (dk_at dksX1_sourcesOf_0 22 rfl rfl)
theorem dX1_sourcesOf_24 : decode cX1_sourcesOf 24 = .ok (.iaload, 1) := dk_46 (dk_at dksX1_sourcesOf_1 0 rfl rfl)
theorem dX1_sourcesOf_25 : decode cX1_sourcesOf 25 = .ok (.istore 6, 2) := dk_54 6 (dk_at dksX1_sourcesOf_1 1 rfl rfl)
theorem dX1_sourcesOf_27 : decode cX1_sourcesOf 27 = .ok (.iload_n 2, 1) := dk_28 (dk_at dksX1_sourcesOf_1 3 rfl rfl)
theorem dX1_sourcesOf_28 : decode cX1_sourcesOf 28 = .ok (.iload 6, 2) := dk_21 6 (dk_at dksX1_sourcesOf_1 4 rfl rfl)
theorem dX1_sourcesOf_30 : decode cX1_sourcesOf 30 = .ok (.iload_n 1, 1) := dk_27 (dk_at dksX1_sourcesOf_1 6 rfl rfl)
theorem dX1_sourcesOf_31 : decode cX1_sourcesOf 31 = .ok (.ishr, 1) := dk_122 (dk_at dksX1_sourcesOf_1 7 rfl rfl)
theorem dX1_sourcesOf_32 : decode cX1_sourcesOf 32 = .ok (.iconst 1, 1) := dk_4 (dk_at dksX1_sourcesOf_1 8 rfl rfl)
theorem dX1_sourcesOf_33 : decode cX1_sourcesOf 33 = .ok (.iand, 1) := dk_126 (dk_at dksX1_sourcesOf_1 9 rfl rfl)
theorem dX1_sourcesOf_34 : decode cX1_sourcesOf 34 = .ok (.iadd, 1) := dk_96 (dk_at dksX1_sourcesOf_1 10 rfl rfl)
theorem dX1_sourcesOf_35 : decode cX1_sourcesOf 35 = .ok (.istore_n 2, 1) := dk_61 (dk_at dksX1_sourcesOf_1 11 rfl rfl)
theorem dX1_sourcesOf_36 : decode cX1_sourcesOf 36 = .ok (.iinc 5 1, 3) := dk_132 5 1 (dk_at dksX1_sourcesOf_1 12 rfl rfl)
theorem dX1_sourcesOf_39 : decode cX1_sourcesOf 39 = .ok (.goto (-25), 3) := dk_167 255 231 (dk_at dksX1_sourcesOf_1 15 rfl rfl)
theorem dX1_sourcesOf_42 : decode cX1_sourcesOf 42 = .ok (.iload_n 2, 1) := dk_28 (dk_at dksX1_sourcesOf_1 18 rfl rfl)
theorem dX1_sourcesOf_43 : decode cX1_sourcesOf 43 = .ok (.ireturn, 1) := dk_172 (dk_at dksX1_sourcesOf_1 19 rfl rfl)
abbrev cX1_step : ByteArray := prog_4_method_28_code
def yX1_step : MethodName := ⟨RX1, "step", "()I"⟩
def dkwX1_step_6 : List UInt8 := [182, 0, 182, 128, 84, 132, 4, 1, 167, 255, 223, 42, 89, 180, 0, 60, 4, 96, 181, 0, 60, 29, 172]
abbrev dktX1_step_6 : List UInt8 := dkwX1_step_6 ++ []
def dkwX1_step_5 : List UInt8 := [182, 0, 79, 162, 0, 30, 42, 180, 0, 49, 21, 4, 92, 51, 42, 42, 180, 0, 46, 21, 4, 46]
abbrev dktX1_step_5 : List UInt8 := dkwX1_step_5 ++ dktX1_step_6
def dkwX1_step_4 : List UInt8 := [126, 184, 0, 177, 96, 62, 132, 4, 1, 167, 255, 184, 42, 44, 181, 0, 46, 3, 54, 4, 21, 4, 42]
abbrev dktX1_step_4 : List UInt8 := dkwX1_step_4 ++ dktX1_step_5
def dkwX1_step_3 : List UInt8 := [182, 0, 173, 128, 167, 0, 4, 3, 128, 79, 29, 44, 21, 4, 46, 42, 180, 0, 46, 21, 4, 46, 2, 130]
abbrev dktX1_step_3 : List UInt8 := dkwX1_step_3 ++ dktX1_step_4
def dkwX1_step_2 : List UInt8 := [21, 4, 46, 42, 21, 4, 182, 0, 164, 153, 0, 21, 42, 180, 0, 43, 21, 4, 46, 42, 21, 4, 27]
abbrev dktX1_step_2 : List UInt8 := dkwX1_step_2 ++ dktX1_step_3
def dkwX1_step_1 : List UInt8 := [188, 10, 77, 3, 62, 3, 54, 4, 21, 4, 42, 182, 0, 79, 162, 0, 69, 44, 21, 4, 42, 180, 0, 46]
abbrev dktX1_step_1 : List UInt8 := dkwX1_step_1 ++ dktX1_step_2
def dkwX1_step_0 : List UInt8 := [42, 180, 0, 60, 42, 180, 0, 24, 108, 5, 112, 154, 0, 7, 4, 167, 0, 4, 3, 60, 42, 182, 0, 79]
abbrev dktX1_step_0 : List UInt8 := dkwX1_step_0 ++ dktX1_step_1
theorem dksX1_step_0 : cX1_step.data.toList.drop 0 = dktX1_step_0 := by decide +kernel
theorem dksX1_step_1 : cX1_step.data.toList.drop 24 = dktX1_step_1 := dk_seg dksX1_step_0 24 rfl rfl
theorem dksX1_step_2 : cX1_step.data.toList.drop 48 = dktX1_step_2 := dk_seg dksX1_step_1 24 rfl rfl
theorem dksX1_step_3 : cX1_step.data.toList.drop 71 = dktX1_step_3 := dk_seg dksX1_step_2 23 rfl rfl
theorem dksX1_step_4 : cX1_step.data.toList.drop 95 = dktX1_step_4 := dk_seg dksX1_step_3 24 rfl rfl
theorem dksX1_step_5 : cX1_step.data.toList.drop 118 = dktX1_step_5 := dk_seg dksX1_step_4 23 rfl rfl
theorem dksX1_step_6 : cX1_step.data.toList.drop 140 = dktX1_step_6 := dk_seg dksX1_step_5 22 rfl rfl
theorem dX1_step_0 : decode cX1_step 0 = .ok (.aload_n 0, 1) := dk_42 (dk_at dksX1_step_0 0 rfl rfl)
theorem dX1_step_1 : decode cX1_step 1 = .ok (.getfield 60, 3) := dk_180 0 60 (dk_at dksX1_step_0 1 rfl rfl)
theorem dX1_step_4 : decode cX1_step 4 = .ok (.aload_n 0, 1) := dk_42 (dk_at dksX1_step_0 4 rfl rfl)
theorem dX1_step_5 : decode cX1_step 5 = .ok (.getfield 24, 3) := dk_180 0 24 (dk_at dksX1_step_0 5 rfl rfl)
theorem dX1_step_8 : decode cX1_step 8 = .ok (.idiv, 1) := dk_108 (dk_at dksX1_step_0 8 rfl rfl)
theorem dX1_step_9 : decode cX1_step 9 = .ok (.iconst 2, 1) := dk_5 (dk_at dksX1_step_0 9 rfl rfl)
theorem dX1_step_10 : decode cX1_step 10 = .ok (.irem, 1) := dk_112 (dk_at dksX1_step_0 10 rfl rfl)
theorem dX1_step_11 : decode cX1_step 11 = .ok (.ifCond .ne 7, 3) := dk_154 0 7 (dk_at dksX1_step_0 11 rfl rfl)
theorem dX1_step_14 : decode cX1_step 14 = .ok (.iconst 1, 1) := dk_4 (dk_at dksX1_step_0 14 rfl rfl)
theorem dX1_step_15 : decode cX1_step 15 = .ok (.goto 4, 3) := dk_167 0 4 (dk_at dksX1_step_0 15 rfl rfl)
theorem dX1_step_18 : decode cX1_step 18 = .ok (.iconst 0, 1) := dk_3 (dk_at dksX1_step_0 18 rfl rfl)
theorem dX1_step_19 : decode cX1_step 19 = .ok (.istore_n 1, 1) := dk_60 (dk_at dksX1_step_0 19 rfl rfl)
theorem dX1_step_20 : decode cX1_step 20 = .ok (.aload_n 0, 1) := dk_42 (dk_at dksX1_step_0 20 rfl rfl)
theorem dX1_step_21 : decode cX1_step 21 = .ok (.invokevirtual 79, 3) := dk_182 0 79 (dk_at dksX1_step_0 21 rfl rfl)
theorem dX1_step_24 : decode cX1_step 24 = .ok (.newarray .int, 2) := dk_188_10 (dk_at dksX1_step_1 0 rfl rfl)
theorem dX1_step_26 : decode cX1_step 26 = .ok (.astore_n 2, 1) := dk_77 (dk_at dksX1_step_1 2 rfl rfl)
theorem dX1_step_27 : decode cX1_step 27 = .ok (.iconst 0, 1) := dk_3 (dk_at dksX1_step_1 3 rfl rfl)
theorem dX1_step_28 : decode cX1_step 28 = .ok (.istore_n 3, 1) := dk_62 (dk_at dksX1_step_1 4 rfl rfl)
theorem dX1_step_29 : decode cX1_step 29 = .ok (.iconst 0, 1) := dk_3 (dk_at dksX1_step_1 5 rfl rfl)
theorem dX1_step_30 : decode cX1_step 30 = .ok (.istore 4, 2) := dk_54 4 (dk_at dksX1_step_1 6 rfl rfl)
theorem dX1_step_32 : decode cX1_step 32 = .ok (.iload 4, 2) := dk_21 4 (dk_at dksX1_step_1 8 rfl rfl)
theorem dX1_step_34 : decode cX1_step 34 = .ok (.aload_n 0, 1) := dk_42 (dk_at dksX1_step_1 10 rfl rfl)
theorem dX1_step_35 : decode cX1_step 35 = .ok (.invokevirtual 79, 3) := dk_182 0 79 (dk_at dksX1_step_1 11 rfl rfl)
theorem dX1_step_38 : decode cX1_step 38 = .ok (.if_icmp .ge 69, 3) := dk_162 0 69 (dk_at dksX1_step_1 14 rfl rfl)
theorem dX1_step_41 : decode cX1_step 41 = .ok (.aload_n 2, 1) := dk_44 (dk_at dksX1_step_1 17 rfl rfl)
theorem dX1_step_42 : decode cX1_step 42 = .ok (.iload 4, 2) := dk_21 4 (dk_at dksX1_step_1 18 rfl rfl)
theorem dX1_step_44 : decode cX1_step 44 = .ok (.aload_n 0, 1) := dk_42 (dk_at dksX1_step_1 20 rfl rfl)
theorem dX1_step_45 : decode cX1_step 45 = .ok (.getfield 46, 3) := dk_180 0 46 (dk_at dksX1_step_1 21 rfl rfl)
theorem dX1_step_48 : decode cX1_step 48 = .ok (.iload 4, 2) := dk_21 4 (dk_at dksX1_step_2 0 rfl rfl)
theorem dX1_step_50 : decode cX1_step 50 = .ok (.iaload, 1) := dk_46 (dk_at dksX1_step_2 2 rfl rfl)
theorem dX1_step_51 : decode cX1_step 51 = .ok (.aload_n 0, 1) := dk_42 (dk_at dksX1_step_2 3 rfl rfl)
theorem dX1_step_52 : decode cX1_step 52 = .ok (.iload 4, 2) := dk_21 4 (dk_at dksX1_step_2 4 rfl rfl)
theorem dX1_step_54 : decode cX1_step 54 = .ok (.invokevirtual 164, 3) := dk_182 0 164 (dk_at dksX1_step_2 6 rfl rfl)
theorem dX1_step_57 : decode cX1_step 57 = .ok (.ifCond .eq 21, 3) := dk_153 0 21 (dk_at dksX1_step_2 9 rfl rfl)
theorem dX1_step_60 : decode cX1_step 60 = .ok (.aload_n 0, 1) := dk_42 (dk_at dksX1_step_2 12 rfl rfl)
theorem dX1_step_61 : decode cX1_step 61 = .ok (.getfield 43, 3) := dk_180 0 43 (dk_at dksX1_step_2 13 rfl rfl)
theorem dX1_step_64 : decode cX1_step 64 = .ok (.iload 4, 2) := dk_21 4 (dk_at dksX1_step_2 16 rfl rfl)
theorem dX1_step_66 : decode cX1_step 66 = .ok (.iaload, 1) := dk_46 (dk_at dksX1_step_2 18 rfl rfl)
theorem dX1_step_67 : decode cX1_step 67 = .ok (.aload_n 0, 1) := dk_42 (dk_at dksX1_step_2 19 rfl rfl)
theorem dX1_step_68 : decode cX1_step 68 = .ok (.iload 4, 2) := dk_21 4 (dk_at dksX1_step_2 20 rfl rfl)
theorem dX1_step_70 : decode cX1_step 70 = .ok (.iload_n 1, 1) := dk_27 (dk_at dksX1_step_2 22 rfl rfl)
theorem dX1_step_71 : decode cX1_step 71 = .ok (.invokevirtual 173, 3) := dk_182 0 173 (dk_at dksX1_step_3 0 rfl rfl)
theorem dX1_step_74 : decode cX1_step 74 = .ok (.ior, 1) := dk_128 (dk_at dksX1_step_3 3 rfl rfl)
theorem dX1_step_75 : decode cX1_step 75 = .ok (.goto 4, 3) := dk_167 0 4 (dk_at dksX1_step_3 4 rfl rfl)
theorem dX1_step_78 : decode cX1_step 78 = .ok (.iconst 0, 1) := dk_3 (dk_at dksX1_step_3 7 rfl rfl)
theorem dX1_step_79 : decode cX1_step 79 = .ok (.ior, 1) := dk_128 (dk_at dksX1_step_3 8 rfl rfl)
theorem dX1_step_80 : decode cX1_step 80 = .ok (.iastore, 1) := dk_79 (dk_at dksX1_step_3 9 rfl rfl)
theorem dX1_step_81 : decode cX1_step 81 = .ok (.iload_n 3, 1) := dk_29 (dk_at dksX1_step_3 10 rfl rfl)
theorem dX1_step_82 : decode cX1_step 82 = .ok (.aload_n 2, 1) := dk_44 (dk_at dksX1_step_3 11 rfl rfl)
theorem dX1_step_83 : decode cX1_step 83 = .ok (.iload 4, 2) := dk_21 4 (dk_at dksX1_step_3 12 rfl rfl)
theorem dX1_step_85 : decode cX1_step 85 = .ok (.iaload, 1) := dk_46 (dk_at dksX1_step_3 14 rfl rfl)
theorem dX1_step_86 : decode cX1_step 86 = .ok (.aload_n 0, 1) := dk_42 (dk_at dksX1_step_3 15 rfl rfl)
theorem dX1_step_87 : decode cX1_step 87 = .ok (.getfield 46, 3) := dk_180 0 46 (dk_at dksX1_step_3 16 rfl rfl)
theorem dX1_step_90 : decode cX1_step 90 = .ok (.iload 4, 2) := dk_21 4 (dk_at dksX1_step_3 19 rfl rfl)
theorem dX1_step_92 : decode cX1_step 92 = .ok (.iaload, 1) := dk_46 (dk_at dksX1_step_3 21 rfl rfl)
theorem dX1_step_93 : decode cX1_step 93 = .ok (.iconst (-1), 1) := dk_2 (dk_at dksX1_step_3 22 rfl rfl)
theorem dX1_step_94 : decode cX1_step 94 = .ok (.ixor, 1) := dk_130 (dk_at dksX1_step_3 23 rfl rfl)
theorem dX1_step_95 : decode cX1_step 95 = .ok (.iand, 1) := dk_126 (dk_at dksX1_step_4 0 rfl rfl)
theorem dX1_step_96 : decode cX1_step 96 = .ok (.invokestatic 177, 3) := dk_184 0 177 (dk_at dksX1_step_4 1 rfl rfl)
theorem dX1_step_99 : decode cX1_step 99 = .ok (.iadd, 1) := dk_96 (dk_at dksX1_step_4 4 rfl rfl)
theorem dX1_step_100 : decode cX1_step 100 = .ok (.istore_n 3, 1) := dk_62 (dk_at dksX1_step_4 5 rfl rfl)
theorem dX1_step_101 : decode cX1_step 101 = .ok (.iinc 4 1, 3) := dk_132 4 1 (dk_at dksX1_step_4 6 rfl rfl)
theorem dX1_step_104 : decode cX1_step 104 = .ok (.goto (-72), 3) := dk_167 255 184 (dk_at dksX1_step_4 9 rfl rfl)
theorem dX1_step_107 : decode cX1_step 107 = .ok (.aload_n 0, 1) := dk_42 (dk_at dksX1_step_4 12 rfl rfl)
theorem dX1_step_108 : decode cX1_step 108 = .ok (.aload_n 2, 1) := dk_44 (dk_at dksX1_step_4 13 rfl rfl)
theorem dX1_step_109 : decode cX1_step 109 = .ok (.putfield 46, 3) := dk_181 0 46 (dk_at dksX1_step_4 14 rfl rfl)
theorem dX1_step_112 : decode cX1_step 112 = .ok (.iconst 0, 1) := dk_3 (dk_at dksX1_step_4 17 rfl rfl)
theorem dX1_step_113 : decode cX1_step 113 = .ok (.istore 4, 2) := dk_54 4 (dk_at dksX1_step_4 18 rfl rfl)
theorem dX1_step_115 : decode cX1_step 115 = .ok (.iload 4, 2) := dk_21 4 (dk_at dksX1_step_4 20 rfl rfl)
theorem dX1_step_117 : decode cX1_step 117 = .ok (.aload_n 0, 1) := dk_42 (dk_at dksX1_step_4 22 rfl rfl)
theorem dX1_step_118 : decode cX1_step 118 = .ok (.invokevirtual 79, 3) := dk_182 0 79 (dk_at dksX1_step_5 0 rfl rfl)
theorem dX1_step_121 : decode cX1_step 121 = .ok (.if_icmp .ge 30, 3) := dk_162 0 30 (dk_at dksX1_step_5 3 rfl rfl)
theorem dX1_step_124 : decode cX1_step 124 = .ok (.aload_n 0, 1) := dk_42 (dk_at dksX1_step_5 6 rfl rfl)
theorem dX1_step_125 : decode cX1_step 125 = .ok (.getfield 49, 3) := dk_180 0 49 (dk_at dksX1_step_5 7 rfl rfl)
theorem dX1_step_128 : decode cX1_step 128 = .ok (.iload 4, 2) := dk_21 4 (dk_at dksX1_step_5 10 rfl rfl)
theorem dX1_step_130 : decode cX1_step 130 = .ok (.dup2, 1) := dk_92 (dk_at dksX1_step_5 12 rfl rfl)
theorem dX1_step_131 : decode cX1_step 131 = .ok (.baload, 1) := dk_51 (dk_at dksX1_step_5 13 rfl rfl)
theorem dX1_step_132 : decode cX1_step 132 = .ok (.aload_n 0, 1) := dk_42 (dk_at dksX1_step_5 14 rfl rfl)
theorem dX1_step_133 : decode cX1_step 133 = .ok (.aload_n 0, 1) := dk_42 (dk_at dksX1_step_5 15 rfl rfl)
theorem dX1_step_134 : decode cX1_step 134 = .ok (.getfield 46, 3) := dk_180 0 46 (dk_at dksX1_step_5 16 rfl rfl)
theorem dX1_step_137 : decode cX1_step 137 = .ok (.iload 4, 2) := dk_21 4 (dk_at dksX1_step_5 19 rfl rfl)
theorem dX1_step_139 : decode cX1_step 139 = .ok (.iaload, 1) := dk_46 (dk_at dksX1_step_5 21 rfl rfl)
theorem dX1_step_140 : decode cX1_step 140 = .ok (.invokevirtual 182, 3) := dk_182 0 182 (dk_at dksX1_step_6 0 rfl rfl)
theorem dX1_step_143 : decode cX1_step 143 = .ok (.ior, 1) := dk_128 (dk_at dksX1_step_6 3 rfl rfl)
theorem dX1_step_144 : decode cX1_step 144 = .ok (.bastore, 1) := dk_84 (dk_at dksX1_step_6 4 rfl rfl)
theorem dX1_step_145 : decode cX1_step 145 = .ok (.iinc 4 1, 3) := dk_132 4 1 (dk_at dksX1_step_6 5 rfl rfl)
theorem dX1_step_148 : decode cX1_step 148 = .ok (.goto (-33), 3) := dk_167 255 223 (dk_at dksX1_step_6 8 rfl rfl)
theorem dX1_step_151 : decode cX1_step 151 = .ok (.aload_n 0, 1) := dk_42 (dk_at dksX1_step_6 11 rfl rfl)
theorem dX1_step_152 : decode cX1_step 152 = .ok (.dup, 1) := dk_89 (dk_at dksX1_step_6 12 rfl rfl)
theorem dX1_step_153 : decode cX1_step 153 = .ok (.getfield 60, 3) := dk_180 0 60 (dk_at dksX1_step_6 13 rfl rfl)
theorem dX1_step_156 : decode cX1_step 156 = .ok (.iconst 1, 1) := dk_4 (dk_at dksX1_step_6 16 rfl rfl)
theorem dX1_step_157 : decode cX1_step 157 = .ok (.iadd, 1) := dk_96 (dk_at dksX1_step_6 17 rfl rfl)
theorem dX1_step_158 : decode cX1_step 158 = .ok (.putfield 60, 3) := dk_181 0 60 (dk_at dksX1_step_6 18 rfl rfl)
theorem dX1_step_161 : decode cX1_step 161 = .ok (.iload_n 3, 1) := dk_29 (dk_at dksX1_step_6 21 rfl rfl)
theorem dX1_step_162 : decode cX1_step 162 = .ok (.ireturn, 1) := dk_172 (dk_at dksX1_step_6 22 rfl rfl)
abbrev cX1_isMoving : ByteArray := prog_4_method_25_code
def yX1_isMoving : MethodName := ⟨RX1, "isMoving", "(I)Z"⟩
def dkwX1_isMoving_0 : List UInt8 := [42, 27, 182, 0, 115, 153, 0, 16, 42, 180, 0, 49, 27, 51, 154, 0, 7, 4, 167, 0, 4, 3, 172]
abbrev dktX1_isMoving_0 : List UInt8 := dkwX1_isMoving_0 ++ []
theorem dksX1_isMoving_0 : cX1_isMoving.data.toList.drop 0 = dktX1_isMoving_0 := by decide +kernel
theorem dX1_isMoving_0 : decode cX1_isMoving 0 = .ok (.aload_n 0, 1) := dk_42 (dk_at dksX1_isMoving_0 0 rfl rfl)
theorem dX1_isMoving_1 : decode cX1_isMoving 1 = .ok (.iload_n 1, 1) := dk_27 (dk_at dksX1_isMoving_0 1 rfl rfl)
theorem dX1_isMoving_2 : decode cX1_isMoving 2 = .ok (.invokevirtual 115, 3) := dk_182 0 115 (dk_at dksX1_isMoving_0 2 rfl rfl)
theorem dX1_isMoving_5 : decode cX1_isMoving 5 = .ok (.ifCond .eq 16, 3) := dk_153 0 16 (dk_at dksX1_isMoving_0 5 rfl rfl)
theorem dX1_isMoving_8 : decode cX1_isMoving 8 = .ok (.aload_n 0, 1) := dk_42 (dk_at dksX1_isMoving_0 8 rfl rfl)
theorem dX1_isMoving_9 : decode cX1_isMoving 9 = .ok (.getfield 49, 3) := dk_180 0 49 (dk_at dksX1_isMoving_0 9 rfl rfl)
theorem dX1_isMoving_12 : decode cX1_isMoving 12 = .ok (.iload_n 1, 1) := dk_27 (dk_at dksX1_isMoving_0 12 rfl rfl)
theorem dX1_isMoving_13 : decode cX1_isMoving 13 = .ok (.baload, 1) := dk_51 (dk_at dksX1_isMoving_0 13 rfl rfl)
theorem dX1_isMoving_14 : decode cX1_isMoving 14 = .ok (.ifCond .ne 7, 3) := dk_154 0 7 (dk_at dksX1_isMoving_0 14 rfl rfl)
theorem dX1_isMoving_17 : decode cX1_isMoving 17 = .ok (.iconst 1, 1) := dk_4 (dk_at dksX1_isMoving_0 17 rfl rfl)
theorem dX1_isMoving_18 : decode cX1_isMoving 18 = .ok (.goto 4, 3) := dk_167 0 4 (dk_at dksX1_isMoving_0 18 rfl rfl)
theorem dX1_isMoving_21 : decode cX1_isMoving 21 = .ok (.iconst 0, 1) := dk_3 (dk_at dksX1_isMoving_0 21 rfl rfl)
theorem dX1_isMoving_22 : decode cX1_isMoving 22 = .ok (.ireturn, 1) := dk_172 (dk_at dksX1_isMoving_0 22 rfl rfl)
abbrev cX1_coming : ByteArray := prog_4_method_26_code
def yX1_coming : MethodName := ⟨RX1, "coming", "(IZ)I"⟩
def dkwX1_coming_5 : List UInt8 := [180, 0, 46, 21, 6, 46, 128, 62, 132, 4, 1, 167, 255, 132, 29, 172]
abbrev dktX1_coming_5 : List UInt8 := dkwX1_coming_5 ++ []
def dkwX1_coming_4 : List UInt8 := [153, 0, 32, 42, 180, 0, 39, 7, 27, 104, 21, 4, 96, 50, 3, 28, 182, 0, 167, 153, 0, 13, 29, 42]
abbrev dktX1_coming_4 : List UInt8 := dkwX1_coming_4 ++ dktX1_coming_5
def dkwX1_coming_3 : List UInt8 := [62, 42, 27, 21, 4, 182, 0, 105, 54, 6, 21, 6, 16, 247, 159, 0, 41, 42, 21, 6, 182, 0, 164]
abbrev dktX1_coming_3 : List UInt8 := dkwX1_coming_3 ++ dktX1_coming_4
def dkwX1_coming_2 : List UInt8 := [21, 5, 104, 21, 4, 96, 50, 4, 28, 182, 0, 167, 153, 0, 13, 29, 42, 180, 0, 46, 21, 5, 46, 128]
abbrev dktX1_coming_2 : List UInt8 := dkwX1_coming_2 ++ dktX1_coming_3
def dkwX1_coming_1 : List UInt8 := [54, 5, 21, 5, 16, 247, 159, 0, 42, 42, 21, 5, 182, 0, 164, 153, 0, 33, 42, 180, 0, 39, 7]
abbrev dktX1_coming_1 : List UInt8 := dkwX1_coming_1 ++ dktX1_coming_2
def dkwX1_coming_0 : List UInt8 := [3, 62, 3, 54, 4, 21, 4, 42, 180, 0, 15, 180, 0, 102, 162, 0, 118, 42, 27, 21, 4, 182, 0, 112]
abbrev dktX1_coming_0 : List UInt8 := dkwX1_coming_0 ++ dktX1_coming_1
theorem dksX1_coming_0 : cX1_coming.data.toList.drop 0 = dktX1_coming_0 := by decide +kernel
theorem dksX1_coming_1 : cX1_coming.data.toList.drop 24 = dktX1_coming_1 := dk_seg dksX1_coming_0 24 rfl rfl
theorem dksX1_coming_2 : cX1_coming.data.toList.drop 47 = dktX1_coming_2 := dk_seg dksX1_coming_1 23 rfl rfl
theorem dksX1_coming_3 : cX1_coming.data.toList.drop 71 = dktX1_coming_3 := dk_seg dksX1_coming_2 24 rfl rfl
theorem dksX1_coming_4 : cX1_coming.data.toList.drop 94 = dktX1_coming_4 := dk_seg dksX1_coming_3 23 rfl rfl
theorem dksX1_coming_5 : cX1_coming.data.toList.drop 118 = dktX1_coming_5 := dk_seg dksX1_coming_4 24 rfl rfl
theorem dX1_coming_0 : decode cX1_coming 0 = .ok (.iconst 0, 1) := dk_3 (dk_at dksX1_coming_0 0 rfl rfl)
theorem dX1_coming_1 : decode cX1_coming 1 = .ok (.istore_n 3, 1) := dk_62 (dk_at dksX1_coming_0 1 rfl rfl)
theorem dX1_coming_2 : decode cX1_coming 2 = .ok (.iconst 0, 1) := dk_3 (dk_at dksX1_coming_0 2 rfl rfl)
theorem dX1_coming_3 : decode cX1_coming 3 = .ok (.istore 4, 2) := dk_54 4 (dk_at dksX1_coming_0 3 rfl rfl)
theorem dX1_coming_5 : decode cX1_coming 5 = .ok (.iload 4, 2) := dk_21 4 (dk_at dksX1_coming_0 5 rfl rfl)
theorem dX1_coming_7 : decode cX1_coming 7 = .ok (.aload_n 0, 1) := dk_42 (dk_at dksX1_coming_0 7 rfl rfl)
theorem dX1_coming_8 : decode cX1_coming 8 = .ok (.getfield 15, 3) := dk_180 0 15 (dk_at dksX1_coming_0 8 rfl rfl)
theorem dX1_coming_11 : decode cX1_coming 11 = .ok (.getfield 102, 3) := dk_180 0 102 (dk_at dksX1_coming_0 11 rfl rfl)
theorem dX1_coming_14 : decode cX1_coming 14 = .ok (.if_icmp .ge 118, 3) := dk_162 0 118 (dk_at dksX1_coming_0 14 rfl rfl)
theorem dX1_coming_17 : decode cX1_coming 17 = .ok (.aload_n 0, 1) := dk_42 (dk_at dksX1_coming_0 17 rfl rfl)
theorem dX1_coming_18 : decode cX1_coming 18 = .ok (.iload_n 1, 1) := dk_27 (dk_at dksX1_coming_0 18 rfl rfl)
theorem dX1_coming_19 : decode cX1_coming 19 = .ok (.iload 4, 2) := dk_21 4 (dk_at dksX1_coming_0 19 rfl rfl)
theorem dX1_coming_21 : decode cX1_coming 21 = .ok (.invokevirtual 112, 3) := dk_182 0 112 (dk_at dksX1_coming_0 21 rfl rfl)
theorem dX1_coming_24 : decode cX1_coming 24 = .ok (.istore 5, 2) := dk_54 5 (dk_at dksX1_coming_1 0 rfl rfl)
theorem dX1_coming_26 : decode cX1_coming 26 = .ok (.iload 5, 2) := dk_21 5 (dk_at dksX1_coming_1 2 rfl rfl)
theorem dX1_coming_28 : decode cX1_coming 28 = .ok (.bipush (-9), 2) := dk_16 247 (dk_at dksX1_coming_1 4 rfl rfl)
theorem dX1_coming_30 : decode cX1_coming 30 = .ok (.if_icmp .eq 42, 3) := dk_159 0 42 (dk_at dksX1_coming_1 6 rfl rfl)
theorem dX1_coming_33 : decode cX1_coming 33 = .ok (.aload_n 0, 1) := dk_42 (dk_at dksX1_coming_1 9 rfl rfl)
theorem dX1_coming_34 : decode cX1_coming 34 = .ok (.iload 5, 2) := dk_21 5 (dk_at dksX1_coming_1 10 rfl rfl)
theorem dX1_coming_36 : decode cX1_coming 36 = .ok (.invokevirtual 164, 3) := dk_182 0 164 (dk_at dksX1_coming_1 12 rfl rfl)
theorem dX1_coming_39 : decode cX1_coming 39 = .ok (.ifCond .eq 33, 3) := dk_153 0 33 (dk_at dksX1_coming_1 15 rfl rfl)
theorem dX1_coming_42 : decode cX1_coming 42 = .ok (.aload_n 0, 1) := dk_42 (dk_at dksX1_coming_1 18 rfl rfl)
theorem dX1_coming_43 : decode cX1_coming 43 = .ok (.getfield 39, 3) := dk_180 0 39 (dk_at dksX1_coming_1 19 rfl rfl)
theorem dX1_coming_46 : decode cX1_coming 46 = .ok (.iconst 4, 1) := dk_7 (dk_at dksX1_coming_1 22 rfl rfl)
theorem dX1_coming_47 : decode cX1_coming 47 = .ok (.iload 5, 2) := dk_21 5 (dk_at dksX1_coming_2 0 rfl rfl)
theorem dX1_coming_49 : decode cX1_coming 49 = .ok (.imul, 1) := dk_104 (dk_at dksX1_coming_2 2 rfl rfl)
theorem dX1_coming_50 : decode cX1_coming 50 = .ok (.iload 4, 2) := dk_21 4 (dk_at dksX1_coming_2 3 rfl rfl)
theorem dX1_coming_52 : decode cX1_coming 52 = .ok (.iadd, 1) := dk_96 (dk_at dksX1_coming_2 5 rfl rfl)
theorem dX1_coming_53 : decode cX1_coming 53 = .ok (.aaload, 1) := dk_50 (dk_at dksX1_coming_2 6 rfl rfl)
theorem dX1_coming_54 : decode cX1_coming 54 = .ok (.iconst 1, 1) := dk_4 (dk_at dksX1_coming_2 7 rfl rfl)
theorem dX1_coming_55 : decode cX1_coming 55 = .ok (.iload_n 2, 1) := dk_28 (dk_at dksX1_coming_2 8 rfl rfl)
theorem dX1_coming_56 : decode cX1_coming 56 = .ok (.invokevirtual 167, 3) := dk_182 0 167 (dk_at dksX1_coming_2 9 rfl rfl)
theorem dX1_coming_59 : decode cX1_coming 59 = .ok (.ifCond .eq 13, 3) := dk_153 0 13 (dk_at dksX1_coming_2 12 rfl rfl)
theorem dX1_coming_62 : decode cX1_coming 62 = .ok (.iload_n 3, 1) := dk_29 (dk_at dksX1_coming_2 15 rfl rfl)
theorem dX1_coming_63 : decode cX1_coming 63 = .ok (.aload_n 0, 1) := dk_42 (dk_at dksX1_coming_2 16 rfl rfl)
theorem dX1_coming_64 : decode cX1_coming 64 = .ok (.getfield 46, 3) := dk_180 0 46 (dk_at dksX1_coming_2 17 rfl rfl)
theorem dX1_coming_67 : decode cX1_coming 67 = .ok (.iload 5, 2) := dk_21 5 (dk_at dksX1_coming_2 20 rfl rfl)
theorem dX1_coming_69 : decode cX1_coming 69 = .ok (.iaload, 1) := dk_46 (dk_at dksX1_coming_2 22 rfl rfl)
theorem dX1_coming_70 : decode cX1_coming 70 = .ok (.ior, 1) := dk_128 (dk_at dksX1_coming_2 23 rfl rfl)
theorem dX1_coming_71 : decode cX1_coming 71 = .ok (.istore_n 3, 1) := dk_62 (dk_at dksX1_coming_3 0 rfl rfl)
theorem dX1_coming_72 : decode cX1_coming 72 = .ok (.aload_n 0, 1) := dk_42 (dk_at dksX1_coming_3 1 rfl rfl)
theorem dX1_coming_73 : decode cX1_coming 73 = .ok (.iload_n 1, 1) := dk_27 (dk_at dksX1_coming_3 2 rfl rfl)
theorem dX1_coming_74 : decode cX1_coming 74 = .ok (.iload 4, 2) := dk_21 4 (dk_at dksX1_coming_3 3 rfl rfl)
theorem dX1_coming_76 : decode cX1_coming 76 = .ok (.invokevirtual 105, 3) := dk_182 0 105 (dk_at dksX1_coming_3 5 rfl rfl)
theorem dX1_coming_79 : decode cX1_coming 79 = .ok (.istore 6, 2) := dk_54 6 (dk_at dksX1_coming_3 8 rfl rfl)
theorem dX1_coming_81 : decode cX1_coming 81 = .ok (.iload 6, 2) := dk_21 6 (dk_at dksX1_coming_3 10 rfl rfl)
theorem dX1_coming_83 : decode cX1_coming 83 = .ok (.bipush (-9), 2) := dk_16 247 (dk_at dksX1_coming_3 12 rfl rfl)
theorem dX1_coming_85 : decode cX1_coming 85 = .ok (.if_icmp .eq 41, 3) := dk_159 0 41 (dk_at dksX1_coming_3 14 rfl rfl)
theorem dX1_coming_88 : decode cX1_coming 88 = .ok (.aload_n 0, 1) := dk_42 (dk_at dksX1_coming_3 17 rfl rfl)
theorem dX1_coming_89 : decode cX1_coming 89 = .ok (.iload 6, 2) := dk_21 6 (dk_at dksX1_coming_3 18 rfl rfl)
theorem dX1_coming_91 : decode cX1_coming 91 = .ok (.invokevirtual 164, 3) := dk_182 0 164 (dk_at dksX1_coming_3 20 rfl rfl)
theorem dX1_coming_94 : decode cX1_coming 94 = .ok (.ifCond .eq 32, 3) := dk_153 0 32 (dk_at dksX1_coming_4 0 rfl rfl)
theorem dX1_coming_97 : decode cX1_coming 97 = .ok (.aload_n 0, 1) := dk_42 (dk_at dksX1_coming_4 3 rfl rfl)
theorem dX1_coming_98 : decode cX1_coming 98 = .ok (.getfield 39, 3) := dk_180 0 39 (dk_at dksX1_coming_4 4 rfl rfl)
theorem dX1_coming_101 : decode cX1_coming 101 = .ok (.iconst 4, 1) := dk_7 (dk_at dksX1_coming_4 7 rfl rfl)
theorem dX1_coming_102 : decode cX1_coming 102 = .ok (.iload_n 1, 1) := dk_27 (dk_at dksX1_coming_4 8 rfl rfl)
theorem dX1_coming_103 : decode cX1_coming 103 = .ok (.imul, 1) := dk_104 (dk_at dksX1_coming_4 9 rfl rfl)
theorem dX1_coming_104 : decode cX1_coming 104 = .ok (.iload 4, 2) := dk_21 4 (dk_at dksX1_coming_4 10 rfl rfl)
theorem dX1_coming_106 : decode cX1_coming 106 = .ok (.iadd, 1) := dk_96 (dk_at dksX1_coming_4 12 rfl rfl)
theorem dX1_coming_107 : decode cX1_coming 107 = .ok (.aaload, 1) := dk_50 (dk_at dksX1_coming_4 13 rfl rfl)
theorem dX1_coming_108 : decode cX1_coming 108 = .ok (.iconst 0, 1) := dk_3 (dk_at dksX1_coming_4 14 rfl rfl)
theorem dX1_coming_109 : decode cX1_coming 109 = .ok (.iload_n 2, 1) := dk_28 (dk_at dksX1_coming_4 15 rfl rfl)
theorem dX1_coming_110 : decode cX1_coming 110 = .ok (.invokevirtual 167, 3) := dk_182 0 167 (dk_at dksX1_coming_4 16 rfl rfl)
theorem dX1_coming_113 : decode cX1_coming 113 = .ok (.ifCond .eq 13, 3) := dk_153 0 13 (dk_at dksX1_coming_4 19 rfl rfl)
theorem dX1_coming_116 : decode cX1_coming 116 = .ok (.iload_n 3, 1) := dk_29 (dk_at dksX1_coming_4 22 rfl rfl)
theorem dX1_coming_117 : decode cX1_coming 117 = .ok (.aload_n 0, 1) := dk_42 (dk_at dksX1_coming_4 23 rfl rfl)
theorem dX1_coming_118 : decode cX1_coming 118 = .ok (.getfield 46, 3) := dk_180 0 46 (dk_at dksX1_coming_5 0 rfl rfl)
theorem dX1_coming_121 : decode cX1_coming 121 = .ok (.iload 6, 2) := dk_21 6 (dk_at dksX1_coming_5 3 rfl rfl)
theorem dX1_coming_123 : decode cX1_coming 123 = .ok (.iaload, 1) := dk_46 (dk_at dksX1_coming_5 5 rfl rfl)
theorem dX1_coming_124 : decode cX1_coming 124 = .ok (.ior, 1) := dk_128 (dk_at dksX1_coming_5 6 rfl rfl)
theorem dX1_coming_125 : decode cX1_coming 125 = .ok (.istore_n 3, 1) := dk_62 (dk_at dksX1_coming_5 7 rfl rfl)
theorem dX1_coming_126 : decode cX1_coming 126 = .ok (.iinc 4 1, 3) := dk_132 4 1 (dk_at dksX1_coming_5 8 rfl rfl)
theorem dX1_coming_129 : decode cX1_coming 129 = .ok (.goto (-124), 3) := dk_167 255 132 (dk_at dksX1_coming_5 11 rfl rfl)
theorem dX1_coming_132 : decode cX1_coming 132 = .ok (.iload_n 3, 1) := dk_29 (dk_at dksX1_coming_5 14 rfl rfl)
theorem dX1_coming_133 : decode cX1_coming 133 = .ok (.ireturn, 1) := dk_172 (dk_at dksX1_coming_5 15 rfl rfl)
abbrev cX1_first : ByteArray := prog_4_method_9_code
def yX1_first : MethodName := ⟨RX1, "first", "(II)I"⟩
def dkwX1_first_1 : List UInt8 := [182, 0, 94, 172]
abbrev dktX1_first_1 : List UInt8 := dkwX1_first_1 ++ []
def dkwX1_first_0 : List UInt8 := [42, 27, 42, 180, 0, 27, 112, 28, 184, 0, 87, 100, 27, 42, 180, 0, 27, 108, 28, 184, 0, 91, 100]
abbrev dktX1_first_0 : List UInt8 := dkwX1_first_0 ++ dktX1_first_1
theorem dksX1_first_0 : cX1_first.data.toList.drop 0 = dktX1_first_0 := by decide +kernel
theorem dksX1_first_1 : cX1_first.data.toList.drop 23 = dktX1_first_1 := dk_seg dksX1_first_0 23 rfl rfl
theorem dX1_first_0 : decode cX1_first 0 = .ok (.aload_n 0, 1) := dk_42 (dk_at dksX1_first_0 0 rfl rfl)
theorem dX1_first_1 : decode cX1_first 1 = .ok (.iload_n 1, 1) := dk_27 (dk_at dksX1_first_0 1 rfl rfl)
theorem dX1_first_2 : decode cX1_first 2 = .ok (.aload_n 0, 1) := dk_42 (dk_at dksX1_first_0 2 rfl rfl)
theorem dX1_first_3 : decode cX1_first 3 = .ok (.getfield 27, 3) := dk_180 0 27 (dk_at dksX1_first_0 3 rfl rfl)
theorem dX1_first_6 : decode cX1_first 6 = .ok (.irem, 1) := dk_112 (dk_at dksX1_first_0 6 rfl rfl)
theorem dX1_first_7 : decode cX1_first 7 = .ok (.iload_n 2, 1) := dk_28 (dk_at dksX1_first_0 7 rfl rfl)
theorem dX1_first_8 : decode cX1_first 8 = .ok (.invokestatic 87, 3) := dk_184 0 87 (dk_at dksX1_first_0 8 rfl rfl)
theorem dX1_first_11 : decode cX1_first 11 = .ok (.isub, 1) := dk_100 (dk_at dksX1_first_0 11 rfl rfl)
theorem dX1_first_12 : decode cX1_first 12 = .ok (.iload_n 1, 1) := dk_27 (dk_at dksX1_first_0 12 rfl rfl)
theorem dX1_first_13 : decode cX1_first 13 = .ok (.aload_n 0, 1) := dk_42 (dk_at dksX1_first_0 13 rfl rfl)
theorem dX1_first_14 : decode cX1_first 14 = .ok (.getfield 27, 3) := dk_180 0 27 (dk_at dksX1_first_0 14 rfl rfl)
theorem dX1_first_17 : decode cX1_first 17 = .ok (.idiv, 1) := dk_108 (dk_at dksX1_first_0 17 rfl rfl)
theorem dX1_first_18 : decode cX1_first 18 = .ok (.iload_n 2, 1) := dk_28 (dk_at dksX1_first_0 18 rfl rfl)
theorem dX1_first_19 : decode cX1_first 19 = .ok (.invokestatic 91, 3) := dk_184 0 91 (dk_at dksX1_first_0 19 rfl rfl)
theorem dX1_first_22 : decode cX1_first 22 = .ok (.isub, 1) := dk_100 (dk_at dksX1_first_0 22 rfl rfl)
theorem dX1_first_23 : decode cX1_first 23 = .ok (.invokevirtual 94, 3) := dk_182 0 94 (dk_at dksX1_first_1 0 rfl rfl)
theorem dX1_first_26 : decode cX1_first 26 = .ok (.ireturn, 1) := dk_172 (dk_at dksX1_first_1 3 rfl rfl)
abbrev cX1_reacts : ByteArray := prog_4_method_27_code
def yX1_reacts : MethodName := ⟨RX1, "reacts", "(I)Z"⟩
def dkwX1_reacts_2 : List UInt8 := [167, 0, 4, 3, 128, 61, 132, 4, 1, 167, 255, 213, 132, 3, 1, 167, 255, 197, 28, 172]
abbrev dktX1_reacts_2 : List UInt8 := dkwX1_reacts_2 ++ []
def dkwX1_reacts_1 : List UInt8 := [27, 21, 4, 122, 126, 42, 180, 0, 72, 29, 21, 4, 184, 0, 170, 122, 126, 4, 126, 4, 160, 0, 7, 4]
abbrev dktX1_reacts_1 : List UInt8 := dkwX1_reacts_1 ++ dktX1_reacts_2
def dkwX1_reacts_0 : List UInt8 := [3, 61, 3, 62, 29, 6, 162, 0, 60, 29, 4, 96, 54, 4, 21, 4, 6, 162, 0, 43, 28, 27, 29, 122]
abbrev dktX1_reacts_0 : List UInt8 := dkwX1_reacts_0 ++ dktX1_reacts_1
theorem dksX1_reacts_0 : cX1_reacts.data.toList.drop 0 = dktX1_reacts_0 := by decide +kernel
theorem dksX1_reacts_1 : cX1_reacts.data.toList.drop 24 = dktX1_reacts_1 := dk_seg dksX1_reacts_0 24 rfl rfl
theorem dksX1_reacts_2 : cX1_reacts.data.toList.drop 48 = dktX1_reacts_2 := dk_seg dksX1_reacts_1 24 rfl rfl
theorem dX1_reacts_0 : decode cX1_reacts 0 = .ok (.iconst 0, 1) := dk_3 (dk_at dksX1_reacts_0 0 rfl rfl)
theorem dX1_reacts_1 : decode cX1_reacts 1 = .ok (.istore_n 2, 1) := dk_61 (dk_at dksX1_reacts_0 1 rfl rfl)
theorem dX1_reacts_2 : decode cX1_reacts 2 = .ok (.iconst 0, 1) := dk_3 (dk_at dksX1_reacts_0 2 rfl rfl)
theorem dX1_reacts_3 : decode cX1_reacts 3 = .ok (.istore_n 3, 1) := dk_62 (dk_at dksX1_reacts_0 3 rfl rfl)
theorem dX1_reacts_4 : decode cX1_reacts 4 = .ok (.iload_n 3, 1) := dk_29 (dk_at dksX1_reacts_0 4 rfl rfl)
theorem dX1_reacts_5 : decode cX1_reacts 5 = .ok (.iconst 3, 1) := dk_6 (dk_at dksX1_reacts_0 5 rfl rfl)
theorem dX1_reacts_6 : decode cX1_reacts 6 = .ok (.if_icmp .ge 60, 3) := dk_162 0 60 (dk_at dksX1_reacts_0 6 rfl rfl)
theorem dX1_reacts_9 : decode cX1_reacts 9 = .ok (.iload_n 3, 1) := dk_29 (dk_at dksX1_reacts_0 9 rfl rfl)
theorem dX1_reacts_10 : decode cX1_reacts 10 = .ok (.iconst 1, 1) := dk_4 (dk_at dksX1_reacts_0 10 rfl rfl)
theorem dX1_reacts_11 : decode cX1_reacts 11 = .ok (.iadd, 1) := dk_96 (dk_at dksX1_reacts_0 11 rfl rfl)
theorem dX1_reacts_12 : decode cX1_reacts 12 = .ok (.istore 4, 2) := dk_54 4 (dk_at dksX1_reacts_0 12 rfl rfl)
theorem dX1_reacts_14 : decode cX1_reacts 14 = .ok (.iload 4, 2) := dk_21 4 (dk_at dksX1_reacts_0 14 rfl rfl)
theorem dX1_reacts_16 : decode cX1_reacts 16 = .ok (.iconst 3, 1) := dk_6 (dk_at dksX1_reacts_0 16 rfl rfl)
theorem dX1_reacts_17 : decode cX1_reacts 17 = .ok (.if_icmp .ge 43, 3) := dk_162 0 43 (dk_at dksX1_reacts_0 17 rfl rfl)
theorem dX1_reacts_20 : decode cX1_reacts 20 = .ok (.iload_n 2, 1) := dk_28 (dk_at dksX1_reacts_0 20 rfl rfl)
theorem dX1_reacts_21 : decode cX1_reacts 21 = .ok (.iload_n 1, 1) := dk_27 (dk_at dksX1_reacts_0 21 rfl rfl)
theorem dX1_reacts_22 : decode cX1_reacts 22 = .ok (.iload_n 3, 1) := dk_29 (dk_at dksX1_reacts_0 22 rfl rfl)
theorem dX1_reacts_23 : decode cX1_reacts 23 = .ok (.ishr, 1) := dk_122 (dk_at dksX1_reacts_0 23 rfl rfl)
theorem dX1_reacts_24 : decode cX1_reacts 24 = .ok (.iload_n 1, 1) := dk_27 (dk_at dksX1_reacts_1 0 rfl rfl)
theorem dX1_reacts_25 : decode cX1_reacts 25 = .ok (.iload 4, 2) := dk_21 4 (dk_at dksX1_reacts_1 1 rfl rfl)
theorem dX1_reacts_27 : decode cX1_reacts 27 = .ok (.ishr, 1) := dk_122 (dk_at dksX1_reacts_1 3 rfl rfl)
theorem dX1_reacts_28 : decode cX1_reacts 28 = .ok (.iand, 1) := dk_126 (dk_at dksX1_reacts_1 4 rfl rfl)
theorem dX1_reacts_29 : decode cX1_reacts 29 = .ok (.aload_n 0, 1) := dk_42 (dk_at dksX1_reacts_1 5 rfl rfl)
theorem dX1_reacts_30 : decode cX1_reacts 30 = .ok (.getfield 72, 3) := dk_180 0 72 (dk_at dksX1_reacts_1 6 rfl rfl)
theorem dX1_reacts_33 : decode cX1_reacts 33 = .ok (.iload_n 3, 1) := dk_29 (dk_at dksX1_reacts_1 9 rfl rfl)
theorem dX1_reacts_34 : decode cX1_reacts 34 = .ok (.iload 4, 2) := dk_21 4 (dk_at dksX1_reacts_1 10 rfl rfl)
theorem dX1_reacts_36 : decode cX1_reacts 36 = .ok (.invokestatic 170, 3) := dk_184 0 170 (dk_at dksX1_reacts_1 12 rfl rfl)
theorem dX1_reacts_39 : decode cX1_reacts 39 = .ok (.ishr, 1) := dk_122 (dk_at dksX1_reacts_1 15 rfl rfl)
theorem dX1_reacts_40 : decode cX1_reacts 40 = .ok (.iand, 1) := dk_126 (dk_at dksX1_reacts_1 16 rfl rfl)
theorem dX1_reacts_41 : decode cX1_reacts 41 = .ok (.iconst 1, 1) := dk_4 (dk_at dksX1_reacts_1 17 rfl rfl)
theorem dX1_reacts_42 : decode cX1_reacts 42 = .ok (.iand, 1) := dk_126 (dk_at dksX1_reacts_1 18 rfl rfl)
theorem dX1_reacts_43 : decode cX1_reacts 43 = .ok (.iconst 1, 1) := dk_4 (dk_at dksX1_reacts_1 19 rfl rfl)
theorem dX1_reacts_44 : decode cX1_reacts 44 = .ok (.if_icmp .ne 7, 3) := dk_160 0 7 (dk_at dksX1_reacts_1 20 rfl rfl)
theorem dX1_reacts_47 : decode cX1_reacts 47 = .ok (.iconst 1, 1) := dk_4 (dk_at dksX1_reacts_1 23 rfl rfl)
theorem dX1_reacts_48 : decode cX1_reacts 48 = .ok (.goto 4, 3) := dk_167 0 4 (dk_at dksX1_reacts_2 0 rfl rfl)
theorem dX1_reacts_51 : decode cX1_reacts 51 = .ok (.iconst 0, 1) := dk_3 (dk_at dksX1_reacts_2 3 rfl rfl)
theorem dX1_reacts_52 : decode cX1_reacts 52 = .ok (.ior, 1) := dk_128 (dk_at dksX1_reacts_2 4 rfl rfl)
theorem dX1_reacts_53 : decode cX1_reacts 53 = .ok (.istore_n 2, 1) := dk_61 (dk_at dksX1_reacts_2 5 rfl rfl)
theorem dX1_reacts_54 : decode cX1_reacts 54 = .ok (.iinc 4 1, 3) := dk_132 4 1 (dk_at dksX1_reacts_2 6 rfl rfl)
theorem dX1_reacts_57 : decode cX1_reacts 57 = .ok (.goto (-43), 3) := dk_167 255 213 (dk_at dksX1_reacts_2 9 rfl rfl)
theorem dX1_reacts_60 : decode cX1_reacts 60 = .ok (.iinc 3 1, 3) := dk_132 3 1 (dk_at dksX1_reacts_2 12 rfl rfl)
theorem dX1_reacts_63 : decode cX1_reacts 63 = .ok (.goto (-59), 3) := dk_167 255 197 (dk_at dksX1_reacts_2 15 rfl rfl)
theorem dX1_reacts_66 : decode cX1_reacts 66 = .ok (.iload_n 2, 1) := dk_28 (dk_at dksX1_reacts_2 18 rfl rfl)
theorem dX1_reacts_67 : decode cX1_reacts 67 = .ok (.ireturn, 1) := dk_172 (dk_at dksX1_reacts_2 19 rfl rfl)
abbrev cX1_clusters : ByteArray := prog_4_method_23_code
def yX1_clusters : MethodName := ⟨RX1, "clusters", "(I)[I"⟩
def dkwX1_clusters_3 : List UInt8 := [182, 0, 158, 132, 3, 1, 132, 4, 1, 167, 255, 212, 44, 176]
abbrev dktX1_clusters_3 : List UInt8 := dkwX1_clusters_3 ++ []
def dkwX1_clusters_2 : List UInt8 := [21, 4, 46, 27, 162, 0, 24, 44, 21, 4, 46, 16, 247, 160, 0, 15, 42, 44, 21, 4, 29, 27]
abbrev dktX1_clusters_2 : List UInt8 := dkwX1_clusters_2 ++ dktX1_clusters_3
def dkwX1_clusters_1 : List UInt8 := [132, 3, 1, 167, 255, 240, 3, 62, 3, 54, 4, 21, 4, 42, 182, 0, 79, 162, 0, 41, 42, 180, 0, 33]
abbrev dktX1_clusters_1 : List UInt8 := dkwX1_clusters_1 ++ dktX1_clusters_2
def dkwX1_clusters_0 : List UInt8 := [42, 182, 0, 79, 188, 10, 77, 3, 62, 29, 42, 182, 0, 79, 162, 0, 14, 44, 29, 16, 247, 79]
abbrev dktX1_clusters_0 : List UInt8 := dkwX1_clusters_0 ++ dktX1_clusters_1
theorem dksX1_clusters_0 : cX1_clusters.data.toList.drop 0 = dktX1_clusters_0 := by decide +kernel
theorem dksX1_clusters_1 : cX1_clusters.data.toList.drop 22 = dktX1_clusters_1 := dk_seg dksX1_clusters_0 22 rfl rfl
theorem dksX1_clusters_2 : cX1_clusters.data.toList.drop 46 = dktX1_clusters_2 := dk_seg dksX1_clusters_1 24 rfl rfl
theorem dksX1_clusters_3 : cX1_clusters.data.toList.drop 68 = dktX1_clusters_3 := dk_seg dksX1_clusters_2 22 rfl rfl
theorem dX1_clusters_0 : decode cX1_clusters 0 = .ok (.aload_n 0, 1) := dk_42 (dk_at dksX1_clusters_0 0 rfl rfl)
theorem dX1_clusters_1 : decode cX1_clusters 1 = .ok (.invokevirtual 79, 3) := dk_182 0 79 (dk_at dksX1_clusters_0 1 rfl rfl)
theorem dX1_clusters_4 : decode cX1_clusters 4 = .ok (.newarray .int, 2) := dk_188_10 (dk_at dksX1_clusters_0 4 rfl rfl)
theorem dX1_clusters_6 : decode cX1_clusters 6 = .ok (.astore_n 2, 1) := dk_77 (dk_at dksX1_clusters_0 6 rfl rfl)
theorem dX1_clusters_7 : decode cX1_clusters 7 = .ok (.iconst 0, 1) := dk_3 (dk_at dksX1_clusters_0 7 rfl rfl)
theorem dX1_clusters_8 : decode cX1_clusters 8 = .ok (.istore_n 3, 1) := dk_62 (dk_at dksX1_clusters_0 8 rfl rfl)
theorem dX1_clusters_9 : decode cX1_clusters 9 = .ok (.iload_n 3, 1) := dk_29 (dk_at dksX1_clusters_0 9 rfl rfl)
theorem dX1_clusters_10 : decode cX1_clusters 10 = .ok (.aload_n 0, 1) := dk_42 (dk_at dksX1_clusters_0 10 rfl rfl)
theorem dX1_clusters_11 : decode cX1_clusters 11 = .ok (.invokevirtual 79, 3) := dk_182 0 79 (dk_at dksX1_clusters_0 11 rfl rfl)
theorem dX1_clusters_14 : decode cX1_clusters 14 = .ok (.if_icmp .ge 14, 3) := dk_162 0 14 (dk_at dksX1_clusters_0 14 rfl rfl)
theorem dX1_clusters_17 : decode cX1_clusters 17 = .ok (.aload_n 2, 1) := dk_44 (dk_at dksX1_clusters_0 17 rfl rfl)
theorem dX1_clusters_18 : decode cX1_clusters 18 = .ok (.iload_n 3, 1) := dk_29 (dk_at dksX1_clusters_0 18 rfl rfl)
theorem dX1_clusters_19 : decode cX1_clusters 19 = .ok (.bipush (-9), 2) := dk_16 247 (dk_at dksX1_clusters_0 19 rfl rfl)
theorem dX1_clusters_21 : decode cX1_clusters 21 = .ok (.iastore, 1) := dk_79 (dk_at dksX1_clusters_0 21 rfl rfl)
theorem dX1_clusters_22 : decode cX1_clusters 22 = .ok (.iinc 3 1, 3) := dk_132 3 1 (dk_at dksX1_clusters_1 0 rfl rfl)
theorem dX1_clusters_25 : decode cX1_clusters 25 = .ok (.goto (-16), 3) := dk_167 255 240 (dk_at dksX1_clusters_1 3 rfl rfl)
theorem dX1_clusters_28 : decode cX1_clusters 28 = .ok (.iconst 0, 1) := dk_3 (dk_at dksX1_clusters_1 6 rfl rfl)
theorem dX1_clusters_29 : decode cX1_clusters 29 = .ok (.istore_n 3, 1) := dk_62 (dk_at dksX1_clusters_1 7 rfl rfl)
theorem dX1_clusters_30 : decode cX1_clusters 30 = .ok (.iconst 0, 1) := dk_3 (dk_at dksX1_clusters_1 8 rfl rfl)
theorem dX1_clusters_31 : decode cX1_clusters 31 = .ok (.istore 4, 2) := dk_54 4 (dk_at dksX1_clusters_1 9 rfl rfl)
theorem dX1_clusters_33 : decode cX1_clusters 33 = .ok (.iload 4, 2) := dk_21 4 (dk_at dksX1_clusters_1 11 rfl rfl)
theorem dX1_clusters_35 : decode cX1_clusters 35 = .ok (.aload_n 0, 1) := dk_42 (dk_at dksX1_clusters_1 13 rfl rfl)
theorem dX1_clusters_36 : decode cX1_clusters 36 = .ok (.invokevirtual 79, 3) := dk_182 0 79 (dk_at dksX1_clusters_1 14 rfl rfl)
theorem dX1_clusters_39 : decode cX1_clusters 39 = .ok (.if_icmp .ge 41, 3) := dk_162 0 41 (dk_at dksX1_clusters_1 17 rfl rfl)
theorem dX1_clusters_42 : decode cX1_clusters 42 = .ok (.aload_n 0, 1) := dk_42 (dk_at dksX1_clusters_1 20 rfl rfl)
theorem dX1_clusters_43 : decode cX1_clusters 43 = .ok (.getfield 33, 3) := dk_180 0 33 (dk_at dksX1_clusters_1 21 rfl rfl)
theorem dX1_clusters_46 : decode cX1_clusters 46 = .ok (.iload 4, 2) := dk_21 4 (dk_at dksX1_clusters_2 0 rfl rfl)
theorem dX1_clusters_48 : decode cX1_clusters 48 = .ok (.iaload, 1) := dk_46 (dk_at dksX1_clusters_2 2 rfl rfl)
theorem dX1_clusters_49 : decode cX1_clusters 49 = .ok (.iload_n 1, 1) := dk_27 (dk_at dksX1_clusters_2 3 rfl rfl)
theorem dX1_clusters_50 : decode cX1_clusters 50 = .ok (.if_icmp .ge 24, 3) := dk_162 0 24 (dk_at dksX1_clusters_2 4 rfl rfl)
theorem dX1_clusters_53 : decode cX1_clusters 53 = .ok (.aload_n 2, 1) := dk_44 (dk_at dksX1_clusters_2 7 rfl rfl)
theorem dX1_clusters_54 : decode cX1_clusters 54 = .ok (.iload 4, 2) := dk_21 4 (dk_at dksX1_clusters_2 8 rfl rfl)
theorem dX1_clusters_56 : decode cX1_clusters 56 = .ok (.iaload, 1) := dk_46 (dk_at dksX1_clusters_2 10 rfl rfl)
theorem dX1_clusters_57 : decode cX1_clusters 57 = .ok (.bipush (-9), 2) := dk_16 247 (dk_at dksX1_clusters_2 11 rfl rfl)
theorem dX1_clusters_59 : decode cX1_clusters 59 = .ok (.if_icmp .ne 15, 3) := dk_160 0 15 (dk_at dksX1_clusters_2 13 rfl rfl)
theorem dX1_clusters_62 : decode cX1_clusters 62 = .ok (.aload_n 0, 1) := dk_42 (dk_at dksX1_clusters_2 16 rfl rfl)
theorem dX1_clusters_63 : decode cX1_clusters 63 = .ok (.aload_n 2, 1) := dk_44 (dk_at dksX1_clusters_2 17 rfl rfl)
theorem dX1_clusters_64 : decode cX1_clusters 64 = .ok (.iload 4, 2) := dk_21 4 (dk_at dksX1_clusters_2 18 rfl rfl)
theorem dX1_clusters_66 : decode cX1_clusters 66 = .ok (.iload_n 3, 1) := dk_29 (dk_at dksX1_clusters_2 20 rfl rfl)
theorem dX1_clusters_67 : decode cX1_clusters 67 = .ok (.iload_n 1, 1) := dk_27 (dk_at dksX1_clusters_2 21 rfl rfl)
theorem dX1_clusters_68 : decode cX1_clusters 68 = .ok (.invokevirtual 158, 3) := dk_182 0 158 (dk_at dksX1_clusters_3 0 rfl rfl)
theorem dX1_clusters_71 : decode cX1_clusters 71 = .ok (.iinc 3 1, 3) := dk_132 3 1 (dk_at dksX1_clusters_3 3 rfl rfl)
theorem dX1_clusters_74 : decode cX1_clusters 74 = .ok (.iinc 4 1, 3) := dk_132 4 1 (dk_at dksX1_clusters_3 6 rfl rfl)
theorem dX1_clusters_77 : decode cX1_clusters 77 = .ok (.goto (-44), 3) := dk_167 255 212 (dk_at dksX1_clusters_3 9 rfl rfl)
theorem dX1_clusters_80 : decode cX1_clusters 80 = .ok (.aload_n 2, 1) := dk_44 (dk_at dksX1_clusters_3 12 rfl rfl)
theorem dX1_clusters_81 : decode cX1_clusters 81 = .ok (.areturn, 1) := dk_176 (dk_at dksX1_clusters_3 13 rfl rfl)
abbrev cX1_mark : ByteArray := prog_4_method_24_code
def yX1_mark : MethodName := ⟨RX1, "mark", "([IIII)V"⟩
def dkwX1_mark_2 : List UInt8 := [25, 5, 21, 6, 51, 153, 0, 7, 29, 167, 0, 7, 43, 21, 6, 46, 79, 132, 6, 1, 167, 255, 224, 177]
abbrev dktX1_mark_2 : List UInt8 := dkwX1_mark_2 ++ []
def dkwX1_mark_1 : List UInt8 := [186, 0, 163, 0, 0, 182, 0, 136, 3, 54, 6, 21, 6, 42, 182, 0, 79, 162, 0, 29, 43, 21, 6]
abbrev dktX1_mark_1 : List UInt8 := dkwX1_mark_1 ++ dktX1_mark_2
def dkwX1_mark_0 : List UInt8 := [42, 182, 0, 79, 188, 4, 58, 5, 25, 5, 28, 4, 84, 42, 25, 5, 42, 21, 4, 186, 0, 162, 0, 0]
abbrev dktX1_mark_0 : List UInt8 := dkwX1_mark_0 ++ dktX1_mark_1
theorem dksX1_mark_0 : cX1_mark.data.toList.drop 0 = dktX1_mark_0 := by decide +kernel
theorem dksX1_mark_1 : cX1_mark.data.toList.drop 24 = dktX1_mark_1 := dk_seg dksX1_mark_0 24 rfl rfl
theorem dksX1_mark_2 : cX1_mark.data.toList.drop 47 = dktX1_mark_2 := dk_seg dksX1_mark_1 23 rfl rfl
theorem dX1_mark_0 : decode cX1_mark 0 = .ok (.aload_n 0, 1) := dk_42 (dk_at dksX1_mark_0 0 rfl rfl)
theorem dX1_mark_1 : decode cX1_mark 1 = .ok (.invokevirtual 79, 3) := dk_182 0 79 (dk_at dksX1_mark_0 1 rfl rfl)
theorem dX1_mark_4 : decode cX1_mark 4 = .ok (.newarray .boolean, 2) := dk_188_4 (dk_at dksX1_mark_0 4 rfl rfl)
theorem dX1_mark_6 : decode cX1_mark 6 = .ok (.astore 5, 2) := dk_58 5 (dk_at dksX1_mark_0 6 rfl rfl)
theorem dX1_mark_8 : decode cX1_mark 8 = .ok (.aload 5, 2) := dk_25 5 (dk_at dksX1_mark_0 8 rfl rfl)
theorem dX1_mark_10 : decode cX1_mark 10 = .ok (.iload_n 2, 1) := dk_28 (dk_at dksX1_mark_0 10 rfl rfl)
theorem dX1_mark_11 : decode cX1_mark 11 = .ok (.iconst 1, 1) := dk_4 (dk_at dksX1_mark_0 11 rfl rfl)
theorem dX1_mark_12 : decode cX1_mark 12 = .ok (.bastore, 1) := dk_84 (dk_at dksX1_mark_0 12 rfl rfl)
theorem dX1_mark_13 : decode cX1_mark 13 = .ok (.aload_n 0, 1) := dk_42 (dk_at dksX1_mark_0 13 rfl rfl)
theorem dX1_mark_14 : decode cX1_mark 14 = .ok (.aload 5, 2) := dk_25 5 (dk_at dksX1_mark_0 14 rfl rfl)
theorem dX1_mark_16 : decode cX1_mark 16 = .ok (.aload_n 0, 1) := dk_42 (dk_at dksX1_mark_0 16 rfl rfl)
theorem dX1_mark_17 : decode cX1_mark 17 = .ok (.iload 4, 2) := dk_21 4 (dk_at dksX1_mark_0 17 rfl rfl)
theorem dX1_mark_19 : decode cX1_mark 19 = .ok (.invokedynamic 162, 5) := by decide +kernel
theorem dX1_mark_24 : decode cX1_mark 24 = .ok (.invokedynamic 163, 5) := by decide +kernel
theorem dX1_mark_29 : decode cX1_mark 29 = .ok (.invokevirtual 136, 3) := dk_182 0 136 (dk_at dksX1_mark_1 5 rfl rfl)
theorem dX1_mark_32 : decode cX1_mark 32 = .ok (.iconst 0, 1) := dk_3 (dk_at dksX1_mark_1 8 rfl rfl)
theorem dX1_mark_33 : decode cX1_mark 33 = .ok (.istore 6, 2) := dk_54 6 (dk_at dksX1_mark_1 9 rfl rfl)
theorem dX1_mark_35 : decode cX1_mark 35 = .ok (.iload 6, 2) := dk_21 6 (dk_at dksX1_mark_1 11 rfl rfl)
theorem dX1_mark_37 : decode cX1_mark 37 = .ok (.aload_n 0, 1) := dk_42 (dk_at dksX1_mark_1 13 rfl rfl)
theorem dX1_mark_38 : decode cX1_mark 38 = .ok (.invokevirtual 79, 3) := dk_182 0 79 (dk_at dksX1_mark_1 14 rfl rfl)
theorem dX1_mark_41 : decode cX1_mark 41 = .ok (.if_icmp .ge 29, 3) := dk_162 0 29 (dk_at dksX1_mark_1 17 rfl rfl)
theorem dX1_mark_44 : decode cX1_mark 44 = .ok (.aload_n 1, 1) := dk_43 (dk_at dksX1_mark_1 20 rfl rfl)
theorem dX1_mark_45 : decode cX1_mark 45 = .ok (.iload 6, 2) := dk_21 6 (dk_at dksX1_mark_1 21 rfl rfl)
theorem dX1_mark_47 : decode cX1_mark 47 = .ok (.aload 5, 2) := dk_25 5 (dk_at dksX1_mark_2 0 rfl rfl)
theorem dX1_mark_49 : decode cX1_mark 49 = .ok (.iload 6, 2) := dk_21 6 (dk_at dksX1_mark_2 2 rfl rfl)
theorem dX1_mark_51 : decode cX1_mark 51 = .ok (.baload, 1) := dk_51 (dk_at dksX1_mark_2 4 rfl rfl)
theorem dX1_mark_52 : decode cX1_mark 52 = .ok (.ifCond .eq 7, 3) := dk_153 0 7 (dk_at dksX1_mark_2 5 rfl rfl)
theorem dX1_mark_55 : decode cX1_mark 55 = .ok (.iload_n 3, 1) := dk_29 (dk_at dksX1_mark_2 8 rfl rfl)
theorem dX1_mark_56 : decode cX1_mark 56 = .ok (.goto 7, 3) := dk_167 0 7 (dk_at dksX1_mark_2 9 rfl rfl)
theorem dX1_mark_59 : decode cX1_mark 59 = .ok (.aload_n 1, 1) := dk_43 (dk_at dksX1_mark_2 12 rfl rfl)
theorem dX1_mark_60 : decode cX1_mark 60 = .ok (.iload 6, 2) := dk_21 6 (dk_at dksX1_mark_2 13 rfl rfl)
theorem dX1_mark_62 : decode cX1_mark 62 = .ok (.iaload, 1) := dk_46 (dk_at dksX1_mark_2 15 rfl rfl)
theorem dX1_mark_63 : decode cX1_mark 63 = .ok (.iastore, 1) := dk_79 (dk_at dksX1_mark_2 16 rfl rfl)
theorem dX1_mark_64 : decode cX1_mark 64 = .ok (.iinc 6 1, 3) := dk_132 6 1 (dk_at dksX1_mark_2 17 rfl rfl)
theorem dX1_mark_67 : decode cX1_mark 67 = .ok (.goto (-32), 3) := dk_167 255 224 (dk_at dksX1_mark_2 20 rfl rfl)
theorem dX1_mark_70 : decode cX1_mark 70 = .ok (.return_, 1) := dk_177 (dk_at dksX1_mark_2 23 rfl rfl)
abbrev cX1_lambda_mark_7 : ByteArray := prog_4_method_33_code
def yX1_lambda_mark_7 : MethodName := ⟨RX1, "lambda$mark$7", "(II)Z"⟩
def dkwX1_lambda_mark_7_0 : List UInt8 := [42, 180, 0, 33, 28, 46, 27, 162, 0, 7, 4, 167, 0, 4, 3, 172]
abbrev dktX1_lambda_mark_7_0 : List UInt8 := dkwX1_lambda_mark_7_0 ++ []
theorem dksX1_lambda_mark_7_0 : cX1_lambda_mark_7.data.toList.drop 0 = dktX1_lambda_mark_7_0 := by decide +kernel
theorem dX1_lambda_mark_7_0 : decode cX1_lambda_mark_7 0 = .ok (.aload_n 0, 1) := dk_42 (dk_at dksX1_lambda_mark_7_0 0 rfl rfl)
theorem dX1_lambda_mark_7_1 : decode cX1_lambda_mark_7 1 = .ok (.getfield 33, 3) := dk_180 0 33 (dk_at dksX1_lambda_mark_7_0 1 rfl rfl)
theorem dX1_lambda_mark_7_4 : decode cX1_lambda_mark_7 4 = .ok (.iload_n 2, 1) := dk_28 (dk_at dksX1_lambda_mark_7_0 4 rfl rfl)
theorem dX1_lambda_mark_7_5 : decode cX1_lambda_mark_7 5 = .ok (.iaload, 1) := dk_46 (dk_at dksX1_lambda_mark_7_0 5 rfl rfl)
theorem dX1_lambda_mark_7_6 : decode cX1_lambda_mark_7 6 = .ok (.iload_n 1, 1) := dk_27 (dk_at dksX1_lambda_mark_7_0 6 rfl rfl)
theorem dX1_lambda_mark_7_7 : decode cX1_lambda_mark_7 7 = .ok (.if_icmp .ge 7, 3) := dk_162 0 7 (dk_at dksX1_lambda_mark_7_0 7 rfl rfl)
theorem dX1_lambda_mark_7_10 : decode cX1_lambda_mark_7 10 = .ok (.iconst 1, 1) := dk_4 (dk_at dksX1_lambda_mark_7_0 10 rfl rfl)
theorem dX1_lambda_mark_7_11 : decode cX1_lambda_mark_7 11 = .ok (.goto 4, 3) := dk_167 0 4 (dk_at dksX1_lambda_mark_7_0 11 rfl rfl)
theorem dX1_lambda_mark_7_14 : decode cX1_lambda_mark_7 14 = .ok (.iconst 0, 1) := dk_3 (dk_at dksX1_lambda_mark_7_0 14 rfl rfl)
theorem dX1_lambda_mark_7_15 : decode cX1_lambda_mark_7 15 = .ok (.ireturn, 1) := dk_172 (dk_at dksX1_lambda_mark_7_0 15 rfl rfl)
abbrev cX1_lambda_mark_8 : ByteArray := prog_4_method_32_code
def yX1_lambda_mark_8 : MethodName := ⟨RX1, "lambda$mark$8", "(LDyeLattice$Valve;Z)Z"⟩
def dkwX1_lambda_mark_8_0 : List UInt8 := [42, 178, 0, 200, 165, 0, 7, 4, 167, 0, 4, 3, 172]
abbrev dktX1_lambda_mark_8_0 : List UInt8 := dkwX1_lambda_mark_8_0 ++ []
theorem dksX1_lambda_mark_8_0 : cX1_lambda_mark_8.data.toList.drop 0 = dktX1_lambda_mark_8_0 := by decide +kernel
theorem dX1_lambda_mark_8_0 : decode cX1_lambda_mark_8 0 = .ok (.aload_n 0, 1) := dk_42 (dk_at dksX1_lambda_mark_8_0 0 rfl rfl)
theorem dX1_lambda_mark_8_1 : decode cX1_lambda_mark_8 1 = .ok (.getstatic 200, 3) := dk_178 0 200 (dk_at dksX1_lambda_mark_8_0 1 rfl rfl)
theorem dX1_lambda_mark_8_4 : decode cX1_lambda_mark_8 4 = .ok (.if_acmp .eq 7, 3) := dk_165 0 7 (dk_at dksX1_lambda_mark_8_0 4 rfl rfl)
theorem dX1_lambda_mark_8_7 : decode cX1_lambda_mark_8 7 = .ok (.iconst 1, 1) := dk_4 (dk_at dksX1_lambda_mark_8_0 7 rfl rfl)
theorem dX1_lambda_mark_8_8 : decode cX1_lambda_mark_8 8 = .ok (.goto 4, 3) := dk_167 0 4 (dk_at dksX1_lambda_mark_8_0 8 rfl rfl)
theorem dX1_lambda_mark_8_11 : decode cX1_lambda_mark_8 11 = .ok (.iconst 0, 1) := dk_3 (dk_at dksX1_lambda_mark_8_0 11 rfl rfl)
theorem dX1_lambda_mark_8_12 : decode cX1_lambda_mark_8 12 = .ok (.ireturn, 1) := dk_172 (dk_at dksX1_lambda_mark_8_0 12 rfl rfl)
abbrev cX1_flood : ByteArray := prog_4_method_18_code
def yX1_flood : MethodName := ⟨RX1, "flood", "([ZLDyeLattice$CellTest;LDyeLattice$ValveTest;)V"⟩
def dkwX1_flood_9 : List UInt8 := [84, 25, 4, 21, 5, 21, 9, 79, 132, 5, 1, 132, 7, 1, 167, 255, 88, 132, 6, 1, 167, 255, 72, 177]
abbrev dktX1_flood_9 : List UInt8 := dkwX1_flood_9 ++ []
def dkwX1_flood_8 : List UInt8 := [180, 0, 39, 7, 21, 9, 104, 21, 7, 96, 50, 3, 185, 0, 127, 3, 0, 153, 0, 18, 43, 21, 9, 4]
abbrev dktX1_flood_8 : List UInt8 := dkwX1_flood_8 ++ dktX1_flood_9
def dkwX1_flood_7 : List UInt8 := [159, 0, 58, 43, 21, 9, 51, 154, 0, 51, 44, 21, 9, 185, 0, 122, 2, 0, 153, 0, 40, 45, 42]
abbrev dktX1_flood_7 : List UInt8 := dkwX1_flood_7 ++ dktX1_flood_8
def dkwX1_flood_6 : List UInt8 := [21, 8, 79, 132, 5, 1, 42, 25, 4, 21, 6, 46, 21, 7, 182, 0, 112, 54, 9, 21, 9, 16, 247]
abbrev dktX1_flood_6 : List UInt8 := dkwX1_flood_6 ++ dktX1_flood_7
def dkwX1_flood_5 : List UInt8 := [46, 104, 21, 7, 96, 50, 4, 185, 0, 127, 3, 0, 153, 0, 18, 43, 21, 8, 4, 84, 25, 4, 21, 5]
abbrev dktX1_flood_5 : List UInt8 := dkwX1_flood_5 ++ dktX1_flood_6
def dkwX1_flood_4 : List UInt8 := [154, 0, 54, 44, 21, 8, 185, 0, 122, 2, 0, 153, 0, 43, 45, 42, 180, 0, 39, 7, 25, 4, 21, 6]
abbrev dktX1_flood_4 : List UInt8 := dkwX1_flood_4 ++ dktX1_flood_5
def dkwX1_flood_3 : List UInt8 := [42, 25, 4, 21, 6, 46, 21, 7, 182, 0, 105, 54, 8, 21, 8, 16, 247, 159, 0, 61, 43, 21, 8, 51]
abbrev dktX1_flood_3 : List UInt8 := dkwX1_flood_3 ++ dktX1_flood_4
def dkwX1_flood_2 : List UInt8 := [54, 6, 21, 6, 21, 5, 162, 0, 183, 3, 54, 7, 21, 7, 42, 180, 0, 15, 180, 0, 102, 162, 0, 162]
abbrev dktX1_flood_2 : List UInt8 := dkwX1_flood_2 ++ dktX1_flood_3
def dkwX1_flood_1 : List UInt8 := [21, 6, 51, 153, 0, 13, 25, 4, 21, 5, 21, 6, 79, 132, 5, 1, 132, 6, 1, 167, 255, 227, 3]
abbrev dktX1_flood_1 : List UInt8 := dkwX1_flood_1 ++ dktX1_flood_2
def dkwX1_flood_0 : List UInt8 := [42, 182, 0, 79, 188, 10, 58, 4, 3, 54, 5, 3, 54, 6, 21, 6, 42, 182, 0, 79, 162, 0, 26, 43]
abbrev dktX1_flood_0 : List UInt8 := dkwX1_flood_0 ++ dktX1_flood_1
theorem dksX1_flood_0 : cX1_flood.data.toList.drop 0 = dktX1_flood_0 := by decide +kernel
theorem dksX1_flood_1 : cX1_flood.data.toList.drop 24 = dktX1_flood_1 := dk_seg dksX1_flood_0 24 rfl rfl
theorem dksX1_flood_2 : cX1_flood.data.toList.drop 47 = dktX1_flood_2 := dk_seg dksX1_flood_1 23 rfl rfl
theorem dksX1_flood_3 : cX1_flood.data.toList.drop 71 = dktX1_flood_3 := dk_seg dksX1_flood_2 24 rfl rfl
theorem dksX1_flood_4 : cX1_flood.data.toList.drop 95 = dktX1_flood_4 := dk_seg dksX1_flood_3 24 rfl rfl
theorem dksX1_flood_5 : cX1_flood.data.toList.drop 119 = dktX1_flood_5 := dk_seg dksX1_flood_4 24 rfl rfl
theorem dksX1_flood_6 : cX1_flood.data.toList.drop 143 = dktX1_flood_6 := dk_seg dksX1_flood_5 24 rfl rfl
theorem dksX1_flood_7 : cX1_flood.data.toList.drop 166 = dktX1_flood_7 := dk_seg dksX1_flood_6 23 rfl rfl
theorem dksX1_flood_8 : cX1_flood.data.toList.drop 189 = dktX1_flood_8 := dk_seg dksX1_flood_7 23 rfl rfl
theorem dksX1_flood_9 : cX1_flood.data.toList.drop 213 = dktX1_flood_9 := dk_seg dksX1_flood_8 24 rfl rfl
theorem dX1_flood_0 : decode cX1_flood 0 = .ok (.aload_n 0, 1) := dk_42 (dk_at dksX1_flood_0 0 rfl rfl)
theorem dX1_flood_1 : decode cX1_flood 1 = .ok (.invokevirtual 79, 3) := dk_182 0 79 (dk_at dksX1_flood_0 1 rfl rfl)
theorem dX1_flood_4 : decode cX1_flood 4 = .ok (.newarray .int, 2) := dk_188_10 (dk_at dksX1_flood_0 4 rfl rfl)
theorem dX1_flood_6 : decode cX1_flood 6 = .ok (.astore 4, 2) := dk_58 4 (dk_at dksX1_flood_0 6 rfl rfl)
theorem dX1_flood_8 : decode cX1_flood 8 = .ok (.iconst 0, 1) := dk_3 (dk_at dksX1_flood_0 8 rfl rfl)
theorem dX1_flood_9 : decode cX1_flood 9 = .ok (.istore 5, 2) := dk_54 5 (dk_at dksX1_flood_0 9 rfl rfl)
theorem dX1_flood_11 : decode cX1_flood 11 = .ok (.iconst 0, 1) := dk_3 (dk_at dksX1_flood_0 11 rfl rfl)
theorem dX1_flood_12 : decode cX1_flood 12 = .ok (.istore 6, 2) := dk_54 6 (dk_at dksX1_flood_0 12 rfl rfl)
theorem dX1_flood_14 : decode cX1_flood 14 = .ok (.iload 6, 2) := dk_21 6 (dk_at dksX1_flood_0 14 rfl rfl)
theorem dX1_flood_16 : decode cX1_flood 16 = .ok (.aload_n 0, 1) := dk_42 (dk_at dksX1_flood_0 16 rfl rfl)
theorem dX1_flood_17 : decode cX1_flood 17 = .ok (.invokevirtual 79, 3) := dk_182 0 79 (dk_at dksX1_flood_0 17 rfl rfl)
theorem dX1_flood_20 : decode cX1_flood 20 = .ok (.if_icmp .ge 26, 3) := dk_162 0 26 (dk_at dksX1_flood_0 20 rfl rfl)
theorem dX1_flood_23 : decode cX1_flood 23 = .ok (.aload_n 1, 1) := dk_43 (dk_at dksX1_flood_0 23 rfl rfl)
theorem dX1_flood_24 : decode cX1_flood 24 = .ok (.iload 6, 2) := dk_21 6 (dk_at dksX1_flood_1 0 rfl rfl)
theorem dX1_flood_26 : decode cX1_flood 26 = .ok (.baload, 1) := dk_51 (dk_at dksX1_flood_1 2 rfl rfl)
theorem dX1_flood_27 : decode cX1_flood 27 = .ok (.ifCond .eq 13, 3) := dk_153 0 13 (dk_at dksX1_flood_1 3 rfl rfl)
theorem dX1_flood_30 : decode cX1_flood 30 = .ok (.aload 4, 2) := dk_25 4 (dk_at dksX1_flood_1 6 rfl rfl)
theorem dX1_flood_32 : decode cX1_flood 32 = .ok (.iload 5, 2) := dk_21 5 (dk_at dksX1_flood_1 8 rfl rfl)
theorem dX1_flood_34 : decode cX1_flood 34 = .ok (.iload 6, 2) := dk_21 6 (dk_at dksX1_flood_1 10 rfl rfl)
theorem dX1_flood_36 : decode cX1_flood 36 = .ok (.iastore, 1) := dk_79 (dk_at dksX1_flood_1 12 rfl rfl)
theorem dX1_flood_37 : decode cX1_flood 37 = .ok (.iinc 5 1, 3) := dk_132 5 1 (dk_at dksX1_flood_1 13 rfl rfl)
theorem dX1_flood_40 : decode cX1_flood 40 = .ok (.iinc 6 1, 3) := dk_132 6 1 (dk_at dksX1_flood_1 16 rfl rfl)
theorem dX1_flood_43 : decode cX1_flood 43 = .ok (.goto (-29), 3) := dk_167 255 227 (dk_at dksX1_flood_1 19 rfl rfl)
theorem dX1_flood_46 : decode cX1_flood 46 = .ok (.iconst 0, 1) := dk_3 (dk_at dksX1_flood_1 22 rfl rfl)
theorem dX1_flood_47 : decode cX1_flood 47 = .ok (.istore 6, 2) := dk_54 6 (dk_at dksX1_flood_2 0 rfl rfl)
theorem dX1_flood_49 : decode cX1_flood 49 = .ok (.iload 6, 2) := dk_21 6 (dk_at dksX1_flood_2 2 rfl rfl)
theorem dX1_flood_51 : decode cX1_flood 51 = .ok (.iload 5, 2) := dk_21 5 (dk_at dksX1_flood_2 4 rfl rfl)
theorem dX1_flood_53 : decode cX1_flood 53 = .ok (.if_icmp .ge 183, 3) := dk_162 0 183 (dk_at dksX1_flood_2 6 rfl rfl)
theorem dX1_flood_56 : decode cX1_flood 56 = .ok (.iconst 0, 1) := dk_3 (dk_at dksX1_flood_2 9 rfl rfl)
theorem dX1_flood_57 : decode cX1_flood 57 = .ok (.istore 7, 2) := dk_54 7 (dk_at dksX1_flood_2 10 rfl rfl)
theorem dX1_flood_59 : decode cX1_flood 59 = .ok (.iload 7, 2) := dk_21 7 (dk_at dksX1_flood_2 12 rfl rfl)
theorem dX1_flood_61 : decode cX1_flood 61 = .ok (.aload_n 0, 1) := dk_42 (dk_at dksX1_flood_2 14 rfl rfl)
theorem dX1_flood_62 : decode cX1_flood 62 = .ok (.getfield 15, 3) := dk_180 0 15 (dk_at dksX1_flood_2 15 rfl rfl)
theorem dX1_flood_65 : decode cX1_flood 65 = .ok (.getfield 102, 3) := dk_180 0 102 (dk_at dksX1_flood_2 18 rfl rfl)
theorem dX1_flood_68 : decode cX1_flood 68 = .ok (.if_icmp .ge 162, 3) := dk_162 0 162 (dk_at dksX1_flood_2 21 rfl rfl)
theorem dX1_flood_71 : decode cX1_flood 71 = .ok (.aload_n 0, 1) := dk_42 (dk_at dksX1_flood_3 0 rfl rfl)
theorem dX1_flood_72 : decode cX1_flood 72 = .ok (.aload 4, 2) := dk_25 4 (dk_at dksX1_flood_3 1 rfl rfl)
theorem dX1_flood_74 : decode cX1_flood 74 = .ok (.iload 6, 2) := dk_21 6 (dk_at dksX1_flood_3 3 rfl rfl)
theorem dX1_flood_76 : decode cX1_flood 76 = .ok (.iaload, 1) := dk_46 (dk_at dksX1_flood_3 5 rfl rfl)
theorem dX1_flood_77 : decode cX1_flood 77 = .ok (.iload 7, 2) := dk_21 7 (dk_at dksX1_flood_3 6 rfl rfl)
theorem dX1_flood_79 : decode cX1_flood 79 = .ok (.invokevirtual 105, 3) := dk_182 0 105 (dk_at dksX1_flood_3 8 rfl rfl)
theorem dX1_flood_82 : decode cX1_flood 82 = .ok (.istore 8, 2) := dk_54 8 (dk_at dksX1_flood_3 11 rfl rfl)
theorem dX1_flood_84 : decode cX1_flood 84 = .ok (.iload 8, 2) := dk_21 8 (dk_at dksX1_flood_3 13 rfl rfl)
theorem dX1_flood_86 : decode cX1_flood 86 = .ok (.bipush (-9), 2) := dk_16 247 (dk_at dksX1_flood_3 15 rfl rfl)
theorem dX1_flood_88 : decode cX1_flood 88 = .ok (.if_icmp .eq 61, 3) := dk_159 0 61 (dk_at dksX1_flood_3 17 rfl rfl)
theorem dX1_flood_91 : decode cX1_flood 91 = .ok (.aload_n 1, 1) := dk_43 (dk_at dksX1_flood_3 20 rfl rfl)
theorem dX1_flood_92 : decode cX1_flood 92 = .ok (.iload 8, 2) := dk_21 8 (dk_at dksX1_flood_3 21 rfl rfl)
theorem dX1_flood_94 : decode cX1_flood 94 = .ok (.baload, 1) := dk_51 (dk_at dksX1_flood_3 23 rfl rfl)
theorem dX1_flood_95 : decode cX1_flood 95 = .ok (.ifCond .ne 54, 3) := dk_154 0 54 (dk_at dksX1_flood_4 0 rfl rfl)
theorem dX1_flood_98 : decode cX1_flood 98 = .ok (.aload_n 2, 1) := dk_44 (dk_at dksX1_flood_4 3 rfl rfl)
theorem dX1_flood_99 : decode cX1_flood 99 = .ok (.iload 8, 2) := dk_21 8 (dk_at dksX1_flood_4 4 rfl rfl)
theorem dX1_flood_101 : decode cX1_flood 101 = .ok (.invokeinterface 122 2, 5) := by decide +kernel
theorem dX1_flood_106 : decode cX1_flood 106 = .ok (.ifCond .eq 43, 3) := dk_153 0 43 (dk_at dksX1_flood_4 11 rfl rfl)
theorem dX1_flood_109 : decode cX1_flood 109 = .ok (.aload_n 3, 1) := dk_45 (dk_at dksX1_flood_4 14 rfl rfl)
theorem dX1_flood_110 : decode cX1_flood 110 = .ok (.aload_n 0, 1) := dk_42 (dk_at dksX1_flood_4 15 rfl rfl)
theorem dX1_flood_111 : decode cX1_flood 111 = .ok (.getfield 39, 3) := dk_180 0 39 (dk_at dksX1_flood_4 16 rfl rfl)
theorem dX1_flood_114 : decode cX1_flood 114 = .ok (.iconst 4, 1) := dk_7 (dk_at dksX1_flood_4 19 rfl rfl)
theorem dX1_flood_115 : decode cX1_flood 115 = .ok (.aload 4, 2) := dk_25 4 (dk_at dksX1_flood_4 20 rfl rfl)
theorem dX1_flood_117 : decode cX1_flood 117 = .ok (.iload 6, 2) := dk_21 6 (dk_at dksX1_flood_4 22 rfl rfl)
theorem dX1_flood_119 : decode cX1_flood 119 = .ok (.iaload, 1) := dk_46 (dk_at dksX1_flood_5 0 rfl rfl)
theorem dX1_flood_120 : decode cX1_flood 120 = .ok (.imul, 1) := dk_104 (dk_at dksX1_flood_5 1 rfl rfl)
theorem dX1_flood_121 : decode cX1_flood 121 = .ok (.iload 7, 2) := dk_21 7 (dk_at dksX1_flood_5 2 rfl rfl)
theorem dX1_flood_123 : decode cX1_flood 123 = .ok (.iadd, 1) := dk_96 (dk_at dksX1_flood_5 4 rfl rfl)
theorem dX1_flood_124 : decode cX1_flood 124 = .ok (.aaload, 1) := dk_50 (dk_at dksX1_flood_5 5 rfl rfl)
theorem dX1_flood_125 : decode cX1_flood 125 = .ok (.iconst 1, 1) := dk_4 (dk_at dksX1_flood_5 6 rfl rfl)
theorem dX1_flood_126 : decode cX1_flood 126 = .ok (.invokeinterface 127 3, 5) := by decide +kernel
theorem dX1_flood_131 : decode cX1_flood 131 = .ok (.ifCond .eq 18, 3) := dk_153 0 18 (dk_at dksX1_flood_5 12 rfl rfl)
theorem dX1_flood_134 : decode cX1_flood 134 = .ok (.aload_n 1, 1) := dk_43 (dk_at dksX1_flood_5 15 rfl rfl)
theorem dX1_flood_135 : decode cX1_flood 135 = .ok (.iload 8, 2) := dk_21 8 (dk_at dksX1_flood_5 16 rfl rfl)
theorem dX1_flood_137 : decode cX1_flood 137 = .ok (.iconst 1, 1) := dk_4 (dk_at dksX1_flood_5 18 rfl rfl)
theorem dX1_flood_138 : decode cX1_flood 138 = .ok (.bastore, 1) := dk_84 (dk_at dksX1_flood_5 19 rfl rfl)
theorem dX1_flood_139 : decode cX1_flood 139 = .ok (.aload 4, 2) := dk_25 4 (dk_at dksX1_flood_5 20 rfl rfl)
theorem dX1_flood_141 : decode cX1_flood 141 = .ok (.iload 5, 2) := dk_21 5 (dk_at dksX1_flood_5 22 rfl rfl)
theorem dX1_flood_143 : decode cX1_flood 143 = .ok (.iload 8, 2) := dk_21 8 (dk_at dksX1_flood_6 0 rfl rfl)
theorem dX1_flood_145 : decode cX1_flood 145 = .ok (.iastore, 1) := dk_79 (dk_at dksX1_flood_6 2 rfl rfl)
theorem dX1_flood_146 : decode cX1_flood 146 = .ok (.iinc 5 1, 3) := dk_132 5 1 (dk_at dksX1_flood_6 3 rfl rfl)
theorem dX1_flood_149 : decode cX1_flood 149 = .ok (.aload_n 0, 1) := dk_42 (dk_at dksX1_flood_6 6 rfl rfl)
theorem dX1_flood_150 : decode cX1_flood 150 = .ok (.aload 4, 2) := dk_25 4 (dk_at dksX1_flood_6 7 rfl rfl)
theorem dX1_flood_152 : decode cX1_flood 152 = .ok (.iload 6, 2) := dk_21 6 (dk_at dksX1_flood_6 9 rfl rfl)
theorem dX1_flood_154 : decode cX1_flood 154 = .ok (.iaload, 1) := dk_46 (dk_at dksX1_flood_6 11 rfl rfl)
theorem dX1_flood_155 : decode cX1_flood 155 = .ok (.iload 7, 2) := dk_21 7 (dk_at dksX1_flood_6 12 rfl rfl)
theorem dX1_flood_157 : decode cX1_flood 157 = .ok (.invokevirtual 112, 3) := dk_182 0 112 (dk_at dksX1_flood_6 14 rfl rfl)
theorem dX1_flood_160 : decode cX1_flood 160 = .ok (.istore 9, 2) := dk_54 9 (dk_at dksX1_flood_6 17 rfl rfl)
theorem dX1_flood_162 : decode cX1_flood 162 = .ok (.iload 9, 2) := dk_21 9 (dk_at dksX1_flood_6 19 rfl rfl)
theorem dX1_flood_164 : decode cX1_flood 164 = .ok (.bipush (-9), 2) := dk_16 247 (dk_at dksX1_flood_6 21 rfl rfl)
theorem dX1_flood_166 : decode cX1_flood 166 = .ok (.if_icmp .eq 58, 3) := dk_159 0 58 (dk_at dksX1_flood_7 0 rfl rfl)
theorem dX1_flood_169 : decode cX1_flood 169 = .ok (.aload_n 1, 1) := dk_43 (dk_at dksX1_flood_7 3 rfl rfl)
theorem dX1_flood_170 : decode cX1_flood 170 = .ok (.iload 9, 2) := dk_21 9 (dk_at dksX1_flood_7 4 rfl rfl)
theorem dX1_flood_172 : decode cX1_flood 172 = .ok (.baload, 1) := dk_51 (dk_at dksX1_flood_7 6 rfl rfl)
theorem dX1_flood_173 : decode cX1_flood 173 = .ok (.ifCond .ne 51, 3) := dk_154 0 51 (dk_at dksX1_flood_7 7 rfl rfl)
theorem dX1_flood_176 : decode cX1_flood 176 = .ok (.aload_n 2, 1) := dk_44 (dk_at dksX1_flood_7 10 rfl rfl)
theorem dX1_flood_177 : decode cX1_flood 177 = .ok (.iload 9, 2) := dk_21 9 (dk_at dksX1_flood_7 11 rfl rfl)
theorem dX1_flood_179 : decode cX1_flood 179 = .ok (.invokeinterface 122 2, 5) := by decide +kernel
theorem dX1_flood_184 : decode cX1_flood 184 = .ok (.ifCond .eq 40, 3) := dk_153 0 40 (dk_at dksX1_flood_7 18 rfl rfl)
theorem dX1_flood_187 : decode cX1_flood 187 = .ok (.aload_n 3, 1) := dk_45 (dk_at dksX1_flood_7 21 rfl rfl)
theorem dX1_flood_188 : decode cX1_flood 188 = .ok (.aload_n 0, 1) := dk_42 (dk_at dksX1_flood_7 22 rfl rfl)
theorem dX1_flood_189 : decode cX1_flood 189 = .ok (.getfield 39, 3) := dk_180 0 39 (dk_at dksX1_flood_8 0 rfl rfl)
theorem dX1_flood_192 : decode cX1_flood 192 = .ok (.iconst 4, 1) := dk_7 (dk_at dksX1_flood_8 3 rfl rfl)
theorem dX1_flood_193 : decode cX1_flood 193 = .ok (.iload 9, 2) := dk_21 9 (dk_at dksX1_flood_8 4 rfl rfl)
theorem dX1_flood_195 : decode cX1_flood 195 = .ok (.imul, 1) := dk_104 (dk_at dksX1_flood_8 6 rfl rfl)
theorem dX1_flood_196 : decode cX1_flood 196 = .ok (.iload 7, 2) := dk_21 7 (dk_at dksX1_flood_8 7 rfl rfl)
theorem dX1_flood_198 : decode cX1_flood 198 = .ok (.iadd, 1) := dk_96 (dk_at dksX1_flood_8 9 rfl rfl)
theorem dX1_flood_199 : decode cX1_flood 199 = .ok (.aaload, 1) := dk_50 (dk_at dksX1_flood_8 10 rfl rfl)
theorem dX1_flood_200 : decode cX1_flood 200 = .ok (.iconst 0, 1) := dk_3 (dk_at dksX1_flood_8 11 rfl rfl)
theorem dX1_flood_201 : decode cX1_flood 201 = .ok (.invokeinterface 127 3, 5) := by decide +kernel
theorem dX1_flood_206 : decode cX1_flood 206 = .ok (.ifCond .eq 18, 3) := dk_153 0 18 (dk_at dksX1_flood_8 17 rfl rfl)
theorem dX1_flood_209 : decode cX1_flood 209 = .ok (.aload_n 1, 1) := dk_43 (dk_at dksX1_flood_8 20 rfl rfl)
theorem dX1_flood_210 : decode cX1_flood 210 = .ok (.iload 9, 2) := dk_21 9 (dk_at dksX1_flood_8 21 rfl rfl)
theorem dX1_flood_212 : decode cX1_flood 212 = .ok (.iconst 1, 1) := dk_4 (dk_at dksX1_flood_8 23 rfl rfl)
theorem dX1_flood_213 : decode cX1_flood 213 = .ok (.bastore, 1) := dk_84 (dk_at dksX1_flood_9 0 rfl rfl)
theorem dX1_flood_214 : decode cX1_flood 214 = .ok (.aload 4, 2) := dk_25 4 (dk_at dksX1_flood_9 1 rfl rfl)
theorem dX1_flood_216 : decode cX1_flood 216 = .ok (.iload 5, 2) := dk_21 5 (dk_at dksX1_flood_9 3 rfl rfl)
theorem dX1_flood_218 : decode cX1_flood 218 = .ok (.iload 9, 2) := dk_21 9 (dk_at dksX1_flood_9 5 rfl rfl)
theorem dX1_flood_220 : decode cX1_flood 220 = .ok (.iastore, 1) := dk_79 (dk_at dksX1_flood_9 7 rfl rfl)
theorem dX1_flood_221 : decode cX1_flood 221 = .ok (.iinc 5 1, 3) := dk_132 5 1 (dk_at dksX1_flood_9 8 rfl rfl)
theorem dX1_flood_224 : decode cX1_flood 224 = .ok (.iinc 7 1, 3) := dk_132 7 1 (dk_at dksX1_flood_9 11 rfl rfl)
theorem dX1_flood_227 : decode cX1_flood 227 = .ok (.goto (-168), 3) := dk_167 255 88 (dk_at dksX1_flood_9 14 rfl rfl)
theorem dX1_flood_230 : decode cX1_flood 230 = .ok (.iinc 6 1, 3) := dk_132 6 1 (dk_at dksX1_flood_9 17 rfl rfl)
theorem dX1_flood_233 : decode cX1_flood 233 = .ok (.goto (-184), 3) := dk_167 255 72 (dk_at dksX1_flood_9 20 rfl rfl)
theorem dX1_flood_236 : decode cX1_flood 236 = .ok (.return_, 1) := dk_177 (dk_at dksX1_flood_9 23 rfl rfl)
abbrev cX1_bondsAt : ByteArray := prog_4_method_12_code
def yX1_bondsAt : MethodName := ⟨RX1, "bondsAt", "(I)I"⟩
def dkwX1_bondsAt_2 : List UInt8 := [96, 96, 61, 132, 3, 1, 167, 255, 206, 28, 172]
abbrev dktX1_bondsAt_2 : List UInt8 := dkwX1_bondsAt_2 ++ []
def dkwX1_bondsAt_1 : List UInt8 := [160, 0, 7, 3, 167, 0, 4, 4, 42, 27, 29, 182, 0, 112, 16, 247, 160, 0, 7, 3, 167, 0, 4, 4]
abbrev dktX1_bondsAt_1 : List UInt8 := dkwX1_bondsAt_1 ++ dktX1_bondsAt_2
def dkwX1_bondsAt_0 : List UInt8 := [3, 61, 3, 62, 29, 42, 180, 0, 15, 180, 0, 102, 162, 0, 45, 28, 42, 27, 29, 182, 0, 105, 16, 247]
abbrev dktX1_bondsAt_0 : List UInt8 := dkwX1_bondsAt_0 ++ dktX1_bondsAt_1
theorem dksX1_bondsAt_0 : cX1_bondsAt.data.toList.drop 0 = dktX1_bondsAt_0 := by decide +kernel
theorem dksX1_bondsAt_1 : cX1_bondsAt.data.toList.drop 24 = dktX1_bondsAt_1 := dk_seg dksX1_bondsAt_0 24 rfl rfl
theorem dksX1_bondsAt_2 : cX1_bondsAt.data.toList.drop 48 = dktX1_bondsAt_2 := dk_seg dksX1_bondsAt_1 24 rfl rfl
theorem dX1_bondsAt_0 : decode cX1_bondsAt 0 = .ok (.iconst 0, 1) := dk_3 (dk_at dksX1_bondsAt_0 0 rfl rfl)
theorem dX1_bondsAt_1 : decode cX1_bondsAt 1 = .ok (.istore_n 2, 1) := dk_61 (dk_at dksX1_bondsAt_0 1 rfl rfl)
theorem dX1_bondsAt_2 : decode cX1_bondsAt 2 = .ok (.iconst 0, 1) := dk_3 (dk_at dksX1_bondsAt_0 2 rfl rfl)
theorem dX1_bondsAt_3 : decode cX1_bondsAt 3 = .ok (.istore_n 3, 1) := dk_62 (dk_at dksX1_bondsAt_0 3 rfl rfl)
theorem dX1_bondsAt_4 : decode cX1_bondsAt 4 = .ok (.iload_n 3, 1) := dk_29 (dk_at dksX1_bondsAt_0 4 rfl rfl)
theorem dX1_bondsAt_5 : decode cX1_bondsAt 5 = .ok (.aload_n 0, 1) := dk_42 (dk_at dksX1_bondsAt_0 5 rfl rfl)
theorem dX1_bondsAt_6 : decode cX1_bondsAt 6 = .ok (.getfield 15, 3) := dk_180 0 15 (dk_at dksX1_bondsAt_0 6 rfl rfl)
theorem dX1_bondsAt_9 : decode cX1_bondsAt 9 = .ok (.getfield 102, 3) := dk_180 0 102 (dk_at dksX1_bondsAt_0 9 rfl rfl)
theorem dX1_bondsAt_12 : decode cX1_bondsAt 12 = .ok (.if_icmp .ge 45, 3) := dk_162 0 45 (dk_at dksX1_bondsAt_0 12 rfl rfl)
theorem dX1_bondsAt_15 : decode cX1_bondsAt 15 = .ok (.iload_n 2, 1) := dk_28 (dk_at dksX1_bondsAt_0 15 rfl rfl)
theorem dX1_bondsAt_16 : decode cX1_bondsAt 16 = .ok (.aload_n 0, 1) := dk_42 (dk_at dksX1_bondsAt_0 16 rfl rfl)
theorem dX1_bondsAt_17 : decode cX1_bondsAt 17 = .ok (.iload_n 1, 1) := dk_27 (dk_at dksX1_bondsAt_0 17 rfl rfl)
theorem dX1_bondsAt_18 : decode cX1_bondsAt 18 = .ok (.iload_n 3, 1) := dk_29 (dk_at dksX1_bondsAt_0 18 rfl rfl)
theorem dX1_bondsAt_19 : decode cX1_bondsAt 19 = .ok (.invokevirtual 105, 3) := dk_182 0 105 (dk_at dksX1_bondsAt_0 19 rfl rfl)
theorem dX1_bondsAt_22 : decode cX1_bondsAt 22 = .ok (.bipush (-9), 2) := dk_16 247 (dk_at dksX1_bondsAt_0 22 rfl rfl)
theorem dX1_bondsAt_24 : decode cX1_bondsAt 24 = .ok (.if_icmp .ne 7, 3) := dk_160 0 7 (dk_at dksX1_bondsAt_1 0 rfl rfl)
theorem dX1_bondsAt_27 : decode cX1_bondsAt 27 = .ok (.iconst 0, 1) := dk_3 (dk_at dksX1_bondsAt_1 3 rfl rfl)
theorem dX1_bondsAt_28 : decode cX1_bondsAt 28 = .ok (.goto 4, 3) := dk_167 0 4 (dk_at dksX1_bondsAt_1 4 rfl rfl)
theorem dX1_bondsAt_31 : decode cX1_bondsAt 31 = .ok (.iconst 1, 1) := dk_4 (dk_at dksX1_bondsAt_1 7 rfl rfl)
theorem dX1_bondsAt_32 : decode cX1_bondsAt 32 = .ok (.aload_n 0, 1) := dk_42 (dk_at dksX1_bondsAt_1 8 rfl rfl)
theorem dX1_bondsAt_33 : decode cX1_bondsAt 33 = .ok (.iload_n 1, 1) := dk_27 (dk_at dksX1_bondsAt_1 9 rfl rfl)
theorem dX1_bondsAt_34 : decode cX1_bondsAt 34 = .ok (.iload_n 3, 1) := dk_29 (dk_at dksX1_bondsAt_1 10 rfl rfl)
theorem dX1_bondsAt_35 : decode cX1_bondsAt 35 = .ok (.invokevirtual 112, 3) := dk_182 0 112 (dk_at dksX1_bondsAt_1 11 rfl rfl)
theorem dX1_bondsAt_38 : decode cX1_bondsAt 38 = .ok (.bipush (-9), 2) := dk_16 247 (dk_at dksX1_bondsAt_1 14 rfl rfl)
theorem dX1_bondsAt_40 : decode cX1_bondsAt 40 = .ok (.if_icmp .ne 7, 3) := dk_160 0 7 (dk_at dksX1_bondsAt_1 16 rfl rfl)
theorem dX1_bondsAt_43 : decode cX1_bondsAt 43 = .ok (.iconst 0, 1) := dk_3 (dk_at dksX1_bondsAt_1 19 rfl rfl)
theorem dX1_bondsAt_44 : decode cX1_bondsAt 44 = .ok (.goto 4, 3) := dk_167 0 4 (dk_at dksX1_bondsAt_1 20 rfl rfl)
theorem dX1_bondsAt_47 : decode cX1_bondsAt 47 = .ok (.iconst 1, 1) := dk_4 (dk_at dksX1_bondsAt_1 23 rfl rfl)
theorem dX1_bondsAt_48 : decode cX1_bondsAt 48 = .ok (.iadd, 1) := dk_96 (dk_at dksX1_bondsAt_2 0 rfl rfl)
theorem dX1_bondsAt_49 : decode cX1_bondsAt 49 = .ok (.iadd, 1) := dk_96 (dk_at dksX1_bondsAt_2 1 rfl rfl)
theorem dX1_bondsAt_50 : decode cX1_bondsAt 50 = .ok (.istore_n 2, 1) := dk_61 (dk_at dksX1_bondsAt_2 2 rfl rfl)
theorem dX1_bondsAt_51 : decode cX1_bondsAt 51 = .ok (.iinc 3 1, 3) := dk_132 3 1 (dk_at dksX1_bondsAt_2 3 rfl rfl)
theorem dX1_bondsAt_54 : decode cX1_bondsAt 54 = .ok (.goto (-50), 3) := dk_167 255 206 (dk_at dksX1_bondsAt_2 6 rfl rfl)
theorem dX1_bondsAt_57 : decode cX1_bondsAt 57 = .ok (.iload_n 2, 1) := dk_28 (dk_at dksX1_bondsAt_2 9 rfl rfl)
theorem dX1_bondsAt_58 : decode cX1_bondsAt 58 = .ok (.ireturn, 1) := dk_172 (dk_at dksX1_bondsAt_2 10 rfl rfl)
abbrev cX1_dyed : ByteArray := prog_4_method_17_code
def yX1_dyed : MethodName := ⟨RX1, "dyed", "(I)I"⟩
def dkwX1_dyed_1 : List UInt8 := [46, 54, 6, 28, 21, 6, 27, 122, 4, 126, 96, 61, 132, 5, 1, 167, 255, 231, 28, 172]
abbrev dktX1_dyed_1 : List UInt8 := dkwX1_dyed_1 ++ []
def dkwX1_dyed_0 : List UInt8 := [3, 61, 42, 180, 0, 46, 78, 45, 190, 54, 4, 3, 54, 5, 21, 5, 21, 4, 162, 0, 24, 45, 21, 5]
abbrev dktX1_dyed_0 : List UInt8 := dkwX1_dyed_0 ++ dktX1_dyed_1
theorem dksX1_dyed_0 : cX1_dyed.data.toList.drop 0 = dktX1_dyed_0 := by decide +kernel
theorem dksX1_dyed_1 : cX1_dyed.data.toList.drop 24 = dktX1_dyed_1 := dk_seg dksX1_dyed_0 24 rfl rfl
theorem dX1_dyed_0 : decode cX1_dyed 0 = .ok (.iconst 0, 1) := dk_3 (dk_at dksX1_dyed_0 0 rfl rfl)
theorem dX1_dyed_1 : decode cX1_dyed 1 = .ok (.istore_n 2, 1) := dk_61 (dk_at dksX1_dyed_0 1 rfl rfl)
theorem dX1_dyed_2 : decode cX1_dyed 2 = .ok (.aload_n 0, 1) := dk_42 (dk_at dksX1_dyed_0 2 rfl rfl)
theorem dX1_dyed_3 : decode cX1_dyed 3 = .ok (.getfield 46, 3) := dk_180 0 46 (dk_at dksX1_dyed_0 3 rfl rfl)
theorem dX1_dyed_6 : decode cX1_dyed 6 = .ok (.astore_n 3, 1) := dk_78 (dk_at dksX1_dyed_0 6 rfl rfl)
theorem dX1_dyed_7 : decode cX1_dyed 7 = .ok (.aload_n 3, 1) := dk_45 (dk_at dksX1_dyed_0 7 rfl rfl)
theorem dX1_dyed_8 : decode cX1_dyed 8 = .ok (.arraylength, 1) := dk_190 (dk_at dksX1_dyed_0 8 rfl rfl)
theorem dX1_dyed_9 : decode cX1_dyed 9 = .ok (.istore 4, 2) := dk_54 4 (dk_at dksX1_dyed_0 9 rfl rfl)
theorem dX1_dyed_11 : decode cX1_dyed 11 = .ok (.iconst 0, 1) := dk_3 (dk_at dksX1_dyed_0 11 rfl rfl)
theorem dX1_dyed_12 : decode cX1_dyed 12 = .ok (.istore 5, 2) := dk_54 5 (dk_at dksX1_dyed_0 12 rfl rfl)
theorem dX1_dyed_14 : decode cX1_dyed 14 = .ok (.iload 5, 2) := dk_21 5 (dk_at dksX1_dyed_0 14 rfl rfl)
theorem dX1_dyed_16 : decode cX1_dyed 16 = .ok (.iload 4, 2) := dk_21 4 (dk_at dksX1_dyed_0 16 rfl rfl)
theorem dX1_dyed_18 : decode cX1_dyed 18 = .ok (.if_icmp .ge 24, 3) := dk_162 0 24 (dk_at dksX1_dyed_0 18 rfl rfl)
theorem dX1_dyed_21 : decode cX1_dyed 21 = .ok (.aload_n 3, 1) := dk_45 (dk_at dksX1_dyed_0 21 rfl rfl)
theorem dX1_dyed_22 : decode cX1_dyed 22 = .ok (.iload 5, 2) := dk_21 5 (dk_at dksX1_dyed_0 22 rfl rfl)
theorem dX1_dyed_24 : decode cX1_dyed 24 = .ok (.iaload, 1) := dk_46 (dk_at dksX1_dyed_1 0 rfl rfl)
theorem dX1_dyed_25 : decode cX1_dyed 25 = .ok (.istore 6, 2) := dk_54 6 (dk_at dksX1_dyed_1 1 rfl rfl)
theorem dX1_dyed_27 : decode cX1_dyed 27 = .ok (.iload_n 2, 1) := dk_28 (dk_at dksX1_dyed_1 3 rfl rfl)
theorem dX1_dyed_28 : decode cX1_dyed 28 = .ok (.iload 6, 2) := dk_21 6 (dk_at dksX1_dyed_1 4 rfl rfl)
theorem dX1_dyed_30 : decode cX1_dyed 30 = .ok (.iload_n 1, 1) := dk_27 (dk_at dksX1_dyed_1 6 rfl rfl)
theorem dX1_dyed_31 : decode cX1_dyed 31 = .ok (.ishr, 1) := dk_122 (dk_at dksX1_dyed_1 7 rfl rfl)
theorem dX1_dyed_32 : decode cX1_dyed 32 = .ok (.iconst 1, 1) := dk_4 (dk_at dksX1_dyed_1 8 rfl rfl)
theorem dX1_dyed_33 : decode cX1_dyed 33 = .ok (.iand, 1) := dk_126 (dk_at dksX1_dyed_1 9 rfl rfl)
theorem dX1_dyed_34 : decode cX1_dyed 34 = .ok (.iadd, 1) := dk_96 (dk_at dksX1_dyed_1 10 rfl rfl)
theorem dX1_dyed_35 : decode cX1_dyed 35 = .ok (.istore_n 2, 1) := dk_61 (dk_at dksX1_dyed_1 11 rfl rfl)
theorem dX1_dyed_36 : decode cX1_dyed 36 = .ok (.iinc 5 1, 3) := dk_132 5 1 (dk_at dksX1_dyed_1 12 rfl rfl)
theorem dX1_dyed_39 : decode cX1_dyed 39 = .ok (.goto (-25), 3) := dk_167 255 231 (dk_at dksX1_dyed_1 15 rfl rfl)
theorem dX1_dyed_42 : decode cX1_dyed 42 = .ok (.iload_n 2, 1) := dk_28 (dk_at dksX1_dyed_1 18 rfl rfl)
theorem dX1_dyed_43 : decode cX1_dyed 43 = .ok (.ireturn, 1) := dk_172 (dk_at dksX1_dyed_1 19 rfl rfl)
abbrev cX1_reach : ByteArray := prog_4_method_22_code
def yX1_reach : MethodName := ⟨RX1, "reach", "(I)I"⟩
def dkwX1_reach_2 : List UInt8 := [167, 0, 4, 3, 96, 61, 132, 5, 1, 167, 255, 227, 28, 172]
abbrev dktX1_reach_2 : List UInt8 := dkwX1_reach_2 ++ []
def dkwX1_reach_1 : List UInt8 := [3, 54, 5, 21, 5, 21, 4, 162, 0, 28, 45, 21, 5, 51, 54, 6, 28, 21, 6, 153, 0, 7, 4]
abbrev dktX1_reach_1 : List UInt8 := dkwX1_reach_1 ++ dktX1_reach_2
def dkwX1_reach_0 : List UInt8 := [3, 61, 42, 42, 27, 186, 0, 156, 0, 0, 42, 186, 0, 157, 0, 0, 182, 0, 146, 78, 45, 190, 54, 4]
abbrev dktX1_reach_0 : List UInt8 := dkwX1_reach_0 ++ dktX1_reach_1
theorem dksX1_reach_0 : cX1_reach.data.toList.drop 0 = dktX1_reach_0 := by decide +kernel
theorem dksX1_reach_1 : cX1_reach.data.toList.drop 24 = dktX1_reach_1 := dk_seg dksX1_reach_0 24 rfl rfl
theorem dksX1_reach_2 : cX1_reach.data.toList.drop 47 = dktX1_reach_2 := dk_seg dksX1_reach_1 23 rfl rfl
theorem dX1_reach_0 : decode cX1_reach 0 = .ok (.iconst 0, 1) := dk_3 (dk_at dksX1_reach_0 0 rfl rfl)
theorem dX1_reach_1 : decode cX1_reach 1 = .ok (.istore_n 2, 1) := dk_61 (dk_at dksX1_reach_0 1 rfl rfl)
theorem dX1_reach_2 : decode cX1_reach 2 = .ok (.aload_n 0, 1) := dk_42 (dk_at dksX1_reach_0 2 rfl rfl)
theorem dX1_reach_3 : decode cX1_reach 3 = .ok (.aload_n 0, 1) := dk_42 (dk_at dksX1_reach_0 3 rfl rfl)
theorem dX1_reach_4 : decode cX1_reach 4 = .ok (.iload_n 1, 1) := dk_27 (dk_at dksX1_reach_0 4 rfl rfl)
theorem dX1_reach_5 : decode cX1_reach 5 = .ok (.invokedynamic 156, 5) := by decide +kernel
theorem dX1_reach_10 : decode cX1_reach 10 = .ok (.aload_n 0, 1) := dk_42 (dk_at dksX1_reach_0 10 rfl rfl)
theorem dX1_reach_11 : decode cX1_reach 11 = .ok (.invokedynamic 157, 5) := by decide +kernel
theorem dX1_reach_16 : decode cX1_reach 16 = .ok (.invokevirtual 146, 3) := dk_182 0 146 (dk_at dksX1_reach_0 16 rfl rfl)
theorem dX1_reach_19 : decode cX1_reach 19 = .ok (.astore_n 3, 1) := dk_78 (dk_at dksX1_reach_0 19 rfl rfl)
theorem dX1_reach_20 : decode cX1_reach 20 = .ok (.aload_n 3, 1) := dk_45 (dk_at dksX1_reach_0 20 rfl rfl)
theorem dX1_reach_21 : decode cX1_reach 21 = .ok (.arraylength, 1) := dk_190 (dk_at dksX1_reach_0 21 rfl rfl)
theorem dX1_reach_22 : decode cX1_reach 22 = .ok (.istore 4, 2) := dk_54 4 (dk_at dksX1_reach_0 22 rfl rfl)
theorem dX1_reach_24 : decode cX1_reach 24 = .ok (.iconst 0, 1) := dk_3 (dk_at dksX1_reach_1 0 rfl rfl)
theorem dX1_reach_25 : decode cX1_reach 25 = .ok (.istore 5, 2) := dk_54 5 (dk_at dksX1_reach_1 1 rfl rfl)
theorem dX1_reach_27 : decode cX1_reach 27 = .ok (.iload 5, 2) := dk_21 5 (dk_at dksX1_reach_1 3 rfl rfl)
theorem dX1_reach_29 : decode cX1_reach 29 = .ok (.iload 4, 2) := dk_21 4 (dk_at dksX1_reach_1 5 rfl rfl)
theorem dX1_reach_31 : decode cX1_reach 31 = .ok (.if_icmp .ge 28, 3) := dk_162 0 28 (dk_at dksX1_reach_1 7 rfl rfl)
theorem dX1_reach_34 : decode cX1_reach 34 = .ok (.aload_n 3, 1) := dk_45 (dk_at dksX1_reach_1 10 rfl rfl)
theorem dX1_reach_35 : decode cX1_reach 35 = .ok (.iload 5, 2) := dk_21 5 (dk_at dksX1_reach_1 11 rfl rfl)
theorem dX1_reach_37 : decode cX1_reach 37 = .ok (.baload, 1) := dk_51 (dk_at dksX1_reach_1 13 rfl rfl)
theorem dX1_reach_38 : decode cX1_reach 38 = .ok (.istore 6, 2) := dk_54 6 (dk_at dksX1_reach_1 14 rfl rfl)
theorem dX1_reach_40 : decode cX1_reach 40 = .ok (.iload_n 2, 1) := dk_28 (dk_at dksX1_reach_1 16 rfl rfl)
theorem dX1_reach_41 : decode cX1_reach 41 = .ok (.iload 6, 2) := dk_21 6 (dk_at dksX1_reach_1 17 rfl rfl)
theorem dX1_reach_43 : decode cX1_reach 43 = .ok (.ifCond .eq 7, 3) := dk_153 0 7 (dk_at dksX1_reach_1 19 rfl rfl)
theorem dX1_reach_46 : decode cX1_reach 46 = .ok (.iconst 1, 1) := dk_4 (dk_at dksX1_reach_1 22 rfl rfl)
theorem dX1_reach_47 : decode cX1_reach 47 = .ok (.goto 4, 3) := dk_167 0 4 (dk_at dksX1_reach_2 0 rfl rfl)
theorem dX1_reach_50 : decode cX1_reach 50 = .ok (.iconst 0, 1) := dk_3 (dk_at dksX1_reach_2 3 rfl rfl)
theorem dX1_reach_51 : decode cX1_reach 51 = .ok (.iadd, 1) := dk_96 (dk_at dksX1_reach_2 4 rfl rfl)
theorem dX1_reach_52 : decode cX1_reach 52 = .ok (.istore_n 2, 1) := dk_61 (dk_at dksX1_reach_2 5 rfl rfl)
theorem dX1_reach_53 : decode cX1_reach 53 = .ok (.iinc 5 1, 3) := dk_132 5 1 (dk_at dksX1_reach_2 6 rfl rfl)
theorem dX1_reach_56 : decode cX1_reach 56 = .ok (.goto (-29), 3) := dk_167 255 227 (dk_at dksX1_reach_2 9 rfl rfl)
theorem dX1_reach_59 : decode cX1_reach 59 = .ok (.iload_n 2, 1) := dk_28 (dk_at dksX1_reach_2 12 rfl rfl)
theorem dX1_reach_60 : decode cX1_reach 60 = .ok (.ireturn, 1) := dk_172 (dk_at dksX1_reach_2 13 rfl rfl)
abbrev cX1_lambda_reach_5 : ByteArray := prog_4_method_35_code
def yX1_lambda_reach_5 : MethodName := ⟨RX1, "lambda$reach$5", "(II)Z"⟩
def dkwX1_lambda_reach_5_0 : List UInt8 := [42, 180, 0, 43, 28, 46, 27, 122, 4, 126, 4, 160, 0, 7, 4, 167, 0, 4, 3, 172]
abbrev dktX1_lambda_reach_5_0 : List UInt8 := dkwX1_lambda_reach_5_0 ++ []
theorem dksX1_lambda_reach_5_0 : cX1_lambda_reach_5.data.toList.drop 0 = dktX1_lambda_reach_5_0 := by decide +kernel
theorem dX1_lambda_reach_5_0 : decode cX1_lambda_reach_5 0 = .ok (.aload_n 0, 1) := dk_42 (dk_at dksX1_lambda_reach_5_0 0 rfl rfl)
theorem dX1_lambda_reach_5_1 : decode cX1_lambda_reach_5 1 = .ok (.getfield 43, 3) := dk_180 0 43 (dk_at dksX1_lambda_reach_5_0 1 rfl rfl)
theorem dX1_lambda_reach_5_4 : decode cX1_lambda_reach_5 4 = .ok (.iload_n 2, 1) := dk_28 (dk_at dksX1_lambda_reach_5_0 4 rfl rfl)
theorem dX1_lambda_reach_5_5 : decode cX1_lambda_reach_5 5 = .ok (.iaload, 1) := dk_46 (dk_at dksX1_lambda_reach_5_0 5 rfl rfl)
theorem dX1_lambda_reach_5_6 : decode cX1_lambda_reach_5 6 = .ok (.iload_n 1, 1) := dk_27 (dk_at dksX1_lambda_reach_5_0 6 rfl rfl)
theorem dX1_lambda_reach_5_7 : decode cX1_lambda_reach_5 7 = .ok (.ishr, 1) := dk_122 (dk_at dksX1_lambda_reach_5_0 7 rfl rfl)
theorem dX1_lambda_reach_5_8 : decode cX1_lambda_reach_5 8 = .ok (.iconst 1, 1) := dk_4 (dk_at dksX1_lambda_reach_5_0 8 rfl rfl)
theorem dX1_lambda_reach_5_9 : decode cX1_lambda_reach_5 9 = .ok (.iand, 1) := dk_126 (dk_at dksX1_lambda_reach_5_0 9 rfl rfl)
theorem dX1_lambda_reach_5_10 : decode cX1_lambda_reach_5 10 = .ok (.iconst 1, 1) := dk_4 (dk_at dksX1_lambda_reach_5_0 10 rfl rfl)
theorem dX1_lambda_reach_5_11 : decode cX1_lambda_reach_5 11 = .ok (.if_icmp .ne 7, 3) := dk_160 0 7 (dk_at dksX1_lambda_reach_5_0 11 rfl rfl)
theorem dX1_lambda_reach_5_14 : decode cX1_lambda_reach_5 14 = .ok (.iconst 1, 1) := dk_4 (dk_at dksX1_lambda_reach_5_0 14 rfl rfl)
theorem dX1_lambda_reach_5_15 : decode cX1_lambda_reach_5 15 = .ok (.goto 4, 3) := dk_167 0 4 (dk_at dksX1_lambda_reach_5_0 15 rfl rfl)
theorem dX1_lambda_reach_5_18 : decode cX1_lambda_reach_5 18 = .ok (.iconst 0, 1) := dk_3 (dk_at dksX1_lambda_reach_5_0 18 rfl rfl)
theorem dX1_lambda_reach_5_19 : decode cX1_lambda_reach_5 19 = .ok (.ireturn, 1) := dk_172 (dk_at dksX1_lambda_reach_5_0 19 rfl rfl)
abbrev cX1_lambda_reach_6 : ByteArray := prog_4_method_34_code
def yX1_lambda_reach_6 : MethodName := ⟨RX1, "lambda$reach$6", "(I)Z"⟩
def dkwX1_lambda_reach_6_0 : List UInt8 := [42, 27, 182, 0, 115, 172]
abbrev dktX1_lambda_reach_6_0 : List UInt8 := dkwX1_lambda_reach_6_0 ++ []
theorem dksX1_lambda_reach_6_0 : cX1_lambda_reach_6.data.toList.drop 0 = dktX1_lambda_reach_6_0 := by decide +kernel
theorem dX1_lambda_reach_6_0 : decode cX1_lambda_reach_6 0 = .ok (.aload_n 0, 1) := dk_42 (dk_at dksX1_lambda_reach_6_0 0 rfl rfl)
theorem dX1_lambda_reach_6_1 : decode cX1_lambda_reach_6 1 = .ok (.iload_n 1, 1) := dk_27 (dk_at dksX1_lambda_reach_6_0 1 rfl rfl)
theorem dX1_lambda_reach_6_2 : decode cX1_lambda_reach_6 2 = .ok (.invokevirtual 115, 3) := dk_182 0 115 (dk_at dksX1_lambda_reach_6_0 2 rfl rfl)
theorem dX1_lambda_reach_6_5 : decode cX1_lambda_reach_6 5 = .ok (.ireturn, 1) := dk_172 (dk_at dksX1_lambda_reach_6_0 5 rfl rfl)
abbrev cX1_reached : ByteArray := prog_4_method_19_code
def yX1_reached : MethodName := ⟨RX1, "reached", "(LDyeLattice$CellTest;LDyeLattice$CellTest;)[Z"⟩
def dkwX1_reached_2 : List UInt8 := [167, 0, 4, 3, 84, 132, 4, 1, 167, 255, 213, 42, 45, 44, 186, 0, 133, 0, 0, 182, 0, 136, 45, 176]
abbrev dktX1_reached_2 : List UInt8 := dkwX1_reached_2 ++ []
def dkwX1_reached_1 : List UInt8 := [21, 4, 185, 0, 122, 2, 0, 153, 0, 18, 43, 21, 4, 185, 0, 122, 2, 0, 153, 0, 7, 4]
abbrev dktX1_reached_1 : List UInt8 := dkwX1_reached_1 ++ dktX1_reached_2
def dkwX1_reached_0 : List UInt8 := [42, 182, 0, 79, 188, 4, 78, 3, 54, 4, 21, 4, 42, 182, 0, 79, 162, 0, 40, 45, 21, 4, 44]
abbrev dktX1_reached_0 : List UInt8 := dkwX1_reached_0 ++ dktX1_reached_1
theorem dksX1_reached_0 : cX1_reached.data.toList.drop 0 = dktX1_reached_0 := by decide +kernel
theorem dksX1_reached_1 : cX1_reached.data.toList.drop 23 = dktX1_reached_1 := dk_seg dksX1_reached_0 23 rfl rfl
theorem dksX1_reached_2 : cX1_reached.data.toList.drop 45 = dktX1_reached_2 := dk_seg dksX1_reached_1 22 rfl rfl
theorem dX1_reached_0 : decode cX1_reached 0 = .ok (.aload_n 0, 1) := dk_42 (dk_at dksX1_reached_0 0 rfl rfl)
theorem dX1_reached_1 : decode cX1_reached 1 = .ok (.invokevirtual 79, 3) := dk_182 0 79 (dk_at dksX1_reached_0 1 rfl rfl)
theorem dX1_reached_4 : decode cX1_reached 4 = .ok (.newarray .boolean, 2) := dk_188_4 (dk_at dksX1_reached_0 4 rfl rfl)
theorem dX1_reached_6 : decode cX1_reached 6 = .ok (.astore_n 3, 1) := dk_78 (dk_at dksX1_reached_0 6 rfl rfl)
theorem dX1_reached_7 : decode cX1_reached 7 = .ok (.iconst 0, 1) := dk_3 (dk_at dksX1_reached_0 7 rfl rfl)
theorem dX1_reached_8 : decode cX1_reached 8 = .ok (.istore 4, 2) := dk_54 4 (dk_at dksX1_reached_0 8 rfl rfl)
theorem dX1_reached_10 : decode cX1_reached 10 = .ok (.iload 4, 2) := dk_21 4 (dk_at dksX1_reached_0 10 rfl rfl)
theorem dX1_reached_12 : decode cX1_reached 12 = .ok (.aload_n 0, 1) := dk_42 (dk_at dksX1_reached_0 12 rfl rfl)
theorem dX1_reached_13 : decode cX1_reached 13 = .ok (.invokevirtual 79, 3) := dk_182 0 79 (dk_at dksX1_reached_0 13 rfl rfl)
theorem dX1_reached_16 : decode cX1_reached 16 = .ok (.if_icmp .ge 40, 3) := dk_162 0 40 (dk_at dksX1_reached_0 16 rfl rfl)
theorem dX1_reached_19 : decode cX1_reached 19 = .ok (.aload_n 3, 1) := dk_45 (dk_at dksX1_reached_0 19 rfl rfl)
theorem dX1_reached_20 : decode cX1_reached 20 = .ok (.iload 4, 2) := dk_21 4 (dk_at dksX1_reached_0 20 rfl rfl)
theorem dX1_reached_22 : decode cX1_reached 22 = .ok (.aload_n 2, 1) := dk_44 (dk_at dksX1_reached_0 22 rfl rfl)
theorem dX1_reached_23 : decode cX1_reached 23 = .ok (.iload 4, 2) := dk_21 4 (dk_at dksX1_reached_1 0 rfl rfl)
theorem dX1_reached_25 : decode cX1_reached 25 = .ok (.invokeinterface 122 2, 5) := by decide +kernel
theorem dX1_reached_30 : decode cX1_reached 30 = .ok (.ifCond .eq 18, 3) := dk_153 0 18 (dk_at dksX1_reached_1 7 rfl rfl)
theorem dX1_reached_33 : decode cX1_reached 33 = .ok (.aload_n 1, 1) := dk_43 (dk_at dksX1_reached_1 10 rfl rfl)
theorem dX1_reached_34 : decode cX1_reached 34 = .ok (.iload 4, 2) := dk_21 4 (dk_at dksX1_reached_1 11 rfl rfl)
theorem dX1_reached_36 : decode cX1_reached 36 = .ok (.invokeinterface 122 2, 5) := by decide +kernel
theorem dX1_reached_41 : decode cX1_reached 41 = .ok (.ifCond .eq 7, 3) := dk_153 0 7 (dk_at dksX1_reached_1 18 rfl rfl)
theorem dX1_reached_44 : decode cX1_reached 44 = .ok (.iconst 1, 1) := dk_4 (dk_at dksX1_reached_1 21 rfl rfl)
theorem dX1_reached_45 : decode cX1_reached 45 = .ok (.goto 4, 3) := dk_167 0 4 (dk_at dksX1_reached_2 0 rfl rfl)
theorem dX1_reached_48 : decode cX1_reached 48 = .ok (.iconst 0, 1) := dk_3 (dk_at dksX1_reached_2 3 rfl rfl)
theorem dX1_reached_49 : decode cX1_reached 49 = .ok (.bastore, 1) := dk_84 (dk_at dksX1_reached_2 4 rfl rfl)
theorem dX1_reached_50 : decode cX1_reached 50 = .ok (.iinc 4 1, 3) := dk_132 4 1 (dk_at dksX1_reached_2 5 rfl rfl)
theorem dX1_reached_53 : decode cX1_reached 53 = .ok (.goto (-43), 3) := dk_167 255 213 (dk_at dksX1_reached_2 8 rfl rfl)
theorem dX1_reached_56 : decode cX1_reached 56 = .ok (.aload_n 0, 1) := dk_42 (dk_at dksX1_reached_2 11 rfl rfl)
theorem dX1_reached_57 : decode cX1_reached 57 = .ok (.aload_n 3, 1) := dk_45 (dk_at dksX1_reached_2 12 rfl rfl)
theorem dX1_reached_58 : decode cX1_reached 58 = .ok (.aload_n 2, 1) := dk_44 (dk_at dksX1_reached_2 13 rfl rfl)
theorem dX1_reached_59 : decode cX1_reached 59 = .ok (.invokedynamic 133, 5) := by decide +kernel
theorem dX1_reached_64 : decode cX1_reached 64 = .ok (.invokevirtual 136, 3) := dk_182 0 136 (dk_at dksX1_reached_2 19 rfl rfl)
theorem dX1_reached_67 : decode cX1_reached 67 = .ok (.aload_n 3, 1) := dk_45 (dk_at dksX1_reached_2 22 rfl rfl)
theorem dX1_reached_68 : decode cX1_reached 68 = .ok (.areturn, 1) := dk_176 (dk_at dksX1_reached_2 23 rfl rfl)
abbrev cX1_lambda_reached_0 : ByteArray := prog_4_method_40_code
def yX1_lambda_reached_0 : MethodName := ⟨RX1, "lambda$reached$0", "(LDyeLattice$Valve;Z)Z"⟩
def dkwX1_lambda_reached_0_0 : List UInt8 := [42, 27, 4, 182, 0, 167, 172]
abbrev dktX1_lambda_reached_0_0 : List UInt8 := dkwX1_lambda_reached_0_0 ++ []
theorem dksX1_lambda_reached_0_0 : cX1_lambda_reached_0.data.toList.drop 0 = dktX1_lambda_reached_0_0 := by decide +kernel
theorem dX1_lambda_reached_0_0 : decode cX1_lambda_reached_0 0 = .ok (.aload_n 0, 1) := dk_42 (dk_at dksX1_lambda_reached_0_0 0 rfl rfl)
theorem dX1_lambda_reached_0_1 : decode cX1_lambda_reached_0 1 = .ok (.iload_n 1, 1) := dk_27 (dk_at dksX1_lambda_reached_0_0 1 rfl rfl)
theorem dX1_lambda_reached_0_2 : decode cX1_lambda_reached_0 2 = .ok (.iconst 1, 1) := dk_4 (dk_at dksX1_lambda_reached_0_0 2 rfl rfl)
theorem dX1_lambda_reached_0_3 : decode cX1_lambda_reached_0 3 = .ok (.invokevirtual 167, 3) := dk_182 0 167 (dk_at dksX1_lambda_reached_0_0 3 rfl rfl)
theorem dX1_lambda_reached_0_6 : decode cX1_lambda_reached_0 6 = .ok (.ireturn, 1) := dk_172 (dk_at dksX1_lambda_reached_0_0 6 rfl rfl)
abbrev cX1_spans : ByteArray := prog_4_method_20_code
def yX1_spans : MethodName := ⟨RX1, "spans", "(II)Z"⟩
def dkwX1_spans_2 : List UInt8 := [54, 4, 21, 5, 42, 180, 0, 27, 96, 54, 5, 167, 255, 229, 21, 4, 172]
abbrev dktX1_spans_2 : List UInt8 := dkwX1_spans_2 ++ []
def dkwX1_spans_1 : List UInt8 := [180, 0, 27, 4, 100, 54, 5, 21, 5, 42, 182, 0, 79, 162, 0, 24, 21, 4, 45, 21, 5, 51, 128]
abbrev dktX1_spans_1 : List UInt8 := dkwX1_spans_1 ++ dktX1_spans_2
def dkwX1_spans_0 : List UInt8 := [42, 42, 186, 0, 140, 0, 0, 42, 27, 28, 186, 0, 143, 0, 0, 182, 0, 146, 78, 3, 54, 4, 42]
abbrev dktX1_spans_0 : List UInt8 := dkwX1_spans_0 ++ dktX1_spans_1
theorem dksX1_spans_0 : cX1_spans.data.toList.drop 0 = dktX1_spans_0 := by decide +kernel
theorem dksX1_spans_1 : cX1_spans.data.toList.drop 23 = dktX1_spans_1 := dk_seg dksX1_spans_0 23 rfl rfl
theorem dksX1_spans_2 : cX1_spans.data.toList.drop 46 = dktX1_spans_2 := dk_seg dksX1_spans_1 23 rfl rfl
theorem dX1_spans_0 : decode cX1_spans 0 = .ok (.aload_n 0, 1) := dk_42 (dk_at dksX1_spans_0 0 rfl rfl)
theorem dX1_spans_1 : decode cX1_spans 1 = .ok (.aload_n 0, 1) := dk_42 (dk_at dksX1_spans_0 1 rfl rfl)
theorem dX1_spans_2 : decode cX1_spans 2 = .ok (.invokedynamic 140, 5) := by decide +kernel
theorem dX1_spans_7 : decode cX1_spans 7 = .ok (.aload_n 0, 1) := dk_42 (dk_at dksX1_spans_0 7 rfl rfl)
theorem dX1_spans_8 : decode cX1_spans 8 = .ok (.iload_n 1, 1) := dk_27 (dk_at dksX1_spans_0 8 rfl rfl)
theorem dX1_spans_9 : decode cX1_spans 9 = .ok (.iload_n 2, 1) := dk_28 (dk_at dksX1_spans_0 9 rfl rfl)
theorem dX1_spans_10 : decode cX1_spans 10 = .ok (.invokedynamic 143, 5) := by decide +kernel
theorem dX1_spans_15 : decode cX1_spans 15 = .ok (.invokevirtual 146, 3) := dk_182 0 146 (dk_at dksX1_spans_0 15 rfl rfl)
theorem dX1_spans_18 : decode cX1_spans 18 = .ok (.astore_n 3, 1) := dk_78 (dk_at dksX1_spans_0 18 rfl rfl)
theorem dX1_spans_19 : decode cX1_spans 19 = .ok (.iconst 0, 1) := dk_3 (dk_at dksX1_spans_0 19 rfl rfl)
theorem dX1_spans_20 : decode cX1_spans 20 = .ok (.istore 4, 2) := dk_54 4 (dk_at dksX1_spans_0 20 rfl rfl)
theorem dX1_spans_22 : decode cX1_spans 22 = .ok (.aload_n 0, 1) := dk_42 (dk_at dksX1_spans_0 22 rfl rfl)
theorem dX1_spans_23 : decode cX1_spans 23 = .ok (.getfield 27, 3) := dk_180 0 27 (dk_at dksX1_spans_1 0 rfl rfl)
theorem dX1_spans_26 : decode cX1_spans 26 = .ok (.iconst 1, 1) := dk_4 (dk_at dksX1_spans_1 3 rfl rfl)
theorem dX1_spans_27 : decode cX1_spans 27 = .ok (.isub, 1) := dk_100 (dk_at dksX1_spans_1 4 rfl rfl)
theorem dX1_spans_28 : decode cX1_spans 28 = .ok (.istore 5, 2) := dk_54 5 (dk_at dksX1_spans_1 5 rfl rfl)
theorem dX1_spans_30 : decode cX1_spans 30 = .ok (.iload 5, 2) := dk_21 5 (dk_at dksX1_spans_1 7 rfl rfl)
theorem dX1_spans_32 : decode cX1_spans 32 = .ok (.aload_n 0, 1) := dk_42 (dk_at dksX1_spans_1 9 rfl rfl)
theorem dX1_spans_33 : decode cX1_spans 33 = .ok (.invokevirtual 79, 3) := dk_182 0 79 (dk_at dksX1_spans_1 10 rfl rfl)
theorem dX1_spans_36 : decode cX1_spans 36 = .ok (.if_icmp .ge 24, 3) := dk_162 0 24 (dk_at dksX1_spans_1 13 rfl rfl)
theorem dX1_spans_39 : decode cX1_spans 39 = .ok (.iload 4, 2) := dk_21 4 (dk_at dksX1_spans_1 16 rfl rfl)
theorem dX1_spans_41 : decode cX1_spans 41 = .ok (.aload_n 3, 1) := dk_45 (dk_at dksX1_spans_1 18 rfl rfl)
theorem dX1_spans_42 : decode cX1_spans 42 = .ok (.iload 5, 2) := dk_21 5 (dk_at dksX1_spans_1 19 rfl rfl)
theorem dX1_spans_44 : decode cX1_spans 44 = .ok (.baload, 1) := dk_51 (dk_at dksX1_spans_1 21 rfl rfl)
theorem dX1_spans_45 : decode cX1_spans 45 = .ok (.ior, 1) := dk_128 (dk_at dksX1_spans_1 22 rfl rfl)
theorem dX1_spans_46 : decode cX1_spans 46 = .ok (.istore 4, 2) := dk_54 4 (dk_at dksX1_spans_2 0 rfl rfl)
theorem dX1_spans_48 : decode cX1_spans 48 = .ok (.iload 5, 2) := dk_21 5 (dk_at dksX1_spans_2 2 rfl rfl)
theorem dX1_spans_50 : decode cX1_spans 50 = .ok (.aload_n 0, 1) := dk_42 (dk_at dksX1_spans_2 4 rfl rfl)
theorem dX1_spans_51 : decode cX1_spans 51 = .ok (.getfield 27, 3) := dk_180 0 27 (dk_at dksX1_spans_2 5 rfl rfl)
theorem dX1_spans_54 : decode cX1_spans 54 = .ok (.iadd, 1) := dk_96 (dk_at dksX1_spans_2 8 rfl rfl)
theorem dX1_spans_55 : decode cX1_spans 55 = .ok (.istore 5, 2) := dk_54 5 (dk_at dksX1_spans_2 9 rfl rfl)
theorem dX1_spans_57 : decode cX1_spans 57 = .ok (.goto (-27), 3) := dk_167 255 229 (dk_at dksX1_spans_2 11 rfl rfl)
theorem dX1_spans_60 : decode cX1_spans 60 = .ok (.iload 4, 2) := dk_21 4 (dk_at dksX1_spans_2 14 rfl rfl)
theorem dX1_spans_62 : decode cX1_spans 62 = .ok (.ireturn, 1) := dk_172 (dk_at dksX1_spans_2 16 rfl rfl)
abbrev cX1_lambda_spans_1 : ByteArray := prog_4_method_39_code
def yX1_lambda_spans_1 : MethodName := ⟨RX1, "lambda$spans$1", "(I)Z"⟩
def dkwX1_lambda_spans_1_0 : List UInt8 := [27, 42, 180, 0, 27, 112, 154, 0, 7, 4, 167, 0, 4, 3, 172]
abbrev dktX1_lambda_spans_1_0 : List UInt8 := dkwX1_lambda_spans_1_0 ++ []
theorem dksX1_lambda_spans_1_0 : cX1_lambda_spans_1.data.toList.drop 0 = dktX1_lambda_spans_1_0 := by decide +kernel
theorem dX1_lambda_spans_1_0 : decode cX1_lambda_spans_1 0 = .ok (.iload_n 1, 1) := dk_27 (dk_at dksX1_lambda_spans_1_0 0 rfl rfl)
theorem dX1_lambda_spans_1_1 : decode cX1_lambda_spans_1 1 = .ok (.aload_n 0, 1) := dk_42 (dk_at dksX1_lambda_spans_1_0 1 rfl rfl)
theorem dX1_lambda_spans_1_2 : decode cX1_lambda_spans_1 2 = .ok (.getfield 27, 3) := dk_180 0 27 (dk_at dksX1_lambda_spans_1_0 2 rfl rfl)
theorem dX1_lambda_spans_1_5 : decode cX1_lambda_spans_1 5 = .ok (.irem, 1) := dk_112 (dk_at dksX1_lambda_spans_1_0 5 rfl rfl)
theorem dX1_lambda_spans_1_6 : decode cX1_lambda_spans_1 6 = .ok (.ifCond .ne 7, 3) := dk_154 0 7 (dk_at dksX1_lambda_spans_1_0 6 rfl rfl)
theorem dX1_lambda_spans_1_9 : decode cX1_lambda_spans_1 9 = .ok (.iconst 1, 1) := dk_4 (dk_at dksX1_lambda_spans_1_0 9 rfl rfl)
theorem dX1_lambda_spans_1_10 : decode cX1_lambda_spans_1 10 = .ok (.goto 4, 3) := dk_167 0 4 (dk_at dksX1_lambda_spans_1_0 10 rfl rfl)
theorem dX1_lambda_spans_1_13 : decode cX1_lambda_spans_1 13 = .ok (.iconst 0, 1) := dk_3 (dk_at dksX1_lambda_spans_1_0 13 rfl rfl)
theorem dX1_lambda_spans_1_14 : decode cX1_lambda_spans_1 14 = .ok (.ireturn, 1) := dk_172 (dk_at dksX1_lambda_spans_1_0 14 rfl rfl)
abbrev cX1_lambda_spans_2 : ByteArray := prog_4_method_38_code
def yX1_lambda_spans_2 : MethodName := ⟨RX1, "lambda$spans$2", "(III)Z"⟩
def dkwX1_lambda_spans_2_0 : List UInt8 := [42, 180, 0, 33, 29, 46, 27, 162, 0, 12, 29, 28, 159, 0, 7, 4, 167, 0, 4, 3, 172]
abbrev dktX1_lambda_spans_2_0 : List UInt8 := dkwX1_lambda_spans_2_0 ++ []
theorem dksX1_lambda_spans_2_0 : cX1_lambda_spans_2.data.toList.drop 0 = dktX1_lambda_spans_2_0 := by decide +kernel
theorem dX1_lambda_spans_2_0 : decode cX1_lambda_spans_2 0 = .ok (.aload_n 0, 1) := dk_42 (dk_at dksX1_lambda_spans_2_0 0 rfl rfl)
theorem dX1_lambda_spans_2_1 : decode cX1_lambda_spans_2 1 = .ok (.getfield 33, 3) := dk_180 0 33 (dk_at dksX1_lambda_spans_2_0 1 rfl rfl)
theorem dX1_lambda_spans_2_4 : decode cX1_lambda_spans_2 4 = .ok (.iload_n 3, 1) := dk_29 (dk_at dksX1_lambda_spans_2_0 4 rfl rfl)
theorem dX1_lambda_spans_2_5 : decode cX1_lambda_spans_2 5 = .ok (.iaload, 1) := dk_46 (dk_at dksX1_lambda_spans_2_0 5 rfl rfl)
theorem dX1_lambda_spans_2_6 : decode cX1_lambda_spans_2 6 = .ok (.iload_n 1, 1) := dk_27 (dk_at dksX1_lambda_spans_2_0 6 rfl rfl)
theorem dX1_lambda_spans_2_7 : decode cX1_lambda_spans_2 7 = .ok (.if_icmp .ge 12, 3) := dk_162 0 12 (dk_at dksX1_lambda_spans_2_0 7 rfl rfl)
theorem dX1_lambda_spans_2_10 : decode cX1_lambda_spans_2 10 = .ok (.iload_n 3, 1) := dk_29 (dk_at dksX1_lambda_spans_2_0 10 rfl rfl)
theorem dX1_lambda_spans_2_11 : decode cX1_lambda_spans_2 11 = .ok (.iload_n 2, 1) := dk_28 (dk_at dksX1_lambda_spans_2_0 11 rfl rfl)
theorem dX1_lambda_spans_2_12 : decode cX1_lambda_spans_2 12 = .ok (.if_icmp .eq 7, 3) := dk_159 0 7 (dk_at dksX1_lambda_spans_2_0 12 rfl rfl)
theorem dX1_lambda_spans_2_15 : decode cX1_lambda_spans_2 15 = .ok (.iconst 1, 1) := dk_4 (dk_at dksX1_lambda_spans_2_0 15 rfl rfl)
theorem dX1_lambda_spans_2_16 : decode cX1_lambda_spans_2 16 = .ok (.goto 4, 3) := dk_167 0 4 (dk_at dksX1_lambda_spans_2_0 16 rfl rfl)
theorem dX1_lambda_spans_2_19 : decode cX1_lambda_spans_2 19 = .ok (.iconst 0, 1) := dk_3 (dk_at dksX1_lambda_spans_2_0 19 rfl rfl)
theorem dX1_lambda_spans_2_20 : decode cX1_lambda_spans_2 20 = .ok (.ireturn, 1) := dk_172 (dk_at dksX1_lambda_spans_2_0 20 rfl rfl)
abbrev cX1_spanningThreshold : ByteArray := prog_4_method_30_code
def yX1_spanningThreshold : MethodName := ⟨RX1, "spanningThreshold", "()I"⟩
def dkwX1_spanningThreshold_0 : List UInt8 := [42, 186, 0, 190, 0, 0, 184, 0, 193, 172]
abbrev dktX1_spanningThreshold_0 : List UInt8 := dkwX1_spanningThreshold_0 ++ []
theorem dksX1_spanningThreshold_0 : cX1_spanningThreshold.data.toList.drop 0 = dktX1_spanningThreshold_0 := by decide +kernel
theorem dX1_spanningThreshold_0 : decode cX1_spanningThreshold 0 = .ok (.aload_n 0, 1) := dk_42 (dk_at dksX1_spanningThreshold_0 0 rfl rfl)
theorem dX1_spanningThreshold_1 : decode cX1_spanningThreshold 1 = .ok (.invokedynamic 190, 5) := by decide +kernel
theorem dX1_spanningThreshold_6 : decode cX1_spanningThreshold 6 = .ok (.invokestatic 193, 3) := dk_184 0 193 (dk_at dksX1_spanningThreshold_0 6 rfl rfl)
theorem dX1_spanningThreshold_9 : decode cX1_spanningThreshold 9 = .ok (.ireturn, 1) := dk_172 (dk_at dksX1_spanningThreshold_0 9 rfl rfl)
abbrev cX1_lambda_spanningThreshold_9 : ByteArray := prog_4_method_31_code
def yX1_lambda_spanningThreshold_9 : MethodName := ⟨RX1, "lambda$spanningThreshold$9", "(I)Z"⟩
def dkwX1_lambda_spanningThreshold_9_0 : List UInt8 := [42, 27, 16, 247, 182, 0, 197, 172]
abbrev dktX1_lambda_spanningThreshold_9_0 : List UInt8 := dkwX1_lambda_spanningThreshold_9_0 ++ []
theorem dksX1_lambda_spanningThreshold_9_0 : cX1_lambda_spanningThreshold_9.data.toList.drop 0 = dktX1_lambda_spanningThreshold_9_0 := by decide +kernel
theorem dX1_lambda_spanningThreshold_9_0 : decode cX1_lambda_spanningThreshold_9 0 = .ok (.aload_n 0, 1) := dk_42 (dk_at dksX1_lambda_spanningThreshold_9_0 0 rfl rfl)
theorem dX1_lambda_spanningThreshold_9_1 : decode cX1_lambda_spanningThreshold_9 1 = .ok (.iload_n 1, 1) := dk_27 (dk_at dksX1_lambda_spanningThreshold_9_0 1 rfl rfl)
theorem dX1_lambda_spanningThreshold_9_2 : decode cX1_lambda_spanningThreshold_9 2 = .ok (.bipush (-9), 2) := dk_16 247 (dk_at dksX1_lambda_spanningThreshold_9_0 2 rfl rfl)
theorem dX1_lambda_spanningThreshold_9_4 : decode cX1_lambda_spanningThreshold_9 4 = .ok (.invokevirtual 197, 3) := dk_182 0 197 (dk_at dksX1_lambda_spanningThreshold_9_0 4 rfl rfl)
theorem dX1_lambda_spanningThreshold_9_7 : decode cX1_lambda_spanningThreshold_9 7 = .ok (.ireturn, 1) := dk_172 (dk_at dksX1_lambda_spanningThreshold_9_0 7 rfl rfl)
abbrev cX1_smallest : ByteArray := prog_4_method_29_code
def yX1_smallest : MethodName := ⟨RX1, "smallest", "(LDyeLattice$ThresholdTest;)I"⟩
def dkwX1_smallest_2 : List UInt8 := [28, 61, 21, 4, 153, 0, 7, 27, 167, 0, 6, 29, 4, 96, 60, 167, 255, 212, 27, 172]
abbrev dktX1_smallest_2 : List UInt8 := dkwX1_smallest_2 ++ []
def dkwX1_smallest_1 : List UInt8 := [27, 28, 96, 5, 108, 62, 42, 29, 185, 0, 185, 2, 0, 54, 4, 21, 4, 153, 0, 7, 29, 167, 0, 4]
abbrev dktX1_smallest_1 : List UInt8 := dkwX1_smallest_1 ++ dktX1_smallest_2
def dkwX1_smallest_0 : List UInt8 := [42, 16, 100, 185, 0, 185, 2, 0, 154, 0, 6, 16, 247, 172, 3, 60, 16, 100, 61, 27, 28, 162, 0, 45]
abbrev dktX1_smallest_0 : List UInt8 := dkwX1_smallest_0 ++ dktX1_smallest_1
theorem dksX1_smallest_0 : cX1_smallest.data.toList.drop 0 = dktX1_smallest_0 := by decide +kernel
theorem dksX1_smallest_1 : cX1_smallest.data.toList.drop 24 = dktX1_smallest_1 := dk_seg dksX1_smallest_0 24 rfl rfl
theorem dksX1_smallest_2 : cX1_smallest.data.toList.drop 48 = dktX1_smallest_2 := dk_seg dksX1_smallest_1 24 rfl rfl
theorem dX1_smallest_0 : decode cX1_smallest 0 = .ok (.aload_n 0, 1) := dk_42 (dk_at dksX1_smallest_0 0 rfl rfl)
theorem dX1_smallest_1 : decode cX1_smallest 1 = .ok (.bipush 100, 2) := dk_16 100 (dk_at dksX1_smallest_0 1 rfl rfl)
theorem dX1_smallest_3 : decode cX1_smallest 3 = .ok (.invokeinterface 185 2, 5) := by decide +kernel
theorem dX1_smallest_8 : decode cX1_smallest 8 = .ok (.ifCond .ne 6, 3) := dk_154 0 6 (dk_at dksX1_smallest_0 8 rfl rfl)
theorem dX1_smallest_11 : decode cX1_smallest 11 = .ok (.bipush (-9), 2) := dk_16 247 (dk_at dksX1_smallest_0 11 rfl rfl)
theorem dX1_smallest_13 : decode cX1_smallest 13 = .ok (.ireturn, 1) := dk_172 (dk_at dksX1_smallest_0 13 rfl rfl)
theorem dX1_smallest_14 : decode cX1_smallest 14 = .ok (.iconst 0, 1) := dk_3 (dk_at dksX1_smallest_0 14 rfl rfl)
theorem dX1_smallest_15 : decode cX1_smallest 15 = .ok (.istore_n 1, 1) := dk_60 (dk_at dksX1_smallest_0 15 rfl rfl)
theorem dX1_smallest_16 : decode cX1_smallest 16 = .ok (.bipush 100, 2) := dk_16 100 (dk_at dksX1_smallest_0 16 rfl rfl)
theorem dX1_smallest_18 : decode cX1_smallest 18 = .ok (.istore_n 2, 1) := dk_61 (dk_at dksX1_smallest_0 18 rfl rfl)
theorem dX1_smallest_19 : decode cX1_smallest 19 = .ok (.iload_n 1, 1) := dk_27 (dk_at dksX1_smallest_0 19 rfl rfl)
theorem dX1_smallest_20 : decode cX1_smallest 20 = .ok (.iload_n 2, 1) := dk_28 (dk_at dksX1_smallest_0 20 rfl rfl)
theorem dX1_smallest_21 : decode cX1_smallest 21 = .ok (.if_icmp .ge 45, 3) := dk_162 0 45 (dk_at dksX1_smallest_0 21 rfl rfl)
theorem dX1_smallest_24 : decode cX1_smallest 24 = .ok (.iload_n 1, 1) := dk_27 (dk_at dksX1_smallest_1 0 rfl rfl)
theorem dX1_smallest_25 : decode cX1_smallest 25 = .ok (.iload_n 2, 1) := dk_28 (dk_at dksX1_smallest_1 1 rfl rfl)
theorem dX1_smallest_26 : decode cX1_smallest 26 = .ok (.iadd, 1) := dk_96 (dk_at dksX1_smallest_1 2 rfl rfl)
theorem dX1_smallest_27 : decode cX1_smallest 27 = .ok (.iconst 2, 1) := dk_5 (dk_at dksX1_smallest_1 3 rfl rfl)
theorem dX1_smallest_28 : decode cX1_smallest 28 = .ok (.idiv, 1) := dk_108 (dk_at dksX1_smallest_1 4 rfl rfl)
theorem dX1_smallest_29 : decode cX1_smallest 29 = .ok (.istore_n 3, 1) := dk_62 (dk_at dksX1_smallest_1 5 rfl rfl)
theorem dX1_smallest_30 : decode cX1_smallest 30 = .ok (.aload_n 0, 1) := dk_42 (dk_at dksX1_smallest_1 6 rfl rfl)
theorem dX1_smallest_31 : decode cX1_smallest 31 = .ok (.iload_n 3, 1) := dk_29 (dk_at dksX1_smallest_1 7 rfl rfl)
theorem dX1_smallest_32 : decode cX1_smallest 32 = .ok (.invokeinterface 185 2, 5) := by decide +kernel
theorem dX1_smallest_37 : decode cX1_smallest 37 = .ok (.istore 4, 2) := dk_54 4 (dk_at dksX1_smallest_1 13 rfl rfl)
theorem dX1_smallest_39 : decode cX1_smallest 39 = .ok (.iload 4, 2) := dk_21 4 (dk_at dksX1_smallest_1 15 rfl rfl)
theorem dX1_smallest_41 : decode cX1_smallest 41 = .ok (.ifCond .eq 7, 3) := dk_153 0 7 (dk_at dksX1_smallest_1 17 rfl rfl)
theorem dX1_smallest_44 : decode cX1_smallest 44 = .ok (.iload_n 3, 1) := dk_29 (dk_at dksX1_smallest_1 20 rfl rfl)
theorem dX1_smallest_45 : decode cX1_smallest 45 = .ok (.goto 4, 3) := dk_167 0 4 (dk_at dksX1_smallest_1 21 rfl rfl)
theorem dX1_smallest_48 : decode cX1_smallest 48 = .ok (.iload_n 2, 1) := dk_28 (dk_at dksX1_smallest_2 0 rfl rfl)
theorem dX1_smallest_49 : decode cX1_smallest 49 = .ok (.istore_n 2, 1) := dk_61 (dk_at dksX1_smallest_2 1 rfl rfl)
theorem dX1_smallest_50 : decode cX1_smallest 50 = .ok (.iload 4, 2) := dk_21 4 (dk_at dksX1_smallest_2 2 rfl rfl)
theorem dX1_smallest_52 : decode cX1_smallest 52 = .ok (.ifCond .eq 7, 3) := dk_153 0 7 (dk_at dksX1_smallest_2 4 rfl rfl)
theorem dX1_smallest_55 : decode cX1_smallest 55 = .ok (.iload_n 1, 1) := dk_27 (dk_at dksX1_smallest_2 7 rfl rfl)
theorem dX1_smallest_56 : decode cX1_smallest 56 = .ok (.goto 6, 3) := dk_167 0 6 (dk_at dksX1_smallest_2 8 rfl rfl)
theorem dX1_smallest_59 : decode cX1_smallest 59 = .ok (.iload_n 3, 1) := dk_29 (dk_at dksX1_smallest_2 11 rfl rfl)
theorem dX1_smallest_60 : decode cX1_smallest 60 = .ok (.iconst 1, 1) := dk_4 (dk_at dksX1_smallest_2 12 rfl rfl)
theorem dX1_smallest_61 : decode cX1_smallest 61 = .ok (.iadd, 1) := dk_96 (dk_at dksX1_smallest_2 13 rfl rfl)
theorem dX1_smallest_62 : decode cX1_smallest 62 = .ok (.istore_n 1, 1) := dk_60 (dk_at dksX1_smallest_2 14 rfl rfl)
theorem dX1_smallest_63 : decode cX1_smallest 63 = .ok (.goto (-44), 3) := dk_167 255 212 (dk_at dksX1_smallest_2 15 rfl rfl)
theorem dX1_smallest_66 : decode cX1_smallest 66 = .ok (.iload_n 1, 1) := dk_27 (dk_at dksX1_smallest_2 18 rfl rfl)
theorem dX1_smallest_67 : decode cX1_smallest 67 = .ok (.ireturn, 1) := dk_172 (dk_at dksX1_smallest_2 19 rfl rfl)
abbrev cX1_hasWay : ByteArray := prog_4_method_21_code
def yX1_hasWay : MethodName := ⟨RX1, "hasWay", "(III)Z"⟩
def dkwX1_hasWay_0 : List UInt8 := [42, 27, 186, 0, 150, 0, 0, 42, 29, 186, 0, 153, 0, 0, 182, 0, 146, 28, 51, 172]
abbrev dktX1_hasWay_0 : List UInt8 := dkwX1_hasWay_0 ++ []
theorem dksX1_hasWay_0 : cX1_hasWay.data.toList.drop 0 = dktX1_hasWay_0 := by decide +kernel
theorem dX1_hasWay_0 : decode cX1_hasWay 0 = .ok (.aload_n 0, 1) := dk_42 (dk_at dksX1_hasWay_0 0 rfl rfl)
theorem dX1_hasWay_1 : decode cX1_hasWay 1 = .ok (.iload_n 1, 1) := dk_27 (dk_at dksX1_hasWay_0 1 rfl rfl)
theorem dX1_hasWay_2 : decode cX1_hasWay 2 = .ok (.invokedynamic 150, 5) := by decide +kernel
theorem dX1_hasWay_7 : decode cX1_hasWay 7 = .ok (.aload_n 0, 1) := dk_42 (dk_at dksX1_hasWay_0 7 rfl rfl)
theorem dX1_hasWay_8 : decode cX1_hasWay 8 = .ok (.iload_n 3, 1) := dk_29 (dk_at dksX1_hasWay_0 8 rfl rfl)
theorem dX1_hasWay_9 : decode cX1_hasWay 9 = .ok (.invokedynamic 153, 5) := by decide +kernel
theorem dX1_hasWay_14 : decode cX1_hasWay 14 = .ok (.invokevirtual 146, 3) := dk_182 0 146 (dk_at dksX1_hasWay_0 14 rfl rfl)
theorem dX1_hasWay_17 : decode cX1_hasWay 17 = .ok (.iload_n 2, 1) := dk_28 (dk_at dksX1_hasWay_0 17 rfl rfl)
theorem dX1_hasWay_18 : decode cX1_hasWay 18 = .ok (.baload, 1) := dk_51 (dk_at dksX1_hasWay_0 18 rfl rfl)
theorem dX1_hasWay_19 : decode cX1_hasWay 19 = .ok (.ireturn, 1) := dk_172 (dk_at dksX1_hasWay_0 19 rfl rfl)
abbrev cX1_lambda_hasWay_3 : ByteArray := prog_4_method_37_code
def yX1_lambda_hasWay_3 : MethodName := ⟨RX1, "lambda$hasWay$3", "(II)Z"⟩
def dkwX1_lambda_hasWay_3_0 : List UInt8 := [27, 26, 160, 0, 7, 4, 167, 0, 4, 3, 172]
abbrev dktX1_lambda_hasWay_3_0 : List UInt8 := dkwX1_lambda_hasWay_3_0 ++ []
theorem dksX1_lambda_hasWay_3_0 : cX1_lambda_hasWay_3.data.toList.drop 0 = dktX1_lambda_hasWay_3_0 := by decide +kernel
theorem dX1_lambda_hasWay_3_0 : decode cX1_lambda_hasWay_3 0 = .ok (.iload_n 1, 1) := dk_27 (dk_at dksX1_lambda_hasWay_3_0 0 rfl rfl)
theorem dX1_lambda_hasWay_3_1 : decode cX1_lambda_hasWay_3 1 = .ok (.iload_n 0, 1) := dk_26 (dk_at dksX1_lambda_hasWay_3_0 1 rfl rfl)
theorem dX1_lambda_hasWay_3_2 : decode cX1_lambda_hasWay_3 2 = .ok (.if_icmp .ne 7, 3) := dk_160 0 7 (dk_at dksX1_lambda_hasWay_3_0 2 rfl rfl)
theorem dX1_lambda_hasWay_3_5 : decode cX1_lambda_hasWay_3 5 = .ok (.iconst 1, 1) := dk_4 (dk_at dksX1_lambda_hasWay_3_0 5 rfl rfl)
theorem dX1_lambda_hasWay_3_6 : decode cX1_lambda_hasWay_3 6 = .ok (.goto 4, 3) := dk_167 0 4 (dk_at dksX1_lambda_hasWay_3_0 6 rfl rfl)
theorem dX1_lambda_hasWay_3_9 : decode cX1_lambda_hasWay_3 9 = .ok (.iconst 0, 1) := dk_3 (dk_at dksX1_lambda_hasWay_3_0 9 rfl rfl)
theorem dX1_lambda_hasWay_3_10 : decode cX1_lambda_hasWay_3 10 = .ok (.ireturn, 1) := dk_172 (dk_at dksX1_lambda_hasWay_3_0 10 rfl rfl)
abbrev cX1_lambda_hasWay_4 : ByteArray := prog_4_method_36_code
def yX1_lambda_hasWay_4 : MethodName := ⟨RX1, "lambda$hasWay$4", "(II)Z"⟩
def dkwX1_lambda_hasWay_4_0 : List UInt8 := [42, 180, 0, 33, 28, 46, 27, 162, 0, 7, 4, 167, 0, 4, 3, 172]
abbrev dktX1_lambda_hasWay_4_0 : List UInt8 := dkwX1_lambda_hasWay_4_0 ++ []
theorem dksX1_lambda_hasWay_4_0 : cX1_lambda_hasWay_4.data.toList.drop 0 = dktX1_lambda_hasWay_4_0 := by decide +kernel
theorem dX1_lambda_hasWay_4_0 : decode cX1_lambda_hasWay_4 0 = .ok (.aload_n 0, 1) := dk_42 (dk_at dksX1_lambda_hasWay_4_0 0 rfl rfl)
theorem dX1_lambda_hasWay_4_1 : decode cX1_lambda_hasWay_4 1 = .ok (.getfield 33, 3) := dk_180 0 33 (dk_at dksX1_lambda_hasWay_4_0 1 rfl rfl)
theorem dX1_lambda_hasWay_4_4 : decode cX1_lambda_hasWay_4 4 = .ok (.iload_n 2, 1) := dk_28 (dk_at dksX1_lambda_hasWay_4_0 4 rfl rfl)
theorem dX1_lambda_hasWay_4_5 : decode cX1_lambda_hasWay_4 5 = .ok (.iaload, 1) := dk_46 (dk_at dksX1_lambda_hasWay_4_0 5 rfl rfl)
theorem dX1_lambda_hasWay_4_6 : decode cX1_lambda_hasWay_4 6 = .ok (.iload_n 1, 1) := dk_27 (dk_at dksX1_lambda_hasWay_4_0 6 rfl rfl)
theorem dX1_lambda_hasWay_4_7 : decode cX1_lambda_hasWay_4 7 = .ok (.if_icmp .ge 7, 3) := dk_162 0 7 (dk_at dksX1_lambda_hasWay_4_0 7 rfl rfl)
theorem dX1_lambda_hasWay_4_10 : decode cX1_lambda_hasWay_4 10 = .ok (.iconst 1, 1) := dk_4 (dk_at dksX1_lambda_hasWay_4_0 10 rfl rfl)
theorem dX1_lambda_hasWay_4_11 : decode cX1_lambda_hasWay_4 11 = .ok (.goto 4, 3) := dk_167 0 4 (dk_at dksX1_lambda_hasWay_4_0 11 rfl rfl)
theorem dX1_lambda_hasWay_4_14 : decode cX1_lambda_hasWay_4 14 = .ok (.iconst 0, 1) := dk_3 (dk_at dksX1_lambda_hasWay_4_0 14 rfl rfl)
theorem dX1_lambda_hasWay_4_15 : decode cX1_lambda_hasWay_4 15 = .ok (.ireturn, 1) := dk_172 (dk_at dksX1_lambda_hasWay_4_0 15 rfl rfl)
theorem q85 : (Jvm.Cond.initialized "DyeLattice$Lattice") ∈ lw_all := lw_g (lw_at lw_m1 2 rfl) rfl
theorem q120 : (Jvm.Cond.instantiable "DyeLattice$Lattice" (12 : Nat)) ∈ lw_all := lw_g (lw_at lw_m1 37 rfl) rfl
theorem q122 : (Jvm.Cond.instanceMethod ({ cls := "DyeLattice$Lattice", name := "<init>", desc := "(II)V" } : Jvm.MethodName)) ∈ lw_all := lw_g (lw_at lw_m1 39 rfl) rfl
theorem q123 : (Jvm.Cond.code ({ cls := "DyeLattice$Lattice", name := "<init>", desc := "(II)V" } : Jvm.MethodName) prog_4_method_1_code (5 : Nat) (Option.none : Option Jvm.ClassFile.FieldType)) ∈ lw_all := lw_g (lw_at lw_m1 40 rfl) rfl
theorem q124 : (Jvm.Cond.methodLink "DyeLattice$Lattice" (3 : Nat) ({ cls := "java/lang/Object", name := "<init>", desc := "()V" } : Jvm.MethodName)) ∈ lw_all := lw_g (lw_at lw_m1 41 rfl) rfl
theorem q125 : (Jvm.Cond.fieldLink "DyeLattice$Lattice" (9 : Nat) "DyeLattice$Kind" "SQUARE" "LDyeLattice$Kind;") ∈ lw_all := lw_g (lw_at lw_m1 42 rfl) rfl
theorem q127 : (Jvm.Cond.classLink "DyeLattice$Lattice" (37 : Nat) "DyeLattice$Valve") ∈ lw_all := lw_g (lw_at lw_m1 44 rfl) rfl
theorem q129 : (Jvm.Cond.methodLink "DyeLattice$Lattice" (53 : Nat) ({ cls := "DyeLattice$Lattice", name := "freeValves", desc := "()V" } : Jvm.MethodName)) ∈ lw_all := lw_g (lw_at lw_m1 46 rfl) rfl
theorem q130 : (Jvm.Cond.instanceMethod ({ cls := "DyeLattice$Lattice", name := "freeValves", desc := "()V" } : Jvm.MethodName)) ∈ lw_all := lw_g (lw_at lw_m1 47 rfl) rfl
theorem q131 : (Jvm.Cond.selects "DyeLattice$Lattice" ({ cls := "DyeLattice$Lattice", name := "freeValves", desc := "()V" } : Jvm.MethodName) ({ cls := "DyeLattice$Lattice", name := "freeValves", desc := "()V" } : Jvm.MethodName)) ∈ lw_all := lw_g (lw_at lw_m1 48 rfl) rfl
theorem q132 : (Jvm.Cond.code ({ cls := "DyeLattice$Lattice", name := "freeValves", desc := "()V" } : Jvm.MethodName) prog_4_method_4_code (2 : Nat) (Option.none : Option Jvm.ClassFile.FieldType)) ∈ lw_all := lw_g (lw_at lw_m1 49 rfl) rfl
theorem q133 : (Jvm.Cond.fieldLink "DyeLattice$Lattice" (75 : Nat) "DyeLattice$Valve" "FREE" "LDyeLattice$Valve;") ∈ lw_all := lw_g (lw_at lw_m1 50 rfl) rfl
theorem q135 : (Jvm.Cond.fieldLink "DyeLattice$Lattice" (27 : Nat) "DyeLattice$Lattice" "columns" "I") ∈ lw_all := lw_g (lw_at lw_m1 52 rfl) rfl
theorem q138 : (Jvm.Cond.fieldLink "DyeLattice$Lattice" (30 : Nat) "DyeLattice$Lattice" "rows" "I") ∈ lw_all := lw_g (lw_at lw_m1 55 rfl) rfl
theorem q141 : (Jvm.Cond.fieldLink "DyeLattice$Lattice" (15 : Nat) "DyeLattice$Lattice" "kind" "LDyeLattice$Kind;") ∈ lw_all := lw_g (lw_at lw_m1 58 rfl) rfl
theorem q143 : (Jvm.Cond.fieldLink "DyeLattice$Lattice" (20 : Nat) "DyeLattice$Lattice" "threshold" "I") ∈ lw_all := lw_g (lw_at lw_m1 60 rfl) rfl
theorem q146 : (Jvm.Cond.fieldLink "DyeLattice$Lattice" (24 : Nat) "DyeLattice$Lattice" "beat" "I") ∈ lw_all := lw_g (lw_at lw_m1 63 rfl) rfl
theorem q148 : (Jvm.Cond.fieldLink "DyeLattice$Lattice" (60 : Nat) "DyeLattice$Lattice" "time" "I") ∈ lw_all := lw_g (lw_at lw_m1 65 rfl) rfl
theorem q150 : (Jvm.Cond.fieldLink "DyeLattice$Lattice" (72 : Nat) "DyeLattice$Lattice" "reactions" "I") ∈ lw_all := lw_g (lw_at lw_m1 67 rfl) rfl
theorem q152 : (Jvm.Cond.fieldLink "DyeLattice$Lattice" (33 : Nat) "DyeLattice$Lattice" "grains" "[I") ∈ lw_all := lw_g (lw_at lw_m1 69 rfl) rfl
theorem q155 : (Jvm.Cond.fieldLink "DyeLattice$Lattice" (39 : Nat) "DyeLattice$Lattice" "valves" "[LDyeLattice$Valve;") ∈ lw_all := lw_g (lw_at lw_m1 72 rfl) rfl
theorem q158 : (Jvm.Cond.fieldLink "DyeLattice$Lattice" (43 : Nat) "DyeLattice$Lattice" "sources" "[I") ∈ lw_all := lw_g (lw_at lw_m1 75 rfl) rfl
theorem q161 : (Jvm.Cond.fieldLink "DyeLattice$Lattice" (46 : Nat) "DyeLattice$Lattice" "dyes" "[I") ∈ lw_all := lw_g (lw_at lw_m1 78 rfl) rfl
theorem q163 : (Jvm.Cond.fieldLink "DyeLattice$Lattice" (49 : Nat) "DyeLattice$Lattice" "isClogged" "[Z") ∈ lw_all := lw_g (lw_at lw_m1 80 rfl) rfl
theorem q165 : (Jvm.Cond.laysFinal "DyeLattice$Lattice" "DyeLattice$Lattice" "columns" "I") ∈ lw_all := lw_g (lw_at lw_m1 82 rfl) rfl
theorem q166 : (Jvm.Cond.soleField "DyeLattice$Lattice" "columns") ∈ lw_all := lw_g (lw_at lw_m1 83 rfl) rfl
theorem q167 : (Jvm.Cond.laysFinal "DyeLattice$Lattice" "DyeLattice$Lattice" "rows" "I") ∈ lw_all := lw_g (lw_at lw_m1 84 rfl) rfl
theorem q168 : (Jvm.Cond.soleField "DyeLattice$Lattice" "rows") ∈ lw_all := lw_g (lw_at lw_m1 85 rfl) rfl
theorem q169 : (Jvm.Cond.lays "DyeLattice$Lattice" "DyeLattice$Lattice" "kind" "LDyeLattice$Kind;") ∈ lw_all := lw_g (lw_at lw_m1 86 rfl) rfl
theorem q170 : (Jvm.Cond.soleField "DyeLattice$Lattice" "kind") ∈ lw_all := lw_g (lw_at lw_m1 87 rfl) rfl
theorem q171 : (Jvm.Cond.lays "DyeLattice$Lattice" "DyeLattice$Lattice" "threshold" "I") ∈ lw_all := lw_g (lw_at lw_m1 88 rfl) rfl
theorem q172 : (Jvm.Cond.soleField "DyeLattice$Lattice" "threshold") ∈ lw_all := lw_g (lw_at lw_m1 89 rfl) rfl
theorem q173 : (Jvm.Cond.lays "DyeLattice$Lattice" "DyeLattice$Lattice" "beat" "I") ∈ lw_all := lw_g (lw_at lw_m1 90 rfl) rfl
theorem q174 : (Jvm.Cond.soleField "DyeLattice$Lattice" "beat") ∈ lw_all := lw_g (lw_at lw_m1 91 rfl) rfl
theorem q175 : (Jvm.Cond.lays "DyeLattice$Lattice" "DyeLattice$Lattice" "time" "I") ∈ lw_all := lw_g (lw_at lw_m1 92 rfl) rfl
theorem q176 : (Jvm.Cond.soleField "DyeLattice$Lattice" "time") ∈ lw_all := lw_g (lw_at lw_m1 93 rfl) rfl
theorem q177 : (Jvm.Cond.lays "DyeLattice$Lattice" "DyeLattice$Lattice" "reactions" "I") ∈ lw_all := lw_g (lw_at lw_m1 94 rfl) rfl
theorem q178 : (Jvm.Cond.soleField "DyeLattice$Lattice" "reactions") ∈ lw_all := lw_g (lw_at lw_m1 95 rfl) rfl
theorem q179 : (Jvm.Cond.laysFinal "DyeLattice$Lattice" "DyeLattice$Lattice" "grains" "[I") ∈ lw_all := lw_g (lw_at lw_m1 96 rfl) rfl
theorem q180 : (Jvm.Cond.soleField "DyeLattice$Lattice" "grains") ∈ lw_all := lw_g (lw_at lw_m1 97 rfl) rfl
theorem q181 : (Jvm.Cond.laysFinal "DyeLattice$Lattice" "DyeLattice$Lattice" "valves" "[LDyeLattice$Valve;") ∈ lw_all := lw_g (lw_at lw_m1 98 rfl) rfl
theorem q182 : (Jvm.Cond.soleField "DyeLattice$Lattice" "valves") ∈ lw_all := lw_g (lw_at lw_m1 99 rfl) rfl
theorem q183 : (Jvm.Cond.laysFinal "DyeLattice$Lattice" "DyeLattice$Lattice" "sources" "[I") ∈ lw_all := lw_g (lw_at lw_m1 100 rfl) rfl
theorem q184 : (Jvm.Cond.soleField "DyeLattice$Lattice" "sources") ∈ lw_all := lw_g (lw_at lw_m1 101 rfl) rfl
theorem q185 : (Jvm.Cond.lays "DyeLattice$Lattice" "DyeLattice$Lattice" "dyes" "[I") ∈ lw_all := lw_g (lw_at lw_m1 102 rfl) rfl
theorem q186 : (Jvm.Cond.soleField "DyeLattice$Lattice" "dyes") ∈ lw_all := lw_g (lw_at lw_m1 103 rfl) rfl
theorem q187 : (Jvm.Cond.laysFinal "DyeLattice$Lattice" "DyeLattice$Lattice" "isClogged" "[Z") ∈ lw_all := lw_g (lw_at lw_m1 104 rfl) rfl
theorem q188 : (Jvm.Cond.soleField "DyeLattice$Lattice" "isClogged") ∈ lw_all := lw_g (lw_at lw_m1 105 rfl) rfl
theorem q189 : (Jvm.Cond.superclass "DyeLattice$Lattice" "java/lang/Object") ∈ lw_all := lw_g (lw_at lw_m1 106 rfl) rfl
theorem q264 : (Jvm.Cond.instanceMethod ({ cls := "DyeLattice$Lattice", name := "resized", desc := "(II)LDyeLattice$Lattice;" } : Jvm.MethodName)) ∈ lw_all := lw_g (lw_at lw_m1 181 rfl) rfl
theorem q265 : (Jvm.Cond.selects "DyeLattice$Lattice" ({ cls := "DyeLattice$Lattice", name := "resized", desc := "(II)LDyeLattice$Lattice;" } : Jvm.MethodName) ({ cls := "DyeLattice$Lattice", name := "resized", desc := "(II)LDyeLattice$Lattice;" } : Jvm.MethodName)) ∈ lw_all := lw_g (lw_at lw_m1 182 rfl) rfl
theorem q266 : (Jvm.Cond.code ({ cls := "DyeLattice$Lattice", name := "resized", desc := "(II)LDyeLattice$Lattice;" } : Jvm.MethodName) prog_4_method_3_code (4 : Nat) (Option.some (Jvm.ClassFile.FieldType.object "DyeLattice$Lattice"))) ∈ lw_all := lw_g (lw_at lw_m1 183 rfl) rfl
theorem q267 : (Jvm.Cond.classLink "DyeLattice$Lattice" (16 : Nat) "DyeLattice$Lattice") ∈ lw_all := lw_g (lw_at lw_m1 184 rfl) rfl
theorem q268 : (Jvm.Cond.methodLink "DyeLattice$Lattice" (69 : Nat) ({ cls := "DyeLattice$Lattice", name := "<init>", desc := "(II)V" } : Jvm.MethodName)) ∈ lw_all := lw_g (lw_at lw_m1 185 rfl) rfl
theorem q316 : (Jvm.Cond.selects "DyeLattice$Lattice" ({ cls := "java/lang/Object", name := "getClass", desc := "()Ljava/lang/Class;" } : Jvm.MethodName) ({ cls := "java/lang/Object", name := "getClass", desc := "()Ljava/lang/Class;" } : Jvm.MethodName)) ∈ lw_all := lw_g (lw_at lw_m1 233 rfl) rfl
theorem q345 : (Jvm.Cond.instanceMethod ({ cls := "DyeLattice$Lattice", name := "cells", desc := "()I" } : Jvm.MethodName)) ∈ lw_all := lw_g (lw_at lw_m2 22 rfl) rfl
theorem q346 : (Jvm.Cond.selects "DyeLattice$Lattice" ({ cls := "DyeLattice$Lattice", name := "cells", desc := "()I" } : Jvm.MethodName) ({ cls := "DyeLattice$Lattice", name := "cells", desc := "()I" } : Jvm.MethodName)) ∈ lw_all := lw_g (lw_at lw_m2 23 rfl) rfl
theorem q347 : (Jvm.Cond.code ({ cls := "DyeLattice$Lattice", name := "cells", desc := "()I" } : Jvm.MethodName) prog_4_method_5_code (1 : Nat) (Option.some Jvm.ClassFile.FieldType.int)) ∈ lw_all := lw_g (lw_at lw_m2 24 rfl) rfl
theorem q357 : (Jvm.Cond.instanceMethod ({ cls := "DyeLattice$Lattice", name := "copy", desc := "()LDyeLattice$Lattice;" } : Jvm.MethodName)) ∈ lw_all := lw_g (lw_at lw_m2 34 rfl) rfl
theorem q358 : (Jvm.Cond.selects "DyeLattice$Lattice" ({ cls := "DyeLattice$Lattice", name := "copy", desc := "()LDyeLattice$Lattice;" } : Jvm.MethodName) ({ cls := "DyeLattice$Lattice", name := "copy", desc := "()LDyeLattice$Lattice;" } : Jvm.MethodName)) ∈ lw_all := lw_g (lw_at lw_m2 35 rfl) rfl
theorem q359 : (Jvm.Cond.code ({ cls := "DyeLattice$Lattice", name := "copy", desc := "()LDyeLattice$Lattice;" } : Jvm.MethodName) prog_4_method_2_code (2 : Nat) (Option.some (Jvm.ClassFile.FieldType.object "DyeLattice$Lattice"))) ∈ lw_all := lw_g (lw_at lw_m2 36 rfl) rfl
theorem q360 : (Jvm.Cond.methodLink "DyeLattice$Lattice" (56 : Nat) ({ cls := "DyeLattice$Lattice", name := "resized", desc := "(II)LDyeLattice$Lattice;" } : Jvm.MethodName)) ∈ lw_all := lw_g (lw_at lw_m2 37 rfl) rfl
theorem q361 : (Jvm.Cond.methodLink "DyeLattice$Lattice" (63 : Nat) ({ cls := "java/lang/System", name := "arraycopy", desc := "(Ljava/lang/Object;ILjava/lang/Object;II)V" } : Jvm.MethodName)) ∈ lw_all := lw_g (lw_at lw_m2 38 rfl) rfl
theorem q383 : (Jvm.Cond.instanceMethod ({ cls := "DyeLattice$Lattice", name := "bonds", desc := "()I" } : Jvm.MethodName)) ∈ lw_all := lw_g (lw_at lw_m2 60 rfl) rfl
theorem q384 : (Jvm.Cond.selects "DyeLattice$Lattice" ({ cls := "DyeLattice$Lattice", name := "bonds", desc := "()I" } : Jvm.MethodName) ({ cls := "DyeLattice$Lattice", name := "bonds", desc := "()I" } : Jvm.MethodName)) ∈ lw_all := lw_g (lw_at lw_m2 61 rfl) rfl
theorem q385 : (Jvm.Cond.code ({ cls := "DyeLattice$Lattice", name := "bonds", desc := "()I" } : Jvm.MethodName) prog_4_method_11_code (3 : Nat) (Option.some Jvm.ClassFile.FieldType.int)) ∈ lw_all := lw_g (lw_at lw_m2 62 rfl) rfl
theorem q386 : (Jvm.Cond.methodLink "DyeLattice$Lattice" (108 : Nat) ({ cls := "DyeLattice$Lattice", name := "isBond", desc := "(II)Z" } : Jvm.MethodName)) ∈ lw_all := lw_g (lw_at lw_m2 63 rfl) rfl
theorem q387 : (Jvm.Cond.instanceMethod ({ cls := "DyeLattice$Lattice", name := "isBond", desc := "(II)Z" } : Jvm.MethodName)) ∈ lw_all := lw_g (lw_at lw_m2 64 rfl) rfl
theorem q388 : (Jvm.Cond.selects "DyeLattice$Lattice" ({ cls := "DyeLattice$Lattice", name := "isBond", desc := "(II)Z" } : Jvm.MethodName) ({ cls := "DyeLattice$Lattice", name := "isBond", desc := "(II)Z" } : Jvm.MethodName)) ∈ lw_all := lw_g (lw_at lw_m2 65 rfl) rfl
theorem q389 : (Jvm.Cond.code ({ cls := "DyeLattice$Lattice", name := "isBond", desc := "(II)Z" } : Jvm.MethodName) prog_4_method_10_code (3 : Nat) (Option.some Jvm.ClassFile.FieldType.boolean)) ∈ lw_all := lw_g (lw_at lw_m2 66 rfl) rfl
theorem q390 : (Jvm.Cond.methodLink "DyeLattice$Lattice" (98 : Nat) ({ cls := "DyeLattice$Lattice", name := "isCell", desc := "(I)Z" } : Jvm.MethodName)) ∈ lw_all := lw_g (lw_at lw_m2 67 rfl) rfl
theorem q391 : (Jvm.Cond.instanceMethod ({ cls := "DyeLattice$Lattice", name := "isCell", desc := "(I)Z" } : Jvm.MethodName)) ∈ lw_all := lw_g (lw_at lw_m2 68 rfl) rfl
theorem q392 : (Jvm.Cond.selects "DyeLattice$Lattice" ({ cls := "DyeLattice$Lattice", name := "isCell", desc := "(I)Z" } : Jvm.MethodName) ({ cls := "DyeLattice$Lattice", name := "isCell", desc := "(I)Z" } : Jvm.MethodName)) ∈ lw_all := lw_g (lw_at lw_m2 69 rfl) rfl
theorem q393 : (Jvm.Cond.code ({ cls := "DyeLattice$Lattice", name := "isCell", desc := "(I)Z" } : Jvm.MethodName) prog_4_method_6_code (2 : Nat) (Option.some Jvm.ClassFile.FieldType.boolean)) ∈ lw_all := lw_g (lw_at lw_m2 70 rfl) rfl
theorem q394 : (Jvm.Cond.methodLink "DyeLattice$Lattice" (79 : Nat) ({ cls := "DyeLattice$Lattice", name := "cells", desc := "()I" } : Jvm.MethodName)) ∈ lw_all := lw_g (lw_at lw_m2 71 rfl) rfl
theorem q395 : (Jvm.Cond.methodLinkNest "DyeLattice$Lattice" (83 : Nat) ({ cls := "DyeLattice", name := "isBetween", desc := "(III)Z" } : Jvm.MethodName) "DyeLattice") ∈ lw_tbl := lw_at lw_m2 72 rfl
theorem q396 : (Jvm.Cond.methodLink "DyeLattice$Lattice" (105 : Nat) ({ cls := "DyeLattice$Lattice", name := "second", desc := "(II)I" } : Jvm.MethodName)) ∈ lw_all := lw_g (lw_at lw_m2 73 rfl) rfl
theorem q397 : (Jvm.Cond.instanceMethod ({ cls := "DyeLattice$Lattice", name := "second", desc := "(II)I" } : Jvm.MethodName)) ∈ lw_all := lw_g (lw_at lw_m2 74 rfl) rfl
theorem q398 : (Jvm.Cond.selects "DyeLattice$Lattice" ({ cls := "DyeLattice$Lattice", name := "second", desc := "(II)I" } : Jvm.MethodName) ({ cls := "DyeLattice$Lattice", name := "second", desc := "(II)I" } : Jvm.MethodName)) ∈ lw_all := lw_g (lw_at lw_m2 75 rfl) rfl
theorem q399 : (Jvm.Cond.code ({ cls := "DyeLattice$Lattice", name := "second", desc := "(II)I" } : Jvm.MethodName) prog_4_method_8_code (3 : Nat) (Option.some Jvm.ClassFile.FieldType.int)) ∈ lw_all := lw_g (lw_at lw_m2 76 rfl) rfl
theorem q400 : (Jvm.Cond.methodLinkNest "DyeLattice$Lattice" (87 : Nat) ({ cls := "DyeLattice", name := "xStep", desc := "(I)I" } : Jvm.MethodName) "DyeLattice") ∈ lw_tbl := lw_at lw_m2 77 rfl
theorem q403 : (Jvm.Cond.methodLinkNest "DyeLattice$Lattice" (91 : Nat) ({ cls := "DyeLattice", name := "yStep", desc := "(I)I" } : Jvm.MethodName) "DyeLattice") ∈ lw_tbl := lw_at lw_m2 80 rfl
theorem q406 : (Jvm.Cond.methodLink "DyeLattice$Lattice" (94 : Nat) ({ cls := "DyeLattice$Lattice", name := "cellAt", desc := "(II)I" } : Jvm.MethodName)) ∈ lw_all := lw_g (lw_at lw_m2 83 rfl) rfl
theorem q407 : (Jvm.Cond.privateMethod ({ cls := "DyeLattice$Lattice", name := "cellAt", desc := "(II)I" } : Jvm.MethodName)) ∈ lw_tbl := lw_at lw_m2 84 rfl
theorem q408 : (Jvm.Cond.instanceMethod ({ cls := "DyeLattice$Lattice", name := "cellAt", desc := "(II)I" } : Jvm.MethodName)) ∈ lw_all := lw_g (lw_at lw_m2 85 rfl) rfl
theorem q409 : (Jvm.Cond.code ({ cls := "DyeLattice$Lattice", name := "cellAt", desc := "(II)I" } : Jvm.MethodName) prog_4_method_7_code (3 : Nat) (Option.some Jvm.ClassFile.FieldType.int)) ∈ lw_all := lw_g (lw_at lw_m2 86 rfl) rfl
theorem q420 : (Jvm.Cond.instanceMethod ({ cls := "DyeLattice$Lattice", name := "fill", desc := "(I)I" } : Jvm.MethodName)) ∈ lw_all := lw_g (lw_at lw_m2 97 rfl) rfl
theorem q421 : (Jvm.Cond.selects "DyeLattice$Lattice" ({ cls := "DyeLattice$Lattice", name := "fill", desc := "(I)I" } : Jvm.MethodName) ({ cls := "DyeLattice$Lattice", name := "fill", desc := "(I)I" } : Jvm.MethodName)) ∈ lw_all := lw_g (lw_at lw_m2 98 rfl) rfl
theorem q422 : (Jvm.Cond.code ({ cls := "DyeLattice$Lattice", name := "fill", desc := "(I)I" } : Jvm.MethodName) prog_4_method_15_code (4 : Nat) (Option.some Jvm.ClassFile.FieldType.int)) ∈ lw_all := lw_g (lw_at lw_m2 99 rfl) rfl
theorem q423 : (Jvm.Cond.constant "DyeLattice$Lattice" (118 : Nat) (65537 : Int32)) ∈ lw_all := lw_g (lw_at lw_m2 100 rfl) rfl
theorem q424 : (Jvm.Cond.methodLink "DyeLattice$Lattice" (119 : Nat) ({ cls := "DyeLattice$Lattice", name := "openCells", desc := "()I" } : Jvm.MethodName)) ∈ lw_all := lw_g (lw_at lw_m2 101 rfl) rfl
theorem q425 : (Jvm.Cond.instanceMethod ({ cls := "DyeLattice$Lattice", name := "openCells", desc := "()I" } : Jvm.MethodName)) ∈ lw_all := lw_g (lw_at lw_m2 102 rfl) rfl
theorem q426 : (Jvm.Cond.selects "DyeLattice$Lattice" ({ cls := "DyeLattice$Lattice", name := "openCells", desc := "()I" } : Jvm.MethodName) ({ cls := "DyeLattice$Lattice", name := "openCells", desc := "()I" } : Jvm.MethodName)) ∈ lw_all := lw_g (lw_at lw_m2 103 rfl) rfl
theorem q427 : (Jvm.Cond.code ({ cls := "DyeLattice$Lattice", name := "openCells", desc := "()I" } : Jvm.MethodName) prog_4_method_14_code (3 : Nat) (Option.some Jvm.ClassFile.FieldType.int)) ∈ lw_all := lw_g (lw_at lw_m2 104 rfl) rfl
theorem q428 : (Jvm.Cond.methodLink "DyeLattice$Lattice" (115 : Nat) ({ cls := "DyeLattice$Lattice", name := "isOpen", desc := "(I)Z" } : Jvm.MethodName)) ∈ lw_all := lw_g (lw_at lw_m2 105 rfl) rfl
theorem q429 : (Jvm.Cond.instanceMethod ({ cls := "DyeLattice$Lattice", name := "isOpen", desc := "(I)Z" } : Jvm.MethodName)) ∈ lw_all := lw_g (lw_at lw_m2 106 rfl) rfl
theorem q430 : (Jvm.Cond.selects "DyeLattice$Lattice" ({ cls := "DyeLattice$Lattice", name := "isOpen", desc := "(I)Z" } : Jvm.MethodName) ({ cls := "DyeLattice$Lattice", name := "isOpen", desc := "(I)Z" } : Jvm.MethodName)) ∈ lw_all := lw_g (lw_at lw_m2 107 rfl) rfl
theorem q431 : (Jvm.Cond.code ({ cls := "DyeLattice$Lattice", name := "isOpen", desc := "(I)Z" } : Jvm.MethodName) prog_4_method_13_code (2 : Nat) (Option.some Jvm.ClassFile.FieldType.boolean)) ∈ lw_all := lw_g (lw_at lw_m2 108 rfl) rfl
theorem q473 : (Jvm.Cond.instanceMethod ({ cls := "DyeLattice$Lattice", name := "sourcesOf", desc := "(I)I" } : Jvm.MethodName)) ∈ lw_all := lw_g (lw_at lw_m2 150 rfl) rfl
theorem q474 : (Jvm.Cond.selects "DyeLattice$Lattice" ({ cls := "DyeLattice$Lattice", name := "sourcesOf", desc := "(I)I" } : Jvm.MethodName) ({ cls := "DyeLattice$Lattice", name := "sourcesOf", desc := "(I)I" } : Jvm.MethodName)) ∈ lw_all := lw_g (lw_at lw_m2 151 rfl) rfl
theorem q475 : (Jvm.Cond.code ({ cls := "DyeLattice$Lattice", name := "sourcesOf", desc := "(I)I" } : Jvm.MethodName) prog_4_method_16_code (7 : Nat) (Option.some Jvm.ClassFile.FieldType.int)) ∈ lw_all := lw_g (lw_at lw_m2 152 rfl) rfl
theorem q932 : (Jvm.Cond.instanceMethod ({ cls := "DyeLattice$Lattice", name := "step", desc := "()I" } : Jvm.MethodName)) ∈ lw_all := lw_g (lw_at lw_m4 129 rfl) rfl
theorem q933 : (Jvm.Cond.selects "DyeLattice$Lattice" ({ cls := "DyeLattice$Lattice", name := "step", desc := "()I" } : Jvm.MethodName) ({ cls := "DyeLattice$Lattice", name := "step", desc := "()I" } : Jvm.MethodName)) ∈ lw_all := lw_g (lw_at lw_m4 130 rfl) rfl
theorem q934 : (Jvm.Cond.code ({ cls := "DyeLattice$Lattice", name := "step", desc := "()I" } : Jvm.MethodName) prog_4_method_28_code (5 : Nat) (Option.some Jvm.ClassFile.FieldType.int)) ∈ lw_all := lw_g (lw_at lw_m4 131 rfl) rfl
theorem q935 : (Jvm.Cond.methodLink "DyeLattice$Lattice" (164 : Nat) ({ cls := "DyeLattice$Lattice", name := "isMoving", desc := "(I)Z" } : Jvm.MethodName)) ∈ lw_all := lw_g (lw_at lw_m4 132 rfl) rfl
theorem q936 : (Jvm.Cond.privateMethod ({ cls := "DyeLattice$Lattice", name := "isMoving", desc := "(I)Z" } : Jvm.MethodName)) ∈ lw_tbl := lw_at lw_m4 133 rfl
theorem q937 : (Jvm.Cond.instanceMethod ({ cls := "DyeLattice$Lattice", name := "isMoving", desc := "(I)Z" } : Jvm.MethodName)) ∈ lw_all := lw_g (lw_at lw_m4 134 rfl) rfl
theorem q938 : (Jvm.Cond.code ({ cls := "DyeLattice$Lattice", name := "isMoving", desc := "(I)Z" } : Jvm.MethodName) prog_4_method_25_code (2 : Nat) (Option.some Jvm.ClassFile.FieldType.boolean)) ∈ lw_all := lw_g (lw_at lw_m4 135 rfl) rfl
theorem q939 : (Jvm.Cond.methodLink "DyeLattice$Lattice" (173 : Nat) ({ cls := "DyeLattice$Lattice", name := "coming", desc := "(IZ)I" } : Jvm.MethodName)) ∈ lw_all := lw_g (lw_at lw_m4 136 rfl) rfl
theorem q940 : (Jvm.Cond.privateMethod ({ cls := "DyeLattice$Lattice", name := "coming", desc := "(IZ)I" } : Jvm.MethodName)) ∈ lw_tbl := lw_at lw_m4 137 rfl
theorem q941 : (Jvm.Cond.instanceMethod ({ cls := "DyeLattice$Lattice", name := "coming", desc := "(IZ)I" } : Jvm.MethodName)) ∈ lw_all := lw_g (lw_at lw_m4 138 rfl) rfl
theorem q942 : (Jvm.Cond.code ({ cls := "DyeLattice$Lattice", name := "coming", desc := "(IZ)I" } : Jvm.MethodName) prog_4_method_26_code (7 : Nat) (Option.some Jvm.ClassFile.FieldType.int)) ∈ lw_all := lw_g (lw_at lw_m4 139 rfl) rfl
theorem q943 : (Jvm.Cond.methodLink "DyeLattice$Lattice" (112 : Nat) ({ cls := "DyeLattice$Lattice", name := "first", desc := "(II)I" } : Jvm.MethodName)) ∈ lw_all := lw_g (lw_at lw_m4 140 rfl) rfl
theorem q944 : (Jvm.Cond.privateMethod ({ cls := "DyeLattice$Lattice", name := "first", desc := "(II)I" } : Jvm.MethodName)) ∈ lw_tbl := lw_at lw_m4 141 rfl
theorem q945 : (Jvm.Cond.instanceMethod ({ cls := "DyeLattice$Lattice", name := "first", desc := "(II)I" } : Jvm.MethodName)) ∈ lw_all := lw_g (lw_at lw_m4 142 rfl) rfl
theorem q946 : (Jvm.Cond.code ({ cls := "DyeLattice$Lattice", name := "first", desc := "(II)I" } : Jvm.MethodName) prog_4_method_9_code (3 : Nat) (Option.some Jvm.ClassFile.FieldType.int)) ∈ lw_all := lw_g (lw_at lw_m4 143 rfl) rfl
theorem q947 : (Jvm.Cond.methodLink "DyeLattice$Lattice" (167 : Nat) ({ cls := "DyeLattice$Valve", name := "lets", desc := "(ZZ)Z" } : Jvm.MethodName)) ∈ lw_all := lw_g (lw_at lw_m4 144 rfl) rfl
theorem q965 : (Jvm.Cond.methodLink "DyeLattice$Lattice" (177 : Nat) ({ cls := "java/lang/Integer", name := "bitCount", desc := "(I)I" } : Jvm.MethodName)) ∈ lw_all := lw_g (lw_at lw_m4 162 rfl) rfl
theorem q966 : (Jvm.Cond.methodLink "DyeLattice$Lattice" (182 : Nat) ({ cls := "DyeLattice$Lattice", name := "reacts", desc := "(I)Z" } : Jvm.MethodName)) ∈ lw_all := lw_g (lw_at lw_m4 163 rfl) rfl
theorem q967 : (Jvm.Cond.privateMethod ({ cls := "DyeLattice$Lattice", name := "reacts", desc := "(I)Z" } : Jvm.MethodName)) ∈ lw_tbl := lw_at lw_m4 164 rfl
theorem q968 : (Jvm.Cond.instanceMethod ({ cls := "DyeLattice$Lattice", name := "reacts", desc := "(I)Z" } : Jvm.MethodName)) ∈ lw_all := lw_g (lw_at lw_m4 165 rfl) rfl
theorem q969 : (Jvm.Cond.code ({ cls := "DyeLattice$Lattice", name := "reacts", desc := "(I)Z" } : Jvm.MethodName) prog_4_method_27_code (5 : Nat) (Option.some Jvm.ClassFile.FieldType.boolean)) ∈ lw_all := lw_g (lw_at lw_m4 166 rfl) rfl
theorem q970 : (Jvm.Cond.methodLinkNest "DyeLattice$Lattice" (170 : Nat) ({ cls := "DyeLattice", name := "pair", desc := "(II)I" } : Jvm.MethodName) "DyeLattice") ∈ lw_tbl := lw_at lw_m4 167 rfl
theorem q1002 : (Jvm.Cond.instanceMethod ({ cls := "DyeLattice$Lattice", name := "clusters", desc := "(I)[I" } : Jvm.MethodName)) ∈ lw_all := lw_g (lw_at lw_m4 199 rfl) rfl
theorem q1003 : (Jvm.Cond.selects "DyeLattice$Lattice" ({ cls := "DyeLattice$Lattice", name := "clusters", desc := "(I)[I" } : Jvm.MethodName) ({ cls := "DyeLattice$Lattice", name := "clusters", desc := "(I)[I" } : Jvm.MethodName)) ∈ lw_all := lw_g (lw_at lw_m4 200 rfl) rfl
theorem q1004 : (Jvm.Cond.code ({ cls := "DyeLattice$Lattice", name := "clusters", desc := "(I)[I" } : Jvm.MethodName) prog_4_method_23_code (5 : Nat) (Option.some (Jvm.ClassFile.FieldType.array Jvm.ClassFile.FieldType.int))) ∈ lw_all := lw_g (lw_at lw_m4 201 rfl) rfl
theorem q1005 : (Jvm.Cond.methodLink "DyeLattice$Lattice" (158 : Nat) ({ cls := "DyeLattice$Lattice", name := "mark", desc := "([IIII)V" } : Jvm.MethodName)) ∈ lw_all := lw_g (lw_at lw_m4 202 rfl) rfl
theorem q1006 : (Jvm.Cond.privateMethod ({ cls := "DyeLattice$Lattice", name := "mark", desc := "([IIII)V" } : Jvm.MethodName)) ∈ lw_tbl := lw_at lw_m4 203 rfl
theorem q1007 : (Jvm.Cond.instanceMethod ({ cls := "DyeLattice$Lattice", name := "mark", desc := "([IIII)V" } : Jvm.MethodName)) ∈ lw_all := lw_g (lw_at lw_m4 204 rfl) rfl
theorem q1008 : (Jvm.Cond.code ({ cls := "DyeLattice$Lattice", name := "mark", desc := "([IIII)V" } : Jvm.MethodName) prog_4_method_24_code (7 : Nat) (Option.none : Option Jvm.ClassFile.FieldType)) ∈ lw_all := lw_g (lw_at lw_m4 205 rfl) rfl
theorem q1009 : (Jvm.Cond.privateMethod ({ cls := "DyeLattice$Lattice", name := "lambda$mark$7", desc := "(II)Z" } : Jvm.MethodName)) ∈ lw_tbl := lw_at lw_m4 206 rfl
theorem q1010 : (Jvm.Cond.instanceMethod ({ cls := "DyeLattice$Lattice", name := "lambda$mark$7", desc := "(II)Z" } : Jvm.MethodName)) ∈ lw_all := lw_g (lw_at lw_m4 207 rfl) rfl
theorem q1011 : (Jvm.Cond.code ({ cls := "DyeLattice$Lattice", name := "lambda$mark$7", desc := "(II)Z" } : Jvm.MethodName) prog_4_method_33_code (3 : Nat) (Option.some Jvm.ClassFile.FieldType.boolean)) ∈ lw_all := lw_g (lw_at lw_m4 208 rfl) rfl
theorem q1012 : (Jvm.Cond.static ({ cls := "DyeLattice$Lattice", name := "lambda$mark$8", desc := "(LDyeLattice$Valve;Z)Z" } : Jvm.MethodName)) ∈ lw_all := lw_g (lw_at lw_m4 209 rfl) rfl
theorem q1013 : (Jvm.Cond.code ({ cls := "DyeLattice$Lattice", name := "lambda$mark$8", desc := "(LDyeLattice$Valve;Z)Z" } : Jvm.MethodName) prog_4_method_32_code (2 : Nat) (Option.some Jvm.ClassFile.FieldType.boolean)) ∈ lw_all := lw_g (lw_at lw_m4 210 rfl) rfl
theorem q1014 : (Jvm.Cond.fieldLink "DyeLattice$Lattice" (200 : Nat) "DyeLattice$Valve" "SHUT" "LDyeLattice$Valve;") ∈ lw_all := lw_g (lw_at lw_m4 211 rfl) rfl
theorem q1016 : (Jvm.Cond.methodLink "DyeLattice$Lattice" (136 : Nat) ({ cls := "DyeLattice$Lattice", name := "flood", desc := "([ZLDyeLattice$CellTest;LDyeLattice$ValveTest;)V" } : Jvm.MethodName)) ∈ lw_all := lw_g (lw_at lw_m4 213 rfl) rfl
theorem q1017 : (Jvm.Cond.privateMethod ({ cls := "DyeLattice$Lattice", name := "flood", desc := "([ZLDyeLattice$CellTest;LDyeLattice$ValveTest;)V" } : Jvm.MethodName)) ∈ lw_tbl := lw_at lw_m4 214 rfl
theorem q1018 : (Jvm.Cond.instanceMethod ({ cls := "DyeLattice$Lattice", name := "flood", desc := "([ZLDyeLattice$CellTest;LDyeLattice$ValveTest;)V" } : Jvm.MethodName)) ∈ lw_all := lw_g (lw_at lw_m4 215 rfl) rfl
theorem q1019 : (Jvm.Cond.code ({ cls := "DyeLattice$Lattice", name := "flood", desc := "([ZLDyeLattice$CellTest;LDyeLattice$ValveTest;)V" } : Jvm.MethodName) prog_4_method_18_code (10 : Nat) (Option.none : Option Jvm.ClassFile.FieldType)) ∈ lw_all := lw_g (lw_at lw_m4 216 rfl) rfl
theorem q1020 : (Jvm.Cond.interfaceEntry "DyeLattice$Lattice" (122 : Nat)) ∈ lw_tbl := lw_at lw_m4 217 rfl
theorem q1021 : (Jvm.Cond.methodLink "DyeLattice$Lattice" (122 : Nat) ({ cls := "DyeLattice$CellTest", name := "is", desc := "(I)Z" } : Jvm.MethodName)) ∈ lw_all := lw_g (lw_at lw_m4 218 rfl) rfl
theorem q1024 : (Jvm.Cond.interfaceEntry "DyeLattice$Lattice" (127 : Nat)) ∈ lw_tbl := lw_at lw_m4 221 rfl
theorem q1025 : (Jvm.Cond.methodLink "DyeLattice$Lattice" (127 : Nat) ({ cls := "DyeLattice$ValveTest", name := "lets", desc := "(LDyeLattice$Valve;Z)Z" } : Jvm.MethodName)) ∈ lw_all := lw_g (lw_at lw_m4 222 rfl) rfl
theorem q1042 : (Jvm.Cond.instanceMethod ({ cls := "DyeLattice$Lattice", name := "bondsAt", desc := "(I)I" } : Jvm.MethodName)) ∈ lw_all := lw_g (lw_at lw_m4 239 rfl) rfl
theorem q1043 : (Jvm.Cond.selects "DyeLattice$Lattice" ({ cls := "DyeLattice$Lattice", name := "bondsAt", desc := "(I)I" } : Jvm.MethodName) ({ cls := "DyeLattice$Lattice", name := "bondsAt", desc := "(I)I" } : Jvm.MethodName)) ∈ lw_all := lw_g (lw_at lw_m5 0 rfl) rfl
theorem q1044 : (Jvm.Cond.code ({ cls := "DyeLattice$Lattice", name := "bondsAt", desc := "(I)I" } : Jvm.MethodName) prog_4_method_12_code (4 : Nat) (Option.some Jvm.ClassFile.FieldType.int)) ∈ lw_all := lw_g (lw_at lw_m5 1 rfl) rfl
theorem q1054 : (Jvm.Cond.instanceMethod ({ cls := "DyeLattice$Lattice", name := "dyed", desc := "(I)I" } : Jvm.MethodName)) ∈ lw_all := lw_g (lw_at lw_m5 11 rfl) rfl
theorem q1055 : (Jvm.Cond.selects "DyeLattice$Lattice" ({ cls := "DyeLattice$Lattice", name := "dyed", desc := "(I)I" } : Jvm.MethodName) ({ cls := "DyeLattice$Lattice", name := "dyed", desc := "(I)I" } : Jvm.MethodName)) ∈ lw_all := lw_g (lw_at lw_m5 12 rfl) rfl
theorem q1056 : (Jvm.Cond.code ({ cls := "DyeLattice$Lattice", name := "dyed", desc := "(I)I" } : Jvm.MethodName) prog_4_method_17_code (7 : Nat) (Option.some Jvm.ClassFile.FieldType.int)) ∈ lw_all := lw_g (lw_at lw_m5 13 rfl) rfl
theorem q1062 : (Jvm.Cond.instanceMethod ({ cls := "DyeLattice$Lattice", name := "reach", desc := "(I)I" } : Jvm.MethodName)) ∈ lw_all := lw_g (lw_at lw_m5 19 rfl) rfl
theorem q1063 : (Jvm.Cond.selects "DyeLattice$Lattice" ({ cls := "DyeLattice$Lattice", name := "reach", desc := "(I)I" } : Jvm.MethodName) ({ cls := "DyeLattice$Lattice", name := "reach", desc := "(I)I" } : Jvm.MethodName)) ∈ lw_all := lw_g (lw_at lw_m5 20 rfl) rfl
theorem q1064 : (Jvm.Cond.code ({ cls := "DyeLattice$Lattice", name := "reach", desc := "(I)I" } : Jvm.MethodName) prog_4_method_22_code (7 : Nat) (Option.some Jvm.ClassFile.FieldType.int)) ∈ lw_all := lw_g (lw_at lw_m5 21 rfl) rfl
theorem q1065 : (Jvm.Cond.privateMethod ({ cls := "DyeLattice$Lattice", name := "lambda$reach$5", desc := "(II)Z" } : Jvm.MethodName)) ∈ lw_tbl := lw_at lw_m5 22 rfl
theorem q1066 : (Jvm.Cond.instanceMethod ({ cls := "DyeLattice$Lattice", name := "lambda$reach$5", desc := "(II)Z" } : Jvm.MethodName)) ∈ lw_all := lw_g (lw_at lw_m5 23 rfl) rfl
theorem q1067 : (Jvm.Cond.code ({ cls := "DyeLattice$Lattice", name := "lambda$reach$5", desc := "(II)Z" } : Jvm.MethodName) prog_4_method_35_code (3 : Nat) (Option.some Jvm.ClassFile.FieldType.boolean)) ∈ lw_all := lw_g (lw_at lw_m5 24 rfl) rfl
theorem q1068 : (Jvm.Cond.privateMethod ({ cls := "DyeLattice$Lattice", name := "lambda$reach$6", desc := "(I)Z" } : Jvm.MethodName)) ∈ lw_tbl := lw_at lw_m5 25 rfl
theorem q1069 : (Jvm.Cond.instanceMethod ({ cls := "DyeLattice$Lattice", name := "lambda$reach$6", desc := "(I)Z" } : Jvm.MethodName)) ∈ lw_all := lw_g (lw_at lw_m5 26 rfl) rfl
theorem q1070 : (Jvm.Cond.code ({ cls := "DyeLattice$Lattice", name := "lambda$reach$6", desc := "(I)Z" } : Jvm.MethodName) prog_4_method_34_code (2 : Nat) (Option.some Jvm.ClassFile.FieldType.boolean)) ∈ lw_all := lw_g (lw_at lw_m5 27 rfl) rfl
theorem q1071 : (Jvm.Cond.methodLink "DyeLattice$Lattice" (146 : Nat) ({ cls := "DyeLattice$Lattice", name := "reached", desc := "(LDyeLattice$CellTest;LDyeLattice$CellTest;)[Z" } : Jvm.MethodName)) ∈ lw_all := lw_g (lw_at lw_m5 28 rfl) rfl
theorem q1072 : (Jvm.Cond.privateMethod ({ cls := "DyeLattice$Lattice", name := "reached", desc := "(LDyeLattice$CellTest;LDyeLattice$CellTest;)[Z" } : Jvm.MethodName)) ∈ lw_tbl := lw_at lw_m5 29 rfl
theorem q1073 : (Jvm.Cond.instanceMethod ({ cls := "DyeLattice$Lattice", name := "reached", desc := "(LDyeLattice$CellTest;LDyeLattice$CellTest;)[Z" } : Jvm.MethodName)) ∈ lw_all := lw_g (lw_at lw_m5 30 rfl) rfl
theorem q1074 : (Jvm.Cond.code ({ cls := "DyeLattice$Lattice", name := "reached", desc := "(LDyeLattice$CellTest;LDyeLattice$CellTest;)[Z" } : Jvm.MethodName) prog_4_method_19_code (5 : Nat) (Option.some (Jvm.ClassFile.FieldType.array Jvm.ClassFile.FieldType.boolean))) ∈ lw_all := lw_g (lw_at lw_m5 31 rfl) rfl
theorem q1075 : (Jvm.Cond.static ({ cls := "DyeLattice$Lattice", name := "lambda$reached$0", desc := "(LDyeLattice$Valve;Z)Z" } : Jvm.MethodName)) ∈ lw_all := lw_g (lw_at lw_m5 32 rfl) rfl
theorem q1076 : (Jvm.Cond.code ({ cls := "DyeLattice$Lattice", name := "lambda$reached$0", desc := "(LDyeLattice$Valve;Z)Z" } : Jvm.MethodName) prog_4_method_40_code (2 : Nat) (Option.some Jvm.ClassFile.FieldType.boolean)) ∈ lw_all := lw_g (lw_at lw_m5 33 rfl) rfl
theorem q1100 : (Jvm.Cond.instanceMethod ({ cls := "DyeLattice$Lattice", name := "spans", desc := "(II)Z" } : Jvm.MethodName)) ∈ lw_all := lw_g (lw_at lw_m5 57 rfl) rfl
theorem q1101 : (Jvm.Cond.selects "DyeLattice$Lattice" ({ cls := "DyeLattice$Lattice", name := "spans", desc := "(II)Z" } : Jvm.MethodName) ({ cls := "DyeLattice$Lattice", name := "spans", desc := "(II)Z" } : Jvm.MethodName)) ∈ lw_all := lw_g (lw_at lw_m5 58 rfl) rfl
theorem q1102 : (Jvm.Cond.code ({ cls := "DyeLattice$Lattice", name := "spans", desc := "(II)Z" } : Jvm.MethodName) prog_4_method_20_code (6 : Nat) (Option.some Jvm.ClassFile.FieldType.boolean)) ∈ lw_all := lw_g (lw_at lw_m5 59 rfl) rfl
theorem q1103 : (Jvm.Cond.privateMethod ({ cls := "DyeLattice$Lattice", name := "lambda$spans$1", desc := "(I)Z" } : Jvm.MethodName)) ∈ lw_tbl := lw_at lw_m5 60 rfl
theorem q1104 : (Jvm.Cond.instanceMethod ({ cls := "DyeLattice$Lattice", name := "lambda$spans$1", desc := "(I)Z" } : Jvm.MethodName)) ∈ lw_all := lw_g (lw_at lw_m5 61 rfl) rfl
theorem q1105 : (Jvm.Cond.code ({ cls := "DyeLattice$Lattice", name := "lambda$spans$1", desc := "(I)Z" } : Jvm.MethodName) prog_4_method_39_code (2 : Nat) (Option.some Jvm.ClassFile.FieldType.boolean)) ∈ lw_all := lw_g (lw_at lw_m5 62 rfl) rfl
theorem q1106 : (Jvm.Cond.privateMethod ({ cls := "DyeLattice$Lattice", name := "lambda$spans$2", desc := "(III)Z" } : Jvm.MethodName)) ∈ lw_tbl := lw_at lw_m5 63 rfl
theorem q1107 : (Jvm.Cond.instanceMethod ({ cls := "DyeLattice$Lattice", name := "lambda$spans$2", desc := "(III)Z" } : Jvm.MethodName)) ∈ lw_all := lw_g (lw_at lw_m5 64 rfl) rfl
theorem q1108 : (Jvm.Cond.code ({ cls := "DyeLattice$Lattice", name := "lambda$spans$2", desc := "(III)Z" } : Jvm.MethodName) prog_4_method_38_code (4 : Nat) (Option.some Jvm.ClassFile.FieldType.boolean)) ∈ lw_all := lw_g (lw_at lw_m5 65 rfl) rfl
theorem q1114 : (Jvm.Cond.instanceMethod ({ cls := "DyeLattice$Lattice", name := "spanningThreshold", desc := "()I" } : Jvm.MethodName)) ∈ lw_all := lw_g (lw_at lw_m5 71 rfl) rfl
theorem q1115 : (Jvm.Cond.selects "DyeLattice$Lattice" ({ cls := "DyeLattice$Lattice", name := "spanningThreshold", desc := "()I" } : Jvm.MethodName) ({ cls := "DyeLattice$Lattice", name := "spanningThreshold", desc := "()I" } : Jvm.MethodName)) ∈ lw_all := lw_g (lw_at lw_m5 72 rfl) rfl
theorem q1116 : (Jvm.Cond.code ({ cls := "DyeLattice$Lattice", name := "spanningThreshold", desc := "()I" } : Jvm.MethodName) prog_4_method_30_code (1 : Nat) (Option.some Jvm.ClassFile.FieldType.int)) ∈ lw_all := lw_g (lw_at lw_m5 73 rfl) rfl
theorem q1117 : (Jvm.Cond.privateMethod ({ cls := "DyeLattice$Lattice", name := "lambda$spanningThreshold$9", desc := "(I)Z" } : Jvm.MethodName)) ∈ lw_tbl := lw_at lw_m5 74 rfl
theorem q1118 : (Jvm.Cond.instanceMethod ({ cls := "DyeLattice$Lattice", name := "lambda$spanningThreshold$9", desc := "(I)Z" } : Jvm.MethodName)) ∈ lw_all := lw_g (lw_at lw_m5 75 rfl) rfl
theorem q1119 : (Jvm.Cond.code ({ cls := "DyeLattice$Lattice", name := "lambda$spanningThreshold$9", desc := "(I)Z" } : Jvm.MethodName) prog_4_method_31_code (2 : Nat) (Option.some Jvm.ClassFile.FieldType.boolean)) ∈ lw_all := lw_g (lw_at lw_m5 76 rfl) rfl
theorem q1120 : (Jvm.Cond.methodLink "DyeLattice$Lattice" (197 : Nat) ({ cls := "DyeLattice$Lattice", name := "spans", desc := "(II)Z" } : Jvm.MethodName)) ∈ lw_all := lw_g (lw_at lw_m5 77 rfl) rfl
theorem q1121 : (Jvm.Cond.methodLink "DyeLattice$Lattice" (193 : Nat) ({ cls := "DyeLattice$Lattice", name := "smallest", desc := "(LDyeLattice$ThresholdTest;)I" } : Jvm.MethodName)) ∈ lw_all := lw_g (lw_at lw_m5 78 rfl) rfl
theorem q1122 : (Jvm.Cond.static ({ cls := "DyeLattice$Lattice", name := "smallest", desc := "(LDyeLattice$ThresholdTest;)I" } : Jvm.MethodName)) ∈ lw_all := lw_g (lw_at lw_m5 79 rfl) rfl
theorem q1123 : (Jvm.Cond.code ({ cls := "DyeLattice$Lattice", name := "smallest", desc := "(LDyeLattice$ThresholdTest;)I" } : Jvm.MethodName) prog_4_method_29_code (5 : Nat) (Option.some Jvm.ClassFile.FieldType.int)) ∈ lw_all := lw_g (lw_at lw_m5 80 rfl) rfl
theorem q1124 : (Jvm.Cond.interfaceEntry "DyeLattice$Lattice" (185 : Nat)) ∈ lw_tbl := lw_at lw_m5 81 rfl
theorem q1125 : (Jvm.Cond.methodLink "DyeLattice$Lattice" (185 : Nat) ({ cls := "DyeLattice$ThresholdTest", name := "holds", desc := "(I)Z" } : Jvm.MethodName)) ∈ lw_all := lw_g (lw_at lw_m5 82 rfl) rfl
theorem q1140 : (Jvm.Cond.instanceMethod ({ cls := "DyeLattice$Lattice", name := "hasWay", desc := "(III)Z" } : Jvm.MethodName)) ∈ lw_all := lw_g (lw_at lw_m5 97 rfl) rfl
theorem q1141 : (Jvm.Cond.selects "DyeLattice$Lattice" ({ cls := "DyeLattice$Lattice", name := "hasWay", desc := "(III)Z" } : Jvm.MethodName) ({ cls := "DyeLattice$Lattice", name := "hasWay", desc := "(III)Z" } : Jvm.MethodName)) ∈ lw_all := lw_g (lw_at lw_m5 98 rfl) rfl
theorem q1142 : (Jvm.Cond.code ({ cls := "DyeLattice$Lattice", name := "hasWay", desc := "(III)Z" } : Jvm.MethodName) prog_4_method_21_code (4 : Nat) (Option.some Jvm.ClassFile.FieldType.boolean)) ∈ lw_all := lw_g (lw_at lw_m5 99 rfl) rfl
theorem q1143 : (Jvm.Cond.static ({ cls := "DyeLattice$Lattice", name := "lambda$hasWay$3", desc := "(II)Z" } : Jvm.MethodName)) ∈ lw_all := lw_g (lw_at lw_m5 100 rfl) rfl
theorem q1144 : (Jvm.Cond.code ({ cls := "DyeLattice$Lattice", name := "lambda$hasWay$3", desc := "(II)Z" } : Jvm.MethodName) prog_4_method_37_code (2 : Nat) (Option.some Jvm.ClassFile.FieldType.boolean)) ∈ lw_all := lw_g (lw_at lw_m5 101 rfl) rfl
theorem q1145 : (Jvm.Cond.privateMethod ({ cls := "DyeLattice$Lattice", name := "lambda$hasWay$4", desc := "(II)Z" } : Jvm.MethodName)) ∈ lw_tbl := lw_at lw_m5 102 rfl
theorem q1146 : (Jvm.Cond.instanceMethod ({ cls := "DyeLattice$Lattice", name := "lambda$hasWay$4", desc := "(II)Z" } : Jvm.MethodName)) ∈ lw_all := lw_g (lw_at lw_m5 103 rfl) rfl
theorem q1147 : (Jvm.Cond.code ({ cls := "DyeLattice$Lattice", name := "lambda$hasWay$4", desc := "(II)Z" } : Jvm.MethodName) prog_4_method_36_code (3 : Nat) (Option.some Jvm.ClassFile.FieldType.boolean)) ∈ lw_all := lw_g (lw_at lw_m5 104 rfl) rfl
theorem q1549 : (Jvm.Cond.castable "DyeLattice$Lattice" "java/lang/Object") ∈ lw_tbl := lw_at lw_m7 26 rfl
theorem q1579 : (Jvm.Cond.fieldLinkNest "DyeLattice$Lattice" (102 : Nat) "DyeLattice$Kind" "directions" "I" "DyeLattice") ∈ lw_tbl := lw_at lw_m7 56 rfl
