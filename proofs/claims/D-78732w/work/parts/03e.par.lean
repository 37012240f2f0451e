/-! DyeLattice$Parser -/
set_option maxRecDepth 100000
abbrev cX5_init : ByteArray := prog_6_method_1_code
def yX5_init : MethodName := ⟨RX5, "<init>", "(LDyeLattice;)V"⟩
def dkwX5_init_1 : List UInt8 := [187, 0, 24, 89, 3, 16, 32, 183, 0, 26, 181, 0, 29, 177]
abbrev dktX5_init_1 : List UInt8 := dkwX5_init_1 ++ []
def dkwX5_init_0 : List UInt8 := [42, 43, 181, 0, 3, 42, 183, 0, 9, 42, 187, 0, 15, 89, 7, 7, 183, 0, 17, 181, 0, 20, 42]
abbrev dktX5_init_0 : List UInt8 := dkwX5_init_0 ++ dktX5_init_1
theorem dksX5_init_0 : cX5_init.data.toList.drop 0 = dktX5_init_0 := by decide +kernel
theorem dksX5_init_1 : cX5_init.data.toList.drop 23 = dktX5_init_1 := dk_seg dksX5_init_0 23 rfl rfl
theorem dX5_init_0 : decode cX5_init 0 = .ok (.aload_n 0, 1) := dk_42 (dk_at dksX5_init_0 0 rfl rfl)
theorem dX5_init_1 : decode cX5_init 1 = .ok (.aload_n 1, 1) := dk_43 (dk_at dksX5_init_0 1 rfl rfl)
theorem dX5_init_2 : decode cX5_init 2 = .ok (.putfield 3, 3) := dk_181 0 3 (dk_at dksX5_init_0 2 rfl rfl)
theorem dX5_init_5 : decode cX5_init 5 = .ok (.aload_n 0, 1) := dk_42 (dk_at dksX5_init_0 5 rfl rfl)
theorem dX5_init_6 : decode cX5_init 6 = .ok (.invokespecial 9, 3) := dk_183 0 9 (dk_at dksX5_init_0 6 rfl rfl)
theorem dX5_init_9 : decode cX5_init 9 = .ok (.aload_n 0, 1) := dk_42 (dk_at dksX5_init_0 9 rfl rfl)
theorem dX5_init_10 : decode cX5_init 10 = .ok (.new 15, 3) := dk_187 0 15 (dk_at dksX5_init_0 10 rfl rfl)
theorem dX5_init_13 : decode cX5_init 13 = .ok (.dup, 1) := dk_89 (dk_at dksX5_init_0 13 rfl rfl)
theorem dX5_init_14 : decode cX5_init 14 = .ok (.iconst 4, 1) := dk_7 (dk_at dksX5_init_0 14 rfl rfl)
theorem dX5_init_15 : decode cX5_init 15 = .ok (.iconst 4, 1) := dk_7 (dk_at dksX5_init_0 15 rfl rfl)
theorem dX5_init_16 : decode cX5_init 16 = .ok (.invokespecial 17, 3) := dk_183 0 17 (dk_at dksX5_init_0 16 rfl rfl)
theorem dX5_init_19 : decode cX5_init 19 = .ok (.putfield 20, 3) := dk_181 0 20 (dk_at dksX5_init_0 19 rfl rfl)
theorem dX5_init_22 : decode cX5_init 22 = .ok (.aload_n 0, 1) := dk_42 (dk_at dksX5_init_0 22 rfl rfl)
theorem dX5_init_23 : decode cX5_init 23 = .ok (.new 24, 3) := dk_187 0 24 (dk_at dksX5_init_1 0 rfl rfl)
theorem dX5_init_26 : decode cX5_init 26 = .ok (.dup, 1) := dk_89 (dk_at dksX5_init_1 3 rfl rfl)
theorem dX5_init_27 : decode cX5_init 27 = .ok (.iconst 0, 1) := dk_3 (dk_at dksX5_init_1 4 rfl rfl)
theorem dX5_init_28 : decode cX5_init 28 = .ok (.bipush 32, 2) := dk_16 32 (dk_at dksX5_init_1 5 rfl rfl)
theorem dX5_init_30 : decode cX5_init 30 = .ok (.invokespecial 26, 3) := dk_183 0 26 (dk_at dksX5_init_1 7 rfl rfl)
theorem dX5_init_33 : decode cX5_init 33 = .ok (.putfield 29, 3) := dk_181 0 29 (dk_at dksX5_init_1 10 rfl rfl)
theorem dX5_init_36 : decode cX5_init 36 = .ok (.return_, 1) := dk_177 (dk_at dksX5_init_1 13 rfl rfl)
abbrev cX5_items : ByteArray := prog_6_method_13_code
def yX5_items : MethodName := ⟨RX5, "items", "()I"⟩
def dkwX5_items_1 : List UInt8 := [167, 0, 4, 3, 182, 0, 202, 132, 1, 1, 167, 255, 229, 27, 172]
abbrev dktX5_items_1 : List UInt8 := dkwX5_items_1 ++ []
def dkwX5_items_0 : List UInt8 := [3, 60, 42, 182, 0, 87, 42, 180, 0, 29, 3, 182, 0, 198, 154, 0, 22, 42, 27, 154, 0, 7, 4]
abbrev dktX5_items_0 : List UInt8 := dkwX5_items_0 ++ dktX5_items_1
theorem dksX5_items_0 : cX5_items.data.toList.drop 0 = dktX5_items_0 := by decide +kernel
theorem dksX5_items_1 : cX5_items.data.toList.drop 23 = dktX5_items_1 := dk_seg dksX5_items_0 23 rfl rfl
theorem dX5_items_0 : decode cX5_items 0 = .ok (.iconst 0, 1) := dk_3 (dk_at dksX5_items_0 0 rfl rfl)
theorem dX5_items_1 : decode cX5_items 1 = .ok (.istore_n 1, 1) := dk_60 (dk_at dksX5_items_0 1 rfl rfl)
theorem dX5_items_2 : decode cX5_items 2 = .ok (.aload_n 0, 1) := dk_42 (dk_at dksX5_items_0 2 rfl rfl)
theorem dX5_items_3 : decode cX5_items 3 = .ok (.invokevirtual 87, 3) := dk_182 0 87 (dk_at dksX5_items_0 3 rfl rfl)
theorem dX5_items_6 : decode cX5_items 6 = .ok (.aload_n 0, 1) := dk_42 (dk_at dksX5_items_0 6 rfl rfl)
theorem dX5_items_7 : decode cX5_items 7 = .ok (.getfield 29, 3) := dk_180 0 29 (dk_at dksX5_items_0 7 rfl rfl)
theorem dX5_items_10 : decode cX5_items 10 = .ok (.iconst 0, 1) := dk_3 (dk_at dksX5_items_0 10 rfl rfl)
theorem dX5_items_11 : decode cX5_items 11 = .ok (.invokevirtual 198, 3) := dk_182 0 198 (dk_at dksX5_items_0 11 rfl rfl)
theorem dX5_items_14 : decode cX5_items 14 = .ok (.ifCond .ne 22, 3) := dk_154 0 22 (dk_at dksX5_items_0 14 rfl rfl)
theorem dX5_items_17 : decode cX5_items 17 = .ok (.aload_n 0, 1) := dk_42 (dk_at dksX5_items_0 17 rfl rfl)
theorem dX5_items_18 : decode cX5_items 18 = .ok (.iload_n 1, 1) := dk_27 (dk_at dksX5_items_0 18 rfl rfl)
theorem dX5_items_19 : decode cX5_items 19 = .ok (.ifCond .ne 7, 3) := dk_154 0 7 (dk_at dksX5_items_0 19 rfl rfl)
theorem dX5_items_22 : decode cX5_items 22 = .ok (.iconst 1, 1) := dk_4 (dk_at dksX5_items_0 22 rfl rfl)
theorem dX5_items_23 : decode cX5_items 23 = .ok (.goto 4, 3) := dk_167 0 4 (dk_at dksX5_items_1 0 rfl rfl)
theorem dX5_items_26 : decode cX5_items 26 = .ok (.iconst 0, 1) := dk_3 (dk_at dksX5_items_1 3 rfl rfl)
theorem dX5_items_27 : decode cX5_items 27 = .ok (.invokevirtual 202, 3) := dk_182 0 202 (dk_at dksX5_items_1 4 rfl rfl)
theorem dX5_items_30 : decode cX5_items 30 = .ok (.iinc 1 1, 3) := dk_132 1 1 (dk_at dksX5_items_1 7 rfl rfl)
theorem dX5_items_33 : decode cX5_items 33 = .ok (.goto (-27), 3) := dk_167 255 229 (dk_at dksX5_items_1 10 rfl rfl)
theorem dX5_items_36 : decode cX5_items 36 = .ok (.iload_n 1, 1) := dk_27 (dk_at dksX5_items_1 13 rfl rfl)
theorem dX5_items_37 : decode cX5_items 37 = .ok (.ireturn, 1) := dk_172 (dk_at dksX5_items_1 14 rfl rfl)
abbrev cX5_advance : ByteArray := prog_6_method_3_code
def yX5_advance : MethodName := ⟨RX5, "advance", "()V"⟩
def dkwX5_advance_10 : List UInt8 := [154, 0, 7, 3, 167, 0, 4, 4, 96, 181, 0, 33, 177]
abbrev dktX5_advance_10 : List UInt8 := dkwX5_advance_10 ++ []
def dkwX5_advance_9 : List UInt8 := [187, 0, 24, 89, 27, 42, 182, 0, 51, 183, 0, 26, 181, 0, 29, 42, 89, 180, 0, 33, 42, 182, 0, 51]
abbrev dktX5_advance_9 : List UInt8 := dkwX5_advance_9 ++ dktX5_advance_10
def dkwX5_advance_8 : List UInt8 := [182, 0, 47, 16, 48, 160, 0, 8, 16, 247, 167, 0, 4, 28, 183, 0, 76, 181, 0, 29, 167, 0, 40, 42]
abbrev dktX5_advance_8 : List UInt8 := dkwX5_advance_8 ++ dktX5_advance_9
def dkwX5_advance_7 : List UInt8 := [187, 0, 74, 89, 27, 42, 180, 0, 33, 27, 4, 96, 164, 0, 24, 42, 180, 0, 3, 180, 0, 37, 27]
abbrev dktX5_advance_7 : List UInt8 := dkwX5_advance_7 ++ dktX5_advance_8
def dkwX5_advance_6 : List UInt8 := [100, 17, 39, 16, 184, 0, 68, 61, 42, 89, 180, 0, 33, 4, 96, 181, 0, 33, 167, 255, 213, 42]
abbrev dktX5_advance_6 : List UInt8 := dkwX5_advance_6 ++ dktX5_advance_7
def dkwX5_advance_5 : List UInt8 := [182, 0, 51, 16, 48, 16, 57, 184, 0, 55, 153, 0, 35, 16, 10, 28, 104, 42, 182, 0, 51, 96, 16, 48]
abbrev dktX5_advance_5 : List UInt8 := dkwX5_advance_5 ++ dktX5_advance_6
def dkwX5_advance_4 : List UInt8 := [181, 0, 29, 167, 0, 149, 42, 182, 0, 51, 16, 48, 16, 57, 184, 0, 55, 153, 0, 98, 3, 61, 42]
abbrev dktX5_advance_4 : List UInt8 := dkwX5_advance_4 ++ dktX5_advance_5
def dkwX5_advance_3 : List UInt8 := [187, 0, 59, 89, 27, 42, 180, 0, 3, 180, 0, 37, 27, 42, 180, 0, 33, 182, 0, 61, 183, 0, 65]
abbrev dktX5_advance_3 : List UInt8 := dkwX5_advance_3 ++ dktX5_advance_4
def dkwX5_advance_2 : List UInt8 := [16, 122, 184, 0, 55, 153, 0, 16, 42, 89, 180, 0, 33, 4, 96, 181, 0, 33, 167, 255, 232, 42]
abbrev dktX5_advance_2 : List UInt8 := dkwX5_advance_2 ++ dktX5_advance_3
def dkwX5_advance_1 : List UInt8 := [180, 0, 33, 60, 42, 182, 0, 51, 16, 97, 16, 122, 184, 0, 55, 153, 0, 60, 42, 182, 0, 51, 16, 97]
abbrev dktX5_advance_1 : List UInt8 := dkwX5_advance_1 ++ dktX5_advance_2
def dkwX5_advance_0 : List UInt8 := [42, 182, 0, 51, 16, 32, 160, 0, 16, 42, 89, 180, 0, 33, 4, 96, 181, 0, 33, 167, 255, 237, 42]
abbrev dktX5_advance_0 : List UInt8 := dkwX5_advance_0 ++ dktX5_advance_1
theorem dksX5_advance_0 : cX5_advance.data.toList.drop 0 = dktX5_advance_0 := by decide +kernel
theorem dksX5_advance_1 : cX5_advance.data.toList.drop 23 = dktX5_advance_1 := dk_seg dksX5_advance_0 23 rfl rfl
theorem dksX5_advance_2 : cX5_advance.data.toList.drop 47 = dktX5_advance_2 := dk_seg dksX5_advance_1 24 rfl rfl
theorem dksX5_advance_3 : cX5_advance.data.toList.drop 69 = dktX5_advance_3 := dk_seg dksX5_advance_2 22 rfl rfl
theorem dksX5_advance_4 : cX5_advance.data.toList.drop 92 = dktX5_advance_4 := dk_seg dksX5_advance_3 23 rfl rfl
theorem dksX5_advance_5 : cX5_advance.data.toList.drop 115 = dktX5_advance_5 := dk_seg dksX5_advance_4 23 rfl rfl
theorem dksX5_advance_6 : cX5_advance.data.toList.drop 139 = dktX5_advance_6 := dk_seg dksX5_advance_5 24 rfl rfl
theorem dksX5_advance_7 : cX5_advance.data.toList.drop 161 = dktX5_advance_7 := dk_seg dksX5_advance_6 22 rfl rfl
theorem dksX5_advance_8 : cX5_advance.data.toList.drop 184 = dktX5_advance_8 := dk_seg dksX5_advance_7 23 rfl rfl
theorem dksX5_advance_9 : cX5_advance.data.toList.drop 208 = dktX5_advance_9 := dk_seg dksX5_advance_8 24 rfl rfl
theorem dksX5_advance_10 : cX5_advance.data.toList.drop 232 = dktX5_advance_10 := dk_seg dksX5_advance_9 24 rfl rfl
theorem dX5_advance_0 : decode cX5_advance 0 = .ok (.aload_n 0, 1) := dk_42 (dk_at dksX5_advance_0 0 rfl rfl)
theorem dX5_advance_1 : decode cX5_advance 1 = .ok (.invokevirtual 51, 3) := dk_182 0 51 (dk_at dksX5_advance_0 1 rfl rfl)
theorem dX5_advance_4 : decode cX5_advance 4 = .ok (.bipush 32, 2) := dk_16 32 (dk_at dksX5_advance_0 4 rfl rfl)
theorem dX5_advance_6 : decode cX5_advance 6 = .ok (.if_icmp .ne 16, 3) := dk_160 0 16 (dk_at dksX5_advance_0 6 rfl rfl)
theorem dX5_advance_9 : decode cX5_advance 9 = .ok (.aload_n 0, 1) := dk_42 (dk_at dksX5_advance_0 9 rfl rfl)
theorem dX5_advance_10 : decode cX5_advance 10 = .ok (.dup, 1) := dk_89 (dk_at dksX5_advance_0 10 rfl rfl)
theorem dX5_advance_11 : decode cX5_advance 11 = .ok (.getfield 33, 3) := dk_180 0 33 (dk_at dksX5_advance_0 11 rfl rfl)
theorem dX5_advance_14 : decode cX5_advance 14 = .ok (.iconst 1, 1) := dk_4 (dk_at dksX5_advance_0 14 rfl rfl)
theorem dX5_advance_15 : decode cX5_advance 15 = .ok (.iadd, 1) := dk_96 (dk_at dksX5_advance_0 15 rfl rfl)
theorem dX5_advance_16 : decode cX5_advance 16 = .ok (.putfield 33, 3) := dk_181 0 33 (dk_at dksX5_advance_0 16 rfl rfl)
theorem dX5_advance_19 : decode cX5_advance 19 = .ok (.goto (-19), 3) := dk_167 255 237 (dk_at dksX5_advance_0 19 rfl rfl)
theorem dX5_advance_22 : decode cX5_advance 22 = .ok (.aload_n 0, 1) := dk_42 (dk_at dksX5_advance_0 22 rfl rfl)
theorem dX5_advance_23 : decode cX5_advance 23 = .ok (.getfield 33, 3) := dk_180 0 33 (dk_at dksX5_advance_1 0 rfl rfl)
theorem dX5_advance_26 : decode cX5_advance 26 = .ok (.istore_n 1, 1) := dk_60 (dk_at dksX5_advance_1 3 rfl rfl)
theorem dX5_advance_27 : decode cX5_advance 27 = .ok (.aload_n 0, 1) := dk_42 (dk_at dksX5_advance_1 4 rfl rfl)
theorem dX5_advance_28 : decode cX5_advance 28 = .ok (.invokevirtual 51, 3) := dk_182 0 51 (dk_at dksX5_advance_1 5 rfl rfl)
theorem dX5_advance_31 : decode cX5_advance 31 = .ok (.bipush 97, 2) := dk_16 97 (dk_at dksX5_advance_1 8 rfl rfl)
theorem dX5_advance_33 : decode cX5_advance 33 = .ok (.bipush 122, 2) := dk_16 122 (dk_at dksX5_advance_1 10 rfl rfl)
theorem dX5_advance_35 : decode cX5_advance 35 = .ok (.invokestatic 55, 3) := dk_184 0 55 (dk_at dksX5_advance_1 12 rfl rfl)
theorem dX5_advance_38 : decode cX5_advance 38 = .ok (.ifCond .eq 60, 3) := dk_153 0 60 (dk_at dksX5_advance_1 15 rfl rfl)
theorem dX5_advance_41 : decode cX5_advance 41 = .ok (.aload_n 0, 1) := dk_42 (dk_at dksX5_advance_1 18 rfl rfl)
theorem dX5_advance_42 : decode cX5_advance 42 = .ok (.invokevirtual 51, 3) := dk_182 0 51 (dk_at dksX5_advance_1 19 rfl rfl)
theorem dX5_advance_45 : decode cX5_advance 45 = .ok (.bipush 97, 2) := dk_16 97 (dk_at dksX5_advance_1 22 rfl rfl)
theorem dX5_advance_47 : decode cX5_advance 47 = .ok (.bipush 122, 2) := dk_16 122 (dk_at dksX5_advance_2 0 rfl rfl)
theorem dX5_advance_49 : decode cX5_advance 49 = .ok (.invokestatic 55, 3) := dk_184 0 55 (dk_at dksX5_advance_2 2 rfl rfl)
theorem dX5_advance_52 : decode cX5_advance 52 = .ok (.ifCond .eq 16, 3) := dk_153 0 16 (dk_at dksX5_advance_2 5 rfl rfl)
theorem dX5_advance_55 : decode cX5_advance 55 = .ok (.aload_n 0, 1) := dk_42 (dk_at dksX5_advance_2 8 rfl rfl)
theorem dX5_advance_56 : decode cX5_advance 56 = .ok (.dup, 1) := dk_89 (dk_at dksX5_advance_2 9 rfl rfl)
theorem dX5_advance_57 : decode cX5_advance 57 = .ok (.getfield 33, 3) := dk_180 0 33 (dk_at dksX5_advance_2 10 rfl rfl)
theorem dX5_advance_60 : decode cX5_advance 60 = .ok (.iconst 1, 1) := dk_4 (dk_at dksX5_advance_2 13 rfl rfl)
theorem dX5_advance_61 : decode cX5_advance 61 = .ok (.iadd, 1) := dk_96 (dk_at dksX5_advance_2 14 rfl rfl)
theorem dX5_advance_62 : decode cX5_advance 62 = .ok (.putfield 33, 3) := dk_181 0 33 (dk_at dksX5_advance_2 15 rfl rfl)
theorem dX5_advance_65 : decode cX5_advance 65 = .ok (.goto (-24), 3) := dk_167 255 232 (dk_at dksX5_advance_2 18 rfl rfl)
theorem dX5_advance_68 : decode cX5_advance 68 = .ok (.aload_n 0, 1) := dk_42 (dk_at dksX5_advance_2 21 rfl rfl)
theorem dX5_advance_69 : decode cX5_advance 69 = .ok (.new 59, 3) := dk_187 0 59 (dk_at dksX5_advance_3 0 rfl rfl)
theorem dX5_advance_72 : decode cX5_advance 72 = .ok (.dup, 1) := dk_89 (dk_at dksX5_advance_3 3 rfl rfl)
theorem dX5_advance_73 : decode cX5_advance 73 = .ok (.iload_n 1, 1) := dk_27 (dk_at dksX5_advance_3 4 rfl rfl)
theorem dX5_advance_74 : decode cX5_advance 74 = .ok (.aload_n 0, 1) := dk_42 (dk_at dksX5_advance_3 5 rfl rfl)
theorem dX5_advance_75 : decode cX5_advance 75 = .ok (.getfield 3, 3) := dk_180 0 3 (dk_at dksX5_advance_3 6 rfl rfl)
theorem dX5_advance_78 : decode cX5_advance 78 = .ok (.getfield 37, 3) := dk_180 0 37 (dk_at dksX5_advance_3 9 rfl rfl)
theorem dX5_advance_81 : decode cX5_advance 81 = .ok (.iload_n 1, 1) := dk_27 (dk_at dksX5_advance_3 12 rfl rfl)
theorem dX5_advance_82 : decode cX5_advance 82 = .ok (.aload_n 0, 1) := dk_42 (dk_at dksX5_advance_3 13 rfl rfl)
theorem dX5_advance_83 : decode cX5_advance 83 = .ok (.getfield 33, 3) := dk_180 0 33 (dk_at dksX5_advance_3 14 rfl rfl)
theorem dX5_advance_86 : decode cX5_advance 86 = .ok (.invokevirtual 61, 3) := dk_182 0 61 (dk_at dksX5_advance_3 17 rfl rfl)
theorem dX5_advance_89 : decode cX5_advance 89 = .ok (.invokespecial 65, 3) := dk_183 0 65 (dk_at dksX5_advance_3 20 rfl rfl)
theorem dX5_advance_92 : decode cX5_advance 92 = .ok (.putfield 29, 3) := dk_181 0 29 (dk_at dksX5_advance_4 0 rfl rfl)
theorem dX5_advance_95 : decode cX5_advance 95 = .ok (.goto 149, 3) := dk_167 0 149 (dk_at dksX5_advance_4 3 rfl rfl)
theorem dX5_advance_98 : decode cX5_advance 98 = .ok (.aload_n 0, 1) := dk_42 (dk_at dksX5_advance_4 6 rfl rfl)
theorem dX5_advance_99 : decode cX5_advance 99 = .ok (.invokevirtual 51, 3) := dk_182 0 51 (dk_at dksX5_advance_4 7 rfl rfl)
theorem dX5_advance_102 : decode cX5_advance 102 = .ok (.bipush 48, 2) := dk_16 48 (dk_at dksX5_advance_4 10 rfl rfl)
theorem dX5_advance_104 : decode cX5_advance 104 = .ok (.bipush 57, 2) := dk_16 57 (dk_at dksX5_advance_4 12 rfl rfl)
theorem dX5_advance_106 : decode cX5_advance 106 = .ok (.invokestatic 55, 3) := dk_184 0 55 (dk_at dksX5_advance_4 14 rfl rfl)
theorem dX5_advance_109 : decode cX5_advance 109 = .ok (.ifCond .eq 98, 3) := dk_153 0 98 (dk_at dksX5_advance_4 17 rfl rfl)
theorem dX5_advance_112 : decode cX5_advance 112 = .ok (.iconst 0, 1) := dk_3 (dk_at dksX5_advance_4 20 rfl rfl)
theorem dX5_advance_113 : decode cX5_advance 113 = .ok (.istore_n 2, 1) := dk_61 (dk_at dksX5_advance_4 21 rfl rfl)
theorem dX5_advance_114 : decode cX5_advance 114 = .ok (.aload_n 0, 1) := dk_42 (dk_at dksX5_advance_4 22 rfl rfl)
theorem dX5_advance_115 : decode cX5_advance 115 = .ok (.invokevirtual 51, 3) := dk_182 0 51 (dk_at dksX5_advance_5 0 rfl rfl)
theorem dX5_advance_118 : decode cX5_advance 118 = .ok (.bipush 48, 2) := dk_16 48 (dk_at dksX5_advance_5 3 rfl rfl)
theorem dX5_advance_120 : decode cX5_advance 120 = .ok (.bipush 57, 2) := dk_16 57 (dk_at dksX5_advance_5 5 rfl rfl)
theorem dX5_advance_122 : decode cX5_advance 122 = .ok (.invokestatic 55, 3) := dk_184 0 55 (dk_at dksX5_advance_5 7 rfl rfl)
theorem dX5_advance_125 : decode cX5_advance 125 = .ok (.ifCond .eq 35, 3) := dk_153 0 35 (dk_at dksX5_advance_5 10 rfl rfl)
theorem dX5_advance_128 : decode cX5_advance 128 = .ok (.bipush 10, 2) := dk_16 10 (dk_at dksX5_advance_5 13 rfl rfl)
theorem dX5_advance_130 : decode cX5_advance 130 = .ok (.iload_n 2, 1) := dk_28 (dk_at dksX5_advance_5 15 rfl rfl)
theorem dX5_advance_131 : decode cX5_advance 131 = .ok (.imul, 1) := dk_104 (dk_at dksX5_advance_5 16 rfl rfl)
theorem dX5_advance_132 : decode cX5_advance 132 = .ok (.aload_n 0, 1) := dk_42 (dk_at dksX5_advance_5 17 rfl rfl)
theorem dX5_advance_133 : decode cX5_advance 133 = .ok (.invokevirtual 51, 3) := dk_182 0 51 (dk_at dksX5_advance_5 18 rfl rfl)
theorem dX5_advance_136 : decode cX5_advance 136 = .ok (.iadd, 1) := dk_96 (dk_at dksX5_advance_5 21 rfl rfl)
theorem dX5_advance_137 : decode cX5_advance 137 = .ok (.bipush 48, 2) := dk_16 48 (dk_at dksX5_advance_5 22 rfl rfl)
theorem dX5_advance_139 : decode cX5_advance 139 = .ok (.isub, 1) := dk_100 (dk_at dksX5_advance_6 0 rfl rfl)
theorem dX5_advance_140 : decode cX5_advance 140 = .ok (.sipush 10000, 3) := dk_17 39 16 (dk_at dksX5_advance_6 1 rfl rfl)
theorem dX5_advance_143 : decode cX5_advance 143 = .ok (.invokestatic 68, 3) := dk_184 0 68 (dk_at dksX5_advance_6 4 rfl rfl)
theorem dX5_advance_146 : decode cX5_advance 146 = .ok (.istore_n 2, 1) := dk_61 (dk_at dksX5_advance_6 7 rfl rfl)
theorem dX5_advance_147 : decode cX5_advance 147 = .ok (.aload_n 0, 1) := dk_42 (dk_at dksX5_advance_6 8 rfl rfl)
theorem dX5_advance_148 : decode cX5_advance 148 = .ok (.dup, 1) := dk_89 (dk_at dksX5_advance_6 9 rfl rfl)
theorem dX5_advance_149 : decode cX5_advance 149 = .ok (.getfield 33, 3) := dk_180 0 33 (dk_at dksX5_advance_6 10 rfl rfl)
theorem dX5_advance_152 : decode cX5_advance 152 = .ok (.iconst 1, 1) := dk_4 (dk_at dksX5_advance_6 13 rfl rfl)
theorem dX5_advance_153 : decode cX5_advance 153 = .ok (.iadd, 1) := dk_96 (dk_at dksX5_advance_6 14 rfl rfl)
theorem dX5_advance_154 : decode cX5_advance 154 = .ok (.putfield 33, 3) := dk_181 0 33 (dk_at dksX5_advance_6 15 rfl rfl)
theorem dX5_advance_157 : decode cX5_advance 157 = .ok (.goto (-43), 3) := dk_167 255 213 (dk_at dksX5_advance_6 18 rfl rfl)
theorem dX5_advance_160 : decode cX5_advance 160 = .ok (.aload_n 0, 1) := dk_42 (dk_at dksX5_advance_6 21 rfl rfl)
theorem dX5_advance_161 : decode cX5_advance 161 = .ok (.new 74, 3) := dk_187 0 74 (dk_at dksX5_advance_7 0 rfl rfl)
theorem dX5_advance_164 : decode cX5_advance 164 = .ok (.dup, 1) := dk_89 (dk_at dksX5_advance_7 3 rfl rfl)
theorem dX5_advance_165 : decode cX5_advance 165 = .ok (.iload_n 1, 1) := dk_27 (dk_at dksX5_advance_7 4 rfl rfl)
theorem dX5_advance_166 : decode cX5_advance 166 = .ok (.aload_n 0, 1) := dk_42 (dk_at dksX5_advance_7 5 rfl rfl)
theorem dX5_advance_167 : decode cX5_advance 167 = .ok (.getfield 33, 3) := dk_180 0 33 (dk_at dksX5_advance_7 6 rfl rfl)
theorem dX5_advance_170 : decode cX5_advance 170 = .ok (.iload_n 1, 1) := dk_27 (dk_at dksX5_advance_7 9 rfl rfl)
theorem dX5_advance_171 : decode cX5_advance 171 = .ok (.iconst 1, 1) := dk_4 (dk_at dksX5_advance_7 10 rfl rfl)
theorem dX5_advance_172 : decode cX5_advance 172 = .ok (.iadd, 1) := dk_96 (dk_at dksX5_advance_7 11 rfl rfl)
theorem dX5_advance_173 : decode cX5_advance 173 = .ok (.if_icmp .le 24, 3) := dk_164 0 24 (dk_at dksX5_advance_7 12 rfl rfl)
theorem dX5_advance_176 : decode cX5_advance 176 = .ok (.aload_n 0, 1) := dk_42 (dk_at dksX5_advance_7 15 rfl rfl)
theorem dX5_advance_177 : decode cX5_advance 177 = .ok (.getfield 3, 3) := dk_180 0 3 (dk_at dksX5_advance_7 16 rfl rfl)
theorem dX5_advance_180 : decode cX5_advance 180 = .ok (.getfield 37, 3) := dk_180 0 37 (dk_at dksX5_advance_7 19 rfl rfl)
theorem dX5_advance_183 : decode cX5_advance 183 = .ok (.iload_n 1, 1) := dk_27 (dk_at dksX5_advance_7 22 rfl rfl)
theorem dX5_advance_184 : decode cX5_advance 184 = .ok (.invokevirtual 47, 3) := dk_182 0 47 (dk_at dksX5_advance_8 0 rfl rfl)
theorem dX5_advance_187 : decode cX5_advance 187 = .ok (.bipush 48, 2) := dk_16 48 (dk_at dksX5_advance_8 3 rfl rfl)
theorem dX5_advance_189 : decode cX5_advance 189 = .ok (.if_icmp .ne 8, 3) := dk_160 0 8 (dk_at dksX5_advance_8 5 rfl rfl)
theorem dX5_advance_192 : decode cX5_advance 192 = .ok (.bipush (-9), 2) := dk_16 247 (dk_at dksX5_advance_8 8 rfl rfl)
theorem dX5_advance_194 : decode cX5_advance 194 = .ok (.goto 4, 3) := dk_167 0 4 (dk_at dksX5_advance_8 10 rfl rfl)
theorem dX5_advance_197 : decode cX5_advance 197 = .ok (.iload_n 2, 1) := dk_28 (dk_at dksX5_advance_8 13 rfl rfl)
theorem dX5_advance_198 : decode cX5_advance 198 = .ok (.invokespecial 76, 3) := dk_183 0 76 (dk_at dksX5_advance_8 14 rfl rfl)
theorem dX5_advance_201 : decode cX5_advance 201 = .ok (.putfield 29, 3) := dk_181 0 29 (dk_at dksX5_advance_8 17 rfl rfl)
theorem dX5_advance_204 : decode cX5_advance 204 = .ok (.goto 40, 3) := dk_167 0 40 (dk_at dksX5_advance_8 20 rfl rfl)
theorem dX5_advance_207 : decode cX5_advance 207 = .ok (.aload_n 0, 1) := dk_42 (dk_at dksX5_advance_8 23 rfl rfl)
theorem dX5_advance_208 : decode cX5_advance 208 = .ok (.new 24, 3) := dk_187 0 24 (dk_at dksX5_advance_9 0 rfl rfl)
theorem dX5_advance_211 : decode cX5_advance 211 = .ok (.dup, 1) := dk_89 (dk_at dksX5_advance_9 3 rfl rfl)
theorem dX5_advance_212 : decode cX5_advance 212 = .ok (.iload_n 1, 1) := dk_27 (dk_at dksX5_advance_9 4 rfl rfl)
theorem dX5_advance_213 : decode cX5_advance 213 = .ok (.aload_n 0, 1) := dk_42 (dk_at dksX5_advance_9 5 rfl rfl)
theorem dX5_advance_214 : decode cX5_advance 214 = .ok (.invokevirtual 51, 3) := dk_182 0 51 (dk_at dksX5_advance_9 6 rfl rfl)
theorem dX5_advance_217 : decode cX5_advance 217 = .ok (.invokespecial 26, 3) := dk_183 0 26 (dk_at dksX5_advance_9 9 rfl rfl)
theorem dX5_advance_220 : decode cX5_advance 220 = .ok (.putfield 29, 3) := dk_181 0 29 (dk_at dksX5_advance_9 12 rfl rfl)
theorem dX5_advance_223 : decode cX5_advance 223 = .ok (.aload_n 0, 1) := dk_42 (dk_at dksX5_advance_9 15 rfl rfl)
theorem dX5_advance_224 : decode cX5_advance 224 = .ok (.dup, 1) := dk_89 (dk_at dksX5_advance_9 16 rfl rfl)
theorem dX5_advance_225 : decode cX5_advance 225 = .ok (.getfield 33, 3) := dk_180 0 33 (dk_at dksX5_advance_9 17 rfl rfl)
theorem dX5_advance_228 : decode cX5_advance 228 = .ok (.aload_n 0, 1) := dk_42 (dk_at dksX5_advance_9 20 rfl rfl)
theorem dX5_advance_229 : decode cX5_advance 229 = .ok (.invokevirtual 51, 3) := dk_182 0 51 (dk_at dksX5_advance_9 21 rfl rfl)
theorem dX5_advance_232 : decode cX5_advance 232 = .ok (.ifCond .ne 7, 3) := dk_154 0 7 (dk_at dksX5_advance_10 0 rfl rfl)
theorem dX5_advance_235 : decode cX5_advance 235 = .ok (.iconst 0, 1) := dk_3 (dk_at dksX5_advance_10 3 rfl rfl)
theorem dX5_advance_236 : decode cX5_advance 236 = .ok (.goto 4, 3) := dk_167 0 4 (dk_at dksX5_advance_10 4 rfl rfl)
theorem dX5_advance_239 : decode cX5_advance 239 = .ok (.iconst 1, 1) := dk_4 (dk_at dksX5_advance_10 7 rfl rfl)
theorem dX5_advance_240 : decode cX5_advance 240 = .ok (.iadd, 1) := dk_96 (dk_at dksX5_advance_10 8 rfl rfl)
theorem dX5_advance_241 : decode cX5_advance 241 = .ok (.putfield 33, 3) := dk_181 0 33 (dk_at dksX5_advance_10 9 rfl rfl)
theorem dX5_advance_244 : decode cX5_advance 244 = .ok (.return_, 1) := dk_177 (dk_at dksX5_advance_10 12 rfl rfl)
abbrev cX5_here : ByteArray := prog_6_method_2_code
def yX5_here : MethodName := ⟨RX5, "here", "()C"⟩
def dkwX5_here_1 : List UInt8 := [42, 180, 0, 33, 182, 0, 47, 167, 0, 4, 3, 172]
abbrev dktX5_here_1 : List UInt8 := dkwX5_here_1 ++ []
def dkwX5_here_0 : List UInt8 := [42, 180, 0, 33, 42, 180, 0, 3, 180, 0, 37, 182, 0, 41, 162, 0, 20, 42, 180, 0, 3, 180, 0, 37]
abbrev dktX5_here_0 : List UInt8 := dkwX5_here_0 ++ dktX5_here_1
theorem dksX5_here_0 : cX5_here.data.toList.drop 0 = dktX5_here_0 := by decide +kernel
theorem dksX5_here_1 : cX5_here.data.toList.drop 24 = dktX5_here_1 := dk_seg dksX5_here_0 24 rfl rfl
theorem dX5_here_0 : decode cX5_here 0 = .ok (.aload_n 0, 1) := dk_42 (dk_at dksX5_here_0 0 rfl rfl)
theorem dX5_here_1 : decode cX5_here 1 = .ok (.getfield 33, 3) := dk_180 0 33 (dk_at dksX5_here_0 1 rfl rfl)
theorem dX5_here_4 : decode cX5_here 4 = .ok (.aload_n 0, 1) := dk_42 (dk_at dksX5_here_0 4 rfl rfl)
theorem dX5_here_5 : decode cX5_here 5 = .ok (.getfield 3, 3) := dk_180 0 3 (dk_at dksX5_here_0 5 rfl rfl)
theorem dX5_here_8 : decode cX5_here 8 = .ok (.getfield 37, 3) := dk_180 0 37 (dk_at dksX5_here_0 8 rfl rfl)
theorem dX5_here_11 : decode cX5_here 11 = .ok (.invokevirtual 41, 3) := dk_182 0 41 (dk_at dksX5_here_0 11 rfl rfl)
theorem dX5_here_14 : decode cX5_here 14 = .ok (.if_icmp .ge 20, 3) := dk_162 0 20 (dk_at dksX5_here_0 14 rfl rfl)
theorem dX5_here_17 : decode cX5_here 17 = .ok (.aload_n 0, 1) := dk_42 (dk_at dksX5_here_0 17 rfl rfl)
theorem dX5_here_18 : decode cX5_here 18 = .ok (.getfield 3, 3) := dk_180 0 3 (dk_at dksX5_here_0 18 rfl rfl)
theorem dX5_here_21 : decode cX5_here 21 = .ok (.getfield 37, 3) := dk_180 0 37 (dk_at dksX5_here_0 21 rfl rfl)
theorem dX5_here_24 : decode cX5_here 24 = .ok (.aload_n 0, 1) := dk_42 (dk_at dksX5_here_1 0 rfl rfl)
theorem dX5_here_25 : decode cX5_here 25 = .ok (.getfield 33, 3) := dk_180 0 33 (dk_at dksX5_here_1 1 rfl rfl)
theorem dX5_here_28 : decode cX5_here 28 = .ok (.invokevirtual 47, 3) := dk_182 0 47 (dk_at dksX5_here_1 4 rfl rfl)
theorem dX5_here_31 : decode cX5_here 31 = .ok (.goto 4, 3) := dk_167 0 4 (dk_at dksX5_here_1 7 rfl rfl)
theorem dX5_here_34 : decode cX5_here 34 = .ok (.iconst 0, 1) := dk_3 (dk_at dksX5_here_1 10 rfl rfl)
theorem dX5_here_35 : decode cX5_here 35 = .ok (.ireturn, 1) := dk_172 (dk_at dksX5_here_1 11 rfl rfl)
abbrev cX5_item : ByteArray := prog_6_method_12_code
def yX5_item : MethodName := ⟨RX5, "item", "(Z)V"⟩
def dkwX5_item_9 : List UInt8 := [42, 42, 180, 0, 29, 16, 59, 182, 0, 198, 182, 0, 93, 177]
abbrev dktX5_item_9 : List UInt8 := dkwX5_item_9 ++ []
def dkwX5_item_8 : List UInt8 := [167, 0, 24, 42, 182, 0, 193, 167, 0, 17, 42, 180, 0, 20, 42, 3, 16, 100, 182, 0, 104, 181, 0, 195]
abbrev dktX5_item_8 : List UInt8 := dkwX5_item_8 ++ dktX5_item_9
def dkwX5_item_7 : List UInt8 := [42, 180, 0, 20, 42, 3, 17, 39, 15, 182, 0, 104, 182, 0, 188, 62, 167, 0, 31, 42, 182, 0, 191]
abbrev dktX5_item_7 : List UInt8 := dkwX5_item_7 ++ dktX5_item_8
def dkwX5_item_6 : List UInt8 := [18, 178, 83, 89, 5, 18, 180, 83, 182, 0, 144, 184, 0, 182, 167, 0, 57, 42, 182, 0, 186, 167, 0, 50]
abbrev dktX5_item_6 : List UInt8 := dkwX5_item_6 ++ dktX5_item_7
def dkwX5_item_5 : List UInt8 := [42, 182, 0, 174, 167, 0, 90, 42, 180, 0, 20, 42, 6, 189, 0, 132, 89, 3, 18, 176, 83, 89, 4]
abbrev dktX5_item_5 : List UInt8 := dkwX5_item_5 ++ dktX5_item_6
def dkwX5_item_4 : List UInt8 := [170, 0, 0, 0, 0, 0, 119, 0, 0, 0, 0, 0, 0, 0, 5, 0, 0, 0, 39, 0, 0, 0, 46, 0, 0, 0, 79, 0, 0, 0, 86, 0, 0, 0, 105, 0, 0, 0, 112]
abbrev dktX5_item_4 : List UInt8 := dkwX5_item_4 ++ dktX5_item_5
def dkwX5_item_3 : List UInt8 := [28]
abbrev dktX5_item_3 : List UInt8 := dkwX5_item_3 ++ dktX5_item_4
def dkwX5_item_2 : List UInt8 := [61, 42, 28, 16, 247, 159, 0, 15, 28, 157, 0, 7, 27, 153, 0, 7, 4, 167, 0, 4, 3, 182, 0, 93]
abbrev dktX5_item_2 : List UInt8 := dkwX5_item_2 ++ dktX5_item_3
def dkwX5_item_1 : List UInt8 := [89, 6, 18, 166, 83, 89, 7, 18, 168, 83, 89, 8, 18, 170, 83, 89, 16, 6, 18, 172, 83, 182, 0, 97]
abbrev dktX5_item_1 : List UInt8 := dkwX5_item_1 ++ dktX5_item_2
def dkwX5_item_0 : List UInt8 := [42, 180, 0, 29, 16, 7, 189, 0, 132, 89, 3, 18, 160, 83, 89, 4, 18, 162, 83, 89, 5, 18, 164, 83]
abbrev dktX5_item_0 : List UInt8 := dkwX5_item_0 ++ dktX5_item_1
theorem dksX5_item_0 : cX5_item.data.toList.drop 0 = dktX5_item_0 := by decide +kernel
theorem dksX5_item_1 : cX5_item.data.toList.drop 24 = dktX5_item_1 := dk_seg dksX5_item_0 24 rfl rfl
theorem dksX5_item_2 : cX5_item.data.toList.drop 48 = dktX5_item_2 := dk_seg dksX5_item_1 24 rfl rfl
theorem dksX5_item_3 : cX5_item.data.toList.drop 72 = dktX5_item_3 := dk_seg dksX5_item_2 24 rfl rfl
theorem dksX5_item_4 : cX5_item.data.toList.drop 73 = dktX5_item_4 := dk_seg dksX5_item_3 1 rfl rfl
theorem dksX5_item_5 : cX5_item.data.toList.drop 112 = dktX5_item_5 := dk_seg dksX5_item_4 39 rfl rfl
theorem dksX5_item_6 : cX5_item.data.toList.drop 135 = dktX5_item_6 := dk_seg dksX5_item_5 23 rfl rfl
theorem dksX5_item_7 : cX5_item.data.toList.drop 159 = dktX5_item_7 := dk_seg dksX5_item_6 24 rfl rfl
theorem dksX5_item_8 : cX5_item.data.toList.drop 182 = dktX5_item_8 := dk_seg dksX5_item_7 23 rfl rfl
theorem dksX5_item_9 : cX5_item.data.toList.drop 206 = dktX5_item_9 := dk_seg dksX5_item_8 24 rfl rfl
theorem dX5_item_0 : decode cX5_item 0 = .ok (.aload_n 0, 1) := dk_42 (dk_at dksX5_item_0 0 rfl rfl)
theorem dX5_item_1 : decode cX5_item 1 = .ok (.getfield 29, 3) := dk_180 0 29 (dk_at dksX5_item_0 1 rfl rfl)
theorem dX5_item_4 : decode cX5_item 4 = .ok (.bipush 7, 2) := dk_16 7 (dk_at dksX5_item_0 4 rfl rfl)
theorem dX5_item_6 : decode cX5_item 6 = .ok (.anewarray 132, 3) := dk_189 0 132 (dk_at dksX5_item_0 6 rfl rfl)
theorem dX5_item_9 : decode cX5_item 9 = .ok (.dup, 1) := dk_89 (dk_at dksX5_item_0 9 rfl rfl)
theorem dX5_item_10 : decode cX5_item 10 = .ok (.iconst 0, 1) := dk_3 (dk_at dksX5_item_0 10 rfl rfl)
theorem dX5_item_11 : decode cX5_item 11 = .ok (.ldc 160, 2) := dk_18 160 (dk_at dksX5_item_0 11 rfl rfl)
theorem dX5_item_13 : decode cX5_item 13 = .ok (.aastore, 1) := dk_83 (dk_at dksX5_item_0 13 rfl rfl)
theorem dX5_item_14 : decode cX5_item 14 = .ok (.dup, 1) := dk_89 (dk_at dksX5_item_0 14 rfl rfl)
theorem dX5_item_15 : decode cX5_item 15 = .ok (.iconst 1, 1) := dk_4 (dk_at dksX5_item_0 15 rfl rfl)
theorem dX5_item_16 : decode cX5_item 16 = .ok (.ldc 162, 2) := dk_18 162 (dk_at dksX5_item_0 16 rfl rfl)
theorem dX5_item_18 : decode cX5_item 18 = .ok (.aastore, 1) := dk_83 (dk_at dksX5_item_0 18 rfl rfl)
theorem dX5_item_19 : decode cX5_item 19 = .ok (.dup, 1) := dk_89 (dk_at dksX5_item_0 19 rfl rfl)
theorem dX5_item_20 : decode cX5_item 20 = .ok (.iconst 2, 1) := dk_5 (dk_at dksX5_item_0 20 rfl rfl)
theorem dX5_item_21 : decode cX5_item 21 = .ok (.ldc 164, 2) := dk_18 164 (dk_at dksX5_item_0 21 rfl rfl)
theorem dX5_item_23 : decode cX5_item 23 = .ok (.aastore, 1) := dk_83 (dk_at dksX5_item_0 23 rfl rfl)
theorem dX5_item_24 : decode cX5_item 24 = .ok (.dup, 1) := dk_89 (dk_at dksX5_item_1 0 rfl rfl)
theorem dX5_item_25 : decode cX5_item 25 = .ok (.iconst 3, 1) := dk_6 (dk_at dksX5_item_1 1 rfl rfl)
theorem dX5_item_26 : decode cX5_item 26 = .ok (.ldc 166, 2) := dk_18 166 (dk_at dksX5_item_1 2 rfl rfl)
theorem dX5_item_28 : decode cX5_item 28 = .ok (.aastore, 1) := dk_83 (dk_at dksX5_item_1 4 rfl rfl)
theorem dX5_item_29 : decode cX5_item 29 = .ok (.dup, 1) := dk_89 (dk_at dksX5_item_1 5 rfl rfl)
theorem dX5_item_30 : decode cX5_item 30 = .ok (.iconst 4, 1) := dk_7 (dk_at dksX5_item_1 6 rfl rfl)
theorem dX5_item_31 : decode cX5_item 31 = .ok (.ldc 168, 2) := dk_18 168 (dk_at dksX5_item_1 7 rfl rfl)
theorem dX5_item_33 : decode cX5_item 33 = .ok (.aastore, 1) := dk_83 (dk_at dksX5_item_1 9 rfl rfl)
theorem dX5_item_34 : decode cX5_item 34 = .ok (.dup, 1) := dk_89 (dk_at dksX5_item_1 10 rfl rfl)
theorem dX5_item_35 : decode cX5_item 35 = .ok (.iconst 5, 1) := dk_8 (dk_at dksX5_item_1 11 rfl rfl)
theorem dX5_item_36 : decode cX5_item 36 = .ok (.ldc 170, 2) := dk_18 170 (dk_at dksX5_item_1 12 rfl rfl)
theorem dX5_item_38 : decode cX5_item 38 = .ok (.aastore, 1) := dk_83 (dk_at dksX5_item_1 14 rfl rfl)
theorem dX5_item_39 : decode cX5_item 39 = .ok (.dup, 1) := dk_89 (dk_at dksX5_item_1 15 rfl rfl)
theorem dX5_item_40 : decode cX5_item 40 = .ok (.bipush 6, 2) := dk_16 6 (dk_at dksX5_item_1 16 rfl rfl)
theorem dX5_item_42 : decode cX5_item 42 = .ok (.ldc 172, 2) := dk_18 172 (dk_at dksX5_item_1 18 rfl rfl)
theorem dX5_item_44 : decode cX5_item 44 = .ok (.aastore, 1) := dk_83 (dk_at dksX5_item_1 20 rfl rfl)
theorem dX5_item_45 : decode cX5_item 45 = .ok (.invokevirtual 97, 3) := dk_182 0 97 (dk_at dksX5_item_1 21 rfl rfl)
theorem dX5_item_48 : decode cX5_item 48 = .ok (.istore_n 2, 1) := dk_61 (dk_at dksX5_item_2 0 rfl rfl)
theorem dX5_item_49 : decode cX5_item 49 = .ok (.aload_n 0, 1) := dk_42 (dk_at dksX5_item_2 1 rfl rfl)
theorem dX5_item_50 : decode cX5_item 50 = .ok (.iload_n 2, 1) := dk_28 (dk_at dksX5_item_2 2 rfl rfl)
theorem dX5_item_51 : decode cX5_item 51 = .ok (.bipush (-9), 2) := dk_16 247 (dk_at dksX5_item_2 3 rfl rfl)
theorem dX5_item_53 : decode cX5_item 53 = .ok (.if_icmp .eq 15, 3) := dk_159 0 15 (dk_at dksX5_item_2 5 rfl rfl)
theorem dX5_item_56 : decode cX5_item 56 = .ok (.iload_n 2, 1) := dk_28 (dk_at dksX5_item_2 8 rfl rfl)
theorem dX5_item_57 : decode cX5_item 57 = .ok (.ifCond .gt 7, 3) := dk_157 0 7 (dk_at dksX5_item_2 9 rfl rfl)
theorem dX5_item_60 : decode cX5_item 60 = .ok (.iload_n 1, 1) := dk_27 (dk_at dksX5_item_2 12 rfl rfl)
theorem dX5_item_61 : decode cX5_item 61 = .ok (.ifCond .eq 7, 3) := dk_153 0 7 (dk_at dksX5_item_2 13 rfl rfl)
theorem dX5_item_64 : decode cX5_item 64 = .ok (.iconst 1, 1) := dk_4 (dk_at dksX5_item_2 16 rfl rfl)
theorem dX5_item_65 : decode cX5_item 65 = .ok (.goto 4, 3) := dk_167 0 4 (dk_at dksX5_item_2 17 rfl rfl)
theorem dX5_item_68 : decode cX5_item 68 = .ok (.iconst 0, 1) := dk_3 (dk_at dksX5_item_2 20 rfl rfl)
theorem dX5_item_69 : decode cX5_item 69 = .ok (.invokevirtual 93, 3) := dk_182 0 93 (dk_at dksX5_item_2 21 rfl rfl)
theorem dX5_item_72 : decode cX5_item 72 = .ok (.iload_n 2, 1) := dk_28 (dk_at dksX5_item_3 0 rfl rfl)
theorem dX5_item_73 : decode cX5_item 73 = .ok (.tableswitch 119 0 5 #[39, 46, 79, 86, 105, 112], 39) := by decide +kernel
theorem dX5_item_112 : decode cX5_item 112 = .ok (.aload_n 0, 1) := dk_42 (dk_at dksX5_item_5 0 rfl rfl)
theorem dX5_item_113 : decode cX5_item 113 = .ok (.invokevirtual 174, 3) := dk_182 0 174 (dk_at dksX5_item_5 1 rfl rfl)
theorem dX5_item_116 : decode cX5_item 116 = .ok (.goto 90, 3) := dk_167 0 90 (dk_at dksX5_item_5 4 rfl rfl)
theorem dX5_item_119 : decode cX5_item 119 = .ok (.aload_n 0, 1) := dk_42 (dk_at dksX5_item_5 7 rfl rfl)
theorem dX5_item_120 : decode cX5_item 120 = .ok (.getfield 20, 3) := dk_180 0 20 (dk_at dksX5_item_5 8 rfl rfl)
theorem dX5_item_123 : decode cX5_item 123 = .ok (.aload_n 0, 1) := dk_42 (dk_at dksX5_item_5 11 rfl rfl)
theorem dX5_item_124 : decode cX5_item 124 = .ok (.iconst 3, 1) := dk_6 (dk_at dksX5_item_5 12 rfl rfl)
theorem dX5_item_125 : decode cX5_item 125 = .ok (.anewarray 132, 3) := dk_189 0 132 (dk_at dksX5_item_5 13 rfl rfl)
theorem dX5_item_128 : decode cX5_item 128 = .ok (.dup, 1) := dk_89 (dk_at dksX5_item_5 16 rfl rfl)
theorem dX5_item_129 : decode cX5_item 129 = .ok (.iconst 0, 1) := dk_3 (dk_at dksX5_item_5 17 rfl rfl)
theorem dX5_item_130 : decode cX5_item 130 = .ok (.ldc 176, 2) := dk_18 176 (dk_at dksX5_item_5 18 rfl rfl)
theorem dX5_item_132 : decode cX5_item 132 = .ok (.aastore, 1) := dk_83 (dk_at dksX5_item_5 20 rfl rfl)
theorem dX5_item_133 : decode cX5_item 133 = .ok (.dup, 1) := dk_89 (dk_at dksX5_item_5 21 rfl rfl)
theorem dX5_item_134 : decode cX5_item 134 = .ok (.iconst 1, 1) := dk_4 (dk_at dksX5_item_5 22 rfl rfl)
theorem dX5_item_135 : decode cX5_item 135 = .ok (.ldc 178, 2) := dk_18 178 (dk_at dksX5_item_6 0 rfl rfl)
theorem dX5_item_137 : decode cX5_item 137 = .ok (.aastore, 1) := dk_83 (dk_at dksX5_item_6 2 rfl rfl)
theorem dX5_item_138 : decode cX5_item 138 = .ok (.dup, 1) := dk_89 (dk_at dksX5_item_6 3 rfl rfl)
theorem dX5_item_139 : decode cX5_item 139 = .ok (.iconst 2, 1) := dk_5 (dk_at dksX5_item_6 4 rfl rfl)
theorem dX5_item_140 : decode cX5_item 140 = .ok (.ldc 180, 2) := dk_18 180 (dk_at dksX5_item_6 5 rfl rfl)
theorem dX5_item_142 : decode cX5_item 142 = .ok (.aastore, 1) := dk_83 (dk_at dksX5_item_6 7 rfl rfl)
theorem dX5_item_143 : decode cX5_item 143 = .ok (.invokevirtual 144, 3) := dk_182 0 144 (dk_at dksX5_item_6 8 rfl rfl)
theorem dX5_item_146 : decode cX5_item 146 = .ok (.invokestatic 182, 3) := dk_184 0 182 (dk_at dksX5_item_6 11 rfl rfl)
theorem dX5_item_149 : decode cX5_item 149 = .ok (.goto 57, 3) := dk_167 0 57 (dk_at dksX5_item_6 14 rfl rfl)
theorem dX5_item_152 : decode cX5_item 152 = .ok (.aload_n 0, 1) := dk_42 (dk_at dksX5_item_6 17 rfl rfl)
theorem dX5_item_153 : decode cX5_item 153 = .ok (.invokevirtual 186, 3) := dk_182 0 186 (dk_at dksX5_item_6 18 rfl rfl)
theorem dX5_item_156 : decode cX5_item 156 = .ok (.goto 50, 3) := dk_167 0 50 (dk_at dksX5_item_6 21 rfl rfl)
theorem dX5_item_159 : decode cX5_item 159 = .ok (.aload_n 0, 1) := dk_42 (dk_at dksX5_item_7 0 rfl rfl)
theorem dX5_item_160 : decode cX5_item 160 = .ok (.getfield 20, 3) := dk_180 0 20 (dk_at dksX5_item_7 1 rfl rfl)
theorem dX5_item_163 : decode cX5_item 163 = .ok (.aload_n 0, 1) := dk_42 (dk_at dksX5_item_7 4 rfl rfl)
theorem dX5_item_164 : decode cX5_item 164 = .ok (.iconst 0, 1) := dk_3 (dk_at dksX5_item_7 5 rfl rfl)
theorem dX5_item_165 : decode cX5_item 165 = .ok (.sipush 9999, 3) := dk_17 39 15 (dk_at dksX5_item_7 6 rfl rfl)
theorem dX5_item_168 : decode cX5_item 168 = .ok (.invokevirtual 104, 3) := dk_182 0 104 (dk_at dksX5_item_7 9 rfl rfl)
theorem dX5_item_171 : decode cX5_item 171 = .ok (.invokevirtual 188, 3) := dk_182 0 188 (dk_at dksX5_item_7 12 rfl rfl)
theorem dX5_item_174 : decode cX5_item 174 = .ok (.istore_n 3, 1) := dk_62 (dk_at dksX5_item_7 15 rfl rfl)
theorem dX5_item_175 : decode cX5_item 175 = .ok (.goto 31, 3) := dk_167 0 31 (dk_at dksX5_item_7 16 rfl rfl)
theorem dX5_item_178 : decode cX5_item 178 = .ok (.aload_n 0, 1) := dk_42 (dk_at dksX5_item_7 19 rfl rfl)
theorem dX5_item_179 : decode cX5_item 179 = .ok (.invokevirtual 191, 3) := dk_182 0 191 (dk_at dksX5_item_7 20 rfl rfl)
theorem dX5_item_182 : decode cX5_item 182 = .ok (.goto 24, 3) := dk_167 0 24 (dk_at dksX5_item_8 0 rfl rfl)
theorem dX5_item_185 : decode cX5_item 185 = .ok (.aload_n 0, 1) := dk_42 (dk_at dksX5_item_8 3 rfl rfl)
theorem dX5_item_186 : decode cX5_item 186 = .ok (.invokevirtual 193, 3) := dk_182 0 193 (dk_at dksX5_item_8 4 rfl rfl)
theorem dX5_item_189 : decode cX5_item 189 = .ok (.goto 17, 3) := dk_167 0 17 (dk_at dksX5_item_8 7 rfl rfl)
theorem dX5_item_192 : decode cX5_item 192 = .ok (.aload_n 0, 1) := dk_42 (dk_at dksX5_item_8 10 rfl rfl)
theorem dX5_item_193 : decode cX5_item 193 = .ok (.getfield 20, 3) := dk_180 0 20 (dk_at dksX5_item_8 11 rfl rfl)
theorem dX5_item_196 : decode cX5_item 196 = .ok (.aload_n 0, 1) := dk_42 (dk_at dksX5_item_8 14 rfl rfl)
theorem dX5_item_197 : decode cX5_item 197 = .ok (.iconst 0, 1) := dk_3 (dk_at dksX5_item_8 15 rfl rfl)
theorem dX5_item_198 : decode cX5_item 198 = .ok (.bipush 100, 2) := dk_16 100 (dk_at dksX5_item_8 16 rfl rfl)
theorem dX5_item_200 : decode cX5_item 200 = .ok (.invokevirtual 104, 3) := dk_182 0 104 (dk_at dksX5_item_8 18 rfl rfl)
theorem dX5_item_203 : decode cX5_item 203 = .ok (.putfield 195, 3) := dk_181 0 195 (dk_at dksX5_item_8 21 rfl rfl)
theorem dX5_item_206 : decode cX5_item 206 = .ok (.aload_n 0, 1) := dk_42 (dk_at dksX5_item_9 0 rfl rfl)
theorem dX5_item_207 : decode cX5_item 207 = .ok (.aload_n 0, 1) := dk_42 (dk_at dksX5_item_9 1 rfl rfl)
theorem dX5_item_208 : decode cX5_item 208 = .ok (.getfield 29, 3) := dk_180 0 29 (dk_at dksX5_item_9 2 rfl rfl)
theorem dX5_item_211 : decode cX5_item 211 = .ok (.bipush 59, 2) := dk_16 59 (dk_at dksX5_item_9 5 rfl rfl)
theorem dX5_item_213 : decode cX5_item 213 = .ok (.invokevirtual 198, 3) := dk_182 0 198 (dk_at dksX5_item_9 7 rfl rfl)
theorem dX5_item_216 : decode cX5_item 216 = .ok (.invokevirtual 93, 3) := dk_182 0 93 (dk_at dksX5_item_9 10 rfl rfl)
theorem dX5_item_219 : decode cX5_item 219 = .ok (.return_, 1) := dk_177 (dk_at dksX5_item_9 13 rfl rfl)
abbrev cX5_take : ByteArray := prog_6_method_4_code
def yX5_take : MethodName := ⟨RX5, "take", "(Z)V"⟩
def dkwX5_take_0 : List UInt8 := [27, 154, 0, 18, 187, 0, 77, 89, 42, 180, 0, 29, 180, 0, 79, 183, 0, 84, 191, 42, 182, 0, 87, 177]
abbrev dktX5_take_0 : List UInt8 := dkwX5_take_0 ++ []
theorem dksX5_take_0 : cX5_take.data.toList.drop 0 = dktX5_take_0 := by decide +kernel
theorem dX5_take_0 : decode cX5_take 0 = .ok (.iload_n 1, 1) := dk_27 (dk_at dksX5_take_0 0 rfl rfl)
theorem dX5_take_1 : decode cX5_take 1 = .ok (.ifCond .ne 18, 3) := dk_154 0 18 (dk_at dksX5_take_0 1 rfl rfl)
theorem dX5_take_4 : decode cX5_take 4 = .ok (.new 77, 3) := dk_187 0 77 (dk_at dksX5_take_0 4 rfl rfl)
theorem dX5_take_7 : decode cX5_take 7 = .ok (.dup, 1) := dk_89 (dk_at dksX5_take_0 7 rfl rfl)
theorem dX5_take_8 : decode cX5_take 8 = .ok (.aload_n 0, 1) := dk_42 (dk_at dksX5_take_0 8 rfl rfl)
theorem dX5_take_9 : decode cX5_take 9 = .ok (.getfield 29, 3) := dk_180 0 29 (dk_at dksX5_take_0 9 rfl rfl)
theorem dX5_take_12 : decode cX5_take 12 = .ok (.getfield 79, 3) := dk_180 0 79 (dk_at dksX5_take_0 12 rfl rfl)
theorem dX5_take_15 : decode cX5_take 15 = .ok (.invokespecial 84, 3) := dk_183 0 84 (dk_at dksX5_take_0 15 rfl rfl)
theorem dX5_take_18 : decode cX5_take 18 = .ok (.athrow, 1) := dk_191 (dk_at dksX5_take_0 18 rfl rfl)
theorem dX5_take_19 : decode cX5_take 19 = .ok (.aload_n 0, 1) := dk_42 (dk_at dksX5_take_0 19 rfl rfl)
theorem dX5_take_20 : decode cX5_take 20 = .ok (.invokevirtual 87, 3) := dk_182 0 87 (dk_at dksX5_take_0 20 rfl rfl)
theorem dX5_take_23 : decode cX5_take 23 = .ok (.return_, 1) := dk_177 (dk_at dksX5_take_0 23 rfl rfl)
abbrev cX5_size : ByteArray := prog_6_method_8_code
def yX5_size : MethodName := ⟨RX5, "size", "()V"⟩
def dkwX5_size_1 : List UInt8 := [181, 0, 20, 177]
abbrev dktX5_size_1 : List UInt8 := dkwX5_size_1 ++ []
def dkwX5_size_0 : List UInt8 := [42, 5, 16, 10, 182, 0, 104, 60, 42, 42, 180, 0, 20, 27, 42, 5, 16, 8, 182, 0, 104, 182, 0, 107]
abbrev dktX5_size_0 : List UInt8 := dkwX5_size_0 ++ dktX5_size_1
theorem dksX5_size_0 : cX5_size.data.toList.drop 0 = dktX5_size_0 := by decide +kernel
theorem dksX5_size_1 : cX5_size.data.toList.drop 24 = dktX5_size_1 := dk_seg dksX5_size_0 24 rfl rfl
theorem dX5_size_0 : decode cX5_size 0 = .ok (.aload_n 0, 1) := dk_42 (dk_at dksX5_size_0 0 rfl rfl)
theorem dX5_size_1 : decode cX5_size 1 = .ok (.iconst 2, 1) := dk_5 (dk_at dksX5_size_0 1 rfl rfl)
theorem dX5_size_2 : decode cX5_size 2 = .ok (.bipush 10, 2) := dk_16 10 (dk_at dksX5_size_0 2 rfl rfl)
theorem dX5_size_4 : decode cX5_size 4 = .ok (.invokevirtual 104, 3) := dk_182 0 104 (dk_at dksX5_size_0 4 rfl rfl)
theorem dX5_size_7 : decode cX5_size 7 = .ok (.istore_n 1, 1) := dk_60 (dk_at dksX5_size_0 7 rfl rfl)
theorem dX5_size_8 : decode cX5_size 8 = .ok (.aload_n 0, 1) := dk_42 (dk_at dksX5_size_0 8 rfl rfl)
theorem dX5_size_9 : decode cX5_size 9 = .ok (.aload_n 0, 1) := dk_42 (dk_at dksX5_size_0 9 rfl rfl)
theorem dX5_size_10 : decode cX5_size 10 = .ok (.getfield 20, 3) := dk_180 0 20 (dk_at dksX5_size_0 10 rfl rfl)
theorem dX5_size_13 : decode cX5_size 13 = .ok (.iload_n 1, 1) := dk_27 (dk_at dksX5_size_0 13 rfl rfl)
theorem dX5_size_14 : decode cX5_size 14 = .ok (.aload_n 0, 1) := dk_42 (dk_at dksX5_size_0 14 rfl rfl)
theorem dX5_size_15 : decode cX5_size 15 = .ok (.iconst 2, 1) := dk_5 (dk_at dksX5_size_0 15 rfl rfl)
theorem dX5_size_16 : decode cX5_size 16 = .ok (.bipush 8, 2) := dk_16 8 (dk_at dksX5_size_0 16 rfl rfl)
theorem dX5_size_18 : decode cX5_size 18 = .ok (.invokevirtual 104, 3) := dk_182 0 104 (dk_at dksX5_size_0 18 rfl rfl)
theorem dX5_size_21 : decode cX5_size 21 = .ok (.invokevirtual 107, 3) := dk_182 0 107 (dk_at dksX5_size_0 21 rfl rfl)
theorem dX5_size_24 : decode cX5_size 24 = .ok (.putfield 20, 3) := dk_181 0 20 (dk_at dksX5_size_1 0 rfl rfl)
theorem dX5_size_27 : decode cX5_size 27 = .ok (.return_, 1) := dk_177 (dk_at dksX5_size_1 3 rfl rfl)
abbrev cX5_number : ByteArray := prog_6_method_5_code
def yX5_number : MethodName := ⟨RX5, "number", "(II)I"⟩
def dkwX5_number_0 : List UInt8 := [42, 180, 0, 29, 182, 0, 90, 62, 42, 29, 27, 28, 184, 0, 55, 182, 0, 93, 29, 172]
abbrev dktX5_number_0 : List UInt8 := dkwX5_number_0 ++ []
theorem dksX5_number_0 : cX5_number.data.toList.drop 0 = dktX5_number_0 := by decide +kernel
theorem dX5_number_0 : decode cX5_number 0 = .ok (.aload_n 0, 1) := dk_42 (dk_at dksX5_number_0 0 rfl rfl)
theorem dX5_number_1 : decode cX5_number 1 = .ok (.getfield 29, 3) := dk_180 0 29 (dk_at dksX5_number_0 1 rfl rfl)
theorem dX5_number_4 : decode cX5_number 4 = .ok (.invokevirtual 90, 3) := dk_182 0 90 (dk_at dksX5_number_0 4 rfl rfl)
theorem dX5_number_7 : decode cX5_number 7 = .ok (.istore_n 3, 1) := dk_62 (dk_at dksX5_number_0 7 rfl rfl)
theorem dX5_number_8 : decode cX5_number 8 = .ok (.aload_n 0, 1) := dk_42 (dk_at dksX5_number_0 8 rfl rfl)
theorem dX5_number_9 : decode cX5_number 9 = .ok (.iload_n 3, 1) := dk_29 (dk_at dksX5_number_0 9 rfl rfl)
theorem dX5_number_10 : decode cX5_number 10 = .ok (.iload_n 1, 1) := dk_27 (dk_at dksX5_number_0 10 rfl rfl)
theorem dX5_number_11 : decode cX5_number 11 = .ok (.iload_n 2, 1) := dk_28 (dk_at dksX5_number_0 11 rfl rfl)
theorem dX5_number_12 : decode cX5_number 12 = .ok (.invokestatic 55, 3) := dk_184 0 55 (dk_at dksX5_number_0 12 rfl rfl)
theorem dX5_number_15 : decode cX5_number 15 = .ok (.invokevirtual 93, 3) := dk_182 0 93 (dk_at dksX5_number_0 15 rfl rfl)
theorem dX5_number_18 : decode cX5_number 18 = .ok (.iload_n 3, 1) := dk_29 (dk_at dksX5_number_0 18 rfl rfl)
theorem dX5_number_19 : decode cX5_number 19 = .ok (.ireturn, 1) := dk_172 (dk_at dksX5_number_0 19 rfl rfl)
abbrev cX5_word : ByteArray := prog_6_method_6_code
def yX5_word : MethodName := ⟨RX5, "word", "([Ljava/lang/String;)I"⟩
def dkwX5_word_1 : List UInt8 := [28, 172]
abbrev dktX5_word_1 : List UInt8 := dkwX5_word_1 ++ []
def dkwX5_word_0 : List UInt8 := [42, 180, 0, 29, 43, 182, 0, 97, 61, 42, 28, 16, 247, 159, 0, 7, 4, 167, 0, 4, 3, 182, 0, 93]
abbrev dktX5_word_0 : List UInt8 := dkwX5_word_0 ++ dktX5_word_1
theorem dksX5_word_0 : cX5_word.data.toList.drop 0 = dktX5_word_0 := by decide +kernel
theorem dksX5_word_1 : cX5_word.data.toList.drop 24 = dktX5_word_1 := dk_seg dksX5_word_0 24 rfl rfl
theorem dX5_word_0 : decode cX5_word 0 = .ok (.aload_n 0, 1) := dk_42 (dk_at dksX5_word_0 0 rfl rfl)
theorem dX5_word_1 : decode cX5_word 1 = .ok (.getfield 29, 3) := dk_180 0 29 (dk_at dksX5_word_0 1 rfl rfl)
theorem dX5_word_4 : decode cX5_word 4 = .ok (.aload_n 1, 1) := dk_43 (dk_at dksX5_word_0 4 rfl rfl)
theorem dX5_word_5 : decode cX5_word 5 = .ok (.invokevirtual 97, 3) := dk_182 0 97 (dk_at dksX5_word_0 5 rfl rfl)
theorem dX5_word_8 : decode cX5_word 8 = .ok (.istore_n 2, 1) := dk_61 (dk_at dksX5_word_0 8 rfl rfl)
theorem dX5_word_9 : decode cX5_word 9 = .ok (.aload_n 0, 1) := dk_42 (dk_at dksX5_word_0 9 rfl rfl)
theorem dX5_word_10 : decode cX5_word 10 = .ok (.iload_n 2, 1) := dk_28 (dk_at dksX5_word_0 10 rfl rfl)
theorem dX5_word_11 : decode cX5_word 11 = .ok (.bipush (-9), 2) := dk_16 247 (dk_at dksX5_word_0 11 rfl rfl)
theorem dX5_word_13 : decode cX5_word 13 = .ok (.if_icmp .eq 7, 3) := dk_159 0 7 (dk_at dksX5_word_0 13 rfl rfl)
theorem dX5_word_16 : decode cX5_word 16 = .ok (.iconst 1, 1) := dk_4 (dk_at dksX5_word_0 16 rfl rfl)
theorem dX5_word_17 : decode cX5_word 17 = .ok (.goto 4, 3) := dk_167 0 4 (dk_at dksX5_word_0 17 rfl rfl)
theorem dX5_word_20 : decode cX5_word 20 = .ok (.iconst 0, 1) := dk_3 (dk_at dksX5_word_0 20 rfl rfl)
theorem dX5_word_21 : decode cX5_word 21 = .ok (.invokevirtual 93, 3) := dk_182 0 93 (dk_at dksX5_word_0 21 rfl rfl)
theorem dX5_word_24 : decode cX5_word 24 = .ok (.iload_n 2, 1) := dk_28 (dk_at dksX5_word_1 0 rfl rfl)
theorem dX5_word_25 : decode cX5_word 25 = .ok (.ireturn, 1) := dk_172 (dk_at dksX5_word_1 1 rfl rfl)
abbrev cX5_row : ByteArray := prog_6_method_9_code
def yX5_row : MethodName := ⟨RX5, "row", "()V"⟩
def dkwX5_row_2 : List UInt8 := [42, 3, 16, 99, 182, 0, 104, 79, 132, 2, 1, 167, 255, 216, 177]
abbrev dktX5_row_2 : List UInt8 := dkwX5_row_2 ++ []
def dkwX5_row_1 : List UInt8 := [180, 0, 114, 162, 0, 35, 42, 180, 0, 20, 180, 0, 117, 27, 42, 180, 0, 20, 180, 0, 114, 104, 28, 96]
abbrev dktX5_row_1 : List UInt8 := dkwX5_row_1 ++ dktX5_row_2
def dkwX5_row_0 : List UInt8 := [42, 3, 42, 180, 0, 20, 180, 0, 111, 4, 100, 182, 0, 104, 60, 3, 61, 28, 42, 180, 0, 20]
abbrev dktX5_row_0 : List UInt8 := dkwX5_row_0 ++ dktX5_row_1
theorem dksX5_row_0 : cX5_row.data.toList.drop 0 = dktX5_row_0 := by decide +kernel
theorem dksX5_row_1 : cX5_row.data.toList.drop 22 = dktX5_row_1 := dk_seg dksX5_row_0 22 rfl rfl
theorem dksX5_row_2 : cX5_row.data.toList.drop 46 = dktX5_row_2 := dk_seg dksX5_row_1 24 rfl rfl
theorem dX5_row_0 : decode cX5_row 0 = .ok (.aload_n 0, 1) := dk_42 (dk_at dksX5_row_0 0 rfl rfl)
theorem dX5_row_1 : decode cX5_row 1 = .ok (.iconst 0, 1) := dk_3 (dk_at dksX5_row_0 1 rfl rfl)
theorem dX5_row_2 : decode cX5_row 2 = .ok (.aload_n 0, 1) := dk_42 (dk_at dksX5_row_0 2 rfl rfl)
theorem dX5_row_3 : decode cX5_row 3 = .ok (.getfield 20, 3) := dk_180 0 20 (dk_at dksX5_row_0 3 rfl rfl)
theorem dX5_row_6 : decode cX5_row 6 = .ok (.getfield 111, 3) := dk_180 0 111 (dk_at dksX5_row_0 6 rfl rfl)
theorem dX5_row_9 : decode cX5_row 9 = .ok (.iconst 1, 1) := dk_4 (dk_at dksX5_row_0 9 rfl rfl)
theorem dX5_row_10 : decode cX5_row 10 = .ok (.isub, 1) := dk_100 (dk_at dksX5_row_0 10 rfl rfl)
theorem dX5_row_11 : decode cX5_row 11 = .ok (.invokevirtual 104, 3) := dk_182 0 104 (dk_at dksX5_row_0 11 rfl rfl)
theorem dX5_row_14 : decode cX5_row 14 = .ok (.istore_n 1, 1) := dk_60 (dk_at dksX5_row_0 14 rfl rfl)
theorem dX5_row_15 : decode cX5_row 15 = .ok (.iconst 0, 1) := dk_3 (dk_at dksX5_row_0 15 rfl rfl)
theorem dX5_row_16 : decode cX5_row 16 = .ok (.istore_n 2, 1) := dk_61 (dk_at dksX5_row_0 16 rfl rfl)
theorem dX5_row_17 : decode cX5_row 17 = .ok (.iload_n 2, 1) := dk_28 (dk_at dksX5_row_0 17 rfl rfl)
theorem dX5_row_18 : decode cX5_row 18 = .ok (.aload_n 0, 1) := dk_42 (dk_at dksX5_row_0 18 rfl rfl)
theorem dX5_row_19 : decode cX5_row 19 = .ok (.getfield 20, 3) := dk_180 0 20 (dk_at dksX5_row_0 19 rfl rfl)
theorem dX5_row_22 : decode cX5_row 22 = .ok (.getfield 114, 3) := dk_180 0 114 (dk_at dksX5_row_1 0 rfl rfl)
theorem dX5_row_25 : decode cX5_row 25 = .ok (.if_icmp .ge 35, 3) := dk_162 0 35 (dk_at dksX5_row_1 3 rfl rfl)
theorem dX5_row_28 : decode cX5_row 28 = .ok (.aload_n 0, 1) := dk_42 (dk_at dksX5_row_1 6 rfl rfl)
theorem dX5_row_29 : decode cX5_row 29 = .ok (.getfield 20, 3) := dk_180 0 20 (dk_at dksX5_row_1 7 rfl rfl)
theorem dX5_row_32 : decode cX5_row 32 = .ok (.getfield 117, 3) := dk_180 0 117 (dk_at dksX5_row_1 10 rfl rfl)
theorem dX5_row_35 : decode cX5_row 35 = .ok (.iload_n 1, 1) := dk_27 (dk_at dksX5_row_1 13 rfl rfl)
theorem dX5_row_36 : decode cX5_row 36 = .ok (.aload_n 0, 1) := dk_42 (dk_at dksX5_row_1 14 rfl rfl)
theorem dX5_row_37 : decode cX5_row 37 = .ok (.getfield 20, 3) := dk_180 0 20 (dk_at dksX5_row_1 15 rfl rfl)
theorem dX5_row_40 : decode cX5_row 40 = .ok (.getfield 114, 3) := dk_180 0 114 (dk_at dksX5_row_1 18 rfl rfl)
theorem dX5_row_43 : decode cX5_row 43 = .ok (.imul, 1) := dk_104 (dk_at dksX5_row_1 21 rfl rfl)
theorem dX5_row_44 : decode cX5_row 44 = .ok (.iload_n 2, 1) := dk_28 (dk_at dksX5_row_1 22 rfl rfl)
theorem dX5_row_45 : decode cX5_row 45 = .ok (.iadd, 1) := dk_96 (dk_at dksX5_row_1 23 rfl rfl)
theorem dX5_row_46 : decode cX5_row 46 = .ok (.aload_n 0, 1) := dk_42 (dk_at dksX5_row_2 0 rfl rfl)
theorem dX5_row_47 : decode cX5_row 47 = .ok (.iconst 0, 1) := dk_3 (dk_at dksX5_row_2 1 rfl rfl)
theorem dX5_row_48 : decode cX5_row 48 = .ok (.bipush 99, 2) := dk_16 99 (dk_at dksX5_row_2 2 rfl rfl)
theorem dX5_row_50 : decode cX5_row 50 = .ok (.invokevirtual 104, 3) := dk_182 0 104 (dk_at dksX5_row_2 4 rfl rfl)
theorem dX5_row_53 : decode cX5_row 53 = .ok (.iastore, 1) := dk_79 (dk_at dksX5_row_2 7 rfl rfl)
theorem dX5_row_54 : decode cX5_row 54 = .ok (.iinc 2 1, 3) := dk_132 2 1 (dk_at dksX5_row_2 8 rfl rfl)
theorem dX5_row_57 : decode cX5_row 57 = .ok (.goto (-40), 3) := dk_167 255 216 (dk_at dksX5_row_2 11 rfl rfl)
theorem dX5_row_60 : decode cX5_row 60 = .ok (.return_, 1) := dk_177 (dk_at dksX5_row_2 14 rfl rfl)
abbrev cX5_valve : ByteArray := prog_6_method_10_code
def yX5_valve : MethodName := ⟨RX5, "valve", "()V"⟩
def dkwX5_valve_3 : List UInt8 := [184, 0, 147, 83, 177]
abbrev dktX5_valve_3 : List UInt8 := dkwX5_valve_3 ++ []
def dkwX5_valve_2 : List UInt8 := [83, 89, 4, 18, 136, 83, 89, 5, 18, 138, 83, 89, 6, 18, 140, 83, 89, 7, 18, 142, 83, 182, 0, 144]
abbrev dktX5_valve_2 : List UInt8 := dkwX5_valve_2 ++ dktX5_valve_3
def dkwX5_valve_1 : List UInt8 := [182, 0, 93, 42, 180, 0, 20, 180, 0, 128, 7, 27, 104, 28, 96, 42, 8, 189, 0, 132, 89, 3, 18, 134]
abbrev dktX5_valve_1 : List UInt8 := dkwX5_valve_1 ++ dktX5_valve_2
def dkwX5_valve_0 : List UInt8 := [42, 182, 0, 121, 60, 42, 180, 0, 29, 182, 0, 90, 61, 42, 42, 180, 0, 20, 27, 28, 182, 0, 124]
abbrev dktX5_valve_0 : List UInt8 := dkwX5_valve_0 ++ dktX5_valve_1
theorem dksX5_valve_0 : cX5_valve.data.toList.drop 0 = dktX5_valve_0 := by decide +kernel
theorem dksX5_valve_1 : cX5_valve.data.toList.drop 23 = dktX5_valve_1 := dk_seg dksX5_valve_0 23 rfl rfl
theorem dksX5_valve_2 : cX5_valve.data.toList.drop 47 = dktX5_valve_2 := dk_seg dksX5_valve_1 24 rfl rfl
theorem dksX5_valve_3 : cX5_valve.data.toList.drop 71 = dktX5_valve_3 := dk_seg dksX5_valve_2 24 rfl rfl
theorem dX5_valve_0 : decode cX5_valve 0 = .ok (.aload_n 0, 1) := dk_42 (dk_at dksX5_valve_0 0 rfl rfl)
theorem dX5_valve_1 : decode cX5_valve 1 = .ok (.invokevirtual 121, 3) := dk_182 0 121 (dk_at dksX5_valve_0 1 rfl rfl)
theorem dX5_valve_4 : decode cX5_valve 4 = .ok (.istore_n 1, 1) := dk_60 (dk_at dksX5_valve_0 4 rfl rfl)
theorem dX5_valve_5 : decode cX5_valve 5 = .ok (.aload_n 0, 1) := dk_42 (dk_at dksX5_valve_0 5 rfl rfl)
theorem dX5_valve_6 : decode cX5_valve 6 = .ok (.getfield 29, 3) := dk_180 0 29 (dk_at dksX5_valve_0 6 rfl rfl)
theorem dX5_valve_9 : decode cX5_valve 9 = .ok (.invokevirtual 90, 3) := dk_182 0 90 (dk_at dksX5_valve_0 9 rfl rfl)
theorem dX5_valve_12 : decode cX5_valve 12 = .ok (.istore_n 2, 1) := dk_61 (dk_at dksX5_valve_0 12 rfl rfl)
theorem dX5_valve_13 : decode cX5_valve 13 = .ok (.aload_n 0, 1) := dk_42 (dk_at dksX5_valve_0 13 rfl rfl)
theorem dX5_valve_14 : decode cX5_valve 14 = .ok (.aload_n 0, 1) := dk_42 (dk_at dksX5_valve_0 14 rfl rfl)
theorem dX5_valve_15 : decode cX5_valve 15 = .ok (.getfield 20, 3) := dk_180 0 20 (dk_at dksX5_valve_0 15 rfl rfl)
theorem dX5_valve_18 : decode cX5_valve 18 = .ok (.iload_n 1, 1) := dk_27 (dk_at dksX5_valve_0 18 rfl rfl)
theorem dX5_valve_19 : decode cX5_valve 19 = .ok (.iload_n 2, 1) := dk_28 (dk_at dksX5_valve_0 19 rfl rfl)
theorem dX5_valve_20 : decode cX5_valve 20 = .ok (.invokevirtual 124, 3) := dk_182 0 124 (dk_at dksX5_valve_0 20 rfl rfl)
theorem dX5_valve_23 : decode cX5_valve 23 = .ok (.invokevirtual 93, 3) := dk_182 0 93 (dk_at dksX5_valve_1 0 rfl rfl)
theorem dX5_valve_26 : decode cX5_valve 26 = .ok (.aload_n 0, 1) := dk_42 (dk_at dksX5_valve_1 3 rfl rfl)
theorem dX5_valve_27 : decode cX5_valve 27 = .ok (.getfield 20, 3) := dk_180 0 20 (dk_at dksX5_valve_1 4 rfl rfl)
theorem dX5_valve_30 : decode cX5_valve 30 = .ok (.getfield 128, 3) := dk_180 0 128 (dk_at dksX5_valve_1 7 rfl rfl)
theorem dX5_valve_33 : decode cX5_valve 33 = .ok (.iconst 4, 1) := dk_7 (dk_at dksX5_valve_1 10 rfl rfl)
theorem dX5_valve_34 : decode cX5_valve 34 = .ok (.iload_n 1, 1) := dk_27 (dk_at dksX5_valve_1 11 rfl rfl)
theorem dX5_valve_35 : decode cX5_valve 35 = .ok (.imul, 1) := dk_104 (dk_at dksX5_valve_1 12 rfl rfl)
theorem dX5_valve_36 : decode cX5_valve 36 = .ok (.iload_n 2, 1) := dk_28 (dk_at dksX5_valve_1 13 rfl rfl)
theorem dX5_valve_37 : decode cX5_valve 37 = .ok (.iadd, 1) := dk_96 (dk_at dksX5_valve_1 14 rfl rfl)
theorem dX5_valve_38 : decode cX5_valve 38 = .ok (.aload_n 0, 1) := dk_42 (dk_at dksX5_valve_1 15 rfl rfl)
theorem dX5_valve_39 : decode cX5_valve 39 = .ok (.iconst 5, 1) := dk_8 (dk_at dksX5_valve_1 16 rfl rfl)
theorem dX5_valve_40 : decode cX5_valve 40 = .ok (.anewarray 132, 3) := dk_189 0 132 (dk_at dksX5_valve_1 17 rfl rfl)
theorem dX5_valve_43 : decode cX5_valve 43 = .ok (.dup, 1) := dk_89 (dk_at dksX5_valve_1 20 rfl rfl)
theorem dX5_valve_44 : decode cX5_valve 44 = .ok (.iconst 0, 1) := dk_3 (dk_at dksX5_valve_1 21 rfl rfl)
theorem dX5_valve_45 : decode cX5_valve 45 = .ok (.ldc 134, 2) := dk_18 134 (dk_at dksX5_valve_1 22 rfl rfl)
theorem dX5_valve_47 : decode cX5_valve 47 = .ok (.aastore, 1) := dk_83 (dk_at dksX5_valve_2 0 rfl rfl)
theorem dX5_valve_48 : decode cX5_valve 48 = .ok (.dup, 1) := dk_89 (dk_at dksX5_valve_2 1 rfl rfl)
theorem dX5_valve_49 : decode cX5_valve 49 = .ok (.iconst 1, 1) := dk_4 (dk_at dksX5_valve_2 2 rfl rfl)
theorem dX5_valve_50 : decode cX5_valve 50 = .ok (.ldc 136, 2) := dk_18 136 (dk_at dksX5_valve_2 3 rfl rfl)
theorem dX5_valve_52 : decode cX5_valve 52 = .ok (.aastore, 1) := dk_83 (dk_at dksX5_valve_2 5 rfl rfl)
theorem dX5_valve_53 : decode cX5_valve 53 = .ok (.dup, 1) := dk_89 (dk_at dksX5_valve_2 6 rfl rfl)
theorem dX5_valve_54 : decode cX5_valve 54 = .ok (.iconst 2, 1) := dk_5 (dk_at dksX5_valve_2 7 rfl rfl)
theorem dX5_valve_55 : decode cX5_valve 55 = .ok (.ldc 138, 2) := dk_18 138 (dk_at dksX5_valve_2 8 rfl rfl)
theorem dX5_valve_57 : decode cX5_valve 57 = .ok (.aastore, 1) := dk_83 (dk_at dksX5_valve_2 10 rfl rfl)
theorem dX5_valve_58 : decode cX5_valve 58 = .ok (.dup, 1) := dk_89 (dk_at dksX5_valve_2 11 rfl rfl)
theorem dX5_valve_59 : decode cX5_valve 59 = .ok (.iconst 3, 1) := dk_6 (dk_at dksX5_valve_2 12 rfl rfl)
theorem dX5_valve_60 : decode cX5_valve 60 = .ok (.ldc 140, 2) := dk_18 140 (dk_at dksX5_valve_2 13 rfl rfl)
theorem dX5_valve_62 : decode cX5_valve 62 = .ok (.aastore, 1) := dk_83 (dk_at dksX5_valve_2 15 rfl rfl)
theorem dX5_valve_63 : decode cX5_valve 63 = .ok (.dup, 1) := dk_89 (dk_at dksX5_valve_2 16 rfl rfl)
theorem dX5_valve_64 : decode cX5_valve 64 = .ok (.iconst 4, 1) := dk_7 (dk_at dksX5_valve_2 17 rfl rfl)
theorem dX5_valve_65 : decode cX5_valve 65 = .ok (.ldc 142, 2) := dk_18 142 (dk_at dksX5_valve_2 18 rfl rfl)
theorem dX5_valve_67 : decode cX5_valve 67 = .ok (.aastore, 1) := dk_83 (dk_at dksX5_valve_2 20 rfl rfl)
theorem dX5_valve_68 : decode cX5_valve 68 = .ok (.invokevirtual 144, 3) := dk_182 0 144 (dk_at dksX5_valve_2 21 rfl rfl)
theorem dX5_valve_71 : decode cX5_valve 71 = .ok (.invokestatic 147, 3) := dk_184 0 147 (dk_at dksX5_valve_3 0 rfl rfl)
theorem dX5_valve_74 : decode cX5_valve 74 = .ok (.aastore, 1) := dk_83 (dk_at dksX5_valve_3 3 rfl rfl)
theorem dX5_valve_75 : decode cX5_valve 75 = .ok (.return_, 1) := dk_177 (dk_at dksX5_valve_3 4 rfl rfl)
abbrev cX5_cell : ByteArray := prog_6_method_7_code
def yX5_cell : MethodName := ⟨RX5, "cell", "()I"⟩
def dkwX5_cell_0 : List UInt8 := [42, 3, 42, 180, 0, 20, 182, 0, 101, 4, 100, 182, 0, 104, 172]
abbrev dktX5_cell_0 : List UInt8 := dkwX5_cell_0 ++ []
theorem dksX5_cell_0 : cX5_cell.data.toList.drop 0 = dktX5_cell_0 := by decide +kernel
theorem dX5_cell_0 : decode cX5_cell 0 = .ok (.aload_n 0, 1) := dk_42 (dk_at dksX5_cell_0 0 rfl rfl)
theorem dX5_cell_1 : decode cX5_cell 1 = .ok (.iconst 0, 1) := dk_3 (dk_at dksX5_cell_0 1 rfl rfl)
theorem dX5_cell_2 : decode cX5_cell 2 = .ok (.aload_n 0, 1) := dk_42 (dk_at dksX5_cell_0 2 rfl rfl)
theorem dX5_cell_3 : decode cX5_cell 3 = .ok (.getfield 20, 3) := dk_180 0 20 (dk_at dksX5_cell_0 3 rfl rfl)
theorem dX5_cell_6 : decode cX5_cell 6 = .ok (.invokevirtual 101, 3) := dk_182 0 101 (dk_at dksX5_cell_0 6 rfl rfl)
theorem dX5_cell_9 : decode cX5_cell 9 = .ok (.iconst 1, 1) := dk_4 (dk_at dksX5_cell_0 9 rfl rfl)
theorem dX5_cell_10 : decode cX5_cell 10 = .ok (.isub, 1) := dk_100 (dk_at dksX5_cell_0 10 rfl rfl)
theorem dX5_cell_11 : decode cX5_cell 11 = .ok (.invokevirtual 104, 3) := dk_182 0 104 (dk_at dksX5_cell_0 11 rfl rfl)
theorem dX5_cell_14 : decode cX5_cell 14 = .ok (.ireturn, 1) := dk_172 (dk_at dksX5_cell_0 14 rfl rfl)
abbrev cX5_source : ByteArray := prog_6_method_11_code
def yX5_source : MethodName := ⟨RX5, "source", "()V"⟩
def dkwX5_source_2 : List UInt8 := [180, 0, 20, 180, 0, 157, 27, 92, 46, 4, 28, 120, 128, 79, 177]
abbrev dktX5_source_2 : List UInt8 := dkwX5_source_2 ++ []
def dkwX5_source_1 : List UInt8 := [180, 0, 20, 180, 0, 157, 27, 46, 28, 122, 4, 126, 154, 0, 7, 4, 167, 0, 4, 3, 182, 0, 93, 42]
abbrev dktX5_source_1 : List UInt8 := dkwX5_source_1 ++ dktX5_source_2
def dkwX5_source_0 : List UInt8 := [42, 182, 0, 121, 60, 42, 180, 0, 29, 182, 0, 90, 61, 42, 28, 184, 0, 153, 153, 0, 23, 42]
abbrev dktX5_source_0 : List UInt8 := dkwX5_source_0 ++ dktX5_source_1
theorem dksX5_source_0 : cX5_source.data.toList.drop 0 = dktX5_source_0 := by decide +kernel
theorem dksX5_source_1 : cX5_source.data.toList.drop 22 = dktX5_source_1 := dk_seg dksX5_source_0 22 rfl rfl
theorem dksX5_source_2 : cX5_source.data.toList.drop 46 = dktX5_source_2 := dk_seg dksX5_source_1 24 rfl rfl
theorem dX5_source_0 : decode cX5_source 0 = .ok (.aload_n 0, 1) := dk_42 (dk_at dksX5_source_0 0 rfl rfl)
theorem dX5_source_1 : decode cX5_source 1 = .ok (.invokevirtual 121, 3) := dk_182 0 121 (dk_at dksX5_source_0 1 rfl rfl)
theorem dX5_source_4 : decode cX5_source 4 = .ok (.istore_n 1, 1) := dk_60 (dk_at dksX5_source_0 4 rfl rfl)
theorem dX5_source_5 : decode cX5_source 5 = .ok (.aload_n 0, 1) := dk_42 (dk_at dksX5_source_0 5 rfl rfl)
theorem dX5_source_6 : decode cX5_source 6 = .ok (.getfield 29, 3) := dk_180 0 29 (dk_at dksX5_source_0 6 rfl rfl)
theorem dX5_source_9 : decode cX5_source 9 = .ok (.invokevirtual 90, 3) := dk_182 0 90 (dk_at dksX5_source_0 9 rfl rfl)
theorem dX5_source_12 : decode cX5_source 12 = .ok (.istore_n 2, 1) := dk_61 (dk_at dksX5_source_0 12 rfl rfl)
theorem dX5_source_13 : decode cX5_source 13 = .ok (.aload_n 0, 1) := dk_42 (dk_at dksX5_source_0 13 rfl rfl)
theorem dX5_source_14 : decode cX5_source 14 = .ok (.iload_n 2, 1) := dk_28 (dk_at dksX5_source_0 14 rfl rfl)
theorem dX5_source_15 : decode cX5_source 15 = .ok (.invokestatic 153, 3) := dk_184 0 153 (dk_at dksX5_source_0 15 rfl rfl)
theorem dX5_source_18 : decode cX5_source 18 = .ok (.ifCond .eq 23, 3) := dk_153 0 23 (dk_at dksX5_source_0 18 rfl rfl)
theorem dX5_source_21 : decode cX5_source 21 = .ok (.aload_n 0, 1) := dk_42 (dk_at dksX5_source_0 21 rfl rfl)
theorem dX5_source_22 : decode cX5_source 22 = .ok (.getfield 20, 3) := dk_180 0 20 (dk_at dksX5_source_1 0 rfl rfl)
theorem dX5_source_25 : decode cX5_source 25 = .ok (.getfield 157, 3) := dk_180 0 157 (dk_at dksX5_source_1 3 rfl rfl)
theorem dX5_source_28 : decode cX5_source 28 = .ok (.iload_n 1, 1) := dk_27 (dk_at dksX5_source_1 6 rfl rfl)
theorem dX5_source_29 : decode cX5_source 29 = .ok (.iaload, 1) := dk_46 (dk_at dksX5_source_1 7 rfl rfl)
theorem dX5_source_30 : decode cX5_source 30 = .ok (.iload_n 2, 1) := dk_28 (dk_at dksX5_source_1 8 rfl rfl)
theorem dX5_source_31 : decode cX5_source 31 = .ok (.ishr, 1) := dk_122 (dk_at dksX5_source_1 9 rfl rfl)
theorem dX5_source_32 : decode cX5_source 32 = .ok (.iconst 1, 1) := dk_4 (dk_at dksX5_source_1 10 rfl rfl)
theorem dX5_source_33 : decode cX5_source 33 = .ok (.iand, 1) := dk_126 (dk_at dksX5_source_1 11 rfl rfl)
theorem dX5_source_34 : decode cX5_source 34 = .ok (.ifCond .ne 7, 3) := dk_154 0 7 (dk_at dksX5_source_1 12 rfl rfl)
theorem dX5_source_37 : decode cX5_source 37 = .ok (.iconst 1, 1) := dk_4 (dk_at dksX5_source_1 15 rfl rfl)
theorem dX5_source_38 : decode cX5_source 38 = .ok (.goto 4, 3) := dk_167 0 4 (dk_at dksX5_source_1 16 rfl rfl)
theorem dX5_source_41 : decode cX5_source 41 = .ok (.iconst 0, 1) := dk_3 (dk_at dksX5_source_1 19 rfl rfl)
theorem dX5_source_42 : decode cX5_source 42 = .ok (.invokevirtual 93, 3) := dk_182 0 93 (dk_at dksX5_source_1 20 rfl rfl)
theorem dX5_source_45 : decode cX5_source 45 = .ok (.aload_n 0, 1) := dk_42 (dk_at dksX5_source_1 23 rfl rfl)
theorem dX5_source_46 : decode cX5_source 46 = .ok (.getfield 20, 3) := dk_180 0 20 (dk_at dksX5_source_2 0 rfl rfl)
theorem dX5_source_49 : decode cX5_source 49 = .ok (.getfield 157, 3) := dk_180 0 157 (dk_at dksX5_source_2 3 rfl rfl)
theorem dX5_source_52 : decode cX5_source 52 = .ok (.iload_n 1, 1) := dk_27 (dk_at dksX5_source_2 6 rfl rfl)
theorem dX5_source_53 : decode cX5_source 53 = .ok (.dup2, 1) := dk_92 (dk_at dksX5_source_2 7 rfl rfl)
theorem dX5_source_54 : decode cX5_source 54 = .ok (.iaload, 1) := dk_46 (dk_at dksX5_source_2 8 rfl rfl)
theorem dX5_source_55 : decode cX5_source 55 = .ok (.iconst 1, 1) := dk_4 (dk_at dksX5_source_2 9 rfl rfl)
theorem dX5_source_56 : decode cX5_source 56 = .ok (.iload_n 2, 1) := dk_28 (dk_at dksX5_source_2 10 rfl rfl)
theorem dX5_source_57 : decode cX5_source 57 = .ok (.ishl, 1) := dk_120 (dk_at dksX5_source_2 11 rfl rfl)
theorem dX5_source_58 : decode cX5_source 58 = .ok (.ior, 1) := dk_128 (dk_at dksX5_source_2 12 rfl rfl)
theorem dX5_source_59 : decode cX5_source 59 = .ok (.iastore, 1) := dk_79 (dk_at dksX5_source_2 13 rfl rfl)
theorem dX5_source_60 : decode cX5_source 60 = .ok (.return_, 1) := dk_177 (dk_at dksX5_source_2 14 rfl rfl)
theorem q103 : (Jvm.Cond.initialized "DyeLattice$Parser") ∈ lw_all := lw_g (lw_at lw_m1 20 rfl) rfl
theorem q136 : (Jvm.Cond.fieldLinkNest "DyeLattice$Parser" (114 : Nat) "DyeLattice$Lattice" "columns" "I" "DyeLattice") ∈ lw_tbl := lw_at lw_m1 53 rfl
theorem q139 : (Jvm.Cond.fieldLinkNest "DyeLattice$Parser" (111 : Nat) "DyeLattice$Lattice" "rows" "I" "DyeLattice") ∈ lw_tbl := lw_at lw_m1 56 rfl
theorem q144 : (Jvm.Cond.fieldLinkNest "DyeLattice$Parser" (195 : Nat) "DyeLattice$Lattice" "threshold" "I" "DyeLattice") ∈ lw_tbl := lw_at lw_m1 61 rfl
theorem q153 : (Jvm.Cond.fieldLinkNest "DyeLattice$Parser" (117 : Nat) "DyeLattice$Lattice" "grains" "[I" "DyeLattice") ∈ lw_tbl := lw_at lw_m1 70 rfl
theorem q156 : (Jvm.Cond.fieldLinkNest "DyeLattice$Parser" (128 : Nat) "DyeLattice$Lattice" "valves" "[LDyeLattice$Valve;" "DyeLattice") ∈ lw_tbl := lw_at lw_m1 73 rfl
theorem q159 : (Jvm.Cond.fieldLinkNest "DyeLattice$Parser" (157 : Nat) "DyeLattice$Lattice" "sources" "[I" "DyeLattice") ∈ lw_tbl := lw_at lw_m1 76 rfl
theorem q247 : (Jvm.Cond.fieldLinkNest "DyeLattice$Parser" (37 : Nat) "DyeLattice" "text" "Ljava/lang/StringBuilder;" "DyeLattice") ∈ lw_tbl := lw_at lw_m1 164 rfl
theorem q318 : (Jvm.Cond.selects "DyeLattice$Parser" ({ cls := "java/lang/Object", name := "getClass", desc := "()Ljava/lang/Class;" } : Jvm.MethodName) ({ cls := "java/lang/Object", name := "getClass", desc := "()Ljava/lang/Class;" } : Jvm.MethodName)) ∈ lw_all := lw_g (lw_at lw_m1 235 rfl) rfl
theorem q621 : (Jvm.Cond.instantiable "DyeLattice$Parser" (4 : Nat)) ∈ lw_all := lw_g (lw_at lw_m3 58 rfl) rfl
theorem q623 : (Jvm.Cond.instanceMethod ({ cls := "DyeLattice$Parser", name := "<init>", desc := "(LDyeLattice;)V" } : Jvm.MethodName)) ∈ lw_all := lw_g (lw_at lw_m3 60 rfl) rfl
theorem q624 : (Jvm.Cond.code ({ cls := "DyeLattice$Parser", name := "<init>", desc := "(LDyeLattice;)V" } : Jvm.MethodName) prog_6_method_1_code (2 : Nat) (Option.none : Option Jvm.ClassFile.FieldType)) ∈ lw_all := lw_g (lw_at lw_m3 61 rfl) rfl
theorem q625 : (Jvm.Cond.methodLink "DyeLattice$Parser" (9 : Nat) ({ cls := "java/lang/Object", name := "<init>", desc := "()V" } : Jvm.MethodName)) ∈ lw_all := lw_g (lw_at lw_m3 62 rfl) rfl
theorem q626 : (Jvm.Cond.classLink "DyeLattice$Parser" (15 : Nat) "DyeLattice$Lattice") ∈ lw_all := lw_g (lw_at lw_m3 63 rfl) rfl
theorem q627 : (Jvm.Cond.methodLink "DyeLattice$Parser" (17 : Nat) ({ cls := "DyeLattice$Lattice", name := "<init>", desc := "(II)V" } : Jvm.MethodName)) ∈ lw_all := lw_g (lw_at lw_m3 64 rfl) rfl
theorem q628 : (Jvm.Cond.classLink "DyeLattice$Parser" (24 : Nat) "DyeLattice$Sign") ∈ lw_all := lw_g (lw_at lw_m3 65 rfl) rfl
theorem q630 : (Jvm.Cond.methodLink "DyeLattice$Parser" (26 : Nat) ({ cls := "DyeLattice$Sign", name := "<init>", desc := "(IC)V" } : Jvm.MethodName)) ∈ lw_all := lw_g (lw_at lw_m3 67 rfl) rfl
theorem q639 : (Jvm.Cond.fieldLinkNest "DyeLattice$Parser" (79 : Nat) "DyeLattice$Token" "start" "I" "DyeLattice") ∈ lw_tbl := lw_at lw_m3 76 rfl
theorem q645 : (Jvm.Cond.fieldLink "DyeLattice$Parser" (20 : Nat) "DyeLattice$Parser" "into" "LDyeLattice$Lattice;") ∈ lw_all := lw_g (lw_at lw_m3 82 rfl) rfl
theorem q647 : (Jvm.Cond.fieldLink "DyeLattice$Parser" (33 : Nat) "DyeLattice$Parser" "position" "I") ∈ lw_all := lw_g (lw_at lw_m3 84 rfl) rfl
theorem q648 : (Jvm.Cond.fieldLink "DyeLattice$Parser" (29 : Nat) "DyeLattice$Parser" "token" "LDyeLattice$Token;") ∈ lw_all := lw_g (lw_at lw_m3 85 rfl) rfl
theorem q649 : (Jvm.Cond.fieldLink "DyeLattice$Parser" (3 : Nat) "DyeLattice$Parser" "this$0" "LDyeLattice;") ∈ lw_all := lw_g (lw_at lw_m3 86 rfl) rfl
theorem q650 : (Jvm.Cond.lays "DyeLattice$Parser" "DyeLattice$Parser" "into" "LDyeLattice$Lattice;") ∈ lw_all := lw_g (lw_at lw_m3 87 rfl) rfl
theorem q651 : (Jvm.Cond.soleField "DyeLattice$Parser" "into") ∈ lw_all := lw_g (lw_at lw_m3 88 rfl) rfl
theorem q652 : (Jvm.Cond.lays "DyeLattice$Parser" "DyeLattice$Parser" "position" "I") ∈ lw_all := lw_g (lw_at lw_m3 89 rfl) rfl
theorem q653 : (Jvm.Cond.soleField "DyeLattice$Parser" "position") ∈ lw_all := lw_g (lw_at lw_m3 90 rfl) rfl
theorem q654 : (Jvm.Cond.lays "DyeLattice$Parser" "DyeLattice$Parser" "token" "LDyeLattice$Token;") ∈ lw_all := lw_g (lw_at lw_m3 91 rfl) rfl
theorem q655 : (Jvm.Cond.soleField "DyeLattice$Parser" "token") ∈ lw_all := lw_g (lw_at lw_m3 92 rfl) rfl
theorem q656 : (Jvm.Cond.laysFinal "DyeLattice$Parser" "DyeLattice$Parser" "this$0" "LDyeLattice;") ∈ lw_all := lw_g (lw_at lw_m3 93 rfl) rfl
theorem q657 : (Jvm.Cond.soleField "DyeLattice$Parser" "this$0") ∈ lw_all := lw_g (lw_at lw_m3 94 rfl) rfl
theorem q658 : (Jvm.Cond.superclass "DyeLattice$Parser" "java/lang/Object") ∈ lw_all := lw_g (lw_at lw_m3 95 rfl) rfl
theorem q660 : (Jvm.Cond.instanceMethod ({ cls := "DyeLattice$Parser", name := "items", desc := "()I" } : Jvm.MethodName)) ∈ lw_all := lw_g (lw_at lw_m3 97 rfl) rfl
theorem q661 : (Jvm.Cond.selects "DyeLattice$Parser" ({ cls := "DyeLattice$Parser", name := "items", desc := "()I" } : Jvm.MethodName) ({ cls := "DyeLattice$Parser", name := "items", desc := "()I" } : Jvm.MethodName)) ∈ lw_all := lw_g (lw_at lw_m3 98 rfl) rfl
theorem q662 : (Jvm.Cond.code ({ cls := "DyeLattice$Parser", name := "items", desc := "()I" } : Jvm.MethodName) prog_6_method_13_code (2 : Nat) (Option.some Jvm.ClassFile.FieldType.int)) ∈ lw_all := lw_g (lw_at lw_m3 99 rfl) rfl
theorem q663 : (Jvm.Cond.methodLink "DyeLattice$Parser" (87 : Nat) ({ cls := "DyeLattice$Parser", name := "advance", desc := "()V" } : Jvm.MethodName)) ∈ lw_all := lw_g (lw_at lw_m3 100 rfl) rfl
theorem q664 : (Jvm.Cond.privateMethod ({ cls := "DyeLattice$Parser", name := "advance", desc := "()V" } : Jvm.MethodName)) ∈ lw_tbl := lw_at lw_m3 101 rfl
theorem q665 : (Jvm.Cond.instanceMethod ({ cls := "DyeLattice$Parser", name := "advance", desc := "()V" } : Jvm.MethodName)) ∈ lw_all := lw_g (lw_at lw_m3 102 rfl) rfl
theorem q666 : (Jvm.Cond.code ({ cls := "DyeLattice$Parser", name := "advance", desc := "()V" } : Jvm.MethodName) prog_6_method_3_code (3 : Nat) (Option.none : Option Jvm.ClassFile.FieldType)) ∈ lw_all := lw_g (lw_at lw_m3 103 rfl) rfl
theorem q667 : (Jvm.Cond.methodLink "DyeLattice$Parser" (51 : Nat) ({ cls := "DyeLattice$Parser", name := "here", desc := "()C" } : Jvm.MethodName)) ∈ lw_all := lw_g (lw_at lw_m3 104 rfl) rfl
theorem q668 : (Jvm.Cond.privateMethod ({ cls := "DyeLattice$Parser", name := "here", desc := "()C" } : Jvm.MethodName)) ∈ lw_tbl := lw_at lw_m3 105 rfl
theorem q669 : (Jvm.Cond.instanceMethod ({ cls := "DyeLattice$Parser", name := "here", desc := "()C" } : Jvm.MethodName)) ∈ lw_all := lw_g (lw_at lw_m3 106 rfl) rfl
theorem q670 : (Jvm.Cond.code ({ cls := "DyeLattice$Parser", name := "here", desc := "()C" } : Jvm.MethodName) prog_6_method_2_code (1 : Nat) (Option.some Jvm.ClassFile.FieldType.char)) ∈ lw_all := lw_g (lw_at lw_m3 107 rfl) rfl
theorem q671 : (Jvm.Cond.methodLink "DyeLattice$Parser" (41 : Nat) ({ cls := "java/lang/StringBuilder", name := "length", desc := "()I" } : Jvm.MethodName)) ∈ lw_all := lw_g (lw_at lw_m3 108 rfl) rfl
theorem q672 : (Jvm.Cond.methodLink "DyeLattice$Parser" (47 : Nat) ({ cls := "java/lang/StringBuilder", name := "charAt", desc := "(I)C" } : Jvm.MethodName)) ∈ lw_all := lw_g (lw_at lw_m3 109 rfl) rfl
theorem q684 : (Jvm.Cond.methodLinkNest "DyeLattice$Parser" (55 : Nat) ({ cls := "DyeLattice", name := "isBetween", desc := "(III)Z" } : Jvm.MethodName) "DyeLattice") ∈ lw_tbl := lw_at lw_m3 121 rfl
theorem q685 : (Jvm.Cond.classLink "DyeLattice$Parser" (59 : Nat) "DyeLattice$Word") ∈ lw_all := lw_g (lw_at lw_m3 122 rfl) rfl
theorem q687 : (Jvm.Cond.methodLink "DyeLattice$Parser" (61 : Nat) ({ cls := "java/lang/StringBuilder", name := "substring", desc := "(II)Ljava/lang/String;" } : Jvm.MethodName)) ∈ lw_all := lw_g (lw_at lw_m3 124 rfl) rfl
theorem q746 : (Jvm.Cond.methodLink "DyeLattice$Parser" (65 : Nat) ({ cls := "DyeLattice$Word", name := "<init>", desc := "(ILjava/lang/String;)V" } : Jvm.MethodName)) ∈ lw_all := lw_g (lw_at lw_m3 183 rfl) rfl
theorem q755 : (Jvm.Cond.methodLink "DyeLattice$Parser" (68 : Nat) ({ cls := "java/lang/Math", name := "min", desc := "(II)I" } : Jvm.MethodName)) ∈ lw_all := lw_g (lw_at lw_m3 192 rfl) rfl
theorem q756 : (Jvm.Cond.classLink "DyeLattice$Parser" (74 : Nat) "DyeLattice$Number") ∈ lw_all := lw_g (lw_at lw_m3 193 rfl) rfl
theorem q758 : (Jvm.Cond.methodLink "DyeLattice$Parser" (76 : Nat) ({ cls := "DyeLattice$Number", name := "<init>", desc := "(II)V" } : Jvm.MethodName)) ∈ lw_all := lw_g (lw_at lw_m3 195 rfl) rfl
theorem q767 : (Jvm.Cond.methodLink "DyeLattice$Parser" (198 : Nat) ({ cls := "DyeLattice$Token", name := "isSign", desc := "(C)Z" } : Jvm.MethodName)) ∈ lw_all := lw_g (lw_at lw_m3 204 rfl) rfl
theorem q776 : (Jvm.Cond.methodLink "DyeLattice$Parser" (202 : Nat) ({ cls := "DyeLattice$Parser", name := "item", desc := "(Z)V" } : Jvm.MethodName)) ∈ lw_all := lw_g (lw_at lw_m3 213 rfl) rfl
theorem q777 : (Jvm.Cond.privateMethod ({ cls := "DyeLattice$Parser", name := "item", desc := "(Z)V" } : Jvm.MethodName)) ∈ lw_tbl := lw_at lw_m3 214 rfl
theorem q778 : (Jvm.Cond.instanceMethod ({ cls := "DyeLattice$Parser", name := "item", desc := "(Z)V" } : Jvm.MethodName)) ∈ lw_all := lw_g (lw_at lw_m3 215 rfl) rfl
theorem q779 : (Jvm.Cond.code ({ cls := "DyeLattice$Parser", name := "item", desc := "(Z)V" } : Jvm.MethodName) prog_6_method_12_code (4 : Nat) (Option.none : Option Jvm.ClassFile.FieldType)) ∈ lw_all := lw_g (lw_at lw_m3 216 rfl) rfl
theorem q780 : (Jvm.Cond.classLink "DyeLattice$Parser" (132 : Nat) "java/lang/String") ∈ lw_all := lw_g (lw_at lw_m3 217 rfl) rfl
theorem q782 : (Jvm.Cond.stringRef "DyeLattice$Parser" (160 : Nat) "size") ∈ lw_tbl := lw_at lw_m3 219 rfl
theorem q783 : (Jvm.Cond.stringRef "DyeLattice$Parser" (162 : Nat) "kind") ∈ lw_tbl := lw_at lw_m3 220 rfl
theorem q784 : (Jvm.Cond.stringRef "DyeLattice$Parser" (164 : Nat) "row") ∈ lw_tbl := lw_at lw_m3 221 rfl
theorem q785 : (Jvm.Cond.stringRef "DyeLattice$Parser" (166 : Nat) "fill") ∈ lw_tbl := lw_at lw_m3 222 rfl
theorem q786 : (Jvm.Cond.stringRef "DyeLattice$Parser" (168 : Nat) "valve") ∈ lw_tbl := lw_at lw_m3 223 rfl
theorem q787 : (Jvm.Cond.stringRef "DyeLattice$Parser" (170 : Nat) "source") ∈ lw_tbl := lw_at lw_m3 224 rfl
theorem q788 : (Jvm.Cond.stringRef "DyeLattice$Parser" (172 : Nat) "at") ∈ lw_tbl := lw_at lw_m3 225 rfl
theorem q789 : (Jvm.Cond.methodLink "DyeLattice$Parser" (97 : Nat) ({ cls := "DyeLattice$Token", name := "among", desc := "([Ljava/lang/String;)I" } : Jvm.MethodName)) ∈ lw_all := lw_g (lw_at lw_m3 226 rfl) rfl
theorem q807 : (Jvm.Cond.methodLink "DyeLattice$Parser" (93 : Nat) ({ cls := "DyeLattice$Parser", name := "take", desc := "(Z)V" } : Jvm.MethodName)) ∈ lw_all := lw_g (lw_at lw_m4 4 rfl) rfl
theorem q808 : (Jvm.Cond.privateMethod ({ cls := "DyeLattice$Parser", name := "take", desc := "(Z)V" } : Jvm.MethodName)) ∈ lw_tbl := lw_at lw_m4 5 rfl
theorem q809 : (Jvm.Cond.instanceMethod ({ cls := "DyeLattice$Parser", name := "take", desc := "(Z)V" } : Jvm.MethodName)) ∈ lw_all := lw_g (lw_at lw_m4 6 rfl) rfl
theorem q810 : (Jvm.Cond.code ({ cls := "DyeLattice$Parser", name := "take", desc := "(Z)V" } : Jvm.MethodName) prog_6_method_4_code (2 : Nat) (Option.none : Option Jvm.ClassFile.FieldType)) ∈ lw_all := lw_g (lw_at lw_m4 7 rfl) rfl
theorem q811 : (Jvm.Cond.classLink "DyeLattice$Parser" (77 : Nat) "DyeLattice$TokenException") ∈ lw_all := lw_g (lw_at lw_m4 8 rfl) rfl
theorem q848 : (Jvm.Cond.methodLink "DyeLattice$Parser" (84 : Nat) ({ cls := "DyeLattice$TokenException", name := "<init>", desc := "(I)V" } : Jvm.MethodName)) ∈ lw_all := lw_g (lw_at lw_m4 45 rfl) rfl
theorem q875 : (Jvm.Cond.methodLink "DyeLattice$Parser" (174 : Nat) ({ cls := "DyeLattice$Parser", name := "size", desc := "()V" } : Jvm.MethodName)) ∈ lw_all := lw_g (lw_at lw_m4 72 rfl) rfl
theorem q876 : (Jvm.Cond.privateMethod ({ cls := "DyeLattice$Parser", name := "size", desc := "()V" } : Jvm.MethodName)) ∈ lw_tbl := lw_at lw_m4 73 rfl
theorem q877 : (Jvm.Cond.instanceMethod ({ cls := "DyeLattice$Parser", name := "size", desc := "()V" } : Jvm.MethodName)) ∈ lw_all := lw_g (lw_at lw_m4 74 rfl) rfl
theorem q878 : (Jvm.Cond.code ({ cls := "DyeLattice$Parser", name := "size", desc := "()V" } : Jvm.MethodName) prog_6_method_8_code (2 : Nat) (Option.none : Option Jvm.ClassFile.FieldType)) ∈ lw_all := lw_g (lw_at lw_m4 75 rfl) rfl
theorem q879 : (Jvm.Cond.methodLink "DyeLattice$Parser" (104 : Nat) ({ cls := "DyeLattice$Parser", name := "number", desc := "(II)I" } : Jvm.MethodName)) ∈ lw_all := lw_g (lw_at lw_m4 76 rfl) rfl
theorem q880 : (Jvm.Cond.privateMethod ({ cls := "DyeLattice$Parser", name := "number", desc := "(II)I" } : Jvm.MethodName)) ∈ lw_tbl := lw_at lw_m4 77 rfl
theorem q881 : (Jvm.Cond.instanceMethod ({ cls := "DyeLattice$Parser", name := "number", desc := "(II)I" } : Jvm.MethodName)) ∈ lw_all := lw_g (lw_at lw_m4 78 rfl) rfl
theorem q882 : (Jvm.Cond.code ({ cls := "DyeLattice$Parser", name := "number", desc := "(II)I" } : Jvm.MethodName) prog_6_method_5_code (4 : Nat) (Option.some Jvm.ClassFile.FieldType.int)) ∈ lw_all := lw_g (lw_at lw_m4 79 rfl) rfl
theorem q883 : (Jvm.Cond.methodLink "DyeLattice$Parser" (90 : Nat) ({ cls := "DyeLattice$Token", name := "value", desc := "()I" } : Jvm.MethodName)) ∈ lw_all := lw_g (lw_at lw_m4 80 rfl) rfl
theorem q892 : (Jvm.Cond.methodLink "DyeLattice$Parser" (107 : Nat) ({ cls := "DyeLattice$Lattice", name := "resized", desc := "(II)LDyeLattice$Lattice;" } : Jvm.MethodName)) ∈ lw_all := lw_g (lw_at lw_m4 89 rfl) rfl
theorem q893 : (Jvm.Cond.stringRef "DyeLattice$Parser" (176 : Nat) "square") ∈ lw_tbl := lw_at lw_m4 90 rfl
theorem q894 : (Jvm.Cond.stringRef "DyeLattice$Parser" (178 : Nat) "triangular") ∈ lw_tbl := lw_at lw_m4 91 rfl
theorem q895 : (Jvm.Cond.stringRef "DyeLattice$Parser" (180 : Nat) "full") ∈ lw_tbl := lw_at lw_m4 92 rfl
theorem q896 : (Jvm.Cond.methodLink "DyeLattice$Parser" (144 : Nat) ({ cls := "DyeLattice$Parser", name := "word", desc := "([Ljava/lang/String;)I" } : Jvm.MethodName)) ∈ lw_all := lw_g (lw_at lw_m4 93 rfl) rfl
theorem q897 : (Jvm.Cond.privateMethod ({ cls := "DyeLattice$Parser", name := "word", desc := "([Ljava/lang/String;)I" } : Jvm.MethodName)) ∈ lw_tbl := lw_at lw_m4 94 rfl
theorem q898 : (Jvm.Cond.instanceMethod ({ cls := "DyeLattice$Parser", name := "word", desc := "([Ljava/lang/String;)I" } : Jvm.MethodName)) ∈ lw_all := lw_g (lw_at lw_m4 95 rfl) rfl
theorem q899 : (Jvm.Cond.code ({ cls := "DyeLattice$Parser", name := "word", desc := "([Ljava/lang/String;)I" } : Jvm.MethodName) prog_6_method_6_code (3 : Nat) (Option.some Jvm.ClassFile.FieldType.int)) ∈ lw_all := lw_g (lw_at lw_m4 96 rfl) rfl
theorem q900 : (Jvm.Cond.methodLinkNest "DyeLattice$Parser" (182 : Nat) ({ cls := "DyeLattice", name := "changeKind", desc := "(LDyeLattice$Lattice;I)V" } : Jvm.MethodName) "DyeLattice") ∈ lw_tbl := lw_at lw_m4 97 rfl
theorem q901 : (Jvm.Cond.methodLink "DyeLattice$Parser" (186 : Nat) ({ cls := "DyeLattice$Parser", name := "row", desc := "()V" } : Jvm.MethodName)) ∈ lw_all := lw_g (lw_at lw_m4 98 rfl) rfl
theorem q902 : (Jvm.Cond.privateMethod ({ cls := "DyeLattice$Parser", name := "row", desc := "()V" } : Jvm.MethodName)) ∈ lw_tbl := lw_at lw_m4 99 rfl
theorem q903 : (Jvm.Cond.instanceMethod ({ cls := "DyeLattice$Parser", name := "row", desc := "()V" } : Jvm.MethodName)) ∈ lw_all := lw_g (lw_at lw_m4 100 rfl) rfl
theorem q904 : (Jvm.Cond.code ({ cls := "DyeLattice$Parser", name := "row", desc := "()V" } : Jvm.MethodName) prog_6_method_9_code (3 : Nat) (Option.none : Option Jvm.ClassFile.FieldType)) ∈ lw_all := lw_g (lw_at lw_m4 101 rfl) rfl
theorem q905 : (Jvm.Cond.methodLink "DyeLattice$Parser" (188 : Nat) ({ cls := "DyeLattice$Lattice", name := "fill", desc := "(I)I" } : Jvm.MethodName)) ∈ lw_all := lw_g (lw_at lw_m4 102 rfl) rfl
theorem q906 : (Jvm.Cond.methodLink "DyeLattice$Parser" (191 : Nat) ({ cls := "DyeLattice$Parser", name := "valve", desc := "()V" } : Jvm.MethodName)) ∈ lw_all := lw_g (lw_at lw_m4 103 rfl) rfl
theorem q907 : (Jvm.Cond.privateMethod ({ cls := "DyeLattice$Parser", name := "valve", desc := "()V" } : Jvm.MethodName)) ∈ lw_tbl := lw_at lw_m4 104 rfl
theorem q908 : (Jvm.Cond.instanceMethod ({ cls := "DyeLattice$Parser", name := "valve", desc := "()V" } : Jvm.MethodName)) ∈ lw_all := lw_g (lw_at lw_m4 105 rfl) rfl
theorem q909 : (Jvm.Cond.code ({ cls := "DyeLattice$Parser", name := "valve", desc := "()V" } : Jvm.MethodName) prog_6_method_10_code (3 : Nat) (Option.none : Option Jvm.ClassFile.FieldType)) ∈ lw_all := lw_g (lw_at lw_m4 106 rfl) rfl
theorem q910 : (Jvm.Cond.methodLink "DyeLattice$Parser" (121 : Nat) ({ cls := "DyeLattice$Parser", name := "cell", desc := "()I" } : Jvm.MethodName)) ∈ lw_all := lw_g (lw_at lw_m4 107 rfl) rfl
theorem q911 : (Jvm.Cond.privateMethod ({ cls := "DyeLattice$Parser", name := "cell", desc := "()I" } : Jvm.MethodName)) ∈ lw_tbl := lw_at lw_m4 108 rfl
theorem q912 : (Jvm.Cond.instanceMethod ({ cls := "DyeLattice$Parser", name := "cell", desc := "()I" } : Jvm.MethodName)) ∈ lw_all := lw_g (lw_at lw_m4 109 rfl) rfl
theorem q913 : (Jvm.Cond.code ({ cls := "DyeLattice$Parser", name := "cell", desc := "()I" } : Jvm.MethodName) prog_6_method_7_code (1 : Nat) (Option.some Jvm.ClassFile.FieldType.int)) ∈ lw_all := lw_g (lw_at lw_m4 110 rfl) rfl
theorem q914 : (Jvm.Cond.methodLink "DyeLattice$Parser" (101 : Nat) ({ cls := "DyeLattice$Lattice", name := "cells", desc := "()I" } : Jvm.MethodName)) ∈ lw_all := lw_g (lw_at lw_m4 111 rfl) rfl
theorem q915 : (Jvm.Cond.methodLink "DyeLattice$Parser" (124 : Nat) ({ cls := "DyeLattice$Lattice", name := "isBond", desc := "(II)Z" } : Jvm.MethodName)) ∈ lw_all := lw_g (lw_at lw_m4 112 rfl) rfl
theorem q916 : (Jvm.Cond.stringRef "DyeLattice$Parser" (134 : Nat) "free") ∈ lw_tbl := lw_at lw_m4 113 rfl
theorem q917 : (Jvm.Cond.stringRef "DyeLattice$Parser" (136 : Nat) "shut") ∈ lw_tbl := lw_at lw_m4 114 rfl
theorem q918 : (Jvm.Cond.stringRef "DyeLattice$Parser" (138 : Nat) "forth") ∈ lw_tbl := lw_at lw_m4 115 rfl
theorem q919 : (Jvm.Cond.stringRef "DyeLattice$Parser" (140 : Nat) "back") ∈ lw_tbl := lw_at lw_m4 116 rfl
theorem q920 : (Jvm.Cond.stringRef "DyeLattice$Parser" (142 : Nat) "beating") ∈ lw_tbl := lw_at lw_m4 117 rfl
theorem q921 : (Jvm.Cond.methodLink "DyeLattice$Parser" (147 : Nat) ({ cls := "DyeLattice$Valve", name := "of", desc := "(I)LDyeLattice$Valve;" } : Jvm.MethodName)) ∈ lw_all := lw_g (lw_at lw_m4 118 rfl) rfl
theorem q922 : (Jvm.Cond.methodLink "DyeLattice$Parser" (193 : Nat) ({ cls := "DyeLattice$Parser", name := "source", desc := "()V" } : Jvm.MethodName)) ∈ lw_all := lw_g (lw_at lw_m4 119 rfl) rfl
theorem q923 : (Jvm.Cond.privateMethod ({ cls := "DyeLattice$Parser", name := "source", desc := "()V" } : Jvm.MethodName)) ∈ lw_tbl := lw_at lw_m4 120 rfl
theorem q924 : (Jvm.Cond.instanceMethod ({ cls := "DyeLattice$Parser", name := "source", desc := "()V" } : Jvm.MethodName)) ∈ lw_all := lw_g (lw_at lw_m4 121 rfl) rfl
theorem q925 : (Jvm.Cond.code ({ cls := "DyeLattice$Parser", name := "source", desc := "()V" } : Jvm.MethodName) prog_6_method_11_code (3 : Nat) (Option.none : Option Jvm.ClassFile.FieldType)) ∈ lw_all := lw_g (lw_at lw_m4 122 rfl) rfl
theorem q926 : (Jvm.Cond.methodLinkNest "DyeLattice$Parser" (153 : Nat) ({ cls := "DyeLattice", name := "isDye", desc := "(I)Z" } : Jvm.MethodName) "DyeLattice") ∈ lw_tbl := lw_at lw_m4 123 rfl
theorem q1558 : (Jvm.Cond.castable "DyeLattice$Parser" "java/lang/Object") ∈ lw_tbl := lw_at lw_m7 35 rfl

/-! DyeLattice$Token -/
set_option maxRecDepth 100000
abbrev cX6_init : ByteArray := prog_9_method_1_code
def yX6_init : MethodName := ⟨RX6, "<init>", "(I)V"⟩
def dkwX6_init_0 : List UInt8 := [42, 183, 0, 3, 42, 27, 181, 0, 9, 177]
abbrev dktX6_init_0 : List UInt8 := dkwX6_init_0 ++ []
theorem dksX6_init_0 : cX6_init.data.toList.drop 0 = dktX6_init_0 := by decide +kernel
theorem dX6_init_0 : decode cX6_init 0 = .ok (.aload_n 0, 1) := dk_42 (dk_at dksX6_init_0 0 rfl rfl)
theorem dX6_init_1 : decode cX6_init 1 = .ok (.invokespecial 3, 3) := dk_183 0 3 (dk_at dksX6_init_0 1 rfl rfl)
theorem dX6_init_4 : decode cX6_init 4 = .ok (.aload_n 0, 1) := dk_42 (dk_at dksX6_init_0 4 rfl rfl)
theorem dX6_init_5 : decode cX6_init 5 = .ok (.iload_n 1, 1) := dk_27 (dk_at dksX6_init_0 5 rfl rfl)
theorem dX6_init_6 : decode cX6_init 6 = .ok (.putfield 9, 3) := dk_181 0 9 (dk_at dksX6_init_0 6 rfl rfl)
theorem dX6_init_9 : decode cX6_init 9 = .ok (.return_, 1) := dk_177 (dk_at dksX6_init_0 9 rfl rfl)
abbrev cX6_isSign : ByteArray := prog_9_method_4_code
def yX6_isSign : MethodName := ⟨RX6, "isSign", "(C)Z"⟩
theorem dX6_isSign_0 : decode cX6_isSign 0 = .ok (.iconst 0, 1) := by decide +kernel
theorem dX6_isSign_1 : decode cX6_isSign 1 = .ok (.ireturn, 1) := by decide +kernel
abbrev cX6_among : ByteArray := prog_9_method_2_code
def yX6_among : MethodName := ⟨RX6, "among", "([Ljava/lang/String;)I"⟩
theorem dX6_among_0 : decode cX6_among 0 = .ok (.bipush (-9), 2) := by decide +kernel
theorem dX6_among_2 : decode cX6_among 2 = .ok (.ireturn, 1) := by decide +kernel
abbrev cX6_value : ByteArray := prog_9_method_3_code
def yX6_value : MethodName := ⟨RX6, "value", "()I"⟩
theorem dX6_value_0 : decode cX6_value 0 = .ok (.bipush (-9), 2) := by decide +kernel
theorem dX6_value_2 : decode cX6_value 2 = .ok (.ireturn, 1) := by decide +kernel
theorem q104 : (Jvm.Cond.initialized "DyeLattice$Token") ∈ lw_all := lw_g (lw_at lw_m1 21 rfl) rfl
theorem q634 : (Jvm.Cond.instanceMethod ({ cls := "DyeLattice$Token", name := "<init>", desc := "(I)V" } : Jvm.MethodName)) ∈ lw_all := lw_g (lw_at lw_m3 71 rfl) rfl
theorem q635 : (Jvm.Cond.code ({ cls := "DyeLattice$Token", name := "<init>", desc := "(I)V" } : Jvm.MethodName) prog_9_method_1_code (2 : Nat) (Option.none : Option Jvm.ClassFile.FieldType)) ∈ lw_all := lw_g (lw_at lw_m3 72 rfl) rfl
theorem q636 : (Jvm.Cond.methodLink "DyeLattice$Token" (3 : Nat) ({ cls := "java/lang/Object", name := "<init>", desc := "()V" } : Jvm.MethodName)) ∈ lw_all := lw_g (lw_at lw_m3 73 rfl) rfl
theorem q638 : (Jvm.Cond.fieldLink "DyeLattice$Token" (9 : Nat) "DyeLattice$Token" "start" "I") ∈ lw_all := lw_g (lw_at lw_m3 75 rfl) rfl
theorem q643 : (Jvm.Cond.soleField "DyeLattice$Token" "start") ∈ lw_all := lw_g (lw_at lw_m3 80 rfl) rfl
theorem q768 : (Jvm.Cond.instanceMethod ({ cls := "DyeLattice$Token", name := "isSign", desc := "(C)Z" } : Jvm.MethodName)) ∈ lw_all := lw_g (lw_at lw_m3 205 rfl) rfl
theorem q769 : (Jvm.Cond.sameMethod "DyeLattice$Token" "DyeLattice$Token" "isSign" "(C)Z") ∈ lw_all := lw_g (lw_at lw_m3 206 rfl) rfl
theorem q775 : (Jvm.Cond.code ({ cls := "DyeLattice$Token", name := "isSign", desc := "(C)Z" } : Jvm.MethodName) prog_9_method_4_code (2 : Nat) (Option.some Jvm.ClassFile.FieldType.boolean)) ∈ lw_all := lw_g (lw_at lw_m3 212 rfl) rfl
theorem q790 : (Jvm.Cond.instanceMethod ({ cls := "DyeLattice$Token", name := "among", desc := "([Ljava/lang/String;)I" } : Jvm.MethodName)) ∈ lw_all := lw_g (lw_at lw_m3 227 rfl) rfl
theorem q791 : (Jvm.Cond.sameMethod "DyeLattice$Token" "DyeLattice$Token" "among" "([Ljava/lang/String;)I") ∈ lw_all := lw_g (lw_at lw_m3 228 rfl) rfl
theorem q806 : (Jvm.Cond.code ({ cls := "DyeLattice$Token", name := "among", desc := "([Ljava/lang/String;)I" } : Jvm.MethodName) prog_9_method_2_code (2 : Nat) (Option.some Jvm.ClassFile.FieldType.int)) ∈ lw_all := lw_g (lw_at lw_m4 3 rfl) rfl
theorem q884 : (Jvm.Cond.instanceMethod ({ cls := "DyeLattice$Token", name := "value", desc := "()I" } : Jvm.MethodName)) ∈ lw_all := lw_g (lw_at lw_m4 81 rfl) rfl
theorem q885 : (Jvm.Cond.sameMethod "DyeLattice$Token" "DyeLattice$Token" "value" "()I") ∈ lw_all := lw_g (lw_at lw_m4 82 rfl) rfl
theorem q891 : (Jvm.Cond.code ({ cls := "DyeLattice$Token", name := "value", desc := "()I" } : Jvm.MethodName) prog_9_method_3_code (1 : Nat) (Option.some Jvm.ClassFile.FieldType.int)) ∈ lw_all := lw_g (lw_at lw_m4 88 rfl) rfl

/-! DyeLattice$Sign -/
set_option maxRecDepth 100000
abbrev cX7_init : ByteArray := prog_7_method_1_code
def yX7_init : MethodName := ⟨RX7, "<init>", "(IC)V"⟩
def dkwX7_init_0 : List UInt8 := [42, 27, 183, 0, 1, 42, 28, 181, 0, 7, 177]
abbrev dktX7_init_0 : List UInt8 := dkwX7_init_0 ++ []
theorem dksX7_init_0 : cX7_init.data.toList.drop 0 = dktX7_init_0 := by decide +kernel
theorem dX7_init_0 : decode cX7_init 0 = .ok (.aload_n 0, 1) := dk_42 (dk_at dksX7_init_0 0 rfl rfl)
theorem dX7_init_1 : decode cX7_init 1 = .ok (.iload_n 1, 1) := dk_27 (dk_at dksX7_init_0 1 rfl rfl)
theorem dX7_init_2 : decode cX7_init 2 = .ok (.invokespecial 1, 3) := dk_183 0 1 (dk_at dksX7_init_0 2 rfl rfl)
theorem dX7_init_5 : decode cX7_init 5 = .ok (.aload_n 0, 1) := dk_42 (dk_at dksX7_init_0 5 rfl rfl)
theorem dX7_init_6 : decode cX7_init 6 = .ok (.iload_n 2, 1) := dk_28 (dk_at dksX7_init_0 6 rfl rfl)
theorem dX7_init_7 : decode cX7_init 7 = .ok (.putfield 7, 3) := dk_181 0 7 (dk_at dksX7_init_0 7 rfl rfl)
theorem dX7_init_10 : decode cX7_init 10 = .ok (.return_, 1) := dk_177 (dk_at dksX7_init_0 10 rfl rfl)
abbrev cX7_isSign : ByteArray := prog_7_method_2_code
def yX7_isSign : MethodName := ⟨RX7, "isSign", "(C)Z"⟩
def dkwX7_isSign_0 : List UInt8 := [42, 180, 0, 7, 27, 160, 0, 7, 4, 167, 0, 4, 3, 172]
abbrev dktX7_isSign_0 : List UInt8 := dkwX7_isSign_0 ++ []
theorem dksX7_isSign_0 : cX7_isSign.data.toList.drop 0 = dktX7_isSign_0 := by decide +kernel
theorem dX7_isSign_0 : decode cX7_isSign 0 = .ok (.aload_n 0, 1) := dk_42 (dk_at dksX7_isSign_0 0 rfl rfl)
theorem dX7_isSign_1 : decode cX7_isSign 1 = .ok (.getfield 7, 3) := dk_180 0 7 (dk_at dksX7_isSign_0 1 rfl rfl)
theorem dX7_isSign_4 : decode cX7_isSign 4 = .ok (.iload_n 1, 1) := dk_27 (dk_at dksX7_isSign_0 4 rfl rfl)
theorem dX7_isSign_5 : decode cX7_isSign 5 = .ok (.if_icmp .ne 7, 3) := dk_160 0 7 (dk_at dksX7_isSign_0 5 rfl rfl)
theorem dX7_isSign_8 : decode cX7_isSign 8 = .ok (.iconst 1, 1) := dk_4 (dk_at dksX7_isSign_0 8 rfl rfl)
theorem dX7_isSign_9 : decode cX7_isSign 9 = .ok (.goto 4, 3) := dk_167 0 4 (dk_at dksX7_isSign_0 9 rfl rfl)
theorem dX7_isSign_12 : decode cX7_isSign 12 = .ok (.iconst 0, 1) := dk_3 (dk_at dksX7_isSign_0 12 rfl rfl)
theorem dX7_isSign_13 : decode cX7_isSign 13 = .ok (.ireturn, 1) := dk_172 (dk_at dksX7_isSign_0 13 rfl rfl)
theorem q105 : (Jvm.Cond.initialized "DyeLattice$Sign") ∈ lw_all := lw_g (lw_at lw_m1 22 rfl) rfl
theorem q319 : (Jvm.Cond.selects "DyeLattice$Sign" ({ cls := "java/lang/Object", name := "getClass", desc := "()Ljava/lang/Class;" } : Jvm.MethodName) ({ cls := "java/lang/Object", name := "getClass", desc := "()Ljava/lang/Class;" } : Jvm.MethodName)) ∈ lw_all := lw_g (lw_at lw_m1 236 rfl) rfl
theorem q629 : (Jvm.Cond.instantiable "DyeLattice$Sign" (2 : Nat)) ∈ lw_all := lw_g (lw_at lw_m3 66 rfl) rfl
theorem q631 : (Jvm.Cond.instanceMethod ({ cls := "DyeLattice$Sign", name := "<init>", desc := "(IC)V" } : Jvm.MethodName)) ∈ lw_all := lw_g (lw_at lw_m3 68 rfl) rfl
theorem q632 : (Jvm.Cond.code ({ cls := "DyeLattice$Sign", name := "<init>", desc := "(IC)V" } : Jvm.MethodName) prog_7_method_1_code (3 : Nat) (Option.none : Option Jvm.ClassFile.FieldType)) ∈ lw_all := lw_g (lw_at lw_m3 69 rfl) rfl
theorem q633 : (Jvm.Cond.methodLink "DyeLattice$Sign" (1 : Nat) ({ cls := "DyeLattice$Token", name := "<init>", desc := "(I)V" } : Jvm.MethodName)) ∈ lw_all := lw_g (lw_at lw_m3 70 rfl) rfl
theorem q637 : (Jvm.Cond.fieldLink "DyeLattice$Sign" (7 : Nat) "DyeLattice$Sign" "sign" "C") ∈ lw_all := lw_g (lw_at lw_m3 74 rfl) rfl
theorem q640 : (Jvm.Cond.laysFinal "DyeLattice$Sign" "DyeLattice$Sign" "sign" "C") ∈ lw_all := lw_g (lw_at lw_m3 77 rfl) rfl
theorem q641 : (Jvm.Cond.soleField "DyeLattice$Sign" "sign") ∈ lw_all := lw_g (lw_at lw_m3 78 rfl) rfl
theorem q642 : (Jvm.Cond.laysFinal "DyeLattice$Sign" "DyeLattice$Token" "start" "I") ∈ lw_all := lw_g (lw_at lw_m3 79 rfl) rfl
theorem q644 : (Jvm.Cond.superclass "DyeLattice$Sign" "DyeLattice$Token") ∈ lw_all := lw_g (lw_at lw_m3 81 rfl) rfl
theorem q771 : (Jvm.Cond.selects "DyeLattice$Sign" ({ cls := "DyeLattice$Token", name := "isSign", desc := "(C)Z" } : Jvm.MethodName) ({ cls := "DyeLattice$Sign", name := "isSign", desc := "(C)Z" } : Jvm.MethodName)) ∈ lw_all := lw_g (lw_at lw_m3 208 rfl) rfl
theorem q772 : (Jvm.Cond.instanceMethod ({ cls := "DyeLattice$Sign", name := "isSign", desc := "(C)Z" } : Jvm.MethodName)) ∈ lw_all := lw_g (lw_at lw_m3 209 rfl) rfl
theorem q773 : (Jvm.Cond.code ({ cls := "DyeLattice$Sign", name := "isSign", desc := "(C)Z" } : Jvm.MethodName) prog_7_method_2_code (2 : Nat) (Option.some Jvm.ClassFile.FieldType.boolean)) ∈ lw_all := lw_g (lw_at lw_m3 210 rfl) rfl
theorem q793 : (Jvm.Cond.selects "DyeLattice$Sign" ({ cls := "DyeLattice$Token", name := "among", desc := "([Ljava/lang/String;)I" } : Jvm.MethodName) ({ cls := "DyeLattice$Token", name := "among", desc := "([Ljava/lang/String;)I" } : Jvm.MethodName)) ∈ lw_all := lw_g (lw_at lw_m3 230 rfl) rfl
theorem q889 : (Jvm.Cond.selects "DyeLattice$Sign" ({ cls := "DyeLattice$Token", name := "value", desc := "()I" } : Jvm.MethodName) ({ cls := "DyeLattice$Token", name := "value", desc := "()I" } : Jvm.MethodName)) ∈ lw_all := lw_g (lw_at lw_m4 86 rfl) rfl
theorem q1559 : (Jvm.Cond.castable "DyeLattice$Sign" "java/lang/Object") ∈ lw_tbl := lw_at lw_m7 36 rfl

/-! DyeLattice$Word -/
set_option maxRecDepth 100000
abbrev cX8_init : ByteArray := prog_18_method_1_code
def yX8_init : MethodName := ⟨RX8, "<init>", "(ILjava/lang/String;)V"⟩
def dkwX8_init_0 : List UInt8 := [42, 27, 183, 0, 3, 42, 44, 181, 0, 9, 177]
abbrev dktX8_init_0 : List UInt8 := dkwX8_init_0 ++ []
theorem dksX8_init_0 : cX8_init.data.toList.drop 0 = dktX8_init_0 := by decide +kernel
theorem dX8_init_0 : decode cX8_init 0 = .ok (.aload_n 0, 1) := dk_42 (dk_at dksX8_init_0 0 rfl rfl)
theorem dX8_init_1 : decode cX8_init 1 = .ok (.iload_n 1, 1) := dk_27 (dk_at dksX8_init_0 1 rfl rfl)
theorem dX8_init_2 : decode cX8_init 2 = .ok (.invokespecial 3, 3) := dk_183 0 3 (dk_at dksX8_init_0 2 rfl rfl)
theorem dX8_init_5 : decode cX8_init 5 = .ok (.aload_n 0, 1) := dk_42 (dk_at dksX8_init_0 5 rfl rfl)
theorem dX8_init_6 : decode cX8_init 6 = .ok (.aload_n 2, 1) := dk_44 (dk_at dksX8_init_0 6 rfl rfl)
theorem dX8_init_7 : decode cX8_init 7 = .ok (.putfield 9, 3) := dk_181 0 9 (dk_at dksX8_init_0 7 rfl rfl)
theorem dX8_init_10 : decode cX8_init 10 = .ok (.return_, 1) := dk_177 (dk_at dksX8_init_0 10 rfl rfl)
abbrev cX8_among : ByteArray := prog_18_method_2_code
def yX8_among : MethodName := ⟨RX8, "among", "([Ljava/lang/String;)I"⟩
def dkwX8_among_1 : List UInt8 := [29, 167, 0, 4, 28, 61, 132, 3, 1, 167, 255, 228, 28, 172]
abbrev dktX8_among_1 : List UInt8 := dkwX8_among_1 ++ []
def dkwX8_among_0 : List UInt8 := [16, 247, 61, 3, 62, 29, 43, 190, 162, 0, 28, 42, 180, 0, 9, 43, 29, 50, 182, 0, 15, 153, 0, 7]
abbrev dktX8_among_0 : List UInt8 := dkwX8_among_0 ++ dktX8_among_1
theorem dksX8_among_0 : cX8_among.data.toList.drop 0 = dktX8_among_0 := by decide +kernel
theorem dksX8_among_1 : cX8_among.data.toList.drop 24 = dktX8_among_1 := dk_seg dksX8_among_0 24 rfl rfl
theorem dX8_among_0 : decode cX8_among 0 = .ok (.bipush (-9), 2) := dk_16 247 (dk_at dksX8_among_0 0 rfl rfl)
theorem dX8_among_2 : decode cX8_among 2 = .ok (.istore_n 2, 1) := dk_61 (dk_at dksX8_among_0 2 rfl rfl)
theorem dX8_among_3 : decode cX8_among 3 = .ok (.iconst 0, 1) := dk_3 (dk_at dksX8_among_0 3 rfl rfl)
theorem dX8_among_4 : decode cX8_among 4 = .ok (.istore_n 3, 1) := dk_62 (dk_at dksX8_among_0 4 rfl rfl)
theorem dX8_among_5 : decode cX8_among 5 = .ok (.iload_n 3, 1) := dk_29 (dk_at dksX8_among_0 5 rfl rfl)
theorem dX8_among_6 : decode cX8_among 6 = .ok (.aload_n 1, 1) := dk_43 (dk_at dksX8_among_0 6 rfl rfl)
theorem dX8_among_7 : decode cX8_among 7 = .ok (.arraylength, 1) := dk_190 (dk_at dksX8_among_0 7 rfl rfl)
theorem dX8_among_8 : decode cX8_among 8 = .ok (.if_icmp .ge 28, 3) := dk_162 0 28 (dk_at dksX8_among_0 8 rfl rfl)
theorem dX8_among_11 : decode cX8_among 11 = .ok (.aload_n 0, 1) := dk_42 (dk_at dksX8_among_0 11 rfl rfl)
theorem dX8_among_12 : decode cX8_among 12 = .ok (.getfield 9, 3) := dk_180 0 9 (dk_at dksX8_among_0 12 rfl rfl)
theorem dX8_among_15 : decode cX8_among 15 = .ok (.aload_n 1, 1) := dk_43 (dk_at dksX8_among_0 15 rfl rfl)
theorem dX8_among_16 : decode cX8_among 16 = .ok (.iload_n 3, 1) := dk_29 (dk_at dksX8_among_0 16 rfl rfl)
theorem dX8_among_17 : decode cX8_among 17 = .ok (.aaload, 1) := dk_50 (dk_at dksX8_among_0 17 rfl rfl)
theorem dX8_among_18 : decode cX8_among 18 = .ok (.invokevirtual 15, 3) := dk_182 0 15 (dk_at dksX8_among_0 18 rfl rfl)
theorem dX8_among_21 : decode cX8_among 21 = .ok (.ifCond .eq 7, 3) := dk_153 0 7 (dk_at dksX8_among_0 21 rfl rfl)
theorem dX8_among_24 : decode cX8_among 24 = .ok (.iload_n 3, 1) := dk_29 (dk_at dksX8_among_1 0 rfl rfl)
theorem dX8_among_25 : decode cX8_among 25 = .ok (.goto 4, 3) := dk_167 0 4 (dk_at dksX8_among_1 1 rfl rfl)
theorem dX8_among_28 : decode cX8_among 28 = .ok (.iload_n 2, 1) := dk_28 (dk_at dksX8_among_1 4 rfl rfl)
theorem dX8_among_29 : decode cX8_among 29 = .ok (.istore_n 2, 1) := dk_61 (dk_at dksX8_among_1 5 rfl rfl)
theorem dX8_among_30 : decode cX8_among 30 = .ok (.iinc 3 1, 3) := dk_132 3 1 (dk_at dksX8_among_1 6 rfl rfl)
theorem dX8_among_33 : decode cX8_among 33 = .ok (.goto (-28), 3) := dk_167 255 228 (dk_at dksX8_among_1 9 rfl rfl)
theorem dX8_among_36 : decode cX8_among 36 = .ok (.iload_n 2, 1) := dk_28 (dk_at dksX8_among_1 12 rfl rfl)
theorem dX8_among_37 : decode cX8_among 37 = .ok (.ireturn, 1) := dk_172 (dk_at dksX8_among_1 13 rfl rfl)
theorem q106 : (Jvm.Cond.initialized "DyeLattice$Word") ∈ lw_all := lw_g (lw_at lw_m1 23 rfl) rfl
theorem q326 : (Jvm.Cond.selects "DyeLattice$Word" ({ cls := "java/lang/Object", name := "getClass", desc := "()Ljava/lang/Class;" } : Jvm.MethodName) ({ cls := "java/lang/Object", name := "getClass", desc := "()Ljava/lang/Class;" } : Jvm.MethodName)) ∈ lw_all := lw_g (lw_at lw_m2 3 rfl) rfl
theorem q686 : (Jvm.Cond.instantiable "DyeLattice$Word" (2 : Nat)) ∈ lw_all := lw_g (lw_at lw_m3 123 rfl) rfl
theorem q747 : (Jvm.Cond.instanceMethod ({ cls := "DyeLattice$Word", name := "<init>", desc := "(ILjava/lang/String;)V" } : Jvm.MethodName)) ∈ lw_all := lw_g (lw_at lw_m3 184 rfl) rfl
theorem q748 : (Jvm.Cond.code ({ cls := "DyeLattice$Word", name := "<init>", desc := "(ILjava/lang/String;)V" } : Jvm.MethodName) prog_18_method_1_code (3 : Nat) (Option.none : Option Jvm.ClassFile.FieldType)) ∈ lw_all := lw_g (lw_at lw_m3 185 rfl) rfl
theorem q749 : (Jvm.Cond.methodLink "DyeLattice$Word" (3 : Nat) ({ cls := "DyeLattice$Token", name := "<init>", desc := "(I)V" } : Jvm.MethodName)) ∈ lw_all := lw_g (lw_at lw_m3 186 rfl) rfl
theorem q750 : (Jvm.Cond.fieldLink "DyeLattice$Word" (9 : Nat) "DyeLattice$Word" "word" "Ljava/lang/String;") ∈ lw_all := lw_g (lw_at lw_m3 187 rfl) rfl
theorem q751 : (Jvm.Cond.laysFinal "DyeLattice$Word" "DyeLattice$Word" "word" "Ljava/lang/String;") ∈ lw_all := lw_g (lw_at lw_m3 188 rfl) rfl
theorem q752 : (Jvm.Cond.soleField "DyeLattice$Word" "word") ∈ lw_all := lw_g (lw_at lw_m3 189 rfl) rfl
theorem q753 : (Jvm.Cond.laysFinal "DyeLattice$Word" "DyeLattice$Token" "start" "I") ∈ lw_all := lw_g (lw_at lw_m3 190 rfl) rfl
theorem q754 : (Jvm.Cond.superclass "DyeLattice$Word" "DyeLattice$Token") ∈ lw_all := lw_g (lw_at lw_m3 191 rfl) rfl
theorem q774 : (Jvm.Cond.selects "DyeLattice$Word" ({ cls := "DyeLattice$Token", name := "isSign", desc := "(C)Z" } : Jvm.MethodName) ({ cls := "DyeLattice$Token", name := "isSign", desc := "(C)Z" } : Jvm.MethodName)) ∈ lw_all := lw_g (lw_at lw_m3 211 rfl) rfl
theorem q794 : (Jvm.Cond.selects "DyeLattice$Word" ({ cls := "DyeLattice$Token", name := "among", desc := "([Ljava/lang/String;)I" } : Jvm.MethodName) ({ cls := "DyeLattice$Word", name := "among", desc := "([Ljava/lang/String;)I" } : Jvm.MethodName)) ∈ lw_all := lw_g (lw_at lw_m3 231 rfl) rfl
theorem q795 : (Jvm.Cond.instanceMethod ({ cls := "DyeLattice$Word", name := "among", desc := "([Ljava/lang/String;)I" } : Jvm.MethodName)) ∈ lw_all := lw_g (lw_at lw_m3 232 rfl) rfl
theorem q796 : (Jvm.Cond.code ({ cls := "DyeLattice$Word", name := "among", desc := "([Ljava/lang/String;)I" } : Jvm.MethodName) prog_18_method_2_code (4 : Nat) (Option.some Jvm.ClassFile.FieldType.int)) ∈ lw_all := lw_g (lw_at lw_m3 233 rfl) rfl
theorem q797 : (Jvm.Cond.methodLink "DyeLattice$Word" (15 : Nat) ({ cls := "java/lang/String", name := "equals", desc := "(Ljava/lang/Object;)Z" } : Jvm.MethodName)) ∈ lw_all := lw_g (lw_at lw_m3 234 rfl) rfl
theorem q890 : (Jvm.Cond.selects "DyeLattice$Word" ({ cls := "DyeLattice$Token", name := "value", desc := "()I" } : Jvm.MethodName) ({ cls := "DyeLattice$Token", name := "value", desc := "()I" } : Jvm.MethodName)) ∈ lw_all := lw_g (lw_at lw_m4 87 rfl) rfl
theorem q1560 : (Jvm.Cond.castable "DyeLattice$Word" "java/lang/Object") ∈ lw_tbl := lw_at lw_m7 37 rfl

/-! DyeLattice$Number -/
set_option maxRecDepth 100000
abbrev cX9_init : ByteArray := prog_5_method_1_code
def yX9_init : MethodName := ⟨RX9, "<init>", "(II)V"⟩
def dkwX9_init_0 : List UInt8 := [42, 27, 183, 0, 1, 42, 28, 181, 0, 7, 177]
abbrev dktX9_init_0 : List UInt8 := dkwX9_init_0 ++ []
theorem dksX9_init_0 : cX9_init.data.toList.drop 0 = dktX9_init_0 := by decide +kernel
theorem dX9_init_0 : decode cX9_init 0 = .ok (.aload_n 0, 1) := dk_42 (dk_at dksX9_init_0 0 rfl rfl)
theorem dX9_init_1 : decode cX9_init 1 = .ok (.iload_n 1, 1) := dk_27 (dk_at dksX9_init_0 1 rfl rfl)
theorem dX9_init_2 : decode cX9_init 2 = .ok (.invokespecial 1, 3) := dk_183 0 1 (dk_at dksX9_init_0 2 rfl rfl)
theorem dX9_init_5 : decode cX9_init 5 = .ok (.aload_n 0, 1) := dk_42 (dk_at dksX9_init_0 5 rfl rfl)
theorem dX9_init_6 : decode cX9_init 6 = .ok (.iload_n 2, 1) := dk_28 (dk_at dksX9_init_0 6 rfl rfl)
theorem dX9_init_7 : decode cX9_init 7 = .ok (.putfield 7, 3) := dk_181 0 7 (dk_at dksX9_init_0 7 rfl rfl)
theorem dX9_init_10 : decode cX9_init 10 = .ok (.return_, 1) := dk_177 (dk_at dksX9_init_0 10 rfl rfl)
abbrev cX9_value : ByteArray := prog_5_method_2_code
def yX9_value : MethodName := ⟨RX9, "value", "()I"⟩
theorem dX9_value_0 : decode cX9_value 0 = .ok (.aload_n 0, 1) := by decide +kernel
theorem dX9_value_1 : decode cX9_value 1 = .ok (.getfield 7, 3) := by decide +kernel
theorem dX9_value_4 : decode cX9_value 4 = .ok (.ireturn, 1) := by decide +kernel
theorem q107 : (Jvm.Cond.initialized "DyeLattice$Number") ∈ lw_all := lw_g (lw_at lw_m1 24 rfl) rfl
theorem q317 : (Jvm.Cond.selects "DyeLattice$Number" ({ cls := "java/lang/Object", name := "getClass", desc := "()Ljava/lang/Class;" } : Jvm.MethodName) ({ cls := "java/lang/Object", name := "getClass", desc := "()Ljava/lang/Class;" } : Jvm.MethodName)) ∈ lw_all := lw_g (lw_at lw_m1 234 rfl) rfl
theorem q757 : (Jvm.Cond.instantiable "DyeLattice$Number" (2 : Nat)) ∈ lw_all := lw_g (lw_at lw_m3 194 rfl) rfl
theorem q759 : (Jvm.Cond.instanceMethod ({ cls := "DyeLattice$Number", name := "<init>", desc := "(II)V" } : Jvm.MethodName)) ∈ lw_all := lw_g (lw_at lw_m3 196 rfl) rfl
theorem q760 : (Jvm.Cond.code ({ cls := "DyeLattice$Number", name := "<init>", desc := "(II)V" } : Jvm.MethodName) prog_5_method_1_code (3 : Nat) (Option.none : Option Jvm.ClassFile.FieldType)) ∈ lw_all := lw_g (lw_at lw_m3 197 rfl) rfl
theorem q761 : (Jvm.Cond.methodLink "DyeLattice$Number" (1 : Nat) ({ cls := "DyeLattice$Token", name := "<init>", desc := "(I)V" } : Jvm.MethodName)) ∈ lw_all := lw_g (lw_at lw_m3 198 rfl) rfl
theorem q762 : (Jvm.Cond.fieldLink "DyeLattice$Number" (7 : Nat) "DyeLattice$Number" "value" "I") ∈ lw_all := lw_g (lw_at lw_m3 199 rfl) rfl
theorem q763 : (Jvm.Cond.laysFinal "DyeLattice$Number" "DyeLattice$Number" "value" "I") ∈ lw_all := lw_g (lw_at lw_m3 200 rfl) rfl
theorem q764 : (Jvm.Cond.soleField "DyeLattice$Number" "value") ∈ lw_all := lw_g (lw_at lw_m3 201 rfl) rfl
theorem q765 : (Jvm.Cond.laysFinal "DyeLattice$Number" "DyeLattice$Token" "start" "I") ∈ lw_all := lw_g (lw_at lw_m3 202 rfl) rfl
theorem q766 : (Jvm.Cond.superclass "DyeLattice$Number" "DyeLattice$Token") ∈ lw_all := lw_g (lw_at lw_m3 203 rfl) rfl
theorem q770 : (Jvm.Cond.selects "DyeLattice$Number" ({ cls := "DyeLattice$Token", name := "isSign", desc := "(C)Z" } : Jvm.MethodName) ({ cls := "DyeLattice$Token", name := "isSign", desc := "(C)Z" } : Jvm.MethodName)) ∈ lw_all := lw_g (lw_at lw_m3 207 rfl) rfl
theorem q792 : (Jvm.Cond.selects "DyeLattice$Number" ({ cls := "DyeLattice$Token", name := "among", desc := "([Ljava/lang/String;)I" } : Jvm.MethodName) ({ cls := "DyeLattice$Token", name := "among", desc := "([Ljava/lang/String;)I" } : Jvm.MethodName)) ∈ lw_all := lw_g (lw_at lw_m3 229 rfl) rfl
theorem q886 : (Jvm.Cond.selects "DyeLattice$Number" ({ cls := "DyeLattice$Token", name := "value", desc := "()I" } : Jvm.MethodName) ({ cls := "DyeLattice$Number", name := "value", desc := "()I" } : Jvm.MethodName)) ∈ lw_all := lw_g (lw_at lw_m4 83 rfl) rfl
theorem q887 : (Jvm.Cond.instanceMethod ({ cls := "DyeLattice$Number", name := "value", desc := "()I" } : Jvm.MethodName)) ∈ lw_all := lw_g (lw_at lw_m4 84 rfl) rfl
theorem q888 : (Jvm.Cond.code ({ cls := "DyeLattice$Number", name := "value", desc := "()I" } : Jvm.MethodName) prog_5_method_2_code (1 : Nat) (Option.some Jvm.ClassFile.FieldType.int)) ∈ lw_all := lw_g (lw_at lw_m4 85 rfl) rfl
theorem q1561 : (Jvm.Cond.castable "DyeLattice$Number" "java/lang/Object") ∈ lw_tbl := lw_at lw_m7 38 rfl

/-! DyeLattice$TokenException -/
set_option maxRecDepth 100000
abbrev cX10_init : ByteArray := prog_10_method_1_code
def yX10_init : MethodName := ⟨RX10, "<init>", "(I)V"⟩
def dkwX10_init_0 : List UInt8 := [42, 18, 1, 183, 0, 3, 42, 27, 181, 0, 9, 177]
abbrev dktX10_init_0 : List UInt8 := dkwX10_init_0 ++ []
theorem dksX10_init_0 : cX10_init.data.toList.drop 0 = dktX10_init_0 := by decide +kernel
theorem dX10_init_0 : decode cX10_init 0 = .ok (.aload_n 0, 1) := dk_42 (dk_at dksX10_init_0 0 rfl rfl)
theorem dX10_init_1 : decode cX10_init 1 = .ok (.ldc 1, 2) := dk_18 1 (dk_at dksX10_init_0 1 rfl rfl)
theorem dX10_init_3 : decode cX10_init 3 = .ok (.invokespecial 3, 3) := dk_183 0 3 (dk_at dksX10_init_0 3 rfl rfl)
theorem dX10_init_6 : decode cX10_init 6 = .ok (.aload_n 0, 1) := dk_42 (dk_at dksX10_init_0 6 rfl rfl)
theorem dX10_init_7 : decode cX10_init 7 = .ok (.iload_n 1, 1) := dk_27 (dk_at dksX10_init_0 7 rfl rfl)
theorem dX10_init_8 : decode cX10_init 8 = .ok (.putfield 9, 3) := dk_181 0 9 (dk_at dksX10_init_0 8 rfl rfl)
theorem dX10_init_11 : decode cX10_init 11 = .ok (.return_, 1) := dk_177 (dk_at dksX10_init_0 11 rfl rfl)
theorem q110 : (Jvm.Cond.initialized "DyeLattice$TokenException") ∈ lw_all := lw_g (lw_at lw_m1 27 rfl) rfl
theorem q320 : (Jvm.Cond.selects "DyeLattice$TokenException" ({ cls := "java/lang/Object", name := "getClass", desc := "()Ljava/lang/Class;" } : Jvm.MethodName) ({ cls := "java/lang/Object", name := "getClass", desc := "()Ljava/lang/Class;" } : Jvm.MethodName)) ∈ lw_all := lw_g (lw_at lw_m1 237 rfl) rfl
theorem q812 : (Jvm.Cond.instantiable "DyeLattice$TokenException" (7 : Nat)) ∈ lw_all := lw_g (lw_at lw_m4 9 rfl) rfl
theorem q813 : (Jvm.Cond.castable "DyeLattice$TokenException" "DyeLattice$TokenException") ∈ lw_tbl := lw_at lw_m4 10 rfl
theorem q818 : (Jvm.Cond.selects "DyeLattice$TokenException" ({ cls := "java/lang/Throwable", name := "fillInStackTrace", desc := "(I)Ljava/lang/Throwable;" } : Jvm.MethodName) ({ cls := "java/lang/Throwable", name := "fillInStackTrace", desc := "(I)Ljava/lang/Throwable;" } : Jvm.MethodName)) ∈ lw_all := lw_g (lw_at lw_m4 15 rfl) rfl
theorem q819 : (Jvm.Cond.selects "DyeLattice$TokenException" ({ cls := "java/lang/Throwable", name := "fillInStackTrace", desc := "()Ljava/lang/Throwable;" } : Jvm.MethodName) ({ cls := "java/lang/Throwable", name := "fillInStackTrace", desc := "()Ljava/lang/Throwable;" } : Jvm.MethodName)) ∈ lw_all := lw_g (lw_at lw_m4 16 rfl) rfl
theorem q820 : (Jvm.Cond.lays "DyeLattice$TokenException" "java/lang/Throwable" "cause" "Ljava/lang/Throwable;") ∈ lw_all := lw_g (lw_at lw_m4 17 rfl) rfl
theorem q822 : (Jvm.Cond.lays "DyeLattice$TokenException" "java/lang/Throwable" "stackTrace" "[Ljava/lang/StackTraceElement;") ∈ lw_all := lw_g (lw_at lw_m4 19 rfl) rfl
theorem q824 : (Jvm.Cond.lays "DyeLattice$TokenException" "java/lang/Throwable" "suppressedExceptions" "Ljava/util/List;") ∈ lw_all := lw_g (lw_at lw_m4 21 rfl) rfl
theorem q826 : (Jvm.Cond.lays "DyeLattice$TokenException" "java/lang/Throwable" "detailMessage" "Ljava/lang/String;") ∈ lw_all := lw_g (lw_at lw_m4 23 rfl) rfl
theorem q828 : (Jvm.Cond.lays "DyeLattice$TokenException" "java/lang/Throwable" "backtrace" "Ljava/lang/Object;") ∈ lw_all := lw_g (lw_at lw_m4 25 rfl) rfl
theorem q849 : (Jvm.Cond.instanceMethod ({ cls := "DyeLattice$TokenException", name := "<init>", desc := "(I)V" } : Jvm.MethodName)) ∈ lw_all := lw_g (lw_at lw_m4 46 rfl) rfl
theorem q850 : (Jvm.Cond.code ({ cls := "DyeLattice$TokenException", name := "<init>", desc := "(I)V" } : Jvm.MethodName) prog_10_method_1_code (2 : Nat) (Option.none : Option Jvm.ClassFile.FieldType)) ∈ lw_all := lw_g (lw_at lw_m4 47 rfl) rfl
theorem q851 : (Jvm.Cond.stringRef "DyeLattice$TokenException" (1 : Nat) "not allowed") ∈ lw_tbl := lw_at lw_m4 48 rfl
theorem q852 : (Jvm.Cond.methodLink "DyeLattice$TokenException" (3 : Nat) ({ cls := "java/lang/Exception", name := "<init>", desc := "(Ljava/lang/String;)V" } : Jvm.MethodName)) ∈ lw_all := lw_g (lw_at lw_m4 49 rfl) rfl
theorem q858 : (Jvm.Cond.fieldLink "DyeLattice$TokenException" (9 : Nat) "DyeLattice$TokenException" "position" "I") ∈ lw_all := lw_g (lw_at lw_m4 55 rfl) rfl
theorem q865 : (Jvm.Cond.laysFinal "DyeLattice$TokenException" "DyeLattice$TokenException" "position" "I") ∈ lw_all := lw_g (lw_at lw_m4 62 rfl) rfl
theorem q866 : (Jvm.Cond.soleField "DyeLattice$TokenException" "position") ∈ lw_all := lw_g (lw_at lw_m4 63 rfl) rfl
theorem q871 : (Jvm.Cond.lays "DyeLattice$TokenException" "java/lang/Throwable" "depth" "I") ∈ lw_all := lw_g (lw_at lw_m4 68 rfl) rfl
theorem q874 : (Jvm.Cond.superclass "DyeLattice$TokenException" "java/lang/Exception") ∈ lw_all := lw_g (lw_at lw_m4 71 rfl) rfl
theorem q1562 : (Jvm.Cond.castable "DyeLattice$TokenException" "java/lang/Object") ∈ lw_tbl := lw_at lw_m7 39 rfl

/-! java/lang/Throwable -/
set_option maxRecDepth 100000
abbrev cJ13_init : ByteArray := prog_37_method_1_code
def yJ13_init : MethodName := ⟨RJ13, "<init>", "()V"⟩
def dkwJ13_init_1 : List UInt8 := [182, 0, 27, 87, 177]
abbrev dktJ13_init_1 : List UInt8 := dkwJ13_init_1 ++ []
def dkwJ13_init_0 : List UInt8 := [42, 183, 0, 1, 42, 42, 181, 0, 7, 42, 178, 0, 13, 181, 0, 17, 42, 178, 0, 20, 181, 0, 24, 42]
abbrev dktJ13_init_0 : List UInt8 := dkwJ13_init_0 ++ dktJ13_init_1
theorem dksJ13_init_0 : cJ13_init.data.toList.drop 0 = dktJ13_init_0 := by decide +kernel
theorem dksJ13_init_1 : cJ13_init.data.toList.drop 24 = dktJ13_init_1 := dk_seg dksJ13_init_0 24 rfl rfl
theorem dJ13_init_0 : decode cJ13_init 0 = .ok (.aload_n 0, 1) := dk_42 (dk_at dksJ13_init_0 0 rfl rfl)
theorem dJ13_init_1 : decode cJ13_init 1 = .ok (.invokespecial 1, 3) := dk_183 0 1 (dk_at dksJ13_init_0 1 rfl rfl)
theorem dJ13_init_4 : decode cJ13_init 4 = .ok (.aload_n 0, 1) := dk_42 (dk_at dksJ13_init_0 4 rfl rfl)
theorem dJ13_init_5 : decode cJ13_init 5 = .ok (.aload_n 0, 1) := dk_42 (dk_at dksJ13_init_0 5 rfl rfl)
theorem dJ13_init_6 : decode cJ13_init 6 = .ok (.putfield 7, 3) := dk_181 0 7 (dk_at dksJ13_init_0 6 rfl rfl)
theorem dJ13_init_9 : decode cJ13_init 9 = .ok (.aload_n 0, 1) := dk_42 (dk_at dksJ13_init_0 9 rfl rfl)
theorem dJ13_init_10 : decode cJ13_init 10 = .ok (.getstatic 13, 3) := dk_178 0 13 (dk_at dksJ13_init_0 10 rfl rfl)
theorem dJ13_init_13 : decode cJ13_init 13 = .ok (.putfield 17, 3) := dk_181 0 17 (dk_at dksJ13_init_0 13 rfl rfl)
theorem dJ13_init_16 : decode cJ13_init 16 = .ok (.aload_n 0, 1) := dk_42 (dk_at dksJ13_init_0 16 rfl rfl)
theorem dJ13_init_17 : decode cJ13_init 17 = .ok (.getstatic 20, 3) := dk_178 0 20 (dk_at dksJ13_init_0 17 rfl rfl)
theorem dJ13_init_20 : decode cJ13_init 20 = .ok (.putfield 24, 3) := dk_181 0 24 (dk_at dksJ13_init_0 20 rfl rfl)
theorem dJ13_init_23 : decode cJ13_init 23 = .ok (.aload_n 0, 1) := dk_42 (dk_at dksJ13_init_0 23 rfl rfl)
theorem dJ13_init_24 : decode cJ13_init 24 = .ok (.invokevirtual 27, 3) := dk_182 0 27 (dk_at dksJ13_init_1 0 rfl rfl)
theorem dJ13_init_27 : decode cJ13_init 27 = .ok (.pop, 1) := dk_87 (dk_at dksJ13_init_1 3 rfl rfl)
theorem dJ13_init_28 : decode cJ13_init 28 = .ok (.return_, 1) := dk_177 (dk_at dksJ13_init_1 4 rfl rfl)
abbrev cJ13_init_2 : ByteArray := prog_37_method_2_code
def yJ13_init_2 : MethodName := ⟨RJ13, "<init>", "(Ljava/lang/String;)V"⟩
def dkwJ13_init_2_1 : List UInt8 := [182, 0, 27, 87, 42, 43, 181, 0, 31, 177]
abbrev dktJ13_init_2_1 : List UInt8 := dkwJ13_init_2_1 ++ []
def dkwJ13_init_2_0 : List UInt8 := [42, 183, 0, 1, 42, 42, 181, 0, 7, 42, 178, 0, 13, 181, 0, 17, 42, 178, 0, 20, 181, 0, 24, 42]
abbrev dktJ13_init_2_0 : List UInt8 := dkwJ13_init_2_0 ++ dktJ13_init_2_1
theorem dksJ13_init_2_0 : cJ13_init_2.data.toList.drop 0 = dktJ13_init_2_0 := by decide +kernel
theorem dksJ13_init_2_1 : cJ13_init_2.data.toList.drop 24 = dktJ13_init_2_1 := dk_seg dksJ13_init_2_0 24 rfl rfl
theorem dJ13_init_2_0 : decode cJ13_init_2 0 = .ok (.aload_n 0, 1) := dk_42 (dk_at dksJ13_init_2_0 0 rfl rfl)
theorem dJ13_init_2_1 : decode cJ13_init_2 1 = .ok (.invokespecial 1, 3) := dk_183 0 1 (dk_at dksJ13_init_2_0 1 rfl rfl)
theorem dJ13_init_2_4 : decode cJ13_init_2 4 = .ok (.aload_n 0, 1) := dk_42 (dk_at dksJ13_init_2_0 4 rfl rfl)
theorem dJ13_init_2_5 : decode cJ13_init_2 5 = .ok (.aload_n 0, 1) := dk_42 (dk_at dksJ13_init_2_0 5 rfl rfl)
theorem dJ13_init_2_6 : decode cJ13_init_2 6 = .ok (.putfield 7, 3) := dk_181 0 7 (dk_at dksJ13_init_2_0 6 rfl rfl)
theorem dJ13_init_2_9 : decode cJ13_init_2 9 = .ok (.aload_n 0, 1) := dk_42 (dk_at dksJ13_init_2_0 9 rfl rfl)
theorem dJ13_init_2_10 : decode cJ13_init_2 10 = .ok (.getstatic 13, 3) := dk_178 0 13 (dk_at dksJ13_init_2_0 10 rfl rfl)
theorem dJ13_init_2_13 : decode cJ13_init_2 13 = .ok (.putfield 17, 3) := dk_181 0 17 (dk_at dksJ13_init_2_0 13 rfl rfl)
theorem dJ13_init_2_16 : decode cJ13_init_2 16 = .ok (.aload_n 0, 1) := dk_42 (dk_at dksJ13_init_2_0 16 rfl rfl)
theorem dJ13_init_2_17 : decode cJ13_init_2 17 = .ok (.getstatic 20, 3) := dk_178 0 20 (dk_at dksJ13_init_2_0 17 rfl rfl)
theorem dJ13_init_2_20 : decode cJ13_init_2 20 = .ok (.putfield 24, 3) := dk_181 0 24 (dk_at dksJ13_init_2_0 20 rfl rfl)
theorem dJ13_init_2_23 : decode cJ13_init_2 23 = .ok (.aload_n 0, 1) := dk_42 (dk_at dksJ13_init_2_0 23 rfl rfl)
theorem dJ13_init_2_24 : decode cJ13_init_2 24 = .ok (.invokevirtual 27, 3) := dk_182 0 27 (dk_at dksJ13_init_2_1 0 rfl rfl)
theorem dJ13_init_2_27 : decode cJ13_init_2 27 = .ok (.pop, 1) := dk_87 (dk_at dksJ13_init_2_1 3 rfl rfl)
theorem dJ13_init_2_28 : decode cJ13_init_2 28 = .ok (.aload_n 0, 1) := dk_42 (dk_at dksJ13_init_2_1 4 rfl rfl)
theorem dJ13_init_2_29 : decode cJ13_init_2 29 = .ok (.aload_n 1, 1) := dk_43 (dk_at dksJ13_init_2_1 5 rfl rfl)
theorem dJ13_init_2_30 : decode cJ13_init_2 30 = .ok (.putfield 31, 3) := dk_181 0 31 (dk_at dksJ13_init_2_1 6 rfl rfl)
theorem dJ13_init_2_33 : decode cJ13_init_2 33 = .ok (.return_, 1) := dk_177 (dk_at dksJ13_init_2_1 9 rfl rfl)
theorem q108 : (Jvm.Cond.initialized "java/lang/Throwable") ∈ lw_all := lw_g (lw_at lw_m1 25 rfl) rfl
theorem q816 : (Jvm.Cond.declares ({ cls := "java/lang/Throwable", name := "<init>", desc := "()V" } : Jvm.MethodName)) ∈ lw_tbl := lw_at lw_m4 13 rfl
theorem q817 : (Jvm.Cond.declares ({ cls := "java/lang/Throwable", name := "<init>", desc := "(Ljava/lang/String;)V" } : Jvm.MethodName)) ∈ lw_tbl := lw_at lw_m4 14 rfl
theorem q821 : (Jvm.Cond.lays "java/lang/Throwable" "java/lang/Throwable" "cause" "Ljava/lang/Throwable;") ∈ lw_all := lw_g (lw_at lw_m4 18 rfl) rfl
theorem q823 : (Jvm.Cond.lays "java/lang/Throwable" "java/lang/Throwable" "stackTrace" "[Ljava/lang/StackTraceElement;") ∈ lw_all := lw_g (lw_at lw_m4 20 rfl) rfl
theorem q825 : (Jvm.Cond.lays "java/lang/Throwable" "java/lang/Throwable" "suppressedExceptions" "Ljava/util/List;") ∈ lw_all := lw_g (lw_at lw_m4 22 rfl) rfl
theorem q827 : (Jvm.Cond.lays "java/lang/Throwable" "java/lang/Throwable" "detailMessage" "Ljava/lang/String;") ∈ lw_all := lw_g (lw_at lw_m4 24 rfl) rfl
theorem q829 : (Jvm.Cond.lays "java/lang/Throwable" "java/lang/Throwable" "backtrace" "Ljava/lang/Object;") ∈ lw_all := lw_g (lw_at lw_m4 26 rfl) rfl
theorem q830 : (Jvm.Cond.fieldLink "java/lang/Throwable" (198 : Nat) "java/lang/Throwable" "backtrace" "Ljava/lang/Object;") ∈ lw_all := lw_g (lw_at lw_m4 27 rfl) rfl
theorem q831 : (Jvm.Cond.superclass "java/lang/Throwable" "java/lang/Object") ∈ lw_all := lw_g (lw_at lw_m4 28 rfl) rfl
theorem q832 : (Jvm.Cond.instanceMethod ({ cls := "java/lang/Throwable", name := "<init>", desc := "()V" } : Jvm.MethodName)) ∈ lw_all := lw_g (lw_at lw_m4 29 rfl) rfl
theorem q833 : (Jvm.Cond.code ({ cls := "java/lang/Throwable", name := "<init>", desc := "()V" } : Jvm.MethodName) prog_37_method_1_code (1 : Nat) (Option.none : Option Jvm.ClassFile.FieldType)) ∈ lw_all := lw_g (lw_at lw_m4 30 rfl) rfl
theorem q834 : (Jvm.Cond.methodLink "java/lang/Throwable" (1 : Nat) ({ cls := "java/lang/Object", name := "<init>", desc := "()V" } : Jvm.MethodName)) ∈ lw_all := lw_g (lw_at lw_m4 31 rfl) rfl
theorem q835 : (Jvm.Cond.fieldLink "java/lang/Throwable" (13 : Nat) "java/lang/Throwable" "UNASSIGNED_STACK" "[Ljava/lang/StackTraceElement;") ∈ lw_all := lw_g (lw_at lw_m4 32 rfl) rfl
theorem q836 : (Jvm.Cond.laysStatic "java/lang/Throwable" "UNASSIGNED_STACK" "[Ljava/lang/StackTraceElement;") ∈ lw_tbl := lw_at lw_m4 33 rfl
theorem q837 : (Jvm.Cond.fieldLink "java/lang/Throwable" (20 : Nat) "java/lang/Throwable" "SUPPRESSED_SENTINEL" "Ljava/util/List;") ∈ lw_all := lw_g (lw_at lw_m4 34 rfl) rfl
theorem q838 : (Jvm.Cond.laysStatic "java/lang/Throwable" "SUPPRESSED_SENTINEL" "Ljava/util/List;") ∈ lw_tbl := lw_at lw_m4 35 rfl
theorem q839 : (Jvm.Cond.methodLink "java/lang/Throwable" (27 : Nat) ({ cls := "java/lang/Throwable", name := "fillInStackTrace", desc := "()Ljava/lang/Throwable;" } : Jvm.MethodName)) ∈ lw_all := lw_g (lw_at lw_m4 36 rfl) rfl
theorem q840 : (Jvm.Cond.instanceMethod ({ cls := "java/lang/Throwable", name := "fillInStackTrace", desc := "()Ljava/lang/Throwable;" } : Jvm.MethodName)) ∈ lw_all := lw_g (lw_at lw_m4 37 rfl) rfl
theorem q841 : (Jvm.Cond.sameMethod "java/lang/Throwable" "java/lang/Throwable" "fillInStackTrace" "()Ljava/lang/Throwable;") ∈ lw_all := lw_g (lw_at lw_m4 38 rfl) rfl
theorem q842 : (Jvm.Cond.codeSync ({ cls := "java/lang/Throwable", name := "fillInStackTrace", desc := "()Ljava/lang/Throwable;" } : Jvm.MethodName) prog_37_method_18_code (1 : Nat) (Option.some (Jvm.ClassFile.FieldType.object "java/lang/Throwable"))) ∈ lw_all := lw_g (lw_at lw_m4 39 rfl) rfl
theorem q843 : (Jvm.Cond.methodLink "java/lang/Throwable" (202 : Nat) ({ cls := "java/lang/Throwable", name := "fillInStackTrace", desc := "(I)Ljava/lang/Throwable;" } : Jvm.MethodName)) ∈ lw_all := lw_g (lw_at lw_m4 40 rfl) rfl
theorem q844 : (Jvm.Cond.privateMethod ({ cls := "java/lang/Throwable", name := "fillInStackTrace", desc := "(I)Ljava/lang/Throwable;" } : Jvm.MethodName)) ∈ lw_tbl := lw_at lw_m4 41 rfl
theorem q845 : (Jvm.Cond.instanceMethod ({ cls := "java/lang/Throwable", name := "fillInStackTrace", desc := "(I)Ljava/lang/Throwable;" } : Jvm.MethodName)) ∈ lw_all := lw_g (lw_at lw_m4 42 rfl) rfl
theorem q846 : (Jvm.Cond.instantiable "java/lang/Throwable" (6 : Nat)) ∈ lw_all := lw_g (lw_at lw_m4 43 rfl) rfl
theorem q847 : (Jvm.Cond.native ({ cls := "java/lang/Throwable", name := "fillInStackTrace", desc := "(I)Ljava/lang/Throwable;" } : Jvm.MethodName)) ∈ lw_all := lw_g (lw_at lw_m4 44 rfl) rfl
theorem q856 : (Jvm.Cond.instanceMethod ({ cls := "java/lang/Throwable", name := "<init>", desc := "(Ljava/lang/String;)V" } : Jvm.MethodName)) ∈ lw_all := lw_g (lw_at lw_m4 53 rfl) rfl
theorem q857 : (Jvm.Cond.code ({ cls := "java/lang/Throwable", name := "<init>", desc := "(Ljava/lang/String;)V" } : Jvm.MethodName) prog_37_method_2_code (2 : Nat) (Option.none : Option Jvm.ClassFile.FieldType)) ∈ lw_all := lw_g (lw_at lw_m4 54 rfl) rfl
theorem q860 : (Jvm.Cond.fieldLink "java/lang/Throwable" (198 : Nat) "java/lang/Throwable" "backtrace" "Ljava/lang/Object;") ∈ lw_all := lw_g (lw_at lw_m4 57 rfl) rfl
theorem q861 : (Jvm.Cond.fieldLink "java/lang/Throwable" (31 : Nat) "java/lang/Throwable" "detailMessage" "Ljava/lang/String;") ∈ lw_all := lw_g (lw_at lw_m4 58 rfl) rfl
theorem q862 : (Jvm.Cond.fieldLink "java/lang/Throwable" (7 : Nat) "java/lang/Throwable" "cause" "Ljava/lang/Throwable;") ∈ lw_all := lw_g (lw_at lw_m4 59 rfl) rfl
theorem q863 : (Jvm.Cond.fieldLink "java/lang/Throwable" (17 : Nat) "java/lang/Throwable" "stackTrace" "[Ljava/lang/StackTraceElement;") ∈ lw_all := lw_g (lw_at lw_m4 60 rfl) rfl
theorem q864 : (Jvm.Cond.fieldLink "java/lang/Throwable" (24 : Nat) "java/lang/Throwable" "suppressedExceptions" "Ljava/util/List;") ∈ lw_all := lw_g (lw_at lw_m4 61 rfl) rfl
theorem q867 : (Jvm.Cond.soleField "java/lang/Throwable" "backtrace") ∈ lw_all := lw_g (lw_at lw_m4 64 rfl) rfl
theorem q868 : (Jvm.Cond.soleField "java/lang/Throwable" "detailMessage") ∈ lw_all := lw_g (lw_at lw_m4 65 rfl) rfl
theorem q869 : (Jvm.Cond.soleField "java/lang/Throwable" "cause") ∈ lw_all := lw_g (lw_at lw_m4 66 rfl) rfl
theorem q870 : (Jvm.Cond.soleField "java/lang/Throwable" "stackTrace") ∈ lw_all := lw_g (lw_at lw_m4 67 rfl) rfl
theorem q872 : (Jvm.Cond.soleField "java/lang/Throwable" "depth") ∈ lw_all := lw_g (lw_at lw_m4 69 rfl) rfl
theorem q873 : (Jvm.Cond.soleField "java/lang/Throwable" "suppressedExceptions") ∈ lw_all := lw_g (lw_at lw_m4 70 rfl) rfl
theorem q1544 : (Jvm.Cond.sameMethod "java/lang/Throwable" "java/lang/Throwable" "fillInStackTrace" "(I)Ljava/lang/Throwable;") ∈ lw_all := lw_g (lw_at lw_m7 21 rfl) rfl
theorem q1563 : (Jvm.Cond.castable "java/lang/Throwable" "java/lang/Object") ∈ lw_tbl := lw_at lw_m7 40 rfl

/-! java/lang/Exception -/
set_option maxRecDepth 100000
abbrev cJ14_init : ByteArray := prog_28_method_2_code
def yJ14_init : MethodName := ⟨RJ14, "<init>", "(Ljava/lang/String;)V"⟩
def dkwJ14_init_0 : List UInt8 := [42, 43, 183, 0, 7, 177]
abbrev dktJ14_init_0 : List UInt8 := dkwJ14_init_0 ++ []
theorem dksJ14_init_0 : cJ14_init.data.toList.drop 0 = dktJ14_init_0 := by decide +kernel
theorem dJ14_init_0 : decode cJ14_init 0 = .ok (.aload_n 0, 1) := dk_42 (dk_at dksJ14_init_0 0 rfl rfl)
theorem dJ14_init_1 : decode cJ14_init 1 = .ok (.aload_n 1, 1) := dk_43 (dk_at dksJ14_init_0 1 rfl rfl)
theorem dJ14_init_2 : decode cJ14_init 2 = .ok (.invokespecial 7, 3) := dk_183 0 7 (dk_at dksJ14_init_0 2 rfl rfl)
theorem dJ14_init_5 : decode cJ14_init 5 = .ok (.return_, 1) := dk_177 (dk_at dksJ14_init_0 5 rfl rfl)
theorem q109 : (Jvm.Cond.initialized "java/lang/Exception") ∈ lw_all := lw_g (lw_at lw_m1 26 rfl) rfl
theorem q814 : (Jvm.Cond.declares ({ cls := "java/lang/Exception", name := "<init>", desc := "()V" } : Jvm.MethodName)) ∈ lw_tbl := lw_at lw_m4 11 rfl
theorem q815 : (Jvm.Cond.declares ({ cls := "java/lang/Exception", name := "<init>", desc := "(Ljava/lang/String;)V" } : Jvm.MethodName)) ∈ lw_tbl := lw_at lw_m4 12 rfl
theorem q853 : (Jvm.Cond.instanceMethod ({ cls := "java/lang/Exception", name := "<init>", desc := "(Ljava/lang/String;)V" } : Jvm.MethodName)) ∈ lw_all := lw_g (lw_at lw_m4 50 rfl) rfl
theorem q854 : (Jvm.Cond.code ({ cls := "java/lang/Exception", name := "<init>", desc := "(Ljava/lang/String;)V" } : Jvm.MethodName) prog_28_method_2_code (2 : Nat) (Option.none : Option Jvm.ClassFile.FieldType)) ∈ lw_all := lw_g (lw_at lw_m4 51 rfl) rfl
theorem q855 : (Jvm.Cond.methodLink "java/lang/Exception" (7 : Nat) ({ cls := "java/lang/Throwable", name := "<init>", desc := "(Ljava/lang/String;)V" } : Jvm.MethodName)) ∈ lw_all := lw_g (lw_at lw_m4 52 rfl) rfl
