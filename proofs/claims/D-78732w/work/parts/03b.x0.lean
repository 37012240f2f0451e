/-! DyeLattice -/
set_option maxRecDepth 100000
abbrev cX0_init : ByteArray := prog_1_method_5_code
def yX0_init : MethodName := ⟨RX0, "<init>", "()V"⟩
def dkwX0_init_1 : List UInt8 := [183, 0, 20, 181, 0, 21, 42, 187, 0, 25, 89, 183, 0, 27, 181, 0, 28, 177]
abbrev dktX0_init_1 : List UInt8 := dkwX0_init_1 ++ []
def dkwX0_init_0 : List UInt8 := [42, 183, 0, 1, 42, 187, 0, 7, 89, 7, 7, 183, 0, 9, 181, 0, 12, 42, 187, 0, 18, 89]
abbrev dktX0_init_0 : List UInt8 := dkwX0_init_0 ++ dktX0_init_1
theorem dksX0_init_0 : cX0_init.data.toList.drop 0 = dktX0_init_0 := by decide +kernel
theorem dksX0_init_1 : cX0_init.data.toList.drop 22 = dktX0_init_1 := dk_seg dksX0_init_0 22 rfl rfl
theorem dX0_init_0 : decode cX0_init 0 = .ok (.aload_n 0, 1) := dk_42 (dk_at dksX0_init_0 0 rfl rfl)
theorem dX0_init_1 : decode cX0_init 1 = .ok (.invokespecial 1, 3) := dk_183 0 1 (dk_at dksX0_init_0 1 rfl rfl)
theorem dX0_init_4 : decode cX0_init 4 = .ok (.aload_n 0, 1) := dk_42 (dk_at dksX0_init_0 4 rfl rfl)
theorem dX0_init_5 : decode cX0_init 5 = .ok (.new 7, 3) := dk_187 0 7 (dk_at dksX0_init_0 5 rfl rfl)
theorem dX0_init_8 : decode cX0_init 8 = .ok (.dup, 1) := dk_89 (dk_at dksX0_init_0 8 rfl rfl)
theorem dX0_init_9 : decode cX0_init 9 = .ok (.iconst 4, 1) := dk_7 (dk_at dksX0_init_0 9 rfl rfl)
theorem dX0_init_10 : decode cX0_init 10 = .ok (.iconst 4, 1) := dk_7 (dk_at dksX0_init_0 10 rfl rfl)
theorem dX0_init_11 : decode cX0_init 11 = .ok (.invokespecial 9, 3) := dk_183 0 9 (dk_at dksX0_init_0 11 rfl rfl)
theorem dX0_init_14 : decode cX0_init 14 = .ok (.putfield 12, 3) := dk_181 0 12 (dk_at dksX0_init_0 14 rfl rfl)
theorem dX0_init_17 : decode cX0_init 17 = .ok (.aload_n 0, 1) := dk_42 (dk_at dksX0_init_0 17 rfl rfl)
theorem dX0_init_18 : decode cX0_init 18 = .ok (.new 18, 3) := dk_187 0 18 (dk_at dksX0_init_0 18 rfl rfl)
theorem dX0_init_21 : decode cX0_init 21 = .ok (.dup, 1) := dk_89 (dk_at dksX0_init_0 21 rfl rfl)
theorem dX0_init_22 : decode cX0_init 22 = .ok (.invokespecial 20, 3) := dk_183 0 20 (dk_at dksX0_init_1 0 rfl rfl)
theorem dX0_init_25 : decode cX0_init 25 = .ok (.putfield 21, 3) := dk_181 0 21 (dk_at dksX0_init_1 3 rfl rfl)
theorem dX0_init_28 : decode cX0_init 28 = .ok (.aload_n 0, 1) := dk_42 (dk_at dksX0_init_1 6 rfl rfl)
theorem dX0_init_29 : decode cX0_init 29 = .ok (.new 25, 3) := dk_187 0 25 (dk_at dksX0_init_1 7 rfl rfl)
theorem dX0_init_32 : decode cX0_init 32 = .ok (.dup, 1) := dk_89 (dk_at dksX0_init_1 10 rfl rfl)
theorem dX0_init_33 : decode cX0_init 33 = .ok (.invokespecial 27, 3) := dk_183 0 27 (dk_at dksX0_init_1 11 rfl rfl)
theorem dX0_init_36 : decode cX0_init 36 = .ok (.putfield 28, 3) := dk_181 0 28 (dk_at dksX0_init_1 14 rfl rfl)
theorem dX0_init_39 : decode cX0_init 39 = .ok (.return_, 1) := dk_177 (dk_at dksX0_init_1 17 rfl rfl)
abbrev cX0_setSize : ByteArray := prog_1_method_8_code
def yX0_setSize : MethodName := ⟨RX0, "setSize", "(II)I"⟩
def dkwX0_setSize_1 : List UInt8 := [180, 0, 12, 27, 28, 182, 0, 56, 182, 0, 36, 42, 180, 0, 12, 182, 0, 60, 172]
abbrev dktX0_setSize_1 : List UInt8 := dkwX0_setSize_1 ++ []
def dkwX0_setSize_0 : List UInt8 := [27, 5, 16, 10, 184, 0, 52, 153, 0, 13, 28, 5, 16, 8, 184, 0, 52, 154, 0, 5, 2, 172, 42, 42]
abbrev dktX0_setSize_0 : List UInt8 := dkwX0_setSize_0 ++ dktX0_setSize_1
theorem dksX0_setSize_0 : cX0_setSize.data.toList.drop 0 = dktX0_setSize_0 := by decide +kernel
theorem dksX0_setSize_1 : cX0_setSize.data.toList.drop 24 = dktX0_setSize_1 := dk_seg dksX0_setSize_0 24 rfl rfl
theorem dX0_setSize_0 : decode cX0_setSize 0 = .ok (.iload_n 1, 1) := dk_27 (dk_at dksX0_setSize_0 0 rfl rfl)
theorem dX0_setSize_1 : decode cX0_setSize 1 = .ok (.iconst 2, 1) := dk_5 (dk_at dksX0_setSize_0 1 rfl rfl)
theorem dX0_setSize_2 : decode cX0_setSize 2 = .ok (.bipush 10, 2) := dk_16 10 (dk_at dksX0_setSize_0 2 rfl rfl)
theorem dX0_setSize_4 : decode cX0_setSize 4 = .ok (.invokestatic 52, 3) := dk_184 0 52 (dk_at dksX0_setSize_0 4 rfl rfl)
theorem dX0_setSize_7 : decode cX0_setSize 7 = .ok (.ifCond .eq 13, 3) := dk_153 0 13 (dk_at dksX0_setSize_0 7 rfl rfl)
theorem dX0_setSize_10 : decode cX0_setSize 10 = .ok (.iload_n 2, 1) := dk_28 (dk_at dksX0_setSize_0 10 rfl rfl)
theorem dX0_setSize_11 : decode cX0_setSize 11 = .ok (.iconst 2, 1) := dk_5 (dk_at dksX0_setSize_0 11 rfl rfl)
theorem dX0_setSize_12 : decode cX0_setSize 12 = .ok (.bipush 8, 2) := dk_16 8 (dk_at dksX0_setSize_0 12 rfl rfl)
theorem dX0_setSize_14 : decode cX0_setSize 14 = .ok (.invokestatic 52, 3) := dk_184 0 52 (dk_at dksX0_setSize_0 14 rfl rfl)
theorem dX0_setSize_17 : decode cX0_setSize 17 = .ok (.ifCond .ne 5, 3) := dk_154 0 5 (dk_at dksX0_setSize_0 17 rfl rfl)
theorem dX0_setSize_20 : decode cX0_setSize 20 = .ok (.iconst (-1), 1) := dk_2 (dk_at dksX0_setSize_0 20 rfl rfl)
theorem dX0_setSize_21 : decode cX0_setSize 21 = .ok (.ireturn, 1) := dk_172 (dk_at dksX0_setSize_0 21 rfl rfl)
theorem dX0_setSize_22 : decode cX0_setSize 22 = .ok (.aload_n 0, 1) := dk_42 (dk_at dksX0_setSize_0 22 rfl rfl)
theorem dX0_setSize_23 : decode cX0_setSize 23 = .ok (.aload_n 0, 1) := dk_42 (dk_at dksX0_setSize_0 23 rfl rfl)
theorem dX0_setSize_24 : decode cX0_setSize 24 = .ok (.getfield 12, 3) := dk_180 0 12 (dk_at dksX0_setSize_1 0 rfl rfl)
theorem dX0_setSize_27 : decode cX0_setSize 27 = .ok (.iload_n 1, 1) := dk_27 (dk_at dksX0_setSize_1 3 rfl rfl)
theorem dX0_setSize_28 : decode cX0_setSize 28 = .ok (.iload_n 2, 1) := dk_28 (dk_at dksX0_setSize_1 4 rfl rfl)
theorem dX0_setSize_29 : decode cX0_setSize 29 = .ok (.invokevirtual 56, 3) := dk_182 0 56 (dk_at dksX0_setSize_1 5 rfl rfl)
theorem dX0_setSize_32 : decode cX0_setSize 32 = .ok (.invokevirtual 36, 3) := dk_182 0 36 (dk_at dksX0_setSize_1 8 rfl rfl)
theorem dX0_setSize_35 : decode cX0_setSize 35 = .ok (.aload_n 0, 1) := dk_42 (dk_at dksX0_setSize_1 11 rfl rfl)
theorem dX0_setSize_36 : decode cX0_setSize 36 = .ok (.getfield 12, 3) := dk_180 0 12 (dk_at dksX0_setSize_1 12 rfl rfl)
theorem dX0_setSize_39 : decode cX0_setSize 39 = .ok (.invokevirtual 60, 3) := dk_182 0 60 (dk_at dksX0_setSize_1 15 rfl rfl)
theorem dX0_setSize_42 : decode cX0_setSize 42 = .ok (.ireturn, 1) := dk_172 (dk_at dksX0_setSize_1 18 rfl rfl)
abbrev cX0_isBetween : ByteArray := prog_1_method_1_code
def yX0_isBetween : MethodName := ⟨RX0, "isBetween", "(III)Z"⟩
def dkwX0_isBetween_0 : List UInt8 := [26, 27, 161, 0, 12, 26, 28, 163, 0, 7, 4, 167, 0, 4, 3, 172]
abbrev dktX0_isBetween_0 : List UInt8 := dkwX0_isBetween_0 ++ []
theorem dksX0_isBetween_0 : cX0_isBetween.data.toList.drop 0 = dktX0_isBetween_0 := by decide +kernel
theorem dX0_isBetween_0 : decode cX0_isBetween 0 = .ok (.iload_n 0, 1) := dk_26 (dk_at dksX0_isBetween_0 0 rfl rfl)
theorem dX0_isBetween_1 : decode cX0_isBetween 1 = .ok (.iload_n 1, 1) := dk_27 (dk_at dksX0_isBetween_0 1 rfl rfl)
theorem dX0_isBetween_2 : decode cX0_isBetween 2 = .ok (.if_icmp .lt 12, 3) := dk_161 0 12 (dk_at dksX0_isBetween_0 2 rfl rfl)
theorem dX0_isBetween_5 : decode cX0_isBetween 5 = .ok (.iload_n 0, 1) := dk_26 (dk_at dksX0_isBetween_0 5 rfl rfl)
theorem dX0_isBetween_6 : decode cX0_isBetween 6 = .ok (.iload_n 2, 1) := dk_28 (dk_at dksX0_isBetween_0 6 rfl rfl)
theorem dX0_isBetween_7 : decode cX0_isBetween 7 = .ok (.if_icmp .gt 7, 3) := dk_163 0 7 (dk_at dksX0_isBetween_0 7 rfl rfl)
theorem dX0_isBetween_10 : decode cX0_isBetween 10 = .ok (.iconst 1, 1) := dk_4 (dk_at dksX0_isBetween_0 10 rfl rfl)
theorem dX0_isBetween_11 : decode cX0_isBetween 11 = .ok (.goto 4, 3) := dk_167 0 4 (dk_at dksX0_isBetween_0 11 rfl rfl)
theorem dX0_isBetween_14 : decode cX0_isBetween 14 = .ok (.iconst 0, 1) := dk_3 (dk_at dksX0_isBetween_0 14 rfl rfl)
theorem dX0_isBetween_15 : decode cX0_isBetween 15 = .ok (.ireturn, 1) := dk_172 (dk_at dksX0_isBetween_0 15 rfl rfl)
abbrev cX0_replace : ByteArray := prog_1_method_7_code
def yX0_replace : MethodName := ⟨RX0, "replace", "(LDyeLattice$Lattice;)V"⟩
def dkwX0_replace_1 : List UInt8 := [180, 0, 21, 42, 180, 0, 12, 182, 0, 48, 42, 43, 181, 0, 12, 177]
abbrev dktX0_replace_1 : List UInt8 := dkwX0_replace_1 ++ []
def dkwX0_replace_0 : List UInt8 := [42, 180, 0, 21, 182, 0, 40, 8, 160, 0, 14, 42, 180, 0, 21, 182, 0, 44, 192, 0, 7, 77, 42]
abbrev dktX0_replace_0 : List UInt8 := dkwX0_replace_0 ++ dktX0_replace_1
theorem dksX0_replace_0 : cX0_replace.data.toList.drop 0 = dktX0_replace_0 := by decide +kernel
theorem dksX0_replace_1 : cX0_replace.data.toList.drop 23 = dktX0_replace_1 := dk_seg dksX0_replace_0 23 rfl rfl
theorem dX0_replace_0 : decode cX0_replace 0 = .ok (.aload_n 0, 1) := dk_42 (dk_at dksX0_replace_0 0 rfl rfl)
theorem dX0_replace_1 : decode cX0_replace 1 = .ok (.getfield 21, 3) := dk_180 0 21 (dk_at dksX0_replace_0 1 rfl rfl)
theorem dX0_replace_4 : decode cX0_replace 4 = .ok (.invokevirtual 40, 3) := dk_182 0 40 (dk_at dksX0_replace_0 4 rfl rfl)
theorem dX0_replace_7 : decode cX0_replace 7 = .ok (.iconst 5, 1) := dk_8 (dk_at dksX0_replace_0 7 rfl rfl)
theorem dX0_replace_8 : decode cX0_replace 8 = .ok (.if_icmp .ne 14, 3) := dk_160 0 14 (dk_at dksX0_replace_0 8 rfl rfl)
theorem dX0_replace_11 : decode cX0_replace 11 = .ok (.aload_n 0, 1) := dk_42 (dk_at dksX0_replace_0 11 rfl rfl)
theorem dX0_replace_12 : decode cX0_replace 12 = .ok (.getfield 21, 3) := dk_180 0 21 (dk_at dksX0_replace_0 12 rfl rfl)
theorem dX0_replace_15 : decode cX0_replace 15 = .ok (.invokevirtual 44, 3) := dk_182 0 44 (dk_at dksX0_replace_0 15 rfl rfl)
theorem dX0_replace_18 : decode cX0_replace 18 = .ok (.checkcast 7, 3) := dk_192 0 7 (dk_at dksX0_replace_0 18 rfl rfl)
theorem dX0_replace_21 : decode cX0_replace 21 = .ok (.astore_n 2, 1) := dk_77 (dk_at dksX0_replace_0 21 rfl rfl)
theorem dX0_replace_22 : decode cX0_replace 22 = .ok (.aload_n 0, 1) := dk_42 (dk_at dksX0_replace_0 22 rfl rfl)
theorem dX0_replace_23 : decode cX0_replace 23 = .ok (.getfield 21, 3) := dk_180 0 21 (dk_at dksX0_replace_1 0 rfl rfl)
theorem dX0_replace_26 : decode cX0_replace 26 = .ok (.aload_n 0, 1) := dk_42 (dk_at dksX0_replace_1 3 rfl rfl)
theorem dX0_replace_27 : decode cX0_replace 27 = .ok (.getfield 12, 3) := dk_180 0 12 (dk_at dksX0_replace_1 4 rfl rfl)
theorem dX0_replace_30 : decode cX0_replace 30 = .ok (.invokevirtual 48, 3) := dk_182 0 48 (dk_at dksX0_replace_1 7 rfl rfl)
theorem dX0_replace_33 : decode cX0_replace 33 = .ok (.aload_n 0, 1) := dk_42 (dk_at dksX0_replace_1 10 rfl rfl)
theorem dX0_replace_34 : decode cX0_replace 34 = .ok (.aload_n 1, 1) := dk_43 (dk_at dksX0_replace_1 11 rfl rfl)
theorem dX0_replace_35 : decode cX0_replace 35 = .ok (.putfield 12, 3) := dk_181 0 12 (dk_at dksX0_replace_1 12 rfl rfl)
theorem dX0_replace_38 : decode cX0_replace 38 = .ok (.return_, 1) := dk_177 (dk_at dksX0_replace_1 15 rfl rfl)
abbrev cX0_setKind : ByteArray := prog_1_method_10_code
def yX0_setKind : MethodName := ⟨RX0, "setKind", "(I)I"⟩
def dkwX0_setKind_1 : List UInt8 := [182, 0, 83, 172]
abbrev dktX0_setKind_1 : List UInt8 := dkwX0_setKind_1 ++ []
def dkwX0_setKind_0 : List UInt8 := [27, 3, 5, 184, 0, 52, 154, 0, 5, 2, 172, 42, 182, 0, 76, 27, 184, 0, 79, 42, 180, 0, 12]
abbrev dktX0_setKind_0 : List UInt8 := dkwX0_setKind_0 ++ dktX0_setKind_1
theorem dksX0_setKind_0 : cX0_setKind.data.toList.drop 0 = dktX0_setKind_0 := by decide +kernel
theorem dksX0_setKind_1 : cX0_setKind.data.toList.drop 23 = dktX0_setKind_1 := dk_seg dksX0_setKind_0 23 rfl rfl
theorem dX0_setKind_0 : decode cX0_setKind 0 = .ok (.iload_n 1, 1) := dk_27 (dk_at dksX0_setKind_0 0 rfl rfl)
theorem dX0_setKind_1 : decode cX0_setKind 1 = .ok (.iconst 0, 1) := dk_3 (dk_at dksX0_setKind_0 1 rfl rfl)
theorem dX0_setKind_2 : decode cX0_setKind 2 = .ok (.iconst 2, 1) := dk_5 (dk_at dksX0_setKind_0 2 rfl rfl)
theorem dX0_setKind_3 : decode cX0_setKind 3 = .ok (.invokestatic 52, 3) := dk_184 0 52 (dk_at dksX0_setKind_0 3 rfl rfl)
theorem dX0_setKind_6 : decode cX0_setKind 6 = .ok (.ifCond .ne 5, 3) := dk_154 0 5 (dk_at dksX0_setKind_0 6 rfl rfl)
theorem dX0_setKind_9 : decode cX0_setKind 9 = .ok (.iconst (-1), 1) := dk_2 (dk_at dksX0_setKind_0 9 rfl rfl)
theorem dX0_setKind_10 : decode cX0_setKind 10 = .ok (.ireturn, 1) := dk_172 (dk_at dksX0_setKind_0 10 rfl rfl)
theorem dX0_setKind_11 : decode cX0_setKind 11 = .ok (.aload_n 0, 1) := dk_42 (dk_at dksX0_setKind_0 11 rfl rfl)
theorem dX0_setKind_12 : decode cX0_setKind 12 = .ok (.invokevirtual 76, 3) := dk_182 0 76 (dk_at dksX0_setKind_0 12 rfl rfl)
theorem dX0_setKind_15 : decode cX0_setKind 15 = .ok (.iload_n 1, 1) := dk_27 (dk_at dksX0_setKind_0 15 rfl rfl)
theorem dX0_setKind_16 : decode cX0_setKind 16 = .ok (.invokestatic 79, 3) := dk_184 0 79 (dk_at dksX0_setKind_0 16 rfl rfl)
theorem dX0_setKind_19 : decode cX0_setKind 19 = .ok (.aload_n 0, 1) := dk_42 (dk_at dksX0_setKind_0 19 rfl rfl)
theorem dX0_setKind_20 : decode cX0_setKind 20 = .ok (.getfield 12, 3) := dk_180 0 12 (dk_at dksX0_setKind_0 20 rfl rfl)
theorem dX0_setKind_23 : decode cX0_setKind 23 = .ok (.invokevirtual 83, 3) := dk_182 0 83 (dk_at dksX0_setKind_1 0 rfl rfl)
theorem dX0_setKind_26 : decode cX0_setKind 26 = .ok (.ireturn, 1) := dk_172 (dk_at dksX0_setKind_1 3 rfl rfl)
abbrev cX0_act : ByteArray := prog_1_method_6_code
def yX0_act : MethodName := ⟨RX0, "act", "()LDyeLattice$Lattice;"⟩
def dkwX0_act_0 : List UInt8 := [42, 42, 180, 0, 12, 182, 0, 32, 182, 0, 36, 42, 180, 0, 12, 176]
abbrev dktX0_act_0 : List UInt8 := dkwX0_act_0 ++ []
theorem dksX0_act_0 : cX0_act.data.toList.drop 0 = dktX0_act_0 := by decide +kernel
theorem dX0_act_0 : decode cX0_act 0 = .ok (.aload_n 0, 1) := dk_42 (dk_at dksX0_act_0 0 rfl rfl)
theorem dX0_act_1 : decode cX0_act 1 = .ok (.aload_n 0, 1) := dk_42 (dk_at dksX0_act_0 1 rfl rfl)
theorem dX0_act_2 : decode cX0_act 2 = .ok (.getfield 12, 3) := dk_180 0 12 (dk_at dksX0_act_0 2 rfl rfl)
theorem dX0_act_5 : decode cX0_act 5 = .ok (.invokevirtual 32, 3) := dk_182 0 32 (dk_at dksX0_act_0 5 rfl rfl)
theorem dX0_act_8 : decode cX0_act 8 = .ok (.invokevirtual 36, 3) := dk_182 0 36 (dk_at dksX0_act_0 8 rfl rfl)
theorem dX0_act_11 : decode cX0_act 11 = .ok (.aload_n 0, 1) := dk_42 (dk_at dksX0_act_0 11 rfl rfl)
theorem dX0_act_12 : decode cX0_act 12 = .ok (.getfield 12, 3) := dk_180 0 12 (dk_at dksX0_act_0 12 rfl rfl)
theorem dX0_act_15 : decode cX0_act 15 = .ok (.areturn, 1) := dk_176 (dk_at dksX0_act_0 15 rfl rfl)
abbrev cX0_changeKind : ByteArray := prog_1_method_9_code
def yX0_changeKind : MethodName := ⟨RX0, "changeKind", "(LDyeLattice$Lattice;I)V"⟩
def dkwX0_changeKind_0 : List UInt8 := [42, 27, 184, 0, 63, 181, 0, 69, 42, 182, 0, 73, 177]
abbrev dktX0_changeKind_0 : List UInt8 := dkwX0_changeKind_0 ++ []
theorem dksX0_changeKind_0 : cX0_changeKind.data.toList.drop 0 = dktX0_changeKind_0 := by decide +kernel
theorem dX0_changeKind_0 : decode cX0_changeKind 0 = .ok (.aload_n 0, 1) := dk_42 (dk_at dksX0_changeKind_0 0 rfl rfl)
theorem dX0_changeKind_1 : decode cX0_changeKind 1 = .ok (.iload_n 1, 1) := dk_27 (dk_at dksX0_changeKind_0 1 rfl rfl)
theorem dX0_changeKind_2 : decode cX0_changeKind 2 = .ok (.invokestatic 63, 3) := dk_184 0 63 (dk_at dksX0_changeKind_0 2 rfl rfl)
theorem dX0_changeKind_5 : decode cX0_changeKind 5 = .ok (.putfield 69, 3) := dk_181 0 69 (dk_at dksX0_changeKind_0 5 rfl rfl)
theorem dX0_changeKind_8 : decode cX0_changeKind 8 = .ok (.aload_n 0, 1) := dk_42 (dk_at dksX0_changeKind_0 8 rfl rfl)
theorem dX0_changeKind_9 : decode cX0_changeKind 9 = .ok (.invokevirtual 73, 3) := dk_182 0 73 (dk_at dksX0_changeKind_0 9 rfl rfl)
theorem dX0_changeKind_12 : decode cX0_changeKind 12 = .ok (.return_, 1) := dk_177 (dk_at dksX0_changeKind_0 12 rfl rfl)
abbrev cX0_xStep : ByteArray := prog_1_method_2_code
def yX0_xStep : MethodName := ⟨RX0, "xStep", "(I)I"⟩
def dkwX0_xStep_0 : List UInt8 := [26, 4, 160, 0, 7, 3, 167, 0, 13, 26, 5, 160, 0, 7, 2, 167, 0, 4, 4, 172]
abbrev dktX0_xStep_0 : List UInt8 := dkwX0_xStep_0 ++ []
theorem dksX0_xStep_0 : cX0_xStep.data.toList.drop 0 = dktX0_xStep_0 := by decide +kernel
theorem dX0_xStep_0 : decode cX0_xStep 0 = .ok (.iload_n 0, 1) := dk_26 (dk_at dksX0_xStep_0 0 rfl rfl)
theorem dX0_xStep_1 : decode cX0_xStep 1 = .ok (.iconst 1, 1) := dk_4 (dk_at dksX0_xStep_0 1 rfl rfl)
theorem dX0_xStep_2 : decode cX0_xStep 2 = .ok (.if_icmp .ne 7, 3) := dk_160 0 7 (dk_at dksX0_xStep_0 2 rfl rfl)
theorem dX0_xStep_5 : decode cX0_xStep 5 = .ok (.iconst 0, 1) := dk_3 (dk_at dksX0_xStep_0 5 rfl rfl)
theorem dX0_xStep_6 : decode cX0_xStep 6 = .ok (.goto 13, 3) := dk_167 0 13 (dk_at dksX0_xStep_0 6 rfl rfl)
theorem dX0_xStep_9 : decode cX0_xStep 9 = .ok (.iload_n 0, 1) := dk_26 (dk_at dksX0_xStep_0 9 rfl rfl)
theorem dX0_xStep_10 : decode cX0_xStep 10 = .ok (.iconst 2, 1) := dk_5 (dk_at dksX0_xStep_0 10 rfl rfl)
theorem dX0_xStep_11 : decode cX0_xStep 11 = .ok (.if_icmp .ne 7, 3) := dk_160 0 7 (dk_at dksX0_xStep_0 11 rfl rfl)
theorem dX0_xStep_14 : decode cX0_xStep 14 = .ok (.iconst (-1), 1) := dk_2 (dk_at dksX0_xStep_0 14 rfl rfl)
theorem dX0_xStep_15 : decode cX0_xStep 15 = .ok (.goto 4, 3) := dk_167 0 4 (dk_at dksX0_xStep_0 15 rfl rfl)
theorem dX0_xStep_18 : decode cX0_xStep 18 = .ok (.iconst 1, 1) := dk_4 (dk_at dksX0_xStep_0 18 rfl rfl)
theorem dX0_xStep_19 : decode cX0_xStep 19 = .ok (.ireturn, 1) := dk_172 (dk_at dksX0_xStep_0 19 rfl rfl)
abbrev cX0_yStep : ByteArray := prog_1_method_3_code
def yX0_yStep : MethodName := ⟨RX0, "yStep", "(I)I"⟩
def dkwX0_yStep_0 : List UInt8 := [26, 154, 0, 7, 3, 167, 0, 4, 4, 172]
abbrev dktX0_yStep_0 : List UInt8 := dkwX0_yStep_0 ++ []
theorem dksX0_yStep_0 : cX0_yStep.data.toList.drop 0 = dktX0_yStep_0 := by decide +kernel
theorem dX0_yStep_0 : decode cX0_yStep 0 = .ok (.iload_n 0, 1) := dk_26 (dk_at dksX0_yStep_0 0 rfl rfl)
theorem dX0_yStep_1 : decode cX0_yStep 1 = .ok (.ifCond .ne 7, 3) := dk_154 0 7 (dk_at dksX0_yStep_0 1 rfl rfl)
theorem dX0_yStep_4 : decode cX0_yStep 4 = .ok (.iconst 0, 1) := dk_3 (dk_at dksX0_yStep_0 4 rfl rfl)
theorem dX0_yStep_5 : decode cX0_yStep 5 = .ok (.goto 4, 3) := dk_167 0 4 (dk_at dksX0_yStep_0 5 rfl rfl)
theorem dX0_yStep_8 : decode cX0_yStep 8 = .ok (.iconst 1, 1) := dk_4 (dk_at dksX0_yStep_0 8 rfl rfl)
theorem dX0_yStep_9 : decode cX0_yStep 9 = .ok (.ireturn, 1) := dk_172 (dk_at dksX0_yStep_0 9 rfl rfl)
abbrev cX0_setGrain : ByteArray := prog_1_method_11_code
def yX0_setGrain : MethodName := ⟨RX0, "setGrain", "(II)I"⟩
def dkwX0_setGrain_1 : List UInt8 := [180, 0, 12, 180, 0, 90, 27, 46, 62, 42, 182, 0, 76, 180, 0, 90, 27, 28, 79, 29, 172]
abbrev dktX0_setGrain_1 : List UInt8 := dkwX0_setGrain_1 ++ []
def dkwX0_setGrain_0 : List UInt8 := [42, 180, 0, 12, 27, 182, 0, 86, 153, 0, 13, 28, 3, 16, 99, 184, 0, 52, 154, 0, 5, 2, 172, 42]
abbrev dktX0_setGrain_0 : List UInt8 := dkwX0_setGrain_0 ++ dktX0_setGrain_1
theorem dksX0_setGrain_0 : cX0_setGrain.data.toList.drop 0 = dktX0_setGrain_0 := by decide +kernel
theorem dksX0_setGrain_1 : cX0_setGrain.data.toList.drop 24 = dktX0_setGrain_1 := dk_seg dksX0_setGrain_0 24 rfl rfl
theorem dX0_setGrain_0 : decode cX0_setGrain 0 = .ok (.aload_n 0, 1) := dk_42 (dk_at dksX0_setGrain_0 0 rfl rfl)
theorem dX0_setGrain_1 : decode cX0_setGrain 1 = .ok (.getfield 12, 3) := dk_180 0 12 (dk_at dksX0_setGrain_0 1 rfl rfl)
theorem dX0_setGrain_4 : decode cX0_setGrain 4 = .ok (.iload_n 1, 1) := dk_27 (dk_at dksX0_setGrain_0 4 rfl rfl)
theorem dX0_setGrain_5 : decode cX0_setGrain 5 = .ok (.invokevirtual 86, 3) := dk_182 0 86 (dk_at dksX0_setGrain_0 5 rfl rfl)
theorem dX0_setGrain_8 : decode cX0_setGrain 8 = .ok (.ifCond .eq 13, 3) := dk_153 0 13 (dk_at dksX0_setGrain_0 8 rfl rfl)
theorem dX0_setGrain_11 : decode cX0_setGrain 11 = .ok (.iload_n 2, 1) := dk_28 (dk_at dksX0_setGrain_0 11 rfl rfl)
theorem dX0_setGrain_12 : decode cX0_setGrain 12 = .ok (.iconst 0, 1) := dk_3 (dk_at dksX0_setGrain_0 12 rfl rfl)
theorem dX0_setGrain_13 : decode cX0_setGrain 13 = .ok (.bipush 99, 2) := dk_16 99 (dk_at dksX0_setGrain_0 13 rfl rfl)
theorem dX0_setGrain_15 : decode cX0_setGrain 15 = .ok (.invokestatic 52, 3) := dk_184 0 52 (dk_at dksX0_setGrain_0 15 rfl rfl)
theorem dX0_setGrain_18 : decode cX0_setGrain 18 = .ok (.ifCond .ne 5, 3) := dk_154 0 5 (dk_at dksX0_setGrain_0 18 rfl rfl)
theorem dX0_setGrain_21 : decode cX0_setGrain 21 = .ok (.iconst (-1), 1) := dk_2 (dk_at dksX0_setGrain_0 21 rfl rfl)
theorem dX0_setGrain_22 : decode cX0_setGrain 22 = .ok (.ireturn, 1) := dk_172 (dk_at dksX0_setGrain_0 22 rfl rfl)
theorem dX0_setGrain_23 : decode cX0_setGrain 23 = .ok (.aload_n 0, 1) := dk_42 (dk_at dksX0_setGrain_0 23 rfl rfl)
theorem dX0_setGrain_24 : decode cX0_setGrain 24 = .ok (.getfield 12, 3) := dk_180 0 12 (dk_at dksX0_setGrain_1 0 rfl rfl)
theorem dX0_setGrain_27 : decode cX0_setGrain 27 = .ok (.getfield 90, 3) := dk_180 0 90 (dk_at dksX0_setGrain_1 3 rfl rfl)
theorem dX0_setGrain_30 : decode cX0_setGrain 30 = .ok (.iload_n 1, 1) := dk_27 (dk_at dksX0_setGrain_1 6 rfl rfl)
theorem dX0_setGrain_31 : decode cX0_setGrain 31 = .ok (.iaload, 1) := dk_46 (dk_at dksX0_setGrain_1 7 rfl rfl)
theorem dX0_setGrain_32 : decode cX0_setGrain 32 = .ok (.istore_n 3, 1) := dk_62 (dk_at dksX0_setGrain_1 8 rfl rfl)
theorem dX0_setGrain_33 : decode cX0_setGrain 33 = .ok (.aload_n 0, 1) := dk_42 (dk_at dksX0_setGrain_1 9 rfl rfl)
theorem dX0_setGrain_34 : decode cX0_setGrain 34 = .ok (.invokevirtual 76, 3) := dk_182 0 76 (dk_at dksX0_setGrain_1 10 rfl rfl)
theorem dX0_setGrain_37 : decode cX0_setGrain 37 = .ok (.getfield 90, 3) := dk_180 0 90 (dk_at dksX0_setGrain_1 13 rfl rfl)
theorem dX0_setGrain_40 : decode cX0_setGrain 40 = .ok (.iload_n 1, 1) := dk_27 (dk_at dksX0_setGrain_1 16 rfl rfl)
theorem dX0_setGrain_41 : decode cX0_setGrain 41 = .ok (.iload_n 2, 1) := dk_28 (dk_at dksX0_setGrain_1 17 rfl rfl)
theorem dX0_setGrain_42 : decode cX0_setGrain 42 = .ok (.iastore, 1) := dk_79 (dk_at dksX0_setGrain_1 18 rfl rfl)
theorem dX0_setGrain_43 : decode cX0_setGrain 43 = .ok (.iload_n 3, 1) := dk_29 (dk_at dksX0_setGrain_1 19 rfl rfl)
theorem dX0_setGrain_44 : decode cX0_setGrain 44 = .ok (.ireturn, 1) := dk_172 (dk_at dksX0_setGrain_1 20 rfl rfl)
abbrev cX0_fill : ByteArray := prog_1_method_12_code
def yX0_fill : MethodName := ⟨RX0, "fill", "(I)I"⟩
def dkwX0_fill_0 : List UInt8 := [27, 3, 17, 39, 15, 184, 0, 52, 153, 0, 14, 42, 182, 0, 76, 27, 182, 0, 94, 167, 0, 4, 2, 172]
abbrev dktX0_fill_0 : List UInt8 := dkwX0_fill_0 ++ []
theorem dksX0_fill_0 : cX0_fill.data.toList.drop 0 = dktX0_fill_0 := by decide +kernel
theorem dX0_fill_0 : decode cX0_fill 0 = .ok (.iload_n 1, 1) := dk_27 (dk_at dksX0_fill_0 0 rfl rfl)
theorem dX0_fill_1 : decode cX0_fill 1 = .ok (.iconst 0, 1) := dk_3 (dk_at dksX0_fill_0 1 rfl rfl)
theorem dX0_fill_2 : decode cX0_fill 2 = .ok (.sipush 9999, 3) := dk_17 39 15 (dk_at dksX0_fill_0 2 rfl rfl)
theorem dX0_fill_5 : decode cX0_fill 5 = .ok (.invokestatic 52, 3) := dk_184 0 52 (dk_at dksX0_fill_0 5 rfl rfl)
theorem dX0_fill_8 : decode cX0_fill 8 = .ok (.ifCond .eq 14, 3) := dk_153 0 14 (dk_at dksX0_fill_0 8 rfl rfl)
theorem dX0_fill_11 : decode cX0_fill 11 = .ok (.aload_n 0, 1) := dk_42 (dk_at dksX0_fill_0 11 rfl rfl)
theorem dX0_fill_12 : decode cX0_fill 12 = .ok (.invokevirtual 76, 3) := dk_182 0 76 (dk_at dksX0_fill_0 12 rfl rfl)
theorem dX0_fill_15 : decode cX0_fill 15 = .ok (.iload_n 1, 1) := dk_27 (dk_at dksX0_fill_0 15 rfl rfl)
theorem dX0_fill_16 : decode cX0_fill 16 = .ok (.invokevirtual 94, 3) := dk_182 0 94 (dk_at dksX0_fill_0 16 rfl rfl)
theorem dX0_fill_19 : decode cX0_fill 19 = .ok (.goto 4, 3) := dk_167 0 4 (dk_at dksX0_fill_0 19 rfl rfl)
theorem dX0_fill_22 : decode cX0_fill 22 = .ok (.iconst (-1), 1) := dk_2 (dk_at dksX0_fill_0 22 rfl rfl)
theorem dX0_fill_23 : decode cX0_fill 23 = .ok (.ireturn, 1) := dk_172 (dk_at dksX0_fill_0 23 rfl rfl)
abbrev cX0_setValve : ByteArray := prog_1_method_13_code
def yX0_setValve : MethodName := ⟨RX0, "setValve", "(III)I"⟩
def dkwX0_setValve_2 : List UInt8 := [7, 27, 104, 28, 96, 29, 184, 0, 111, 83, 21, 4, 172]
abbrev dktX0_setValve_2 : List UInt8 := dkwX0_setValve_2 ++ []
def dkwX0_setValve_1 : List UInt8 := [180, 0, 12, 180, 0, 102, 7, 27, 104, 28, 96, 50, 182, 0, 106, 54, 4, 42, 182, 0, 76, 180, 0, 102]
abbrev dktX0_setValve_1 : List UInt8 := dkwX0_setValve_1 ++ dktX0_setValve_2
def dkwX0_setValve_0 : List UInt8 := [42, 180, 0, 12, 27, 28, 182, 0, 98, 153, 0, 12, 29, 3, 7, 184, 0, 52, 154, 0, 5, 2, 172, 42]
abbrev dktX0_setValve_0 : List UInt8 := dkwX0_setValve_0 ++ dktX0_setValve_1
theorem dksX0_setValve_0 : cX0_setValve.data.toList.drop 0 = dktX0_setValve_0 := by decide +kernel
theorem dksX0_setValve_1 : cX0_setValve.data.toList.drop 24 = dktX0_setValve_1 := dk_seg dksX0_setValve_0 24 rfl rfl
theorem dksX0_setValve_2 : cX0_setValve.data.toList.drop 48 = dktX0_setValve_2 := dk_seg dksX0_setValve_1 24 rfl rfl
theorem dX0_setValve_0 : decode cX0_setValve 0 = .ok (.aload_n 0, 1) := dk_42 (dk_at dksX0_setValve_0 0 rfl rfl)
theorem dX0_setValve_1 : decode cX0_setValve 1 = .ok (.getfield 12, 3) := dk_180 0 12 (dk_at dksX0_setValve_0 1 rfl rfl)
theorem dX0_setValve_4 : decode cX0_setValve 4 = .ok (.iload_n 1, 1) := dk_27 (dk_at dksX0_setValve_0 4 rfl rfl)
theorem dX0_setValve_5 : decode cX0_setValve 5 = .ok (.iload_n 2, 1) := dk_28 (dk_at dksX0_setValve_0 5 rfl rfl)
theorem dX0_setValve_6 : decode cX0_setValve 6 = .ok (.invokevirtual 98, 3) := dk_182 0 98 (dk_at dksX0_setValve_0 6 rfl rfl)
theorem dX0_setValve_9 : decode cX0_setValve 9 = .ok (.ifCond .eq 12, 3) := dk_153 0 12 (dk_at dksX0_setValve_0 9 rfl rfl)
theorem dX0_setValve_12 : decode cX0_setValve 12 = .ok (.iload_n 3, 1) := dk_29 (dk_at dksX0_setValve_0 12 rfl rfl)
theorem dX0_setValve_13 : decode cX0_setValve 13 = .ok (.iconst 0, 1) := dk_3 (dk_at dksX0_setValve_0 13 rfl rfl)
theorem dX0_setValve_14 : decode cX0_setValve 14 = .ok (.iconst 4, 1) := dk_7 (dk_at dksX0_setValve_0 14 rfl rfl)
theorem dX0_setValve_15 : decode cX0_setValve 15 = .ok (.invokestatic 52, 3) := dk_184 0 52 (dk_at dksX0_setValve_0 15 rfl rfl)
theorem dX0_setValve_18 : decode cX0_setValve 18 = .ok (.ifCond .ne 5, 3) := dk_154 0 5 (dk_at dksX0_setValve_0 18 rfl rfl)
theorem dX0_setValve_21 : decode cX0_setValve 21 = .ok (.iconst (-1), 1) := dk_2 (dk_at dksX0_setValve_0 21 rfl rfl)
theorem dX0_setValve_22 : decode cX0_setValve 22 = .ok (.ireturn, 1) := dk_172 (dk_at dksX0_setValve_0 22 rfl rfl)
theorem dX0_setValve_23 : decode cX0_setValve 23 = .ok (.aload_n 0, 1) := dk_42 (dk_at dksX0_setValve_0 23 rfl rfl)
theorem dX0_setValve_24 : decode cX0_setValve 24 = .ok (.getfield 12, 3) := dk_180 0 12 (dk_at dksX0_setValve_1 0 rfl rfl)
theorem dX0_setValve_27 : decode cX0_setValve 27 = .ok (.getfield 102, 3) := dk_180 0 102 (dk_at dksX0_setValve_1 3 rfl rfl)
theorem dX0_setValve_30 : decode cX0_setValve 30 = .ok (.iconst 4, 1) := dk_7 (dk_at dksX0_setValve_1 6 rfl rfl)
theorem dX0_setValve_31 : decode cX0_setValve 31 = .ok (.iload_n 1, 1) := dk_27 (dk_at dksX0_setValve_1 7 rfl rfl)
theorem dX0_setValve_32 : decode cX0_setValve 32 = .ok (.imul, 1) := dk_104 (dk_at dksX0_setValve_1 8 rfl rfl)
theorem dX0_setValve_33 : decode cX0_setValve 33 = .ok (.iload_n 2, 1) := dk_28 (dk_at dksX0_setValve_1 9 rfl rfl)
theorem dX0_setValve_34 : decode cX0_setValve 34 = .ok (.iadd, 1) := dk_96 (dk_at dksX0_setValve_1 10 rfl rfl)
theorem dX0_setValve_35 : decode cX0_setValve 35 = .ok (.aaload, 1) := dk_50 (dk_at dksX0_setValve_1 11 rfl rfl)
theorem dX0_setValve_36 : decode cX0_setValve 36 = .ok (.invokevirtual 106, 3) := dk_182 0 106 (dk_at dksX0_setValve_1 12 rfl rfl)
theorem dX0_setValve_39 : decode cX0_setValve 39 = .ok (.istore 4, 2) := dk_54 4 (dk_at dksX0_setValve_1 15 rfl rfl)
theorem dX0_setValve_41 : decode cX0_setValve 41 = .ok (.aload_n 0, 1) := dk_42 (dk_at dksX0_setValve_1 17 rfl rfl)
theorem dX0_setValve_42 : decode cX0_setValve 42 = .ok (.invokevirtual 76, 3) := dk_182 0 76 (dk_at dksX0_setValve_1 18 rfl rfl)
theorem dX0_setValve_45 : decode cX0_setValve 45 = .ok (.getfield 102, 3) := dk_180 0 102 (dk_at dksX0_setValve_1 21 rfl rfl)
theorem dX0_setValve_48 : decode cX0_setValve 48 = .ok (.iconst 4, 1) := dk_7 (dk_at dksX0_setValve_2 0 rfl rfl)
theorem dX0_setValve_49 : decode cX0_setValve 49 = .ok (.iload_n 1, 1) := dk_27 (dk_at dksX0_setValve_2 1 rfl rfl)
theorem dX0_setValve_50 : decode cX0_setValve 50 = .ok (.imul, 1) := dk_104 (dk_at dksX0_setValve_2 2 rfl rfl)
theorem dX0_setValve_51 : decode cX0_setValve 51 = .ok (.iload_n 2, 1) := dk_28 (dk_at dksX0_setValve_2 3 rfl rfl)
theorem dX0_setValve_52 : decode cX0_setValve 52 = .ok (.iadd, 1) := dk_96 (dk_at dksX0_setValve_2 4 rfl rfl)
theorem dX0_setValve_53 : decode cX0_setValve 53 = .ok (.iload_n 3, 1) := dk_29 (dk_at dksX0_setValve_2 5 rfl rfl)
theorem dX0_setValve_54 : decode cX0_setValve 54 = .ok (.invokestatic 111, 3) := dk_184 0 111 (dk_at dksX0_setValve_2 6 rfl rfl)
theorem dX0_setValve_57 : decode cX0_setValve 57 = .ok (.aastore, 1) := dk_83 (dk_at dksX0_setValve_2 9 rfl rfl)
theorem dX0_setValve_58 : decode cX0_setValve 58 = .ok (.iload 4, 2) := dk_21 4 (dk_at dksX0_setValve_2 10 rfl rfl)
theorem dX0_setValve_60 : decode cX0_setValve 60 = .ok (.ireturn, 1) := dk_172 (dk_at dksX0_setValve_2 12 rfl rfl)
abbrev cX0_setThreshold : ByteArray := prog_1_method_14_code
def yX0_setThreshold : MethodName := ⟨RX0, "setThreshold", "(I)I"⟩
def dkwX0_setThreshold_1 : List UInt8 := [182, 0, 118, 172]
abbrev dktX0_setThreshold_1 : List UInt8 := dkwX0_setThreshold_1 ++ []
def dkwX0_setThreshold_0 : List UInt8 := [27, 3, 16, 100, 184, 0, 52, 154, 0, 5, 2, 172, 42, 182, 0, 76, 27, 181, 0, 114, 42, 180, 0, 12]
abbrev dktX0_setThreshold_0 : List UInt8 := dkwX0_setThreshold_0 ++ dktX0_setThreshold_1
theorem dksX0_setThreshold_0 : cX0_setThreshold.data.toList.drop 0 = dktX0_setThreshold_0 := by decide +kernel
theorem dksX0_setThreshold_1 : cX0_setThreshold.data.toList.drop 24 = dktX0_setThreshold_1 := dk_seg dksX0_setThreshold_0 24 rfl rfl
theorem dX0_setThreshold_0 : decode cX0_setThreshold 0 = .ok (.iload_n 1, 1) := dk_27 (dk_at dksX0_setThreshold_0 0 rfl rfl)
theorem dX0_setThreshold_1 : decode cX0_setThreshold 1 = .ok (.iconst 0, 1) := dk_3 (dk_at dksX0_setThreshold_0 1 rfl rfl)
theorem dX0_setThreshold_2 : decode cX0_setThreshold 2 = .ok (.bipush 100, 2) := dk_16 100 (dk_at dksX0_setThreshold_0 2 rfl rfl)
theorem dX0_setThreshold_4 : decode cX0_setThreshold 4 = .ok (.invokestatic 52, 3) := dk_184 0 52 (dk_at dksX0_setThreshold_0 4 rfl rfl)
theorem dX0_setThreshold_7 : decode cX0_setThreshold 7 = .ok (.ifCond .ne 5, 3) := dk_154 0 5 (dk_at dksX0_setThreshold_0 7 rfl rfl)
theorem dX0_setThreshold_10 : decode cX0_setThreshold 10 = .ok (.iconst (-1), 1) := dk_2 (dk_at dksX0_setThreshold_0 10 rfl rfl)
theorem dX0_setThreshold_11 : decode cX0_setThreshold 11 = .ok (.ireturn, 1) := dk_172 (dk_at dksX0_setThreshold_0 11 rfl rfl)
theorem dX0_setThreshold_12 : decode cX0_setThreshold 12 = .ok (.aload_n 0, 1) := dk_42 (dk_at dksX0_setThreshold_0 12 rfl rfl)
theorem dX0_setThreshold_13 : decode cX0_setThreshold 13 = .ok (.invokevirtual 76, 3) := dk_182 0 76 (dk_at dksX0_setThreshold_0 13 rfl rfl)
theorem dX0_setThreshold_16 : decode cX0_setThreshold 16 = .ok (.iload_n 1, 1) := dk_27 (dk_at dksX0_setThreshold_0 16 rfl rfl)
theorem dX0_setThreshold_17 : decode cX0_setThreshold 17 = .ok (.putfield 114, 3) := dk_181 0 114 (dk_at dksX0_setThreshold_0 17 rfl rfl)
theorem dX0_setThreshold_20 : decode cX0_setThreshold 20 = .ok (.aload_n 0, 1) := dk_42 (dk_at dksX0_setThreshold_0 20 rfl rfl)
theorem dX0_setThreshold_21 : decode cX0_setThreshold 21 = .ok (.getfield 12, 3) := dk_180 0 12 (dk_at dksX0_setThreshold_0 21 rfl rfl)
theorem dX0_setThreshold_24 : decode cX0_setThreshold 24 = .ok (.invokevirtual 118, 3) := dk_182 0 118 (dk_at dksX0_setThreshold_1 0 rfl rfl)
theorem dX0_setThreshold_27 : decode cX0_setThreshold 27 = .ok (.ireturn, 1) := dk_172 (dk_at dksX0_setThreshold_1 3 rfl rfl)
abbrev cX0_setSource : ByteArray := prog_1_method_16_code
def yX0_setSource : MethodName := ⟨RX0, "setSource", "(III)I"⟩
def dkwX0_setSource_3 : List UInt8 := [172]
abbrev dktX0_setSource_3 : List UInt8 := dkwX0_setSource_3 ++ []
def dkwX0_setSource_2 : List UInt8 := [172, 42, 182, 0, 76, 180, 0, 124, 27, 92, 46, 4, 28, 120, 130, 79, 42, 180, 0, 12, 28, 182, 0, 127]
abbrev dktX0_setSource_2 : List UInt8 := dkwX0_setSource_2 ++ dktX0_setSource_3
def dkwX0_setSource_1 : List UInt8 := [154, 0, 5, 2, 172, 42, 180, 0, 12, 180, 0, 124, 27, 46, 28, 122, 4, 126, 29, 160, 0, 6, 16, 254]
abbrev dktX0_setSource_1 : List UInt8 := dkwX0_setSource_1 ++ dktX0_setSource_2
def dkwX0_setSource_0 : List UInt8 := [42, 180, 0, 12, 27, 182, 0, 86, 153, 0, 19, 28, 184, 0, 121, 153, 0, 12, 29, 3, 4, 184, 0, 52]
abbrev dktX0_setSource_0 : List UInt8 := dkwX0_setSource_0 ++ dktX0_setSource_1
theorem dksX0_setSource_0 : cX0_setSource.data.toList.drop 0 = dktX0_setSource_0 := by decide +kernel
theorem dksX0_setSource_1 : cX0_setSource.data.toList.drop 24 = dktX0_setSource_1 := dk_seg dksX0_setSource_0 24 rfl rfl
theorem dksX0_setSource_2 : cX0_setSource.data.toList.drop 48 = dktX0_setSource_2 := dk_seg dksX0_setSource_1 24 rfl rfl
theorem dksX0_setSource_3 : cX0_setSource.data.toList.drop 72 = dktX0_setSource_3 := dk_seg dksX0_setSource_2 24 rfl rfl
theorem dX0_setSource_0 : decode cX0_setSource 0 = .ok (.aload_n 0, 1) := dk_42 (dk_at dksX0_setSource_0 0 rfl rfl)
theorem dX0_setSource_1 : decode cX0_setSource 1 = .ok (.getfield 12, 3) := dk_180 0 12 (dk_at dksX0_setSource_0 1 rfl rfl)
theorem dX0_setSource_4 : decode cX0_setSource 4 = .ok (.iload_n 1, 1) := dk_27 (dk_at dksX0_setSource_0 4 rfl rfl)
theorem dX0_setSource_5 : decode cX0_setSource 5 = .ok (.invokevirtual 86, 3) := dk_182 0 86 (dk_at dksX0_setSource_0 5 rfl rfl)
theorem dX0_setSource_8 : decode cX0_setSource 8 = .ok (.ifCond .eq 19, 3) := dk_153 0 19 (dk_at dksX0_setSource_0 8 rfl rfl)
theorem dX0_setSource_11 : decode cX0_setSource 11 = .ok (.iload_n 2, 1) := dk_28 (dk_at dksX0_setSource_0 11 rfl rfl)
theorem dX0_setSource_12 : decode cX0_setSource 12 = .ok (.invokestatic 121, 3) := dk_184 0 121 (dk_at dksX0_setSource_0 12 rfl rfl)
theorem dX0_setSource_15 : decode cX0_setSource 15 = .ok (.ifCond .eq 12, 3) := dk_153 0 12 (dk_at dksX0_setSource_0 15 rfl rfl)
theorem dX0_setSource_18 : decode cX0_setSource 18 = .ok (.iload_n 3, 1) := dk_29 (dk_at dksX0_setSource_0 18 rfl rfl)
theorem dX0_setSource_19 : decode cX0_setSource 19 = .ok (.iconst 0, 1) := dk_3 (dk_at dksX0_setSource_0 19 rfl rfl)
theorem dX0_setSource_20 : decode cX0_setSource 20 = .ok (.iconst 1, 1) := dk_4 (dk_at dksX0_setSource_0 20 rfl rfl)
theorem dX0_setSource_21 : decode cX0_setSource 21 = .ok (.invokestatic 52, 3) := dk_184 0 52 (dk_at dksX0_setSource_0 21 rfl rfl)
theorem dX0_setSource_24 : decode cX0_setSource 24 = .ok (.ifCond .ne 5, 3) := dk_154 0 5 (dk_at dksX0_setSource_1 0 rfl rfl)
theorem dX0_setSource_27 : decode cX0_setSource 27 = .ok (.iconst (-1), 1) := dk_2 (dk_at dksX0_setSource_1 3 rfl rfl)
theorem dX0_setSource_28 : decode cX0_setSource 28 = .ok (.ireturn, 1) := dk_172 (dk_at dksX0_setSource_1 4 rfl rfl)
theorem dX0_setSource_29 : decode cX0_setSource 29 = .ok (.aload_n 0, 1) := dk_42 (dk_at dksX0_setSource_1 5 rfl rfl)
theorem dX0_setSource_30 : decode cX0_setSource 30 = .ok (.getfield 12, 3) := dk_180 0 12 (dk_at dksX0_setSource_1 6 rfl rfl)
theorem dX0_setSource_33 : decode cX0_setSource 33 = .ok (.getfield 124, 3) := dk_180 0 124 (dk_at dksX0_setSource_1 9 rfl rfl)
theorem dX0_setSource_36 : decode cX0_setSource 36 = .ok (.iload_n 1, 1) := dk_27 (dk_at dksX0_setSource_1 12 rfl rfl)
theorem dX0_setSource_37 : decode cX0_setSource 37 = .ok (.iaload, 1) := dk_46 (dk_at dksX0_setSource_1 13 rfl rfl)
theorem dX0_setSource_38 : decode cX0_setSource 38 = .ok (.iload_n 2, 1) := dk_28 (dk_at dksX0_setSource_1 14 rfl rfl)
theorem dX0_setSource_39 : decode cX0_setSource 39 = .ok (.ishr, 1) := dk_122 (dk_at dksX0_setSource_1 15 rfl rfl)
theorem dX0_setSource_40 : decode cX0_setSource 40 = .ok (.iconst 1, 1) := dk_4 (dk_at dksX0_setSource_1 16 rfl rfl)
theorem dX0_setSource_41 : decode cX0_setSource 41 = .ok (.iand, 1) := dk_126 (dk_at dksX0_setSource_1 17 rfl rfl)
theorem dX0_setSource_42 : decode cX0_setSource 42 = .ok (.iload_n 3, 1) := dk_29 (dk_at dksX0_setSource_1 18 rfl rfl)
theorem dX0_setSource_43 : decode cX0_setSource 43 = .ok (.if_icmp .ne 6, 3) := dk_160 0 6 (dk_at dksX0_setSource_1 19 rfl rfl)
theorem dX0_setSource_46 : decode cX0_setSource 46 = .ok (.bipush (-2), 2) := dk_16 254 (dk_at dksX0_setSource_1 22 rfl rfl)
theorem dX0_setSource_48 : decode cX0_setSource 48 = .ok (.ireturn, 1) := dk_172 (dk_at dksX0_setSource_2 0 rfl rfl)
theorem dX0_setSource_49 : decode cX0_setSource 49 = .ok (.aload_n 0, 1) := dk_42 (dk_at dksX0_setSource_2 1 rfl rfl)
theorem dX0_setSource_50 : decode cX0_setSource 50 = .ok (.invokevirtual 76, 3) := dk_182 0 76 (dk_at dksX0_setSource_2 2 rfl rfl)
theorem dX0_setSource_53 : decode cX0_setSource 53 = .ok (.getfield 124, 3) := dk_180 0 124 (dk_at dksX0_setSource_2 5 rfl rfl)
theorem dX0_setSource_56 : decode cX0_setSource 56 = .ok (.iload_n 1, 1) := dk_27 (dk_at dksX0_setSource_2 8 rfl rfl)
theorem dX0_setSource_57 : decode cX0_setSource 57 = .ok (.dup2, 1) := dk_92 (dk_at dksX0_setSource_2 9 rfl rfl)
theorem dX0_setSource_58 : decode cX0_setSource 58 = .ok (.iaload, 1) := dk_46 (dk_at dksX0_setSource_2 10 rfl rfl)
theorem dX0_setSource_59 : decode cX0_setSource 59 = .ok (.iconst 1, 1) := dk_4 (dk_at dksX0_setSource_2 11 rfl rfl)
theorem dX0_setSource_60 : decode cX0_setSource 60 = .ok (.iload_n 2, 1) := dk_28 (dk_at dksX0_setSource_2 12 rfl rfl)
theorem dX0_setSource_61 : decode cX0_setSource 61 = .ok (.ishl, 1) := dk_120 (dk_at dksX0_setSource_2 13 rfl rfl)
theorem dX0_setSource_62 : decode cX0_setSource 62 = .ok (.ixor, 1) := dk_130 (dk_at dksX0_setSource_2 14 rfl rfl)
theorem dX0_setSource_63 : decode cX0_setSource 63 = .ok (.iastore, 1) := dk_79 (dk_at dksX0_setSource_2 15 rfl rfl)
theorem dX0_setSource_64 : decode cX0_setSource 64 = .ok (.aload_n 0, 1) := dk_42 (dk_at dksX0_setSource_2 16 rfl rfl)
theorem dX0_setSource_65 : decode cX0_setSource 65 = .ok (.getfield 12, 3) := dk_180 0 12 (dk_at dksX0_setSource_2 17 rfl rfl)
theorem dX0_setSource_68 : decode cX0_setSource 68 = .ok (.iload_n 2, 1) := dk_28 (dk_at dksX0_setSource_2 20 rfl rfl)
theorem dX0_setSource_69 : decode cX0_setSource 69 = .ok (.invokevirtual 127, 3) := dk_182 0 127 (dk_at dksX0_setSource_2 21 rfl rfl)
theorem dX0_setSource_72 : decode cX0_setSource 72 = .ok (.ireturn, 1) := dk_172 (dk_at dksX0_setSource_3 0 rfl rfl)
abbrev cX0_isDye : ByteArray := prog_1_method_15_code
def yX0_isDye : MethodName := ⟨RX0, "isDye", "(I)Z"⟩
def dkwX0_isDye_0 : List UInt8 := [26, 3, 5, 184, 0, 52, 172]
abbrev dktX0_isDye_0 : List UInt8 := dkwX0_isDye_0 ++ []
theorem dksX0_isDye_0 : cX0_isDye.data.toList.drop 0 = dktX0_isDye_0 := by decide +kernel
theorem dX0_isDye_0 : decode cX0_isDye 0 = .ok (.iload_n 0, 1) := dk_26 (dk_at dksX0_isDye_0 0 rfl rfl)
theorem dX0_isDye_1 : decode cX0_isDye 1 = .ok (.iconst 0, 1) := dk_3 (dk_at dksX0_isDye_0 1 rfl rfl)
theorem dX0_isDye_2 : decode cX0_isDye 2 = .ok (.iconst 2, 1) := dk_5 (dk_at dksX0_isDye_0 2 rfl rfl)
theorem dX0_isDye_3 : decode cX0_isDye 3 = .ok (.invokestatic 52, 3) := dk_184 0 52 (dk_at dksX0_isDye_0 3 rfl rfl)
theorem dX0_isDye_6 : decode cX0_isDye 6 = .ok (.ireturn, 1) := dk_172 (dk_at dksX0_isDye_0 6 rfl rfl)
abbrev cX0_setReaction : ByteArray := prog_1_method_17_code
def yX0_setReaction : MethodName := ⟨RX0, "setReaction", "(III)I"⟩
def dkwX0_setReaction_3 : List UInt8 := [181, 0, 130, 42, 180, 0, 12, 180, 0, 130, 184, 0, 137, 172]
abbrev dktX0_setReaction_3 : List UInt8 := dkwX0_setReaction_3 ++ []
def dkwX0_setReaction_2 : List UInt8 := [160, 0, 6, 16, 254, 172, 42, 182, 0, 76, 89, 180, 0, 130, 4, 27, 28, 184, 0, 133, 120, 130]
abbrev dktX0_setReaction_2 : List UInt8 := dkwX0_setReaction_2 ++ dktX0_setReaction_3
def dkwX0_setReaction_1 : List UInt8 := [184, 0, 52, 154, 0, 5, 2, 172, 42, 180, 0, 12, 180, 0, 130, 27, 28, 184, 0, 133, 122, 4, 126, 29]
abbrev dktX0_setReaction_1 : List UInt8 := dkwX0_setReaction_1 ++ dktX0_setReaction_2
def dkwX0_setReaction_0 : List UInt8 := [27, 184, 0, 121, 153, 0, 24, 28, 184, 0, 121, 153, 0, 17, 27, 28, 159, 0, 12, 29, 3, 4]
abbrev dktX0_setReaction_0 : List UInt8 := dkwX0_setReaction_0 ++ dktX0_setReaction_1
theorem dksX0_setReaction_0 : cX0_setReaction.data.toList.drop 0 = dktX0_setReaction_0 := by decide +kernel
theorem dksX0_setReaction_1 : cX0_setReaction.data.toList.drop 22 = dktX0_setReaction_1 := dk_seg dksX0_setReaction_0 22 rfl rfl
theorem dksX0_setReaction_2 : cX0_setReaction.data.toList.drop 46 = dktX0_setReaction_2 := dk_seg dksX0_setReaction_1 24 rfl rfl
theorem dksX0_setReaction_3 : cX0_setReaction.data.toList.drop 68 = dktX0_setReaction_3 := dk_seg dksX0_setReaction_2 22 rfl rfl
theorem dX0_setReaction_0 : decode cX0_setReaction 0 = .ok (.iload_n 1, 1) := dk_27 (dk_at dksX0_setReaction_0 0 rfl rfl)
theorem dX0_setReaction_1 : decode cX0_setReaction 1 = .ok (.invokestatic 121, 3) := dk_184 0 121 (dk_at dksX0_setReaction_0 1 rfl rfl)
theorem dX0_setReaction_4 : decode cX0_setReaction 4 = .ok (.ifCond .eq 24, 3) := dk_153 0 24 (dk_at dksX0_setReaction_0 4 rfl rfl)
theorem dX0_setReaction_7 : decode cX0_setReaction 7 = .ok (.iload_n 2, 1) := dk_28 (dk_at dksX0_setReaction_0 7 rfl rfl)
theorem dX0_setReaction_8 : decode cX0_setReaction 8 = .ok (.invokestatic 121, 3) := dk_184 0 121 (dk_at dksX0_setReaction_0 8 rfl rfl)
theorem dX0_setReaction_11 : decode cX0_setReaction 11 = .ok (.ifCond .eq 17, 3) := dk_153 0 17 (dk_at dksX0_setReaction_0 11 rfl rfl)
theorem dX0_setReaction_14 : decode cX0_setReaction 14 = .ok (.iload_n 1, 1) := dk_27 (dk_at dksX0_setReaction_0 14 rfl rfl)
theorem dX0_setReaction_15 : decode cX0_setReaction 15 = .ok (.iload_n 2, 1) := dk_28 (dk_at dksX0_setReaction_0 15 rfl rfl)
theorem dX0_setReaction_16 : decode cX0_setReaction 16 = .ok (.if_icmp .eq 12, 3) := dk_159 0 12 (dk_at dksX0_setReaction_0 16 rfl rfl)
theorem dX0_setReaction_19 : decode cX0_setReaction 19 = .ok (.iload_n 3, 1) := dk_29 (dk_at dksX0_setReaction_0 19 rfl rfl)
theorem dX0_setReaction_20 : decode cX0_setReaction 20 = .ok (.iconst 0, 1) := dk_3 (dk_at dksX0_setReaction_0 20 rfl rfl)
theorem dX0_setReaction_21 : decode cX0_setReaction 21 = .ok (.iconst 1, 1) := dk_4 (dk_at dksX0_setReaction_0 21 rfl rfl)
theorem dX0_setReaction_22 : decode cX0_setReaction 22 = .ok (.invokestatic 52, 3) := dk_184 0 52 (dk_at dksX0_setReaction_1 0 rfl rfl)
theorem dX0_setReaction_25 : decode cX0_setReaction 25 = .ok (.ifCond .ne 5, 3) := dk_154 0 5 (dk_at dksX0_setReaction_1 3 rfl rfl)
theorem dX0_setReaction_28 : decode cX0_setReaction 28 = .ok (.iconst (-1), 1) := dk_2 (dk_at dksX0_setReaction_1 6 rfl rfl)
theorem dX0_setReaction_29 : decode cX0_setReaction 29 = .ok (.ireturn, 1) := dk_172 (dk_at dksX0_setReaction_1 7 rfl rfl)
theorem dX0_setReaction_30 : decode cX0_setReaction 30 = .ok (.aload_n 0, 1) := dk_42 (dk_at dksX0_setReaction_1 8 rfl rfl)
theorem dX0_setReaction_31 : decode cX0_setReaction 31 = .ok (.getfield 12, 3) := dk_180 0 12 (dk_at dksX0_setReaction_1 9 rfl rfl)
theorem dX0_setReaction_34 : decode cX0_setReaction 34 = .ok (.getfield 130, 3) := dk_180 0 130 (dk_at dksX0_setReaction_1 12 rfl rfl)
theorem dX0_setReaction_37 : decode cX0_setReaction 37 = .ok (.iload_n 1, 1) := dk_27 (dk_at dksX0_setReaction_1 15 rfl rfl)
theorem dX0_setReaction_38 : decode cX0_setReaction 38 = .ok (.iload_n 2, 1) := dk_28 (dk_at dksX0_setReaction_1 16 rfl rfl)
theorem dX0_setReaction_39 : decode cX0_setReaction 39 = .ok (.invokestatic 133, 3) := dk_184 0 133 (dk_at dksX0_setReaction_1 17 rfl rfl)
theorem dX0_setReaction_42 : decode cX0_setReaction 42 = .ok (.ishr, 1) := dk_122 (dk_at dksX0_setReaction_1 20 rfl rfl)
theorem dX0_setReaction_43 : decode cX0_setReaction 43 = .ok (.iconst 1, 1) := dk_4 (dk_at dksX0_setReaction_1 21 rfl rfl)
theorem dX0_setReaction_44 : decode cX0_setReaction 44 = .ok (.iand, 1) := dk_126 (dk_at dksX0_setReaction_1 22 rfl rfl)
theorem dX0_setReaction_45 : decode cX0_setReaction 45 = .ok (.iload_n 3, 1) := dk_29 (dk_at dksX0_setReaction_1 23 rfl rfl)
theorem dX0_setReaction_46 : decode cX0_setReaction 46 = .ok (.if_icmp .ne 6, 3) := dk_160 0 6 (dk_at dksX0_setReaction_2 0 rfl rfl)
theorem dX0_setReaction_49 : decode cX0_setReaction 49 = .ok (.bipush (-2), 2) := dk_16 254 (dk_at dksX0_setReaction_2 3 rfl rfl)
theorem dX0_setReaction_51 : decode cX0_setReaction 51 = .ok (.ireturn, 1) := dk_172 (dk_at dksX0_setReaction_2 5 rfl rfl)
theorem dX0_setReaction_52 : decode cX0_setReaction 52 = .ok (.aload_n 0, 1) := dk_42 (dk_at dksX0_setReaction_2 6 rfl rfl)
theorem dX0_setReaction_53 : decode cX0_setReaction 53 = .ok (.invokevirtual 76, 3) := dk_182 0 76 (dk_at dksX0_setReaction_2 7 rfl rfl)
theorem dX0_setReaction_56 : decode cX0_setReaction 56 = .ok (.dup, 1) := dk_89 (dk_at dksX0_setReaction_2 10 rfl rfl)
theorem dX0_setReaction_57 : decode cX0_setReaction 57 = .ok (.getfield 130, 3) := dk_180 0 130 (dk_at dksX0_setReaction_2 11 rfl rfl)
theorem dX0_setReaction_60 : decode cX0_setReaction 60 = .ok (.iconst 1, 1) := dk_4 (dk_at dksX0_setReaction_2 14 rfl rfl)
theorem dX0_setReaction_61 : decode cX0_setReaction 61 = .ok (.iload_n 1, 1) := dk_27 (dk_at dksX0_setReaction_2 15 rfl rfl)
theorem dX0_setReaction_62 : decode cX0_setReaction 62 = .ok (.iload_n 2, 1) := dk_28 (dk_at dksX0_setReaction_2 16 rfl rfl)
theorem dX0_setReaction_63 : decode cX0_setReaction 63 = .ok (.invokestatic 133, 3) := dk_184 0 133 (dk_at dksX0_setReaction_2 17 rfl rfl)
theorem dX0_setReaction_66 : decode cX0_setReaction 66 = .ok (.ishl, 1) := dk_120 (dk_at dksX0_setReaction_2 20 rfl rfl)
theorem dX0_setReaction_67 : decode cX0_setReaction 67 = .ok (.ixor, 1) := dk_130 (dk_at dksX0_setReaction_2 21 rfl rfl)
theorem dX0_setReaction_68 : decode cX0_setReaction 68 = .ok (.putfield 130, 3) := dk_181 0 130 (dk_at dksX0_setReaction_3 0 rfl rfl)
theorem dX0_setReaction_71 : decode cX0_setReaction 71 = .ok (.aload_n 0, 1) := dk_42 (dk_at dksX0_setReaction_3 3 rfl rfl)
theorem dX0_setReaction_72 : decode cX0_setReaction 72 = .ok (.getfield 12, 3) := dk_180 0 12 (dk_at dksX0_setReaction_3 4 rfl rfl)
theorem dX0_setReaction_75 : decode cX0_setReaction 75 = .ok (.getfield 130, 3) := dk_180 0 130 (dk_at dksX0_setReaction_3 7 rfl rfl)
theorem dX0_setReaction_78 : decode cX0_setReaction 78 = .ok (.invokestatic 137, 3) := dk_184 0 137 (dk_at dksX0_setReaction_3 10 rfl rfl)
theorem dX0_setReaction_81 : decode cX0_setReaction 81 = .ok (.ireturn, 1) := dk_172 (dk_at dksX0_setReaction_3 13 rfl rfl)
abbrev cX0_pair : ByteArray := prog_1_method_4_code
def yX0_pair : MethodName := ⟨RX0, "pair", "(II)I"⟩
def dkwX0_pair_0 : List UInt8 := [26, 27, 96, 4, 100, 172]
abbrev dktX0_pair_0 : List UInt8 := dkwX0_pair_0 ++ []
theorem dksX0_pair_0 : cX0_pair.data.toList.drop 0 = dktX0_pair_0 := by decide +kernel
theorem dX0_pair_0 : decode cX0_pair 0 = .ok (.iload_n 0, 1) := dk_26 (dk_at dksX0_pair_0 0 rfl rfl)
theorem dX0_pair_1 : decode cX0_pair 1 = .ok (.iload_n 1, 1) := dk_27 (dk_at dksX0_pair_0 1 rfl rfl)
theorem dX0_pair_2 : decode cX0_pair 2 = .ok (.iadd, 1) := dk_96 (dk_at dksX0_pair_0 2 rfl rfl)
theorem dX0_pair_3 : decode cX0_pair 3 = .ok (.iconst 1, 1) := dk_4 (dk_at dksX0_pair_0 3 rfl rfl)
theorem dX0_pair_4 : decode cX0_pair 4 = .ok (.isub, 1) := dk_100 (dk_at dksX0_pair_0 4 rfl rfl)
theorem dX0_pair_5 : decode cX0_pair 5 = .ok (.ireturn, 1) := dk_172 (dk_at dksX0_pair_0 5 rfl rfl)
abbrev cX0_setBeat : ByteArray := prog_1_method_18_code
def yX0_setBeat : MethodName := ⟨RX0, "setBeat", "(I)I"⟩
def dkwX0_setBeat_1 : List UInt8 := [27, 181, 0, 142, 28, 172]
abbrev dktX0_setBeat_1 : List UInt8 := dkwX0_setBeat_1 ++ []
def dkwX0_setBeat_0 : List UInt8 := [27, 4, 16, 9, 184, 0, 52, 154, 0, 5, 2, 172, 42, 180, 0, 12, 180, 0, 142, 61, 42, 182, 0, 76]
abbrev dktX0_setBeat_0 : List UInt8 := dkwX0_setBeat_0 ++ dktX0_setBeat_1
theorem dksX0_setBeat_0 : cX0_setBeat.data.toList.drop 0 = dktX0_setBeat_0 := by decide +kernel
theorem dksX0_setBeat_1 : cX0_setBeat.data.toList.drop 24 = dktX0_setBeat_1 := dk_seg dksX0_setBeat_0 24 rfl rfl
theorem dX0_setBeat_0 : decode cX0_setBeat 0 = .ok (.iload_n 1, 1) := dk_27 (dk_at dksX0_setBeat_0 0 rfl rfl)
theorem dX0_setBeat_1 : decode cX0_setBeat 1 = .ok (.iconst 1, 1) := dk_4 (dk_at dksX0_setBeat_0 1 rfl rfl)
theorem dX0_setBeat_2 : decode cX0_setBeat 2 = .ok (.bipush 9, 2) := dk_16 9 (dk_at dksX0_setBeat_0 2 rfl rfl)
theorem dX0_setBeat_4 : decode cX0_setBeat 4 = .ok (.invokestatic 52, 3) := dk_184 0 52 (dk_at dksX0_setBeat_0 4 rfl rfl)
theorem dX0_setBeat_7 : decode cX0_setBeat 7 = .ok (.ifCond .ne 5, 3) := dk_154 0 5 (dk_at dksX0_setBeat_0 7 rfl rfl)
theorem dX0_setBeat_10 : decode cX0_setBeat 10 = .ok (.iconst (-1), 1) := dk_2 (dk_at dksX0_setBeat_0 10 rfl rfl)
theorem dX0_setBeat_11 : decode cX0_setBeat 11 = .ok (.ireturn, 1) := dk_172 (dk_at dksX0_setBeat_0 11 rfl rfl)
theorem dX0_setBeat_12 : decode cX0_setBeat 12 = .ok (.aload_n 0, 1) := dk_42 (dk_at dksX0_setBeat_0 12 rfl rfl)
theorem dX0_setBeat_13 : decode cX0_setBeat 13 = .ok (.getfield 12, 3) := dk_180 0 12 (dk_at dksX0_setBeat_0 13 rfl rfl)
theorem dX0_setBeat_16 : decode cX0_setBeat 16 = .ok (.getfield 142, 3) := dk_180 0 142 (dk_at dksX0_setBeat_0 16 rfl rfl)
theorem dX0_setBeat_19 : decode cX0_setBeat 19 = .ok (.istore_n 2, 1) := dk_61 (dk_at dksX0_setBeat_0 19 rfl rfl)
theorem dX0_setBeat_20 : decode cX0_setBeat 20 = .ok (.aload_n 0, 1) := dk_42 (dk_at dksX0_setBeat_0 20 rfl rfl)
theorem dX0_setBeat_21 : decode cX0_setBeat 21 = .ok (.invokevirtual 76, 3) := dk_182 0 76 (dk_at dksX0_setBeat_0 21 rfl rfl)
theorem dX0_setBeat_24 : decode cX0_setBeat 24 = .ok (.iload_n 1, 1) := dk_27 (dk_at dksX0_setBeat_1 0 rfl rfl)
theorem dX0_setBeat_25 : decode cX0_setBeat 25 = .ok (.putfield 142, 3) := dk_181 0 142 (dk_at dksX0_setBeat_1 1 rfl rfl)
theorem dX0_setBeat_28 : decode cX0_setBeat 28 = .ok (.iload_n 2, 1) := dk_28 (dk_at dksX0_setBeat_1 4 rfl rfl)
theorem dX0_setBeat_29 : decode cX0_setBeat 29 = .ok (.ireturn, 1) := dk_172 (dk_at dksX0_setBeat_1 5 rfl rfl)
abbrev cX0_append : ByteArray := prog_1_method_19_code
def yX0_append : MethodName := ⟨RX0, "append", "(I)I"⟩
def dkwX0_append_1 : List UInt8 := [160, 0, 6, 16, 253, 172, 42, 180, 0, 28, 27, 146, 182, 0, 148, 87, 42, 180, 0, 28, 182, 0, 145, 172]
abbrev dktX0_append_1 : List UInt8 := dkwX0_append_1 ++ []
def dkwX0_append_0 : List UInt8 := [27, 4, 17, 0, 255, 184, 0, 52, 154, 0, 5, 2, 172, 42, 180, 0, 28, 182, 0, 145, 16, 120]
abbrev dktX0_append_0 : List UInt8 := dkwX0_append_0 ++ dktX0_append_1
theorem dksX0_append_0 : cX0_append.data.toList.drop 0 = dktX0_append_0 := by decide +kernel
theorem dksX0_append_1 : cX0_append.data.toList.drop 22 = dktX0_append_1 := dk_seg dksX0_append_0 22 rfl rfl
theorem dX0_append_0 : decode cX0_append 0 = .ok (.iload_n 1, 1) := dk_27 (dk_at dksX0_append_0 0 rfl rfl)
theorem dX0_append_1 : decode cX0_append 1 = .ok (.iconst 1, 1) := dk_4 (dk_at dksX0_append_0 1 rfl rfl)
theorem dX0_append_2 : decode cX0_append 2 = .ok (.sipush 255, 3) := dk_17 0 255 (dk_at dksX0_append_0 2 rfl rfl)
theorem dX0_append_5 : decode cX0_append 5 = .ok (.invokestatic 52, 3) := dk_184 0 52 (dk_at dksX0_append_0 5 rfl rfl)
theorem dX0_append_8 : decode cX0_append 8 = .ok (.ifCond .ne 5, 3) := dk_154 0 5 (dk_at dksX0_append_0 8 rfl rfl)
theorem dX0_append_11 : decode cX0_append 11 = .ok (.iconst (-1), 1) := dk_2 (dk_at dksX0_append_0 11 rfl rfl)
theorem dX0_append_12 : decode cX0_append 12 = .ok (.ireturn, 1) := dk_172 (dk_at dksX0_append_0 12 rfl rfl)
theorem dX0_append_13 : decode cX0_append 13 = .ok (.aload_n 0, 1) := dk_42 (dk_at dksX0_append_0 13 rfl rfl)
theorem dX0_append_14 : decode cX0_append 14 = .ok (.getfield 28, 3) := dk_180 0 28 (dk_at dksX0_append_0 14 rfl rfl)
theorem dX0_append_17 : decode cX0_append 17 = .ok (.invokevirtual 145, 3) := dk_182 0 145 (dk_at dksX0_append_0 17 rfl rfl)
theorem dX0_append_20 : decode cX0_append 20 = .ok (.bipush 120, 2) := dk_16 120 (dk_at dksX0_append_0 20 rfl rfl)
theorem dX0_append_22 : decode cX0_append 22 = .ok (.if_icmp .ne 6, 3) := dk_160 0 6 (dk_at dksX0_append_1 0 rfl rfl)
theorem dX0_append_25 : decode cX0_append 25 = .ok (.bipush (-3), 2) := dk_16 253 (dk_at dksX0_append_1 3 rfl rfl)
theorem dX0_append_27 : decode cX0_append 27 = .ok (.ireturn, 1) := dk_172 (dk_at dksX0_append_1 5 rfl rfl)
theorem dX0_append_28 : decode cX0_append 28 = .ok (.aload_n 0, 1) := dk_42 (dk_at dksX0_append_1 6 rfl rfl)
theorem dX0_append_29 : decode cX0_append 29 = .ok (.getfield 28, 3) := dk_180 0 28 (dk_at dksX0_append_1 7 rfl rfl)
theorem dX0_append_32 : decode cX0_append 32 = .ok (.iload_n 1, 1) := dk_27 (dk_at dksX0_append_1 10 rfl rfl)
theorem dX0_append_33 : decode cX0_append 33 = .ok (.i2c, 1) := dk_146 (dk_at dksX0_append_1 11 rfl rfl)
theorem dX0_append_34 : decode cX0_append 34 = .ok (.invokevirtual 148, 3) := dk_182 0 148 (dk_at dksX0_append_1 12 rfl rfl)
theorem dX0_append_37 : decode cX0_append 37 = .ok (.pop, 1) := dk_87 (dk_at dksX0_append_1 15 rfl rfl)
theorem dX0_append_38 : decode cX0_append 38 = .ok (.aload_n 0, 1) := dk_42 (dk_at dksX0_append_1 16 rfl rfl)
theorem dX0_append_39 : decode cX0_append 39 = .ok (.getfield 28, 3) := dk_180 0 28 (dk_at dksX0_append_1 17 rfl rfl)
theorem dX0_append_42 : decode cX0_append 42 = .ok (.invokevirtual 145, 3) := dk_182 0 145 (dk_at dksX0_append_1 20 rfl rfl)
theorem dX0_append_45 : decode cX0_append 45 = .ok (.ireturn, 1) := dk_172 (dk_at dksX0_append_1 23 rfl rfl)
abbrev cX0_clearText : ByteArray := prog_1_method_20_code
def yX0_clearText : MethodName := ⟨RX0, "clearText", "()I"⟩
def dkwX0_clearText_0 : List UInt8 := [42, 180, 0, 28, 182, 0, 145, 60, 42, 180, 0, 28, 3, 182, 0, 152, 27, 172]
abbrev dktX0_clearText_0 : List UInt8 := dkwX0_clearText_0 ++ []
theorem dksX0_clearText_0 : cX0_clearText.data.toList.drop 0 = dktX0_clearText_0 := by decide +kernel
theorem dX0_clearText_0 : decode cX0_clearText 0 = .ok (.aload_n 0, 1) := dk_42 (dk_at dksX0_clearText_0 0 rfl rfl)
theorem dX0_clearText_1 : decode cX0_clearText 1 = .ok (.getfield 28, 3) := dk_180 0 28 (dk_at dksX0_clearText_0 1 rfl rfl)
theorem dX0_clearText_4 : decode cX0_clearText 4 = .ok (.invokevirtual 145, 3) := dk_182 0 145 (dk_at dksX0_clearText_0 4 rfl rfl)
theorem dX0_clearText_7 : decode cX0_clearText 7 = .ok (.istore_n 1, 1) := dk_60 (dk_at dksX0_clearText_0 7 rfl rfl)
theorem dX0_clearText_8 : decode cX0_clearText 8 = .ok (.aload_n 0, 1) := dk_42 (dk_at dksX0_clearText_0 8 rfl rfl)
theorem dX0_clearText_9 : decode cX0_clearText 9 = .ok (.getfield 28, 3) := dk_180 0 28 (dk_at dksX0_clearText_0 9 rfl rfl)
theorem dX0_clearText_12 : decode cX0_clearText 12 = .ok (.iconst 0, 1) := dk_3 (dk_at dksX0_clearText_0 12 rfl rfl)
theorem dX0_clearText_13 : decode cX0_clearText 13 = .ok (.invokevirtual 152, 3) := dk_182 0 152 (dk_at dksX0_clearText_0 13 rfl rfl)
theorem dX0_clearText_16 : decode cX0_clearText 16 = .ok (.iload_n 1, 1) := dk_27 (dk_at dksX0_clearText_0 16 rfl rfl)
theorem dX0_clearText_17 : decode cX0_clearText 17 = .ok (.ireturn, 1) := dk_172 (dk_at dksX0_clearText_0 17 rfl rfl)
abbrev cX0_load : ByteArray := prog_1_method_21_code
def yX0_load : MethodName := ⟨RX0, "load", "()I"⟩
def dkwX0_load_1 : List UInt8 := [100, 172, 42, 43, 180, 0, 169, 182, 0, 36, 42, 180, 0, 28, 3, 182, 0, 152, 28, 172]
abbrev dktX0_load_1 : List UInt8 := dkwX0_load_1 ++ []
def dkwX0_load_0 : List UInt8 := [187, 0, 156, 89, 42, 183, 0, 158, 76, 43, 182, 0, 161, 61, 167, 0, 12, 78, 16, 246, 45, 180, 0, 166]
abbrev dktX0_load_0 : List UInt8 := dkwX0_load_0 ++ dktX0_load_1
theorem dksX0_load_0 : cX0_load.data.toList.drop 0 = dktX0_load_0 := by decide +kernel
theorem dksX0_load_1 : cX0_load.data.toList.drop 24 = dktX0_load_1 := dk_seg dksX0_load_0 24 rfl rfl
theorem dX0_load_0 : decode cX0_load 0 = .ok (.new 156, 3) := dk_187 0 156 (dk_at dksX0_load_0 0 rfl rfl)
theorem dX0_load_3 : decode cX0_load 3 = .ok (.dup, 1) := dk_89 (dk_at dksX0_load_0 3 rfl rfl)
theorem dX0_load_4 : decode cX0_load 4 = .ok (.aload_n 0, 1) := dk_42 (dk_at dksX0_load_0 4 rfl rfl)
theorem dX0_load_5 : decode cX0_load 5 = .ok (.invokespecial 158, 3) := dk_183 0 158 (dk_at dksX0_load_0 5 rfl rfl)
theorem dX0_load_8 : decode cX0_load 8 = .ok (.astore_n 1, 1) := dk_76 (dk_at dksX0_load_0 8 rfl rfl)
theorem dX0_load_9 : decode cX0_load 9 = .ok (.aload_n 1, 1) := dk_43 (dk_at dksX0_load_0 9 rfl rfl)
theorem dX0_load_10 : decode cX0_load 10 = .ok (.invokevirtual 161, 3) := dk_182 0 161 (dk_at dksX0_load_0 10 rfl rfl)
theorem dX0_load_13 : decode cX0_load 13 = .ok (.istore_n 2, 1) := dk_61 (dk_at dksX0_load_0 13 rfl rfl)
theorem dX0_load_14 : decode cX0_load 14 = .ok (.goto 12, 3) := dk_167 0 12 (dk_at dksX0_load_0 14 rfl rfl)
theorem dX0_load_17 : decode cX0_load 17 = .ok (.astore_n 3, 1) := dk_78 (dk_at dksX0_load_0 17 rfl rfl)
theorem dX0_load_18 : decode cX0_load 18 = .ok (.bipush (-10), 2) := dk_16 246 (dk_at dksX0_load_0 18 rfl rfl)
theorem dX0_load_20 : decode cX0_load 20 = .ok (.aload_n 3, 1) := dk_45 (dk_at dksX0_load_0 20 rfl rfl)
theorem dX0_load_21 : decode cX0_load 21 = .ok (.getfield 166, 3) := dk_180 0 166 (dk_at dksX0_load_0 21 rfl rfl)
theorem dX0_load_24 : decode cX0_load 24 = .ok (.isub, 1) := dk_100 (dk_at dksX0_load_1 0 rfl rfl)
theorem dX0_load_25 : decode cX0_load 25 = .ok (.ireturn, 1) := dk_172 (dk_at dksX0_load_1 1 rfl rfl)
theorem dX0_load_26 : decode cX0_load 26 = .ok (.aload_n 0, 1) := dk_42 (dk_at dksX0_load_1 2 rfl rfl)
theorem dX0_load_27 : decode cX0_load 27 = .ok (.aload_n 1, 1) := dk_43 (dk_at dksX0_load_1 3 rfl rfl)
theorem dX0_load_28 : decode cX0_load 28 = .ok (.getfield 169, 3) := dk_180 0 169 (dk_at dksX0_load_1 4 rfl rfl)
theorem dX0_load_31 : decode cX0_load 31 = .ok (.invokevirtual 36, 3) := dk_182 0 36 (dk_at dksX0_load_1 7 rfl rfl)
theorem dX0_load_34 : decode cX0_load 34 = .ok (.aload_n 0, 1) := dk_42 (dk_at dksX0_load_1 10 rfl rfl)
theorem dX0_load_35 : decode cX0_load 35 = .ok (.getfield 28, 3) := dk_180 0 28 (dk_at dksX0_load_1 11 rfl rfl)
theorem dX0_load_38 : decode cX0_load 38 = .ok (.iconst 0, 1) := dk_3 (dk_at dksX0_load_1 14 rfl rfl)
theorem dX0_load_39 : decode cX0_load 39 = .ok (.invokevirtual 152, 3) := dk_182 0 152 (dk_at dksX0_load_1 15 rfl rfl)
theorem dX0_load_42 : decode cX0_load 42 = .ok (.iload_n 2, 1) := dk_28 (dk_at dksX0_load_1 18 rfl rfl)
theorem dX0_load_43 : decode cX0_load 43 = .ok (.ireturn, 1) := dk_172 (dk_at dksX0_load_1 19 rfl rfl)
abbrev cX0_run : ByteArray := prog_1_method_22_code
def yX0_run : MethodName := ⟨RX0, "run", "(I)I"⟩
def dkwX0_run_2 : List UInt8 := [182, 0, 175, 96, 62, 132, 4, 1, 167, 255, 240, 29, 172]
abbrev dktX0_run_2 : List UInt8 := dkwX0_run_2 ++ []
def dkwX0_run_1 : List UInt8 := [164, 0, 6, 16, 253, 172, 42, 182, 0, 76, 77, 3, 62, 3, 54, 4, 21, 4, 27, 162, 0, 16, 29, 44]
abbrev dktX0_run_1 : List UInt8 := dkwX0_run_1 ++ dktX0_run_2
def dkwX0_run_0 : List UInt8 := [27, 4, 16, 60, 184, 0, 52, 154, 0, 5, 2, 172, 42, 180, 0, 12, 180, 0, 172, 27, 96, 17, 3, 232]
abbrev dktX0_run_0 : List UInt8 := dkwX0_run_0 ++ dktX0_run_1
theorem dksX0_run_0 : cX0_run.data.toList.drop 0 = dktX0_run_0 := by decide +kernel
theorem dksX0_run_1 : cX0_run.data.toList.drop 24 = dktX0_run_1 := dk_seg dksX0_run_0 24 rfl rfl
theorem dksX0_run_2 : cX0_run.data.toList.drop 48 = dktX0_run_2 := dk_seg dksX0_run_1 24 rfl rfl
theorem dX0_run_0 : decode cX0_run 0 = .ok (.iload_n 1, 1) := dk_27 (dk_at dksX0_run_0 0 rfl rfl)
theorem dX0_run_1 : decode cX0_run 1 = .ok (.iconst 1, 1) := dk_4 (dk_at dksX0_run_0 1 rfl rfl)
theorem dX0_run_2 : decode cX0_run 2 = .ok (.bipush 60, 2) := dk_16 60 (dk_at dksX0_run_0 2 rfl rfl)
theorem dX0_run_4 : decode cX0_run 4 = .ok (.invokestatic 52, 3) := dk_184 0 52 (dk_at dksX0_run_0 4 rfl rfl)
theorem dX0_run_7 : decode cX0_run 7 = .ok (.ifCond .ne 5, 3) := dk_154 0 5 (dk_at dksX0_run_0 7 rfl rfl)
theorem dX0_run_10 : decode cX0_run 10 = .ok (.iconst (-1), 1) := dk_2 (dk_at dksX0_run_0 10 rfl rfl)
theorem dX0_run_11 : decode cX0_run 11 = .ok (.ireturn, 1) := dk_172 (dk_at dksX0_run_0 11 rfl rfl)
theorem dX0_run_12 : decode cX0_run 12 = .ok (.aload_n 0, 1) := dk_42 (dk_at dksX0_run_0 12 rfl rfl)
theorem dX0_run_13 : decode cX0_run 13 = .ok (.getfield 12, 3) := dk_180 0 12 (dk_at dksX0_run_0 13 rfl rfl)
theorem dX0_run_16 : decode cX0_run 16 = .ok (.getfield 172, 3) := dk_180 0 172 (dk_at dksX0_run_0 16 rfl rfl)
theorem dX0_run_19 : decode cX0_run 19 = .ok (.iload_n 1, 1) := dk_27 (dk_at dksX0_run_0 19 rfl rfl)
theorem dX0_run_20 : decode cX0_run 20 = .ok (.iadd, 1) := dk_96 (dk_at dksX0_run_0 20 rfl rfl)
theorem dX0_run_21 : decode cX0_run 21 = .ok (.sipush 1000, 3) := dk_17 3 232 (dk_at dksX0_run_0 21 rfl rfl)
theorem dX0_run_24 : decode cX0_run 24 = .ok (.if_icmp .le 6, 3) := dk_164 0 6 (dk_at dksX0_run_1 0 rfl rfl)
theorem dX0_run_27 : decode cX0_run 27 = .ok (.bipush (-3), 2) := dk_16 253 (dk_at dksX0_run_1 3 rfl rfl)
theorem dX0_run_29 : decode cX0_run 29 = .ok (.ireturn, 1) := dk_172 (dk_at dksX0_run_1 5 rfl rfl)
theorem dX0_run_30 : decode cX0_run 30 = .ok (.aload_n 0, 1) := dk_42 (dk_at dksX0_run_1 6 rfl rfl)
theorem dX0_run_31 : decode cX0_run 31 = .ok (.invokevirtual 76, 3) := dk_182 0 76 (dk_at dksX0_run_1 7 rfl rfl)
theorem dX0_run_34 : decode cX0_run 34 = .ok (.astore_n 2, 1) := dk_77 (dk_at dksX0_run_1 10 rfl rfl)
theorem dX0_run_35 : decode cX0_run 35 = .ok (.iconst 0, 1) := dk_3 (dk_at dksX0_run_1 11 rfl rfl)
theorem dX0_run_36 : decode cX0_run 36 = .ok (.istore_n 3, 1) := dk_62 (dk_at dksX0_run_1 12 rfl rfl)
theorem dX0_run_37 : decode cX0_run 37 = .ok (.iconst 0, 1) := dk_3 (dk_at dksX0_run_1 13 rfl rfl)
theorem dX0_run_38 : decode cX0_run 38 = .ok (.istore 4, 2) := dk_54 4 (dk_at dksX0_run_1 14 rfl rfl)
theorem dX0_run_40 : decode cX0_run 40 = .ok (.iload 4, 2) := dk_21 4 (dk_at dksX0_run_1 16 rfl rfl)
theorem dX0_run_42 : decode cX0_run 42 = .ok (.iload_n 1, 1) := dk_27 (dk_at dksX0_run_1 18 rfl rfl)
theorem dX0_run_43 : decode cX0_run 43 = .ok (.if_icmp .ge 16, 3) := dk_162 0 16 (dk_at dksX0_run_1 19 rfl rfl)
theorem dX0_run_46 : decode cX0_run 46 = .ok (.iload_n 3, 1) := dk_29 (dk_at dksX0_run_1 22 rfl rfl)
theorem dX0_run_47 : decode cX0_run 47 = .ok (.aload_n 2, 1) := dk_44 (dk_at dksX0_run_1 23 rfl rfl)
theorem dX0_run_48 : decode cX0_run 48 = .ok (.invokevirtual 175, 3) := dk_182 0 175 (dk_at dksX0_run_2 0 rfl rfl)
theorem dX0_run_51 : decode cX0_run 51 = .ok (.iadd, 1) := dk_96 (dk_at dksX0_run_2 3 rfl rfl)
theorem dX0_run_52 : decode cX0_run 52 = .ok (.istore_n 3, 1) := dk_62 (dk_at dksX0_run_2 4 rfl rfl)
theorem dX0_run_53 : decode cX0_run 53 = .ok (.iinc 4 1, 3) := dk_132 4 1 (dk_at dksX0_run_2 5 rfl rfl)
theorem dX0_run_56 : decode cX0_run 56 = .ok (.goto (-16), 3) := dk_167 255 240 (dk_at dksX0_run_2 8 rfl rfl)
theorem dX0_run_59 : decode cX0_run 59 = .ok (.iload_n 3, 1) := dk_29 (dk_at dksX0_run_2 11 rfl rfl)
theorem dX0_run_60 : decode cX0_run 60 = .ok (.ireturn, 1) := dk_172 (dk_at dksX0_run_2 12 rfl rfl)
abbrev cX0_rinse : ByteArray := prog_1_method_23_code
def yX0_rinse : MethodName := ⟨RX0, "rinse", "()I"⟩
def dkwX0_rinse_2 : List UInt8 := [132, 3, 1, 167, 255, 214, 43, 3, 181, 0, 172, 28, 172]
abbrev dktX0_rinse_2 : List UInt8 := dkwX0_rinse_2 ++ []
def dkwX0_rinse_1 : List UInt8 := [154, 0, 7, 3, 167, 0, 4, 4, 96, 61, 43, 180, 0, 178, 29, 3, 79, 43, 180, 0, 181, 29, 3, 84]
abbrev dktX0_rinse_1 : List UInt8 := dkwX0_rinse_1 ++ dktX0_rinse_2
def dkwX0_rinse_0 : List UInt8 := [42, 182, 0, 76, 76, 3, 61, 3, 62, 29, 43, 182, 0, 60, 162, 0, 40, 28, 43, 180, 0, 178, 29, 46]
abbrev dktX0_rinse_0 : List UInt8 := dkwX0_rinse_0 ++ dktX0_rinse_1
theorem dksX0_rinse_0 : cX0_rinse.data.toList.drop 0 = dktX0_rinse_0 := by decide +kernel
theorem dksX0_rinse_1 : cX0_rinse.data.toList.drop 24 = dktX0_rinse_1 := dk_seg dksX0_rinse_0 24 rfl rfl
theorem dksX0_rinse_2 : cX0_rinse.data.toList.drop 48 = dktX0_rinse_2 := dk_seg dksX0_rinse_1 24 rfl rfl
theorem dX0_rinse_0 : decode cX0_rinse 0 = .ok (.aload_n 0, 1) := dk_42 (dk_at dksX0_rinse_0 0 rfl rfl)
theorem dX0_rinse_1 : decode cX0_rinse 1 = .ok (.invokevirtual 76, 3) := dk_182 0 76 (dk_at dksX0_rinse_0 1 rfl rfl)
theorem dX0_rinse_4 : decode cX0_rinse 4 = .ok (.astore_n 1, 1) := dk_76 (dk_at dksX0_rinse_0 4 rfl rfl)
theorem dX0_rinse_5 : decode cX0_rinse 5 = .ok (.iconst 0, 1) := dk_3 (dk_at dksX0_rinse_0 5 rfl rfl)
theorem dX0_rinse_6 : decode cX0_rinse 6 = .ok (.istore_n 2, 1) := dk_61 (dk_at dksX0_rinse_0 6 rfl rfl)
theorem dX0_rinse_7 : decode cX0_rinse 7 = .ok (.iconst 0, 1) := dk_3 (dk_at dksX0_rinse_0 7 rfl rfl)
theorem dX0_rinse_8 : decode cX0_rinse 8 = .ok (.istore_n 3, 1) := dk_62 (dk_at dksX0_rinse_0 8 rfl rfl)
theorem dX0_rinse_9 : decode cX0_rinse 9 = .ok (.iload_n 3, 1) := dk_29 (dk_at dksX0_rinse_0 9 rfl rfl)
theorem dX0_rinse_10 : decode cX0_rinse 10 = .ok (.aload_n 1, 1) := dk_43 (dk_at dksX0_rinse_0 10 rfl rfl)
theorem dX0_rinse_11 : decode cX0_rinse 11 = .ok (.invokevirtual 60, 3) := dk_182 0 60 (dk_at dksX0_rinse_0 11 rfl rfl)
theorem dX0_rinse_14 : decode cX0_rinse 14 = .ok (.if_icmp .ge 40, 3) := dk_162 0 40 (dk_at dksX0_rinse_0 14 rfl rfl)
theorem dX0_rinse_17 : decode cX0_rinse 17 = .ok (.iload_n 2, 1) := dk_28 (dk_at dksX0_rinse_0 17 rfl rfl)
theorem dX0_rinse_18 : decode cX0_rinse 18 = .ok (.aload_n 1, 1) := dk_43 (dk_at dksX0_rinse_0 18 rfl rfl)
theorem dX0_rinse_19 : decode cX0_rinse 19 = .ok (.getfield 178, 3) := dk_180 0 178 (dk_at dksX0_rinse_0 19 rfl rfl)
theorem dX0_rinse_22 : decode cX0_rinse 22 = .ok (.iload_n 3, 1) := dk_29 (dk_at dksX0_rinse_0 22 rfl rfl)
theorem dX0_rinse_23 : decode cX0_rinse 23 = .ok (.iaload, 1) := dk_46 (dk_at dksX0_rinse_0 23 rfl rfl)
theorem dX0_rinse_24 : decode cX0_rinse 24 = .ok (.ifCond .ne 7, 3) := dk_154 0 7 (dk_at dksX0_rinse_1 0 rfl rfl)
theorem dX0_rinse_27 : decode cX0_rinse 27 = .ok (.iconst 0, 1) := dk_3 (dk_at dksX0_rinse_1 3 rfl rfl)
theorem dX0_rinse_28 : decode cX0_rinse 28 = .ok (.goto 4, 3) := dk_167 0 4 (dk_at dksX0_rinse_1 4 rfl rfl)
theorem dX0_rinse_31 : decode cX0_rinse 31 = .ok (.iconst 1, 1) := dk_4 (dk_at dksX0_rinse_1 7 rfl rfl)
theorem dX0_rinse_32 : decode cX0_rinse 32 = .ok (.iadd, 1) := dk_96 (dk_at dksX0_rinse_1 8 rfl rfl)
theorem dX0_rinse_33 : decode cX0_rinse 33 = .ok (.istore_n 2, 1) := dk_61 (dk_at dksX0_rinse_1 9 rfl rfl)
theorem dX0_rinse_34 : decode cX0_rinse 34 = .ok (.aload_n 1, 1) := dk_43 (dk_at dksX0_rinse_1 10 rfl rfl)
theorem dX0_rinse_35 : decode cX0_rinse 35 = .ok (.getfield 178, 3) := dk_180 0 178 (dk_at dksX0_rinse_1 11 rfl rfl)
theorem dX0_rinse_38 : decode cX0_rinse 38 = .ok (.iload_n 3, 1) := dk_29 (dk_at dksX0_rinse_1 14 rfl rfl)
theorem dX0_rinse_39 : decode cX0_rinse 39 = .ok (.iconst 0, 1) := dk_3 (dk_at dksX0_rinse_1 15 rfl rfl)
theorem dX0_rinse_40 : decode cX0_rinse 40 = .ok (.iastore, 1) := dk_79 (dk_at dksX0_rinse_1 16 rfl rfl)
theorem dX0_rinse_41 : decode cX0_rinse 41 = .ok (.aload_n 1, 1) := dk_43 (dk_at dksX0_rinse_1 17 rfl rfl)
theorem dX0_rinse_42 : decode cX0_rinse 42 = .ok (.getfield 181, 3) := dk_180 0 181 (dk_at dksX0_rinse_1 18 rfl rfl)
theorem dX0_rinse_45 : decode cX0_rinse 45 = .ok (.iload_n 3, 1) := dk_29 (dk_at dksX0_rinse_1 21 rfl rfl)
theorem dX0_rinse_46 : decode cX0_rinse 46 = .ok (.iconst 0, 1) := dk_3 (dk_at dksX0_rinse_1 22 rfl rfl)
theorem dX0_rinse_47 : decode cX0_rinse 47 = .ok (.bastore, 1) := dk_84 (dk_at dksX0_rinse_1 23 rfl rfl)
theorem dX0_rinse_48 : decode cX0_rinse 48 = .ok (.iinc 3 1, 3) := dk_132 3 1 (dk_at dksX0_rinse_2 0 rfl rfl)
theorem dX0_rinse_51 : decode cX0_rinse 51 = .ok (.goto (-42), 3) := dk_167 255 214 (dk_at dksX0_rinse_2 3 rfl rfl)
theorem dX0_rinse_54 : decode cX0_rinse 54 = .ok (.aload_n 1, 1) := dk_43 (dk_at dksX0_rinse_2 6 rfl rfl)
theorem dX0_rinse_55 : decode cX0_rinse 55 = .ok (.iconst 0, 1) := dk_3 (dk_at dksX0_rinse_2 7 rfl rfl)
theorem dX0_rinse_56 : decode cX0_rinse 56 = .ok (.putfield 172, 3) := dk_181 0 172 (dk_at dksX0_rinse_2 8 rfl rfl)
theorem dX0_rinse_59 : decode cX0_rinse 59 = .ok (.iload_n 2, 1) := dk_28 (dk_at dksX0_rinse_2 11 rfl rfl)
theorem dX0_rinse_60 : decode cX0_rinse 60 = .ok (.ireturn, 1) := dk_172 (dk_at dksX0_rinse_2 12 rfl rfl)
abbrev cX0_undo : ByteArray := prog_1_method_24_code
def yX0_undo : MethodName := ⟨RX0, "undo", "()I"⟩
def dkwX0_undo_1 : List UInt8 := [181, 0, 12, 42, 180, 0, 21, 182, 0, 40, 172]
abbrev dktX0_undo_1 : List UInt8 := dkwX0_undo_1 ++ []
def dkwX0_undo_0 : List UInt8 := [42, 180, 0, 21, 182, 0, 185, 153, 0, 6, 16, 254, 172, 42, 42, 180, 0, 21, 182, 0, 189, 192, 0, 7]
abbrev dktX0_undo_0 : List UInt8 := dkwX0_undo_0 ++ dktX0_undo_1
theorem dksX0_undo_0 : cX0_undo.data.toList.drop 0 = dktX0_undo_0 := by decide +kernel
theorem dksX0_undo_1 : cX0_undo.data.toList.drop 24 = dktX0_undo_1 := dk_seg dksX0_undo_0 24 rfl rfl
theorem dX0_undo_0 : decode cX0_undo 0 = .ok (.aload_n 0, 1) := dk_42 (dk_at dksX0_undo_0 0 rfl rfl)
theorem dX0_undo_1 : decode cX0_undo 1 = .ok (.getfield 21, 3) := dk_180 0 21 (dk_at dksX0_undo_0 1 rfl rfl)
theorem dX0_undo_4 : decode cX0_undo 4 = .ok (.invokevirtual 185, 3) := dk_182 0 185 (dk_at dksX0_undo_0 4 rfl rfl)
theorem dX0_undo_7 : decode cX0_undo 7 = .ok (.ifCond .eq 6, 3) := dk_153 0 6 (dk_at dksX0_undo_0 7 rfl rfl)
theorem dX0_undo_10 : decode cX0_undo 10 = .ok (.bipush (-2), 2) := dk_16 254 (dk_at dksX0_undo_0 10 rfl rfl)
theorem dX0_undo_12 : decode cX0_undo 12 = .ok (.ireturn, 1) := dk_172 (dk_at dksX0_undo_0 12 rfl rfl)
theorem dX0_undo_13 : decode cX0_undo 13 = .ok (.aload_n 0, 1) := dk_42 (dk_at dksX0_undo_0 13 rfl rfl)
theorem dX0_undo_14 : decode cX0_undo 14 = .ok (.aload_n 0, 1) := dk_42 (dk_at dksX0_undo_0 14 rfl rfl)
theorem dX0_undo_15 : decode cX0_undo 15 = .ok (.getfield 21, 3) := dk_180 0 21 (dk_at dksX0_undo_0 15 rfl rfl)
theorem dX0_undo_18 : decode cX0_undo 18 = .ok (.invokevirtual 189, 3) := dk_182 0 189 (dk_at dksX0_undo_0 18 rfl rfl)
theorem dX0_undo_21 : decode cX0_undo 21 = .ok (.checkcast 7, 3) := dk_192 0 7 (dk_at dksX0_undo_0 21 rfl rfl)
theorem dX0_undo_24 : decode cX0_undo 24 = .ok (.putfield 12, 3) := dk_181 0 12 (dk_at dksX0_undo_1 0 rfl rfl)
theorem dX0_undo_27 : decode cX0_undo 27 = .ok (.aload_n 0, 1) := dk_42 (dk_at dksX0_undo_1 3 rfl rfl)
theorem dX0_undo_28 : decode cX0_undo 28 = .ok (.getfield 21, 3) := dk_180 0 21 (dk_at dksX0_undo_1 4 rfl rfl)
theorem dX0_undo_31 : decode cX0_undo 31 = .ok (.invokevirtual 40, 3) := dk_182 0 40 (dk_at dksX0_undo_1 7 rfl rfl)
theorem dX0_undo_34 : decode cX0_undo 34 = .ok (.ireturn, 1) := dk_172 (dk_at dksX0_undo_1 10 rfl rfl)
abbrev cX0_count : ByteArray := prog_1_method_27_code
def yX0_count : MethodName := ⟨RX0, "count", "(I)I"⟩
def dkwX0_count_7 : List UInt8 := [172]
abbrev dktX0_count_7 : List UInt8 := dkwX0_count_7 ++ []
def dkwX0_count_6 : List UInt8 := [180, 0, 130, 184, 0, 137, 172, 42, 180, 0, 21, 182, 0, 40, 172, 42, 180, 0, 28, 182, 0, 145, 172, 2]
abbrev dktX0_count_6 : List UInt8 := dkwX0_count_6 ++ dktX0_count_7
def dkwX0_count_5 : List UInt8 := [42, 180, 0, 12, 180, 0, 114, 182, 0, 204, 184, 0, 208, 172, 42, 182, 0, 212, 172, 42, 180, 0, 12]
abbrev dktX0_count_5 : List UInt8 := dkwX0_count_5 ++ dktX0_count_6
def dkwX0_count_4 : List UInt8 := [180, 0, 172, 172, 42, 180, 0, 12, 182, 0, 83, 172, 42, 180, 0, 12, 182, 0, 118, 172, 42, 180, 0, 12]
abbrev dktX0_count_4 : List UInt8 := dkwX0_count_4 ++ dktX0_count_5
def dkwX0_count_3 : List UInt8 := [182, 0, 203, 172, 42, 180, 0, 12, 180, 0, 114, 172, 42, 180, 0, 12, 180, 0, 142, 172, 42, 180, 0, 12]
abbrev dktX0_count_3 : List UInt8 := dkwX0_count_3 ++ dktX0_count_4
def dkwX0_count_2 : List UInt8 := [42, 180, 0, 12, 180, 0, 197, 172, 42, 180, 0, 12, 180, 0, 200, 172, 42, 180, 0, 12, 180, 0, 69]
abbrev dktX0_count_2 : List UInt8 := dkwX0_count_2 ++ dktX0_count_3
def dkwX0_count_1 : List UInt8 := [170, 0, 0, 0, 0, 0, 184, 0, 0, 0, 0, 0, 0, 0, 12, 0, 0, 0, 67, 0, 0, 0, 75, 0, 0, 0, 83, 0, 0, 0, 94, 0, 0, 0, 102, 0, 0, 0, 110, 0, 0, 0, 118, 0, 0, 0, 126, 0, 0, 0, 134, 0, 0, 0, 152, 0, 0, 0, 157, 0, 0, 0, 168, 0, 0, 0, 176]
abbrev dktX0_count_1 : List UInt8 := dkwX0_count_1 ++ dktX0_count_2
def dkwX0_count_0 : List UInt8 := [27]
abbrev dktX0_count_0 : List UInt8 := dkwX0_count_0 ++ dktX0_count_1
theorem dksX0_count_0 : cX0_count.data.toList.drop 0 = dktX0_count_0 := by decide +kernel
theorem dksX0_count_1 : cX0_count.data.toList.drop 1 = dktX0_count_1 := dk_seg dksX0_count_0 1 rfl rfl
theorem dksX0_count_2 : cX0_count.data.toList.drop 68 = dktX0_count_2 := dk_seg dksX0_count_1 67 rfl rfl
theorem dksX0_count_3 : cX0_count.data.toList.drop 91 = dktX0_count_3 := dk_seg dksX0_count_2 23 rfl rfl
theorem dksX0_count_4 : cX0_count.data.toList.drop 115 = dktX0_count_4 := dk_seg dksX0_count_3 24 rfl rfl
theorem dksX0_count_5 : cX0_count.data.toList.drop 139 = dktX0_count_5 := dk_seg dksX0_count_4 24 rfl rfl
theorem dksX0_count_6 : cX0_count.data.toList.drop 162 = dktX0_count_6 := dk_seg dksX0_count_5 23 rfl rfl
theorem dksX0_count_7 : cX0_count.data.toList.drop 186 = dktX0_count_7 := dk_seg dksX0_count_6 24 rfl rfl
theorem dX0_count_0 : decode cX0_count 0 = .ok (.iload_n 1, 1) := dk_27 (dk_at dksX0_count_0 0 rfl rfl)
theorem dX0_count_1 : decode cX0_count 1 = .ok (.tableswitch 184 0 12 #[67, 75, 83, 94, 102, 110, 118, 126, 134, 152, 157, 168, 176], 67) := by decide +kernel
theorem dX0_count_68 : decode cX0_count 68 = .ok (.aload_n 0, 1) := dk_42 (dk_at dksX0_count_2 0 rfl rfl)
theorem dX0_count_69 : decode cX0_count 69 = .ok (.getfield 12, 3) := dk_180 0 12 (dk_at dksX0_count_2 1 rfl rfl)
theorem dX0_count_72 : decode cX0_count 72 = .ok (.getfield 197, 3) := dk_180 0 197 (dk_at dksX0_count_2 4 rfl rfl)
theorem dX0_count_75 : decode cX0_count 75 = .ok (.ireturn, 1) := dk_172 (dk_at dksX0_count_2 7 rfl rfl)
theorem dX0_count_76 : decode cX0_count 76 = .ok (.aload_n 0, 1) := dk_42 (dk_at dksX0_count_2 8 rfl rfl)
theorem dX0_count_77 : decode cX0_count 77 = .ok (.getfield 12, 3) := dk_180 0 12 (dk_at dksX0_count_2 9 rfl rfl)
theorem dX0_count_80 : decode cX0_count 80 = .ok (.getfield 200, 3) := dk_180 0 200 (dk_at dksX0_count_2 12 rfl rfl)
theorem dX0_count_83 : decode cX0_count 83 = .ok (.ireturn, 1) := dk_172 (dk_at dksX0_count_2 15 rfl rfl)
theorem dX0_count_84 : decode cX0_count 84 = .ok (.aload_n 0, 1) := dk_42 (dk_at dksX0_count_2 16 rfl rfl)
theorem dX0_count_85 : decode cX0_count 85 = .ok (.getfield 12, 3) := dk_180 0 12 (dk_at dksX0_count_2 17 rfl rfl)
theorem dX0_count_88 : decode cX0_count 88 = .ok (.getfield 69, 3) := dk_180 0 69 (dk_at dksX0_count_2 20 rfl rfl)
theorem dX0_count_91 : decode cX0_count 91 = .ok (.invokevirtual 203, 3) := dk_182 0 203 (dk_at dksX0_count_3 0 rfl rfl)
theorem dX0_count_94 : decode cX0_count 94 = .ok (.ireturn, 1) := dk_172 (dk_at dksX0_count_3 3 rfl rfl)
theorem dX0_count_95 : decode cX0_count 95 = .ok (.aload_n 0, 1) := dk_42 (dk_at dksX0_count_3 4 rfl rfl)
theorem dX0_count_96 : decode cX0_count 96 = .ok (.getfield 12, 3) := dk_180 0 12 (dk_at dksX0_count_3 5 rfl rfl)
theorem dX0_count_99 : decode cX0_count 99 = .ok (.getfield 114, 3) := dk_180 0 114 (dk_at dksX0_count_3 8 rfl rfl)
theorem dX0_count_102 : decode cX0_count 102 = .ok (.ireturn, 1) := dk_172 (dk_at dksX0_count_3 11 rfl rfl)
theorem dX0_count_103 : decode cX0_count 103 = .ok (.aload_n 0, 1) := dk_42 (dk_at dksX0_count_3 12 rfl rfl)
theorem dX0_count_104 : decode cX0_count 104 = .ok (.getfield 12, 3) := dk_180 0 12 (dk_at dksX0_count_3 13 rfl rfl)
theorem dX0_count_107 : decode cX0_count 107 = .ok (.getfield 142, 3) := dk_180 0 142 (dk_at dksX0_count_3 16 rfl rfl)
theorem dX0_count_110 : decode cX0_count 110 = .ok (.ireturn, 1) := dk_172 (dk_at dksX0_count_3 19 rfl rfl)
theorem dX0_count_111 : decode cX0_count 111 = .ok (.aload_n 0, 1) := dk_42 (dk_at dksX0_count_3 20 rfl rfl)
theorem dX0_count_112 : decode cX0_count 112 = .ok (.getfield 12, 3) := dk_180 0 12 (dk_at dksX0_count_3 21 rfl rfl)
theorem dX0_count_115 : decode cX0_count 115 = .ok (.getfield 172, 3) := dk_180 0 172 (dk_at dksX0_count_4 0 rfl rfl)
theorem dX0_count_118 : decode cX0_count 118 = .ok (.ireturn, 1) := dk_172 (dk_at dksX0_count_4 3 rfl rfl)
theorem dX0_count_119 : decode cX0_count 119 = .ok (.aload_n 0, 1) := dk_42 (dk_at dksX0_count_4 4 rfl rfl)
theorem dX0_count_120 : decode cX0_count 120 = .ok (.getfield 12, 3) := dk_180 0 12 (dk_at dksX0_count_4 5 rfl rfl)
theorem dX0_count_123 : decode cX0_count 123 = .ok (.invokevirtual 83, 3) := dk_182 0 83 (dk_at dksX0_count_4 8 rfl rfl)
theorem dX0_count_126 : decode cX0_count 126 = .ok (.ireturn, 1) := dk_172 (dk_at dksX0_count_4 11 rfl rfl)
theorem dX0_count_127 : decode cX0_count 127 = .ok (.aload_n 0, 1) := dk_42 (dk_at dksX0_count_4 12 rfl rfl)
theorem dX0_count_128 : decode cX0_count 128 = .ok (.getfield 12, 3) := dk_180 0 12 (dk_at dksX0_count_4 13 rfl rfl)
theorem dX0_count_131 : decode cX0_count 131 = .ok (.invokevirtual 118, 3) := dk_182 0 118 (dk_at dksX0_count_4 16 rfl rfl)
theorem dX0_count_134 : decode cX0_count 134 = .ok (.ireturn, 1) := dk_172 (dk_at dksX0_count_4 19 rfl rfl)
theorem dX0_count_135 : decode cX0_count 135 = .ok (.aload_n 0, 1) := dk_42 (dk_at dksX0_count_4 20 rfl rfl)
theorem dX0_count_136 : decode cX0_count 136 = .ok (.getfield 12, 3) := dk_180 0 12 (dk_at dksX0_count_4 21 rfl rfl)
theorem dX0_count_139 : decode cX0_count 139 = .ok (.aload_n 0, 1) := dk_42 (dk_at dksX0_count_5 0 rfl rfl)
theorem dX0_count_140 : decode cX0_count 140 = .ok (.getfield 12, 3) := dk_180 0 12 (dk_at dksX0_count_5 1 rfl rfl)
theorem dX0_count_143 : decode cX0_count 143 = .ok (.getfield 114, 3) := dk_180 0 114 (dk_at dksX0_count_5 4 rfl rfl)
theorem dX0_count_146 : decode cX0_count 146 = .ok (.invokevirtual 204, 3) := dk_182 0 204 (dk_at dksX0_count_5 7 rfl rfl)
theorem dX0_count_149 : decode cX0_count 149 = .ok (.invokestatic 208, 3) := dk_184 0 208 (dk_at dksX0_count_5 10 rfl rfl)
theorem dX0_count_152 : decode cX0_count 152 = .ok (.ireturn, 1) := dk_172 (dk_at dksX0_count_5 13 rfl rfl)
theorem dX0_count_153 : decode cX0_count 153 = .ok (.aload_n 0, 1) := dk_42 (dk_at dksX0_count_5 14 rfl rfl)
theorem dX0_count_154 : decode cX0_count 154 = .ok (.invokevirtual 212, 3) := dk_182 0 212 (dk_at dksX0_count_5 15 rfl rfl)
theorem dX0_count_157 : decode cX0_count 157 = .ok (.ireturn, 1) := dk_172 (dk_at dksX0_count_5 18 rfl rfl)
theorem dX0_count_158 : decode cX0_count 158 = .ok (.aload_n 0, 1) := dk_42 (dk_at dksX0_count_5 19 rfl rfl)
theorem dX0_count_159 : decode cX0_count 159 = .ok (.getfield 12, 3) := dk_180 0 12 (dk_at dksX0_count_5 20 rfl rfl)
theorem dX0_count_162 : decode cX0_count 162 = .ok (.getfield 130, 3) := dk_180 0 130 (dk_at dksX0_count_6 0 rfl rfl)
theorem dX0_count_165 : decode cX0_count 165 = .ok (.invokestatic 137, 3) := dk_184 0 137 (dk_at dksX0_count_6 3 rfl rfl)
theorem dX0_count_168 : decode cX0_count 168 = .ok (.ireturn, 1) := dk_172 (dk_at dksX0_count_6 6 rfl rfl)
theorem dX0_count_169 : decode cX0_count 169 = .ok (.aload_n 0, 1) := dk_42 (dk_at dksX0_count_6 7 rfl rfl)
theorem dX0_count_170 : decode cX0_count 170 = .ok (.getfield 21, 3) := dk_180 0 21 (dk_at dksX0_count_6 8 rfl rfl)
theorem dX0_count_173 : decode cX0_count 173 = .ok (.invokevirtual 40, 3) := dk_182 0 40 (dk_at dksX0_count_6 11 rfl rfl)
theorem dX0_count_176 : decode cX0_count 176 = .ok (.ireturn, 1) := dk_172 (dk_at dksX0_count_6 14 rfl rfl)
theorem dX0_count_177 : decode cX0_count 177 = .ok (.aload_n 0, 1) := dk_42 (dk_at dksX0_count_6 15 rfl rfl)
theorem dX0_count_178 : decode cX0_count 178 = .ok (.getfield 28, 3) := dk_180 0 28 (dk_at dksX0_count_6 16 rfl rfl)
theorem dX0_count_181 : decode cX0_count 181 = .ok (.invokevirtual 145, 3) := dk_182 0 145 (dk_at dksX0_count_6 19 rfl rfl)
theorem dX0_count_184 : decode cX0_count 184 = .ok (.ireturn, 1) := dk_172 (dk_at dksX0_count_6 22 rfl rfl)
theorem dX0_count_185 : decode cX0_count 185 = .ok (.iconst (-1), 1) := dk_2 (dk_at dksX0_count_6 23 rfl rfl)
theorem dX0_count_186 : decode cX0_count 186 = .ok (.ireturn, 1) := dk_172 (dk_at dksX0_count_7 0 rfl rfl)
abbrev cX0_countOf : ByteArray := prog_1_method_25_code
def yX0_countOf : MethodName := ⟨RX0, "countOf", "([I)I"⟩
def dkwX0_countOf_1 : List UInt8 := [21, 5, 4, 96, 184, 0, 192, 60, 132, 4, 1, 167, 255, 232, 27, 172]
abbrev dktX0_countOf_1 : List UInt8 := dkwX0_countOf_1 ++ []
def dkwX0_countOf_0 : List UInt8 := [3, 60, 42, 77, 44, 190, 62, 3, 54, 4, 21, 4, 29, 162, 0, 24, 44, 21, 4, 46, 54, 5, 27]
abbrev dktX0_countOf_0 : List UInt8 := dkwX0_countOf_0 ++ dktX0_countOf_1
theorem dksX0_countOf_0 : cX0_countOf.data.toList.drop 0 = dktX0_countOf_0 := by decide +kernel
theorem dksX0_countOf_1 : cX0_countOf.data.toList.drop 23 = dktX0_countOf_1 := dk_seg dksX0_countOf_0 23 rfl rfl
theorem dX0_countOf_0 : decode cX0_countOf 0 = .ok (.iconst 0, 1) := dk_3 (dk_at dksX0_countOf_0 0 rfl rfl)
theorem dX0_countOf_1 : decode cX0_countOf 1 = .ok (.istore_n 1, 1) := dk_60 (dk_at dksX0_countOf_0 1 rfl rfl)
theorem dX0_countOf_2 : decode cX0_countOf 2 = .ok (.aload_n 0, 1) := dk_42 (dk_at dksX0_countOf_0 2 rfl rfl)
theorem dX0_countOf_3 : decode cX0_countOf 3 = .ok (.astore_n 2, 1) := dk_77 (dk_at dksX0_countOf_0 3 rfl rfl)
theorem dX0_countOf_4 : decode cX0_countOf 4 = .ok (.aload_n 2, 1) := dk_44 (dk_at dksX0_countOf_0 4 rfl rfl)
theorem dX0_countOf_5 : decode cX0_countOf 5 = .ok (.arraylength, 1) := dk_190 (dk_at dksX0_countOf_0 5 rfl rfl)
theorem dX0_countOf_6 : decode cX0_countOf 6 = .ok (.istore_n 3, 1) := dk_62 (dk_at dksX0_countOf_0 6 rfl rfl)
theorem dX0_countOf_7 : decode cX0_countOf 7 = .ok (.iconst 0, 1) := dk_3 (dk_at dksX0_countOf_0 7 rfl rfl)
theorem dX0_countOf_8 : decode cX0_countOf 8 = .ok (.istore 4, 2) := dk_54 4 (dk_at dksX0_countOf_0 8 rfl rfl)
theorem dX0_countOf_10 : decode cX0_countOf 10 = .ok (.iload 4, 2) := dk_21 4 (dk_at dksX0_countOf_0 10 rfl rfl)
theorem dX0_countOf_12 : decode cX0_countOf 12 = .ok (.iload_n 3, 1) := dk_29 (dk_at dksX0_countOf_0 12 rfl rfl)
theorem dX0_countOf_13 : decode cX0_countOf 13 = .ok (.if_icmp .ge 24, 3) := dk_162 0 24 (dk_at dksX0_countOf_0 13 rfl rfl)
theorem dX0_countOf_16 : decode cX0_countOf 16 = .ok (.aload_n 2, 1) := dk_44 (dk_at dksX0_countOf_0 16 rfl rfl)
theorem dX0_countOf_17 : decode cX0_countOf 17 = .ok (.iload 4, 2) := dk_21 4 (dk_at dksX0_countOf_0 17 rfl rfl)
theorem dX0_countOf_19 : decode cX0_countOf 19 = .ok (.iaload, 1) := dk_46 (dk_at dksX0_countOf_0 19 rfl rfl)
theorem dX0_countOf_20 : decode cX0_countOf 20 = .ok (.istore 5, 2) := dk_54 5 (dk_at dksX0_countOf_0 20 rfl rfl)
theorem dX0_countOf_22 : decode cX0_countOf 22 = .ok (.iload_n 1, 1) := dk_27 (dk_at dksX0_countOf_0 22 rfl rfl)
theorem dX0_countOf_23 : decode cX0_countOf 23 = .ok (.iload 5, 2) := dk_21 5 (dk_at dksX0_countOf_1 0 rfl rfl)
theorem dX0_countOf_25 : decode cX0_countOf 25 = .ok (.iconst 1, 1) := dk_4 (dk_at dksX0_countOf_1 2 rfl rfl)
theorem dX0_countOf_26 : decode cX0_countOf 26 = .ok (.iadd, 1) := dk_96 (dk_at dksX0_countOf_1 3 rfl rfl)
theorem dX0_countOf_27 : decode cX0_countOf 27 = .ok (.invokestatic 192, 3) := dk_184 0 192 (dk_at dksX0_countOf_1 4 rfl rfl)
theorem dX0_countOf_30 : decode cX0_countOf 30 = .ok (.istore_n 1, 1) := dk_60 (dk_at dksX0_countOf_1 7 rfl rfl)
theorem dX0_countOf_31 : decode cX0_countOf 31 = .ok (.iinc 4 1, 3) := dk_132 4 1 (dk_at dksX0_countOf_1 8 rfl rfl)
theorem dX0_countOf_34 : decode cX0_countOf 34 = .ok (.goto (-24), 3) := dk_167 255 232 (dk_at dksX0_countOf_1 11 rfl rfl)
theorem dX0_countOf_37 : decode cX0_countOf 37 = .ok (.iload_n 1, 1) := dk_27 (dk_at dksX0_countOf_1 14 rfl rfl)
theorem dX0_countOf_38 : decode cX0_countOf 38 = .ok (.ireturn, 1) := dk_172 (dk_at dksX0_countOf_1 15 rfl rfl)
abbrev cX0_clogged : ByteArray := prog_1_method_26_code
def yX0_clogged : MethodName := ⟨RX0, "clogged", "()I"⟩
def dkwX0_clogged_2 : List UInt8 := [27, 172]
abbrev dktX0_clogged_2 : List UInt8 := dkwX0_clogged_2 ++ []
def dkwX0_clogged_1 : List UInt8 := [21, 4, 51, 54, 5, 27, 21, 5, 153, 0, 7, 4, 167, 0, 4, 3, 96, 60, 132, 4, 1, 167, 255, 228]
abbrev dktX0_clogged_1 : List UInt8 := dkwX0_clogged_1 ++ dktX0_clogged_2
def dkwX0_clogged_0 : List UInt8 := [3, 60, 42, 180, 0, 12, 180, 0, 181, 77, 44, 190, 62, 3, 54, 4, 21, 4, 29, 162, 0, 28, 44]
abbrev dktX0_clogged_0 : List UInt8 := dkwX0_clogged_0 ++ dktX0_clogged_1
theorem dksX0_clogged_0 : cX0_clogged.data.toList.drop 0 = dktX0_clogged_0 := by decide +kernel
theorem dksX0_clogged_1 : cX0_clogged.data.toList.drop 23 = dktX0_clogged_1 := dk_seg dksX0_clogged_0 23 rfl rfl
theorem dksX0_clogged_2 : cX0_clogged.data.toList.drop 47 = dktX0_clogged_2 := dk_seg dksX0_clogged_1 24 rfl rfl
theorem dX0_clogged_0 : decode cX0_clogged 0 = .ok (.iconst 0, 1) := dk_3 (dk_at dksX0_clogged_0 0 rfl rfl)
theorem dX0_clogged_1 : decode cX0_clogged 1 = .ok (.istore_n 1, 1) := dk_60 (dk_at dksX0_clogged_0 1 rfl rfl)
theorem dX0_clogged_2 : decode cX0_clogged 2 = .ok (.aload_n 0, 1) := dk_42 (dk_at dksX0_clogged_0 2 rfl rfl)
theorem dX0_clogged_3 : decode cX0_clogged 3 = .ok (.getfield 12, 3) := dk_180 0 12 (dk_at dksX0_clogged_0 3 rfl rfl)
theorem dX0_clogged_6 : decode cX0_clogged 6 = .ok (.getfield 181, 3) := dk_180 0 181 (dk_at dksX0_clogged_0 6 rfl rfl)
theorem dX0_clogged_9 : decode cX0_clogged 9 = .ok (.astore_n 2, 1) := dk_77 (dk_at dksX0_clogged_0 9 rfl rfl)
theorem dX0_clogged_10 : decode cX0_clogged 10 = .ok (.aload_n 2, 1) := dk_44 (dk_at dksX0_clogged_0 10 rfl rfl)
theorem dX0_clogged_11 : decode cX0_clogged 11 = .ok (.arraylength, 1) := dk_190 (dk_at dksX0_clogged_0 11 rfl rfl)
theorem dX0_clogged_12 : decode cX0_clogged 12 = .ok (.istore_n 3, 1) := dk_62 (dk_at dksX0_clogged_0 12 rfl rfl)
theorem dX0_clogged_13 : decode cX0_clogged 13 = .ok (.iconst 0, 1) := dk_3 (dk_at dksX0_clogged_0 13 rfl rfl)
theorem dX0_clogged_14 : decode cX0_clogged 14 = .ok (.istore 4, 2) := dk_54 4 (dk_at dksX0_clogged_0 14 rfl rfl)
theorem dX0_clogged_16 : decode cX0_clogged 16 = .ok (.iload 4, 2) := dk_21 4 (dk_at dksX0_clogged_0 16 rfl rfl)
theorem dX0_clogged_18 : decode cX0_clogged 18 = .ok (.iload_n 3, 1) := dk_29 (dk_at dksX0_clogged_0 18 rfl rfl)
theorem dX0_clogged_19 : decode cX0_clogged 19 = .ok (.if_icmp .ge 28, 3) := dk_162 0 28 (dk_at dksX0_clogged_0 19 rfl rfl)
theorem dX0_clogged_22 : decode cX0_clogged 22 = .ok (.aload_n 2, 1) := dk_44 (dk_at dksX0_clogged_0 22 rfl rfl)
theorem dX0_clogged_23 : decode cX0_clogged 23 = .ok (.iload 4, 2) := dk_21 4 (dk_at dksX0_clogged_1 0 rfl rfl)
theorem dX0_clogged_25 : decode cX0_clogged 25 = .ok (.baload, 1) := dk_51 (dk_at dksX0_clogged_1 2 rfl rfl)
theorem dX0_clogged_26 : decode cX0_clogged 26 = .ok (.istore 5, 2) := dk_54 5 (dk_at dksX0_clogged_1 3 rfl rfl)
theorem dX0_clogged_28 : decode cX0_clogged 28 = .ok (.iload_n 1, 1) := dk_27 (dk_at dksX0_clogged_1 5 rfl rfl)
theorem dX0_clogged_29 : decode cX0_clogged 29 = .ok (.iload 5, 2) := dk_21 5 (dk_at dksX0_clogged_1 6 rfl rfl)
theorem dX0_clogged_31 : decode cX0_clogged 31 = .ok (.ifCond .eq 7, 3) := dk_153 0 7 (dk_at dksX0_clogged_1 8 rfl rfl)
theorem dX0_clogged_34 : decode cX0_clogged 34 = .ok (.iconst 1, 1) := dk_4 (dk_at dksX0_clogged_1 11 rfl rfl)
theorem dX0_clogged_35 : decode cX0_clogged 35 = .ok (.goto 4, 3) := dk_167 0 4 (dk_at dksX0_clogged_1 12 rfl rfl)
theorem dX0_clogged_38 : decode cX0_clogged 38 = .ok (.iconst 0, 1) := dk_3 (dk_at dksX0_clogged_1 15 rfl rfl)
theorem dX0_clogged_39 : decode cX0_clogged 39 = .ok (.iadd, 1) := dk_96 (dk_at dksX0_clogged_1 16 rfl rfl)
theorem dX0_clogged_40 : decode cX0_clogged 40 = .ok (.istore_n 1, 1) := dk_60 (dk_at dksX0_clogged_1 17 rfl rfl)
theorem dX0_clogged_41 : decode cX0_clogged 41 = .ok (.iinc 4 1, 3) := dk_132 4 1 (dk_at dksX0_clogged_1 18 rfl rfl)
theorem dX0_clogged_44 : decode cX0_clogged 44 = .ok (.goto (-28), 3) := dk_167 255 228 (dk_at dksX0_clogged_1 21 rfl rfl)
theorem dX0_clogged_47 : decode cX0_clogged 47 = .ok (.iload_n 1, 1) := dk_27 (dk_at dksX0_clogged_2 0 rfl rfl)
theorem dX0_clogged_48 : decode cX0_clogged 48 = .ok (.ireturn, 1) := dk_172 (dk_at dksX0_clogged_2 1 rfl rfl)
abbrev cX0_cell : ByteArray := prog_1_method_28_code
def yX0_cell : MethodName := ⟨RX0, "cell", "(II)I"⟩
def dkwX0_cell_5 : List UInt8 := [180, 0, 12, 180, 0, 114, 182, 0, 204, 27, 46, 172, 42, 180, 0, 12, 27, 182, 0, 218, 172, 2, 172]
abbrev dktX0_cell_5 : List UInt8 := dkwX0_cell_5 ++ []
def dkwX0_cell_4 : List UInt8 := [172, 42, 180, 0, 12, 180, 0, 181, 27, 51, 153, 0, 7, 4, 167, 0, 4, 3, 172, 42, 180, 0, 12, 42]
abbrev dktX0_cell_4 : List UInt8 := dkwX0_cell_4 ++ dktX0_cell_5
def dkwX0_cell_3 : List UInt8 := [167, 0, 4, 3, 172, 42, 180, 0, 12, 180, 0, 124, 27, 46, 172, 42, 180, 0, 12, 180, 0, 178, 27, 46]
abbrev dktX0_cell_3 : List UInt8 := dkwX0_cell_3 ++ dktX0_cell_4
def dkwX0_cell_2 : List UInt8 := [42, 180, 0, 12, 180, 0, 90, 27, 46, 172, 42, 180, 0, 12, 27, 182, 0, 215, 153, 0, 7, 4]
abbrev dktX0_cell_2 : List UInt8 := dkwX0_cell_2 ++ dktX0_cell_3
def dkwX0_cell_1 : List UInt8 := [170, 0, 0, 0, 0, 133, 0, 0, 0, 0, 0, 0, 0, 6, 0, 0, 0, 42, 0, 0, 0, 52, 0, 0, 0, 69, 0, 0, 0, 79, 0, 0, 0, 89, 0, 0, 0, 107, 0, 0, 0, 124]
abbrev dktX0_cell_1 : List UInt8 := dkwX0_cell_1 ++ dktX0_cell_2
def dkwX0_cell_0 : List UInt8 := [42, 180, 0, 12, 27, 182, 0, 86, 154, 0, 5, 2, 172, 28]
abbrev dktX0_cell_0 : List UInt8 := dkwX0_cell_0 ++ dktX0_cell_1
theorem dksX0_cell_0 : cX0_cell.data.toList.drop 0 = dktX0_cell_0 := by decide +kernel
theorem dksX0_cell_1 : cX0_cell.data.toList.drop 14 = dktX0_cell_1 := dk_seg dksX0_cell_0 14 rfl rfl
theorem dksX0_cell_2 : cX0_cell.data.toList.drop 56 = dktX0_cell_2 := dk_seg dksX0_cell_1 42 rfl rfl
theorem dksX0_cell_3 : cX0_cell.data.toList.drop 78 = dktX0_cell_3 := dk_seg dksX0_cell_2 22 rfl rfl
theorem dksX0_cell_4 : cX0_cell.data.toList.drop 102 = dktX0_cell_4 := dk_seg dksX0_cell_3 24 rfl rfl
theorem dksX0_cell_5 : cX0_cell.data.toList.drop 126 = dktX0_cell_5 := dk_seg dksX0_cell_4 24 rfl rfl
theorem dX0_cell_0 : decode cX0_cell 0 = .ok (.aload_n 0, 1) := dk_42 (dk_at dksX0_cell_0 0 rfl rfl)
theorem dX0_cell_1 : decode cX0_cell 1 = .ok (.getfield 12, 3) := dk_180 0 12 (dk_at dksX0_cell_0 1 rfl rfl)
theorem dX0_cell_4 : decode cX0_cell 4 = .ok (.iload_n 1, 1) := dk_27 (dk_at dksX0_cell_0 4 rfl rfl)
theorem dX0_cell_5 : decode cX0_cell 5 = .ok (.invokevirtual 86, 3) := dk_182 0 86 (dk_at dksX0_cell_0 5 rfl rfl)
theorem dX0_cell_8 : decode cX0_cell 8 = .ok (.ifCond .ne 5, 3) := dk_154 0 5 (dk_at dksX0_cell_0 8 rfl rfl)
theorem dX0_cell_11 : decode cX0_cell 11 = .ok (.iconst (-1), 1) := dk_2 (dk_at dksX0_cell_0 11 rfl rfl)
theorem dX0_cell_12 : decode cX0_cell 12 = .ok (.ireturn, 1) := dk_172 (dk_at dksX0_cell_0 12 rfl rfl)
theorem dX0_cell_13 : decode cX0_cell 13 = .ok (.iload_n 2, 1) := dk_28 (dk_at dksX0_cell_0 13 rfl rfl)
theorem dX0_cell_14 : decode cX0_cell 14 = .ok (.tableswitch 133 0 6 #[42, 52, 69, 79, 89, 107, 124], 42) := by decide +kernel
theorem dX0_cell_56 : decode cX0_cell 56 = .ok (.aload_n 0, 1) := dk_42 (dk_at dksX0_cell_2 0 rfl rfl)
theorem dX0_cell_57 : decode cX0_cell 57 = .ok (.getfield 12, 3) := dk_180 0 12 (dk_at dksX0_cell_2 1 rfl rfl)
theorem dX0_cell_60 : decode cX0_cell 60 = .ok (.getfield 90, 3) := dk_180 0 90 (dk_at dksX0_cell_2 4 rfl rfl)
theorem dX0_cell_63 : decode cX0_cell 63 = .ok (.iload_n 1, 1) := dk_27 (dk_at dksX0_cell_2 7 rfl rfl)
theorem dX0_cell_64 : decode cX0_cell 64 = .ok (.iaload, 1) := dk_46 (dk_at dksX0_cell_2 8 rfl rfl)
theorem dX0_cell_65 : decode cX0_cell 65 = .ok (.ireturn, 1) := dk_172 (dk_at dksX0_cell_2 9 rfl rfl)
theorem dX0_cell_66 : decode cX0_cell 66 = .ok (.aload_n 0, 1) := dk_42 (dk_at dksX0_cell_2 10 rfl rfl)
theorem dX0_cell_67 : decode cX0_cell 67 = .ok (.getfield 12, 3) := dk_180 0 12 (dk_at dksX0_cell_2 11 rfl rfl)
theorem dX0_cell_70 : decode cX0_cell 70 = .ok (.iload_n 1, 1) := dk_27 (dk_at dksX0_cell_2 14 rfl rfl)
theorem dX0_cell_71 : decode cX0_cell 71 = .ok (.invokevirtual 215, 3) := dk_182 0 215 (dk_at dksX0_cell_2 15 rfl rfl)
theorem dX0_cell_74 : decode cX0_cell 74 = .ok (.ifCond .eq 7, 3) := dk_153 0 7 (dk_at dksX0_cell_2 18 rfl rfl)
theorem dX0_cell_77 : decode cX0_cell 77 = .ok (.iconst 1, 1) := dk_4 (dk_at dksX0_cell_2 21 rfl rfl)
theorem dX0_cell_78 : decode cX0_cell 78 = .ok (.goto 4, 3) := dk_167 0 4 (dk_at dksX0_cell_3 0 rfl rfl)
theorem dX0_cell_81 : decode cX0_cell 81 = .ok (.iconst 0, 1) := dk_3 (dk_at dksX0_cell_3 3 rfl rfl)
theorem dX0_cell_82 : decode cX0_cell 82 = .ok (.ireturn, 1) := dk_172 (dk_at dksX0_cell_3 4 rfl rfl)
theorem dX0_cell_83 : decode cX0_cell 83 = .ok (.aload_n 0, 1) := dk_42 (dk_at dksX0_cell_3 5 rfl rfl)
theorem dX0_cell_84 : decode cX0_cell 84 = .ok (.getfield 12, 3) := dk_180 0 12 (dk_at dksX0_cell_3 6 rfl rfl)
theorem dX0_cell_87 : decode cX0_cell 87 = .ok (.getfield 124, 3) := dk_180 0 124 (dk_at dksX0_cell_3 9 rfl rfl)
theorem dX0_cell_90 : decode cX0_cell 90 = .ok (.iload_n 1, 1) := dk_27 (dk_at dksX0_cell_3 12 rfl rfl)
theorem dX0_cell_91 : decode cX0_cell 91 = .ok (.iaload, 1) := dk_46 (dk_at dksX0_cell_3 13 rfl rfl)
theorem dX0_cell_92 : decode cX0_cell 92 = .ok (.ireturn, 1) := dk_172 (dk_at dksX0_cell_3 14 rfl rfl)
theorem dX0_cell_93 : decode cX0_cell 93 = .ok (.aload_n 0, 1) := dk_42 (dk_at dksX0_cell_3 15 rfl rfl)
theorem dX0_cell_94 : decode cX0_cell 94 = .ok (.getfield 12, 3) := dk_180 0 12 (dk_at dksX0_cell_3 16 rfl rfl)
theorem dX0_cell_97 : decode cX0_cell 97 = .ok (.getfield 178, 3) := dk_180 0 178 (dk_at dksX0_cell_3 19 rfl rfl)
theorem dX0_cell_100 : decode cX0_cell 100 = .ok (.iload_n 1, 1) := dk_27 (dk_at dksX0_cell_3 22 rfl rfl)
theorem dX0_cell_101 : decode cX0_cell 101 = .ok (.iaload, 1) := dk_46 (dk_at dksX0_cell_3 23 rfl rfl)
theorem dX0_cell_102 : decode cX0_cell 102 = .ok (.ireturn, 1) := dk_172 (dk_at dksX0_cell_4 0 rfl rfl)
theorem dX0_cell_103 : decode cX0_cell 103 = .ok (.aload_n 0, 1) := dk_42 (dk_at dksX0_cell_4 1 rfl rfl)
theorem dX0_cell_104 : decode cX0_cell 104 = .ok (.getfield 12, 3) := dk_180 0 12 (dk_at dksX0_cell_4 2 rfl rfl)
theorem dX0_cell_107 : decode cX0_cell 107 = .ok (.getfield 181, 3) := dk_180 0 181 (dk_at dksX0_cell_4 5 rfl rfl)
theorem dX0_cell_110 : decode cX0_cell 110 = .ok (.iload_n 1, 1) := dk_27 (dk_at dksX0_cell_4 8 rfl rfl)
theorem dX0_cell_111 : decode cX0_cell 111 = .ok (.baload, 1) := dk_51 (dk_at dksX0_cell_4 9 rfl rfl)
theorem dX0_cell_112 : decode cX0_cell 112 = .ok (.ifCond .eq 7, 3) := dk_153 0 7 (dk_at dksX0_cell_4 10 rfl rfl)
theorem dX0_cell_115 : decode cX0_cell 115 = .ok (.iconst 1, 1) := dk_4 (dk_at dksX0_cell_4 13 rfl rfl)
theorem dX0_cell_116 : decode cX0_cell 116 = .ok (.goto 4, 3) := dk_167 0 4 (dk_at dksX0_cell_4 14 rfl rfl)
theorem dX0_cell_119 : decode cX0_cell 119 = .ok (.iconst 0, 1) := dk_3 (dk_at dksX0_cell_4 17 rfl rfl)
theorem dX0_cell_120 : decode cX0_cell 120 = .ok (.ireturn, 1) := dk_172 (dk_at dksX0_cell_4 18 rfl rfl)
theorem dX0_cell_121 : decode cX0_cell 121 = .ok (.aload_n 0, 1) := dk_42 (dk_at dksX0_cell_4 19 rfl rfl)
theorem dX0_cell_122 : decode cX0_cell 122 = .ok (.getfield 12, 3) := dk_180 0 12 (dk_at dksX0_cell_4 20 rfl rfl)
theorem dX0_cell_125 : decode cX0_cell 125 = .ok (.aload_n 0, 1) := dk_42 (dk_at dksX0_cell_4 23 rfl rfl)
theorem dX0_cell_126 : decode cX0_cell 126 = .ok (.getfield 12, 3) := dk_180 0 12 (dk_at dksX0_cell_5 0 rfl rfl)
theorem dX0_cell_129 : decode cX0_cell 129 = .ok (.getfield 114, 3) := dk_180 0 114 (dk_at dksX0_cell_5 3 rfl rfl)
theorem dX0_cell_132 : decode cX0_cell 132 = .ok (.invokevirtual 204, 3) := dk_182 0 204 (dk_at dksX0_cell_5 6 rfl rfl)
theorem dX0_cell_135 : decode cX0_cell 135 = .ok (.iload_n 1, 1) := dk_27 (dk_at dksX0_cell_5 9 rfl rfl)
theorem dX0_cell_136 : decode cX0_cell 136 = .ok (.iaload, 1) := dk_46 (dk_at dksX0_cell_5 10 rfl rfl)
theorem dX0_cell_137 : decode cX0_cell 137 = .ok (.ireturn, 1) := dk_172 (dk_at dksX0_cell_5 11 rfl rfl)
theorem dX0_cell_138 : decode cX0_cell 138 = .ok (.aload_n 0, 1) := dk_42 (dk_at dksX0_cell_5 12 rfl rfl)
theorem dX0_cell_139 : decode cX0_cell 139 = .ok (.getfield 12, 3) := dk_180 0 12 (dk_at dksX0_cell_5 13 rfl rfl)
theorem dX0_cell_142 : decode cX0_cell 142 = .ok (.iload_n 1, 1) := dk_27 (dk_at dksX0_cell_5 16 rfl rfl)
theorem dX0_cell_143 : decode cX0_cell 143 = .ok (.invokevirtual 218, 3) := dk_182 0 218 (dk_at dksX0_cell_5 17 rfl rfl)
theorem dX0_cell_146 : decode cX0_cell 146 = .ok (.ireturn, 1) := dk_172 (dk_at dksX0_cell_5 20 rfl rfl)
theorem dX0_cell_147 : decode cX0_cell 147 = .ok (.iconst (-1), 1) := dk_2 (dk_at dksX0_cell_5 21 rfl rfl)
theorem dX0_cell_148 : decode cX0_cell 148 = .ok (.ireturn, 1) := dk_172 (dk_at dksX0_cell_5 22 rfl rfl)
abbrev cX0_valve : ByteArray := prog_1_method_29_code
def yX0_valve : MethodName := ⟨RX0, "valve", "(II)I"⟩
def dkwX0_valve_1 : List UInt8 := [50, 182, 0, 106, 167, 0, 4, 2, 172]
abbrev dktX0_valve_1 : List UInt8 := dkwX0_valve_1 ++ []
def dkwX0_valve_0 : List UInt8 := [42, 180, 0, 12, 27, 28, 182, 0, 98, 153, 0, 22, 42, 180, 0, 12, 180, 0, 102, 7, 27, 104, 28, 96]
abbrev dktX0_valve_0 : List UInt8 := dkwX0_valve_0 ++ dktX0_valve_1
theorem dksX0_valve_0 : cX0_valve.data.toList.drop 0 = dktX0_valve_0 := by decide +kernel
theorem dksX0_valve_1 : cX0_valve.data.toList.drop 24 = dktX0_valve_1 := dk_seg dksX0_valve_0 24 rfl rfl
theorem dX0_valve_0 : decode cX0_valve 0 = .ok (.aload_n 0, 1) := dk_42 (dk_at dksX0_valve_0 0 rfl rfl)
theorem dX0_valve_1 : decode cX0_valve 1 = .ok (.getfield 12, 3) := dk_180 0 12 (dk_at dksX0_valve_0 1 rfl rfl)
theorem dX0_valve_4 : decode cX0_valve 4 = .ok (.iload_n 1, 1) := dk_27 (dk_at dksX0_valve_0 4 rfl rfl)
theorem dX0_valve_5 : decode cX0_valve 5 = .ok (.iload_n 2, 1) := dk_28 (dk_at dksX0_valve_0 5 rfl rfl)
theorem dX0_valve_6 : decode cX0_valve 6 = .ok (.invokevirtual 98, 3) := dk_182 0 98 (dk_at dksX0_valve_0 6 rfl rfl)
theorem dX0_valve_9 : decode cX0_valve 9 = .ok (.ifCond .eq 22, 3) := dk_153 0 22 (dk_at dksX0_valve_0 9 rfl rfl)
theorem dX0_valve_12 : decode cX0_valve 12 = .ok (.aload_n 0, 1) := dk_42 (dk_at dksX0_valve_0 12 rfl rfl)
theorem dX0_valve_13 : decode cX0_valve 13 = .ok (.getfield 12, 3) := dk_180 0 12 (dk_at dksX0_valve_0 13 rfl rfl)
theorem dX0_valve_16 : decode cX0_valve 16 = .ok (.getfield 102, 3) := dk_180 0 102 (dk_at dksX0_valve_0 16 rfl rfl)
theorem dX0_valve_19 : decode cX0_valve 19 = .ok (.iconst 4, 1) := dk_7 (dk_at dksX0_valve_0 19 rfl rfl)
theorem dX0_valve_20 : decode cX0_valve 20 = .ok (.iload_n 1, 1) := dk_27 (dk_at dksX0_valve_0 20 rfl rfl)
theorem dX0_valve_21 : decode cX0_valve 21 = .ok (.imul, 1) := dk_104 (dk_at dksX0_valve_0 21 rfl rfl)
theorem dX0_valve_22 : decode cX0_valve 22 = .ok (.iload_n 2, 1) := dk_28 (dk_at dksX0_valve_0 22 rfl rfl)
theorem dX0_valve_23 : decode cX0_valve 23 = .ok (.iadd, 1) := dk_96 (dk_at dksX0_valve_0 23 rfl rfl)
theorem dX0_valve_24 : decode cX0_valve 24 = .ok (.aaload, 1) := dk_50 (dk_at dksX0_valve_1 0 rfl rfl)
theorem dX0_valve_25 : decode cX0_valve 25 = .ok (.invokevirtual 106, 3) := dk_182 0 106 (dk_at dksX0_valve_1 1 rfl rfl)
theorem dX0_valve_28 : decode cX0_valve 28 = .ok (.goto 4, 3) := dk_167 0 4 (dk_at dksX0_valve_1 4 rfl rfl)
theorem dX0_valve_31 : decode cX0_valve 31 = .ok (.iconst (-1), 1) := dk_2 (dk_at dksX0_valve_1 7 rfl rfl)
theorem dX0_valve_32 : decode cX0_valve 32 = .ok (.ireturn, 1) := dk_172 (dk_at dksX0_valve_1 8 rfl rfl)
abbrev cX0_dyed : ByteArray := prog_1_method_30_code
def yX0_dyed : MethodName := ⟨RX0, "dyed", "(I)I"⟩
def dkwX0_dyed_0 : List UInt8 := [27, 184, 0, 121, 153, 0, 14, 42, 180, 0, 12, 27, 182, 0, 221, 167, 0, 4, 2, 172]
abbrev dktX0_dyed_0 : List UInt8 := dkwX0_dyed_0 ++ []
theorem dksX0_dyed_0 : cX0_dyed.data.toList.drop 0 = dktX0_dyed_0 := by decide +kernel
theorem dX0_dyed_0 : decode cX0_dyed 0 = .ok (.iload_n 1, 1) := dk_27 (dk_at dksX0_dyed_0 0 rfl rfl)
theorem dX0_dyed_1 : decode cX0_dyed 1 = .ok (.invokestatic 121, 3) := dk_184 0 121 (dk_at dksX0_dyed_0 1 rfl rfl)
theorem dX0_dyed_4 : decode cX0_dyed 4 = .ok (.ifCond .eq 14, 3) := dk_153 0 14 (dk_at dksX0_dyed_0 4 rfl rfl)
theorem dX0_dyed_7 : decode cX0_dyed 7 = .ok (.aload_n 0, 1) := dk_42 (dk_at dksX0_dyed_0 7 rfl rfl)
theorem dX0_dyed_8 : decode cX0_dyed 8 = .ok (.getfield 12, 3) := dk_180 0 12 (dk_at dksX0_dyed_0 8 rfl rfl)
theorem dX0_dyed_11 : decode cX0_dyed 11 = .ok (.iload_n 1, 1) := dk_27 (dk_at dksX0_dyed_0 11 rfl rfl)
theorem dX0_dyed_12 : decode cX0_dyed 12 = .ok (.invokevirtual 221, 3) := dk_182 0 221 (dk_at dksX0_dyed_0 12 rfl rfl)
theorem dX0_dyed_15 : decode cX0_dyed 15 = .ok (.goto 4, 3) := dk_167 0 4 (dk_at dksX0_dyed_0 15 rfl rfl)
theorem dX0_dyed_18 : decode cX0_dyed 18 = .ok (.iconst (-1), 1) := dk_2 (dk_at dksX0_dyed_0 18 rfl rfl)
theorem dX0_dyed_19 : decode cX0_dyed 19 = .ok (.ireturn, 1) := dk_172 (dk_at dksX0_dyed_0 19 rfl rfl)
abbrev cX0_reach : ByteArray := prog_1_method_31_code
def yX0_reach : MethodName := ⟨RX0, "reach", "(I)I"⟩
def dkwX0_reach_0 : List UInt8 := [27, 184, 0, 121, 153, 0, 14, 42, 180, 0, 12, 27, 182, 0, 224, 167, 0, 4, 2, 172]
abbrev dktX0_reach_0 : List UInt8 := dkwX0_reach_0 ++ []
theorem dksX0_reach_0 : cX0_reach.data.toList.drop 0 = dktX0_reach_0 := by decide +kernel
theorem dX0_reach_0 : decode cX0_reach 0 = .ok (.iload_n 1, 1) := dk_27 (dk_at dksX0_reach_0 0 rfl rfl)
theorem dX0_reach_1 : decode cX0_reach 1 = .ok (.invokestatic 121, 3) := dk_184 0 121 (dk_at dksX0_reach_0 1 rfl rfl)
theorem dX0_reach_4 : decode cX0_reach 4 = .ok (.ifCond .eq 14, 3) := dk_153 0 14 (dk_at dksX0_reach_0 4 rfl rfl)
theorem dX0_reach_7 : decode cX0_reach 7 = .ok (.aload_n 0, 1) := dk_42 (dk_at dksX0_reach_0 7 rfl rfl)
theorem dX0_reach_8 : decode cX0_reach 8 = .ok (.getfield 12, 3) := dk_180 0 12 (dk_at dksX0_reach_0 8 rfl rfl)
theorem dX0_reach_11 : decode cX0_reach 11 = .ok (.iload_n 1, 1) := dk_27 (dk_at dksX0_reach_0 11 rfl rfl)
theorem dX0_reach_12 : decode cX0_reach 12 = .ok (.invokevirtual 224, 3) := dk_182 0 224 (dk_at dksX0_reach_0 12 rfl rfl)
theorem dX0_reach_15 : decode cX0_reach 15 = .ok (.goto 4, 3) := dk_167 0 4 (dk_at dksX0_reach_0 15 rfl rfl)
theorem dX0_reach_18 : decode cX0_reach 18 = .ok (.iconst (-1), 1) := dk_2 (dk_at dksX0_reach_0 18 rfl rfl)
theorem dX0_reach_19 : decode cX0_reach 19 = .ok (.ireturn, 1) := dk_172 (dk_at dksX0_reach_0 19 rfl rfl)
abbrev cX0_arrival : ByteArray := prog_1_method_32_code
def yX0_arrival : MethodName := ⟨RX0, "arrival", "(II)I"⟩
def dkwX0_arrival_3 : List UInt8 := [126, 4, 160, 0, 8, 21, 4, 167, 0, 5, 16, 247, 172]
abbrev dktX0_arrival_3 : List UInt8 := dkwX0_arrival_3 ++ []
def dkwX0_arrival_2 : List UInt8 := [162, 0, 15, 45, 182, 0, 175, 54, 5, 132, 4, 1, 167, 255, 227, 45, 180, 0, 178, 28, 46, 27, 122, 4]
abbrev dktX0_arrival_2 : List UInt8 := dkwX0_arrival_2 ++ dktX0_arrival_3
def dkwX0_arrival_1 : List UInt8 := [182, 0, 32, 78, 3, 54, 4, 45, 180, 0, 178, 28, 46, 27, 122, 4, 126, 154, 0, 22, 21, 4, 16, 60]
abbrev dktX0_arrival_1 : List UInt8 := dkwX0_arrival_1 ++ dktX0_arrival_2
def dkwX0_arrival_0 : List UInt8 := [27, 184, 0, 121, 153, 0, 14, 42, 180, 0, 12, 28, 182, 0, 86, 154, 0, 5, 2, 172, 42, 180, 0, 12]
abbrev dktX0_arrival_0 : List UInt8 := dkwX0_arrival_0 ++ dktX0_arrival_1
theorem dksX0_arrival_0 : cX0_arrival.data.toList.drop 0 = dktX0_arrival_0 := by decide +kernel
theorem dksX0_arrival_1 : cX0_arrival.data.toList.drop 24 = dktX0_arrival_1 := dk_seg dksX0_arrival_0 24 rfl rfl
theorem dksX0_arrival_2 : cX0_arrival.data.toList.drop 48 = dktX0_arrival_2 := dk_seg dksX0_arrival_1 24 rfl rfl
theorem dksX0_arrival_3 : cX0_arrival.data.toList.drop 72 = dktX0_arrival_3 := dk_seg dksX0_arrival_2 24 rfl rfl
theorem dX0_arrival_0 : decode cX0_arrival 0 = .ok (.iload_n 1, 1) := dk_27 (dk_at dksX0_arrival_0 0 rfl rfl)
theorem dX0_arrival_1 : decode cX0_arrival 1 = .ok (.invokestatic 121, 3) := dk_184 0 121 (dk_at dksX0_arrival_0 1 rfl rfl)
theorem dX0_arrival_4 : decode cX0_arrival 4 = .ok (.ifCond .eq 14, 3) := dk_153 0 14 (dk_at dksX0_arrival_0 4 rfl rfl)
theorem dX0_arrival_7 : decode cX0_arrival 7 = .ok (.aload_n 0, 1) := dk_42 (dk_at dksX0_arrival_0 7 rfl rfl)
theorem dX0_arrival_8 : decode cX0_arrival 8 = .ok (.getfield 12, 3) := dk_180 0 12 (dk_at dksX0_arrival_0 8 rfl rfl)
theorem dX0_arrival_11 : decode cX0_arrival 11 = .ok (.iload_n 2, 1) := dk_28 (dk_at dksX0_arrival_0 11 rfl rfl)
theorem dX0_arrival_12 : decode cX0_arrival 12 = .ok (.invokevirtual 86, 3) := dk_182 0 86 (dk_at dksX0_arrival_0 12 rfl rfl)
theorem dX0_arrival_15 : decode cX0_arrival 15 = .ok (.ifCond .ne 5, 3) := dk_154 0 5 (dk_at dksX0_arrival_0 15 rfl rfl)
theorem dX0_arrival_18 : decode cX0_arrival 18 = .ok (.iconst (-1), 1) := dk_2 (dk_at dksX0_arrival_0 18 rfl rfl)
theorem dX0_arrival_19 : decode cX0_arrival 19 = .ok (.ireturn, 1) := dk_172 (dk_at dksX0_arrival_0 19 rfl rfl)
theorem dX0_arrival_20 : decode cX0_arrival 20 = .ok (.aload_n 0, 1) := dk_42 (dk_at dksX0_arrival_0 20 rfl rfl)
theorem dX0_arrival_21 : decode cX0_arrival 21 = .ok (.getfield 12, 3) := dk_180 0 12 (dk_at dksX0_arrival_0 21 rfl rfl)
theorem dX0_arrival_24 : decode cX0_arrival 24 = .ok (.invokevirtual 32, 3) := dk_182 0 32 (dk_at dksX0_arrival_1 0 rfl rfl)
theorem dX0_arrival_27 : decode cX0_arrival 27 = .ok (.astore_n 3, 1) := dk_78 (dk_at dksX0_arrival_1 3 rfl rfl)
theorem dX0_arrival_28 : decode cX0_arrival 28 = .ok (.iconst 0, 1) := dk_3 (dk_at dksX0_arrival_1 4 rfl rfl)
theorem dX0_arrival_29 : decode cX0_arrival 29 = .ok (.istore 4, 2) := dk_54 4 (dk_at dksX0_arrival_1 5 rfl rfl)
theorem dX0_arrival_31 : decode cX0_arrival 31 = .ok (.aload_n 3, 1) := dk_45 (dk_at dksX0_arrival_1 7 rfl rfl)
theorem dX0_arrival_32 : decode cX0_arrival 32 = .ok (.getfield 178, 3) := dk_180 0 178 (dk_at dksX0_arrival_1 8 rfl rfl)
theorem dX0_arrival_35 : decode cX0_arrival 35 = .ok (.iload_n 2, 1) := dk_28 (dk_at dksX0_arrival_1 11 rfl rfl)
theorem dX0_arrival_36 : decode cX0_arrival 36 = .ok (.iaload, 1) := dk_46 (dk_at dksX0_arrival_1 12 rfl rfl)
theorem dX0_arrival_37 : decode cX0_arrival 37 = .ok (.iload_n 1, 1) := dk_27 (dk_at dksX0_arrival_1 13 rfl rfl)
theorem dX0_arrival_38 : decode cX0_arrival 38 = .ok (.ishr, 1) := dk_122 (dk_at dksX0_arrival_1 14 rfl rfl)
theorem dX0_arrival_39 : decode cX0_arrival 39 = .ok (.iconst 1, 1) := dk_4 (dk_at dksX0_arrival_1 15 rfl rfl)
theorem dX0_arrival_40 : decode cX0_arrival 40 = .ok (.iand, 1) := dk_126 (dk_at dksX0_arrival_1 16 rfl rfl)
theorem dX0_arrival_41 : decode cX0_arrival 41 = .ok (.ifCond .ne 22, 3) := dk_154 0 22 (dk_at dksX0_arrival_1 17 rfl rfl)
theorem dX0_arrival_44 : decode cX0_arrival 44 = .ok (.iload 4, 2) := dk_21 4 (dk_at dksX0_arrival_1 20 rfl rfl)
theorem dX0_arrival_46 : decode cX0_arrival 46 = .ok (.bipush 60, 2) := dk_16 60 (dk_at dksX0_arrival_1 22 rfl rfl)
theorem dX0_arrival_48 : decode cX0_arrival 48 = .ok (.if_icmp .ge 15, 3) := dk_162 0 15 (dk_at dksX0_arrival_2 0 rfl rfl)
theorem dX0_arrival_51 : decode cX0_arrival 51 = .ok (.aload_n 3, 1) := dk_45 (dk_at dksX0_arrival_2 3 rfl rfl)
theorem dX0_arrival_52 : decode cX0_arrival 52 = .ok (.invokevirtual 175, 3) := dk_182 0 175 (dk_at dksX0_arrival_2 4 rfl rfl)
theorem dX0_arrival_55 : decode cX0_arrival 55 = .ok (.istore 5, 2) := dk_54 5 (dk_at dksX0_arrival_2 7 rfl rfl)
theorem dX0_arrival_57 : decode cX0_arrival 57 = .ok (.iinc 4 1, 3) := dk_132 4 1 (dk_at dksX0_arrival_2 9 rfl rfl)
theorem dX0_arrival_60 : decode cX0_arrival 60 = .ok (.goto (-29), 3) := dk_167 255 227 (dk_at dksX0_arrival_2 12 rfl rfl)
theorem dX0_arrival_63 : decode cX0_arrival 63 = .ok (.aload_n 3, 1) := dk_45 (dk_at dksX0_arrival_2 15 rfl rfl)
theorem dX0_arrival_64 : decode cX0_arrival 64 = .ok (.getfield 178, 3) := dk_180 0 178 (dk_at dksX0_arrival_2 16 rfl rfl)
theorem dX0_arrival_67 : decode cX0_arrival 67 = .ok (.iload_n 2, 1) := dk_28 (dk_at dksX0_arrival_2 19 rfl rfl)
theorem dX0_arrival_68 : decode cX0_arrival 68 = .ok (.iaload, 1) := dk_46 (dk_at dksX0_arrival_2 20 rfl rfl)
theorem dX0_arrival_69 : decode cX0_arrival 69 = .ok (.iload_n 1, 1) := dk_27 (dk_at dksX0_arrival_2 21 rfl rfl)
theorem dX0_arrival_70 : decode cX0_arrival 70 = .ok (.ishr, 1) := dk_122 (dk_at dksX0_arrival_2 22 rfl rfl)
theorem dX0_arrival_71 : decode cX0_arrival 71 = .ok (.iconst 1, 1) := dk_4 (dk_at dksX0_arrival_2 23 rfl rfl)
theorem dX0_arrival_72 : decode cX0_arrival 72 = .ok (.iand, 1) := dk_126 (dk_at dksX0_arrival_3 0 rfl rfl)
theorem dX0_arrival_73 : decode cX0_arrival 73 = .ok (.iconst 1, 1) := dk_4 (dk_at dksX0_arrival_3 1 rfl rfl)
theorem dX0_arrival_74 : decode cX0_arrival 74 = .ok (.if_icmp .ne 8, 3) := dk_160 0 8 (dk_at dksX0_arrival_3 2 rfl rfl)
theorem dX0_arrival_77 : decode cX0_arrival 77 = .ok (.iload 4, 2) := dk_21 4 (dk_at dksX0_arrival_3 5 rfl rfl)
theorem dX0_arrival_79 : decode cX0_arrival 79 = .ok (.goto 5, 3) := dk_167 0 5 (dk_at dksX0_arrival_3 7 rfl rfl)
theorem dX0_arrival_82 : decode cX0_arrival 82 = .ok (.bipush (-9), 2) := dk_16 247 (dk_at dksX0_arrival_3 10 rfl rfl)
theorem dX0_arrival_84 : decode cX0_arrival 84 = .ok (.ireturn, 1) := dk_172 (dk_at dksX0_arrival_3 12 rfl rfl)
abbrev cX0_cluster : ByteArray := prog_1_method_35_code
def yX0_cluster : MethodName := ⟨RX0, "cluster", "(II)I"⟩
def dkwX0_cluster_8 : List UInt8 := [45, 182, 0, 237, 172]
abbrev dktX0_cluster_8 : List UInt8 := dkwX0_cluster_8 ++ []
def dkwX0_cluster_7 : List UInt8 := [21, 4, 172, 21, 5, 172, 21, 6, 172, 21, 7, 172, 42, 27, 28, 8, 160, 0, 7, 4, 167, 0, 4, 3]
abbrev dktX0_cluster_7 : List UInt8 := dkwX0_cluster_7 ++ dktX0_cluster_8
def dkwX0_cluster_6 : List UInt8 := [170, 0, 0, 0, 0, 42, 0, 0, 0, 0, 0, 0, 0, 3, 0, 0, 0, 30, 0, 0, 0, 33, 0, 0, 0, 36, 0, 0, 0, 39]
abbrev dktX0_cluster_6 : List UInt8 := dkwX0_cluster_6 ++ dktX0_cluster_7
def dkwX0_cluster_5 : List UInt8 := [132, 8, 1, 167, 255, 195, 28]
abbrev dktX0_cluster_5 : List UInt8 := dkwX0_cluster_5 ++ dktX0_cluster_6
def dkwX0_cluster_4 : List UInt8 := [180, 0, 12, 180, 0, 90, 21, 8, 46, 96, 54, 6, 21, 7, 42, 21, 8, 182, 0, 234, 128, 54, 7]
abbrev dktX0_cluster_4 : List UInt8 := dkwX0_cluster_4 ++ dktX0_cluster_5
def dkwX0_cluster_3 : List UInt8 := [160, 0, 46, 21, 5, 154, 0, 8, 21, 8, 167, 0, 5, 21, 4, 54, 4, 132, 5, 1, 21, 6, 42]
abbrev dktX0_cluster_3 : List UInt8 := dkwX0_cluster_3 ++ dktX0_cluster_4
def dkwX0_cluster_2 : List UInt8 := [54, 5, 3, 54, 6, 3, 54, 7, 3, 54, 8, 21, 8, 45, 190, 162, 0, 60, 45, 21, 8, 46, 27]
abbrev dktX0_cluster_2 : List UInt8 := dkwX0_cluster_2 ++ dktX0_cluster_3
def dkwX0_cluster_1 : List UInt8 := [180, 0, 114, 182, 0, 204, 78, 27, 45, 184, 0, 208, 161, 0, 6, 16, 247, 172, 16, 247, 54, 4, 3]
abbrev dktX0_cluster_1 : List UInt8 := dkwX0_cluster_1 ++ dktX0_cluster_2
def dkwX0_cluster_0 : List UInt8 := [27, 155, 0, 12, 28, 3, 8, 184, 0, 52, 154, 0, 5, 2, 172, 42, 180, 0, 12, 42, 180, 0, 12]
abbrev dktX0_cluster_0 : List UInt8 := dkwX0_cluster_0 ++ dktX0_cluster_1
theorem dksX0_cluster_0 : cX0_cluster.data.toList.drop 0 = dktX0_cluster_0 := by decide +kernel
theorem dksX0_cluster_1 : cX0_cluster.data.toList.drop 23 = dktX0_cluster_1 := dk_seg dksX0_cluster_0 23 rfl rfl
theorem dksX0_cluster_2 : cX0_cluster.data.toList.drop 46 = dktX0_cluster_2 := dk_seg dksX0_cluster_1 23 rfl rfl
theorem dksX0_cluster_3 : cX0_cluster.data.toList.drop 69 = dktX0_cluster_3 := dk_seg dksX0_cluster_2 23 rfl rfl
theorem dksX0_cluster_4 : cX0_cluster.data.toList.drop 92 = dktX0_cluster_4 := dk_seg dksX0_cluster_3 23 rfl rfl
theorem dksX0_cluster_5 : cX0_cluster.data.toList.drop 115 = dktX0_cluster_5 := dk_seg dksX0_cluster_4 23 rfl rfl
theorem dksX0_cluster_6 : cX0_cluster.data.toList.drop 122 = dktX0_cluster_6 := dk_seg dksX0_cluster_5 7 rfl rfl
theorem dksX0_cluster_7 : cX0_cluster.data.toList.drop 152 = dktX0_cluster_7 := dk_seg dksX0_cluster_6 30 rfl rfl
theorem dksX0_cluster_8 : cX0_cluster.data.toList.drop 176 = dktX0_cluster_8 := dk_seg dksX0_cluster_7 24 rfl rfl
theorem dX0_cluster_0 : decode cX0_cluster 0 = .ok (.iload_n 1, 1) := dk_27 (dk_at dksX0_cluster_0 0 rfl rfl)
theorem dX0_cluster_1 : decode cX0_cluster 1 = .ok (.ifCond .lt 12, 3) := dk_155 0 12 (dk_at dksX0_cluster_0 1 rfl rfl)
theorem dX0_cluster_4 : decode cX0_cluster 4 = .ok (.iload_n 2, 1) := dk_28 (dk_at dksX0_cluster_0 4 rfl rfl)
theorem dX0_cluster_5 : decode cX0_cluster 5 = .ok (.iconst 0, 1) := dk_3 (dk_at dksX0_cluster_0 5 rfl rfl)
theorem dX0_cluster_6 : decode cX0_cluster 6 = .ok (.iconst 5, 1) := dk_8 (dk_at dksX0_cluster_0 6 rfl rfl)
theorem dX0_cluster_7 : decode cX0_cluster 7 = .ok (.invokestatic 52, 3) := dk_184 0 52 (dk_at dksX0_cluster_0 7 rfl rfl)
theorem dX0_cluster_10 : decode cX0_cluster 10 = .ok (.ifCond .ne 5, 3) := dk_154 0 5 (dk_at dksX0_cluster_0 10 rfl rfl)
theorem dX0_cluster_13 : decode cX0_cluster 13 = .ok (.iconst (-1), 1) := dk_2 (dk_at dksX0_cluster_0 13 rfl rfl)
theorem dX0_cluster_14 : decode cX0_cluster 14 = .ok (.ireturn, 1) := dk_172 (dk_at dksX0_cluster_0 14 rfl rfl)
theorem dX0_cluster_15 : decode cX0_cluster 15 = .ok (.aload_n 0, 1) := dk_42 (dk_at dksX0_cluster_0 15 rfl rfl)
theorem dX0_cluster_16 : decode cX0_cluster 16 = .ok (.getfield 12, 3) := dk_180 0 12 (dk_at dksX0_cluster_0 16 rfl rfl)
theorem dX0_cluster_19 : decode cX0_cluster 19 = .ok (.aload_n 0, 1) := dk_42 (dk_at dksX0_cluster_0 19 rfl rfl)
theorem dX0_cluster_20 : decode cX0_cluster 20 = .ok (.getfield 12, 3) := dk_180 0 12 (dk_at dksX0_cluster_0 20 rfl rfl)
theorem dX0_cluster_23 : decode cX0_cluster 23 = .ok (.getfield 114, 3) := dk_180 0 114 (dk_at dksX0_cluster_1 0 rfl rfl)
theorem dX0_cluster_26 : decode cX0_cluster 26 = .ok (.invokevirtual 204, 3) := dk_182 0 204 (dk_at dksX0_cluster_1 3 rfl rfl)
theorem dX0_cluster_29 : decode cX0_cluster 29 = .ok (.astore_n 3, 1) := dk_78 (dk_at dksX0_cluster_1 6 rfl rfl)
theorem dX0_cluster_30 : decode cX0_cluster 30 = .ok (.iload_n 1, 1) := dk_27 (dk_at dksX0_cluster_1 7 rfl rfl)
theorem dX0_cluster_31 : decode cX0_cluster 31 = .ok (.aload_n 3, 1) := dk_45 (dk_at dksX0_cluster_1 8 rfl rfl)
theorem dX0_cluster_32 : decode cX0_cluster 32 = .ok (.invokestatic 208, 3) := dk_184 0 208 (dk_at dksX0_cluster_1 9 rfl rfl)
theorem dX0_cluster_35 : decode cX0_cluster 35 = .ok (.if_icmp .lt 6, 3) := dk_161 0 6 (dk_at dksX0_cluster_1 12 rfl rfl)
theorem dX0_cluster_38 : decode cX0_cluster 38 = .ok (.bipush (-9), 2) := dk_16 247 (dk_at dksX0_cluster_1 15 rfl rfl)
theorem dX0_cluster_40 : decode cX0_cluster 40 = .ok (.ireturn, 1) := dk_172 (dk_at dksX0_cluster_1 17 rfl rfl)
theorem dX0_cluster_41 : decode cX0_cluster 41 = .ok (.bipush (-9), 2) := dk_16 247 (dk_at dksX0_cluster_1 18 rfl rfl)
theorem dX0_cluster_43 : decode cX0_cluster 43 = .ok (.istore 4, 2) := dk_54 4 (dk_at dksX0_cluster_1 20 rfl rfl)
theorem dX0_cluster_45 : decode cX0_cluster 45 = .ok (.iconst 0, 1) := dk_3 (dk_at dksX0_cluster_1 22 rfl rfl)
theorem dX0_cluster_46 : decode cX0_cluster 46 = .ok (.istore 5, 2) := dk_54 5 (dk_at dksX0_cluster_2 0 rfl rfl)
theorem dX0_cluster_48 : decode cX0_cluster 48 = .ok (.iconst 0, 1) := dk_3 (dk_at dksX0_cluster_2 2 rfl rfl)
theorem dX0_cluster_49 : decode cX0_cluster 49 = .ok (.istore 6, 2) := dk_54 6 (dk_at dksX0_cluster_2 3 rfl rfl)
theorem dX0_cluster_51 : decode cX0_cluster 51 = .ok (.iconst 0, 1) := dk_3 (dk_at dksX0_cluster_2 5 rfl rfl)
theorem dX0_cluster_52 : decode cX0_cluster 52 = .ok (.istore 7, 2) := dk_54 7 (dk_at dksX0_cluster_2 6 rfl rfl)
theorem dX0_cluster_54 : decode cX0_cluster 54 = .ok (.iconst 0, 1) := dk_3 (dk_at dksX0_cluster_2 8 rfl rfl)
theorem dX0_cluster_55 : decode cX0_cluster 55 = .ok (.istore 8, 2) := dk_54 8 (dk_at dksX0_cluster_2 9 rfl rfl)
theorem dX0_cluster_57 : decode cX0_cluster 57 = .ok (.iload 8, 2) := dk_21 8 (dk_at dksX0_cluster_2 11 rfl rfl)
theorem dX0_cluster_59 : decode cX0_cluster 59 = .ok (.aload_n 3, 1) := dk_45 (dk_at dksX0_cluster_2 13 rfl rfl)
theorem dX0_cluster_60 : decode cX0_cluster 60 = .ok (.arraylength, 1) := dk_190 (dk_at dksX0_cluster_2 14 rfl rfl)
theorem dX0_cluster_61 : decode cX0_cluster 61 = .ok (.if_icmp .ge 60, 3) := dk_162 0 60 (dk_at dksX0_cluster_2 15 rfl rfl)
theorem dX0_cluster_64 : decode cX0_cluster 64 = .ok (.aload_n 3, 1) := dk_45 (dk_at dksX0_cluster_2 18 rfl rfl)
theorem dX0_cluster_65 : decode cX0_cluster 65 = .ok (.iload 8, 2) := dk_21 8 (dk_at dksX0_cluster_2 19 rfl rfl)
theorem dX0_cluster_67 : decode cX0_cluster 67 = .ok (.iaload, 1) := dk_46 (dk_at dksX0_cluster_2 21 rfl rfl)
theorem dX0_cluster_68 : decode cX0_cluster 68 = .ok (.iload_n 1, 1) := dk_27 (dk_at dksX0_cluster_2 22 rfl rfl)
theorem dX0_cluster_69 : decode cX0_cluster 69 = .ok (.if_icmp .ne 46, 3) := dk_160 0 46 (dk_at dksX0_cluster_3 0 rfl rfl)
theorem dX0_cluster_72 : decode cX0_cluster 72 = .ok (.iload 5, 2) := dk_21 5 (dk_at dksX0_cluster_3 3 rfl rfl)
theorem dX0_cluster_74 : decode cX0_cluster 74 = .ok (.ifCond .ne 8, 3) := dk_154 0 8 (dk_at dksX0_cluster_3 5 rfl rfl)
theorem dX0_cluster_77 : decode cX0_cluster 77 = .ok (.iload 8, 2) := dk_21 8 (dk_at dksX0_cluster_3 8 rfl rfl)
theorem dX0_cluster_79 : decode cX0_cluster 79 = .ok (.goto 5, 3) := dk_167 0 5 (dk_at dksX0_cluster_3 10 rfl rfl)
theorem dX0_cluster_82 : decode cX0_cluster 82 = .ok (.iload 4, 2) := dk_21 4 (dk_at dksX0_cluster_3 13 rfl rfl)
theorem dX0_cluster_84 : decode cX0_cluster 84 = .ok (.istore 4, 2) := dk_54 4 (dk_at dksX0_cluster_3 15 rfl rfl)
theorem dX0_cluster_86 : decode cX0_cluster 86 = .ok (.iinc 5 1, 3) := dk_132 5 1 (dk_at dksX0_cluster_3 17 rfl rfl)
theorem dX0_cluster_89 : decode cX0_cluster 89 = .ok (.iload 6, 2) := dk_21 6 (dk_at dksX0_cluster_3 20 rfl rfl)
theorem dX0_cluster_91 : decode cX0_cluster 91 = .ok (.aload_n 0, 1) := dk_42 (dk_at dksX0_cluster_3 22 rfl rfl)
theorem dX0_cluster_92 : decode cX0_cluster 92 = .ok (.getfield 12, 3) := dk_180 0 12 (dk_at dksX0_cluster_4 0 rfl rfl)
theorem dX0_cluster_95 : decode cX0_cluster 95 = .ok (.getfield 90, 3) := dk_180 0 90 (dk_at dksX0_cluster_4 3 rfl rfl)
theorem dX0_cluster_98 : decode cX0_cluster 98 = .ok (.iload 8, 2) := dk_21 8 (dk_at dksX0_cluster_4 6 rfl rfl)
theorem dX0_cluster_100 : decode cX0_cluster 100 = .ok (.iaload, 1) := dk_46 (dk_at dksX0_cluster_4 8 rfl rfl)
theorem dX0_cluster_101 : decode cX0_cluster 101 = .ok (.iadd, 1) := dk_96 (dk_at dksX0_cluster_4 9 rfl rfl)
theorem dX0_cluster_102 : decode cX0_cluster 102 = .ok (.istore 6, 2) := dk_54 6 (dk_at dksX0_cluster_4 10 rfl rfl)
theorem dX0_cluster_104 : decode cX0_cluster 104 = .ok (.iload 7, 2) := dk_21 7 (dk_at dksX0_cluster_4 12 rfl rfl)
theorem dX0_cluster_106 : decode cX0_cluster 106 = .ok (.aload_n 0, 1) := dk_42 (dk_at dksX0_cluster_4 14 rfl rfl)
theorem dX0_cluster_107 : decode cX0_cluster 107 = .ok (.iload 8, 2) := dk_21 8 (dk_at dksX0_cluster_4 15 rfl rfl)
theorem dX0_cluster_109 : decode cX0_cluster 109 = .ok (.invokevirtual 234, 3) := dk_182 0 234 (dk_at dksX0_cluster_4 17 rfl rfl)
theorem dX0_cluster_112 : decode cX0_cluster 112 = .ok (.ior, 1) := dk_128 (dk_at dksX0_cluster_4 20 rfl rfl)
theorem dX0_cluster_113 : decode cX0_cluster 113 = .ok (.istore 7, 2) := dk_54 7 (dk_at dksX0_cluster_4 21 rfl rfl)
theorem dX0_cluster_115 : decode cX0_cluster 115 = .ok (.iinc 8 1, 3) := dk_132 8 1 (dk_at dksX0_cluster_5 0 rfl rfl)
theorem dX0_cluster_118 : decode cX0_cluster 118 = .ok (.goto (-61), 3) := dk_167 255 195 (dk_at dksX0_cluster_5 3 rfl rfl)
theorem dX0_cluster_121 : decode cX0_cluster 121 = .ok (.iload_n 2, 1) := dk_28 (dk_at dksX0_cluster_5 6 rfl rfl)
theorem dX0_cluster_122 : decode cX0_cluster 122 = .ok (.tableswitch 42 0 3 #[30, 33, 36, 39], 30) := by decide +kernel
theorem dX0_cluster_152 : decode cX0_cluster 152 = .ok (.iload 4, 2) := dk_21 4 (dk_at dksX0_cluster_7 0 rfl rfl)
theorem dX0_cluster_154 : decode cX0_cluster 154 = .ok (.ireturn, 1) := dk_172 (dk_at dksX0_cluster_7 2 rfl rfl)
theorem dX0_cluster_155 : decode cX0_cluster 155 = .ok (.iload 5, 2) := dk_21 5 (dk_at dksX0_cluster_7 3 rfl rfl)
theorem dX0_cluster_157 : decode cX0_cluster 157 = .ok (.ireturn, 1) := dk_172 (dk_at dksX0_cluster_7 5 rfl rfl)
theorem dX0_cluster_158 : decode cX0_cluster 158 = .ok (.iload 6, 2) := dk_21 6 (dk_at dksX0_cluster_7 6 rfl rfl)
theorem dX0_cluster_160 : decode cX0_cluster 160 = .ok (.ireturn, 1) := dk_172 (dk_at dksX0_cluster_7 8 rfl rfl)
theorem dX0_cluster_161 : decode cX0_cluster 161 = .ok (.iload 7, 2) := dk_21 7 (dk_at dksX0_cluster_7 9 rfl rfl)
theorem dX0_cluster_163 : decode cX0_cluster 163 = .ok (.ireturn, 1) := dk_172 (dk_at dksX0_cluster_7 11 rfl rfl)
theorem dX0_cluster_164 : decode cX0_cluster 164 = .ok (.aload_n 0, 1) := dk_42 (dk_at dksX0_cluster_7 12 rfl rfl)
theorem dX0_cluster_165 : decode cX0_cluster 165 = .ok (.iload_n 1, 1) := dk_27 (dk_at dksX0_cluster_7 13 rfl rfl)
theorem dX0_cluster_166 : decode cX0_cluster 166 = .ok (.iload_n 2, 1) := dk_28 (dk_at dksX0_cluster_7 14 rfl rfl)
theorem dX0_cluster_167 : decode cX0_cluster 167 = .ok (.iconst 5, 1) := dk_8 (dk_at dksX0_cluster_7 15 rfl rfl)
theorem dX0_cluster_168 : decode cX0_cluster 168 = .ok (.if_icmp .ne 7, 3) := dk_160 0 7 (dk_at dksX0_cluster_7 16 rfl rfl)
theorem dX0_cluster_171 : decode cX0_cluster 171 = .ok (.iconst 1, 1) := dk_4 (dk_at dksX0_cluster_7 19 rfl rfl)
theorem dX0_cluster_172 : decode cX0_cluster 172 = .ok (.goto 4, 3) := dk_167 0 4 (dk_at dksX0_cluster_7 20 rfl rfl)
theorem dX0_cluster_175 : decode cX0_cluster 175 = .ok (.iconst 0, 1) := dk_3 (dk_at dksX0_cluster_7 23 rfl rfl)
theorem dX0_cluster_176 : decode cX0_cluster 176 = .ok (.aload_n 3, 1) := dk_45 (dk_at dksX0_cluster_8 0 rfl rfl)
theorem dX0_cluster_177 : decode cX0_cluster 177 = .ok (.invokevirtual 237, 3) := dk_182 0 237 (dk_at dksX0_cluster_8 1 rfl rfl)
theorem dX0_cluster_180 : decode cX0_cluster 180 = .ok (.ireturn, 1) := dk_172 (dk_at dksX0_cluster_8 4 rfl rfl)
abbrev cX0_sides : ByteArray := prog_1_method_33_code
def yX0_sides : MethodName := ⟨RX0, "sides", "(I)I"⟩
def dkwX0_sides_3 : List UInt8 := [16, 8, 167, 0, 4, 3, 128, 172]
abbrev dktX0_sides_3 : List UInt8 := dkwX0_sides_3 ++ []
def dkwX0_sides_2 : List UInt8 := [29, 154, 0, 7, 7, 167, 0, 4, 3, 128, 29, 42, 180, 0, 12, 180, 0, 200, 4, 100, 160, 0, 8]
abbrev dktX0_sides_2 : List UInt8 := dkwX0_sides_2 ++ dktX0_sides_3
def dkwX0_sides_1 : List UInt8 := [4, 167, 0, 4, 3, 28, 42, 180, 0, 12, 180, 0, 197, 4, 100, 160, 0, 7, 5, 167, 0, 4, 3, 128]
abbrev dktX0_sides_1 : List UInt8 := dkwX0_sides_1 ++ dktX0_sides_2
def dkwX0_sides_0 : List UInt8 := [27, 42, 180, 0, 12, 180, 0, 197, 112, 61, 27, 42, 180, 0, 12, 180, 0, 197, 108, 62, 28, 154, 0, 7]
abbrev dktX0_sides_0 : List UInt8 := dkwX0_sides_0 ++ dktX0_sides_1
theorem dksX0_sides_0 : cX0_sides.data.toList.drop 0 = dktX0_sides_0 := by decide +kernel
theorem dksX0_sides_1 : cX0_sides.data.toList.drop 24 = dktX0_sides_1 := dk_seg dksX0_sides_0 24 rfl rfl
theorem dksX0_sides_2 : cX0_sides.data.toList.drop 48 = dktX0_sides_2 := dk_seg dksX0_sides_1 24 rfl rfl
theorem dksX0_sides_3 : cX0_sides.data.toList.drop 71 = dktX0_sides_3 := dk_seg dksX0_sides_2 23 rfl rfl
theorem dX0_sides_0 : decode cX0_sides 0 = .ok (.iload_n 1, 1) := dk_27 (dk_at dksX0_sides_0 0 rfl rfl)
theorem dX0_sides_1 : decode cX0_sides 1 = .ok (.aload_n 0, 1) := dk_42 (dk_at dksX0_sides_0 1 rfl rfl)
theorem dX0_sides_2 : decode cX0_sides 2 = .ok (.getfield 12, 3) := dk_180 0 12 (dk_at dksX0_sides_0 2 rfl rfl)
theorem dX0_sides_5 : decode cX0_sides 5 = .ok (.getfield 197, 3) := dk_180 0 197 (dk_at dksX0_sides_0 5 rfl rfl)
theorem dX0_sides_8 : decode cX0_sides 8 = .ok (.irem, 1) := dk_112 (dk_at dksX0_sides_0 8 rfl rfl)
theorem dX0_sides_9 : decode cX0_sides 9 = .ok (.istore_n 2, 1) := dk_61 (dk_at dksX0_sides_0 9 rfl rfl)
theorem dX0_sides_10 : decode cX0_sides 10 = .ok (.iload_n 1, 1) := dk_27 (dk_at dksX0_sides_0 10 rfl rfl)
theorem dX0_sides_11 : decode cX0_sides 11 = .ok (.aload_n 0, 1) := dk_42 (dk_at dksX0_sides_0 11 rfl rfl)
theorem dX0_sides_12 : decode cX0_sides 12 = .ok (.getfield 12, 3) := dk_180 0 12 (dk_at dksX0_sides_0 12 rfl rfl)
theorem dX0_sides_15 : decode cX0_sides 15 = .ok (.getfield 197, 3) := dk_180 0 197 (dk_at dksX0_sides_0 15 rfl rfl)
theorem dX0_sides_18 : decode cX0_sides 18 = .ok (.idiv, 1) := dk_108 (dk_at dksX0_sides_0 18 rfl rfl)
theorem dX0_sides_19 : decode cX0_sides 19 = .ok (.istore_n 3, 1) := dk_62 (dk_at dksX0_sides_0 19 rfl rfl)
theorem dX0_sides_20 : decode cX0_sides 20 = .ok (.iload_n 2, 1) := dk_28 (dk_at dksX0_sides_0 20 rfl rfl)
theorem dX0_sides_21 : decode cX0_sides 21 = .ok (.ifCond .ne 7, 3) := dk_154 0 7 (dk_at dksX0_sides_0 21 rfl rfl)
theorem dX0_sides_24 : decode cX0_sides 24 = .ok (.iconst 1, 1) := dk_4 (dk_at dksX0_sides_1 0 rfl rfl)
theorem dX0_sides_25 : decode cX0_sides 25 = .ok (.goto 4, 3) := dk_167 0 4 (dk_at dksX0_sides_1 1 rfl rfl)
theorem dX0_sides_28 : decode cX0_sides 28 = .ok (.iconst 0, 1) := dk_3 (dk_at dksX0_sides_1 4 rfl rfl)
theorem dX0_sides_29 : decode cX0_sides 29 = .ok (.iload_n 2, 1) := dk_28 (dk_at dksX0_sides_1 5 rfl rfl)
theorem dX0_sides_30 : decode cX0_sides 30 = .ok (.aload_n 0, 1) := dk_42 (dk_at dksX0_sides_1 6 rfl rfl)
theorem dX0_sides_31 : decode cX0_sides 31 = .ok (.getfield 12, 3) := dk_180 0 12 (dk_at dksX0_sides_1 7 rfl rfl)
theorem dX0_sides_34 : decode cX0_sides 34 = .ok (.getfield 197, 3) := dk_180 0 197 (dk_at dksX0_sides_1 10 rfl rfl)
theorem dX0_sides_37 : decode cX0_sides 37 = .ok (.iconst 1, 1) := dk_4 (dk_at dksX0_sides_1 13 rfl rfl)
theorem dX0_sides_38 : decode cX0_sides 38 = .ok (.isub, 1) := dk_100 (dk_at dksX0_sides_1 14 rfl rfl)
theorem dX0_sides_39 : decode cX0_sides 39 = .ok (.if_icmp .ne 7, 3) := dk_160 0 7 (dk_at dksX0_sides_1 15 rfl rfl)
theorem dX0_sides_42 : decode cX0_sides 42 = .ok (.iconst 2, 1) := dk_5 (dk_at dksX0_sides_1 18 rfl rfl)
theorem dX0_sides_43 : decode cX0_sides 43 = .ok (.goto 4, 3) := dk_167 0 4 (dk_at dksX0_sides_1 19 rfl rfl)
theorem dX0_sides_46 : decode cX0_sides 46 = .ok (.iconst 0, 1) := dk_3 (dk_at dksX0_sides_1 22 rfl rfl)
theorem dX0_sides_47 : decode cX0_sides 47 = .ok (.ior, 1) := dk_128 (dk_at dksX0_sides_1 23 rfl rfl)
theorem dX0_sides_48 : decode cX0_sides 48 = .ok (.iload_n 3, 1) := dk_29 (dk_at dksX0_sides_2 0 rfl rfl)
theorem dX0_sides_49 : decode cX0_sides 49 = .ok (.ifCond .ne 7, 3) := dk_154 0 7 (dk_at dksX0_sides_2 1 rfl rfl)
theorem dX0_sides_52 : decode cX0_sides 52 = .ok (.iconst 4, 1) := dk_7 (dk_at dksX0_sides_2 4 rfl rfl)
theorem dX0_sides_53 : decode cX0_sides 53 = .ok (.goto 4, 3) := dk_167 0 4 (dk_at dksX0_sides_2 5 rfl rfl)
theorem dX0_sides_56 : decode cX0_sides 56 = .ok (.iconst 0, 1) := dk_3 (dk_at dksX0_sides_2 8 rfl rfl)
theorem dX0_sides_57 : decode cX0_sides 57 = .ok (.ior, 1) := dk_128 (dk_at dksX0_sides_2 9 rfl rfl)
theorem dX0_sides_58 : decode cX0_sides 58 = .ok (.iload_n 3, 1) := dk_29 (dk_at dksX0_sides_2 10 rfl rfl)
theorem dX0_sides_59 : decode cX0_sides 59 = .ok (.aload_n 0, 1) := dk_42 (dk_at dksX0_sides_2 11 rfl rfl)
theorem dX0_sides_60 : decode cX0_sides 60 = .ok (.getfield 12, 3) := dk_180 0 12 (dk_at dksX0_sides_2 12 rfl rfl)
theorem dX0_sides_63 : decode cX0_sides 63 = .ok (.getfield 200, 3) := dk_180 0 200 (dk_at dksX0_sides_2 15 rfl rfl)
theorem dX0_sides_66 : decode cX0_sides 66 = .ok (.iconst 1, 1) := dk_4 (dk_at dksX0_sides_2 18 rfl rfl)
theorem dX0_sides_67 : decode cX0_sides 67 = .ok (.isub, 1) := dk_100 (dk_at dksX0_sides_2 19 rfl rfl)
theorem dX0_sides_68 : decode cX0_sides 68 = .ok (.if_icmp .ne 8, 3) := dk_160 0 8 (dk_at dksX0_sides_2 20 rfl rfl)
theorem dX0_sides_71 : decode cX0_sides 71 = .ok (.bipush 8, 2) := dk_16 8 (dk_at dksX0_sides_3 0 rfl rfl)
theorem dX0_sides_73 : decode cX0_sides 73 = .ok (.goto 4, 3) := dk_167 0 4 (dk_at dksX0_sides_3 2 rfl rfl)
theorem dX0_sides_76 : decode cX0_sides 76 = .ok (.iconst 0, 1) := dk_3 (dk_at dksX0_sides_3 5 rfl rfl)
theorem dX0_sides_77 : decode cX0_sides 77 = .ok (.ior, 1) := dk_128 (dk_at dksX0_sides_3 6 rfl rfl)
theorem dX0_sides_78 : decode cX0_sides 78 = .ok (.ireturn, 1) := dk_172 (dk_at dksX0_sides_3 7 rfl rfl)
abbrev cX0_bondsOf : ByteArray := prog_1_method_34_code
def yX0_bondsOf : MethodName := ⟨RX0, "bondsOf", "(IZ[I)I"⟩
def dkwX0_bondsOf_5 : List UInt8 := [21, 7, 21, 8, 159, 0, 7, 4, 167, 0, 4, 3, 96, 54, 4, 132, 5, 1, 167, 255, 127, 21, 4, 172]
abbrev dktX0_bondsOf_5 : List UInt8 := dkwX0_bondsOf_5 ++ []
def dkwX0_bondsOf_4 : List UInt8 := [21, 8, 153, 0, 33, 42, 180, 0, 12, 180, 0, 102, 21, 5, 50, 178, 0, 230, 165, 0, 17, 167, 0, 10]
abbrev dktX0_bondsOf_4 : List UInt8 := dkwX0_bondsOf_4 ++ dktX0_bondsOf_5
def dkwX0_bondsOf_3 : List UInt8 := [46, 27, 160, 0, 7, 4, 167, 0, 4, 3, 54, 8, 21, 4, 28, 153, 0, 32, 21, 7, 153, 0, 38]
abbrev dktX0_bondsOf_3 : List UInt8 := dkwX0_bondsOf_3 ++ dktX0_bondsOf_4
def dkwX0_bondsOf_2 : List UInt8 := [160, 0, 7, 4, 167, 0, 4, 3, 54, 7, 45, 42, 180, 0, 12, 21, 6, 21, 5, 7, 112, 182, 0, 227]
abbrev dktX0_bondsOf_2 : List UInt8 := dkwX0_bondsOf_2 ++ dktX0_bondsOf_3
def dkwX0_bondsOf_1 : List UInt8 := [54, 6, 42, 180, 0, 12, 21, 6, 21, 5, 7, 112, 182, 0, 98, 153, 0, 94, 45, 21, 6, 46, 27]
abbrev dktX0_bondsOf_1 : List UInt8 := dkwX0_bondsOf_1 ++ dktX0_bondsOf_2
def dkwX0_bondsOf_0 : List UInt8 := [3, 54, 4, 3, 54, 5, 21, 5, 42, 180, 0, 12, 180, 0, 102, 190, 162, 0, 122, 21, 5, 7, 108]
abbrev dktX0_bondsOf_0 : List UInt8 := dkwX0_bondsOf_0 ++ dktX0_bondsOf_1
theorem dksX0_bondsOf_0 : cX0_bondsOf.data.toList.drop 0 = dktX0_bondsOf_0 := by decide +kernel
theorem dksX0_bondsOf_1 : cX0_bondsOf.data.toList.drop 23 = dktX0_bondsOf_1 := dk_seg dksX0_bondsOf_0 23 rfl rfl
theorem dksX0_bondsOf_2 : cX0_bondsOf.data.toList.drop 46 = dktX0_bondsOf_2 := dk_seg dksX0_bondsOf_1 23 rfl rfl
theorem dksX0_bondsOf_3 : cX0_bondsOf.data.toList.drop 70 = dktX0_bondsOf_3 := dk_seg dksX0_bondsOf_2 24 rfl rfl
theorem dksX0_bondsOf_4 : cX0_bondsOf.data.toList.drop 93 = dktX0_bondsOf_4 := dk_seg dksX0_bondsOf_3 23 rfl rfl
theorem dksX0_bondsOf_5 : cX0_bondsOf.data.toList.drop 117 = dktX0_bondsOf_5 := dk_seg dksX0_bondsOf_4 24 rfl rfl
theorem dX0_bondsOf_0 : decode cX0_bondsOf 0 = .ok (.iconst 0, 1) := dk_3 (dk_at dksX0_bondsOf_0 0 rfl rfl)
theorem dX0_bondsOf_1 : decode cX0_bondsOf 1 = .ok (.istore 4, 2) := dk_54 4 (dk_at dksX0_bondsOf_0 1 rfl rfl)
theorem dX0_bondsOf_3 : decode cX0_bondsOf 3 = .ok (.iconst 0, 1) := dk_3 (dk_at dksX0_bondsOf_0 3 rfl rfl)
theorem dX0_bondsOf_4 : decode cX0_bondsOf 4 = .ok (.istore 5, 2) := dk_54 5 (dk_at dksX0_bondsOf_0 4 rfl rfl)
theorem dX0_bondsOf_6 : decode cX0_bondsOf 6 = .ok (.iload 5, 2) := dk_21 5 (dk_at dksX0_bondsOf_0 6 rfl rfl)
theorem dX0_bondsOf_8 : decode cX0_bondsOf 8 = .ok (.aload_n 0, 1) := dk_42 (dk_at dksX0_bondsOf_0 8 rfl rfl)
theorem dX0_bondsOf_9 : decode cX0_bondsOf 9 = .ok (.getfield 12, 3) := dk_180 0 12 (dk_at dksX0_bondsOf_0 9 rfl rfl)
theorem dX0_bondsOf_12 : decode cX0_bondsOf 12 = .ok (.getfield 102, 3) := dk_180 0 102 (dk_at dksX0_bondsOf_0 12 rfl rfl)
theorem dX0_bondsOf_15 : decode cX0_bondsOf 15 = .ok (.arraylength, 1) := dk_190 (dk_at dksX0_bondsOf_0 15 rfl rfl)
theorem dX0_bondsOf_16 : decode cX0_bondsOf 16 = .ok (.if_icmp .ge 122, 3) := dk_162 0 122 (dk_at dksX0_bondsOf_0 16 rfl rfl)
theorem dX0_bondsOf_19 : decode cX0_bondsOf 19 = .ok (.iload 5, 2) := dk_21 5 (dk_at dksX0_bondsOf_0 19 rfl rfl)
theorem dX0_bondsOf_21 : decode cX0_bondsOf 21 = .ok (.iconst 4, 1) := dk_7 (dk_at dksX0_bondsOf_0 21 rfl rfl)
theorem dX0_bondsOf_22 : decode cX0_bondsOf 22 = .ok (.idiv, 1) := dk_108 (dk_at dksX0_bondsOf_0 22 rfl rfl)
theorem dX0_bondsOf_23 : decode cX0_bondsOf 23 = .ok (.istore 6, 2) := dk_54 6 (dk_at dksX0_bondsOf_1 0 rfl rfl)
theorem dX0_bondsOf_25 : decode cX0_bondsOf 25 = .ok (.aload_n 0, 1) := dk_42 (dk_at dksX0_bondsOf_1 2 rfl rfl)
theorem dX0_bondsOf_26 : decode cX0_bondsOf 26 = .ok (.getfield 12, 3) := dk_180 0 12 (dk_at dksX0_bondsOf_1 3 rfl rfl)
theorem dX0_bondsOf_29 : decode cX0_bondsOf 29 = .ok (.iload 6, 2) := dk_21 6 (dk_at dksX0_bondsOf_1 6 rfl rfl)
theorem dX0_bondsOf_31 : decode cX0_bondsOf 31 = .ok (.iload 5, 2) := dk_21 5 (dk_at dksX0_bondsOf_1 8 rfl rfl)
theorem dX0_bondsOf_33 : decode cX0_bondsOf 33 = .ok (.iconst 4, 1) := dk_7 (dk_at dksX0_bondsOf_1 10 rfl rfl)
theorem dX0_bondsOf_34 : decode cX0_bondsOf 34 = .ok (.irem, 1) := dk_112 (dk_at dksX0_bondsOf_1 11 rfl rfl)
theorem dX0_bondsOf_35 : decode cX0_bondsOf 35 = .ok (.invokevirtual 98, 3) := dk_182 0 98 (dk_at dksX0_bondsOf_1 12 rfl rfl)
theorem dX0_bondsOf_38 : decode cX0_bondsOf 38 = .ok (.ifCond .eq 94, 3) := dk_153 0 94 (dk_at dksX0_bondsOf_1 15 rfl rfl)
theorem dX0_bondsOf_41 : decode cX0_bondsOf 41 = .ok (.aload_n 3, 1) := dk_45 (dk_at dksX0_bondsOf_1 18 rfl rfl)
theorem dX0_bondsOf_42 : decode cX0_bondsOf 42 = .ok (.iload 6, 2) := dk_21 6 (dk_at dksX0_bondsOf_1 19 rfl rfl)
theorem dX0_bondsOf_44 : decode cX0_bondsOf 44 = .ok (.iaload, 1) := dk_46 (dk_at dksX0_bondsOf_1 21 rfl rfl)
theorem dX0_bondsOf_45 : decode cX0_bondsOf 45 = .ok (.iload_n 1, 1) := dk_27 (dk_at dksX0_bondsOf_1 22 rfl rfl)
theorem dX0_bondsOf_46 : decode cX0_bondsOf 46 = .ok (.if_icmp .ne 7, 3) := dk_160 0 7 (dk_at dksX0_bondsOf_2 0 rfl rfl)
theorem dX0_bondsOf_49 : decode cX0_bondsOf 49 = .ok (.iconst 1, 1) := dk_4 (dk_at dksX0_bondsOf_2 3 rfl rfl)
theorem dX0_bondsOf_50 : decode cX0_bondsOf 50 = .ok (.goto 4, 3) := dk_167 0 4 (dk_at dksX0_bondsOf_2 4 rfl rfl)
theorem dX0_bondsOf_53 : decode cX0_bondsOf 53 = .ok (.iconst 0, 1) := dk_3 (dk_at dksX0_bondsOf_2 7 rfl rfl)
theorem dX0_bondsOf_54 : decode cX0_bondsOf 54 = .ok (.istore 7, 2) := dk_54 7 (dk_at dksX0_bondsOf_2 8 rfl rfl)
theorem dX0_bondsOf_56 : decode cX0_bondsOf 56 = .ok (.aload_n 3, 1) := dk_45 (dk_at dksX0_bondsOf_2 10 rfl rfl)
theorem dX0_bondsOf_57 : decode cX0_bondsOf 57 = .ok (.aload_n 0, 1) := dk_42 (dk_at dksX0_bondsOf_2 11 rfl rfl)
theorem dX0_bondsOf_58 : decode cX0_bondsOf 58 = .ok (.getfield 12, 3) := dk_180 0 12 (dk_at dksX0_bondsOf_2 12 rfl rfl)
theorem dX0_bondsOf_61 : decode cX0_bondsOf 61 = .ok (.iload 6, 2) := dk_21 6 (dk_at dksX0_bondsOf_2 15 rfl rfl)
theorem dX0_bondsOf_63 : decode cX0_bondsOf 63 = .ok (.iload 5, 2) := dk_21 5 (dk_at dksX0_bondsOf_2 17 rfl rfl)
theorem dX0_bondsOf_65 : decode cX0_bondsOf 65 = .ok (.iconst 4, 1) := dk_7 (dk_at dksX0_bondsOf_2 19 rfl rfl)
theorem dX0_bondsOf_66 : decode cX0_bondsOf 66 = .ok (.irem, 1) := dk_112 (dk_at dksX0_bondsOf_2 20 rfl rfl)
theorem dX0_bondsOf_67 : decode cX0_bondsOf 67 = .ok (.invokevirtual 227, 3) := dk_182 0 227 (dk_at dksX0_bondsOf_2 21 rfl rfl)
theorem dX0_bondsOf_70 : decode cX0_bondsOf 70 = .ok (.iaload, 1) := dk_46 (dk_at dksX0_bondsOf_3 0 rfl rfl)
theorem dX0_bondsOf_71 : decode cX0_bondsOf 71 = .ok (.iload_n 1, 1) := dk_27 (dk_at dksX0_bondsOf_3 1 rfl rfl)
theorem dX0_bondsOf_72 : decode cX0_bondsOf 72 = .ok (.if_icmp .ne 7, 3) := dk_160 0 7 (dk_at dksX0_bondsOf_3 2 rfl rfl)
theorem dX0_bondsOf_75 : decode cX0_bondsOf 75 = .ok (.iconst 1, 1) := dk_4 (dk_at dksX0_bondsOf_3 5 rfl rfl)
theorem dX0_bondsOf_76 : decode cX0_bondsOf 76 = .ok (.goto 4, 3) := dk_167 0 4 (dk_at dksX0_bondsOf_3 6 rfl rfl)
theorem dX0_bondsOf_79 : decode cX0_bondsOf 79 = .ok (.iconst 0, 1) := dk_3 (dk_at dksX0_bondsOf_3 9 rfl rfl)
theorem dX0_bondsOf_80 : decode cX0_bondsOf 80 = .ok (.istore 8, 2) := dk_54 8 (dk_at dksX0_bondsOf_3 10 rfl rfl)
theorem dX0_bondsOf_82 : decode cX0_bondsOf 82 = .ok (.iload 4, 2) := dk_21 4 (dk_at dksX0_bondsOf_3 12 rfl rfl)
theorem dX0_bondsOf_84 : decode cX0_bondsOf 84 = .ok (.iload_n 2, 1) := dk_28 (dk_at dksX0_bondsOf_3 14 rfl rfl)
theorem dX0_bondsOf_85 : decode cX0_bondsOf 85 = .ok (.ifCond .eq 32, 3) := dk_153 0 32 (dk_at dksX0_bondsOf_3 15 rfl rfl)
theorem dX0_bondsOf_88 : decode cX0_bondsOf 88 = .ok (.iload 7, 2) := dk_21 7 (dk_at dksX0_bondsOf_3 18 rfl rfl)
theorem dX0_bondsOf_90 : decode cX0_bondsOf 90 = .ok (.ifCond .eq 38, 3) := dk_153 0 38 (dk_at dksX0_bondsOf_3 20 rfl rfl)
theorem dX0_bondsOf_93 : decode cX0_bondsOf 93 = .ok (.iload 8, 2) := dk_21 8 (dk_at dksX0_bondsOf_4 0 rfl rfl)
theorem dX0_bondsOf_95 : decode cX0_bondsOf 95 = .ok (.ifCond .eq 33, 3) := dk_153 0 33 (dk_at dksX0_bondsOf_4 2 rfl rfl)
theorem dX0_bondsOf_98 : decode cX0_bondsOf 98 = .ok (.aload_n 0, 1) := dk_42 (dk_at dksX0_bondsOf_4 5 rfl rfl)
theorem dX0_bondsOf_99 : decode cX0_bondsOf 99 = .ok (.getfield 12, 3) := dk_180 0 12 (dk_at dksX0_bondsOf_4 6 rfl rfl)
theorem dX0_bondsOf_102 : decode cX0_bondsOf 102 = .ok (.getfield 102, 3) := dk_180 0 102 (dk_at dksX0_bondsOf_4 9 rfl rfl)
theorem dX0_bondsOf_105 : decode cX0_bondsOf 105 = .ok (.iload 5, 2) := dk_21 5 (dk_at dksX0_bondsOf_4 12 rfl rfl)
theorem dX0_bondsOf_107 : decode cX0_bondsOf 107 = .ok (.aaload, 1) := dk_50 (dk_at dksX0_bondsOf_4 14 rfl rfl)
theorem dX0_bondsOf_108 : decode cX0_bondsOf 108 = .ok (.getstatic 230, 3) := dk_178 0 230 (dk_at dksX0_bondsOf_4 15 rfl rfl)
theorem dX0_bondsOf_111 : decode cX0_bondsOf 111 = .ok (.if_acmp .eq 17, 3) := dk_165 0 17 (dk_at dksX0_bondsOf_4 18 rfl rfl)
theorem dX0_bondsOf_114 : decode cX0_bondsOf 114 = .ok (.goto 10, 3) := dk_167 0 10 (dk_at dksX0_bondsOf_4 21 rfl rfl)
theorem dX0_bondsOf_117 : decode cX0_bondsOf 117 = .ok (.iload 7, 2) := dk_21 7 (dk_at dksX0_bondsOf_5 0 rfl rfl)
theorem dX0_bondsOf_119 : decode cX0_bondsOf 119 = .ok (.iload 8, 2) := dk_21 8 (dk_at dksX0_bondsOf_5 2 rfl rfl)
theorem dX0_bondsOf_121 : decode cX0_bondsOf 121 = .ok (.if_icmp .eq 7, 3) := dk_159 0 7 (dk_at dksX0_bondsOf_5 4 rfl rfl)
theorem dX0_bondsOf_124 : decode cX0_bondsOf 124 = .ok (.iconst 1, 1) := dk_4 (dk_at dksX0_bondsOf_5 7 rfl rfl)
theorem dX0_bondsOf_125 : decode cX0_bondsOf 125 = .ok (.goto 4, 3) := dk_167 0 4 (dk_at dksX0_bondsOf_5 8 rfl rfl)
theorem dX0_bondsOf_128 : decode cX0_bondsOf 128 = .ok (.iconst 0, 1) := dk_3 (dk_at dksX0_bondsOf_5 11 rfl rfl)
theorem dX0_bondsOf_129 : decode cX0_bondsOf 129 = .ok (.iadd, 1) := dk_96 (dk_at dksX0_bondsOf_5 12 rfl rfl)
theorem dX0_bondsOf_130 : decode cX0_bondsOf 130 = .ok (.istore 4, 2) := dk_54 4 (dk_at dksX0_bondsOf_5 13 rfl rfl)
theorem dX0_bondsOf_132 : decode cX0_bondsOf 132 = .ok (.iinc 5 1, 3) := dk_132 5 1 (dk_at dksX0_bondsOf_5 15 rfl rfl)
theorem dX0_bondsOf_135 : decode cX0_bondsOf 135 = .ok (.goto (-129), 3) := dk_167 255 127 (dk_at dksX0_bondsOf_5 18 rfl rfl)
theorem dX0_bondsOf_138 : decode cX0_bondsOf 138 = .ok (.iload 4, 2) := dk_21 4 (dk_at dksX0_bondsOf_5 21 rfl rfl)
theorem dX0_bondsOf_140 : decode cX0_bondsOf 140 = .ok (.ireturn, 1) := dk_172 (dk_at dksX0_bondsOf_5 23 rfl rfl)
abbrev cX0_ledger : ByteArray := prog_1_method_36_code
def yX0_ledger : MethodName := ⟨RX0, "ledger", "(II)I"⟩
def dkwX0_ledger_8 : List UInt8 := [167, 0, 15, 28, 5, 160, 0, 8, 21, 6, 167, 0, 5, 21, 7, 172]
abbrev dktX0_ledger_8 : List UInt8 := dkwX0_ledger_8 ++ []
def dkwX0_ledger_7 : List UInt8 := [132, 10, 1, 167, 255, 220, 28, 154, 0, 8, 21, 5, 167, 0, 27, 28, 4, 160, 0, 10, 45, 184, 0, 208]
abbrev dktX0_ledger_7 : List UInt8 := dkwX0_ledger_7 ++ dktX0_ledger_8
def dkwX0_ledger_6 : List UInt8 := [21, 10, 46, 54, 11, 21, 6, 21, 11, 184, 0, 192, 54, 6, 21, 7, 21, 11, 21, 11, 104, 96, 54, 7]
abbrev dktX0_ledger_6 : List UInt8 := dkwX0_ledger_6 ++ dktX0_ledger_7
def dkwX0_ledger_5 : List UInt8 := [3, 54, 7, 25, 4, 58, 8, 25, 8, 190, 54, 9, 3, 54, 10, 21, 10, 21, 9, 162, 0, 35, 25, 8]
abbrev dktX0_ledger_5 : List UInt8 := dkwX0_ledger_5 ++ dktX0_ledger_6
def dkwX0_ledger_4 : List UInt8 := [159, 0, 15, 25, 4, 21, 9, 92, 46, 4, 96, 79, 132, 5, 1, 132, 8, 1, 167, 255, 220, 3, 54, 6]
abbrev dktX0_ledger_4 : List UInt8 := dkwX0_ledger_4 ++ dktX0_ledger_5
def dkwX0_ledger_3 : List UInt8 := [54, 7, 3, 54, 8, 21, 8, 21, 7, 162, 0, 35, 25, 6, 21, 8, 46, 54, 9, 21, 9, 16, 247]
abbrev dktX0_ledger_3 : List UInt8 := dkwX0_ledger_3 ++ dktX0_ledger_4
def dkwX0_ledger_2 : List UInt8 := [180, 0, 12, 27, 182, 0, 204, 78, 45, 190, 188, 10, 58, 4, 3, 54, 5, 45, 58, 6, 25, 6, 190]
abbrev dktX0_ledger_2 : List UInt8 := dkwX0_ledger_2 ++ dktX0_ledger_3
def dkwX0_ledger_1 : List UInt8 := [160, 0, 22, 42, 180, 0, 12, 27, 16, 247, 182, 0, 241, 153, 0, 7, 4, 167, 0, 4, 3, 172, 42]
abbrev dktX0_ledger_1 : List UInt8 := dkwX0_ledger_1 ++ dktX0_ledger_2
def dkwX0_ledger_0 : List UInt8 := [27, 3, 16, 100, 184, 0, 52, 153, 0, 12, 28, 3, 7, 184, 0, 52, 154, 0, 5, 2, 172, 28, 7]
abbrev dktX0_ledger_0 : List UInt8 := dkwX0_ledger_0 ++ dktX0_ledger_1
theorem dksX0_ledger_0 : cX0_ledger.data.toList.drop 0 = dktX0_ledger_0 := by decide +kernel
theorem dksX0_ledger_1 : cX0_ledger.data.toList.drop 23 = dktX0_ledger_1 := dk_seg dksX0_ledger_0 23 rfl rfl
theorem dksX0_ledger_2 : cX0_ledger.data.toList.drop 46 = dktX0_ledger_2 := dk_seg dksX0_ledger_1 23 rfl rfl
theorem dksX0_ledger_3 : cX0_ledger.data.toList.drop 69 = dktX0_ledger_3 := dk_seg dksX0_ledger_2 23 rfl rfl
theorem dksX0_ledger_4 : cX0_ledger.data.toList.drop 92 = dktX0_ledger_4 := dk_seg dksX0_ledger_3 23 rfl rfl
theorem dksX0_ledger_5 : cX0_ledger.data.toList.drop 116 = dktX0_ledger_5 := dk_seg dksX0_ledger_4 24 rfl rfl
theorem dksX0_ledger_6 : cX0_ledger.data.toList.drop 140 = dktX0_ledger_6 := dk_seg dksX0_ledger_5 24 rfl rfl
theorem dksX0_ledger_7 : cX0_ledger.data.toList.drop 164 = dktX0_ledger_7 := dk_seg dksX0_ledger_6 24 rfl rfl
theorem dksX0_ledger_8 : cX0_ledger.data.toList.drop 188 = dktX0_ledger_8 := dk_seg dksX0_ledger_7 24 rfl rfl
theorem dX0_ledger_0 : decode cX0_ledger 0 = .ok (.iload_n 1, 1) := dk_27 (dk_at dksX0_ledger_0 0 rfl rfl)
theorem dX0_ledger_1 : decode cX0_ledger 1 = .ok (.iconst 0, 1) := dk_3 (dk_at dksX0_ledger_0 1 rfl rfl)
theorem dX0_ledger_2 : decode cX0_ledger 2 = .ok (.bipush 100, 2) := dk_16 100 (dk_at dksX0_ledger_0 2 rfl rfl)
theorem dX0_ledger_4 : decode cX0_ledger 4 = .ok (.invokestatic 52, 3) := dk_184 0 52 (dk_at dksX0_ledger_0 4 rfl rfl)
theorem dX0_ledger_7 : decode cX0_ledger 7 = .ok (.ifCond .eq 12, 3) := dk_153 0 12 (dk_at dksX0_ledger_0 7 rfl rfl)
theorem dX0_ledger_10 : decode cX0_ledger 10 = .ok (.iload_n 2, 1) := dk_28 (dk_at dksX0_ledger_0 10 rfl rfl)
theorem dX0_ledger_11 : decode cX0_ledger 11 = .ok (.iconst 0, 1) := dk_3 (dk_at dksX0_ledger_0 11 rfl rfl)
theorem dX0_ledger_12 : decode cX0_ledger 12 = .ok (.iconst 4, 1) := dk_7 (dk_at dksX0_ledger_0 12 rfl rfl)
theorem dX0_ledger_13 : decode cX0_ledger 13 = .ok (.invokestatic 52, 3) := dk_184 0 52 (dk_at dksX0_ledger_0 13 rfl rfl)
theorem dX0_ledger_16 : decode cX0_ledger 16 = .ok (.ifCond .ne 5, 3) := dk_154 0 5 (dk_at dksX0_ledger_0 16 rfl rfl)
theorem dX0_ledger_19 : decode cX0_ledger 19 = .ok (.iconst (-1), 1) := dk_2 (dk_at dksX0_ledger_0 19 rfl rfl)
theorem dX0_ledger_20 : decode cX0_ledger 20 = .ok (.ireturn, 1) := dk_172 (dk_at dksX0_ledger_0 20 rfl rfl)
theorem dX0_ledger_21 : decode cX0_ledger 21 = .ok (.iload_n 2, 1) := dk_28 (dk_at dksX0_ledger_0 21 rfl rfl)
theorem dX0_ledger_22 : decode cX0_ledger 22 = .ok (.iconst 4, 1) := dk_7 (dk_at dksX0_ledger_0 22 rfl rfl)
theorem dX0_ledger_23 : decode cX0_ledger 23 = .ok (.if_icmp .ne 22, 3) := dk_160 0 22 (dk_at dksX0_ledger_1 0 rfl rfl)
theorem dX0_ledger_26 : decode cX0_ledger 26 = .ok (.aload_n 0, 1) := dk_42 (dk_at dksX0_ledger_1 3 rfl rfl)
theorem dX0_ledger_27 : decode cX0_ledger 27 = .ok (.getfield 12, 3) := dk_180 0 12 (dk_at dksX0_ledger_1 4 rfl rfl)
theorem dX0_ledger_30 : decode cX0_ledger 30 = .ok (.iload_n 1, 1) := dk_27 (dk_at dksX0_ledger_1 7 rfl rfl)
theorem dX0_ledger_31 : decode cX0_ledger 31 = .ok (.bipush (-9), 2) := dk_16 247 (dk_at dksX0_ledger_1 8 rfl rfl)
theorem dX0_ledger_33 : decode cX0_ledger 33 = .ok (.invokevirtual 241, 3) := dk_182 0 241 (dk_at dksX0_ledger_1 10 rfl rfl)
theorem dX0_ledger_36 : decode cX0_ledger 36 = .ok (.ifCond .eq 7, 3) := dk_153 0 7 (dk_at dksX0_ledger_1 13 rfl rfl)
theorem dX0_ledger_39 : decode cX0_ledger 39 = .ok (.iconst 1, 1) := dk_4 (dk_at dksX0_ledger_1 16 rfl rfl)
theorem dX0_ledger_40 : decode cX0_ledger 40 = .ok (.goto 4, 3) := dk_167 0 4 (dk_at dksX0_ledger_1 17 rfl rfl)
theorem dX0_ledger_43 : decode cX0_ledger 43 = .ok (.iconst 0, 1) := dk_3 (dk_at dksX0_ledger_1 20 rfl rfl)
theorem dX0_ledger_44 : decode cX0_ledger 44 = .ok (.ireturn, 1) := dk_172 (dk_at dksX0_ledger_1 21 rfl rfl)
theorem dX0_ledger_45 : decode cX0_ledger 45 = .ok (.aload_n 0, 1) := dk_42 (dk_at dksX0_ledger_1 22 rfl rfl)
theorem dX0_ledger_46 : decode cX0_ledger 46 = .ok (.getfield 12, 3) := dk_180 0 12 (dk_at dksX0_ledger_2 0 rfl rfl)
theorem dX0_ledger_49 : decode cX0_ledger 49 = .ok (.iload_n 1, 1) := dk_27 (dk_at dksX0_ledger_2 3 rfl rfl)
theorem dX0_ledger_50 : decode cX0_ledger 50 = .ok (.invokevirtual 204, 3) := dk_182 0 204 (dk_at dksX0_ledger_2 4 rfl rfl)
theorem dX0_ledger_53 : decode cX0_ledger 53 = .ok (.astore_n 3, 1) := dk_78 (dk_at dksX0_ledger_2 7 rfl rfl)
theorem dX0_ledger_54 : decode cX0_ledger 54 = .ok (.aload_n 3, 1) := dk_45 (dk_at dksX0_ledger_2 8 rfl rfl)
theorem dX0_ledger_55 : decode cX0_ledger 55 = .ok (.arraylength, 1) := dk_190 (dk_at dksX0_ledger_2 9 rfl rfl)
theorem dX0_ledger_56 : decode cX0_ledger 56 = .ok (.newarray .int, 2) := dk_188_10 (dk_at dksX0_ledger_2 10 rfl rfl)
theorem dX0_ledger_58 : decode cX0_ledger 58 = .ok (.astore 4, 2) := dk_58 4 (dk_at dksX0_ledger_2 12 rfl rfl)
theorem dX0_ledger_60 : decode cX0_ledger 60 = .ok (.iconst 0, 1) := dk_3 (dk_at dksX0_ledger_2 14 rfl rfl)
theorem dX0_ledger_61 : decode cX0_ledger 61 = .ok (.istore 5, 2) := dk_54 5 (dk_at dksX0_ledger_2 15 rfl rfl)
theorem dX0_ledger_63 : decode cX0_ledger 63 = .ok (.aload_n 3, 1) := dk_45 (dk_at dksX0_ledger_2 17 rfl rfl)
theorem dX0_ledger_64 : decode cX0_ledger 64 = .ok (.astore 6, 2) := dk_58 6 (dk_at dksX0_ledger_2 18 rfl rfl)
theorem dX0_ledger_66 : decode cX0_ledger 66 = .ok (.aload 6, 2) := dk_25 6 (dk_at dksX0_ledger_2 20 rfl rfl)
theorem dX0_ledger_68 : decode cX0_ledger 68 = .ok (.arraylength, 1) := dk_190 (dk_at dksX0_ledger_2 22 rfl rfl)
theorem dX0_ledger_69 : decode cX0_ledger 69 = .ok (.istore 7, 2) := dk_54 7 (dk_at dksX0_ledger_3 0 rfl rfl)
theorem dX0_ledger_71 : decode cX0_ledger 71 = .ok (.iconst 0, 1) := dk_3 (dk_at dksX0_ledger_3 2 rfl rfl)
theorem dX0_ledger_72 : decode cX0_ledger 72 = .ok (.istore 8, 2) := dk_54 8 (dk_at dksX0_ledger_3 3 rfl rfl)
theorem dX0_ledger_74 : decode cX0_ledger 74 = .ok (.iload 8, 2) := dk_21 8 (dk_at dksX0_ledger_3 5 rfl rfl)
theorem dX0_ledger_76 : decode cX0_ledger 76 = .ok (.iload 7, 2) := dk_21 7 (dk_at dksX0_ledger_3 7 rfl rfl)
theorem dX0_ledger_78 : decode cX0_ledger 78 = .ok (.if_icmp .ge 35, 3) := dk_162 0 35 (dk_at dksX0_ledger_3 9 rfl rfl)
theorem dX0_ledger_81 : decode cX0_ledger 81 = .ok (.aload 6, 2) := dk_25 6 (dk_at dksX0_ledger_3 12 rfl rfl)
theorem dX0_ledger_83 : decode cX0_ledger 83 = .ok (.iload 8, 2) := dk_21 8 (dk_at dksX0_ledger_3 14 rfl rfl)
theorem dX0_ledger_85 : decode cX0_ledger 85 = .ok (.iaload, 1) := dk_46 (dk_at dksX0_ledger_3 16 rfl rfl)
theorem dX0_ledger_86 : decode cX0_ledger 86 = .ok (.istore 9, 2) := dk_54 9 (dk_at dksX0_ledger_3 17 rfl rfl)
theorem dX0_ledger_88 : decode cX0_ledger 88 = .ok (.iload 9, 2) := dk_21 9 (dk_at dksX0_ledger_3 19 rfl rfl)
theorem dX0_ledger_90 : decode cX0_ledger 90 = .ok (.bipush (-9), 2) := dk_16 247 (dk_at dksX0_ledger_3 21 rfl rfl)
theorem dX0_ledger_92 : decode cX0_ledger 92 = .ok (.if_icmp .eq 15, 3) := dk_159 0 15 (dk_at dksX0_ledger_4 0 rfl rfl)
theorem dX0_ledger_95 : decode cX0_ledger 95 = .ok (.aload 4, 2) := dk_25 4 (dk_at dksX0_ledger_4 3 rfl rfl)
theorem dX0_ledger_97 : decode cX0_ledger 97 = .ok (.iload 9, 2) := dk_21 9 (dk_at dksX0_ledger_4 5 rfl rfl)
theorem dX0_ledger_99 : decode cX0_ledger 99 = .ok (.dup2, 1) := dk_92 (dk_at dksX0_ledger_4 7 rfl rfl)
theorem dX0_ledger_100 : decode cX0_ledger 100 = .ok (.iaload, 1) := dk_46 (dk_at dksX0_ledger_4 8 rfl rfl)
theorem dX0_ledger_101 : decode cX0_ledger 101 = .ok (.iconst 1, 1) := dk_4 (dk_at dksX0_ledger_4 9 rfl rfl)
theorem dX0_ledger_102 : decode cX0_ledger 102 = .ok (.iadd, 1) := dk_96 (dk_at dksX0_ledger_4 10 rfl rfl)
theorem dX0_ledger_103 : decode cX0_ledger 103 = .ok (.iastore, 1) := dk_79 (dk_at dksX0_ledger_4 11 rfl rfl)
theorem dX0_ledger_104 : decode cX0_ledger 104 = .ok (.iinc 5 1, 3) := dk_132 5 1 (dk_at dksX0_ledger_4 12 rfl rfl)
theorem dX0_ledger_107 : decode cX0_ledger 107 = .ok (.iinc 8 1, 3) := dk_132 8 1 (dk_at dksX0_ledger_4 15 rfl rfl)
theorem dX0_ledger_110 : decode cX0_ledger 110 = .ok (.goto (-36), 3) := dk_167 255 220 (dk_at dksX0_ledger_4 18 rfl rfl)
theorem dX0_ledger_113 : decode cX0_ledger 113 = .ok (.iconst 0, 1) := dk_3 (dk_at dksX0_ledger_4 21 rfl rfl)
theorem dX0_ledger_114 : decode cX0_ledger 114 = .ok (.istore 6, 2) := dk_54 6 (dk_at dksX0_ledger_4 22 rfl rfl)
theorem dX0_ledger_116 : decode cX0_ledger 116 = .ok (.iconst 0, 1) := dk_3 (dk_at dksX0_ledger_5 0 rfl rfl)
theorem dX0_ledger_117 : decode cX0_ledger 117 = .ok (.istore 7, 2) := dk_54 7 (dk_at dksX0_ledger_5 1 rfl rfl)
theorem dX0_ledger_119 : decode cX0_ledger 119 = .ok (.aload 4, 2) := dk_25 4 (dk_at dksX0_ledger_5 3 rfl rfl)
theorem dX0_ledger_121 : decode cX0_ledger 121 = .ok (.astore 8, 2) := dk_58 8 (dk_at dksX0_ledger_5 5 rfl rfl)
theorem dX0_ledger_123 : decode cX0_ledger 123 = .ok (.aload 8, 2) := dk_25 8 (dk_at dksX0_ledger_5 7 rfl rfl)
theorem dX0_ledger_125 : decode cX0_ledger 125 = .ok (.arraylength, 1) := dk_190 (dk_at dksX0_ledger_5 9 rfl rfl)
theorem dX0_ledger_126 : decode cX0_ledger 126 = .ok (.istore 9, 2) := dk_54 9 (dk_at dksX0_ledger_5 10 rfl rfl)
theorem dX0_ledger_128 : decode cX0_ledger 128 = .ok (.iconst 0, 1) := dk_3 (dk_at dksX0_ledger_5 12 rfl rfl)
theorem dX0_ledger_129 : decode cX0_ledger 129 = .ok (.istore 10, 2) := dk_54 10 (dk_at dksX0_ledger_5 13 rfl rfl)
theorem dX0_ledger_131 : decode cX0_ledger 131 = .ok (.iload 10, 2) := dk_21 10 (dk_at dksX0_ledger_5 15 rfl rfl)
theorem dX0_ledger_133 : decode cX0_ledger 133 = .ok (.iload 9, 2) := dk_21 9 (dk_at dksX0_ledger_5 17 rfl rfl)
theorem dX0_ledger_135 : decode cX0_ledger 135 = .ok (.if_icmp .ge 35, 3) := dk_162 0 35 (dk_at dksX0_ledger_5 19 rfl rfl)
theorem dX0_ledger_138 : decode cX0_ledger 138 = .ok (.aload 8, 2) := dk_25 8 (dk_at dksX0_ledger_5 22 rfl rfl)
theorem dX0_ledger_140 : decode cX0_ledger 140 = .ok (.iload 10, 2) := dk_21 10 (dk_at dksX0_ledger_6 0 rfl rfl)
theorem dX0_ledger_142 : decode cX0_ledger 142 = .ok (.iaload, 1) := dk_46 (dk_at dksX0_ledger_6 2 rfl rfl)
theorem dX0_ledger_143 : decode cX0_ledger 143 = .ok (.istore 11, 2) := dk_54 11 (dk_at dksX0_ledger_6 3 rfl rfl)
theorem dX0_ledger_145 : decode cX0_ledger 145 = .ok (.iload 6, 2) := dk_21 6 (dk_at dksX0_ledger_6 5 rfl rfl)
theorem dX0_ledger_147 : decode cX0_ledger 147 = .ok (.iload 11, 2) := dk_21 11 (dk_at dksX0_ledger_6 7 rfl rfl)
theorem dX0_ledger_149 : decode cX0_ledger 149 = .ok (.invokestatic 192, 3) := dk_184 0 192 (dk_at dksX0_ledger_6 9 rfl rfl)
theorem dX0_ledger_152 : decode cX0_ledger 152 = .ok (.istore 6, 2) := dk_54 6 (dk_at dksX0_ledger_6 12 rfl rfl)
theorem dX0_ledger_154 : decode cX0_ledger 154 = .ok (.iload 7, 2) := dk_21 7 (dk_at dksX0_ledger_6 14 rfl rfl)
theorem dX0_ledger_156 : decode cX0_ledger 156 = .ok (.iload 11, 2) := dk_21 11 (dk_at dksX0_ledger_6 16 rfl rfl)
theorem dX0_ledger_158 : decode cX0_ledger 158 = .ok (.iload 11, 2) := dk_21 11 (dk_at dksX0_ledger_6 18 rfl rfl)
theorem dX0_ledger_160 : decode cX0_ledger 160 = .ok (.imul, 1) := dk_104 (dk_at dksX0_ledger_6 20 rfl rfl)
theorem dX0_ledger_161 : decode cX0_ledger 161 = .ok (.iadd, 1) := dk_96 (dk_at dksX0_ledger_6 21 rfl rfl)
theorem dX0_ledger_162 : decode cX0_ledger 162 = .ok (.istore 7, 2) := dk_54 7 (dk_at dksX0_ledger_6 22 rfl rfl)
theorem dX0_ledger_164 : decode cX0_ledger 164 = .ok (.iinc 10 1, 3) := dk_132 10 1 (dk_at dksX0_ledger_7 0 rfl rfl)
theorem dX0_ledger_167 : decode cX0_ledger 167 = .ok (.goto (-36), 3) := dk_167 255 220 (dk_at dksX0_ledger_7 3 rfl rfl)
theorem dX0_ledger_170 : decode cX0_ledger 170 = .ok (.iload_n 2, 1) := dk_28 (dk_at dksX0_ledger_7 6 rfl rfl)
theorem dX0_ledger_171 : decode cX0_ledger 171 = .ok (.ifCond .ne 8, 3) := dk_154 0 8 (dk_at dksX0_ledger_7 7 rfl rfl)
theorem dX0_ledger_174 : decode cX0_ledger 174 = .ok (.iload 5, 2) := dk_21 5 (dk_at dksX0_ledger_7 10 rfl rfl)
theorem dX0_ledger_176 : decode cX0_ledger 176 = .ok (.goto 27, 3) := dk_167 0 27 (dk_at dksX0_ledger_7 12 rfl rfl)
theorem dX0_ledger_179 : decode cX0_ledger 179 = .ok (.iload_n 2, 1) := dk_28 (dk_at dksX0_ledger_7 15 rfl rfl)
theorem dX0_ledger_180 : decode cX0_ledger 180 = .ok (.iconst 1, 1) := dk_4 (dk_at dksX0_ledger_7 16 rfl rfl)
theorem dX0_ledger_181 : decode cX0_ledger 181 = .ok (.if_icmp .ne 10, 3) := dk_160 0 10 (dk_at dksX0_ledger_7 17 rfl rfl)
theorem dX0_ledger_184 : decode cX0_ledger 184 = .ok (.aload_n 3, 1) := dk_45 (dk_at dksX0_ledger_7 20 rfl rfl)
theorem dX0_ledger_185 : decode cX0_ledger 185 = .ok (.invokestatic 208, 3) := dk_184 0 208 (dk_at dksX0_ledger_7 21 rfl rfl)
theorem dX0_ledger_188 : decode cX0_ledger 188 = .ok (.goto 15, 3) := dk_167 0 15 (dk_at dksX0_ledger_8 0 rfl rfl)
theorem dX0_ledger_191 : decode cX0_ledger 191 = .ok (.iload_n 2, 1) := dk_28 (dk_at dksX0_ledger_8 3 rfl rfl)
theorem dX0_ledger_192 : decode cX0_ledger 192 = .ok (.iconst 2, 1) := dk_5 (dk_at dksX0_ledger_8 4 rfl rfl)
theorem dX0_ledger_193 : decode cX0_ledger 193 = .ok (.if_icmp .ne 8, 3) := dk_160 0 8 (dk_at dksX0_ledger_8 5 rfl rfl)
theorem dX0_ledger_196 : decode cX0_ledger 196 = .ok (.iload 6, 2) := dk_21 6 (dk_at dksX0_ledger_8 8 rfl rfl)
theorem dX0_ledger_198 : decode cX0_ledger 198 = .ok (.goto 5, 3) := dk_167 0 5 (dk_at dksX0_ledger_8 10 rfl rfl)
theorem dX0_ledger_201 : decode cX0_ledger 201 = .ok (.iload 7, 2) := dk_21 7 (dk_at dksX0_ledger_8 13 rfl rfl)
theorem dX0_ledger_203 : decode cX0_ledger 203 = .ok (.ireturn, 1) := dk_172 (dk_at dksX0_ledger_8 15 rfl rfl)
abbrev cX0_threshold : ByteArray := prog_1_method_37_code
def yX0_threshold : MethodName := ⟨RX0, "threshold", "()I"⟩
def dkwX0_threshold_0 : List UInt8 := [42, 180, 0, 12, 182, 0, 244, 172]
abbrev dktX0_threshold_0 : List UInt8 := dkwX0_threshold_0 ++ []
theorem dksX0_threshold_0 : cX0_threshold.data.toList.drop 0 = dktX0_threshold_0 := by decide +kernel
theorem dX0_threshold_0 : decode cX0_threshold 0 = .ok (.aload_n 0, 1) := dk_42 (dk_at dksX0_threshold_0 0 rfl rfl)
theorem dX0_threshold_1 : decode cX0_threshold 1 = .ok (.getfield 12, 3) := dk_180 0 12 (dk_at dksX0_threshold_0 1 rfl rfl)
theorem dX0_threshold_4 : decode cX0_threshold 4 = .ok (.invokevirtual 244, 3) := dk_182 0 244 (dk_at dksX0_threshold_0 4 rfl rfl)
theorem dX0_threshold_7 : decode cX0_threshold 7 = .ok (.ireturn, 1) := dk_172 (dk_at dksX0_threshold_0 7 rfl rfl)
abbrev cX0_probe : ByteArray := prog_1_method_38_code
def yX0_probe : MethodName := ⟨RX0, "probe", "(I)I"⟩
def dkwX0_probe_2 : List UInt8 := [153, 0, 9, 21, 5, 62, 167, 0, 8, 21, 5, 4, 96, 61, 132, 4, 1, 167, 255, 207, 16, 247, 172]
abbrev dktX0_probe_2 : List UInt8 := dkwX0_probe_2 ++ []
def dkwX0_probe_1 : List UInt8 := [54, 5, 21, 4, 27, 160, 0, 6, 21, 5, 172, 42, 180, 0, 12, 21, 5, 16, 247, 182, 0, 241]
abbrev dktX0_probe_1 : List UInt8 := dkwX0_probe_1 ++ dktX0_probe_2
def dkwX0_probe_0 : List UInt8 := [27, 156, 0, 5, 2, 172, 3, 61, 16, 100, 62, 3, 54, 4, 28, 29, 162, 0, 50, 28, 29, 96, 5, 108]
abbrev dktX0_probe_0 : List UInt8 := dkwX0_probe_0 ++ dktX0_probe_1
theorem dksX0_probe_0 : cX0_probe.data.toList.drop 0 = dktX0_probe_0 := by decide +kernel
theorem dksX0_probe_1 : cX0_probe.data.toList.drop 24 = dktX0_probe_1 := dk_seg dksX0_probe_0 24 rfl rfl
theorem dksX0_probe_2 : cX0_probe.data.toList.drop 46 = dktX0_probe_2 := dk_seg dksX0_probe_1 22 rfl rfl
theorem dX0_probe_0 : decode cX0_probe 0 = .ok (.iload_n 1, 1) := dk_27 (dk_at dksX0_probe_0 0 rfl rfl)
theorem dX0_probe_1 : decode cX0_probe 1 = .ok (.ifCond .ge 5, 3) := dk_156 0 5 (dk_at dksX0_probe_0 1 rfl rfl)
theorem dX0_probe_4 : decode cX0_probe 4 = .ok (.iconst (-1), 1) := dk_2 (dk_at dksX0_probe_0 4 rfl rfl)
theorem dX0_probe_5 : decode cX0_probe 5 = .ok (.ireturn, 1) := dk_172 (dk_at dksX0_probe_0 5 rfl rfl)
theorem dX0_probe_6 : decode cX0_probe 6 = .ok (.iconst 0, 1) := dk_3 (dk_at dksX0_probe_0 6 rfl rfl)
theorem dX0_probe_7 : decode cX0_probe 7 = .ok (.istore_n 2, 1) := dk_61 (dk_at dksX0_probe_0 7 rfl rfl)
theorem dX0_probe_8 : decode cX0_probe 8 = .ok (.bipush 100, 2) := dk_16 100 (dk_at dksX0_probe_0 8 rfl rfl)
theorem dX0_probe_10 : decode cX0_probe 10 = .ok (.istore_n 3, 1) := dk_62 (dk_at dksX0_probe_0 10 rfl rfl)
theorem dX0_probe_11 : decode cX0_probe 11 = .ok (.iconst 0, 1) := dk_3 (dk_at dksX0_probe_0 11 rfl rfl)
theorem dX0_probe_12 : decode cX0_probe 12 = .ok (.istore 4, 2) := dk_54 4 (dk_at dksX0_probe_0 12 rfl rfl)
theorem dX0_probe_14 : decode cX0_probe 14 = .ok (.iload_n 2, 1) := dk_28 (dk_at dksX0_probe_0 14 rfl rfl)
theorem dX0_probe_15 : decode cX0_probe 15 = .ok (.iload_n 3, 1) := dk_29 (dk_at dksX0_probe_0 15 rfl rfl)
theorem dX0_probe_16 : decode cX0_probe 16 = .ok (.if_icmp .ge 50, 3) := dk_162 0 50 (dk_at dksX0_probe_0 16 rfl rfl)
theorem dX0_probe_19 : decode cX0_probe 19 = .ok (.iload_n 2, 1) := dk_28 (dk_at dksX0_probe_0 19 rfl rfl)
theorem dX0_probe_20 : decode cX0_probe 20 = .ok (.iload_n 3, 1) := dk_29 (dk_at dksX0_probe_0 20 rfl rfl)
theorem dX0_probe_21 : decode cX0_probe 21 = .ok (.iadd, 1) := dk_96 (dk_at dksX0_probe_0 21 rfl rfl)
theorem dX0_probe_22 : decode cX0_probe 22 = .ok (.iconst 2, 1) := dk_5 (dk_at dksX0_probe_0 22 rfl rfl)
theorem dX0_probe_23 : decode cX0_probe 23 = .ok (.idiv, 1) := dk_108 (dk_at dksX0_probe_0 23 rfl rfl)
theorem dX0_probe_24 : decode cX0_probe 24 = .ok (.istore 5, 2) := dk_54 5 (dk_at dksX0_probe_1 0 rfl rfl)
theorem dX0_probe_26 : decode cX0_probe 26 = .ok (.iload 4, 2) := dk_21 4 (dk_at dksX0_probe_1 2 rfl rfl)
theorem dX0_probe_28 : decode cX0_probe 28 = .ok (.iload_n 1, 1) := dk_27 (dk_at dksX0_probe_1 4 rfl rfl)
theorem dX0_probe_29 : decode cX0_probe 29 = .ok (.if_icmp .ne 6, 3) := dk_160 0 6 (dk_at dksX0_probe_1 5 rfl rfl)
theorem dX0_probe_32 : decode cX0_probe 32 = .ok (.iload 5, 2) := dk_21 5 (dk_at dksX0_probe_1 8 rfl rfl)
theorem dX0_probe_34 : decode cX0_probe 34 = .ok (.ireturn, 1) := dk_172 (dk_at dksX0_probe_1 10 rfl rfl)
theorem dX0_probe_35 : decode cX0_probe 35 = .ok (.aload_n 0, 1) := dk_42 (dk_at dksX0_probe_1 11 rfl rfl)
theorem dX0_probe_36 : decode cX0_probe 36 = .ok (.getfield 12, 3) := dk_180 0 12 (dk_at dksX0_probe_1 12 rfl rfl)
theorem dX0_probe_39 : decode cX0_probe 39 = .ok (.iload 5, 2) := dk_21 5 (dk_at dksX0_probe_1 15 rfl rfl)
theorem dX0_probe_41 : decode cX0_probe 41 = .ok (.bipush (-9), 2) := dk_16 247 (dk_at dksX0_probe_1 17 rfl rfl)
theorem dX0_probe_43 : decode cX0_probe 43 = .ok (.invokevirtual 241, 3) := dk_182 0 241 (dk_at dksX0_probe_1 19 rfl rfl)
theorem dX0_probe_46 : decode cX0_probe 46 = .ok (.ifCond .eq 9, 3) := dk_153 0 9 (dk_at dksX0_probe_2 0 rfl rfl)
theorem dX0_probe_49 : decode cX0_probe 49 = .ok (.iload 5, 2) := dk_21 5 (dk_at dksX0_probe_2 3 rfl rfl)
theorem dX0_probe_51 : decode cX0_probe 51 = .ok (.istore_n 3, 1) := dk_62 (dk_at dksX0_probe_2 5 rfl rfl)
theorem dX0_probe_52 : decode cX0_probe 52 = .ok (.goto 8, 3) := dk_167 0 8 (dk_at dksX0_probe_2 6 rfl rfl)
theorem dX0_probe_55 : decode cX0_probe 55 = .ok (.iload 5, 2) := dk_21 5 (dk_at dksX0_probe_2 9 rfl rfl)
theorem dX0_probe_57 : decode cX0_probe 57 = .ok (.iconst 1, 1) := dk_4 (dk_at dksX0_probe_2 11 rfl rfl)
theorem dX0_probe_58 : decode cX0_probe 58 = .ok (.iadd, 1) := dk_96 (dk_at dksX0_probe_2 12 rfl rfl)
theorem dX0_probe_59 : decode cX0_probe 59 = .ok (.istore_n 2, 1) := dk_61 (dk_at dksX0_probe_2 13 rfl rfl)
theorem dX0_probe_60 : decode cX0_probe 60 = .ok (.iinc 4 1, 3) := dk_132 4 1 (dk_at dksX0_probe_2 14 rfl rfl)
theorem dX0_probe_63 : decode cX0_probe 63 = .ok (.goto (-49), 3) := dk_167 255 207 (dk_at dksX0_probe_2 17 rfl rfl)
theorem dX0_probe_66 : decode cX0_probe 66 = .ok (.bipush (-9), 2) := dk_16 247 (dk_at dksX0_probe_2 20 rfl rfl)
theorem dX0_probe_68 : decode cX0_probe 68 = .ok (.ireturn, 1) := dk_172 (dk_at dksX0_probe_2 22 rfl rfl)
abbrev cX0_thresholdBetween : ByteArray := prog_1_method_39_code
def yX0_thresholdBetween : MethodName := ⟨RX0, "thresholdBetween", "(II)I"⟩
def dkwX0_thresholdBetween_1 : List UInt8 := [42, 27, 28, 186, 0, 247, 0, 0, 184, 0, 251, 172]
abbrev dktX0_thresholdBetween_1 : List UInt8 := dkwX0_thresholdBetween_1 ++ []
def dkwX0_thresholdBetween_0 : List UInt8 := [42, 180, 0, 12, 27, 182, 0, 86, 153, 0, 14, 42, 180, 0, 12, 28, 182, 0, 86, 154, 0, 5, 2, 172]
abbrev dktX0_thresholdBetween_0 : List UInt8 := dkwX0_thresholdBetween_0 ++ dktX0_thresholdBetween_1
theorem dksX0_thresholdBetween_0 : cX0_thresholdBetween.data.toList.drop 0 = dktX0_thresholdBetween_0 := by decide +kernel
theorem dksX0_thresholdBetween_1 : cX0_thresholdBetween.data.toList.drop 24 = dktX0_thresholdBetween_1 := dk_seg dksX0_thresholdBetween_0 24 rfl rfl
theorem dX0_thresholdBetween_0 : decode cX0_thresholdBetween 0 = .ok (.aload_n 0, 1) := dk_42 (dk_at dksX0_thresholdBetween_0 0 rfl rfl)
theorem dX0_thresholdBetween_1 : decode cX0_thresholdBetween 1 = .ok (.getfield 12, 3) := dk_180 0 12 (dk_at dksX0_thresholdBetween_0 1 rfl rfl)
theorem dX0_thresholdBetween_4 : decode cX0_thresholdBetween 4 = .ok (.iload_n 1, 1) := dk_27 (dk_at dksX0_thresholdBetween_0 4 rfl rfl)
theorem dX0_thresholdBetween_5 : decode cX0_thresholdBetween 5 = .ok (.invokevirtual 86, 3) := dk_182 0 86 (dk_at dksX0_thresholdBetween_0 5 rfl rfl)
theorem dX0_thresholdBetween_8 : decode cX0_thresholdBetween 8 = .ok (.ifCond .eq 14, 3) := dk_153 0 14 (dk_at dksX0_thresholdBetween_0 8 rfl rfl)
theorem dX0_thresholdBetween_11 : decode cX0_thresholdBetween 11 = .ok (.aload_n 0, 1) := dk_42 (dk_at dksX0_thresholdBetween_0 11 rfl rfl)
theorem dX0_thresholdBetween_12 : decode cX0_thresholdBetween 12 = .ok (.getfield 12, 3) := dk_180 0 12 (dk_at dksX0_thresholdBetween_0 12 rfl rfl)
theorem dX0_thresholdBetween_15 : decode cX0_thresholdBetween 15 = .ok (.iload_n 2, 1) := dk_28 (dk_at dksX0_thresholdBetween_0 15 rfl rfl)
theorem dX0_thresholdBetween_16 : decode cX0_thresholdBetween 16 = .ok (.invokevirtual 86, 3) := dk_182 0 86 (dk_at dksX0_thresholdBetween_0 16 rfl rfl)
theorem dX0_thresholdBetween_19 : decode cX0_thresholdBetween 19 = .ok (.ifCond .ne 5, 3) := dk_154 0 5 (dk_at dksX0_thresholdBetween_0 19 rfl rfl)
theorem dX0_thresholdBetween_22 : decode cX0_thresholdBetween 22 = .ok (.iconst (-1), 1) := dk_2 (dk_at dksX0_thresholdBetween_0 22 rfl rfl)
theorem dX0_thresholdBetween_23 : decode cX0_thresholdBetween 23 = .ok (.ireturn, 1) := dk_172 (dk_at dksX0_thresholdBetween_0 23 rfl rfl)
theorem dX0_thresholdBetween_24 : decode cX0_thresholdBetween 24 = .ok (.aload_n 0, 1) := dk_42 (dk_at dksX0_thresholdBetween_1 0 rfl rfl)
theorem dX0_thresholdBetween_25 : decode cX0_thresholdBetween 25 = .ok (.iload_n 1, 1) := dk_27 (dk_at dksX0_thresholdBetween_1 1 rfl rfl)
theorem dX0_thresholdBetween_26 : decode cX0_thresholdBetween 26 = .ok (.iload_n 2, 1) := dk_28 (dk_at dksX0_thresholdBetween_1 2 rfl rfl)
theorem dX0_thresholdBetween_27 : decode cX0_thresholdBetween 27 = .ok (.invokedynamic 247, 5) := by decide +kernel
theorem dX0_thresholdBetween_32 : decode cX0_thresholdBetween 32 = .ok (.invokestatic 251, 3) := dk_184 0 251 (dk_at dksX0_thresholdBetween_1 8 rfl rfl)
theorem dX0_thresholdBetween_35 : decode cX0_thresholdBetween 35 = .ok (.ireturn, 1) := dk_172 (dk_at dksX0_thresholdBetween_1 11 rfl rfl)
abbrev cX0_lambda_thresholdBetween_0 : ByteArray := prog_1_method_42_code
def yX0_lambda_thresholdBetween_0 : MethodName := ⟨RX0, "lambda$thresholdBetween$0", "(III)Z"⟩
def dkwX0_lambda_thresholdBetween_0_0 : List UInt8 := [42, 180, 0, 12, 27, 28, 29, 182, 1, 2, 172]
abbrev dktX0_lambda_thresholdBetween_0_0 : List UInt8 := dkwX0_lambda_thresholdBetween_0_0 ++ []
theorem dksX0_lambda_thresholdBetween_0_0 : cX0_lambda_thresholdBetween_0.data.toList.drop 0 = dktX0_lambda_thresholdBetween_0_0 := by decide +kernel
theorem dX0_lambda_thresholdBetween_0_0 : decode cX0_lambda_thresholdBetween_0 0 = .ok (.aload_n 0, 1) := dk_42 (dk_at dksX0_lambda_thresholdBetween_0_0 0 rfl rfl)
theorem dX0_lambda_thresholdBetween_0_1 : decode cX0_lambda_thresholdBetween_0 1 = .ok (.getfield 12, 3) := dk_180 0 12 (dk_at dksX0_lambda_thresholdBetween_0_0 1 rfl rfl)
theorem dX0_lambda_thresholdBetween_0_4 : decode cX0_lambda_thresholdBetween_0 4 = .ok (.iload_n 1, 1) := dk_27 (dk_at dksX0_lambda_thresholdBetween_0_0 4 rfl rfl)
theorem dX0_lambda_thresholdBetween_0_5 : decode cX0_lambda_thresholdBetween_0 5 = .ok (.iload_n 2, 1) := dk_28 (dk_at dksX0_lambda_thresholdBetween_0_0 5 rfl rfl)
theorem dX0_lambda_thresholdBetween_0_6 : decode cX0_lambda_thresholdBetween_0 6 = .ok (.iload_n 3, 1) := dk_29 (dk_at dksX0_lambda_thresholdBetween_0_0 6 rfl rfl)
theorem dX0_lambda_thresholdBetween_0_7 : decode cX0_lambda_thresholdBetween_0 7 = .ok (.invokevirtual 258, 3) := dk_182 1 2 (dk_at dksX0_lambda_thresholdBetween_0_0 7 rfl rfl)
theorem dX0_lambda_thresholdBetween_0_10 : decode cX0_lambda_thresholdBetween_0 10 = .ok (.ireturn, 1) := dk_172 (dk_at dksX0_lambda_thresholdBetween_0_0 10 rfl rfl)
abbrev cX0_pivots : ByteArray := prog_1_method_40_code
def yX0_pivots : MethodName := ⟨RX0, "pivots", "()I"⟩
def dkwX0_pivots_3 : List UInt8 := [167, 0, 4, 3, 96, 60, 132, 2, 1, 167, 255, 205, 27, 172]
abbrev dktX0_pivots_3 : List UInt8 := dkwX0_pivots_3 ++ []
def dkwX0_pivots_2 : List UInt8 := [153, 0, 25, 42, 180, 0, 12, 42, 180, 0, 12, 180, 0, 114, 28, 182, 0, 241, 154, 0, 7, 4]
abbrev dktX0_pivots_2 : List UInt8 := dkwX0_pivots_2 ++ dktX0_pivots_3
def dkwX0_pivots_1 : List UInt8 := [3, 61, 28, 42, 180, 0, 12, 182, 0, 60, 162, 0, 46, 27, 42, 180, 0, 12, 28, 182, 0, 215]
abbrev dktX0_pivots_1 : List UInt8 := dkwX0_pivots_1 ++ dktX0_pivots_2
def dkwX0_pivots_0 : List UInt8 := [42, 180, 0, 12, 42, 180, 0, 12, 180, 0, 114, 16, 247, 182, 0, 241, 154, 0, 6, 16, 254, 172, 3, 60]
abbrev dktX0_pivots_0 : List UInt8 := dkwX0_pivots_0 ++ dktX0_pivots_1
theorem dksX0_pivots_0 : cX0_pivots.data.toList.drop 0 = dktX0_pivots_0 := by decide +kernel
theorem dksX0_pivots_1 : cX0_pivots.data.toList.drop 24 = dktX0_pivots_1 := dk_seg dksX0_pivots_0 24 rfl rfl
theorem dksX0_pivots_2 : cX0_pivots.data.toList.drop 46 = dktX0_pivots_2 := dk_seg dksX0_pivots_1 22 rfl rfl
theorem dksX0_pivots_3 : cX0_pivots.data.toList.drop 68 = dktX0_pivots_3 := dk_seg dksX0_pivots_2 22 rfl rfl
theorem dX0_pivots_0 : decode cX0_pivots 0 = .ok (.aload_n 0, 1) := dk_42 (dk_at dksX0_pivots_0 0 rfl rfl)
theorem dX0_pivots_1 : decode cX0_pivots 1 = .ok (.getfield 12, 3) := dk_180 0 12 (dk_at dksX0_pivots_0 1 rfl rfl)
theorem dX0_pivots_4 : decode cX0_pivots 4 = .ok (.aload_n 0, 1) := dk_42 (dk_at dksX0_pivots_0 4 rfl rfl)
theorem dX0_pivots_5 : decode cX0_pivots 5 = .ok (.getfield 12, 3) := dk_180 0 12 (dk_at dksX0_pivots_0 5 rfl rfl)
theorem dX0_pivots_8 : decode cX0_pivots 8 = .ok (.getfield 114, 3) := dk_180 0 114 (dk_at dksX0_pivots_0 8 rfl rfl)
theorem dX0_pivots_11 : decode cX0_pivots 11 = .ok (.bipush (-9), 2) := dk_16 247 (dk_at dksX0_pivots_0 11 rfl rfl)
theorem dX0_pivots_13 : decode cX0_pivots 13 = .ok (.invokevirtual 241, 3) := dk_182 0 241 (dk_at dksX0_pivots_0 13 rfl rfl)
theorem dX0_pivots_16 : decode cX0_pivots 16 = .ok (.ifCond .ne 6, 3) := dk_154 0 6 (dk_at dksX0_pivots_0 16 rfl rfl)
theorem dX0_pivots_19 : decode cX0_pivots 19 = .ok (.bipush (-2), 2) := dk_16 254 (dk_at dksX0_pivots_0 19 rfl rfl)
theorem dX0_pivots_21 : decode cX0_pivots 21 = .ok (.ireturn, 1) := dk_172 (dk_at dksX0_pivots_0 21 rfl rfl)
theorem dX0_pivots_22 : decode cX0_pivots 22 = .ok (.iconst 0, 1) := dk_3 (dk_at dksX0_pivots_0 22 rfl rfl)
theorem dX0_pivots_23 : decode cX0_pivots 23 = .ok (.istore_n 1, 1) := dk_60 (dk_at dksX0_pivots_0 23 rfl rfl)
theorem dX0_pivots_24 : decode cX0_pivots 24 = .ok (.iconst 0, 1) := dk_3 (dk_at dksX0_pivots_1 0 rfl rfl)
theorem dX0_pivots_25 : decode cX0_pivots 25 = .ok (.istore_n 2, 1) := dk_61 (dk_at dksX0_pivots_1 1 rfl rfl)
theorem dX0_pivots_26 : decode cX0_pivots 26 = .ok (.iload_n 2, 1) := dk_28 (dk_at dksX0_pivots_1 2 rfl rfl)
theorem dX0_pivots_27 : decode cX0_pivots 27 = .ok (.aload_n 0, 1) := dk_42 (dk_at dksX0_pivots_1 3 rfl rfl)
theorem dX0_pivots_28 : decode cX0_pivots 28 = .ok (.getfield 12, 3) := dk_180 0 12 (dk_at dksX0_pivots_1 4 rfl rfl)
theorem dX0_pivots_31 : decode cX0_pivots 31 = .ok (.invokevirtual 60, 3) := dk_182 0 60 (dk_at dksX0_pivots_1 7 rfl rfl)
theorem dX0_pivots_34 : decode cX0_pivots 34 = .ok (.if_icmp .ge 46, 3) := dk_162 0 46 (dk_at dksX0_pivots_1 10 rfl rfl)
theorem dX0_pivots_37 : decode cX0_pivots 37 = .ok (.iload_n 1, 1) := dk_27 (dk_at dksX0_pivots_1 13 rfl rfl)
theorem dX0_pivots_38 : decode cX0_pivots 38 = .ok (.aload_n 0, 1) := dk_42 (dk_at dksX0_pivots_1 14 rfl rfl)
theorem dX0_pivots_39 : decode cX0_pivots 39 = .ok (.getfield 12, 3) := dk_180 0 12 (dk_at dksX0_pivots_1 15 rfl rfl)
theorem dX0_pivots_42 : decode cX0_pivots 42 = .ok (.iload_n 2, 1) := dk_28 (dk_at dksX0_pivots_1 18 rfl rfl)
theorem dX0_pivots_43 : decode cX0_pivots 43 = .ok (.invokevirtual 215, 3) := dk_182 0 215 (dk_at dksX0_pivots_1 19 rfl rfl)
theorem dX0_pivots_46 : decode cX0_pivots 46 = .ok (.ifCond .eq 25, 3) := dk_153 0 25 (dk_at dksX0_pivots_2 0 rfl rfl)
theorem dX0_pivots_49 : decode cX0_pivots 49 = .ok (.aload_n 0, 1) := dk_42 (dk_at dksX0_pivots_2 3 rfl rfl)
theorem dX0_pivots_50 : decode cX0_pivots 50 = .ok (.getfield 12, 3) := dk_180 0 12 (dk_at dksX0_pivots_2 4 rfl rfl)
theorem dX0_pivots_53 : decode cX0_pivots 53 = .ok (.aload_n 0, 1) := dk_42 (dk_at dksX0_pivots_2 7 rfl rfl)
theorem dX0_pivots_54 : decode cX0_pivots 54 = .ok (.getfield 12, 3) := dk_180 0 12 (dk_at dksX0_pivots_2 8 rfl rfl)
theorem dX0_pivots_57 : decode cX0_pivots 57 = .ok (.getfield 114, 3) := dk_180 0 114 (dk_at dksX0_pivots_2 11 rfl rfl)
theorem dX0_pivots_60 : decode cX0_pivots 60 = .ok (.iload_n 2, 1) := dk_28 (dk_at dksX0_pivots_2 14 rfl rfl)
theorem dX0_pivots_61 : decode cX0_pivots 61 = .ok (.invokevirtual 241, 3) := dk_182 0 241 (dk_at dksX0_pivots_2 15 rfl rfl)
theorem dX0_pivots_64 : decode cX0_pivots 64 = .ok (.ifCond .ne 7, 3) := dk_154 0 7 (dk_at dksX0_pivots_2 18 rfl rfl)
theorem dX0_pivots_67 : decode cX0_pivots 67 = .ok (.iconst 1, 1) := dk_4 (dk_at dksX0_pivots_2 21 rfl rfl)
theorem dX0_pivots_68 : decode cX0_pivots 68 = .ok (.goto 4, 3) := dk_167 0 4 (dk_at dksX0_pivots_3 0 rfl rfl)
theorem dX0_pivots_71 : decode cX0_pivots 71 = .ok (.iconst 0, 1) := dk_3 (dk_at dksX0_pivots_3 3 rfl rfl)
theorem dX0_pivots_72 : decode cX0_pivots 72 = .ok (.iadd, 1) := dk_96 (dk_at dksX0_pivots_3 4 rfl rfl)
theorem dX0_pivots_73 : decode cX0_pivots 73 = .ok (.istore_n 1, 1) := dk_60 (dk_at dksX0_pivots_3 5 rfl rfl)
theorem dX0_pivots_74 : decode cX0_pivots 74 = .ok (.iinc 2 1, 3) := dk_132 2 1 (dk_at dksX0_pivots_3 6 rfl rfl)
theorem dX0_pivots_77 : decode cX0_pivots 77 = .ok (.goto (-51), 3) := dk_167 255 205 (dk_at dksX0_pivots_3 9 rfl rfl)
theorem dX0_pivots_80 : decode cX0_pivots 80 = .ok (.iload_n 1, 1) := dk_27 (dk_at dksX0_pivots_3 12 rfl rfl)
theorem dX0_pivots_81 : decode cX0_pivots 81 = .ok (.ireturn, 1) := dk_172 (dk_at dksX0_pivots_3 13 rfl rfl)
abbrev cX0_bestValve : ByteArray := prog_1_method_41_code
def yX0_bestValve : MethodName := ⟨RX0, "bestValve", "()I"⟩
def dkwX0_bestValve_4 : List UInt8 := [25, 4, 180, 0, 102, 21, 5, 178, 0, 230, 83, 132, 5, 1, 167, 255, 184, 29, 172]
abbrev dktX0_bestValve_4 : List UInt8 := dkwX0_bestValve_4 ++ []
def dkwX0_bestValve_3 : List UInt8 := [83, 25, 4, 28, 4, 100, 16, 247, 182, 0, 241, 153, 0, 12, 25, 4, 182, 0, 244, 61, 21, 5, 62]
abbrev dktX0_bestValve_3 : List UInt8 := dkwX0_bestValve_3 ++ dktX0_bestValve_4
def dkwX0_bestValve_2 : List UInt8 := [25, 4, 180, 0, 102, 21, 5, 50, 178, 0, 230, 166, 0, 47, 25, 4, 180, 0, 102, 21, 5, 178, 0, 255]
abbrev dktX0_bestValve_2 : List UInt8 := dkwX0_bestValve_2 ++ dktX0_bestValve_3
def dkwX0_bestValve_1 : List UInt8 := [42, 180, 0, 12, 182, 0, 32, 58, 4, 3, 54, 5, 21, 5, 25, 4, 180, 0, 102, 190, 162, 0, 67]
abbrev dktX0_bestValve_1 : List UInt8 := dkwX0_bestValve_1 ++ dktX0_bestValve_2
def dkwX0_bestValve_0 : List UInt8 := [42, 180, 0, 12, 182, 0, 244, 60, 27, 16, 247, 160, 0, 8, 16, 101, 167, 0, 4, 27, 61, 16, 247, 62]
abbrev dktX0_bestValve_0 : List UInt8 := dkwX0_bestValve_0 ++ dktX0_bestValve_1
theorem dksX0_bestValve_0 : cX0_bestValve.data.toList.drop 0 = dktX0_bestValve_0 := by decide +kernel
theorem dksX0_bestValve_1 : cX0_bestValve.data.toList.drop 24 = dktX0_bestValve_1 := dk_seg dksX0_bestValve_0 24 rfl rfl
theorem dksX0_bestValve_2 : cX0_bestValve.data.toList.drop 47 = dktX0_bestValve_2 := dk_seg dksX0_bestValve_1 23 rfl rfl
theorem dksX0_bestValve_3 : cX0_bestValve.data.toList.drop 71 = dktX0_bestValve_3 := dk_seg dksX0_bestValve_2 24 rfl rfl
theorem dksX0_bestValve_4 : cX0_bestValve.data.toList.drop 94 = dktX0_bestValve_4 := dk_seg dksX0_bestValve_3 23 rfl rfl
theorem dX0_bestValve_0 : decode cX0_bestValve 0 = .ok (.aload_n 0, 1) := dk_42 (dk_at dksX0_bestValve_0 0 rfl rfl)
theorem dX0_bestValve_1 : decode cX0_bestValve 1 = .ok (.getfield 12, 3) := dk_180 0 12 (dk_at dksX0_bestValve_0 1 rfl rfl)
theorem dX0_bestValve_4 : decode cX0_bestValve 4 = .ok (.invokevirtual 244, 3) := dk_182 0 244 (dk_at dksX0_bestValve_0 4 rfl rfl)
theorem dX0_bestValve_7 : decode cX0_bestValve 7 = .ok (.istore_n 1, 1) := dk_60 (dk_at dksX0_bestValve_0 7 rfl rfl)
theorem dX0_bestValve_8 : decode cX0_bestValve 8 = .ok (.iload_n 1, 1) := dk_27 (dk_at dksX0_bestValve_0 8 rfl rfl)
theorem dX0_bestValve_9 : decode cX0_bestValve 9 = .ok (.bipush (-9), 2) := dk_16 247 (dk_at dksX0_bestValve_0 9 rfl rfl)
theorem dX0_bestValve_11 : decode cX0_bestValve 11 = .ok (.if_icmp .ne 8, 3) := dk_160 0 8 (dk_at dksX0_bestValve_0 11 rfl rfl)
theorem dX0_bestValve_14 : decode cX0_bestValve 14 = .ok (.bipush 101, 2) := dk_16 101 (dk_at dksX0_bestValve_0 14 rfl rfl)
theorem dX0_bestValve_16 : decode cX0_bestValve 16 = .ok (.goto 4, 3) := dk_167 0 4 (dk_at dksX0_bestValve_0 16 rfl rfl)
theorem dX0_bestValve_19 : decode cX0_bestValve 19 = .ok (.iload_n 1, 1) := dk_27 (dk_at dksX0_bestValve_0 19 rfl rfl)
theorem dX0_bestValve_20 : decode cX0_bestValve 20 = .ok (.istore_n 2, 1) := dk_61 (dk_at dksX0_bestValve_0 20 rfl rfl)
theorem dX0_bestValve_21 : decode cX0_bestValve 21 = .ok (.bipush (-9), 2) := dk_16 247 (dk_at dksX0_bestValve_0 21 rfl rfl)
theorem dX0_bestValve_23 : decode cX0_bestValve 23 = .ok (.istore_n 3, 1) := dk_62 (dk_at dksX0_bestValve_0 23 rfl rfl)
theorem dX0_bestValve_24 : decode cX0_bestValve 24 = .ok (.aload_n 0, 1) := dk_42 (dk_at dksX0_bestValve_1 0 rfl rfl)
theorem dX0_bestValve_25 : decode cX0_bestValve 25 = .ok (.getfield 12, 3) := dk_180 0 12 (dk_at dksX0_bestValve_1 1 rfl rfl)
theorem dX0_bestValve_28 : decode cX0_bestValve 28 = .ok (.invokevirtual 32, 3) := dk_182 0 32 (dk_at dksX0_bestValve_1 4 rfl rfl)
theorem dX0_bestValve_31 : decode cX0_bestValve 31 = .ok (.astore 4, 2) := dk_58 4 (dk_at dksX0_bestValve_1 7 rfl rfl)
theorem dX0_bestValve_33 : decode cX0_bestValve 33 = .ok (.iconst 0, 1) := dk_3 (dk_at dksX0_bestValve_1 9 rfl rfl)
theorem dX0_bestValve_34 : decode cX0_bestValve 34 = .ok (.istore 5, 2) := dk_54 5 (dk_at dksX0_bestValve_1 10 rfl rfl)
theorem dX0_bestValve_36 : decode cX0_bestValve 36 = .ok (.iload 5, 2) := dk_21 5 (dk_at dksX0_bestValve_1 12 rfl rfl)
theorem dX0_bestValve_38 : decode cX0_bestValve 38 = .ok (.aload 4, 2) := dk_25 4 (dk_at dksX0_bestValve_1 14 rfl rfl)
theorem dX0_bestValve_40 : decode cX0_bestValve 40 = .ok (.getfield 102, 3) := dk_180 0 102 (dk_at dksX0_bestValve_1 16 rfl rfl)
theorem dX0_bestValve_43 : decode cX0_bestValve 43 = .ok (.arraylength, 1) := dk_190 (dk_at dksX0_bestValve_1 19 rfl rfl)
theorem dX0_bestValve_44 : decode cX0_bestValve 44 = .ok (.if_icmp .ge 67, 3) := dk_162 0 67 (dk_at dksX0_bestValve_1 20 rfl rfl)
theorem dX0_bestValve_47 : decode cX0_bestValve 47 = .ok (.aload 4, 2) := dk_25 4 (dk_at dksX0_bestValve_2 0 rfl rfl)
theorem dX0_bestValve_49 : decode cX0_bestValve 49 = .ok (.getfield 102, 3) := dk_180 0 102 (dk_at dksX0_bestValve_2 2 rfl rfl)
theorem dX0_bestValve_52 : decode cX0_bestValve 52 = .ok (.iload 5, 2) := dk_21 5 (dk_at dksX0_bestValve_2 5 rfl rfl)
theorem dX0_bestValve_54 : decode cX0_bestValve 54 = .ok (.aaload, 1) := dk_50 (dk_at dksX0_bestValve_2 7 rfl rfl)
theorem dX0_bestValve_55 : decode cX0_bestValve 55 = .ok (.getstatic 230, 3) := dk_178 0 230 (dk_at dksX0_bestValve_2 8 rfl rfl)
theorem dX0_bestValve_58 : decode cX0_bestValve 58 = .ok (.if_acmp .ne 47, 3) := dk_166 0 47 (dk_at dksX0_bestValve_2 11 rfl rfl)
theorem dX0_bestValve_61 : decode cX0_bestValve 61 = .ok (.aload 4, 2) := dk_25 4 (dk_at dksX0_bestValve_2 14 rfl rfl)
theorem dX0_bestValve_63 : decode cX0_bestValve 63 = .ok (.getfield 102, 3) := dk_180 0 102 (dk_at dksX0_bestValve_2 16 rfl rfl)
theorem dX0_bestValve_66 : decode cX0_bestValve 66 = .ok (.iload 5, 2) := dk_21 5 (dk_at dksX0_bestValve_2 19 rfl rfl)
theorem dX0_bestValve_68 : decode cX0_bestValve 68 = .ok (.getstatic 255, 3) := dk_178 0 255 (dk_at dksX0_bestValve_2 21 rfl rfl)
theorem dX0_bestValve_71 : decode cX0_bestValve 71 = .ok (.aastore, 1) := dk_83 (dk_at dksX0_bestValve_3 0 rfl rfl)
theorem dX0_bestValve_72 : decode cX0_bestValve 72 = .ok (.aload 4, 2) := dk_25 4 (dk_at dksX0_bestValve_3 1 rfl rfl)
theorem dX0_bestValve_74 : decode cX0_bestValve 74 = .ok (.iload_n 2, 1) := dk_28 (dk_at dksX0_bestValve_3 3 rfl rfl)
theorem dX0_bestValve_75 : decode cX0_bestValve 75 = .ok (.iconst 1, 1) := dk_4 (dk_at dksX0_bestValve_3 4 rfl rfl)
theorem dX0_bestValve_76 : decode cX0_bestValve 76 = .ok (.isub, 1) := dk_100 (dk_at dksX0_bestValve_3 5 rfl rfl)
theorem dX0_bestValve_77 : decode cX0_bestValve 77 = .ok (.bipush (-9), 2) := dk_16 247 (dk_at dksX0_bestValve_3 6 rfl rfl)
theorem dX0_bestValve_79 : decode cX0_bestValve 79 = .ok (.invokevirtual 241, 3) := dk_182 0 241 (dk_at dksX0_bestValve_3 8 rfl rfl)
theorem dX0_bestValve_82 : decode cX0_bestValve 82 = .ok (.ifCond .eq 12, 3) := dk_153 0 12 (dk_at dksX0_bestValve_3 11 rfl rfl)
theorem dX0_bestValve_85 : decode cX0_bestValve 85 = .ok (.aload 4, 2) := dk_25 4 (dk_at dksX0_bestValve_3 14 rfl rfl)
theorem dX0_bestValve_87 : decode cX0_bestValve 87 = .ok (.invokevirtual 244, 3) := dk_182 0 244 (dk_at dksX0_bestValve_3 16 rfl rfl)
theorem dX0_bestValve_90 : decode cX0_bestValve 90 = .ok (.istore_n 2, 1) := dk_61 (dk_at dksX0_bestValve_3 19 rfl rfl)
theorem dX0_bestValve_91 : decode cX0_bestValve 91 = .ok (.iload 5, 2) := dk_21 5 (dk_at dksX0_bestValve_3 20 rfl rfl)
theorem dX0_bestValve_93 : decode cX0_bestValve 93 = .ok (.istore_n 3, 1) := dk_62 (dk_at dksX0_bestValve_3 22 rfl rfl)
theorem dX0_bestValve_94 : decode cX0_bestValve 94 = .ok (.aload 4, 2) := dk_25 4 (dk_at dksX0_bestValve_4 0 rfl rfl)
theorem dX0_bestValve_96 : decode cX0_bestValve 96 = .ok (.getfield 102, 3) := dk_180 0 102 (dk_at dksX0_bestValve_4 2 rfl rfl)
theorem dX0_bestValve_99 : decode cX0_bestValve 99 = .ok (.iload 5, 2) := dk_21 5 (dk_at dksX0_bestValve_4 5 rfl rfl)
theorem dX0_bestValve_101 : decode cX0_bestValve 101 = .ok (.getstatic 230, 3) := dk_178 0 230 (dk_at dksX0_bestValve_4 7 rfl rfl)
theorem dX0_bestValve_104 : decode cX0_bestValve 104 = .ok (.aastore, 1) := dk_83 (dk_at dksX0_bestValve_4 10 rfl rfl)
theorem dX0_bestValve_105 : decode cX0_bestValve 105 = .ok (.iinc 5 1, 3) := dk_132 5 1 (dk_at dksX0_bestValve_4 11 rfl rfl)
theorem dX0_bestValve_108 : decode cX0_bestValve 108 = .ok (.goto (-72), 3) := dk_167 255 184 (dk_at dksX0_bestValve_4 14 rfl rfl)
theorem dX0_bestValve_111 : decode cX0_bestValve 111 = .ok (.iload_n 3, 1) := dk_29 (dk_at dksX0_bestValve_4 17 rfl rfl)
theorem dX0_bestValve_112 : decode cX0_bestValve 112 = .ok (.ireturn, 1) := dk_172 (dk_at dksX0_bestValve_4 18 rfl rfl)
theorem q84 : (Jvm.Cond.initialized "DyeLattice") ∈ lw_all := lw_g (lw_at lw_m1 1 rfl) rfl
theorem q112 : (Jvm.Cond.instantiable "DyeLattice" (3 : Nat)) ∈ lw_all := lw_g (lw_at lw_m1 29 rfl) rfl
theorem q114 : (Jvm.Cond.instanceMethod ({ cls := "DyeLattice", name := "<init>", desc := "()V" } : Jvm.MethodName)) ∈ lw_all := lw_g (lw_at lw_m1 31 rfl) rfl
theorem q115 : (Jvm.Cond.code ({ cls := "DyeLattice", name := "<init>", desc := "()V" } : Jvm.MethodName) prog_1_method_5_code (1 : Nat) (Option.none : Option Jvm.ClassFile.FieldType)) ∈ lw_all := lw_g (lw_at lw_m1 32 rfl) rfl
theorem q116 : (Jvm.Cond.methodLink "DyeLattice" (1 : Nat) ({ cls := "java/lang/Object", name := "<init>", desc := "()V" } : Jvm.MethodName)) ∈ lw_all := lw_g (lw_at lw_m1 33 rfl) rfl
theorem q119 : (Jvm.Cond.classLink "DyeLattice" (7 : Nat) "DyeLattice$Lattice") ∈ lw_all := lw_g (lw_at lw_m1 36 rfl) rfl
theorem q121 : (Jvm.Cond.methodLink "DyeLattice" (9 : Nat) ({ cls := "DyeLattice$Lattice", name := "<init>", desc := "(II)V" } : Jvm.MethodName)) ∈ lw_all := lw_g (lw_at lw_m1 38 rfl) rfl
theorem q137 : (Jvm.Cond.fieldLinkNest "DyeLattice" (197 : Nat) "DyeLattice$Lattice" "columns" "I" "DyeLattice") ∈ lw_tbl := lw_at lw_m1 54 rfl
theorem q140 : (Jvm.Cond.fieldLinkNest "DyeLattice" (200 : Nat) "DyeLattice$Lattice" "rows" "I" "DyeLattice") ∈ lw_tbl := lw_at lw_m1 57 rfl
theorem q142 : (Jvm.Cond.fieldLinkNest "DyeLattice" (69 : Nat) "DyeLattice$Lattice" "kind" "LDyeLattice$Kind;" "DyeLattice") ∈ lw_tbl := lw_at lw_m1 59 rfl
theorem q145 : (Jvm.Cond.fieldLinkNest "DyeLattice" (114 : Nat) "DyeLattice$Lattice" "threshold" "I" "DyeLattice") ∈ lw_tbl := lw_at lw_m1 62 rfl
theorem q147 : (Jvm.Cond.fieldLinkNest "DyeLattice" (142 : Nat) "DyeLattice$Lattice" "beat" "I" "DyeLattice") ∈ lw_tbl := lw_at lw_m1 64 rfl
theorem q149 : (Jvm.Cond.fieldLinkNest "DyeLattice" (172 : Nat) "DyeLattice$Lattice" "time" "I" "DyeLattice") ∈ lw_tbl := lw_at lw_m1 66 rfl
theorem q151 : (Jvm.Cond.fieldLinkNest "DyeLattice" (130 : Nat) "DyeLattice$Lattice" "reactions" "I" "DyeLattice") ∈ lw_tbl := lw_at lw_m1 68 rfl
theorem q154 : (Jvm.Cond.fieldLinkNest "DyeLattice" (90 : Nat) "DyeLattice$Lattice" "grains" "[I" "DyeLattice") ∈ lw_tbl := lw_at lw_m1 71 rfl
theorem q157 : (Jvm.Cond.fieldLinkNest "DyeLattice" (102 : Nat) "DyeLattice$Lattice" "valves" "[LDyeLattice$Valve;" "DyeLattice") ∈ lw_tbl := lw_at lw_m1 74 rfl
theorem q160 : (Jvm.Cond.fieldLinkNest "DyeLattice" (124 : Nat) "DyeLattice$Lattice" "sources" "[I" "DyeLattice") ∈ lw_tbl := lw_at lw_m1 77 rfl
theorem q162 : (Jvm.Cond.fieldLinkNest "DyeLattice" (178 : Nat) "DyeLattice$Lattice" "dyes" "[I" "DyeLattice") ∈ lw_tbl := lw_at lw_m1 79 rfl
theorem q164 : (Jvm.Cond.fieldLinkNest "DyeLattice" (181 : Nat) "DyeLattice$Lattice" "isClogged" "[Z" "DyeLattice") ∈ lw_tbl := lw_at lw_m1 81 rfl
theorem q192 : (Jvm.Cond.classLink "DyeLattice" (18 : Nat) "java/util/ArrayDeque") ∈ lw_all := lw_g (lw_at lw_m1 109 rfl) rfl
theorem q194 : (Jvm.Cond.methodLink "DyeLattice" (20 : Nat) ({ cls := "java/util/ArrayDeque", name := "<init>", desc := "()V" } : Jvm.MethodName)) ∈ lw_all := lw_g (lw_at lw_m1 111 rfl) rfl
theorem q213 : (Jvm.Cond.classLink "DyeLattice" (25 : Nat) "java/lang/StringBuilder") ∈ lw_all := lw_g (lw_at lw_m1 130 rfl) rfl
theorem q215 : (Jvm.Cond.methodLink "DyeLattice" (27 : Nat) ({ cls := "java/lang/StringBuilder", name := "<init>", desc := "()V" } : Jvm.MethodName)) ∈ lw_all := lw_g (lw_at lw_m1 132 rfl) rfl
theorem q245 : (Jvm.Cond.fieldLink "DyeLattice" (12 : Nat) "DyeLattice" "lattice" "LDyeLattice$Lattice;") ∈ lw_all := lw_g (lw_at lw_m1 162 rfl) rfl
theorem q246 : (Jvm.Cond.fieldLink "DyeLattice" (21 : Nat) "DyeLattice" "history" "Ljava/util/ArrayDeque;") ∈ lw_all := lw_g (lw_at lw_m1 163 rfl) rfl
theorem q248 : (Jvm.Cond.fieldLink "DyeLattice" (28 : Nat) "DyeLattice" "text" "Ljava/lang/StringBuilder;") ∈ lw_all := lw_g (lw_at lw_m1 165 rfl) rfl
theorem q249 : (Jvm.Cond.lays "DyeLattice" "DyeLattice" "lattice" "LDyeLattice$Lattice;") ∈ lw_all := lw_g (lw_at lw_m1 166 rfl) rfl
theorem q250 : (Jvm.Cond.soleField "DyeLattice" "lattice") ∈ lw_all := lw_g (lw_at lw_m1 167 rfl) rfl
theorem q251 : (Jvm.Cond.laysFinal "DyeLattice" "DyeLattice" "history" "Ljava/util/ArrayDeque;") ∈ lw_all := lw_g (lw_at lw_m1 168 rfl) rfl
theorem q252 : (Jvm.Cond.soleField "DyeLattice" "history") ∈ lw_all := lw_g (lw_at lw_m1 169 rfl) rfl
theorem q253 : (Jvm.Cond.laysFinal "DyeLattice" "DyeLattice" "text" "Ljava/lang/StringBuilder;") ∈ lw_all := lw_g (lw_at lw_m1 170 rfl) rfl
theorem q254 : (Jvm.Cond.soleField "DyeLattice" "text") ∈ lw_all := lw_g (lw_at lw_m1 171 rfl) rfl
theorem q255 : (Jvm.Cond.superclass "DyeLattice" "java/lang/Object") ∈ lw_all := lw_g (lw_at lw_m1 172 rfl) rfl
theorem q257 : (Jvm.Cond.instanceMethod ({ cls := "DyeLattice", name := "setSize", desc := "(II)I" } : Jvm.MethodName)) ∈ lw_all := lw_g (lw_at lw_m1 174 rfl) rfl
theorem q258 : (Jvm.Cond.selects "DyeLattice" ({ cls := "DyeLattice", name := "setSize", desc := "(II)I" } : Jvm.MethodName) ({ cls := "DyeLattice", name := "setSize", desc := "(II)I" } : Jvm.MethodName)) ∈ lw_all := lw_g (lw_at lw_m1 175 rfl) rfl
theorem q259 : (Jvm.Cond.code ({ cls := "DyeLattice", name := "setSize", desc := "(II)I" } : Jvm.MethodName) prog_1_method_8_code (3 : Nat) (Option.some Jvm.ClassFile.FieldType.int)) ∈ lw_all := lw_g (lw_at lw_m1 176 rfl) rfl
theorem q260 : (Jvm.Cond.methodLink "DyeLattice" (52 : Nat) ({ cls := "DyeLattice", name := "isBetween", desc := "(III)Z" } : Jvm.MethodName)) ∈ lw_all := lw_g (lw_at lw_m1 177 rfl) rfl
theorem q261 : (Jvm.Cond.static ({ cls := "DyeLattice", name := "isBetween", desc := "(III)Z" } : Jvm.MethodName)) ∈ lw_all := lw_g (lw_at lw_m1 178 rfl) rfl
theorem q262 : (Jvm.Cond.code ({ cls := "DyeLattice", name := "isBetween", desc := "(III)Z" } : Jvm.MethodName) prog_1_method_1_code (3 : Nat) (Option.some Jvm.ClassFile.FieldType.boolean)) ∈ lw_all := lw_g (lw_at lw_m1 179 rfl) rfl
theorem q263 : (Jvm.Cond.methodLink "DyeLattice" (56 : Nat) ({ cls := "DyeLattice$Lattice", name := "resized", desc := "(II)LDyeLattice$Lattice;" } : Jvm.MethodName)) ∈ lw_all := lw_g (lw_at lw_m1 180 rfl) rfl
theorem q269 : (Jvm.Cond.methodLink "DyeLattice" (36 : Nat) ({ cls := "DyeLattice", name := "replace", desc := "(LDyeLattice$Lattice;)V" } : Jvm.MethodName)) ∈ lw_all := lw_g (lw_at lw_m1 186 rfl) rfl
theorem q270 : (Jvm.Cond.privateMethod ({ cls := "DyeLattice", name := "replace", desc := "(LDyeLattice$Lattice;)V" } : Jvm.MethodName)) ∈ lw_tbl := lw_at lw_m1 187 rfl
theorem q271 : (Jvm.Cond.instanceMethod ({ cls := "DyeLattice", name := "replace", desc := "(LDyeLattice$Lattice;)V" } : Jvm.MethodName)) ∈ lw_all := lw_g (lw_at lw_m1 188 rfl) rfl
theorem q272 : (Jvm.Cond.code ({ cls := "DyeLattice", name := "replace", desc := "(LDyeLattice$Lattice;)V" } : Jvm.MethodName) prog_1_method_7_code (3 : Nat) (Option.none : Option Jvm.ClassFile.FieldType)) ∈ lw_all := lw_g (lw_at lw_m1 189 rfl) rfl
theorem q273 : (Jvm.Cond.methodLink "DyeLattice" (40 : Nat) ({ cls := "java/util/ArrayDeque", name := "size", desc := "()I" } : Jvm.MethodName)) ∈ lw_all := lw_g (lw_at lw_m1 190 rfl) rfl
theorem q280 : (Jvm.Cond.methodLink "DyeLattice" (44 : Nat) ({ cls := "java/util/ArrayDeque", name := "removeFirst", desc := "()Ljava/lang/Object;" } : Jvm.MethodName)) ∈ lw_all := lw_g (lw_at lw_m1 197 rfl) rfl
theorem q294 : (Jvm.Cond.methodLink "DyeLattice" (48 : Nat) ({ cls := "java/util/ArrayDeque", name := "addLast", desc := "(Ljava/lang/Object;)V" } : Jvm.MethodName)) ∈ lw_all := lw_g (lw_at lw_m1 211 rfl) rfl
theorem q314 : (Jvm.Cond.selects "DyeLattice" ({ cls := "java/lang/Object", name := "getClass", desc := "()Ljava/lang/Class;" } : Jvm.MethodName) ({ cls := "java/lang/Object", name := "getClass", desc := "()Ljava/lang/Class;" } : Jvm.MethodName)) ∈ lw_all := lw_g (lw_at lw_m1 231 rfl) rfl
theorem q344 : (Jvm.Cond.methodLink "DyeLattice" (60 : Nat) ({ cls := "DyeLattice$Lattice", name := "cells", desc := "()I" } : Jvm.MethodName)) ∈ lw_all := lw_g (lw_at lw_m2 21 rfl) rfl
theorem q349 : (Jvm.Cond.instanceMethod ({ cls := "DyeLattice", name := "setKind", desc := "(I)I" } : Jvm.MethodName)) ∈ lw_all := lw_g (lw_at lw_m2 26 rfl) rfl
theorem q350 : (Jvm.Cond.selects "DyeLattice" ({ cls := "DyeLattice", name := "setKind", desc := "(I)I" } : Jvm.MethodName) ({ cls := "DyeLattice", name := "setKind", desc := "(I)I" } : Jvm.MethodName)) ∈ lw_all := lw_g (lw_at lw_m2 27 rfl) rfl
theorem q351 : (Jvm.Cond.code ({ cls := "DyeLattice", name := "setKind", desc := "(I)I" } : Jvm.MethodName) prog_1_method_10_code (2 : Nat) (Option.some Jvm.ClassFile.FieldType.int)) ∈ lw_all := lw_g (lw_at lw_m2 28 rfl) rfl
theorem q352 : (Jvm.Cond.methodLink "DyeLattice" (76 : Nat) ({ cls := "DyeLattice", name := "act", desc := "()LDyeLattice$Lattice;" } : Jvm.MethodName)) ∈ lw_all := lw_g (lw_at lw_m2 29 rfl) rfl
theorem q353 : (Jvm.Cond.privateMethod ({ cls := "DyeLattice", name := "act", desc := "()LDyeLattice$Lattice;" } : Jvm.MethodName)) ∈ lw_tbl := lw_at lw_m2 30 rfl
theorem q354 : (Jvm.Cond.instanceMethod ({ cls := "DyeLattice", name := "act", desc := "()LDyeLattice$Lattice;" } : Jvm.MethodName)) ∈ lw_all := lw_g (lw_at lw_m2 31 rfl) rfl
theorem q355 : (Jvm.Cond.code ({ cls := "DyeLattice", name := "act", desc := "()LDyeLattice$Lattice;" } : Jvm.MethodName) prog_1_method_6_code (1 : Nat) (Option.some (Jvm.ClassFile.FieldType.object "DyeLattice$Lattice"))) ∈ lw_all := lw_g (lw_at lw_m2 32 rfl) rfl
theorem q356 : (Jvm.Cond.methodLink "DyeLattice" (32 : Nat) ({ cls := "DyeLattice$Lattice", name := "copy", desc := "()LDyeLattice$Lattice;" } : Jvm.MethodName)) ∈ lw_all := lw_g (lw_at lw_m2 33 rfl) rfl
theorem q362 : (Jvm.Cond.methodLink "DyeLattice" (79 : Nat) ({ cls := "DyeLattice", name := "changeKind", desc := "(LDyeLattice$Lattice;I)V" } : Jvm.MethodName)) ∈ lw_all := lw_g (lw_at lw_m2 39 rfl) rfl
theorem q363 : (Jvm.Cond.static ({ cls := "DyeLattice", name := "changeKind", desc := "(LDyeLattice$Lattice;I)V" } : Jvm.MethodName)) ∈ lw_all := lw_g (lw_at lw_m2 40 rfl) rfl
theorem q364 : (Jvm.Cond.code ({ cls := "DyeLattice", name := "changeKind", desc := "(LDyeLattice$Lattice;I)V" } : Jvm.MethodName) prog_1_method_9_code (2 : Nat) (Option.none : Option Jvm.ClassFile.FieldType)) ∈ lw_all := lw_g (lw_at lw_m2 41 rfl) rfl
theorem q365 : (Jvm.Cond.methodLink "DyeLattice" (63 : Nat) ({ cls := "DyeLattice$Kind", name := "of", desc := "(I)LDyeLattice$Kind;" } : Jvm.MethodName)) ∈ lw_all := lw_g (lw_at lw_m2 42 rfl) rfl
theorem q381 : (Jvm.Cond.methodLink "DyeLattice" (73 : Nat) ({ cls := "DyeLattice$Lattice", name := "freeValves", desc := "()V" } : Jvm.MethodName)) ∈ lw_all := lw_g (lw_at lw_m2 58 rfl) rfl
theorem q382 : (Jvm.Cond.methodLink "DyeLattice" (83 : Nat) ({ cls := "DyeLattice$Lattice", name := "bonds", desc := "()I" } : Jvm.MethodName)) ∈ lw_all := lw_g (lw_at lw_m2 59 rfl) rfl
theorem q401 : (Jvm.Cond.static ({ cls := "DyeLattice", name := "xStep", desc := "(I)I" } : Jvm.MethodName)) ∈ lw_all := lw_g (lw_at lw_m2 78 rfl) rfl
theorem q402 : (Jvm.Cond.code ({ cls := "DyeLattice", name := "xStep", desc := "(I)I" } : Jvm.MethodName) prog_1_method_2_code (1 : Nat) (Option.some Jvm.ClassFile.FieldType.int)) ∈ lw_all := lw_g (lw_at lw_m2 79 rfl) rfl
theorem q404 : (Jvm.Cond.static ({ cls := "DyeLattice", name := "yStep", desc := "(I)I" } : Jvm.MethodName)) ∈ lw_all := lw_g (lw_at lw_m2 81 rfl) rfl
theorem q405 : (Jvm.Cond.code ({ cls := "DyeLattice", name := "yStep", desc := "(I)I" } : Jvm.MethodName) prog_1_method_3_code (1 : Nat) (Option.some Jvm.ClassFile.FieldType.int)) ∈ lw_all := lw_g (lw_at lw_m2 82 rfl) rfl
theorem q411 : (Jvm.Cond.instanceMethod ({ cls := "DyeLattice", name := "setGrain", desc := "(II)I" } : Jvm.MethodName)) ∈ lw_all := lw_g (lw_at lw_m2 88 rfl) rfl
theorem q412 : (Jvm.Cond.selects "DyeLattice" ({ cls := "DyeLattice", name := "setGrain", desc := "(II)I" } : Jvm.MethodName) ({ cls := "DyeLattice", name := "setGrain", desc := "(II)I" } : Jvm.MethodName)) ∈ lw_all := lw_g (lw_at lw_m2 89 rfl) rfl
theorem q413 : (Jvm.Cond.code ({ cls := "DyeLattice", name := "setGrain", desc := "(II)I" } : Jvm.MethodName) prog_1_method_11_code (4 : Nat) (Option.some Jvm.ClassFile.FieldType.int)) ∈ lw_all := lw_g (lw_at lw_m2 90 rfl) rfl
theorem q414 : (Jvm.Cond.methodLink "DyeLattice" (86 : Nat) ({ cls := "DyeLattice$Lattice", name := "isCell", desc := "(I)Z" } : Jvm.MethodName)) ∈ lw_all := lw_g (lw_at lw_m2 91 rfl) rfl
theorem q416 : (Jvm.Cond.instanceMethod ({ cls := "DyeLattice", name := "fill", desc := "(I)I" } : Jvm.MethodName)) ∈ lw_all := lw_g (lw_at lw_m2 93 rfl) rfl
theorem q417 : (Jvm.Cond.selects "DyeLattice" ({ cls := "DyeLattice", name := "fill", desc := "(I)I" } : Jvm.MethodName) ({ cls := "DyeLattice", name := "fill", desc := "(I)I" } : Jvm.MethodName)) ∈ lw_all := lw_g (lw_at lw_m2 94 rfl) rfl
theorem q418 : (Jvm.Cond.code ({ cls := "DyeLattice", name := "fill", desc := "(I)I" } : Jvm.MethodName) prog_1_method_12_code (2 : Nat) (Option.some Jvm.ClassFile.FieldType.int)) ∈ lw_all := lw_g (lw_at lw_m2 95 rfl) rfl
theorem q419 : (Jvm.Cond.methodLink "DyeLattice" (94 : Nat) ({ cls := "DyeLattice$Lattice", name := "fill", desc := "(I)I" } : Jvm.MethodName)) ∈ lw_all := lw_g (lw_at lw_m2 96 rfl) rfl
theorem q433 : (Jvm.Cond.instanceMethod ({ cls := "DyeLattice", name := "setValve", desc := "(III)I" } : Jvm.MethodName)) ∈ lw_all := lw_g (lw_at lw_m2 110 rfl) rfl
theorem q434 : (Jvm.Cond.selects "DyeLattice" ({ cls := "DyeLattice", name := "setValve", desc := "(III)I" } : Jvm.MethodName) ({ cls := "DyeLattice", name := "setValve", desc := "(III)I" } : Jvm.MethodName)) ∈ lw_all := lw_g (lw_at lw_m2 111 rfl) rfl
theorem q435 : (Jvm.Cond.code ({ cls := "DyeLattice", name := "setValve", desc := "(III)I" } : Jvm.MethodName) prog_1_method_13_code (5 : Nat) (Option.some Jvm.ClassFile.FieldType.int)) ∈ lw_all := lw_g (lw_at lw_m2 112 rfl) rfl
theorem q436 : (Jvm.Cond.methodLink "DyeLattice" (98 : Nat) ({ cls := "DyeLattice$Lattice", name := "isBond", desc := "(II)Z" } : Jvm.MethodName)) ∈ lw_all := lw_g (lw_at lw_m2 113 rfl) rfl
theorem q437 : (Jvm.Cond.methodLink "DyeLattice" (106 : Nat) ({ cls := "DyeLattice$Valve", name := "ordinal", desc := "()I" } : Jvm.MethodName)) ∈ lw_all := lw_g (lw_at lw_m2 114 rfl) rfl
theorem q447 : (Jvm.Cond.methodLink "DyeLattice" (111 : Nat) ({ cls := "DyeLattice$Valve", name := "of", desc := "(I)LDyeLattice$Valve;" } : Jvm.MethodName)) ∈ lw_all := lw_g (lw_at lw_m2 124 rfl) rfl
theorem q461 : (Jvm.Cond.instanceMethod ({ cls := "DyeLattice", name := "setThreshold", desc := "(I)I" } : Jvm.MethodName)) ∈ lw_all := lw_g (lw_at lw_m2 138 rfl) rfl
theorem q462 : (Jvm.Cond.selects "DyeLattice" ({ cls := "DyeLattice", name := "setThreshold", desc := "(I)I" } : Jvm.MethodName) ({ cls := "DyeLattice", name := "setThreshold", desc := "(I)I" } : Jvm.MethodName)) ∈ lw_all := lw_g (lw_at lw_m2 139 rfl) rfl
theorem q463 : (Jvm.Cond.code ({ cls := "DyeLattice", name := "setThreshold", desc := "(I)I" } : Jvm.MethodName) prog_1_method_14_code (2 : Nat) (Option.some Jvm.ClassFile.FieldType.int)) ∈ lw_all := lw_g (lw_at lw_m2 140 rfl) rfl
theorem q464 : (Jvm.Cond.methodLink "DyeLattice" (118 : Nat) ({ cls := "DyeLattice$Lattice", name := "openCells", desc := "()I" } : Jvm.MethodName)) ∈ lw_all := lw_g (lw_at lw_m2 141 rfl) rfl
theorem q466 : (Jvm.Cond.instanceMethod ({ cls := "DyeLattice", name := "setSource", desc := "(III)I" } : Jvm.MethodName)) ∈ lw_all := lw_g (lw_at lw_m2 143 rfl) rfl
theorem q467 : (Jvm.Cond.selects "DyeLattice" ({ cls := "DyeLattice", name := "setSource", desc := "(III)I" } : Jvm.MethodName) ({ cls := "DyeLattice", name := "setSource", desc := "(III)I" } : Jvm.MethodName)) ∈ lw_all := lw_g (lw_at lw_m2 144 rfl) rfl
theorem q468 : (Jvm.Cond.code ({ cls := "DyeLattice", name := "setSource", desc := "(III)I" } : Jvm.MethodName) prog_1_method_16_code (4 : Nat) (Option.some Jvm.ClassFile.FieldType.int)) ∈ lw_all := lw_g (lw_at lw_m2 145 rfl) rfl
theorem q469 : (Jvm.Cond.methodLink "DyeLattice" (121 : Nat) ({ cls := "DyeLattice", name := "isDye", desc := "(I)Z" } : Jvm.MethodName)) ∈ lw_all := lw_g (lw_at lw_m2 146 rfl) rfl
theorem q470 : (Jvm.Cond.static ({ cls := "DyeLattice", name := "isDye", desc := "(I)Z" } : Jvm.MethodName)) ∈ lw_all := lw_g (lw_at lw_m2 147 rfl) rfl
theorem q471 : (Jvm.Cond.code ({ cls := "DyeLattice", name := "isDye", desc := "(I)Z" } : Jvm.MethodName) prog_1_method_15_code (1 : Nat) (Option.some Jvm.ClassFile.FieldType.boolean)) ∈ lw_all := lw_g (lw_at lw_m2 148 rfl) rfl
theorem q472 : (Jvm.Cond.methodLink "DyeLattice" (127 : Nat) ({ cls := "DyeLattice$Lattice", name := "sourcesOf", desc := "(I)I" } : Jvm.MethodName)) ∈ lw_all := lw_g (lw_at lw_m2 149 rfl) rfl
theorem q477 : (Jvm.Cond.instanceMethod ({ cls := "DyeLattice", name := "setReaction", desc := "(III)I" } : Jvm.MethodName)) ∈ lw_all := lw_g (lw_at lw_m2 154 rfl) rfl
theorem q478 : (Jvm.Cond.selects "DyeLattice" ({ cls := "DyeLattice", name := "setReaction", desc := "(III)I" } : Jvm.MethodName) ({ cls := "DyeLattice", name := "setReaction", desc := "(III)I" } : Jvm.MethodName)) ∈ lw_all := lw_g (lw_at lw_m2 155 rfl) rfl
theorem q479 : (Jvm.Cond.code ({ cls := "DyeLattice", name := "setReaction", desc := "(III)I" } : Jvm.MethodName) prog_1_method_17_code (4 : Nat) (Option.some Jvm.ClassFile.FieldType.int)) ∈ lw_all := lw_g (lw_at lw_m2 156 rfl) rfl
theorem q480 : (Jvm.Cond.methodLink "DyeLattice" (133 : Nat) ({ cls := "DyeLattice", name := "pair", desc := "(II)I" } : Jvm.MethodName)) ∈ lw_all := lw_g (lw_at lw_m2 157 rfl) rfl
theorem q481 : (Jvm.Cond.static ({ cls := "DyeLattice", name := "pair", desc := "(II)I" } : Jvm.MethodName)) ∈ lw_all := lw_g (lw_at lw_m2 158 rfl) rfl
theorem q482 : (Jvm.Cond.code ({ cls := "DyeLattice", name := "pair", desc := "(II)I" } : Jvm.MethodName) prog_1_method_4_code (2 : Nat) (Option.some Jvm.ClassFile.FieldType.int)) ∈ lw_all := lw_g (lw_at lw_m2 159 rfl) rfl
theorem q483 : (Jvm.Cond.methodLink "DyeLattice" (137 : Nat) ({ cls := "java/lang/Integer", name := "bitCount", desc := "(I)I" } : Jvm.MethodName)) ∈ lw_all := lw_g (lw_at lw_m2 160 rfl) rfl
theorem q490 : (Jvm.Cond.instanceMethod ({ cls := "DyeLattice", name := "setBeat", desc := "(I)I" } : Jvm.MethodName)) ∈ lw_all := lw_g (lw_at lw_m2 167 rfl) rfl
theorem q491 : (Jvm.Cond.selects "DyeLattice" ({ cls := "DyeLattice", name := "setBeat", desc := "(I)I" } : Jvm.MethodName) ({ cls := "DyeLattice", name := "setBeat", desc := "(I)I" } : Jvm.MethodName)) ∈ lw_all := lw_g (lw_at lw_m2 168 rfl) rfl
theorem q492 : (Jvm.Cond.code ({ cls := "DyeLattice", name := "setBeat", desc := "(I)I" } : Jvm.MethodName) prog_1_method_18_code (3 : Nat) (Option.some Jvm.ClassFile.FieldType.int)) ∈ lw_all := lw_g (lw_at lw_m2 169 rfl) rfl
theorem q494 : (Jvm.Cond.instanceMethod ({ cls := "DyeLattice", name := "append", desc := "(I)I" } : Jvm.MethodName)) ∈ lw_all := lw_g (lw_at lw_m2 171 rfl) rfl
theorem q495 : (Jvm.Cond.selects "DyeLattice" ({ cls := "DyeLattice", name := "append", desc := "(I)I" } : Jvm.MethodName) ({ cls := "DyeLattice", name := "append", desc := "(I)I" } : Jvm.MethodName)) ∈ lw_all := lw_g (lw_at lw_m2 172 rfl) rfl
theorem q496 : (Jvm.Cond.code ({ cls := "DyeLattice", name := "append", desc := "(I)I" } : Jvm.MethodName) prog_1_method_19_code (2 : Nat) (Option.some Jvm.ClassFile.FieldType.int)) ∈ lw_all := lw_g (lw_at lw_m2 173 rfl) rfl
theorem q497 : (Jvm.Cond.methodLink "DyeLattice" (145 : Nat) ({ cls := "java/lang/StringBuilder", name := "length", desc := "()I" } : Jvm.MethodName)) ∈ lw_all := lw_g (lw_at lw_m2 174 rfl) rfl
theorem q504 : (Jvm.Cond.methodLink "DyeLattice" (148 : Nat) ({ cls := "java/lang/StringBuilder", name := "append", desc := "(C)Ljava/lang/StringBuilder;" } : Jvm.MethodName)) ∈ lw_all := lw_g (lw_at lw_m2 181 rfl) rfl
theorem q592 : (Jvm.Cond.instanceMethod ({ cls := "DyeLattice", name := "clearText", desc := "()I" } : Jvm.MethodName)) ∈ lw_all := lw_g (lw_at lw_m3 29 rfl) rfl
theorem q593 : (Jvm.Cond.selects "DyeLattice" ({ cls := "DyeLattice", name := "clearText", desc := "()I" } : Jvm.MethodName) ({ cls := "DyeLattice", name := "clearText", desc := "()I" } : Jvm.MethodName)) ∈ lw_all := lw_g (lw_at lw_m3 30 rfl) rfl
theorem q594 : (Jvm.Cond.code ({ cls := "DyeLattice", name := "clearText", desc := "()I" } : Jvm.MethodName) prog_1_method_20_code (2 : Nat) (Option.some Jvm.ClassFile.FieldType.int)) ∈ lw_all := lw_g (lw_at lw_m3 31 rfl) rfl
theorem q595 : (Jvm.Cond.methodLink "DyeLattice" (152 : Nat) ({ cls := "java/lang/StringBuilder", name := "setLength", desc := "(I)V" } : Jvm.MethodName)) ∈ lw_all := lw_g (lw_at lw_m3 32 rfl) rfl
theorem q616 : (Jvm.Cond.instanceMethod ({ cls := "DyeLattice", name := "load", desc := "()I" } : Jvm.MethodName)) ∈ lw_all := lw_g (lw_at lw_m3 53 rfl) rfl
theorem q617 : (Jvm.Cond.selects "DyeLattice" ({ cls := "DyeLattice", name := "load", desc := "()I" } : Jvm.MethodName) ({ cls := "DyeLattice", name := "load", desc := "()I" } : Jvm.MethodName)) ∈ lw_all := lw_g (lw_at lw_m3 54 rfl) rfl
theorem q618 : (Jvm.Cond.codeWith ({ cls := "DyeLattice", name := "load", desc := "()I" } : Jvm.MethodName) prog_1_method_21_code (4 : Nat) (Option.some Jvm.ClassFile.FieldType.int) [((9 : Nat), (14 : Nat), (17 : Nat), (164 : Nat))]) ∈ lw_all := lw_g (lw_at lw_m3 55 rfl) rfl
theorem q619 : (Jvm.Cond.classLink "DyeLattice" (164 : Nat) "DyeLattice$TokenException") ∈ lw_all := lw_g (lw_at lw_m3 56 rfl) rfl
theorem q620 : (Jvm.Cond.classLink "DyeLattice" (156 : Nat) "DyeLattice$Parser") ∈ lw_all := lw_g (lw_at lw_m3 57 rfl) rfl
theorem q622 : (Jvm.Cond.methodLinkNest "DyeLattice" (158 : Nat) ({ cls := "DyeLattice$Parser", name := "<init>", desc := "(LDyeLattice;)V" } : Jvm.MethodName) "DyeLattice") ∈ lw_tbl := lw_at lw_m3 59 rfl
theorem q646 : (Jvm.Cond.fieldLinkNest "DyeLattice" (169 : Nat) "DyeLattice$Parser" "into" "LDyeLattice$Lattice;" "DyeLattice") ∈ lw_tbl := lw_at lw_m3 83 rfl
theorem q659 : (Jvm.Cond.methodLink "DyeLattice" (161 : Nat) ({ cls := "DyeLattice$Parser", name := "items", desc := "()I" } : Jvm.MethodName)) ∈ lw_all := lw_g (lw_at lw_m3 96 rfl) rfl
theorem q859 : (Jvm.Cond.fieldLinkNest "DyeLattice" (166 : Nat) "DyeLattice$TokenException" "position" "I" "DyeLattice") ∈ lw_tbl := lw_at lw_m4 56 rfl
theorem q928 : (Jvm.Cond.instanceMethod ({ cls := "DyeLattice", name := "run", desc := "(I)I" } : Jvm.MethodName)) ∈ lw_all := lw_g (lw_at lw_m4 125 rfl) rfl
theorem q929 : (Jvm.Cond.selects "DyeLattice" ({ cls := "DyeLattice", name := "run", desc := "(I)I" } : Jvm.MethodName) ({ cls := "DyeLattice", name := "run", desc := "(I)I" } : Jvm.MethodName)) ∈ lw_all := lw_g (lw_at lw_m4 126 rfl) rfl
theorem q930 : (Jvm.Cond.code ({ cls := "DyeLattice", name := "run", desc := "(I)I" } : Jvm.MethodName) prog_1_method_22_code (5 : Nat) (Option.some Jvm.ClassFile.FieldType.int)) ∈ lw_all := lw_g (lw_at lw_m4 127 rfl) rfl
theorem q931 : (Jvm.Cond.methodLink "DyeLattice" (175 : Nat) ({ cls := "DyeLattice$Lattice", name := "step", desc := "()I" } : Jvm.MethodName)) ∈ lw_all := lw_g (lw_at lw_m4 128 rfl) rfl
theorem q972 : (Jvm.Cond.instanceMethod ({ cls := "DyeLattice", name := "rinse", desc := "()I" } : Jvm.MethodName)) ∈ lw_all := lw_g (lw_at lw_m4 169 rfl) rfl
theorem q973 : (Jvm.Cond.selects "DyeLattice" ({ cls := "DyeLattice", name := "rinse", desc := "()I" } : Jvm.MethodName) ({ cls := "DyeLattice", name := "rinse", desc := "()I" } : Jvm.MethodName)) ∈ lw_all := lw_g (lw_at lw_m4 170 rfl) rfl
theorem q974 : (Jvm.Cond.code ({ cls := "DyeLattice", name := "rinse", desc := "()I" } : Jvm.MethodName) prog_1_method_23_code (4 : Nat) (Option.some Jvm.ClassFile.FieldType.int)) ∈ lw_all := lw_g (lw_at lw_m4 171 rfl) rfl
theorem q976 : (Jvm.Cond.instanceMethod ({ cls := "DyeLattice", name := "undo", desc := "()I" } : Jvm.MethodName)) ∈ lw_all := lw_g (lw_at lw_m4 173 rfl) rfl
theorem q977 : (Jvm.Cond.selects "DyeLattice" ({ cls := "DyeLattice", name := "undo", desc := "()I" } : Jvm.MethodName) ({ cls := "DyeLattice", name := "undo", desc := "()I" } : Jvm.MethodName)) ∈ lw_all := lw_g (lw_at lw_m4 174 rfl) rfl
theorem q978 : (Jvm.Cond.code ({ cls := "DyeLattice", name := "undo", desc := "()I" } : Jvm.MethodName) prog_1_method_24_code (1 : Nat) (Option.some Jvm.ClassFile.FieldType.int)) ∈ lw_all := lw_g (lw_at lw_m4 175 rfl) rfl
theorem q979 : (Jvm.Cond.methodLink "DyeLattice" (185 : Nat) ({ cls := "java/util/ArrayDeque", name := "isEmpty", desc := "()Z" } : Jvm.MethodName)) ∈ lw_all := lw_g (lw_at lw_m4 176 rfl) rfl
theorem q983 : (Jvm.Cond.methodLink "DyeLattice" (189 : Nat) ({ cls := "java/util/ArrayDeque", name := "removeLast", desc := "()Ljava/lang/Object;" } : Jvm.MethodName)) ∈ lw_all := lw_g (lw_at lw_m4 180 rfl) rfl
theorem q995 : (Jvm.Cond.instanceMethod ({ cls := "DyeLattice", name := "count", desc := "(I)I" } : Jvm.MethodName)) ∈ lw_all := lw_g (lw_at lw_m4 192 rfl) rfl
theorem q996 : (Jvm.Cond.selects "DyeLattice" ({ cls := "DyeLattice", name := "count", desc := "(I)I" } : Jvm.MethodName) ({ cls := "DyeLattice", name := "count", desc := "(I)I" } : Jvm.MethodName)) ∈ lw_all := lw_g (lw_at lw_m4 193 rfl) rfl
theorem q997 : (Jvm.Cond.code ({ cls := "DyeLattice", name := "count", desc := "(I)I" } : Jvm.MethodName) prog_1_method_27_code (2 : Nat) (Option.some Jvm.ClassFile.FieldType.int)) ∈ lw_all := lw_g (lw_at lw_m4 194 rfl) rfl
theorem q998 : (Jvm.Cond.methodLink "DyeLattice" (203 : Nat) ({ cls := "DyeLattice$Kind", name := "ordinal", desc := "()I" } : Jvm.MethodName)) ∈ lw_all := lw_g (lw_at lw_m4 195 rfl) rfl
theorem q1001 : (Jvm.Cond.methodLink "DyeLattice" (204 : Nat) ({ cls := "DyeLattice$Lattice", name := "clusters", desc := "(I)[I" } : Jvm.MethodName)) ∈ lw_all := lw_g (lw_at lw_m4 198 rfl) rfl
theorem q1028 : (Jvm.Cond.methodLink "DyeLattice" (208 : Nat) ({ cls := "DyeLattice", name := "countOf", desc := "([I)I" } : Jvm.MethodName)) ∈ lw_all := lw_g (lw_at lw_m4 225 rfl) rfl
theorem q1029 : (Jvm.Cond.static ({ cls := "DyeLattice", name := "countOf", desc := "([I)I" } : Jvm.MethodName)) ∈ lw_all := lw_g (lw_at lw_m4 226 rfl) rfl
theorem q1030 : (Jvm.Cond.code ({ cls := "DyeLattice", name := "countOf", desc := "([I)I" } : Jvm.MethodName) prog_1_method_25_code (6 : Nat) (Option.some Jvm.ClassFile.FieldType.int)) ∈ lw_all := lw_g (lw_at lw_m4 227 rfl) rfl
theorem q1031 : (Jvm.Cond.methodLink "DyeLattice" (192 : Nat) ({ cls := "java/lang/Math", name := "max", desc := "(II)I" } : Jvm.MethodName)) ∈ lw_all := lw_g (lw_at lw_m4 228 rfl) rfl
theorem q1032 : (Jvm.Cond.methodLink "DyeLattice" (212 : Nat) ({ cls := "DyeLattice", name := "clogged", desc := "()I" } : Jvm.MethodName)) ∈ lw_all := lw_g (lw_at lw_m4 229 rfl) rfl
theorem q1033 : (Jvm.Cond.privateMethod ({ cls := "DyeLattice", name := "clogged", desc := "()I" } : Jvm.MethodName)) ∈ lw_tbl := lw_at lw_m4 230 rfl
theorem q1034 : (Jvm.Cond.instanceMethod ({ cls := "DyeLattice", name := "clogged", desc := "()I" } : Jvm.MethodName)) ∈ lw_all := lw_g (lw_at lw_m4 231 rfl) rfl
theorem q1035 : (Jvm.Cond.code ({ cls := "DyeLattice", name := "clogged", desc := "()I" } : Jvm.MethodName) prog_1_method_26_code (6 : Nat) (Option.some Jvm.ClassFile.FieldType.int)) ∈ lw_all := lw_g (lw_at lw_m4 232 rfl) rfl
theorem q1037 : (Jvm.Cond.instanceMethod ({ cls := "DyeLattice", name := "cell", desc := "(II)I" } : Jvm.MethodName)) ∈ lw_all := lw_g (lw_at lw_m4 234 rfl) rfl
theorem q1038 : (Jvm.Cond.selects "DyeLattice" ({ cls := "DyeLattice", name := "cell", desc := "(II)I" } : Jvm.MethodName) ({ cls := "DyeLattice", name := "cell", desc := "(II)I" } : Jvm.MethodName)) ∈ lw_all := lw_g (lw_at lw_m4 235 rfl) rfl
theorem q1039 : (Jvm.Cond.code ({ cls := "DyeLattice", name := "cell", desc := "(II)I" } : Jvm.MethodName) prog_1_method_28_code (3 : Nat) (Option.some Jvm.ClassFile.FieldType.int)) ∈ lw_all := lw_g (lw_at lw_m4 236 rfl) rfl
theorem q1040 : (Jvm.Cond.methodLink "DyeLattice" (215 : Nat) ({ cls := "DyeLattice$Lattice", name := "isOpen", desc := "(I)Z" } : Jvm.MethodName)) ∈ lw_all := lw_g (lw_at lw_m4 237 rfl) rfl
theorem q1041 : (Jvm.Cond.methodLink "DyeLattice" (218 : Nat) ({ cls := "DyeLattice$Lattice", name := "bondsAt", desc := "(I)I" } : Jvm.MethodName)) ∈ lw_all := lw_g (lw_at lw_m4 238 rfl) rfl
theorem q1046 : (Jvm.Cond.instanceMethod ({ cls := "DyeLattice", name := "valve", desc := "(II)I" } : Jvm.MethodName)) ∈ lw_all := lw_g (lw_at lw_m5 3 rfl) rfl
theorem q1047 : (Jvm.Cond.selects "DyeLattice" ({ cls := "DyeLattice", name := "valve", desc := "(II)I" } : Jvm.MethodName) ({ cls := "DyeLattice", name := "valve", desc := "(II)I" } : Jvm.MethodName)) ∈ lw_all := lw_g (lw_at lw_m5 4 rfl) rfl
theorem q1048 : (Jvm.Cond.code ({ cls := "DyeLattice", name := "valve", desc := "(II)I" } : Jvm.MethodName) prog_1_method_29_code (3 : Nat) (Option.some Jvm.ClassFile.FieldType.int)) ∈ lw_all := lw_g (lw_at lw_m5 5 rfl) rfl
theorem q1050 : (Jvm.Cond.instanceMethod ({ cls := "DyeLattice", name := "dyed", desc := "(I)I" } : Jvm.MethodName)) ∈ lw_all := lw_g (lw_at lw_m5 7 rfl) rfl
theorem q1051 : (Jvm.Cond.selects "DyeLattice" ({ cls := "DyeLattice", name := "dyed", desc := "(I)I" } : Jvm.MethodName) ({ cls := "DyeLattice", name := "dyed", desc := "(I)I" } : Jvm.MethodName)) ∈ lw_all := lw_g (lw_at lw_m5 8 rfl) rfl
theorem q1052 : (Jvm.Cond.code ({ cls := "DyeLattice", name := "dyed", desc := "(I)I" } : Jvm.MethodName) prog_1_method_30_code (2 : Nat) (Option.some Jvm.ClassFile.FieldType.int)) ∈ lw_all := lw_g (lw_at lw_m5 9 rfl) rfl
theorem q1053 : (Jvm.Cond.methodLink "DyeLattice" (221 : Nat) ({ cls := "DyeLattice$Lattice", name := "dyed", desc := "(I)I" } : Jvm.MethodName)) ∈ lw_all := lw_g (lw_at lw_m5 10 rfl) rfl
theorem q1058 : (Jvm.Cond.instanceMethod ({ cls := "DyeLattice", name := "reach", desc := "(I)I" } : Jvm.MethodName)) ∈ lw_all := lw_g (lw_at lw_m5 15 rfl) rfl
theorem q1059 : (Jvm.Cond.selects "DyeLattice" ({ cls := "DyeLattice", name := "reach", desc := "(I)I" } : Jvm.MethodName) ({ cls := "DyeLattice", name := "reach", desc := "(I)I" } : Jvm.MethodName)) ∈ lw_all := lw_g (lw_at lw_m5 16 rfl) rfl
theorem q1060 : (Jvm.Cond.code ({ cls := "DyeLattice", name := "reach", desc := "(I)I" } : Jvm.MethodName) prog_1_method_31_code (2 : Nat) (Option.some Jvm.ClassFile.FieldType.int)) ∈ lw_all := lw_g (lw_at lw_m5 17 rfl) rfl
theorem q1061 : (Jvm.Cond.methodLink "DyeLattice" (224 : Nat) ({ cls := "DyeLattice$Lattice", name := "reach", desc := "(I)I" } : Jvm.MethodName)) ∈ lw_all := lw_g (lw_at lw_m5 18 rfl) rfl
theorem q1078 : (Jvm.Cond.instanceMethod ({ cls := "DyeLattice", name := "arrival", desc := "(II)I" } : Jvm.MethodName)) ∈ lw_all := lw_g (lw_at lw_m5 35 rfl) rfl
theorem q1079 : (Jvm.Cond.selects "DyeLattice" ({ cls := "DyeLattice", name := "arrival", desc := "(II)I" } : Jvm.MethodName) ({ cls := "DyeLattice", name := "arrival", desc := "(II)I" } : Jvm.MethodName)) ∈ lw_all := lw_g (lw_at lw_m5 36 rfl) rfl
theorem q1080 : (Jvm.Cond.code ({ cls := "DyeLattice", name := "arrival", desc := "(II)I" } : Jvm.MethodName) prog_1_method_32_code (6 : Nat) (Option.some Jvm.ClassFile.FieldType.int)) ∈ lw_all := lw_g (lw_at lw_m5 37 rfl) rfl
theorem q1082 : (Jvm.Cond.instanceMethod ({ cls := "DyeLattice", name := "cluster", desc := "(II)I" } : Jvm.MethodName)) ∈ lw_all := lw_g (lw_at lw_m5 39 rfl) rfl
theorem q1083 : (Jvm.Cond.selects "DyeLattice" ({ cls := "DyeLattice", name := "cluster", desc := "(II)I" } : Jvm.MethodName) ({ cls := "DyeLattice", name := "cluster", desc := "(II)I" } : Jvm.MethodName)) ∈ lw_all := lw_g (lw_at lw_m5 40 rfl) rfl
theorem q1084 : (Jvm.Cond.code ({ cls := "DyeLattice", name := "cluster", desc := "(II)I" } : Jvm.MethodName) prog_1_method_35_code (9 : Nat) (Option.some Jvm.ClassFile.FieldType.int)) ∈ lw_all := lw_g (lw_at lw_m5 41 rfl) rfl
theorem q1085 : (Jvm.Cond.methodLink "DyeLattice" (234 : Nat) ({ cls := "DyeLattice", name := "sides", desc := "(I)I" } : Jvm.MethodName)) ∈ lw_all := lw_g (lw_at lw_m5 42 rfl) rfl
theorem q1086 : (Jvm.Cond.privateMethod ({ cls := "DyeLattice", name := "sides", desc := "(I)I" } : Jvm.MethodName)) ∈ lw_tbl := lw_at lw_m5 43 rfl
theorem q1087 : (Jvm.Cond.instanceMethod ({ cls := "DyeLattice", name := "sides", desc := "(I)I" } : Jvm.MethodName)) ∈ lw_all := lw_g (lw_at lw_m5 44 rfl) rfl
theorem q1088 : (Jvm.Cond.code ({ cls := "DyeLattice", name := "sides", desc := "(I)I" } : Jvm.MethodName) prog_1_method_33_code (4 : Nat) (Option.some Jvm.ClassFile.FieldType.int)) ∈ lw_all := lw_g (lw_at lw_m5 45 rfl) rfl
theorem q1089 : (Jvm.Cond.methodLink "DyeLattice" (237 : Nat) ({ cls := "DyeLattice", name := "bondsOf", desc := "(IZ[I)I" } : Jvm.MethodName)) ∈ lw_all := lw_g (lw_at lw_m5 46 rfl) rfl
theorem q1090 : (Jvm.Cond.privateMethod ({ cls := "DyeLattice", name := "bondsOf", desc := "(IZ[I)I" } : Jvm.MethodName)) ∈ lw_tbl := lw_at lw_m5 47 rfl
theorem q1091 : (Jvm.Cond.instanceMethod ({ cls := "DyeLattice", name := "bondsOf", desc := "(IZ[I)I" } : Jvm.MethodName)) ∈ lw_all := lw_g (lw_at lw_m5 48 rfl) rfl
theorem q1092 : (Jvm.Cond.code ({ cls := "DyeLattice", name := "bondsOf", desc := "(IZ[I)I" } : Jvm.MethodName) prog_1_method_34_code (9 : Nat) (Option.some Jvm.ClassFile.FieldType.int)) ∈ lw_all := lw_g (lw_at lw_m5 49 rfl) rfl
theorem q1093 : (Jvm.Cond.methodLink "DyeLattice" (227 : Nat) ({ cls := "DyeLattice$Lattice", name := "second", desc := "(II)I" } : Jvm.MethodName)) ∈ lw_all := lw_g (lw_at lw_m5 50 rfl) rfl
theorem q1094 : (Jvm.Cond.fieldLink "DyeLattice" (230 : Nat) "DyeLattice$Valve" "SHUT" "LDyeLattice$Valve;") ∈ lw_all := lw_g (lw_at lw_m5 51 rfl) rfl
theorem q1096 : (Jvm.Cond.instanceMethod ({ cls := "DyeLattice", name := "ledger", desc := "(II)I" } : Jvm.MethodName)) ∈ lw_all := lw_g (lw_at lw_m5 53 rfl) rfl
theorem q1097 : (Jvm.Cond.selects "DyeLattice" ({ cls := "DyeLattice", name := "ledger", desc := "(II)I" } : Jvm.MethodName) ({ cls := "DyeLattice", name := "ledger", desc := "(II)I" } : Jvm.MethodName)) ∈ lw_all := lw_g (lw_at lw_m5 54 rfl) rfl
theorem q1098 : (Jvm.Cond.code ({ cls := "DyeLattice", name := "ledger", desc := "(II)I" } : Jvm.MethodName) prog_1_method_36_code (12 : Nat) (Option.some Jvm.ClassFile.FieldType.int)) ∈ lw_all := lw_g (lw_at lw_m5 55 rfl) rfl
theorem q1099 : (Jvm.Cond.methodLink "DyeLattice" (241 : Nat) ({ cls := "DyeLattice$Lattice", name := "spans", desc := "(II)Z" } : Jvm.MethodName)) ∈ lw_all := lw_g (lw_at lw_m5 56 rfl) rfl
theorem q1110 : (Jvm.Cond.instanceMethod ({ cls := "DyeLattice", name := "threshold", desc := "()I" } : Jvm.MethodName)) ∈ lw_all := lw_g (lw_at lw_m5 67 rfl) rfl
theorem q1111 : (Jvm.Cond.selects "DyeLattice" ({ cls := "DyeLattice", name := "threshold", desc := "()I" } : Jvm.MethodName) ({ cls := "DyeLattice", name := "threshold", desc := "()I" } : Jvm.MethodName)) ∈ lw_all := lw_g (lw_at lw_m5 68 rfl) rfl
theorem q1112 : (Jvm.Cond.code ({ cls := "DyeLattice", name := "threshold", desc := "()I" } : Jvm.MethodName) prog_1_method_37_code (1 : Nat) (Option.some Jvm.ClassFile.FieldType.int)) ∈ lw_all := lw_g (lw_at lw_m5 69 rfl) rfl
theorem q1113 : (Jvm.Cond.methodLink "DyeLattice" (244 : Nat) ({ cls := "DyeLattice$Lattice", name := "spanningThreshold", desc := "()I" } : Jvm.MethodName)) ∈ lw_all := lw_g (lw_at lw_m5 70 rfl) rfl
theorem q1129 : (Jvm.Cond.instanceMethod ({ cls := "DyeLattice", name := "probe", desc := "(I)I" } : Jvm.MethodName)) ∈ lw_all := lw_g (lw_at lw_m5 86 rfl) rfl
theorem q1130 : (Jvm.Cond.selects "DyeLattice" ({ cls := "DyeLattice", name := "probe", desc := "(I)I" } : Jvm.MethodName) ({ cls := "DyeLattice", name := "probe", desc := "(I)I" } : Jvm.MethodName)) ∈ lw_all := lw_g (lw_at lw_m5 87 rfl) rfl
theorem q1131 : (Jvm.Cond.code ({ cls := "DyeLattice", name := "probe", desc := "(I)I" } : Jvm.MethodName) prog_1_method_38_code (6 : Nat) (Option.some Jvm.ClassFile.FieldType.int)) ∈ lw_all := lw_g (lw_at lw_m5 88 rfl) rfl
theorem q1133 : (Jvm.Cond.instanceMethod ({ cls := "DyeLattice", name := "thresholdBetween", desc := "(II)I" } : Jvm.MethodName)) ∈ lw_all := lw_g (lw_at lw_m5 90 rfl) rfl
theorem q1134 : (Jvm.Cond.selects "DyeLattice" ({ cls := "DyeLattice", name := "thresholdBetween", desc := "(II)I" } : Jvm.MethodName) ({ cls := "DyeLattice", name := "thresholdBetween", desc := "(II)I" } : Jvm.MethodName)) ∈ lw_all := lw_g (lw_at lw_m5 91 rfl) rfl
theorem q1135 : (Jvm.Cond.code ({ cls := "DyeLattice", name := "thresholdBetween", desc := "(II)I" } : Jvm.MethodName) prog_1_method_39_code (3 : Nat) (Option.some Jvm.ClassFile.FieldType.int)) ∈ lw_all := lw_g (lw_at lw_m5 92 rfl) rfl
theorem q1136 : (Jvm.Cond.privateMethod ({ cls := "DyeLattice", name := "lambda$thresholdBetween$0", desc := "(III)Z" } : Jvm.MethodName)) ∈ lw_tbl := lw_at lw_m5 93 rfl
theorem q1137 : (Jvm.Cond.instanceMethod ({ cls := "DyeLattice", name := "lambda$thresholdBetween$0", desc := "(III)Z" } : Jvm.MethodName)) ∈ lw_all := lw_g (lw_at lw_m5 94 rfl) rfl
theorem q1138 : (Jvm.Cond.code ({ cls := "DyeLattice", name := "lambda$thresholdBetween$0", desc := "(III)Z" } : Jvm.MethodName) prog_1_method_42_code (4 : Nat) (Option.some Jvm.ClassFile.FieldType.boolean)) ∈ lw_all := lw_g (lw_at lw_m5 95 rfl) rfl
theorem q1139 : (Jvm.Cond.methodLink "DyeLattice" (258 : Nat) ({ cls := "DyeLattice$Lattice", name := "hasWay", desc := "(III)Z" } : Jvm.MethodName)) ∈ lw_all := lw_g (lw_at lw_m5 96 rfl) rfl
theorem q1148 : (Jvm.Cond.methodLink "DyeLattice" (251 : Nat) ({ cls := "DyeLattice$Lattice", name := "smallest", desc := "(LDyeLattice$ThresholdTest;)I" } : Jvm.MethodName)) ∈ lw_all := lw_g (lw_at lw_m5 105 rfl) rfl
theorem q1150 : (Jvm.Cond.instanceMethod ({ cls := "DyeLattice", name := "pivots", desc := "()I" } : Jvm.MethodName)) ∈ lw_all := lw_g (lw_at lw_m5 107 rfl) rfl
theorem q1151 : (Jvm.Cond.selects "DyeLattice" ({ cls := "DyeLattice", name := "pivots", desc := "()I" } : Jvm.MethodName) ({ cls := "DyeLattice", name := "pivots", desc := "()I" } : Jvm.MethodName)) ∈ lw_all := lw_g (lw_at lw_m5 108 rfl) rfl
theorem q1152 : (Jvm.Cond.code ({ cls := "DyeLattice", name := "pivots", desc := "()I" } : Jvm.MethodName) prog_1_method_40_code (3 : Nat) (Option.some Jvm.ClassFile.FieldType.int)) ∈ lw_all := lw_g (lw_at lw_m5 109 rfl) rfl
theorem q1154 : (Jvm.Cond.instanceMethod ({ cls := "DyeLattice", name := "bestValve", desc := "()I" } : Jvm.MethodName)) ∈ lw_all := lw_g (lw_at lw_m5 111 rfl) rfl
theorem q1155 : (Jvm.Cond.selects "DyeLattice" ({ cls := "DyeLattice", name := "bestValve", desc := "()I" } : Jvm.MethodName) ({ cls := "DyeLattice", name := "bestValve", desc := "()I" } : Jvm.MethodName)) ∈ lw_all := lw_g (lw_at lw_m5 112 rfl) rfl
theorem q1156 : (Jvm.Cond.code ({ cls := "DyeLattice", name := "bestValve", desc := "()I" } : Jvm.MethodName) prog_1_method_41_code (6 : Nat) (Option.some Jvm.ClassFile.FieldType.int)) ∈ lw_all := lw_g (lw_at lw_m5 113 rfl) rfl
theorem q1157 : (Jvm.Cond.fieldLink "DyeLattice" (255 : Nat) "DyeLattice$Valve" "FREE" "LDyeLattice$Valve;") ∈ lw_all := lw_g (lw_at lw_m5 114 rfl) rfl
theorem q1548 : (Jvm.Cond.castable "DyeLattice" "java/lang/Object") ∈ lw_tbl := lw_at lw_m7 25 rfl
