/-! DyeLattice$Valve$1 -/
set_option maxRecDepth 100000
abbrev cX11_lets : ByteArray := prog_12_method_2_code
def yX11_lets : MethodName := ⟨RX11, "lets", "(ZZ)Z"⟩
theorem dX11_lets_0 : decode cX11_lets 0 = .ok (.iconst 1, 1) := by decide +kernel
theorem dX11_lets_1 : decode cX11_lets 1 = .ok (.ireturn, 1) := by decide +kernel
theorem q321 : (Jvm.Cond.selects "DyeLattice$Valve$1" ({ cls := "java/lang/Object", name := "getClass", desc := "()Ljava/lang/Class;" } : Jvm.MethodName) ({ cls := "java/lang/Object", name := "getClass", desc := "()Ljava/lang/Class;" } : Jvm.MethodName)) ∈ lw_all := lw_g (lw_at lw_m1 238 rfl) rfl
theorem q440 : (Jvm.Cond.selects "DyeLattice$Valve$1" ({ cls := "DyeLattice$Valve", name := "ordinal", desc := "()I" } : Jvm.MethodName) ({ cls := "java/lang/Enum", name := "ordinal", desc := "()I" } : Jvm.MethodName)) ∈ lw_all := lw_g (lw_at lw_m2 117 rfl) rfl
theorem q950 : (Jvm.Cond.selects "DyeLattice$Valve$1" ({ cls := "DyeLattice$Valve", name := "lets", desc := "(ZZ)Z" } : Jvm.MethodName) ({ cls := "DyeLattice$Valve$1", name := "lets", desc := "(ZZ)Z" } : Jvm.MethodName)) ∈ lw_all := lw_g (lw_at lw_m4 147 rfl) rfl
theorem q951 : (Jvm.Cond.instanceMethod ({ cls := "DyeLattice$Valve$1", name := "lets", desc := "(ZZ)Z" } : Jvm.MethodName)) ∈ lw_all := lw_g (lw_at lw_m4 148 rfl) rfl
theorem q952 : (Jvm.Cond.code ({ cls := "DyeLattice$Valve$1", name := "lets", desc := "(ZZ)Z" } : Jvm.MethodName) prog_12_method_2_code (3 : Nat) (Option.some Jvm.ClassFile.FieldType.boolean)) ∈ lw_all := lw_g (lw_at lw_m4 149 rfl) rfl
theorem q1550 : (Jvm.Cond.castable "DyeLattice$Valve$1" "java/lang/Object") ∈ lw_tbl := lw_at lw_m7 27 rfl
theorem q1564 : (Jvm.Cond.castable "DyeLattice$Valve$1" "DyeLattice$Valve") ∈ lw_tbl := lw_at lw_m7 41 rfl

/-! DyeLattice$Valve$2 -/
set_option maxRecDepth 100000
abbrev cX12_lets : ByteArray := prog_13_method_2_code
def yX12_lets : MethodName := ⟨RX12, "lets", "(ZZ)Z"⟩
theorem dX12_lets_0 : decode cX12_lets 0 = .ok (.iconst 0, 1) := by decide +kernel
theorem dX12_lets_1 : decode cX12_lets 1 = .ok (.ireturn, 1) := by decide +kernel
theorem q322 : (Jvm.Cond.selects "DyeLattice$Valve$2" ({ cls := "java/lang/Object", name := "getClass", desc := "()Ljava/lang/Class;" } : Jvm.MethodName) ({ cls := "java/lang/Object", name := "getClass", desc := "()Ljava/lang/Class;" } : Jvm.MethodName)) ∈ lw_all := lw_g (lw_at lw_m1 239 rfl) rfl
theorem q441 : (Jvm.Cond.selects "DyeLattice$Valve$2" ({ cls := "DyeLattice$Valve", name := "ordinal", desc := "()I" } : Jvm.MethodName) ({ cls := "java/lang/Enum", name := "ordinal", desc := "()I" } : Jvm.MethodName)) ∈ lw_all := lw_g (lw_at lw_m2 118 rfl) rfl
theorem q953 : (Jvm.Cond.selects "DyeLattice$Valve$2" ({ cls := "DyeLattice$Valve", name := "lets", desc := "(ZZ)Z" } : Jvm.MethodName) ({ cls := "DyeLattice$Valve$2", name := "lets", desc := "(ZZ)Z" } : Jvm.MethodName)) ∈ lw_all := lw_g (lw_at lw_m4 150 rfl) rfl
theorem q954 : (Jvm.Cond.instanceMethod ({ cls := "DyeLattice$Valve$2", name := "lets", desc := "(ZZ)Z" } : Jvm.MethodName)) ∈ lw_all := lw_g (lw_at lw_m4 151 rfl) rfl
theorem q955 : (Jvm.Cond.code ({ cls := "DyeLattice$Valve$2", name := "lets", desc := "(ZZ)Z" } : Jvm.MethodName) prog_13_method_2_code (3 : Nat) (Option.some Jvm.ClassFile.FieldType.boolean)) ∈ lw_all := lw_g (lw_at lw_m4 152 rfl) rfl
theorem q1554 : (Jvm.Cond.castable "DyeLattice$Valve$2" "java/lang/Object") ∈ lw_tbl := lw_at lw_m7 31 rfl
theorem q1565 : (Jvm.Cond.castable "DyeLattice$Valve$2" "DyeLattice$Valve") ∈ lw_tbl := lw_at lw_m7 42 rfl

/-! DyeLattice$Valve$3 -/
set_option maxRecDepth 100000
abbrev cX13_lets : ByteArray := prog_14_method_2_code
def yX13_lets : MethodName := ⟨RX13, "lets", "(ZZ)Z"⟩
theorem dX13_lets_0 : decode cX13_lets 0 = .ok (.iload_n 1, 1) := by decide +kernel
theorem dX13_lets_1 : decode cX13_lets 1 = .ok (.ireturn, 1) := by decide +kernel
theorem q323 : (Jvm.Cond.selects "DyeLattice$Valve$3" ({ cls := "java/lang/Object", name := "getClass", desc := "()Ljava/lang/Class;" } : Jvm.MethodName) ({ cls := "java/lang/Object", name := "getClass", desc := "()Ljava/lang/Class;" } : Jvm.MethodName)) ∈ lw_all := lw_g (lw_at lw_m2 0 rfl) rfl
theorem q442 : (Jvm.Cond.selects "DyeLattice$Valve$3" ({ cls := "DyeLattice$Valve", name := "ordinal", desc := "()I" } : Jvm.MethodName) ({ cls := "java/lang/Enum", name := "ordinal", desc := "()I" } : Jvm.MethodName)) ∈ lw_all := lw_g (lw_at lw_m2 119 rfl) rfl
theorem q956 : (Jvm.Cond.selects "DyeLattice$Valve$3" ({ cls := "DyeLattice$Valve", name := "lets", desc := "(ZZ)Z" } : Jvm.MethodName) ({ cls := "DyeLattice$Valve$3", name := "lets", desc := "(ZZ)Z" } : Jvm.MethodName)) ∈ lw_all := lw_g (lw_at lw_m4 153 rfl) rfl
theorem q957 : (Jvm.Cond.instanceMethod ({ cls := "DyeLattice$Valve$3", name := "lets", desc := "(ZZ)Z" } : Jvm.MethodName)) ∈ lw_all := lw_g (lw_at lw_m4 154 rfl) rfl
theorem q958 : (Jvm.Cond.code ({ cls := "DyeLattice$Valve$3", name := "lets", desc := "(ZZ)Z" } : Jvm.MethodName) prog_14_method_2_code (3 : Nat) (Option.some Jvm.ClassFile.FieldType.boolean)) ∈ lw_all := lw_g (lw_at lw_m4 155 rfl) rfl
theorem q1555 : (Jvm.Cond.castable "DyeLattice$Valve$3" "java/lang/Object") ∈ lw_tbl := lw_at lw_m7 32 rfl
theorem q1566 : (Jvm.Cond.castable "DyeLattice$Valve$3" "DyeLattice$Valve") ∈ lw_tbl := lw_at lw_m7 43 rfl

/-! DyeLattice$Valve$4 -/
set_option maxRecDepth 100000
abbrev cX14_lets : ByteArray := prog_15_method_2_code
def yX14_lets : MethodName := ⟨RX14, "lets", "(ZZ)Z"⟩
def dkwX14_lets_0 : List UInt8 := [27, 154, 0, 7, 4, 167, 0, 4, 3, 172]
abbrev dktX14_lets_0 : List UInt8 := dkwX14_lets_0 ++ []
theorem dksX14_lets_0 : cX14_lets.data.toList.drop 0 = dktX14_lets_0 := by decide +kernel
theorem dX14_lets_0 : decode cX14_lets 0 = .ok (.iload_n 1, 1) := dk_27 (dk_at dksX14_lets_0 0 rfl rfl)
theorem dX14_lets_1 : decode cX14_lets 1 = .ok (.ifCond .ne 7, 3) := dk_154 0 7 (dk_at dksX14_lets_0 1 rfl rfl)
theorem dX14_lets_4 : decode cX14_lets 4 = .ok (.iconst 1, 1) := dk_4 (dk_at dksX14_lets_0 4 rfl rfl)
theorem dX14_lets_5 : decode cX14_lets 5 = .ok (.goto 4, 3) := dk_167 0 4 (dk_at dksX14_lets_0 5 rfl rfl)
theorem dX14_lets_8 : decode cX14_lets 8 = .ok (.iconst 0, 1) := dk_3 (dk_at dksX14_lets_0 8 rfl rfl)
theorem dX14_lets_9 : decode cX14_lets 9 = .ok (.ireturn, 1) := dk_172 (dk_at dksX14_lets_0 9 rfl rfl)
theorem q324 : (Jvm.Cond.selects "DyeLattice$Valve$4" ({ cls := "java/lang/Object", name := "getClass", desc := "()Ljava/lang/Class;" } : Jvm.MethodName) ({ cls := "java/lang/Object", name := "getClass", desc := "()Ljava/lang/Class;" } : Jvm.MethodName)) ∈ lw_all := lw_g (lw_at lw_m2 1 rfl) rfl
theorem q443 : (Jvm.Cond.selects "DyeLattice$Valve$4" ({ cls := "DyeLattice$Valve", name := "ordinal", desc := "()I" } : Jvm.MethodName) ({ cls := "java/lang/Enum", name := "ordinal", desc := "()I" } : Jvm.MethodName)) ∈ lw_all := lw_g (lw_at lw_m2 120 rfl) rfl
theorem q959 : (Jvm.Cond.selects "DyeLattice$Valve$4" ({ cls := "DyeLattice$Valve", name := "lets", desc := "(ZZ)Z" } : Jvm.MethodName) ({ cls := "DyeLattice$Valve$4", name := "lets", desc := "(ZZ)Z" } : Jvm.MethodName)) ∈ lw_all := lw_g (lw_at lw_m4 156 rfl) rfl
theorem q960 : (Jvm.Cond.instanceMethod ({ cls := "DyeLattice$Valve$4", name := "lets", desc := "(ZZ)Z" } : Jvm.MethodName)) ∈ lw_all := lw_g (lw_at lw_m4 157 rfl) rfl
theorem q961 : (Jvm.Cond.code ({ cls := "DyeLattice$Valve$4", name := "lets", desc := "(ZZ)Z" } : Jvm.MethodName) prog_15_method_2_code (3 : Nat) (Option.some Jvm.ClassFile.FieldType.boolean)) ∈ lw_all := lw_g (lw_at lw_m4 158 rfl) rfl
theorem q1556 : (Jvm.Cond.castable "DyeLattice$Valve$4" "java/lang/Object") ∈ lw_tbl := lw_at lw_m7 33 rfl
theorem q1567 : (Jvm.Cond.castable "DyeLattice$Valve$4" "DyeLattice$Valve") ∈ lw_tbl := lw_at lw_m7 44 rfl

/-! DyeLattice$Valve$5 -/
set_option maxRecDepth 100000
abbrev cX15_lets : ByteArray := prog_16_method_2_code
def yX15_lets : MethodName := ⟨RX15, "lets", "(ZZ)Z"⟩
theorem dX15_lets_0 : decode cX15_lets 0 = .ok (.iload_n 2, 1) := by decide +kernel
theorem dX15_lets_1 : decode cX15_lets 1 = .ok (.ireturn, 1) := by decide +kernel
theorem q325 : (Jvm.Cond.selects "DyeLattice$Valve$5" ({ cls := "java/lang/Object", name := "getClass", desc := "()Ljava/lang/Class;" } : Jvm.MethodName) ({ cls := "java/lang/Object", name := "getClass", desc := "()Ljava/lang/Class;" } : Jvm.MethodName)) ∈ lw_all := lw_g (lw_at lw_m2 2 rfl) rfl
theorem q444 : (Jvm.Cond.selects "DyeLattice$Valve$5" ({ cls := "DyeLattice$Valve", name := "ordinal", desc := "()I" } : Jvm.MethodName) ({ cls := "java/lang/Enum", name := "ordinal", desc := "()I" } : Jvm.MethodName)) ∈ lw_all := lw_g (lw_at lw_m2 121 rfl) rfl
theorem q962 : (Jvm.Cond.selects "DyeLattice$Valve$5" ({ cls := "DyeLattice$Valve", name := "lets", desc := "(ZZ)Z" } : Jvm.MethodName) ({ cls := "DyeLattice$Valve$5", name := "lets", desc := "(ZZ)Z" } : Jvm.MethodName)) ∈ lw_all := lw_g (lw_at lw_m4 159 rfl) rfl
theorem q963 : (Jvm.Cond.instanceMethod ({ cls := "DyeLattice$Valve$5", name := "lets", desc := "(ZZ)Z" } : Jvm.MethodName)) ∈ lw_all := lw_g (lw_at lw_m4 160 rfl) rfl
theorem q964 : (Jvm.Cond.code ({ cls := "DyeLattice$Valve$5", name := "lets", desc := "(ZZ)Z" } : Jvm.MethodName) prog_16_method_2_code (3 : Nat) (Option.some Jvm.ClassFile.FieldType.boolean)) ∈ lw_all := lw_g (lw_at lw_m4 161 rfl) rfl
theorem q1557 : (Jvm.Cond.castable "DyeLattice$Valve$5" "java/lang/Object") ∈ lw_tbl := lw_at lw_m7 34 rfl
theorem q1568 : (Jvm.Cond.castable "DyeLattice$Valve$5" "DyeLattice$Valve") ∈ lw_tbl := lw_at lw_m7 45 rfl

/-! DyeLattice$Valve -/
set_option maxRecDepth 100000
abbrev cX3_of : ByteArray := prog_11_method_5_code
def yX3_of : MethodName := ⟨RX3, "of", "(I)LDyeLattice$Valve;"⟩
def dkwX3_of_0 : List UInt8 := [184, 0, 38, 26, 50, 176]
abbrev dktX3_of_0 : List UInt8 := dkwX3_of_0 ++ []
theorem dksX3_of_0 : cX3_of.data.toList.drop 0 = dktX3_of_0 := by decide +kernel
theorem dX3_of_0 : decode cX3_of 0 = .ok (.invokestatic 38, 3) := dk_184 0 38 (dk_at dksX3_of_0 0 rfl rfl)
theorem dX3_of_3 : decode cX3_of 3 = .ok (.iload_n 0, 1) := dk_26 (dk_at dksX3_of_0 3 rfl rfl)
theorem dX3_of_4 : decode cX3_of 4 = .ok (.aaload, 1) := dk_50 (dk_at dksX3_of_0 4 rfl rfl)
theorem dX3_of_5 : decode cX3_of 5 = .ok (.areturn, 1) := dk_176 (dk_at dksX3_of_0 5 rfl rfl)
abbrev cX3_values : ByteArray := prog_11_method_1_code
def yX3_values : MethodName := ⟨RX3, "values", "()[LDyeLattice$Valve;"⟩
def dkwX3_values_0 : List UInt8 := [178, 0, 19, 182, 0, 23, 192, 0, 24, 176]
abbrev dktX3_values_0 : List UInt8 := dkwX3_values_0 ++ []
theorem dksX3_values_0 : cX3_values.data.toList.drop 0 = dktX3_values_0 := by decide +kernel
theorem dX3_values_0 : decode cX3_values 0 = .ok (.getstatic 19, 3) := dk_178 0 19 (dk_at dksX3_values_0 0 rfl rfl)
theorem dX3_values_3 : decode cX3_values 3 = .ok (.invokevirtual 23, 3) := dk_182 0 23 (dk_at dksX3_values_0 3 rfl rfl)
theorem dX3_values_6 : decode cX3_values 6 = .ok (.checkcast 24, 3) := dk_192 0 24 (dk_at dksX3_values_0 6 rfl rfl)
theorem dX3_values_9 : decode cX3_values 9 = .ok (.areturn, 1) := dk_176 (dk_at dksX3_values_0 9 rfl rfl)
theorem q88 : (Jvm.Cond.initialized "DyeLattice$Valve") ∈ lw_all := lw_g (lw_at lw_m1 5 rfl) rfl
theorem q134 : (Jvm.Cond.laysStatic "DyeLattice$Valve" "FREE" "LDyeLattice$Valve;") ∈ lw_tbl := lw_at lw_m1 51 rfl
theorem q438 : (Jvm.Cond.sameMethod "DyeLattice$Valve" "java/lang/Enum" "ordinal" "()I") ∈ lw_all := lw_g (lw_at lw_m2 115 rfl) rfl
theorem q448 : (Jvm.Cond.static ({ cls := "DyeLattice$Valve", name := "of", desc := "(I)LDyeLattice$Valve;" } : Jvm.MethodName)) ∈ lw_all := lw_g (lw_at lw_m2 125 rfl) rfl
theorem q449 : (Jvm.Cond.code ({ cls := "DyeLattice$Valve", name := "of", desc := "(I)LDyeLattice$Valve;" } : Jvm.MethodName) prog_11_method_5_code (1 : Nat) (Option.some (Jvm.ClassFile.FieldType.object "DyeLattice$Valve"))) ∈ lw_all := lw_g (lw_at lw_m2 126 rfl) rfl
theorem q450 : (Jvm.Cond.methodLink "DyeLattice$Valve" (38 : Nat) ({ cls := "DyeLattice$Valve", name := "values", desc := "()[LDyeLattice$Valve;" } : Jvm.MethodName)) ∈ lw_all := lw_g (lw_at lw_m2 127 rfl) rfl
theorem q451 : (Jvm.Cond.static ({ cls := "DyeLattice$Valve", name := "values", desc := "()[LDyeLattice$Valve;" } : Jvm.MethodName)) ∈ lw_all := lw_g (lw_at lw_m2 128 rfl) rfl
theorem q452 : (Jvm.Cond.code ({ cls := "DyeLattice$Valve", name := "values", desc := "()[LDyeLattice$Valve;" } : Jvm.MethodName) prog_11_method_1_code (0 : Nat) (Option.some (Jvm.ClassFile.FieldType.array (Jvm.ClassFile.FieldType.object "DyeLattice$Valve")))) ∈ lw_all := lw_g (lw_at lw_m2 129 rfl) rfl
theorem q453 : (Jvm.Cond.fieldLink "DyeLattice$Valve" (19 : Nat) "DyeLattice$Valve" "$VALUES" "[LDyeLattice$Valve;") ∈ lw_all := lw_g (lw_at lw_m2 130 rfl) rfl
theorem q454 : (Jvm.Cond.laysStatic "DyeLattice$Valve" "$VALUES" "[LDyeLattice$Valve;") ∈ lw_tbl := lw_at lw_m2 131 rfl
theorem q455 : (Jvm.Cond.methodLink "DyeLattice$Valve" (23 : Nat) ({ cls := "[LDyeLattice$Valve;", name := "clone", desc := "()Ljava/lang/Object;" } : Jvm.MethodName)) ∈ lw_all := lw_g (lw_at lw_m2 132 rfl) rfl
theorem q459 : (Jvm.Cond.classLink "DyeLattice$Valve" (24 : Nat) "[LDyeLattice$Valve;") ∈ lw_all := lw_g (lw_at lw_m2 136 rfl) rfl
theorem q948 : (Jvm.Cond.declares ({ cls := "DyeLattice$Valve", name := "lets", desc := "(ZZ)Z" } : Jvm.MethodName)) ∈ lw_tbl := lw_at lw_m4 145 rfl
theorem q949 : (Jvm.Cond.sameMethod "DyeLattice$Valve" "DyeLattice$Valve" "lets" "(ZZ)Z") ∈ lw_all := lw_g (lw_at lw_m4 146 rfl) rfl
theorem q1015 : (Jvm.Cond.laysStatic "DyeLattice$Valve" "SHUT" "LDyeLattice$Valve;") ∈ lw_tbl := lw_at lw_m4 212 rfl
theorem q1545 : (Jvm.Cond.castable "DyeLattice$Valve" "java/lang/Object") ∈ lw_tbl := lw_at lw_m7 22 rfl
theorem q1583 : (Jvm.Cond.laysStatic "DyeLattice$Valve" "FORTH" "LDyeLattice$Valve;") ∈ lw_tbl := lw_at lw_m7 60 rfl
theorem q1584 : (Jvm.Cond.laysStatic "DyeLattice$Valve" "BACK" "LDyeLattice$Valve;") ∈ lw_tbl := lw_at lw_m7 61 rfl
theorem q1585 : (Jvm.Cond.laysStatic "DyeLattice$Valve" "BEATING" "LDyeLattice$Valve;") ∈ lw_tbl := lw_at lw_m7 62 rfl

set_option maxRecDepth 100000
section INL
variable {p : Program} {l : Launch} {e : Env} {R : Room} {s : State} {m : MethodId} {args : Array Value} {below : List Frame} {meth : Method} {c : Code}
/-- a call whose body is walked on the spot, in a frame over the caller's -/
theorem inl_run {T : State} {locs : List Loc} {cells slots : Nat} (X : Stand p l e R s m args below meth c T locs cells slots) {g : JFrame} (hg : g.method = m) (hsize : g.locals.size = c.maxLocals) {ig : Instr} {len : Nat} (hdg : decode c.code g.pc = .ok (ig, len))
    {mk : MethodId} {methk : Method} {ck : Code} (a : Array Value) {R' : Room} (hmk : T.vm.method? mk = some methk) (hck : methk.code = some ck) (hlk : methk.locks = false) (hpk : T.plainMethod mk)
    (hframes : R'.frames + 1 ≤ R.frames) (hlocals : 2 * g.monitorRoom + (g.stack.map fun v => v.category).sum + (ck.maxLocals + 11) + R'.locals ≤ R.locals) (hcells : cells + R'.cells ≤ R.cells) (hslots : slots + R'.slots ≤ R.slots)
    {Qc : Array Value → State → Outcome → State → Prop} {mc ms : Nat} {free : Addr → Prop}
    (body : W p l e R' (T.calling g mk a) mk a (.java g :: below) methk ck T.heap [] 0 0 (MQ (.java g :: below) Qc a (T.calling g mk a) mc ms free) (entryFrame mk a ck.maxLocals)) :
    ∃ (v : Option Value) (t T' : State) (L : List Loc), Stand p l e R s m args below meth c T' (locs ++ L) (cells + mc) (slots + ms) ∧ (∀ q ∈ L, free q.base) ∧ T'.heap = t.heap ∧ T'.vm = t.vm ∧ Qc a (T.calling g mk a) (.returned v) t ∧
      ∀ acts, Steps p.tables e below (doInvoke e (T.setTop g) acts mk a).1 (T'.setTop { g with pc := g.pc + len, stack := v.toList ++ g.stack }) := by
  obtain ⟨Y₀, hin⟩ := X.into hg hsize hdg a (R' := R') hmk hck hlk hpk hframes hlocals hcells hslots
  obtain ⟨t, hst, o, hrun, hended, hq, L, ⟨⟨v, rfl⟩, hWe, hsame⟩, hL⟩ := body _ (by rfl) Y₀
  obtain ⟨T', X', hW', -, ht⟩ := X.outOf hg hdg hended hWe hsame
  refine ⟨v, t, T', L, X', hL, by rw [ht]; rfl, by rw [ht]; rfl, hq, fun acts => ?_⟩
  rw [hin acts, ← ht]
  exact Steps.weaken (mid := [.java g]) hst
end INL
section LETS
variable {p : Program} {l : Launch} {e : Env} {R : Room} {s : State} {m : MethodId} {args : Array Value} {below : List Frame} {meth : Method} {c : Code} {D : va_G} {A : Nat → Prop} {cells slots : Nat} {Q : State → Prop} {cc : ByteArray} {nL : Nat} {own : String} {ws : va_W} {pc : Nat} {lv : VW} {st : List Value}
/-- what a valve lets through -/
def letsF (v : Nat) (f b : Int32) : Option Int32 := if v = 0 then some 1 else if v = 1 then some 0 else if v = 2 then zck f else if v = 3 then some (if f = 0 then 1 else 0) else if v = 4 then zck b else none

/-- the walk of a body that the valve's class has: it answers z and changes nothing -/
def LBody (l : Launch) (cc : ByteArray) (v : Nat) : Prop := ∀ (p : Program) (e : Env) (s : State) (mk : MethodId) (below : List Frame) (meth : Method) (c : Code) (a : Nat) (f b z : Int32), p.tables.exec = Jvm.exec → c.code = cc → meth.sig.returnType = some .boolean → meth.locks = false → letsF v f b = some z →
  W p l e ({ frames := 0, cells := 0, slots := 0, locals := 0 } : Room) s mk ([.ref a, .int f, .int b] : List Value).toArray below meth c s.heap [] 0 0 (MQ below (fun _ st o t => o = .returned (some (.int z)) ∧ t.heap = st.heap) ([.ref a, .int f, .int b] : List Value).toArray s 0 0 (fun _ => False)) (entryFrame mk ([.ref a, .int f, .int b] : List Value).toArray 3)
theorem lb1 (l : Launch) : LBody l cX11_lets 0 := by
  intro p e s mk below meth c a f b z hx hb hr hlk hz
  rw [lg_entry_eq]
  have hl := lv_entry ([.ref a, .int f, .int b]) (n := 3) (Nat.le_of_ble_eq_true rfl)
  generalize (lg_sl ([.ref a, .int f, .int b]) ++ List.replicate (3 - (lg_sl ([.ref a, .int f, .int b])).length) Slot.unset).toArray = ls at hl ⊢
  have hl : lv_has ls 3 [(0, .ref a), (1, .int f), (2, .int b)] := hl
  obtain rfl : 1 = z := Option.some.inj hz
  refine lv_iconst (v := 1) hx hb dX11_lets_0 ki_1 ?_
  exact W.zret (v := 1) hx hb hr rfl (fun t ht hW => ⟨rfl, ht⟩) (fun q h => by cases h) dX11_lets_1 hlk
theorem lb2 (l : Launch) : LBody l cX12_lets 1 := by
  intro p e s mk below meth c a f b z hx hb hr hlk hz
  rw [lg_entry_eq]
  have hl := lv_entry ([.ref a, .int f, .int b]) (n := 3) (Nat.le_of_ble_eq_true rfl)
  generalize (lg_sl ([.ref a, .int f, .int b]) ++ List.replicate (3 - (lg_sl ([.ref a, .int f, .int b])).length) Slot.unset).toArray = ls at hl ⊢
  have hl : lv_has ls 3 [(0, .ref a), (1, .int f), (2, .int b)] := hl
  obtain rfl : 0 = z := Option.some.inj hz
  refine lv_iconst (v := 0) hx hb dX12_lets_0 ki_0 ?_
  exact W.zret (v := 0) hx hb hr rfl (fun t ht hW => ⟨rfl, ht⟩) (fun q h => by cases h) dX12_lets_1 hlk
theorem lb3 (l : Launch) : LBody l cX13_lets 2 := by
  intro p e s mk below meth c a f b z hx hb hr hlk hz
  rw [lg_entry_eq]
  have hl := lv_entry ([.ref a, .int f, .int b]) (n := 3) (Nat.le_of_ble_eq_true rfl)
  generalize (lg_sl ([.ref a, .int f, .int b]) ++ List.replicate (3 - (lg_sl ([.ref a, .int f, .int b])).length) Slot.unset).toArray = ls at hl ⊢
  have hl : lv_has ls 3 [(0, .ref a), (1, .int f), (2, .int b)] := hl
  have hz : zck f = some z := hz
  obtain ⟨rfl, h1, h2⟩ := zck_s hz
  refine lv_iload_n hx hb dX13_lets_0 rfl (lv_at hl 1 rfl) ?_
  exact W.zret (v := f) hx hb hr h1 (fun t ht hW => ⟨rfl, ht⟩) (fun q h => by cases h) dX13_lets_1 hlk
theorem lb4 (l : Launch) : LBody l cX14_lets 3 := by
  intro p e s mk below meth c a f b z hx hb hr hlk hz
  rw [lg_entry_eq]
  have hl := lv_entry ([.ref a, .int f, .int b]) (n := 3) (Nat.le_of_ble_eq_true rfl)
  generalize (lg_sl ([.ref a, .int f, .int b]) ++ List.replicate (3 - (lg_sl ([.ref a, .int f, .int b])).length) Slot.unset).toArray = ls at hl ⊢
  have hl : lv_has ls 3 [(0, .ref a), (1, .int f), (2, .int b)] := hl
  obtain rfl : (if f = 0 then 1 else 0) = z := Option.some.inj hz
  refine lv_iload_n hx hb dX14_lets_0 rfl (lv_at hl 1 rfl) ?_
  refine lv_if_ne (tgt := 8) hx hb dX14_lets_1 (by decide) (fun h => ?_) (fun h => ?_)
  · rw [if_neg h]
    refine lv_iconst (v := 0) hx hb dX14_lets_8 ki_0 ?_
    exact W.zret (v := 0) hx hb hr rfl (fun t ht hW => ⟨rfl, ht⟩) (fun q h => by cases h) dX14_lets_9 hlk
  · rw [if_pos h]
    refine lv_iconst (v := 1) hx hb dX14_lets_4 ki_1 ?_
    refine lv_goto (tgt := 9) hx hb dX14_lets_5 (by decide) ?_
    exact W.zret (v := 1) hx hb hr rfl (fun t ht hW => ⟨rfl, ht⟩) (fun q h => by cases h) dX14_lets_9 hlk
theorem lb5 (l : Launch) : LBody l cX15_lets 4 := by
  intro p e s mk below meth c a f b z hx hb hr hlk hz
  rw [lg_entry_eq]
  have hl := lv_entry ([.ref a, .int f, .int b]) (n := 3) (Nat.le_of_ble_eq_true rfl)
  generalize (lg_sl ([.ref a, .int f, .int b]) ++ List.replicate (3 - (lg_sl ([.ref a, .int f, .int b])).length) Slot.unset).toArray = ls at hl ⊢
  have hl : lv_has ls 3 [(0, .ref a), (1, .int f), (2, .int b)] := hl
  have hz : zck b = some z := hz
  obtain ⟨rfl, h1, h2⟩ := zck_s hz
  refine lv_iload_n hx hb dX15_lets_0 rfl (lv_at hl 2 rfl) ?_
  exact W.zret (v := b) hx hb hr h1 (fun t ht hW => ⟨rfl, ht⟩) (fun q h => by cases h) dX15_lets_1 hlk
abbrev yV_lets : MethodName := ⟨"DyeLattice$Valve", "lets", "(ZZ)Z"⟩
theorem lets1 (X : CX p s m args meth c D A cc nL own) (hAm : AMB D A s) {index v : Nat} {z f b : Int32} {y : MethodName} {bytes : ByteArray} {C : String} (hv : v < 5) (hC : vCl.getD v "" = C) (hz : letsF v f b = some z) (hB : LBody l bytes v) (hy : plainName y.cls = true)
    (hlink : Cond.methodLink own index yV_lets ∈ lw_all) (hsel : Cond.selects C yV_lets y ∈ lw_all) (hinst : Cond.instanceMethod y ∈ lw_all) (hcode : Cond.code y bytes 3 (some .boolean) ∈ lw_all) (hroom : 1 ≤ R.frames ∧ 8 + (3 + 11) ≤ R.locals) (hcs : cells + 0 ≤ R.cells ∧ slots + 0 ≤ R.slots) {rest : List Value} (hrest : (rest.map fun v => v.category).sum ≤ 8) (d : decode cc pc = .ok (.invokevirtual index, 3))
    (k : V p l e R s m args below meth c D A nL Q ws cells slots (pc + 3) lv (.int z :: rest)) : V p l e R s m args below meth c D A nL Q ws cells slots pc lv (.int b :: .int f :: .ref (adV D v) :: rest) := by
  subst hC
  intro H locs ls hP hD hS hl T hT XS
  obtain ⟨cellB, hcB, hoB, hclB, -⟩ := (hAm.2.2.1.1 v hv).2.1.kept hS.2.1
  obtain ⟨r0, r, hn, hrm, hstR, hsigR⟩ := va_Decl.abs (hAm.nw q948 rfl)
  obtain ⟨cn, ck0, r1, hcn, hck0, hni, hf, hn1⟩ := Cond.sameMethod_found (X.hts _ q949)
  cases hn.symm.trans hn1
  obtain ⟨mk, methM, hnamed, hmethM, -, habM⟩ := Cond.instanceMethod_spec (X.hts _ hinst)
  obtain ⟨c2, r2, m2, q1, q2, q3, q4, kP, hkP, hkPi⟩ := Cond.selects_spec (X.hts _ hsel)
  cases hclB.symm.trans q1
  cases hf.symm.trans q2
  cases hnamed.symm.trans q3
  have hselP : selectMethod e.platform s.vm cellB.cls r0 = .method mk := by rw [Launch.admits_selectMethod XS.admits]; exact q4
  have hsig2 : r.sig.parameters.length = 2 := by
    have h2 : (parseMethodDescriptor "(ZZ)Z").map (fun d => d.parameters.length) = some 2 := by decide +kernel
    rw [show parseMethodDescriptor "(ZZ)Z" = some r.sig from hsigR] at h2
    exact Option.some.inj h2
  obtain ⟨vm₁, X₁, hstep₁⟩ := XS.invokevirtualUp X.hx X.hown (X.hts _ hlink) (X.hts _ q949) (by decide) hn hrm hstR (a := adV D v) (cell := cellB) (by rw [hT]; exact hcB)
    (fun z h => by rw [h] at hoB; cases hoB) hselP hmethM habM hkP hkPi (g := F0 m pc ls (.int b :: .int f :: .ref (adV D v) :: rest)) rfl (argsL := [.int f, .int b]) (rest := rest) hsig2.symm rfl (by rw [X.hb]; exact d)
  obtain ⟨meth2, c3, z1, z2, z3, z4, z5, z6, -, -⟩ := Cond.code_spec hnamed (X.hts _ hcode)
  cases hmethM.symm.trans z1
  obtain ⟨kk, hkk, hkn⟩ := className_of_methodNamed hnamed
  have hm1 : (T.setVm vm₁).vm.method? mk = some methM := by rw [X₁.warmed.alike.method?]; exact hmethM
  obtain ⟨v0, t, T', L, X', hL, e1, e2, ⟨ho, hh⟩, hst⟩ := inl_run X₁ (g := F0 m pc ls rest) rfl (by rw [X.hml]; exact hl.1) (by rw [X.hb]; exact d) (mk := mk) ([.ref (adV D v), .int f, .int b] : List Value).toArray (R' := ({ frames := 0, cells := 0, slots := 0, locals := 0 } : Room)) hm1 z2 z6
    (State.plainMethod.of_name (fun k' hk' => by
      have h3 : s.vm.classes[mk.cls]? = some kk := hkk
      obtain ⟨k4, hk4, he4⟩ := X₁.warmed.alike.2.2 _ _ h3
      cases hk'.symm.trans hk4
      rw [he4]
      show plainName kk.name = true
      rw [hkn]
      exact hy)) hroom.1 (by rw [z4]; show 2 * 0 + (rest.map fun v => v.category).sum + (3 + 11) + 0 ≤ _; have := hroom.2; omega) hcs.1 hcs.2 (by rw [z4]; exact hB p e _ mk _ methM c3 (adV D v) f b z X.hx z3 z5 z6 hz)
  cases ho
  have hL0 : L = [] := by
    cases L with
    | nil => rfl
    | cons x xs => exact absurd (hL x List.mem_cons_self) id
  subst hL0
  obtain ⟨tt, a1, b1⟩ := k H locs ls hP hD hS hl T' (by rw [e1, hh]; exact hT) (by rw [List.append_nil] at X'; exact X')
  exact ⟨tt, hstep₁ _ fun acts => (hst acts).trans a1, b1⟩
theorem v_lets (pc' : Nat) (X : CX p s m args meth c D A cc nL own) (hAm : AMB D A s) {index v : Nat} {z f b : Int32} (hz : letsF v f b = some z) (hlink : Cond.methodLink own index yV_lets ∈ lw_all) (hroom : 1 ≤ R.frames ∧ 8 + (3 + 11) ≤ R.locals) (hcs : cells + 0 ≤ R.cells ∧ slots + 0 ≤ R.slots) {rest : List Value} (hst : st = .int b :: .int f :: .ref (adV D v) :: rest) (hrest : (rest.map fun v => v.category).sum ≤ 8) (d : decode cc pc = .ok (.invokevirtual index, 3)) (hp : pc + 3 = pc') (k : V p l e R s m args below meth c D A nL Q ws cells slots pc' lv (.int z :: rest)) : V p l e R s m args below meth c D A nL Q ws cells slots pc lv st := by
  subst hp
  subst hst
  have hv : v < 5 := by
    rcases Nat.lt_or_ge v 5 with h | h
    · exact h
    · unfold letsF at hz
      rw [if_neg (by omega), if_neg (by omega), if_neg (by omega), if_neg (by omega), if_neg (by omega)] at hz
      cases hz
  rcases (show v = 0 ∨ v = 1 ∨ v = 2 ∨ v = 3 ∨ v = 4 by omega) with rfl | rfl | rfl | rfl | rfl
  · exact lets1 X hAm (by decide) rfl hz (lb1 l) (y := yX11_lets) (by decide) hlink q950 q951 q952 hroom hcs hrest d k
  · exact lets1 X hAm (by decide) rfl hz (lb2 l) (y := yX12_lets) (by decide) hlink q953 q954 q955 hroom hcs hrest d k
  · exact lets1 X hAm (by decide) rfl hz (lb3 l) (y := yX13_lets) (by decide) hlink q956 q957 q958 hroom hcs hrest d k
  · exact lets1 X hAm (by decide) rfl hz (lb4 l) (y := yX14_lets) (by decide) hlink q959 q960 q961 hroom hcs hrest d k
  · exact lets1 X hAm (by decide) rfl hz (lb5 l) (y := yX15_lets) (by decide) hlink q962 q963 q964 hroom hcs hrest d k
end LETS
