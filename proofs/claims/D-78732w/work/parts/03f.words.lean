theorem q128 : (Jvm.Cond.arrayOver (Jvm.ClassFile.FieldType.object "DyeLattice$Valve")) ∈ lw_tbl := lw_at lw_m1 45 rfl
set_option maxRecDepth 100000
theorem q190 : (Jvm.Cond.arrayClass Jvm.ClassFile.FieldType.int) ∈ lw_all := lw_g (lw_at lw_m1 107 rfl) rfl
theorem q191 : (Jvm.Cond.arrayClass Jvm.ClassFile.FieldType.boolean) ∈ lw_all := lw_g (lw_at lw_m1 108 rfl) rfl
theorem q202 : (Jvm.Cond.arrayOver (Jvm.ClassFile.FieldType.object "java/lang/Object")) ∈ lw_tbl := lw_at lw_m1 119 rfl
theorem q244 : (Jvm.Cond.arrayClass Jvm.ClassFile.FieldType.byte) ∈ lw_all := lw_g (lw_at lw_m1 161 rfl) rfl
theorem q379 : (Jvm.Cond.arrayOver (Jvm.ClassFile.FieldType.object "DyeLattice$Kind")) ∈ lw_tbl := lw_at lw_m2 56 rfl
theorem q781 : (Jvm.Cond.arrayOver (Jvm.ClassFile.FieldType.object "java/lang/String")) ∈ lw_tbl := lw_at lw_m3 218 rfl

theorem q83 : (Jvm.Cond.initialized "DyeLatticeLaw") ∈ lw_all := lw_g (lw_at lw_m1 0 rfl) rfl
set_option maxRecDepth 100000
theorem q111 : (Jvm.Cond.classLink "DyeLatticeLaw" (7 : Nat) "DyeLattice") ∈ lw_all := lw_g (lw_at lw_m1 28 rfl) rfl
theorem q113 : (Jvm.Cond.methodLink "DyeLatticeLaw" (9 : Nat) ({ cls := "DyeLattice", name := "<init>", desc := "()V" } : Jvm.MethodName)) ∈ lw_all := lw_g (lw_at lw_m1 30 rfl) rfl
theorem q256 : (Jvm.Cond.methodLink "DyeLatticeLaw" (13 : Nat) ({ cls := "DyeLattice", name := "setSize", desc := "(II)I" } : Jvm.MethodName)) ∈ lw_all := lw_g (lw_at lw_m1 173 rfl) rfl
theorem q348 : (Jvm.Cond.methodLink "DyeLatticeLaw" (18 : Nat) ({ cls := "DyeLattice", name := "setKind", desc := "(I)I" } : Jvm.MethodName)) ∈ lw_all := lw_g (lw_at lw_m2 25 rfl) rfl
theorem q410 : (Jvm.Cond.methodLink "DyeLatticeLaw" (23 : Nat) ({ cls := "DyeLattice", name := "setGrain", desc := "(II)I" } : Jvm.MethodName)) ∈ lw_all := lw_g (lw_at lw_m2 87 rfl) rfl
theorem q415 : (Jvm.Cond.methodLink "DyeLatticeLaw" (27 : Nat) ({ cls := "DyeLattice", name := "fill", desc := "(I)I" } : Jvm.MethodName)) ∈ lw_all := lw_g (lw_at lw_m2 92 rfl) rfl
theorem q432 : (Jvm.Cond.methodLink "DyeLatticeLaw" (31 : Nat) ({ cls := "DyeLattice", name := "setValve", desc := "(III)I" } : Jvm.MethodName)) ∈ lw_all := lw_g (lw_at lw_m2 109 rfl) rfl
theorem q460 : (Jvm.Cond.methodLink "DyeLatticeLaw" (36 : Nat) ({ cls := "DyeLattice", name := "setThreshold", desc := "(I)I" } : Jvm.MethodName)) ∈ lw_all := lw_g (lw_at lw_m2 137 rfl) rfl
theorem q465 : (Jvm.Cond.methodLink "DyeLatticeLaw" (40 : Nat) ({ cls := "DyeLattice", name := "setSource", desc := "(III)I" } : Jvm.MethodName)) ∈ lw_all := lw_g (lw_at lw_m2 142 rfl) rfl
theorem q476 : (Jvm.Cond.methodLink "DyeLatticeLaw" (44 : Nat) ({ cls := "DyeLattice", name := "setReaction", desc := "(III)I" } : Jvm.MethodName)) ∈ lw_all := lw_g (lw_at lw_m2 153 rfl) rfl
theorem q489 : (Jvm.Cond.methodLink "DyeLatticeLaw" (48 : Nat) ({ cls := "DyeLattice", name := "setBeat", desc := "(I)I" } : Jvm.MethodName)) ∈ lw_all := lw_g (lw_at lw_m2 166 rfl) rfl
theorem q493 : (Jvm.Cond.methodLink "DyeLatticeLaw" (52 : Nat) ({ cls := "DyeLattice", name := "append", desc := "(I)I" } : Jvm.MethodName)) ∈ lw_all := lw_g (lw_at lw_m2 170 rfl) rfl
theorem q591 : (Jvm.Cond.methodLink "DyeLatticeLaw" (56 : Nat) ({ cls := "DyeLattice", name := "clearText", desc := "()I" } : Jvm.MethodName)) ∈ lw_all := lw_g (lw_at lw_m3 28 rfl) rfl
theorem q615 : (Jvm.Cond.methodLink "DyeLatticeLaw" (61 : Nat) ({ cls := "DyeLattice", name := "load", desc := "()I" } : Jvm.MethodName)) ∈ lw_all := lw_g (lw_at lw_m3 52 rfl) rfl
theorem q927 : (Jvm.Cond.methodLink "DyeLatticeLaw" (65 : Nat) ({ cls := "DyeLattice", name := "run", desc := "(I)I" } : Jvm.MethodName)) ∈ lw_all := lw_g (lw_at lw_m4 124 rfl) rfl
theorem q971 : (Jvm.Cond.methodLink "DyeLatticeLaw" (69 : Nat) ({ cls := "DyeLattice", name := "rinse", desc := "()I" } : Jvm.MethodName)) ∈ lw_all := lw_g (lw_at lw_m4 168 rfl) rfl
theorem q975 : (Jvm.Cond.methodLink "DyeLatticeLaw" (73 : Nat) ({ cls := "DyeLattice", name := "undo", desc := "()I" } : Jvm.MethodName)) ∈ lw_all := lw_g (lw_at lw_m4 172 rfl) rfl
theorem q994 : (Jvm.Cond.methodLink "DyeLatticeLaw" (77 : Nat) ({ cls := "DyeLattice", name := "count", desc := "(I)I" } : Jvm.MethodName)) ∈ lw_all := lw_g (lw_at lw_m4 191 rfl) rfl
theorem q1036 : (Jvm.Cond.methodLink "DyeLatticeLaw" (81 : Nat) ({ cls := "DyeLattice", name := "cell", desc := "(II)I" } : Jvm.MethodName)) ∈ lw_all := lw_g (lw_at lw_m4 233 rfl) rfl
theorem q1045 : (Jvm.Cond.methodLink "DyeLatticeLaw" (85 : Nat) ({ cls := "DyeLattice", name := "valve", desc := "(II)I" } : Jvm.MethodName)) ∈ lw_all := lw_g (lw_at lw_m5 2 rfl) rfl
theorem q1049 : (Jvm.Cond.methodLink "DyeLatticeLaw" (89 : Nat) ({ cls := "DyeLattice", name := "dyed", desc := "(I)I" } : Jvm.MethodName)) ∈ lw_all := lw_g (lw_at lw_m5 6 rfl) rfl
theorem q1057 : (Jvm.Cond.methodLink "DyeLatticeLaw" (93 : Nat) ({ cls := "DyeLattice", name := "reach", desc := "(I)I" } : Jvm.MethodName)) ∈ lw_all := lw_g (lw_at lw_m5 14 rfl) rfl
theorem q1077 : (Jvm.Cond.methodLink "DyeLatticeLaw" (97 : Nat) ({ cls := "DyeLattice", name := "arrival", desc := "(II)I" } : Jvm.MethodName)) ∈ lw_all := lw_g (lw_at lw_m5 34 rfl) rfl
theorem q1081 : (Jvm.Cond.methodLink "DyeLatticeLaw" (101 : Nat) ({ cls := "DyeLattice", name := "cluster", desc := "(II)I" } : Jvm.MethodName)) ∈ lw_all := lw_g (lw_at lw_m5 38 rfl) rfl
theorem q1095 : (Jvm.Cond.methodLink "DyeLatticeLaw" (105 : Nat) ({ cls := "DyeLattice", name := "ledger", desc := "(II)I" } : Jvm.MethodName)) ∈ lw_all := lw_g (lw_at lw_m5 52 rfl) rfl
theorem q1109 : (Jvm.Cond.methodLink "DyeLatticeLaw" (109 : Nat) ({ cls := "DyeLattice", name := "threshold", desc := "()I" } : Jvm.MethodName)) ∈ lw_all := lw_g (lw_at lw_m5 66 rfl) rfl
theorem q1128 : (Jvm.Cond.methodLink "DyeLatticeLaw" (113 : Nat) ({ cls := "DyeLattice", name := "probe", desc := "(I)I" } : Jvm.MethodName)) ∈ lw_all := lw_g (lw_at lw_m5 85 rfl) rfl
theorem q1132 : (Jvm.Cond.methodLink "DyeLatticeLaw" (117 : Nat) ({ cls := "DyeLattice", name := "thresholdBetween", desc := "(II)I" } : Jvm.MethodName)) ∈ lw_all := lw_g (lw_at lw_m5 89 rfl) rfl
theorem q1149 : (Jvm.Cond.methodLink "DyeLatticeLaw" (121 : Nat) ({ cls := "DyeLattice", name := "pivots", desc := "()I" } : Jvm.MethodName)) ∈ lw_all := lw_g (lw_at lw_m5 106 rfl) rfl
theorem q1153 : (Jvm.Cond.methodLink "DyeLatticeLaw" (125 : Nat) ({ cls := "DyeLattice", name := "bestValve", desc := "()I" } : Jvm.MethodName)) ∈ lw_all := lw_g (lw_at lw_m5 110 rfl) rfl
theorem q1158 : (Jvm.Cond.classLink "DyeLatticeLaw" (10 : Nat) "DyeLatticeModel") ∈ lw_all := lw_g (lw_at lw_m5 115 rfl) rfl
theorem q1160 : (Jvm.Cond.methodLink "DyeLatticeLaw" (12 : Nat) ({ cls := "DyeLatticeModel", name := "<init>", desc := "()V" } : Jvm.MethodName)) ∈ lw_all := lw_g (lw_at lw_m5 117 rfl) rfl
theorem q1218 : (Jvm.Cond.methodLink "DyeLatticeLaw" (76 : Nat) ({ cls := "DyeLatticeModel", name := "undo", desc := "()I" } : Jvm.MethodName)) ∈ lw_all := lw_g (lw_at lw_m5 175 rfl) rfl
theorem q1222 : (Jvm.Cond.methodLink "DyeLatticeLaw" (17 : Nat) ({ cls := "DyeLatticeModel", name := "setSize", desc := "(II)I" } : Jvm.MethodName)) ∈ lw_all := lw_g (lw_at lw_m5 179 rfl) rfl
theorem q1237 : (Jvm.Cond.methodLink "DyeLatticeLaw" (22 : Nat) ({ cls := "DyeLatticeModel", name := "setKind", desc := "(I)I" } : Jvm.MethodName)) ∈ lw_all := lw_g (lw_at lw_m5 194 rfl) rfl
theorem q1261 : (Jvm.Cond.methodLink "DyeLatticeLaw" (26 : Nat) ({ cls := "DyeLatticeModel", name := "setGrain", desc := "(II)I" } : Jvm.MethodName)) ∈ lw_all := lw_g (lw_at lw_m5 218 rfl) rfl
theorem q1265 : (Jvm.Cond.methodLink "DyeLatticeLaw" (30 : Nat) ({ cls := "DyeLatticeModel", name := "fill", desc := "(I)I" } : Jvm.MethodName)) ∈ lw_all := lw_g (lw_at lw_m5 222 rfl) rfl
theorem q1282 : (Jvm.Cond.methodLink "DyeLatticeLaw" (35 : Nat) ({ cls := "DyeLatticeModel", name := "setValve", desc := "(III)I" } : Jvm.MethodName)) ∈ lw_all := lw_g (lw_at lw_m5 239 rfl) rfl
theorem q1290 : (Jvm.Cond.methodLink "DyeLatticeLaw" (39 : Nat) ({ cls := "DyeLatticeModel", name := "setThreshold", desc := "(I)I" } : Jvm.MethodName)) ∈ lw_all := lw_g (lw_at lw_m6 7 rfl) rfl
theorem q1294 : (Jvm.Cond.methodLink "DyeLatticeLaw" (43 : Nat) ({ cls := "DyeLatticeModel", name := "setSource", desc := "(III)I" } : Jvm.MethodName)) ∈ lw_all := lw_g (lw_at lw_m6 11 rfl) rfl
theorem q1305 : (Jvm.Cond.methodLink "DyeLatticeLaw" (47 : Nat) ({ cls := "DyeLatticeModel", name := "setReaction", desc := "(III)I" } : Jvm.MethodName)) ∈ lw_all := lw_g (lw_at lw_m6 22 rfl) rfl
theorem q1313 : (Jvm.Cond.methodLink "DyeLatticeLaw" (51 : Nat) ({ cls := "DyeLatticeModel", name := "setBeat", desc := "(I)I" } : Jvm.MethodName)) ∈ lw_all := lw_g (lw_at lw_m6 30 rfl) rfl
theorem q1317 : (Jvm.Cond.methodLink "DyeLatticeLaw" (68 : Nat) ({ cls := "DyeLatticeModel", name := "run", desc := "(I)I" } : Jvm.MethodName)) ∈ lw_all := lw_g (lw_at lw_m6 34 rfl) rfl
theorem q1341 : (Jvm.Cond.methodLink "DyeLatticeLaw" (72 : Nat) ({ cls := "DyeLatticeModel", name := "rinse", desc := "()I" } : Jvm.MethodName)) ∈ lw_all := lw_g (lw_at lw_m6 58 rfl) rfl
theorem q1345 : (Jvm.Cond.methodLink "DyeLatticeLaw" (80 : Nat) ({ cls := "DyeLatticeModel", name := "count", desc := "(I)I" } : Jvm.MethodName)) ∈ lw_all := lw_g (lw_at lw_m6 62 rfl) rfl
theorem q1373 : (Jvm.Cond.methodLink "DyeLatticeLaw" (84 : Nat) ({ cls := "DyeLatticeModel", name := "cell", desc := "(II)I" } : Jvm.MethodName)) ∈ lw_all := lw_g (lw_at lw_m6 90 rfl) rfl
theorem q1381 : (Jvm.Cond.methodLink "DyeLatticeLaw" (88 : Nat) ({ cls := "DyeLatticeModel", name := "valve", desc := "(II)I" } : Jvm.MethodName)) ∈ lw_all := lw_g (lw_at lw_m6 98 rfl) rfl
theorem q1385 : (Jvm.Cond.methodLink "DyeLatticeLaw" (92 : Nat) ({ cls := "DyeLatticeModel", name := "dyed", desc := "(I)I" } : Jvm.MethodName)) ∈ lw_all := lw_g (lw_at lw_m6 102 rfl) rfl
theorem q1389 : (Jvm.Cond.methodLink "DyeLatticeLaw" (96 : Nat) ({ cls := "DyeLatticeModel", name := "reach", desc := "(I)I" } : Jvm.MethodName)) ∈ lw_all := lw_g (lw_at lw_m6 106 rfl) rfl
theorem q1393 : (Jvm.Cond.methodLink "DyeLatticeLaw" (100 : Nat) ({ cls := "DyeLatticeModel", name := "arrival", desc := "(II)I" } : Jvm.MethodName)) ∈ lw_all := lw_g (lw_at lw_m6 110 rfl) rfl
theorem q1405 : (Jvm.Cond.methodLink "DyeLatticeLaw" (104 : Nat) ({ cls := "DyeLatticeModel", name := "cluster", desc := "(II)I" } : Jvm.MethodName)) ∈ lw_all := lw_g (lw_at lw_m6 122 rfl) rfl
theorem q1425 : (Jvm.Cond.methodLink "DyeLatticeLaw" (108 : Nat) ({ cls := "DyeLatticeModel", name := "ledger", desc := "(II)I" } : Jvm.MethodName)) ∈ lw_all := lw_g (lw_at lw_m6 142 rfl) rfl
theorem q1433 : (Jvm.Cond.methodLink "DyeLatticeLaw" (112 : Nat) ({ cls := "DyeLatticeModel", name := "threshold", desc := "()I" } : Jvm.MethodName)) ∈ lw_all := lw_g (lw_at lw_m6 150 rfl) rfl
theorem q1441 : (Jvm.Cond.methodLink "DyeLatticeLaw" (116 : Nat) ({ cls := "DyeLatticeModel", name := "probe", desc := "(I)I" } : Jvm.MethodName)) ∈ lw_all := lw_g (lw_at lw_m6 158 rfl) rfl
theorem q1445 : (Jvm.Cond.methodLink "DyeLatticeLaw" (120 : Nat) ({ cls := "DyeLatticeModel", name := "thresholdBetween", desc := "(II)I" } : Jvm.MethodName)) ∈ lw_all := lw_g (lw_at lw_m6 162 rfl) rfl
theorem q1453 : (Jvm.Cond.methodLink "DyeLatticeLaw" (124 : Nat) ({ cls := "DyeLatticeModel", name := "pivots", desc := "()I" } : Jvm.MethodName)) ∈ lw_all := lw_g (lw_at lw_m6 170 rfl) rfl
theorem q1457 : (Jvm.Cond.methodLink "DyeLatticeLaw" (128 : Nat) ({ cls := "DyeLatticeModel", name := "bestValve", desc := "()I" } : Jvm.MethodName)) ∈ lw_all := lw_g (lw_at lw_m6 174 rfl) rfl
theorem q1461 : (Jvm.Cond.methodLink "DyeLatticeLaw" (55 : Nat) ({ cls := "DyeLatticeModel", name := "append", desc := "(I)I" } : Jvm.MethodName)) ∈ lw_all := lw_g (lw_at lw_m6 178 rfl) rfl
theorem q1465 : (Jvm.Cond.methodLink "DyeLatticeLaw" (60 : Nat) ({ cls := "DyeLatticeModel", name := "clearText", desc := "()I" } : Jvm.MethodName)) ∈ lw_all := lw_g (lw_at lw_m6 182 rfl) rfl
theorem q1469 : (Jvm.Cond.methodLink "DyeLatticeLaw" (64 : Nat) ({ cls := "DyeLatticeModel", name := "load", desc := "()I" } : Jvm.MethodName)) ∈ lw_all := lw_g (lw_at lw_m6 186 rfl) rfl

theorem q98 : (Jvm.Cond.initialized "java/lang/System") ∈ lw_all := lw_g (lw_at lw_m1 15 rfl) rfl
set_option maxRecDepth 100000
theorem q341 : (Jvm.Cond.static ({ cls := "java/lang/System", name := "arraycopy", desc := "(Ljava/lang/Object;ILjava/lang/Object;II)V" } : Jvm.MethodName)) ∈ lw_all := lw_g (lw_at lw_m2 18 rfl) rfl
theorem q342 : (Jvm.Cond.native ({ cls := "java/lang/System", name := "arraycopy", desc := "(Ljava/lang/Object;ILjava/lang/Object;II)V" } : Jvm.MethodName)) ∈ lw_all := lw_g (lw_at lw_m2 19 rfl) rfl

theorem q374 : (Jvm.Cond.sameMethod "[LDyeLattice$Kind;" "java/lang/Object" "clone" "()Ljava/lang/Object;") ∈ lw_all := lw_g (lw_at lw_m2 51 rfl) rfl
set_option maxRecDepth 100000
theorem q377 : (Jvm.Cond.selects "[LDyeLattice$Kind;" ({ cls := "[LDyeLattice$Kind;", name := "clone", desc := "()Ljava/lang/Object;" } : Jvm.MethodName) ({ cls := "java/lang/Object", name := "clone", desc := "()Ljava/lang/Object;" } : Jvm.MethodName)) ∈ lw_all := lw_g (lw_at lw_m2 54 rfl) rfl
theorem q378 : (Jvm.Cond.castable "[LDyeLattice$Kind;" "java/lang/Cloneable") ∈ lw_tbl := lw_at lw_m2 55 rfl
theorem q1577 : (Jvm.Cond.castable "[LDyeLattice$Kind;" "java/lang/Object") ∈ lw_tbl := lw_at lw_m7 54 rfl

theorem q456 : (Jvm.Cond.sameMethod "[LDyeLattice$Valve;" "java/lang/Object" "clone" "()Ljava/lang/Object;") ∈ lw_all := lw_g (lw_at lw_m2 133 rfl) rfl
set_option maxRecDepth 100000
theorem q457 : (Jvm.Cond.selects "[LDyeLattice$Valve;" ({ cls := "[LDyeLattice$Valve;", name := "clone", desc := "()Ljava/lang/Object;" } : Jvm.MethodName) ({ cls := "java/lang/Object", name := "clone", desc := "()Ljava/lang/Object;" } : Jvm.MethodName)) ∈ lw_all := lw_g (lw_at lw_m2 134 rfl) rfl
theorem q458 : (Jvm.Cond.castable "[LDyeLattice$Valve;" "java/lang/Cloneable") ∈ lw_tbl := lw_at lw_m2 135 rfl
theorem q1572 : (Jvm.Cond.castable "[LDyeLattice$Valve;" "java/lang/Object") ∈ lw_tbl := lw_at lw_m7 49 rfl

theorem q534 : (Jvm.Cond.sameMethod "[B" "java/lang/Object" "clone" "()Ljava/lang/Object;") ∈ lw_all := lw_g (lw_at lw_m2 211 rfl) rfl
set_option maxRecDepth 100000
theorem q535 : (Jvm.Cond.selects "[B" ({ cls := "[B", name := "clone", desc := "()Ljava/lang/Object;" } : Jvm.MethodName) ({ cls := "java/lang/Object", name := "clone", desc := "()Ljava/lang/Object;" } : Jvm.MethodName)) ∈ lw_all := lw_g (lw_at lw_m2 212 rfl) rfl
theorem q536 : (Jvm.Cond.castable "[B" "java/lang/Cloneable") ∈ lw_tbl := lw_at lw_m2 213 rfl
theorem q1576 : (Jvm.Cond.castable "[B" "java/lang/Object") ∈ lw_tbl := lw_at lw_m7 53 rfl

theorem q1022 : (Jvm.Cond.interfaceMethod "DyeLattice$CellTest" "DyeLattice$CellTest" "is" "(I)Z") ∈ lw_tbl := lw_at lw_m4 219 rfl
set_option maxRecDepth 100000
theorem q1023 : (Jvm.Cond.declares ({ cls := "DyeLattice$CellTest", name := "is", desc := "(I)Z" } : Jvm.MethodName)) ∈ lw_tbl := lw_at lw_m4 220 rfl

theorem q1026 : (Jvm.Cond.interfaceMethod "DyeLattice$ValveTest" "DyeLattice$ValveTest" "lets" "(LDyeLattice$Valve;Z)Z") ∈ lw_tbl := lw_at lw_m4 223 rfl
set_option maxRecDepth 100000
theorem q1027 : (Jvm.Cond.declares ({ cls := "DyeLattice$ValveTest", name := "lets", desc := "(LDyeLattice$Valve;Z)Z" } : Jvm.MethodName)) ∈ lw_tbl := lw_at lw_m4 224 rfl

theorem q1126 : (Jvm.Cond.interfaceMethod "DyeLattice$ThresholdTest" "DyeLattice$ThresholdTest" "holds" "(I)Z") ∈ lw_tbl := lw_at lw_m5 83 rfl
set_option maxRecDepth 100000
theorem q1127 : (Jvm.Cond.declares ({ cls := "DyeLattice$ThresholdTest", name := "holds", desc := "(I)Z" } : Jvm.MethodName)) ∈ lw_tbl := lw_at lw_m5 84 rfl

theorem q1569 : (Jvm.Cond.sameMethod "[Ljava/lang/Object;" "java/lang/Object" "getClass" "()Ljava/lang/Class;") ∈ lw_all := lw_g (lw_at lw_m7 46 rfl) rfl
set_option maxRecDepth 100000
theorem q1570 : (Jvm.Cond.selects "[Ljava/lang/Object;" ({ cls := "java/lang/Object", name := "getClass", desc := "()Ljava/lang/Class;" } : Jvm.MethodName) ({ cls := "java/lang/Object", name := "getClass", desc := "()Ljava/lang/Class;" } : Jvm.MethodName)) ∈ lw_all := lw_g (lw_at lw_m7 47 rfl) rfl
theorem q1575 : (Jvm.Cond.castable "[Ljava/lang/Object;" "java/lang/Object") ∈ lw_tbl := lw_at lw_m7 52 rfl

theorem q1573 : (Jvm.Cond.castable "[I" "java/lang/Object") ∈ lw_tbl := lw_at lw_m7 50 rfl
set_option maxRecDepth 100000

theorem q1574 : (Jvm.Cond.castable "[Z" "java/lang/Object") ∈ lw_tbl := lw_at lw_m7 51 rfl
set_option maxRecDepth 100000

theorem q1578 : (Jvm.Cond.castable "[Ljava/lang/String;" "java/lang/Object") ∈ lw_tbl := lw_at lw_m7 55 rfl
set_option maxRecDepth 100000
