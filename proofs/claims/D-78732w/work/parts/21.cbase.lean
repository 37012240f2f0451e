abbrev LW (D : va_G) (b0 b1 b2 b3 b4 b5 n n4 : Nat) (cols rows : Int32) (kd : Nat) (thr bt tm rea : Int32) (gr : Nat → Int32) (vl : Nat → Nat) (so dy cg : Nat → Int32) : va_W := [(b0, .inr (1, [.int cols, .int rows, .ref (adK D kd), .int thr, .int bt, .int tm, .int rea, .ref b1, .ref b2, .ref b3, .ref b4, .ref b5])), (b1, .inl (D.1 100, n, .inl gr)), (b2, .inl (D.1 104, n4, .inr (.inr (.inr (.inr (vArr D vl)))))), (b3, .inl (D.1 100, n, .inl so)), (b4, .inl (D.1 100, n, .inl dy)), (b5, .inl (D.1 101, n, .inl cg))]
abbrev rmX0_isBetween : Room := { frames := 0, cells := 0, slots := 0, locals := 0 }
theorem hdX0_isBetween : yX0_isBetween.cls ≠ "java/lang/invoke/MethodHandle" ∧ yX0_isBetween.cls ≠ "java/lang/invoke/VarHandle" ∧ (parseMethodDescriptor yX0_isBetween.desc).map (fun d => d.parameters.length) = some 3 := by decide +kernel
abbrev rmX0_xStep : Room := { frames := 0, cells := 0, slots := 0, locals := 0 }
theorem hdX0_xStep : yX0_xStep.cls ≠ "java/lang/invoke/MethodHandle" ∧ yX0_xStep.cls ≠ "java/lang/invoke/VarHandle" ∧ (parseMethodDescriptor yX0_xStep.desc).map (fun d => d.parameters.length) = some 1 := by decide +kernel
abbrev rmX0_yStep : Room := { frames := 0, cells := 0, slots := 0, locals := 0 }
theorem hdX0_yStep : yX0_yStep.cls ≠ "java/lang/invoke/MethodHandle" ∧ yX0_yStep.cls ≠ "java/lang/invoke/VarHandle" ∧ (parseMethodDescriptor yX0_yStep.desc).map (fun d => d.parameters.length) = some 1 := by decide +kernel
abbrev rmX0_pair : Room := { frames := 0, cells := 0, slots := 0, locals := 0 }
theorem hdX0_pair : yX0_pair.cls ≠ "java/lang/invoke/MethodHandle" ∧ yX0_pair.cls ≠ "java/lang/invoke/VarHandle" ∧ (parseMethodDescriptor yX0_pair.desc).map (fun d => d.parameters.length) = some 2 := by decide +kernel
abbrev rmX0_isDye : Room := { frames := 1, cells := 0, slots := 0, locals := 22 }
theorem hdX0_isDye : yX0_isDye.cls ≠ "java/lang/invoke/MethodHandle" ∧ yX0_isDye.cls ≠ "java/lang/invoke/VarHandle" ∧ (parseMethodDescriptor yX0_isDye.desc).map (fun d => d.parameters.length) = some 1 := by decide +kernel
abbrev rmJ9_bitCount : Room := { frames := 0, cells := 0, slots := 0, locals := 0 }
theorem hdJ9_bitCount : yJ9_bitCount.cls ≠ "java/lang/invoke/MethodHandle" ∧ yJ9_bitCount.cls ≠ "java/lang/invoke/VarHandle" ∧ (parseMethodDescriptor yJ9_bitCount.desc).map (fun d => d.parameters.length) = some 1 := by decide +kernel
abbrev rmX1_freeValves : Room := { frames := 0, cells := 0, slots := 0, locals := 0 }
theorem hdX1_freeValves : yX1_freeValves.cls = "DyeLattice$Lattice" ∧ yX1_freeValves.cls ≠ "java/lang/invoke/MethodHandle" ∧ yX1_freeValves.cls ≠ "java/lang/invoke/VarHandle" ∧ (parseMethodDescriptor yX1_freeValves.desc).map (fun d => d.parameters.length) = some 0 := by decide +kernel
abbrev rmX1_cells : Room := { frames := 0, cells := 0, slots := 0, locals := 0 }
theorem hdX1_cells : yX1_cells.cls = "DyeLattice$Lattice" ∧ yX1_cells.cls ≠ "java/lang/invoke/MethodHandle" ∧ yX1_cells.cls ≠ "java/lang/invoke/VarHandle" ∧ (parseMethodDescriptor yX1_cells.desc).map (fun d => d.parameters.length) = some 0 := by decide +kernel
abbrev rmX1_isCell : Room := { frames := 1, cells := 0, slots := 0, locals := 22 }
theorem hdX1_isCell : yX1_isCell.cls = "DyeLattice$Lattice" ∧ yX1_isCell.cls ≠ "java/lang/invoke/MethodHandle" ∧ yX1_isCell.cls ≠ "java/lang/invoke/VarHandle" ∧ (parseMethodDescriptor yX1_isCell.desc).map (fun d => d.parameters.length) = some 1 := by decide +kernel
abbrev rmX1_cellAt : Room := { frames := 1, cells := 0, slots := 0, locals := 22 }
theorem hdX1_cellAt : yX1_cellAt.cls = "DyeLattice$Lattice" ∧ yX1_cellAt.cls ≠ "java/lang/invoke/MethodHandle" ∧ yX1_cellAt.cls ≠ "java/lang/invoke/VarHandle" ∧ (parseMethodDescriptor yX1_cellAt.desc).map (fun d => d.parameters.length) = some 2 := by decide +kernel
abbrev rmX1_second : Room := { frames := 2, cells := 0, slots := 0, locals := 44 }
theorem hdX1_second : yX1_second.cls = "DyeLattice$Lattice" ∧ yX1_second.cls ≠ "java/lang/invoke/MethodHandle" ∧ yX1_second.cls ≠ "java/lang/invoke/VarHandle" ∧ (parseMethodDescriptor yX1_second.desc).map (fun d => d.parameters.length) = some 2 := by decide +kernel
abbrev rmX1_first : Room := { frames := 2, cells := 0, slots := 0, locals := 44 }
theorem hdX1_first : yX1_first.cls = "DyeLattice$Lattice" ∧ yX1_first.cls ≠ "java/lang/invoke/MethodHandle" ∧ yX1_first.cls ≠ "java/lang/invoke/VarHandle" ∧ (parseMethodDescriptor yX1_first.desc).map (fun d => d.parameters.length) = some 2 := by decide +kernel
abbrev rmX1_isBond : Room := { frames := 3, cells := 0, slots := 0, locals := 66 }
theorem hdX1_isBond : yX1_isBond.cls = "DyeLattice$Lattice" ∧ yX1_isBond.cls ≠ "java/lang/invoke/MethodHandle" ∧ yX1_isBond.cls ≠ "java/lang/invoke/VarHandle" ∧ (parseMethodDescriptor yX1_isBond.desc).map (fun d => d.parameters.length) = some 2 := by decide +kernel
abbrev rmX1_bonds : Room := { frames := 4, cells := 0, slots := 0, locals := 88 }
theorem hdX1_bonds : yX1_bonds.cls = "DyeLattice$Lattice" ∧ yX1_bonds.cls ≠ "java/lang/invoke/MethodHandle" ∧ yX1_bonds.cls ≠ "java/lang/invoke/VarHandle" ∧ (parseMethodDescriptor yX1_bonds.desc).map (fun d => d.parameters.length) = some 0 := by decide +kernel
abbrev rmX1_bondsAt : Room := { frames := 3, cells := 0, slots := 0, locals := 66 }
theorem hdX1_bondsAt : yX1_bondsAt.cls = "DyeLattice$Lattice" ∧ yX1_bondsAt.cls ≠ "java/lang/invoke/MethodHandle" ∧ yX1_bondsAt.cls ≠ "java/lang/invoke/VarHandle" ∧ (parseMethodDescriptor yX1_bondsAt.desc).map (fun d => d.parameters.length) = some 1 := by decide +kernel
abbrev rmX1_isOpen : Room := { frames := 0, cells := 0, slots := 0, locals := 0 }
theorem hdX1_isOpen : yX1_isOpen.cls = "DyeLattice$Lattice" ∧ yX1_isOpen.cls ≠ "java/lang/invoke/MethodHandle" ∧ yX1_isOpen.cls ≠ "java/lang/invoke/VarHandle" ∧ (parseMethodDescriptor yX1_isOpen.desc).map (fun d => d.parameters.length) = some 1 := by decide +kernel
abbrev rmX1_openCells : Room := { frames := 1, cells := 0, slots := 0, locals := 21 }
theorem hdX1_openCells : yX1_openCells.cls = "DyeLattice$Lattice" ∧ yX1_openCells.cls ≠ "java/lang/invoke/MethodHandle" ∧ yX1_openCells.cls ≠ "java/lang/invoke/VarHandle" ∧ (parseMethodDescriptor yX1_openCells.desc).map (fun d => d.parameters.length) = some 0 := by decide +kernel
abbrev rmX1_fill : Room := { frames := 2, cells := 0, slots := 0, locals := 43 }
theorem hdX1_fill : yX1_fill.cls = "DyeLattice$Lattice" ∧ yX1_fill.cls ≠ "java/lang/invoke/MethodHandle" ∧ yX1_fill.cls ≠ "java/lang/invoke/VarHandle" ∧ (parseMethodDescriptor yX1_fill.desc).map (fun d => d.parameters.length) = some 1 := by decide +kernel
abbrev rmX1_sourcesOf : Room := { frames := 0, cells := 0, slots := 0, locals := 0 }
theorem hdX1_sourcesOf : yX1_sourcesOf.cls = "DyeLattice$Lattice" ∧ yX1_sourcesOf.cls ≠ "java/lang/invoke/MethodHandle" ∧ yX1_sourcesOf.cls ≠ "java/lang/invoke/VarHandle" ∧ (parseMethodDescriptor yX1_sourcesOf.desc).map (fun d => d.parameters.length) = some 1 := by decide +kernel
abbrev rmX1_dyed : Room := { frames := 0, cells := 0, slots := 0, locals := 0 }
theorem hdX1_dyed : yX1_dyed.cls = "DyeLattice$Lattice" ∧ yX1_dyed.cls ≠ "java/lang/invoke/MethodHandle" ∧ yX1_dyed.cls ≠ "java/lang/invoke/VarHandle" ∧ (parseMethodDescriptor yX1_dyed.desc).map (fun d => d.parameters.length) = some 1 := by decide +kernel
abbrev rmX1_isMoving : Room := { frames := 1, cells := 0, slots := 0, locals := 21 }
theorem hdX1_isMoving : yX1_isMoving.cls = "DyeLattice$Lattice" ∧ yX1_isMoving.cls ≠ "java/lang/invoke/MethodHandle" ∧ yX1_isMoving.cls ≠ "java/lang/invoke/VarHandle" ∧ (parseMethodDescriptor yX1_isMoving.desc).map (fun d => d.parameters.length) = some 1 := by decide +kernel
abbrev rmX1_coming : Room := { frames := 3, cells := 0, slots := 0, locals := 66 }
theorem hdX1_coming : yX1_coming.cls = "DyeLattice$Lattice" ∧ yX1_coming.cls ≠ "java/lang/invoke/MethodHandle" ∧ yX1_coming.cls ≠ "java/lang/invoke/VarHandle" ∧ (parseMethodDescriptor yX1_coming.desc).map (fun d => d.parameters.length) = some 2 := by decide +kernel
abbrev rmX1_reacts : Room := { frames := 1, cells := 0, slots := 0, locals := 21 }
theorem hdX1_reacts : yX1_reacts.cls = "DyeLattice$Lattice" ∧ yX1_reacts.cls ≠ "java/lang/invoke/MethodHandle" ∧ yX1_reacts.cls ≠ "java/lang/invoke/VarHandle" ∧ (parseMethodDescriptor yX1_reacts.desc).map (fun d => d.parameters.length) = some 1 := by decide +kernel
abbrev rmX1_lambda_mark_7 : Room := { frames := 0, cells := 0, slots := 0, locals := 0 }
theorem hdX1_lambda_mark_7 : yX1_lambda_mark_7.cls = "DyeLattice$Lattice" ∧ yX1_lambda_mark_7.cls ≠ "java/lang/invoke/MethodHandle" ∧ yX1_lambda_mark_7.cls ≠ "java/lang/invoke/VarHandle" ∧ (parseMethodDescriptor yX1_lambda_mark_7.desc).map (fun d => d.parameters.length) = some 2 := by decide +kernel
abbrev rmX1_lambda_reach_6 : Room := { frames := 1, cells := 0, slots := 0, locals := 21 }
theorem hdX1_lambda_reach_6 : yX1_lambda_reach_6.cls = "DyeLattice$Lattice" ∧ yX1_lambda_reach_6.cls ≠ "java/lang/invoke/MethodHandle" ∧ yX1_lambda_reach_6.cls ≠ "java/lang/invoke/VarHandle" ∧ (parseMethodDescriptor yX1_lambda_reach_6.desc).map (fun d => d.parameters.length) = some 1 := by decide +kernel
abbrev rmX1_lambda_reach_5 : Room := { frames := 0, cells := 0, slots := 0, locals := 0 }
theorem hdX1_lambda_reach_5 : yX1_lambda_reach_5.cls = "DyeLattice$Lattice" ∧ yX1_lambda_reach_5.cls ≠ "java/lang/invoke/MethodHandle" ∧ yX1_lambda_reach_5.cls ≠ "java/lang/invoke/VarHandle" ∧ (parseMethodDescriptor yX1_lambda_reach_5.desc).map (fun d => d.parameters.length) = some 2 := by decide +kernel
abbrev rmX1_lambda_hasWay_4 : Room := { frames := 0, cells := 0, slots := 0, locals := 0 }
theorem hdX1_lambda_hasWay_4 : yX1_lambda_hasWay_4.cls = "DyeLattice$Lattice" ∧ yX1_lambda_hasWay_4.cls ≠ "java/lang/invoke/MethodHandle" ∧ yX1_lambda_hasWay_4.cls ≠ "java/lang/invoke/VarHandle" ∧ (parseMethodDescriptor yX1_lambda_hasWay_4.desc).map (fun d => d.parameters.length) = some 2 := by decide +kernel
abbrev rmX1_lambda_spans_2 : Room := { frames := 0, cells := 0, slots := 0, locals := 0 }
theorem hdX1_lambda_spans_2 : yX1_lambda_spans_2.cls = "DyeLattice$Lattice" ∧ yX1_lambda_spans_2.cls ≠ "java/lang/invoke/MethodHandle" ∧ yX1_lambda_spans_2.cls ≠ "java/lang/invoke/VarHandle" ∧ (parseMethodDescriptor yX1_lambda_spans_2.desc).map (fun d => d.parameters.length) = some 3 := by decide +kernel
abbrev rmX1_lambda_spans_1 : Room := { frames := 0, cells := 0, slots := 0, locals := 0 }
theorem hdX1_lambda_spans_1 : yX1_lambda_spans_1.cls = "DyeLattice$Lattice" ∧ yX1_lambda_spans_1.cls ≠ "java/lang/invoke/MethodHandle" ∧ yX1_lambda_spans_1.cls ≠ "java/lang/invoke/VarHandle" ∧ (parseMethodDescriptor yX1_lambda_spans_1.desc).map (fun d => d.parameters.length) = some 1 := by decide +kernel
