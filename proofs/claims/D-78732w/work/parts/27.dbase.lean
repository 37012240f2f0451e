abbrev rmX0_countOf : Room := { frames := 1, cells := 0, slots := 0, locals := 32 }
theorem hdX0_countOf : yX0_countOf.cls ≠ "java/lang/invoke/MethodHandle" ∧ yX0_countOf.cls ≠ "java/lang/invoke/VarHandle" ∧ (parseMethodDescriptor yX0_countOf.desc).map (fun d => d.parameters.length) = some 1 := by decide +kernel
abbrev rmX0_clogged : Room := { frames := 0, cells := 0, slots := 0, locals := 0 }
theorem hdX0_clogged : yX0_clogged.cls = "DyeLattice" ∧ yX0_clogged.cls ≠ "java/lang/invoke/MethodHandle" ∧ yX0_clogged.cls ≠ "java/lang/invoke/VarHandle" ∧ (parseMethodDescriptor yX0_clogged.desc).map (fun d => d.parameters.length) = some 0 := by decide +kernel
abbrev rmX0_valve : Room := { frames := 4, cells := 0, slots := 0, locals := 88 }
theorem hdX0_valve : yX0_valve.cls = "DyeLattice" ∧ yX0_valve.cls ≠ "java/lang/invoke/MethodHandle" ∧ yX0_valve.cls ≠ "java/lang/invoke/VarHandle" ∧ (parseMethodDescriptor yX0_valve.desc).map (fun d => d.parameters.length) = some 2 := by decide +kernel
abbrev rmX0_dyed : Room := { frames := 2, cells := 0, slots := 0, locals := 42 }
theorem hdX0_dyed : yX0_dyed.cls = "DyeLattice" ∧ yX0_dyed.cls ≠ "java/lang/invoke/MethodHandle" ∧ yX0_dyed.cls ≠ "java/lang/invoke/VarHandle" ∧ (parseMethodDescriptor yX0_dyed.desc).map (fun d => d.parameters.length) = some 1 := by decide +kernel
abbrev rmX0_reach : Room := { frames := 6, cells := 4, slots := 163, locals := 3138 }
theorem hdX0_reach : yX0_reach.cls = "DyeLattice" ∧ yX0_reach.cls ≠ "java/lang/invoke/MethodHandle" ∧ yX0_reach.cls ≠ "java/lang/invoke/VarHandle" ∧ (parseMethodDescriptor yX0_reach.desc).map (fun d => d.parameters.length) = some 1 := by decide +kernel
abbrev rmX0_sides : Room := { frames := 0, cells := 0, slots := 0, locals := 0 }
theorem hdX0_sides : yX0_sides.cls = "DyeLattice" ∧ yX0_sides.cls ≠ "java/lang/invoke/MethodHandle" ∧ yX0_sides.cls ≠ "java/lang/invoke/VarHandle" ∧ (parseMethodDescriptor yX0_sides.desc).map (fun d => d.parameters.length) = some 1 := by decide +kernel
abbrev rmX0_bondsOf : Room := { frames := 4, cells := 0, slots := 0, locals := 88 }
theorem hdX0_bondsOf : yX0_bondsOf.cls = "DyeLattice" ∧ yX0_bondsOf.cls ≠ "java/lang/invoke/MethodHandle" ∧ yX0_bondsOf.cls ≠ "java/lang/invoke/VarHandle" ∧ (parseMethodDescriptor yX0_bondsOf.desc).map (fun d => d.parameters.length) = some 3 := by decide +kernel
abbrev rmX0_cell : Room := { frames := 6, cells := 244, slots := 13202, locals := 3138 }
theorem hdX0_cell : yX0_cell.cls = "DyeLattice" ∧ yX0_cell.cls ≠ "java/lang/invoke/MethodHandle" ∧ yX0_cell.cls ≠ "java/lang/invoke/VarHandle" ∧ (parseMethodDescriptor yX0_cell.desc).map (fun d => d.parameters.length) = some 2 := by decide +kernel
abbrev rmX0_cluster : Room := { frames := 6, cells := 244, slots := 13202, locals := 3138 }
theorem hdX0_cluster : yX0_cluster.cls = "DyeLattice" ∧ yX0_cluster.cls ≠ "java/lang/invoke/MethodHandle" ∧ yX0_cluster.cls ≠ "java/lang/invoke/VarHandle" ∧ (parseMethodDescriptor yX0_cluster.desc).map (fun d => d.parameters.length) = some 2 := by decide +kernel
abbrev rmX0_ledger : Room := { frames := 6, cells := 245, slots := 13282, locals := 3138 }
theorem hdX0_ledger : yX0_ledger.cls = "DyeLattice" ∧ yX0_ledger.cls ≠ "java/lang/invoke/MethodHandle" ∧ yX0_ledger.cls ≠ "java/lang/invoke/VarHandle" ∧ (parseMethodDescriptor yX0_ledger.desc).map (fun d => d.parameters.length) = some 2 := by decide +kernel
abbrev rmX0_threshold : Room := { frames := 10, cells := 37, slots := 1477, locals := 3223 }
theorem hdX0_threshold : yX0_threshold.cls = "DyeLattice" ∧ yX0_threshold.cls ≠ "java/lang/invoke/MethodHandle" ∧ yX0_threshold.cls ≠ "java/lang/invoke/VarHandle" ∧ (parseMethodDescriptor yX0_threshold.desc).map (fun d => d.parameters.length) = some 0 := by decide +kernel
abbrev rmX0_arrival : Room := { frames := 5, cells := 67, slots := 5532, locals := 116 }
theorem hdX0_arrival : yX0_arrival.cls = "DyeLattice" ∧ yX0_arrival.cls ≠ "java/lang/invoke/MethodHandle" ∧ yX0_arrival.cls ≠ "java/lang/invoke/VarHandle" ∧ (parseMethodDescriptor yX0_arrival.desc).map (fun d => d.parameters.length) = some 2 := by decide +kernel
abbrev rmX0_probe : Room := { frames := 6, cells := 32, slots := 1312, locals := 3137 }
theorem hdX0_probe : yX0_probe.cls = "DyeLattice" ∧ yX0_probe.cls ≠ "java/lang/invoke/MethodHandle" ∧ yX0_probe.cls ≠ "java/lang/invoke/VarHandle" ∧ (parseMethodDescriptor yX0_probe.desc).map (fun d => d.parameters.length) = some 1 := by decide +kernel
abbrev rmX0_lambda_thresholdBetween_0 : Room := { frames := 6, cells := 4, slots := 163, locals := 3135 }
theorem hdX0_lambda_thresholdBetween_0 : yX0_lambda_thresholdBetween_0.cls = "DyeLattice" ∧ yX0_lambda_thresholdBetween_0.cls ≠ "java/lang/invoke/MethodHandle" ∧ yX0_lambda_thresholdBetween_0.cls ≠ "java/lang/invoke/VarHandle" ∧ (parseMethodDescriptor yX0_lambda_thresholdBetween_0.desc).map (fun d => d.parameters.length) = some 3 := by decide +kernel
abbrev rmX1_smallest_b : Room := { frames := 8, cells := 36, slots := 1467, locals := 3179 }
abbrev rmX0_thresholdBetween : Room := { frames := 9, cells := 37, slots := 1470, locals := 3203 }
theorem hdX0_thresholdBetween : yX0_thresholdBetween.cls = "DyeLattice" ∧ yX0_thresholdBetween.cls ≠ "java/lang/invoke/MethodHandle" ∧ yX0_thresholdBetween.cls ≠ "java/lang/invoke/VarHandle" ∧ (parseMethodDescriptor yX0_thresholdBetween.desc).map (fun d => d.parameters.length) = some 2 := by decide +kernel
abbrev rmX0_pivots : Room := { frames := 6, cells := 328, slots := 13448, locals := 3137 }
theorem hdX0_pivots : yX0_pivots.cls = "DyeLattice" ∧ yX0_pivots.cls ≠ "java/lang/invoke/MethodHandle" ∧ yX0_pivots.cls ≠ "java/lang/invoke/VarHandle" ∧ (parseMethodDescriptor yX0_pivots.desc).map (fun d => d.parameters.length) = some 0 := by decide +kernel
