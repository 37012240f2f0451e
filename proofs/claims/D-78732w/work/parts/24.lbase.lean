abbrev rmX1_init : Room := { frames := 1, cells := 5, slots := 640, locals := 21 }
theorem hdX1_init : yX1_init.cls = "DyeLattice$Lattice" ∧ yX1_init.cls ≠ "java/lang/invoke/MethodHandle" ∧ yX1_init.cls ≠ "java/lang/invoke/VarHandle" ∧ (parseMethodDescriptor yX1_init.desc).map (fun d => d.parameters.length) = some 2 := by decide +kernel
abbrev rmX1_resized : Room := { frames := 2, cells := 6, slots := 652, locals := 45 }
theorem hdX1_resized : yX1_resized.cls = "DyeLattice$Lattice" ∧ yX1_resized.cls ≠ "java/lang/invoke/MethodHandle" ∧ yX1_resized.cls ≠ "java/lang/invoke/VarHandle" ∧ (parseMethodDescriptor yX1_resized.desc).map (fun d => d.parameters.length) = some 2 := by decide +kernel
abbrev rmX1_copy : Room := { frames := 3, cells := 6, slots := 652, locals := 68 }
theorem hdX1_copy : yX1_copy.cls = "DyeLattice$Lattice" ∧ yX1_copy.cls ≠ "java/lang/invoke/MethodHandle" ∧ yX1_copy.cls ≠ "java/lang/invoke/VarHandle" ∧ (parseMethodDescriptor yX1_copy.desc).map (fun d => d.parameters.length) = some 0 := by decide +kernel
abbrev rmX1_lambda_mark_8 : Room := { frames := 0, cells := 0, slots := 0, locals := 0 }
theorem hdX1_lambda_mark_8 : yX1_lambda_mark_8.cls ≠ "java/lang/invoke/MethodHandle" ∧ yX1_lambda_mark_8.cls ≠ "java/lang/invoke/VarHandle" ∧ (parseMethodDescriptor yX1_lambda_mark_8.desc).map (fun d => d.parameters.length) = some 2 := by decide +kernel
abbrev rmX1_lambda_reached_0 : Room := { frames := 1, cells := 0, slots := 0, locals := 22 }
theorem hdX1_lambda_reached_0 : yX1_lambda_reached_0.cls ≠ "java/lang/invoke/MethodHandle" ∧ yX1_lambda_reached_0.cls ≠ "java/lang/invoke/VarHandle" ∧ (parseMethodDescriptor yX1_lambda_reached_0.desc).map (fun d => d.parameters.length) = some 2 := by decide +kernel
abbrev rmX1_lambda_hasWay_3 : Room := { frames := 0, cells := 0, slots := 0, locals := 0 }
theorem hdX1_lambda_hasWay_3 : yX1_lambda_hasWay_3.cls ≠ "java/lang/invoke/MethodHandle" ∧ yX1_lambda_hasWay_3.cls ≠ "java/lang/invoke/VarHandle" ∧ (parseMethodDescriptor yX1_lambda_hasWay_3.desc).map (fun d => d.parameters.length) = some 2 := by decide +kernel
abbrev rmX1_flood_a : Room := { frames := 3, cells := 1, slots := 80, locals := 66 }
theorem hdX1_flood : yX1_flood.cls = "DyeLattice$Lattice" ∧ yX1_flood.cls ≠ "java/lang/invoke/MethodHandle" ∧ yX1_flood.cls ≠ "java/lang/invoke/VarHandle" ∧ (parseMethodDescriptor yX1_flood.desc).map (fun d => d.parameters.length) = some 3 := by decide +kernel
abbrev rmX1_flood_b : Room := { frames := 3, cells := 1, slots := 80, locals := 66 }
abbrev rmX1_flood_c : Room := { frames := 3, cells := 1, slots := 80, locals := 66 }
abbrev rmX1_flood_d : Room := { frames := 3, cells := 1, slots := 80, locals := 66 }
abbrev rmX1_reached_a : Room := { frames := 4, cells := 2, slots := 160, locals := 3088 }
theorem hdX1_reached : yX1_reached.cls = "DyeLattice$Lattice" ∧ yX1_reached.cls ≠ "java/lang/invoke/MethodHandle" ∧ yX1_reached.cls ≠ "java/lang/invoke/VarHandle" ∧ (parseMethodDescriptor yX1_reached.desc).map (fun d => d.parameters.length) = some 2 := by decide +kernel
abbrev rmX1_reached_b : Room := { frames := 4, cells := 2, slots := 160, locals := 3088 }
abbrev rmX1_reached_c : Room := { frames := 4, cells := 2, slots := 160, locals := 3088 }
abbrev rmX1_spans : Room := { frames := 5, cells := 4, slots := 164, locals := 3112 }
theorem hdX1_spans : yX1_spans.cls = "DyeLattice$Lattice" ∧ yX1_spans.cls ≠ "java/lang/invoke/MethodHandle" ∧ yX1_spans.cls ≠ "java/lang/invoke/VarHandle" ∧ (parseMethodDescriptor yX1_spans.desc).map (fun d => d.parameters.length) = some 2 := by decide +kernel
abbrev rmX1_hasWay : Room := { frames := 5, cells := 4, slots := 163, locals := 3112 }
theorem hdX1_hasWay : yX1_hasWay.cls = "DyeLattice$Lattice" ∧ yX1_hasWay.cls ≠ "java/lang/invoke/MethodHandle" ∧ yX1_hasWay.cls ≠ "java/lang/invoke/VarHandle" ∧ (parseMethodDescriptor yX1_hasWay.desc).map (fun d => d.parameters.length) = some 3 := by decide +kernel
abbrev rmX1_reach : Room := { frames := 5, cells := 4, slots := 163, locals := 3112 }
theorem hdX1_reach : yX1_reach.cls = "DyeLattice$Lattice" ∧ yX1_reach.cls ≠ "java/lang/invoke/MethodHandle" ∧ yX1_reach.cls ≠ "java/lang/invoke/VarHandle" ∧ (parseMethodDescriptor yX1_reach.desc).map (fun d => d.parameters.length) = some 1 := by decide +kernel
abbrev rmX1_mark : Room := { frames := 4, cells := 3, slots := 162, locals := 3088 }
theorem hdX1_mark : yX1_mark.cls = "DyeLattice$Lattice" ∧ yX1_mark.cls ≠ "java/lang/invoke/MethodHandle" ∧ yX1_mark.cls ≠ "java/lang/invoke/VarHandle" ∧ (parseMethodDescriptor yX1_mark.desc).map (fun d => d.parameters.length) = some 4 := by decide +kernel
abbrev rmX1_clusters : Room := { frames := 5, cells := 244, slots := 13202, locals := 3114 }
theorem hdX1_clusters : yX1_clusters.cls = "DyeLattice$Lattice" ∧ yX1_clusters.cls ≠ "java/lang/invoke/MethodHandle" ∧ yX1_clusters.cls ≠ "java/lang/invoke/VarHandle" ∧ (parseMethodDescriptor yX1_clusters.desc).map (fun d => d.parameters.length) = some 1 := by decide +kernel
abbrev rmX1_step : Room := { frames := 4, cells := 1, slots := 80, locals := 92 }
theorem hdX1_step : yX1_step.cls = "DyeLattice$Lattice" ∧ yX1_step.cls ≠ "java/lang/invoke/MethodHandle" ∧ yX1_step.cls ≠ "java/lang/invoke/VarHandle" ∧ (parseMethodDescriptor yX1_step.desc).map (fun d => d.parameters.length) = some 0 := by decide +kernel
abbrev rmX1_lambda_spanningThreshold_9 : Room := { frames := 6, cells := 4, slots := 164, locals := 3137 }
theorem hdX1_lambda_spanningThreshold_9 : yX1_lambda_spanningThreshold_9.cls = "DyeLattice$Lattice" ∧ yX1_lambda_spanningThreshold_9.cls ≠ "java/lang/invoke/MethodHandle" ∧ yX1_lambda_spanningThreshold_9.cls ≠ "java/lang/invoke/VarHandle" ∧ (parseMethodDescriptor yX1_lambda_spanningThreshold_9.desc).map (fun d => d.parameters.length) = some 1 := by decide +kernel
abbrev rmX1_smallest_a : Room := { frames := 8, cells := 36, slots := 1476, locals := 3179 }
theorem hdX1_smallest : yX1_smallest.cls ≠ "java/lang/invoke/MethodHandle" ∧ yX1_smallest.cls ≠ "java/lang/invoke/VarHandle" ∧ (parseMethodDescriptor yX1_smallest.desc).map (fun d => d.parameters.length) = some 1 := by decide +kernel
abbrev rmX1_spanningThreshold : Room := { frames := 9, cells := 37, slots := 1477, locals := 3203 }
theorem hdX1_spanningThreshold : yX1_spanningThreshold.cls = "DyeLattice$Lattice" ∧ yX1_spanningThreshold.cls ≠ "java/lang/invoke/MethodHandle" ∧ yX1_spanningThreshold.cls ≠ "java/lang/invoke/VarHandle" ∧ (parseMethodDescriptor yX1_spanningThreshold.desc).map (fun d => d.parameters.length) = some 0 := by decide +kernel
