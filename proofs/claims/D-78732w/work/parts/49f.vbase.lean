abbrev rmX0_bestValve : Room := { frames := 10, cells := 2667, slots := 107153, locals := 3223 }
theorem hdX0_bestValve : yX0_bestValve.cls = "DyeLattice" ∧ yX0_bestValve.cls ≠ "java/lang/invoke/MethodHandle" ∧ yX0_bestValve.cls ≠ "java/lang/invoke/VarHandle" ∧ (parseMethodDescriptor yX0_bestValve.desc).map (fun d => d.parameters.length) = some 0 := by decide +kernel
