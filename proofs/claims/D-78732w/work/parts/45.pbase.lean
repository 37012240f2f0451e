abbrev rmX5_init : Room := { frames := 3, cells := 7, slots := 654, locals := 55 }
theorem hdX5_init : yX5_init.cls = "DyeLattice$Parser" ∧ yX5_init.cls ≠ "java/lang/invoke/MethodHandle" ∧ yX5_init.cls ≠ "java/lang/invoke/VarHandle" ∧ (parseMethodDescriptor yX5_init.desc).map (fun d => d.parameters.length) = some 1 := by decide +kernel
abbrev rmX5_here : Room := { frames := 4, cells := 0, slots := 0, locals := 88 }
theorem hdX5_here : yX5_here.cls = "DyeLattice$Parser" ∧ yX5_here.cls ≠ "java/lang/invoke/MethodHandle" ∧ yX5_here.cls ≠ "java/lang/invoke/VarHandle" ∧ (parseMethodDescriptor yX5_here.desc).map (fun d => d.parameters.length) = some 0 := by decide +kernel
abbrev rmX5_advance : Room := { frames := 6, cells := 3, slots := 70, locals := 176 }
theorem hdX5_advance : yX5_advance.cls = "DyeLattice$Parser" ∧ yX5_advance.cls ≠ "java/lang/invoke/MethodHandle" ∧ yX5_advance.cls ≠ "java/lang/invoke/VarHandle" ∧ (parseMethodDescriptor yX5_advance.desc).map (fun d => d.parameters.length) = some 0 := by decide +kernel
