abbrev rmX6_init_a : Room := { frames := 1, cells := 0, slots := 0, locals := 12 }
theorem hdX6_init : yX6_init.cls = "DyeLattice$Token" ∧ yX6_init.cls ≠ "java/lang/invoke/MethodHandle" ∧ yX6_init.cls ≠ "java/lang/invoke/VarHandle" ∧ (parseMethodDescriptor yX6_init.desc).map (fun d => d.parameters.length) = some 1 := by decide +kernel
abbrev rmX6_init_b : Room := { frames := 1, cells := 0, slots := 0, locals := 12 }
abbrev rmX6_init_c : Room := { frames := 1, cells := 0, slots := 0, locals := 12 }
abbrev rmX7_init : Room := { frames := 2, cells := 0, slots := 0, locals := 33 }
theorem hdX7_init : yX7_init.cls = "DyeLattice$Sign" ∧ yX7_init.cls ≠ "java/lang/invoke/MethodHandle" ∧ yX7_init.cls ≠ "java/lang/invoke/VarHandle" ∧ (parseMethodDescriptor yX7_init.desc).map (fun d => d.parameters.length) = some 2 := by decide +kernel
abbrev rmX9_init : Room := { frames := 2, cells := 0, slots := 0, locals := 33 }
theorem hdX9_init : yX9_init.cls = "DyeLattice$Number" ∧ yX9_init.cls ≠ "java/lang/invoke/MethodHandle" ∧ yX9_init.cls ≠ "java/lang/invoke/VarHandle" ∧ (parseMethodDescriptor yX9_init.desc).map (fun d => d.parameters.length) = some 2 := by decide +kernel
abbrev rmX8_init : Room := { frames := 2, cells := 0, slots := 0, locals := 33 }
theorem hdX8_init : yX8_init.cls = "DyeLattice$Word" ∧ yX8_init.cls ≠ "java/lang/invoke/MethodHandle" ∧ yX8_init.cls ≠ "java/lang/invoke/VarHandle" ∧ (parseMethodDescriptor yX8_init.desc).map (fun d => d.parameters.length) = some 2 := by decide +kernel
abbrev rmX7_isSign : Room := { frames := 0, cells := 0, slots := 0, locals := 0 }
theorem hdX7_isSign : yX7_isSign.cls = "DyeLattice$Sign" ∧ yX7_isSign.cls ≠ "java/lang/invoke/MethodHandle" ∧ yX7_isSign.cls ≠ "java/lang/invoke/VarHandle" ∧ (parseMethodDescriptor yX7_isSign.desc).map (fun d => d.parameters.length) = some 1 := by decide +kernel
abbrev rmX9_value : Room := { frames := 0, cells := 0, slots := 0, locals := 0 }
theorem hdX9_value : yX9_value.cls = "DyeLattice$Number" ∧ yX9_value.cls ≠ "java/lang/invoke/MethodHandle" ∧ yX9_value.cls ≠ "java/lang/invoke/VarHandle" ∧ (parseMethodDescriptor yX9_value.desc).map (fun d => d.parameters.length) = some 0 := by decide +kernel
abbrev rmX8_among : Room := { frames := 2, cells := 0, slots := 0, locals := 44 }
theorem hdX8_among : yX8_among.cls = "DyeLattice$Word" ∧ yX8_among.cls ≠ "java/lang/invoke/MethodHandle" ∧ yX8_among.cls ≠ "java/lang/invoke/VarHandle" ∧ (parseMethodDescriptor yX8_among.desc).map (fun d => d.parameters.length) = some 1 := by decide +kernel
abbrev rmX6_among : Room := { frames := 0, cells := 0, slots := 0, locals := 0 }
theorem hdX6_among : yX6_among.cls = "DyeLattice$Token" ∧ yX6_among.cls ≠ "java/lang/invoke/MethodHandle" ∧ yX6_among.cls ≠ "java/lang/invoke/VarHandle" ∧ (parseMethodDescriptor yX6_among.desc).map (fun d => d.parameters.length) = some 1 := by decide +kernel
abbrev rmX6_value : Room := { frames := 0, cells := 0, slots := 0, locals := 0 }
theorem hdX6_value : yX6_value.cls = "DyeLattice$Token" ∧ yX6_value.cls ≠ "java/lang/invoke/MethodHandle" ∧ yX6_value.cls ≠ "java/lang/invoke/VarHandle" ∧ (parseMethodDescriptor yX6_value.desc).map (fun d => d.parameters.length) = some 0 := by decide +kernel
abbrev rmX6_isSign : Room := { frames := 0, cells := 0, slots := 0, locals := 0 }
theorem hdX6_isSign : yX6_isSign.cls = "DyeLattice$Token" ∧ yX6_isSign.cls ≠ "java/lang/invoke/MethodHandle" ∧ yX6_isSign.cls ≠ "java/lang/invoke/VarHandle" ∧ (parseMethodDescriptor yX6_isSign.desc).map (fun d => d.parameters.length) = some 1 := by decide +kernel
