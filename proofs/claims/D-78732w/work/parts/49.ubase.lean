abbrev rmX5_take : Room := { frames := 7, cells := 3, slots := 70, locals := 198 }
theorem hdX5_take : yX5_take.cls = "DyeLattice$Parser" ∧ yX5_take.cls ≠ "java/lang/invoke/MethodHandle" ∧ yX5_take.cls ≠ "java/lang/invoke/VarHandle" ∧ (parseMethodDescriptor yX5_take.desc).map (fun d => d.parameters.length) = some 1 := by decide +kernel
abbrev rmX5_number : Room := { frames := 8, cells := 3, slots := 70, locals := 219 }
theorem hdX5_number : yX5_number.cls = "DyeLattice$Parser" ∧ yX5_number.cls ≠ "java/lang/invoke/MethodHandle" ∧ yX5_number.cls ≠ "java/lang/invoke/VarHandle" ∧ (parseMethodDescriptor yX5_number.desc).map (fun d => d.parameters.length) = some 2 := by decide +kernel
abbrev rmX5_word : Room := { frames := 8, cells := 3, slots := 70, locals := 219 }
theorem hdX5_word : yX5_word.cls = "DyeLattice$Parser" ∧ yX5_word.cls ≠ "java/lang/invoke/MethodHandle" ∧ yX5_word.cls ≠ "java/lang/invoke/VarHandle" ∧ (parseMethodDescriptor yX5_word.desc).map (fun d => d.parameters.length) = some 1 := by decide +kernel
abbrev rmX5_cell : Room := { frames := 9, cells := 3, slots := 70, locals := 242 }
theorem hdX5_cell : yX5_cell.cls = "DyeLattice$Parser" ∧ yX5_cell.cls ≠ "java/lang/invoke/MethodHandle" ∧ yX5_cell.cls ≠ "java/lang/invoke/VarHandle" ∧ (parseMethodDescriptor yX5_cell.desc).map (fun d => d.parameters.length) = some 0 := by decide +kernel
abbrev rmX5_size : Room := { frames := 9, cells := 12, slots := 792, locals := 242 }
theorem hdX5_size : yX5_size.cls = "DyeLattice$Parser" ∧ yX5_size.cls ≠ "java/lang/invoke/MethodHandle" ∧ yX5_size.cls ≠ "java/lang/invoke/VarHandle" ∧ (parseMethodDescriptor yX5_size.desc).map (fun d => d.parameters.length) = some 0 := by decide +kernel
abbrev rmX5_row : Room := { frames := 9, cells := 36, slots := 840, locals := 242 }
theorem hdX5_row : yX5_row.cls = "DyeLattice$Parser" ∧ yX5_row.cls ≠ "java/lang/invoke/MethodHandle" ∧ yX5_row.cls ≠ "java/lang/invoke/VarHandle" ∧ (parseMethodDescriptor yX5_row.desc).map (fun d => d.parameters.length) = some 0 := by decide +kernel
abbrev rmX5_valve : Room := { frames := 10, cells := 11, slots := 220, locals := 262 }
theorem hdX5_valve : yX5_valve.cls = "DyeLattice$Parser" ∧ yX5_valve.cls ≠ "java/lang/invoke/MethodHandle" ∧ yX5_valve.cls ≠ "java/lang/invoke/VarHandle" ∧ (parseMethodDescriptor yX5_valve.desc).map (fun d => d.parameters.length) = some 0 := by decide +kernel
abbrev rmX5_source : Room := { frames := 10, cells := 6, slots := 140, locals := 262 }
theorem hdX5_source : yX5_source.cls = "DyeLattice$Parser" ∧ yX5_source.cls ≠ "java/lang/invoke/MethodHandle" ∧ yX5_source.cls ≠ "java/lang/invoke/VarHandle" ∧ (parseMethodDescriptor yX5_source.desc).map (fun d => d.parameters.length) = some 0 := by decide +kernel
abbrev rmX5_item : Room := { frames := 11, cells := 43, slots := 987, locals := 284 }
theorem hdX5_item : yX5_item.cls = "DyeLattice$Parser" ∧ yX5_item.cls ≠ "java/lang/invoke/MethodHandle" ∧ yX5_item.cls ≠ "java/lang/invoke/VarHandle" ∧ (parseMethodDescriptor yX5_item.desc).map (fun d => d.parameters.length) = some 1 := by decide +kernel
abbrev rmX5_items : Room := { frames := 12, cells := 2798, slots := 64225, locals := 307 }
theorem hdX5_items : yX5_items.cls = "DyeLattice$Parser" ∧ yX5_items.cls ≠ "java/lang/invoke/MethodHandle" ∧ yX5_items.cls ≠ "java/lang/invoke/VarHandle" ∧ (parseMethodDescriptor yX5_items.desc).map (fun d => d.parameters.length) = some 0 := by decide +kernel
