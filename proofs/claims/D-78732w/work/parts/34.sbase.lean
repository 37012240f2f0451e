abbrev rmJ3_init : Room := { frames := 1, cells := 1, slots := 16, locals := 12 }
theorem hdJ3_init : yJ3_init.cls = "java/lang/AbstractStringBuilder" ∧ yJ3_init.cls ≠ "java/lang/invoke/MethodHandle" ∧ yJ3_init.cls ≠ "java/lang/invoke/VarHandle" ∧ (parseMethodDescriptor yJ3_init.desc).map (fun d => d.parameters.length) = some 1 := by decide +kernel
abbrev rmJ4_init : Room := { frames := 2, cells := 1, slots := 16, locals := 33 }
theorem hdJ4_init : yJ4_init.cls = "java/lang/StringBuilder" ∧ yJ4_init.cls ≠ "java/lang/invoke/MethodHandle" ∧ yJ4_init.cls ≠ "java/lang/invoke/VarHandle" ∧ (parseMethodDescriptor yJ4_init.desc).map (fun d => d.parameters.length) = some 0 := by decide +kernel
abbrev rmJ10_newLength : Room := { frames := 1, cells := 0, slots := 0, locals := 32 }
theorem hdJ10_newLength : yJ10_newLength.cls ≠ "java/lang/invoke/MethodHandle" ∧ yJ10_newLength.cls ≠ "java/lang/invoke/VarHandle" ∧ (parseMethodDescriptor yJ10_newLength.desc).map (fun d => d.parameters.length) = some 3 := by decide +kernel
abbrev rmJ11_canEncode : Room := { frames := 0, cells := 0, slots := 0, locals := 0 }
theorem hdJ11_canEncode : yJ11_canEncode.cls ≠ "java/lang/invoke/MethodHandle" ∧ yJ11_canEncode.cls ≠ "java/lang/invoke/VarHandle" ∧ (parseMethodDescriptor yJ11_canEncode.desc).map (fun d => d.parameters.length) = some 1 := by decide +kernel
abbrev rmJ12_checkIndex : Room := { frames := 0, cells := 0, slots := 0, locals := 0 }
theorem hdJ12_checkIndex : yJ12_checkIndex.cls ≠ "java/lang/invoke/MethodHandle" ∧ yJ12_checkIndex.cls ≠ "java/lang/invoke/VarHandle" ∧ (parseMethodDescriptor yJ12_checkIndex.desc).map (fun d => d.parameters.length) = some 3 := by decide +kernel
abbrev rmJ5_checkIndex : Room := { frames := 1, cells := 0, slots := 0, locals := 22 }
theorem hdJ5_checkIndex : yJ5_checkIndex.cls ≠ "java/lang/invoke/MethodHandle" ∧ yJ5_checkIndex.cls ≠ "java/lang/invoke/VarHandle" ∧ (parseMethodDescriptor yJ5_checkIndex.desc).map (fun d => d.parameters.length) = some 2 := by decide +kernel
abbrev rmJ7_copyOf_3 : Room := { frames := 1, cells := 1, slots := 142, locals := 64 }
theorem hdJ7_copyOf_3 : yJ7_copyOf_3.cls ≠ "java/lang/invoke/MethodHandle" ∧ yJ7_copyOf_3.cls ≠ "java/lang/invoke/VarHandle" ∧ (parseMethodDescriptor yJ7_copyOf_3.desc).map (fun d => d.parameters.length) = some 2 := by decide +kernel
abbrev rmJ3_newCapacity : Room := { frames := 2, cells := 0, slots := 0, locals := 55 }
theorem hdJ3_newCapacity : yJ3_newCapacity.cls = "java/lang/AbstractStringBuilder" ∧ yJ3_newCapacity.cls ≠ "java/lang/invoke/MethodHandle" ∧ yJ3_newCapacity.cls ≠ "java/lang/invoke/VarHandle" ∧ (parseMethodDescriptor yJ3_newCapacity.desc).map (fun d => d.parameters.length) = some 1 := by decide +kernel
abbrev rmJ3_ensureCapacityInternal : Room := { frames := 3, cells := 1, slots := 142, locals := 86 }
theorem hdJ3_ensureCapacityInternal : yJ3_ensureCapacityInternal.cls = "java/lang/AbstractStringBuilder" ∧ yJ3_ensureCapacityInternal.cls ≠ "java/lang/invoke/MethodHandle" ∧ yJ3_ensureCapacityInternal.cls ≠ "java/lang/invoke/VarHandle" ∧ (parseMethodDescriptor yJ3_ensureCapacityInternal.desc).map (fun d => d.parameters.length) = some 1 := by decide +kernel
abbrev rmJ3_isLatin1 : Room := { frames := 0, cells := 0, slots := 0, locals := 0 }
theorem hdJ3_isLatin1 : yJ3_isLatin1.cls = "java/lang/AbstractStringBuilder" ∧ yJ3_isLatin1.cls ≠ "java/lang/invoke/MethodHandle" ∧ yJ3_isLatin1.cls ≠ "java/lang/invoke/VarHandle" ∧ (parseMethodDescriptor yJ3_isLatin1.desc).map (fun d => d.parameters.length) = some 0 := by decide +kernel
abbrev rmJ3_length : Room := { frames := 0, cells := 0, slots := 0, locals := 0 }
theorem hdJ3_length : yJ3_length.cls = "java/lang/AbstractStringBuilder" ∧ yJ3_length.cls ≠ "java/lang/invoke/MethodHandle" ∧ yJ3_length.cls ≠ "java/lang/invoke/VarHandle" ∧ (parseMethodDescriptor yJ3_length.desc).map (fun d => d.parameters.length) = some 0 := by decide +kernel
abbrev rmJ3_append : Room := { frames := 4, cells := 1, slots := 142, locals := 108 }
theorem hdJ3_append : yJ3_append.cls = "java/lang/AbstractStringBuilder" ∧ yJ3_append.cls ≠ "java/lang/invoke/MethodHandle" ∧ yJ3_append.cls ≠ "java/lang/invoke/VarHandle" ∧ (parseMethodDescriptor yJ3_append.desc).map (fun d => d.parameters.length) = some 1 := by decide +kernel
abbrev rmJ3_charAt : Room := { frames := 2, cells := 0, slots := 0, locals := 43 }
theorem hdJ3_charAt : yJ3_charAt.cls = "java/lang/AbstractStringBuilder" ∧ yJ3_charAt.cls ≠ "java/lang/invoke/MethodHandle" ∧ yJ3_charAt.cls ≠ "java/lang/invoke/VarHandle" ∧ (parseMethodDescriptor yJ3_charAt.desc).map (fun d => d.parameters.length) = some 1 := by decide +kernel
abbrev rmJ3_setLength : Room := { frames := 4, cells := 1, slots := 142, locals := 108 }
theorem hdJ3_setLength : yJ3_setLength.cls = "java/lang/AbstractStringBuilder" ∧ yJ3_setLength.cls ≠ "java/lang/invoke/MethodHandle" ∧ yJ3_setLength.cls ≠ "java/lang/invoke/VarHandle" ∧ (parseMethodDescriptor yJ3_setLength.desc).map (fun d => d.parameters.length) = some 1 := by decide +kernel
abbrev rmJ4_length : Room := { frames := 1, cells := 0, slots := 0, locals := 20 }
theorem hdJ4_length : yJ4_length.cls = "java/lang/StringBuilder" ∧ yJ4_length.cls ≠ "java/lang/invoke/MethodHandle" ∧ yJ4_length.cls ≠ "java/lang/invoke/VarHandle" ∧ (parseMethodDescriptor yJ4_length.desc).map (fun d => d.parameters.length) = some 0 := by decide +kernel
abbrev rmJ4_append : Room := { frames := 5, cells := 1, slots := 142, locals := 129 }
theorem hdJ4_append : yJ4_append.cls = "java/lang/StringBuilder" ∧ yJ4_append.cls ≠ "java/lang/invoke/MethodHandle" ∧ yJ4_append.cls ≠ "java/lang/invoke/VarHandle" ∧ (parseMethodDescriptor yJ4_append.desc).map (fun d => d.parameters.length) = some 1 := by decide +kernel
abbrev rmJ4_charAt : Room := { frames := 3, cells := 0, slots := 0, locals := 67 }
theorem hdJ4_charAt : yJ4_charAt.cls = "java/lang/StringBuilder" ∧ yJ4_charAt.cls ≠ "java/lang/invoke/MethodHandle" ∧ yJ4_charAt.cls ≠ "java/lang/invoke/VarHandle" ∧ (parseMethodDescriptor yJ4_charAt.desc).map (fun d => d.parameters.length) = some 1 := by decide +kernel
abbrev rmJ4_setLength : Room := { frames := 5, cells := 1, slots := 142, locals := 129 }
theorem hdJ4_setLength : yJ4_setLength.cls = "java/lang/StringBuilder" ∧ yJ4_setLength.cls ≠ "java/lang/invoke/MethodHandle" ∧ yJ4_setLength.cls ≠ "java/lang/invoke/VarHandle" ∧ (parseMethodDescriptor yJ4_setLength.desc).map (fun d => d.parameters.length) = some 1 := by decide +kernel
abbrev rmX0_append : Room := { frames := 6, cells := 1, slots := 142, locals := 150 }
theorem hdX0_append : yX0_append.cls = "DyeLattice" ∧ yX0_append.cls ≠ "java/lang/invoke/MethodHandle" ∧ yX0_append.cls ≠ "java/lang/invoke/VarHandle" ∧ (parseMethodDescriptor yX0_append.desc).map (fun d => d.parameters.length) = some 1 := by decide +kernel
abbrev rmX0_clearText : Room := { frames := 6, cells := 1, slots := 142, locals := 150 }
theorem hdX0_clearText : yX0_clearText.cls = "DyeLattice" ∧ yX0_clearText.cls ≠ "java/lang/invoke/MethodHandle" ∧ yX0_clearText.cls ≠ "java/lang/invoke/VarHandle" ∧ (parseMethodDescriptor yX0_clearText.desc).map (fun d => d.parameters.length) = some 0 := by decide +kernel
abbrev rmX0_count : Room := { frames := 6, cells := 244, slots := 13202, locals := 3138 }
theorem hdX0_count : yX0_count.cls = "DyeLattice" ∧ yX0_count.cls ≠ "java/lang/invoke/MethodHandle" ∧ yX0_count.cls ≠ "java/lang/invoke/VarHandle" ∧ (parseMethodDescriptor yX0_count.desc).map (fun d => d.parameters.length) = some 1 := by decide +kernel
abbrev rmX0_init : Room := { frames := 3, cells := 10, slots := 692, locals := 53 }
theorem hdX0_init : yX0_init.cls = "DyeLattice" ∧ yX0_init.cls ≠ "java/lang/invoke/MethodHandle" ∧ yX0_init.cls ≠ "java/lang/invoke/VarHandle" ∧ (parseMethodDescriptor yX0_init.desc).map (fun d => d.parameters.length) = some 0 := by decide +kernel
