abbrev rmJ12_checkFromToIndex : Room := { frames := 0, cells := 0, slots := 0, locals := 0 }
theorem hdJ12_checkFromToIndex : yJ12_checkFromToIndex.cls ≠ "java/lang/invoke/MethodHandle" ∧ yJ12_checkFromToIndex.cls ≠ "java/lang/invoke/VarHandle" ∧ (parseMethodDescriptor yJ12_checkFromToIndex.desc).map (fun d => d.parameters.length) = some 4 := by decide +kernel
abbrev rmJ7_checkLength : Room := { frames := 0, cells := 0, slots := 0, locals := 0 }
theorem hdJ7_checkLength : yJ7_checkLength.cls ≠ "java/lang/invoke/MethodHandle" ∧ yJ7_checkLength.cls ≠ "java/lang/invoke/VarHandle" ∧ (parseMethodDescriptor yJ7_checkLength.desc).map (fun d => d.parameters.length) = some 2 := by decide +kernel
abbrev rmJ7_copyOfRangeByte : Room := { frames := 1, cells := 1, slots := 64, locals := 64 }
theorem hdJ7_copyOfRangeByte : yJ7_copyOfRangeByte.cls ≠ "java/lang/invoke/MethodHandle" ∧ yJ7_copyOfRangeByte.cls ≠ "java/lang/invoke/VarHandle" ∧ (parseMethodDescriptor yJ7_copyOfRangeByte.desc).map (fun d => d.parameters.length) = some 3 := by decide +kernel
abbrev rmJ7_copyOfRange : Room := { frames := 2, cells := 1, slots := 64, locals := 88 }
theorem hdJ7_copyOfRange : yJ7_copyOfRange.cls ≠ "java/lang/invoke/MethodHandle" ∧ yJ7_copyOfRange.cls ≠ "java/lang/invoke/VarHandle" ∧ (parseMethodDescriptor yJ7_copyOfRange.desc).map (fun d => d.parameters.length) = some 3 := by decide +kernel
abbrev rmJ5_init : Room := { frames := 1, cells := 0, slots := 0, locals := 12 }
theorem hdJ5_init : yJ5_init.cls = "java/lang/String" ∧ yJ5_init.cls ≠ "java/lang/invoke/MethodHandle" ∧ yJ5_init.cls ≠ "java/lang/invoke/VarHandle" ∧ (parseMethodDescriptor yJ5_init.desc).map (fun d => d.parameters.length) = some 2 := by decide +kernel
abbrev rmJ11_newString : Room := { frames := 3, cells := 2, slots := 68, locals := 110 }
theorem hdJ11_newString : yJ11_newString.cls ≠ "java/lang/invoke/MethodHandle" ∧ yJ11_newString.cls ≠ "java/lang/invoke/VarHandle" ∧ (parseMethodDescriptor yJ11_newString.desc).map (fun d => d.parameters.length) = some 3 := by decide +kernel
abbrev rmJ3_substring : Room := { frames := 4, cells := 2, slots := 68, locals := 132 }
theorem hdJ3_substring : yJ3_substring.cls = "java/lang/AbstractStringBuilder" ∧ yJ3_substring.cls ≠ "java/lang/invoke/MethodHandle" ∧ yJ3_substring.cls ≠ "java/lang/invoke/VarHandle" ∧ (parseMethodDescriptor yJ3_substring.desc).map (fun d => d.parameters.length) = some 2 := by decide +kernel
abbrev rmJ4_substring : Room := { frames := 5, cells := 2, slots := 68, locals := 154 }
theorem hdJ4_substring : yJ4_substring.cls = "java/lang/StringBuilder" ∧ yJ4_substring.cls ≠ "java/lang/invoke/MethodHandle" ∧ yJ4_substring.cls ≠ "java/lang/invoke/VarHandle" ∧ (parseMethodDescriptor yJ4_substring.desc).map (fun d => d.parameters.length) = some 2 := by decide +kernel
abbrev rmJ11_equals : Room := { frames := 0, cells := 0, slots := 0, locals := 0 }
theorem hdJ11_equals : yJ11_equals.cls ≠ "java/lang/invoke/MethodHandle" ∧ yJ11_equals.cls ≠ "java/lang/invoke/VarHandle" ∧ (parseMethodDescriptor yJ11_equals.desc).map (fun d => d.parameters.length) = some 2 := by decide +kernel
abbrev rmJ5_equals : Room := { frames := 1, cells := 0, slots := 0, locals := 22 }
theorem hdJ5_equals : yJ5_equals.cls = "java/lang/String" ∧ yJ5_equals.cls ≠ "java/lang/invoke/MethodHandle" ∧ yJ5_equals.cls ≠ "java/lang/invoke/VarHandle" ∧ (parseMethodDescriptor yJ5_equals.desc).map (fun d => d.parameters.length) = some 1 := by decide +kernel
