abbrev rmJ2_inc : Room := { frames := 0, cells := 0, slots := 0, locals := 0 }
theorem hdJ2_inc : yJ2_inc.cls ≠ "java/lang/invoke/MethodHandle" ∧ yJ2_inc.cls ≠ "java/lang/invoke/VarHandle" ∧ (parseMethodDescriptor yJ2_inc.desc).map (fun d => d.parameters.length) = some 2 := by decide +kernel
abbrev rmJ2_dec : Room := { frames := 0, cells := 0, slots := 0, locals := 0 }
theorem hdJ2_dec : yJ2_dec.cls ≠ "java/lang/invoke/MethodHandle" ∧ yJ2_dec.cls ≠ "java/lang/invoke/VarHandle" ∧ (parseMethodDescriptor yJ2_dec.desc).map (fun d => d.parameters.length) = some 2 := by decide +kernel
abbrev rmJ2_sub : Room := { frames := 0, cells := 0, slots := 0, locals := 0 }
theorem hdJ2_sub : yJ2_sub.cls ≠ "java/lang/invoke/MethodHandle" ∧ yJ2_sub.cls ≠ "java/lang/invoke/VarHandle" ∧ (parseMethodDescriptor yJ2_sub.desc).map (fun d => d.parameters.length) = some 3 := by decide +kernel
abbrev rmJ1_init : Room := { frames := 1, cells := 0, slots := 0, locals := 12 }
theorem hdJ1_init : yJ1_init.cls = "java/util/AbstractCollection" ∧ yJ1_init.cls ≠ "java/lang/invoke/MethodHandle" ∧ yJ1_init.cls ≠ "java/lang/invoke/VarHandle" ∧ (parseMethodDescriptor yJ1_init.desc).map (fun d => d.parameters.length) = some 0 := by decide +kernel
abbrev rmJ2_init : Room := { frames := 2, cells := 1, slots := 17, locals := 32 }
theorem hdJ2_init : yJ2_init.cls = "java/util/ArrayDeque" ∧ yJ2_init.cls ≠ "java/lang/invoke/MethodHandle" ∧ yJ2_init.cls ≠ "java/lang/invoke/VarHandle" ∧ (parseMethodDescriptor yJ2_init.desc).map (fun d => d.parameters.length) = some 0 := by decide +kernel
abbrev rmJ2_elementAt : Room := { frames := 0, cells := 0, slots := 0, locals := 0 }
theorem hdJ2_elementAt : yJ2_elementAt.cls ≠ "java/lang/invoke/MethodHandle" ∧ yJ2_elementAt.cls ≠ "java/lang/invoke/VarHandle" ∧ (parseMethodDescriptor yJ2_elementAt.desc).map (fun d => d.parameters.length) = some 2 := by decide +kernel
abbrev rmJ2_size : Room := { frames := 1, cells := 0, slots := 0, locals := 22 }
theorem hdJ2_size : yJ2_size.cls = "java/util/ArrayDeque" ∧ yJ2_size.cls ≠ "java/lang/invoke/MethodHandle" ∧ yJ2_size.cls ≠ "java/lang/invoke/VarHandle" ∧ (parseMethodDescriptor yJ2_size.desc).map (fun d => d.parameters.length) = some 0 := by decide +kernel
abbrev rmJ2_isEmpty : Room := { frames := 0, cells := 0, slots := 0, locals := 0 }
theorem hdJ2_isEmpty : yJ2_isEmpty.cls = "java/util/ArrayDeque" ∧ yJ2_isEmpty.cls ≠ "java/lang/invoke/MethodHandle" ∧ yJ2_isEmpty.cls ≠ "java/lang/invoke/VarHandle" ∧ (parseMethodDescriptor yJ2_isEmpty.desc).map (fun d => d.parameters.length) = some 0 := by decide +kernel
abbrev rmJ2_pollFirst : Room := { frames := 1, cells := 0, slots := 0, locals := 21 }
theorem hdJ2_pollFirst : yJ2_pollFirst.cls = "java/util/ArrayDeque" ∧ yJ2_pollFirst.cls ≠ "java/lang/invoke/MethodHandle" ∧ yJ2_pollFirst.cls ≠ "java/lang/invoke/VarHandle" ∧ (parseMethodDescriptor yJ2_pollFirst.desc).map (fun d => d.parameters.length) = some 0 := by decide +kernel
abbrev rmJ2_pollLast : Room := { frames := 1, cells := 0, slots := 0, locals := 21 }
theorem hdJ2_pollLast : yJ2_pollLast.cls = "java/util/ArrayDeque" ∧ yJ2_pollLast.cls ≠ "java/lang/invoke/MethodHandle" ∧ yJ2_pollLast.cls ≠ "java/lang/invoke/VarHandle" ∧ (parseMethodDescriptor yJ2_pollLast.desc).map (fun d => d.parameters.length) = some 0 := by decide +kernel
abbrev rmJ2_removeFirst : Room := { frames := 2, cells := 0, slots := 0, locals := 44 }
theorem hdJ2_removeFirst : yJ2_removeFirst.cls = "java/util/ArrayDeque" ∧ yJ2_removeFirst.cls ≠ "java/lang/invoke/MethodHandle" ∧ yJ2_removeFirst.cls ≠ "java/lang/invoke/VarHandle" ∧ (parseMethodDescriptor yJ2_removeFirst.desc).map (fun d => d.parameters.length) = some 0 := by decide +kernel
abbrev rmJ2_removeLast : Room := { frames := 2, cells := 0, slots := 0, locals := 44 }
theorem hdJ2_removeLast : yJ2_removeLast.cls = "java/util/ArrayDeque" ∧ yJ2_removeLast.cls ≠ "java/lang/invoke/MethodHandle" ∧ yJ2_removeLast.cls ≠ "java/lang/invoke/VarHandle" ∧ (parseMethodDescriptor yJ2_removeLast.desc).map (fun d => d.parameters.length) = some 0 := by decide +kernel
abbrev rmJ2_addLast : Room := { frames := 1, cells := 0, slots := 0, locals := 21 }
theorem hdJ2_addLast : yJ2_addLast.cls = "java/util/ArrayDeque" ∧ yJ2_addLast.cls ≠ "java/lang/invoke/MethodHandle" ∧ yJ2_addLast.cls ≠ "java/lang/invoke/VarHandle" ∧ (parseMethodDescriptor yJ2_addLast.desc).map (fun d => d.parameters.length) = some 1 := by decide +kernel
abbrev rmX0_replace : Room := { frames := 3, cells := 0, slots := 0, locals := 65 }
theorem hdX0_replace : yX0_replace.cls = "DyeLattice" ∧ yX0_replace.cls ≠ "java/lang/invoke/MethodHandle" ∧ yX0_replace.cls ≠ "java/lang/invoke/VarHandle" ∧ (parseMethodDescriptor yX0_replace.desc).map (fun d => d.parameters.length) = some 1 := by decide +kernel
abbrev rmX0_undo : Room := { frames := 3, cells := 0, slots := 0, locals := 65 }
theorem hdX0_undo : yX0_undo.cls = "DyeLattice" ∧ yX0_undo.cls ≠ "java/lang/invoke/MethodHandle" ∧ yX0_undo.cls ≠ "java/lang/invoke/VarHandle" ∧ (parseMethodDescriptor yX0_undo.desc).map (fun d => d.parameters.length) = some 0 := by decide +kernel
abbrev rmX0_act : Room := { frames := 4, cells := 6, slots := 652, locals := 89 }
theorem hdX0_act : yX0_act.cls = "DyeLattice" ∧ yX0_act.cls ≠ "java/lang/invoke/MethodHandle" ∧ yX0_act.cls ≠ "java/lang/invoke/VarHandle" ∧ (parseMethodDescriptor yX0_act.desc).map (fun d => d.parameters.length) = some 0 := by decide +kernel
abbrev rmX0_changeKind : Room := { frames := 3, cells := 1, slots := 3, locals := 84 }
theorem hdX0_changeKind : yX0_changeKind.cls ≠ "java/lang/invoke/MethodHandle" ∧ yX0_changeKind.cls ≠ "java/lang/invoke/VarHandle" ∧ (parseMethodDescriptor yX0_changeKind.desc).map (fun d => d.parameters.length) = some 2 := by decide +kernel
abbrev rmX0_setSize : Room := { frames := 4, cells := 6, slots := 652, locals := 87 }
theorem hdX0_setSize : yX0_setSize.cls = "DyeLattice" ∧ yX0_setSize.cls ≠ "java/lang/invoke/MethodHandle" ∧ yX0_setSize.cls ≠ "java/lang/invoke/VarHandle" ∧ (parseMethodDescriptor yX0_setSize.desc).map (fun d => d.parameters.length) = some 2 := by decide +kernel
abbrev rmX0_setKind : Room := { frames := 5, cells := 7, slots := 655, locals := 110 }
theorem hdX0_setKind : yX0_setKind.cls = "DyeLattice" ∧ yX0_setKind.cls ≠ "java/lang/invoke/MethodHandle" ∧ yX0_setKind.cls ≠ "java/lang/invoke/VarHandle" ∧ (parseMethodDescriptor yX0_setKind.desc).map (fun d => d.parameters.length) = some 1 := by decide +kernel
abbrev rmX0_setGrain : Room := { frames := 5, cells := 6, slots := 652, locals := 109 }
theorem hdX0_setGrain : yX0_setGrain.cls = "DyeLattice" ∧ yX0_setGrain.cls ≠ "java/lang/invoke/MethodHandle" ∧ yX0_setGrain.cls ≠ "java/lang/invoke/VarHandle" ∧ (parseMethodDescriptor yX0_setGrain.desc).map (fun d => d.parameters.length) = some 2 := by decide +kernel
abbrev rmX0_fill : Room := { frames := 5, cells := 6, slots := 652, locals := 109 }
theorem hdX0_fill : yX0_fill.cls = "DyeLattice" ∧ yX0_fill.cls ≠ "java/lang/invoke/MethodHandle" ∧ yX0_fill.cls ≠ "java/lang/invoke/VarHandle" ∧ (parseMethodDescriptor yX0_fill.desc).map (fun d => d.parameters.length) = some 1 := by decide +kernel
abbrev rmX0_setValve : Room := { frames := 5, cells := 7, slots := 657, locals := 109 }
theorem hdX0_setValve : yX0_setValve.cls = "DyeLattice" ∧ yX0_setValve.cls ≠ "java/lang/invoke/MethodHandle" ∧ yX0_setValve.cls ≠ "java/lang/invoke/VarHandle" ∧ (parseMethodDescriptor yX0_setValve.desc).map (fun d => d.parameters.length) = some 3 := by decide +kernel
abbrev rmX0_setThreshold : Room := { frames := 5, cells := 6, slots := 652, locals := 109 }
theorem hdX0_setThreshold : yX0_setThreshold.cls = "DyeLattice" ∧ yX0_setThreshold.cls ≠ "java/lang/invoke/MethodHandle" ∧ yX0_setThreshold.cls ≠ "java/lang/invoke/VarHandle" ∧ (parseMethodDescriptor yX0_setThreshold.desc).map (fun d => d.parameters.length) = some 1 := by decide +kernel
abbrev rmX0_setSource : Room := { frames := 5, cells := 6, slots := 652, locals := 109 }
theorem hdX0_setSource : yX0_setSource.cls = "DyeLattice" ∧ yX0_setSource.cls ≠ "java/lang/invoke/MethodHandle" ∧ yX0_setSource.cls ≠ "java/lang/invoke/VarHandle" ∧ (parseMethodDescriptor yX0_setSource.desc).map (fun d => d.parameters.length) = some 3 := by decide +kernel
abbrev rmX0_setReaction : Room := { frames := 5, cells := 6, slots := 652, locals := 109 }
theorem hdX0_setReaction : yX0_setReaction.cls = "DyeLattice" ∧ yX0_setReaction.cls ≠ "java/lang/invoke/MethodHandle" ∧ yX0_setReaction.cls ≠ "java/lang/invoke/VarHandle" ∧ (parseMethodDescriptor yX0_setReaction.desc).map (fun d => d.parameters.length) = some 3 := by decide +kernel
abbrev rmX0_setBeat : Room := { frames := 5, cells := 6, slots := 652, locals := 109 }
theorem hdX0_setBeat : yX0_setBeat.cls = "DyeLattice" ∧ yX0_setBeat.cls ≠ "java/lang/invoke/MethodHandle" ∧ yX0_setBeat.cls ≠ "java/lang/invoke/VarHandle" ∧ (parseMethodDescriptor yX0_setBeat.desc).map (fun d => d.parameters.length) = some 1 := by decide +kernel
abbrev rmX0_run : Room := { frames := 5, cells := 67, slots := 5532, locals := 116 }
theorem hdX0_run : yX0_run.cls = "DyeLattice" ∧ yX0_run.cls ≠ "java/lang/invoke/MethodHandle" ∧ yX0_run.cls ≠ "java/lang/invoke/VarHandle" ∧ (parseMethodDescriptor yX0_run.desc).map (fun d => d.parameters.length) = some 1 := by decide +kernel
abbrev rmX0_rinse : Room := { frames := 5, cells := 6, slots := 652, locals := 109 }
theorem hdX0_rinse : yX0_rinse.cls = "DyeLattice" ∧ yX0_rinse.cls ≠ "java/lang/invoke/MethodHandle" ∧ yX0_rinse.cls ≠ "java/lang/invoke/VarHandle" ∧ (parseMethodDescriptor yX0_rinse.desc).map (fun d => d.parameters.length) = some 0 := by decide +kernel
