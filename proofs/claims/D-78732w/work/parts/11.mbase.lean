abbrev MW (D : va_G) (a : Nat → Nat) (now past kept text queue isMet clusterOf fresh : Nat → Int32) (saved length met clusters frm ende wrong : Int32) : va_W := [(a 0, .inr (2, [.ref (a 1), .ref (a 2), .ref (a 3), .int saved, .ref (a 4), .int length, .ref (a 5), .ref (a 6), .int met, .ref (a 7), .int clusters, .ref (a 8), .int frm, .int ende, .int wrong])), (a 1, .inl (D.1 100, 647, .inl now)), (a 2, .inl (D.1 100, 3235, .inl past)), (a 3, .inl (D.1 100, 647, .inl kept)), (a 4, .inl (D.1 100, 120, .inl text)), (a 5, .inl (D.1 100, 80, .inl queue)), (a 6, .inl (D.1 101, 80, .inl isMet)), (a 7, .inl (D.1 100, 80, .inl clusterOf)), (a 8, .inl (D.1 100, 80, .inl fresh))]
abbrev rmX4_sizes : Room := { frames := 0, cells := 0, slots := 0, locals := 0 }
theorem hdX4_sizes : yX4_sizes.cls = "DyeLatticeModel" ∧ yX4_sizes.cls ≠ "java/lang/invoke/MethodHandle" ∧ yX4_sizes.cls ≠ "java/lang/invoke/VarHandle" ∧ (parseMethodDescriptor yX4_sizes.desc).map (fun d => d.parameters.length) = some 2 := by decide +kernel
abbrev rmX4_begins : Room := { frames := 1, cells := 0, slots := 0, locals := 23 }
theorem hdX4_begins : yX4_begins.cls = "DyeLatticeModel" ∧ yX4_begins.cls ≠ "java/lang/invoke/MethodHandle" ∧ yX4_begins.cls ≠ "java/lang/invoke/VarHandle" ∧ (parseMethodDescriptor yX4_begins.desc).map (fun d => d.parameters.length) = some 0 := by decide +kernel
abbrev rmX4_undo : Room := { frames := 0, cells := 0, slots := 0, locals := 0 }
theorem hdX4_undo : yX4_undo.cls = "DyeLatticeModel" ∧ yX4_undo.cls ≠ "java/lang/invoke/MethodHandle" ∧ yX4_undo.cls ≠ "java/lang/invoke/VarHandle" ∧ (parseMethodDescriptor yX4_undo.desc).map (fun d => d.parameters.length) = some 0 := by decide +kernel
abbrev rmX4_within : Room := { frames := 0, cells := 0, slots := 0, locals := 0 }
theorem hdX4_within : yX4_within.cls ≠ "java/lang/invoke/MethodHandle" ∧ yX4_within.cls ≠ "java/lang/invoke/VarHandle" ∧ (parseMethodDescriptor yX4_within.desc).map (fun d => d.parameters.length) = some 3 := by decide +kernel
abbrev rmX4_saves : Room := { frames := 0, cells := 0, slots := 0, locals := 0 }
theorem hdX4_saves : yX4_saves.cls = "DyeLatticeModel" ∧ yX4_saves.cls ≠ "java/lang/invoke/MethodHandle" ∧ yX4_saves.cls ≠ "java/lang/invoke/VarHandle" ∧ (parseMethodDescriptor yX4_saves.desc).map (fun d => d.parameters.length) = some 0 := by decide +kernel
abbrev rmX4_cells : Room := { frames := 0, cells := 0, slots := 0, locals := 0 }
theorem hdX4_cells : yX4_cells.cls = "DyeLatticeModel" ∧ yX4_cells.cls ≠ "java/lang/invoke/MethodHandle" ∧ yX4_cells.cls ≠ "java/lang/invoke/VarHandle" ∧ (parseMethodDescriptor yX4_cells.desc).map (fun d => d.parameters.length) = some 0 := by decide +kernel
abbrev rmX4_setSize : Room := { frames := 1, cells := 0, slots := 0, locals := 23 }
theorem hdX4_setSize : yX4_setSize.cls = "DyeLatticeModel" ∧ yX4_setSize.cls ≠ "java/lang/invoke/MethodHandle" ∧ yX4_setSize.cls ≠ "java/lang/invoke/VarHandle" ∧ (parseMethodDescriptor yX4_setSize.desc).map (fun d => d.parameters.length) = some 2 := by decide +kernel
abbrev rmX4_kinds : Room := { frames := 0, cells := 0, slots := 0, locals := 0 }
theorem hdX4_kinds : yX4_kinds.cls = "DyeLatticeModel" ∧ yX4_kinds.cls ≠ "java/lang/invoke/MethodHandle" ∧ yX4_kinds.cls ≠ "java/lang/invoke/VarHandle" ∧ (parseMethodDescriptor yX4_kinds.desc).map (fun d => d.parameters.length) = some 1 := by decide +kernel
abbrev rmX4_isCell : Room := { frames := 1, cells := 0, slots := 0, locals := 22 }
theorem hdX4_isCell : yX4_isCell.cls = "DyeLatticeModel" ∧ yX4_isCell.cls ≠ "java/lang/invoke/MethodHandle" ∧ yX4_isCell.cls ≠ "java/lang/invoke/VarHandle" ∧ (parseMethodDescriptor yX4_isCell.desc).map (fun d => d.parameters.length) = some 1 := by decide +kernel
abbrev rmX4_column : Room := { frames := 0, cells := 0, slots := 0, locals := 0 }
theorem hdX4_column : yX4_column.cls = "DyeLatticeModel" ∧ yX4_column.cls ≠ "java/lang/invoke/MethodHandle" ∧ yX4_column.cls ≠ "java/lang/invoke/VarHandle" ∧ (parseMethodDescriptor yX4_column.desc).map (fun d => d.parameters.length) = some 1 := by decide +kernel
abbrev rmX4_second : Room := { frames := 2, cells := 0, slots := 0, locals := 43 }
theorem hdX4_second : yX4_second.cls = "DyeLatticeModel" ∧ yX4_second.cls ≠ "java/lang/invoke/MethodHandle" ∧ yX4_second.cls ≠ "java/lang/invoke/VarHandle" ∧ (parseMethodDescriptor yX4_second.desc).map (fun d => d.parameters.length) = some 2 := by decide +kernel
abbrev rmX4_bonds : Room := { frames := 3, cells := 0, slots := 0, locals := 67 }
theorem hdX4_bonds : yX4_bonds.cls = "DyeLatticeModel" ∧ yX4_bonds.cls ≠ "java/lang/invoke/MethodHandle" ∧ yX4_bonds.cls ≠ "java/lang/invoke/VarHandle" ∧ (parseMethodDescriptor yX4_bonds.desc).map (fun d => d.parameters.length) = some 0 := by decide +kernel
abbrev rmX4_setKind : Room := { frames := 4, cells := 0, slots := 0, locals := 90 }
theorem hdX4_setKind : yX4_setKind.cls = "DyeLatticeModel" ∧ yX4_setKind.cls ≠ "java/lang/invoke/MethodHandle" ∧ yX4_setKind.cls ≠ "java/lang/invoke/VarHandle" ∧ (parseMethodDescriptor yX4_setKind.desc).map (fun d => d.parameters.length) = some 1 := by decide +kernel
abbrev rmX4_setGrain : Room := { frames := 2, cells := 0, slots := 0, locals := 43 }
theorem hdX4_setGrain : yX4_setGrain.cls = "DyeLatticeModel" ∧ yX4_setGrain.cls ≠ "java/lang/invoke/MethodHandle" ∧ yX4_setGrain.cls ≠ "java/lang/invoke/VarHandle" ∧ (parseMethodDescriptor yX4_setGrain.desc).map (fun d => d.parameters.length) = some 2 := by decide +kernel
abbrev rmX4_fills : Room := { frames := 1, cells := 0, slots := 0, locals := 20 }
theorem hdX4_fills : yX4_fills.cls = "DyeLatticeModel" ∧ yX4_fills.cls ≠ "java/lang/invoke/MethodHandle" ∧ yX4_fills.cls ≠ "java/lang/invoke/VarHandle" ∧ (parseMethodDescriptor yX4_fills.desc).map (fun d => d.parameters.length) = some 1 := by decide +kernel
abbrev rmX4_isOpen : Room := { frames := 0, cells := 0, slots := 0, locals := 0 }
theorem hdX4_isOpen : yX4_isOpen.cls = "DyeLatticeModel" ∧ yX4_isOpen.cls ≠ "java/lang/invoke/MethodHandle" ∧ yX4_isOpen.cls ≠ "java/lang/invoke/VarHandle" ∧ (parseMethodDescriptor yX4_isOpen.desc).map (fun d => d.parameters.length) = some 2 := by decide +kernel
abbrev rmX4_openAt : Room := { frames := 1, cells := 0, slots := 0, locals := 22 }
theorem hdX4_openAt : yX4_openAt.cls = "DyeLatticeModel" ∧ yX4_openAt.cls ≠ "java/lang/invoke/MethodHandle" ∧ yX4_openAt.cls ≠ "java/lang/invoke/VarHandle" ∧ (parseMethodDescriptor yX4_openAt.desc).map (fun d => d.parameters.length) = some 1 := by decide +kernel
abbrev rmX4_fill : Room := { frames := 2, cells := 0, slots := 0, locals := 45 }
theorem hdX4_fill : yX4_fill.cls = "DyeLatticeModel" ∧ yX4_fill.cls ≠ "java/lang/invoke/MethodHandle" ∧ yX4_fill.cls ≠ "java/lang/invoke/VarHandle" ∧ (parseMethodDescriptor yX4_fill.desc).map (fun d => d.parameters.length) = some 1 := by decide +kernel
abbrev rmX4_valveOf : Room := { frames := 0, cells := 0, slots := 0, locals := 0 }
theorem hdX4_valveOf : yX4_valveOf.cls = "DyeLatticeModel" ∧ yX4_valveOf.cls ≠ "java/lang/invoke/MethodHandle" ∧ yX4_valveOf.cls ≠ "java/lang/invoke/VarHandle" ∧ (parseMethodDescriptor yX4_valveOf.desc).map (fun d => d.parameters.length) = some 2 := by decide +kernel
abbrev rmX4_setValve : Room := { frames := 3, cells := 0, slots := 0, locals := 67 }
theorem hdX4_setValve : yX4_setValve.cls = "DyeLatticeModel" ∧ yX4_setValve.cls ≠ "java/lang/invoke/MethodHandle" ∧ yX4_setValve.cls ≠ "java/lang/invoke/VarHandle" ∧ (parseMethodDescriptor yX4_setValve.desc).map (fun d => d.parameters.length) = some 3 := by decide +kernel
abbrev rmX4_setThreshold : Room := { frames := 2, cells := 0, slots := 0, locals := 45 }
theorem hdX4_setThreshold : yX4_setThreshold.cls = "DyeLatticeModel" ∧ yX4_setThreshold.cls ≠ "java/lang/invoke/MethodHandle" ∧ yX4_setThreshold.cls ≠ "java/lang/invoke/VarHandle" ∧ (parseMethodDescriptor yX4_setThreshold.desc).map (fun d => d.parameters.length) = some 1 := by decide +kernel
abbrev rmX4_has : Room := { frames := 0, cells := 0, slots := 0, locals := 0 }
theorem hdX4_has : yX4_has.cls ≠ "java/lang/invoke/MethodHandle" ∧ yX4_has.cls ≠ "java/lang/invoke/VarHandle" ∧ (parseMethodDescriptor yX4_has.desc).map (fun d => d.parameters.length) = some 2 := by decide +kernel
abbrev rmX4_withDye : Room := { frames := 1, cells := 0, slots := 0, locals := 21 }
theorem hdX4_withDye : yX4_withDye.cls = "DyeLatticeModel" ∧ yX4_withDye.cls ≠ "java/lang/invoke/MethodHandle" ∧ yX4_withDye.cls ≠ "java/lang/invoke/VarHandle" ∧ (parseMethodDescriptor yX4_withDye.desc).map (fun d => d.parameters.length) = some 2 := by decide +kernel
abbrev rmX4_setSource : Room := { frames := 2, cells := 0, slots := 0, locals := 45 }
theorem hdX4_setSource : yX4_setSource.cls = "DyeLatticeModel" ∧ yX4_setSource.cls ≠ "java/lang/invoke/MethodHandle" ∧ yX4_setSource.cls ≠ "java/lang/invoke/VarHandle" ∧ (parseMethodDescriptor yX4_setSource.desc).map (fun d => d.parameters.length) = some 3 := by decide +kernel
abbrev rmX4_pairs : Room := { frames := 0, cells := 0, slots := 0, locals := 0 }
theorem hdX4_pairs : yX4_pairs.cls = "DyeLatticeModel" ∧ yX4_pairs.cls ≠ "java/lang/invoke/MethodHandle" ∧ yX4_pairs.cls ≠ "java/lang/invoke/VarHandle" ∧ (parseMethodDescriptor yX4_pairs.desc).map (fun d => d.parameters.length) = some 0 := by decide +kernel
abbrev rmX4_setReaction : Room := { frames := 1, cells := 0, slots := 0, locals := 22 }
theorem hdX4_setReaction : yX4_setReaction.cls = "DyeLatticeModel" ∧ yX4_setReaction.cls ≠ "java/lang/invoke/MethodHandle" ∧ yX4_setReaction.cls ≠ "java/lang/invoke/VarHandle" ∧ (parseMethodDescriptor yX4_setReaction.desc).map (fun d => d.parameters.length) = some 3 := by decide +kernel
abbrev rmX4_setBeat : Room := { frames := 1, cells := 0, slots := 0, locals := 22 }
theorem hdX4_setBeat : yX4_setBeat.cls = "DyeLatticeModel" ∧ yX4_setBeat.cls ≠ "java/lang/invoke/MethodHandle" ∧ yX4_setBeat.cls ≠ "java/lang/invoke/VarHandle" ∧ (parseMethodDescriptor yX4_setBeat.desc).map (fun d => d.parameters.length) = some 1 := by decide +kernel
abbrev rmX4_isFlowing : Room := { frames := 1, cells := 0, slots := 0, locals := 22 }
theorem hdX4_isFlowing : yX4_isFlowing.cls = "DyeLatticeModel" ∧ yX4_isFlowing.cls ≠ "java/lang/invoke/MethodHandle" ∧ yX4_isFlowing.cls ≠ "java/lang/invoke/VarHandle" ∧ (parseMethodDescriptor yX4_isFlowing.desc).map (fun d => d.parameters.length) = some 1 := by decide +kernel
abbrev rmX4_lets : Room := { frames := 1, cells := 0, slots := 0, locals := 22 }
theorem hdX4_lets : yX4_lets.cls = "DyeLatticeModel" ∧ yX4_lets.cls ≠ "java/lang/invoke/MethodHandle" ∧ yX4_lets.cls ≠ "java/lang/invoke/VarHandle" ∧ (parseMethodDescriptor yX4_lets.desc).map (fun d => d.parameters.length) = some 3 := by decide +kernel
abbrev rmX4_flows : Room := { frames := 2, cells := 0, slots := 0, locals := 43 }
theorem hdX4_flows : yX4_flows.cls = "DyeLatticeModel" ∧ yX4_flows.cls ≠ "java/lang/invoke/MethodHandle" ∧ yX4_flows.cls ≠ "java/lang/invoke/VarHandle" ∧ (parseMethodDescriptor yX4_flows.desc).map (fun d => d.parameters.length) = some 2 := by decide +kernel
abbrev rmX4_reacts : Room := { frames := 1, cells := 0, slots := 0, locals := 21 }
theorem hdX4_reacts : yX4_reacts.cls = "DyeLatticeModel" ∧ yX4_reacts.cls ≠ "java/lang/invoke/MethodHandle" ∧ yX4_reacts.cls ≠ "java/lang/invoke/VarHandle" ∧ (parseMethodDescriptor yX4_reacts.desc).map (fun d => d.parameters.length) = some 1 := by decide +kernel
abbrev rmX4_steps : Room := { frames := 3, cells := 0, slots := 0, locals := 67 }
theorem hdX4_steps : yX4_steps.cls = "DyeLatticeModel" ∧ yX4_steps.cls ≠ "java/lang/invoke/MethodHandle" ∧ yX4_steps.cls ≠ "java/lang/invoke/VarHandle" ∧ (parseMethodDescriptor yX4_steps.desc).map (fun d => d.parameters.length) = some 0 := by decide +kernel
abbrev rmX4_run : Room := { frames := 4, cells := 0, slots := 0, locals := 93 }
theorem hdX4_run : yX4_run.cls = "DyeLatticeModel" ∧ yX4_run.cls ≠ "java/lang/invoke/MethodHandle" ∧ yX4_run.cls ≠ "java/lang/invoke/VarHandle" ∧ (parseMethodDescriptor yX4_run.desc).map (fun d => d.parameters.length) = some 1 := by decide +kernel
abbrev rmX4_rinse : Room := { frames := 1, cells := 0, slots := 0, locals := 21 }
theorem hdX4_rinse : yX4_rinse.cls = "DyeLatticeModel" ∧ yX4_rinse.cls ≠ "java/lang/invoke/MethodHandle" ∧ yX4_rinse.cls ≠ "java/lang/invoke/VarHandle" ∧ (parseMethodDescriptor yX4_rinse.desc).map (fun d => d.parameters.length) = some 0 := by decide +kernel
abbrev rmX4_forgets : Room := { frames := 0, cells := 0, slots := 0, locals := 0 }
theorem hdX4_forgets : yX4_forgets.cls = "DyeLatticeModel" ∧ yX4_forgets.cls ≠ "java/lang/invoke/MethodHandle" ∧ yX4_forgets.cls ≠ "java/lang/invoke/VarHandle" ∧ (parseMethodDescriptor yX4_forgets.desc).map (fun d => d.parameters.length) = some 0 := by decide +kernel
abbrev rmX4_meets : Room := { frames := 1, cells := 0, slots := 0, locals := 22 }
theorem hdX4_meets : yX4_meets.cls = "DyeLatticeModel" ∧ yX4_meets.cls ≠ "java/lang/invoke/MethodHandle" ∧ yX4_meets.cls ≠ "java/lang/invoke/VarHandle" ∧ (parseMethodDescriptor yX4_meets.desc).map (fun d => d.parameters.length) = some 3 := by decide +kernel
abbrev rmX4_first : Room := { frames := 3, cells := 0, slots := 0, locals := 67 }
theorem hdX4_first : yX4_first.cls = "DyeLatticeModel" ∧ yX4_first.cls ≠ "java/lang/invoke/MethodHandle" ∧ yX4_first.cls ≠ "java/lang/invoke/VarHandle" ∧ (parseMethodDescriptor yX4_first.desc).map (fun d => d.parameters.length) = some 2 := by decide +kernel
abbrev rmX4_walks : Room := { frames := 4, cells := 0, slots := 0, locals := 90 }
theorem hdX4_walks : yX4_walks.cls = "DyeLatticeModel" ∧ yX4_walks.cls ≠ "java/lang/invoke/MethodHandle" ∧ yX4_walks.cls ≠ "java/lang/invoke/VarHandle" ∧ (parseMethodDescriptor yX4_walks.desc).map (fun d => d.parameters.length) = some 3 := by decide +kernel
abbrev rmX4_laysClusters : Room := { frames := 5, cells := 0, slots := 0, locals := 118 }
theorem hdX4_laysClusters : yX4_laysClusters.cls = "DyeLatticeModel" ∧ yX4_laysClusters.cls ≠ "java/lang/invoke/MethodHandle" ∧ yX4_laysClusters.cls ≠ "java/lang/invoke/VarHandle" ∧ (parseMethodDescriptor yX4_laysClusters.desc).map (fun d => d.parameters.length) = some 1 := by decide +kernel
abbrev rmX4_clogged : Room := { frames := 1, cells := 0, slots := 0, locals := 20 }
theorem hdX4_clogged : yX4_clogged.cls = "DyeLatticeModel" ∧ yX4_clogged.cls ≠ "java/lang/invoke/MethodHandle" ∧ yX4_clogged.cls ≠ "java/lang/invoke/VarHandle" ∧ (parseMethodDescriptor yX4_clogged.desc).map (fun d => d.parameters.length) = some 0 := by decide +kernel
abbrev rmX4_count : Room := { frames := 6, cells := 0, slots := 0, locals := 141 }
theorem hdX4_count : yX4_count.cls = "DyeLatticeModel" ∧ yX4_count.cls ≠ "java/lang/invoke/MethodHandle" ∧ yX4_count.cls ≠ "java/lang/invoke/VarHandle" ∧ (parseMethodDescriptor yX4_count.desc).map (fun d => d.parameters.length) = some 1 := by decide +kernel
abbrev rmX4_endsAt : Room := { frames := 3, cells := 0, slots := 0, locals := 67 }
theorem hdX4_endsAt : yX4_endsAt.cls = "DyeLatticeModel" ∧ yX4_endsAt.cls ≠ "java/lang/invoke/MethodHandle" ∧ yX4_endsAt.cls ≠ "java/lang/invoke/VarHandle" ∧ (parseMethodDescriptor yX4_endsAt.desc).map (fun d => d.parameters.length) = some 1 := by decide +kernel
abbrev rmX4_cell : Room := { frames := 6, cells := 0, slots := 0, locals := 141 }
theorem hdX4_cell : yX4_cell.cls = "DyeLatticeModel" ∧ yX4_cell.cls ≠ "java/lang/invoke/MethodHandle" ∧ yX4_cell.cls ≠ "java/lang/invoke/VarHandle" ∧ (parseMethodDescriptor yX4_cell.desc).map (fun d => d.parameters.length) = some 2 := by decide +kernel
abbrev rmX4_valve : Room := { frames := 3, cells := 0, slots := 0, locals := 67 }
theorem hdX4_valve : yX4_valve.cls = "DyeLatticeModel" ∧ yX4_valve.cls ≠ "java/lang/invoke/MethodHandle" ∧ yX4_valve.cls ≠ "java/lang/invoke/VarHandle" ∧ (parseMethodDescriptor yX4_valve.desc).map (fun d => d.parameters.length) = some 2 := by decide +kernel
abbrev rmX4_dyed : Room := { frames := 2, cells := 0, slots := 0, locals := 45 }
theorem hdX4_dyed : yX4_dyed.cls = "DyeLatticeModel" ∧ yX4_dyed.cls ≠ "java/lang/invoke/MethodHandle" ∧ yX4_dyed.cls ≠ "java/lang/invoke/VarHandle" ∧ (parseMethodDescriptor yX4_dyed.desc).map (fun d => d.parameters.length) = some 1 := by decide +kernel
abbrev rmX4_reach : Room := { frames := 5, cells := 0, slots := 0, locals := 118 }
theorem hdX4_reach : yX4_reach.cls = "DyeLatticeModel" ∧ yX4_reach.cls ≠ "java/lang/invoke/MethodHandle" ∧ yX4_reach.cls ≠ "java/lang/invoke/VarHandle" ∧ (parseMethodDescriptor yX4_reach.desc).map (fun d => d.parameters.length) = some 1 := by decide +kernel
abbrev rmX4_keeps : Room := { frames := 0, cells := 0, slots := 0, locals := 0 }
theorem hdX4_keeps : yX4_keeps.cls = "DyeLatticeModel" ∧ yX4_keeps.cls ≠ "java/lang/invoke/MethodHandle" ∧ yX4_keeps.cls ≠ "java/lang/invoke/VarHandle" ∧ (parseMethodDescriptor yX4_keeps.desc).map (fun d => d.parameters.length) = some 0 := by decide +kernel
abbrev rmX4_returns : Room := { frames := 0, cells := 0, slots := 0, locals := 0 }
theorem hdX4_returns : yX4_returns.cls = "DyeLatticeModel" ∧ yX4_returns.cls ≠ "java/lang/invoke/MethodHandle" ∧ yX4_returns.cls ≠ "java/lang/invoke/VarHandle" ∧ (parseMethodDescriptor yX4_returns.desc).map (fun d => d.parameters.length) = some 0 := by decide +kernel
abbrev rmX4_arrival : Room := { frames := 4, cells := 0, slots := 0, locals := 93 }
theorem hdX4_arrival : yX4_arrival.cls = "DyeLatticeModel" ∧ yX4_arrival.cls ≠ "java/lang/invoke/MethodHandle" ∧ yX4_arrival.cls ≠ "java/lang/invoke/VarHandle" ∧ (parseMethodDescriptor yX4_arrival.desc).map (fun d => d.parameters.length) = some 2 := by decide +kernel
abbrev rmX4_sizeOf : Room := { frames := 1, cells := 0, slots := 0, locals := 20 }
theorem hdX4_sizeOf : yX4_sizeOf.cls = "DyeLatticeModel" ∧ yX4_sizeOf.cls ≠ "java/lang/invoke/MethodHandle" ∧ yX4_sizeOf.cls ≠ "java/lang/invoke/VarHandle" ∧ (parseMethodDescriptor yX4_sizeOf.desc).map (fun d => d.parameters.length) = some 1 := by decide +kernel
abbrev rmX4_grainsOf : Room := { frames := 1, cells := 0, slots := 0, locals := 20 }
theorem hdX4_grainsOf : yX4_grainsOf.cls = "DyeLatticeModel" ∧ yX4_grainsOf.cls ≠ "java/lang/invoke/MethodHandle" ∧ yX4_grainsOf.cls ≠ "java/lang/invoke/VarHandle" ∧ (parseMethodDescriptor yX4_grainsOf.desc).map (fun d => d.parameters.length) = some 1 := by decide +kernel
abbrev rmX4_sidesOf : Room := { frames := 1, cells := 0, slots := 0, locals := 21 }
theorem hdX4_sidesOf : yX4_sidesOf.cls = "DyeLatticeModel" ∧ yX4_sidesOf.cls ≠ "java/lang/invoke/MethodHandle" ∧ yX4_sidesOf.cls ≠ "java/lang/invoke/VarHandle" ∧ (parseMethodDescriptor yX4_sidesOf.desc).map (fun d => d.parameters.length) = some 1 := by decide +kernel
abbrev rmX4_bondsOf : Room := { frames := 3, cells := 0, slots := 0, locals := 67 }
theorem hdX4_bondsOf : yX4_bondsOf.cls = "DyeLatticeModel" ∧ yX4_bondsOf.cls ≠ "java/lang/invoke/MethodHandle" ∧ yX4_bondsOf.cls ≠ "java/lang/invoke/VarHandle" ∧ (parseMethodDescriptor yX4_bondsOf.desc).map (fun d => d.parameters.length) = some 2 := by decide +kernel
abbrev rmX4_cluster : Room := { frames := 6, cells := 0, slots := 0, locals := 141 }
theorem hdX4_cluster : yX4_cluster.cls = "DyeLatticeModel" ∧ yX4_cluster.cls ≠ "java/lang/invoke/MethodHandle" ∧ yX4_cluster.cls ≠ "java/lang/invoke/VarHandle" ∧ (parseMethodDescriptor yX4_cluster.desc).map (fun d => d.parameters.length) = some 2 := by decide +kernel
abbrev rmX4_spans : Room := { frames := 5, cells := 0, slots := 0, locals := 118 }
theorem hdX4_spans : yX4_spans.cls = "DyeLatticeModel" ∧ yX4_spans.cls ≠ "java/lang/invoke/MethodHandle" ∧ yX4_spans.cls ≠ "java/lang/invoke/VarHandle" ∧ (parseMethodDescriptor yX4_spans.desc).map (fun d => d.parameters.length) = some 2 := by decide +kernel
abbrev rmX4_ledger : Room := { frames := 6, cells := 0, slots := 0, locals := 142 }
theorem hdX4_ledger : yX4_ledger.cls = "DyeLatticeModel" ∧ yX4_ledger.cls ≠ "java/lang/invoke/MethodHandle" ∧ yX4_ledger.cls ≠ "java/lang/invoke/VarHandle" ∧ (parseMethodDescriptor yX4_ledger.desc).map (fun d => d.parameters.length) = some 2 := by decide +kernel
abbrev rmX4_smallest : Room := { frames := 6, cells := 0, slots := 0, locals := 142 }
theorem hdX4_smallest : yX4_smallest.cls = "DyeLatticeModel" ∧ yX4_smallest.cls ≠ "java/lang/invoke/MethodHandle" ∧ yX4_smallest.cls ≠ "java/lang/invoke/VarHandle" ∧ (parseMethodDescriptor yX4_smallest.desc).map (fun d => d.parameters.length) = some 0 := by decide +kernel
abbrev rmX4_threshold : Room := { frames := 7, cells := 0, slots := 0, locals := 166 }
theorem hdX4_threshold : yX4_threshold.cls = "DyeLatticeModel" ∧ yX4_threshold.cls ≠ "java/lang/invoke/MethodHandle" ∧ yX4_threshold.cls ≠ "java/lang/invoke/VarHandle" ∧ (parseMethodDescriptor yX4_threshold.desc).map (fun d => d.parameters.length) = some 0 := by decide +kernel
abbrev rmX4_probe : Room := { frames := 6, cells := 0, slots := 0, locals := 142 }
theorem hdX4_probe : yX4_probe.cls = "DyeLatticeModel" ∧ yX4_probe.cls ≠ "java/lang/invoke/MethodHandle" ∧ yX4_probe.cls ≠ "java/lang/invoke/VarHandle" ∧ (parseMethodDescriptor yX4_probe.desc).map (fun d => d.parameters.length) = some 1 := by decide +kernel
abbrev rmX4_isWay : Room := { frames := 5, cells := 0, slots := 0, locals := 118 }
theorem hdX4_isWay : yX4_isWay.cls = "DyeLatticeModel" ∧ yX4_isWay.cls ≠ "java/lang/invoke/MethodHandle" ∧ yX4_isWay.cls ≠ "java/lang/invoke/VarHandle" ∧ (parseMethodDescriptor yX4_isWay.desc).map (fun d => d.parameters.length) = some 3 := by decide +kernel
abbrev rmX4_thresholdBetween : Room := { frames := 6, cells := 0, slots := 0, locals := 141 }
theorem hdX4_thresholdBetween : yX4_thresholdBetween.cls = "DyeLatticeModel" ∧ yX4_thresholdBetween.cls ≠ "java/lang/invoke/MethodHandle" ∧ yX4_thresholdBetween.cls ≠ "java/lang/invoke/VarHandle" ∧ (parseMethodDescriptor yX4_thresholdBetween.desc).map (fun d => d.parameters.length) = some 2 := by decide +kernel
abbrev rmX4_pivots : Room := { frames := 6, cells := 0, slots := 0, locals := 142 }
theorem hdX4_pivots : yX4_pivots.cls = "DyeLatticeModel" ∧ yX4_pivots.cls ≠ "java/lang/invoke/MethodHandle" ∧ yX4_pivots.cls ≠ "java/lang/invoke/VarHandle" ∧ (parseMethodDescriptor yX4_pivots.desc).map (fun d => d.parameters.length) = some 0 := by decide +kernel
abbrev rmX4_bestValve : Room := { frames := 7, cells := 0, slots := 0, locals := 166 }
theorem hdX4_bestValve : yX4_bestValve.cls = "DyeLatticeModel" ∧ yX4_bestValve.cls ≠ "java/lang/invoke/MethodHandle" ∧ yX4_bestValve.cls ≠ "java/lang/invoke/VarHandle" ∧ (parseMethodDescriptor yX4_bestValve.desc).map (fun d => d.parameters.length) = some 0 := by decide +kernel
abbrev rmX4_append : Room := { frames := 1, cells := 0, slots := 0, locals := 22 }
theorem hdX4_append : yX4_append.cls = "DyeLatticeModel" ∧ yX4_append.cls ≠ "java/lang/invoke/MethodHandle" ∧ yX4_append.cls ≠ "java/lang/invoke/VarHandle" ∧ (parseMethodDescriptor yX4_append.desc).map (fun d => d.parameters.length) = some 1 := by decide +kernel
abbrev rmX4_clearText : Room := { frames := 0, cells := 0, slots := 0, locals := 0 }
theorem hdX4_clearText : yX4_clearText.cls = "DyeLatticeModel" ∧ yX4_clearText.cls ≠ "java/lang/invoke/MethodHandle" ∧ yX4_clearText.cls ≠ "java/lang/invoke/VarHandle" ∧ (parseMethodDescriptor yX4_clearText.desc).map (fun d => d.parameters.length) = some 0 := by decide +kernel
abbrev rmX4_isLetter : Room := { frames := 1, cells := 0, slots := 0, locals := 22 }
theorem hdX4_isLetter : yX4_isLetter.cls ≠ "java/lang/invoke/MethodHandle" ∧ yX4_isLetter.cls ≠ "java/lang/invoke/VarHandle" ∧ (parseMethodDescriptor yX4_isLetter.desc).map (fun d => d.parameters.length) = some 1 := by decide +kernel
abbrev rmX4_isDigit : Room := { frames := 1, cells := 0, slots := 0, locals := 22 }
theorem hdX4_isDigit : yX4_isDigit.cls ≠ "java/lang/invoke/MethodHandle" ∧ yX4_isDigit.cls ≠ "java/lang/invoke/VarHandle" ∧ (parseMethodDescriptor yX4_isDigit.desc).map (fun d => d.parameters.length) = some 1 := by decide +kernel
abbrev rmX4_goes : Room := { frames := 2, cells := 0, slots := 0, locals := 42 }
theorem hdX4_goes : yX4_goes.cls = "DyeLatticeModel" ∧ yX4_goes.cls ≠ "java/lang/invoke/MethodHandle" ∧ yX4_goes.cls ≠ "java/lang/invoke/VarHandle" ∧ (parseMethodDescriptor yX4_goes.desc).map (fun d => d.parameters.length) = some 0 := by decide +kernel
abbrev rmX4_word : Room := { frames := 2, cells := 0, slots := 0, locals := 42 }
theorem hdX4_word : yX4_word.cls = "DyeLatticeModel" ∧ yX4_word.cls ≠ "java/lang/invoke/MethodHandle" ∧ yX4_word.cls ≠ "java/lang/invoke/VarHandle" ∧ (parseMethodDescriptor yX4_word.desc).map (fun d => d.parameters.length) = some 0 := by decide +kernel
abbrev rmX4_spelled : Room := { frames := 0, cells := 0, slots := 0, locals := 0 }
theorem hdX4_spelled : yX4_spelled.cls ≠ "java/lang/invoke/MethodHandle" ∧ yX4_spelled.cls ≠ "java/lang/invoke/VarHandle" ∧ (parseMethodDescriptor yX4_spelled.desc).map (fun d => d.parameters.length) = some 4 := by decide +kernel
abbrev rmX4_number : Room := { frames := 3, cells := 0, slots := 0, locals := 64 }
theorem hdX4_number : yX4_number.cls = "DyeLatticeModel" ∧ yX4_number.cls ≠ "java/lang/invoke/MethodHandle" ∧ yX4_number.cls ≠ "java/lang/invoke/VarHandle" ∧ (parseMethodDescriptor yX4_number.desc).map (fun d => d.parameters.length) = some 2 := by decide +kernel
abbrev rmX4_readsSize : Room := { frames := 4, cells := 0, slots := 0, locals := 88 }
theorem hdX4_readsSize : yX4_readsSize.cls = "DyeLatticeModel" ∧ yX4_readsSize.cls ≠ "java/lang/invoke/MethodHandle" ∧ yX4_readsSize.cls ≠ "java/lang/invoke/VarHandle" ∧ (parseMethodDescriptor yX4_readsSize.desc).map (fun d => d.parameters.length) = some 0 := by decide +kernel
abbrev rmX4_longer : Room := { frames := 0, cells := 0, slots := 0, locals := 0 }
theorem hdX4_longer : yX4_longer.cls ≠ "java/lang/invoke/MethodHandle" ∧ yX4_longer.cls ≠ "java/lang/invoke/VarHandle" ∧ (parseMethodDescriptor yX4_longer.desc).map (fun d => d.parameters.length) = some 5 := by decide +kernel
abbrev rmX4_kindTold : Room := { frames := 3, cells := 0, slots := 0, locals := 65 }
theorem hdX4_kindTold : yX4_kindTold.cls = "DyeLatticeModel" ∧ yX4_kindTold.cls ≠ "java/lang/invoke/MethodHandle" ∧ yX4_kindTold.cls ≠ "java/lang/invoke/VarHandle" ∧ (parseMethodDescriptor yX4_kindTold.desc).map (fun d => d.parameters.length) = some 0 := by decide +kernel
abbrev rmX4_readsRow : Room := { frames := 4, cells := 0, slots := 0, locals := 88 }
theorem hdX4_readsRow : yX4_readsRow.cls = "DyeLatticeModel" ∧ yX4_readsRow.cls ≠ "java/lang/invoke/MethodHandle" ∧ yX4_readsRow.cls ≠ "java/lang/invoke/VarHandle" ∧ (parseMethodDescriptor yX4_readsRow.desc).map (fun d => d.parameters.length) = some 0 := by decide +kernel
abbrev rmX4_valveTold : Room := { frames := 3, cells := 0, slots := 0, locals := 65 }
theorem hdX4_valveTold : yX4_valveTold.cls = "DyeLatticeModel" ∧ yX4_valveTold.cls ≠ "java/lang/invoke/MethodHandle" ∧ yX4_valveTold.cls ≠ "java/lang/invoke/VarHandle" ∧ (parseMethodDescriptor yX4_valveTold.desc).map (fun d => d.parameters.length) = some 0 := by decide +kernel
abbrev rmX4_readsValve : Room := { frames := 4, cells := 0, slots := 0, locals := 92 }
theorem hdX4_readsValve : yX4_readsValve.cls = "DyeLatticeModel" ∧ yX4_readsValve.cls ≠ "java/lang/invoke/MethodHandle" ∧ yX4_readsValve.cls ≠ "java/lang/invoke/VarHandle" ∧ (parseMethodDescriptor yX4_readsValve.desc).map (fun d => d.parameters.length) = some 0 := by decide +kernel
abbrev rmX4_readsSource : Room := { frames := 4, cells := 0, slots := 0, locals := 88 }
theorem hdX4_readsSource : yX4_readsSource.cls = "DyeLatticeModel" ∧ yX4_readsSource.cls ≠ "java/lang/invoke/MethodHandle" ∧ yX4_readsSource.cls ≠ "java/lang/invoke/VarHandle" ∧ (parseMethodDescriptor yX4_readsSource.desc).map (fun d => d.parameters.length) = some 0 := by decide +kernel
abbrev rmX4_takes : Room := { frames := 3, cells := 0, slots := 0, locals := 64 }
theorem hdX4_takes : yX4_takes.cls = "DyeLatticeModel" ∧ yX4_takes.cls ≠ "java/lang/invoke/MethodHandle" ∧ yX4_takes.cls ≠ "java/lang/invoke/VarHandle" ∧ (parseMethodDescriptor yX4_takes.desc).map (fun d => d.parameters.length) = some 1 := by decide +kernel
abbrev rmX4_readsItem : Room := { frames := 5, cells := 0, slots := 0, locals := 115 }
theorem hdX4_readsItem : yX4_readsItem.cls = "DyeLatticeModel" ∧ yX4_readsItem.cls ≠ "java/lang/invoke/MethodHandle" ∧ yX4_readsItem.cls ≠ "java/lang/invoke/VarHandle" ∧ (parseMethodDescriptor yX4_readsItem.desc).map (fun d => d.parameters.length) = some 1 := by decide +kernel
abbrev rmX4_loads : Room := { frames := 1, cells := 0, slots := 0, locals := 21 }
theorem hdX4_loads : yX4_loads.cls = "DyeLatticeModel" ∧ yX4_loads.cls ≠ "java/lang/invoke/MethodHandle" ∧ yX4_loads.cls ≠ "java/lang/invoke/VarHandle" ∧ (parseMethodDescriptor yX4_loads.desc).map (fun d => d.parameters.length) = some 0 := by decide +kernel
abbrev rmX4_load : Room := { frames := 6, cells := 0, slots := 0, locals := 139 }
theorem hdX4_load : yX4_load.cls = "DyeLatticeModel" ∧ yX4_load.cls ≠ "java/lang/invoke/MethodHandle" ∧ yX4_load.cls ≠ "java/lang/invoke/VarHandle" ∧ (parseMethodDescriptor yX4_load.desc).map (fun d => d.parameters.length) = some 0 := by decide +kernel
