set_option maxRecDepth 100000
set_option maxHeartbeats 4000000
section
variable {p : Program} {l : Launch} {e : Env} {s : State} {m : MethodId} {args : Array Value} {below : List Frame} {meth : Method} {c : Code} {D : va_G} {A : Nat → Prop} {Q : State → Prop} {a : Nat → Nat} {now past kept text queue isMet clusterOf fresh : Nat → Int32} {saved length met clusters frm ende wrong : Int32}
theorem w_X4_sizes_24 (X : CX p s m args meth c D A cX4_sizes 4 "DyeLatticeModel") : ∀ (n : Nat) (x : Int32 × (Nat → Int32)) (o : ((Nat → Int32))), loopN (fun x => M_sizes_24 x.1 x.2) n x = some o → (V p l e rmX4_sizes s m args below meth c D A 4 Q (MW D a o past kept text queue isMet clusterOf fresh saved length met clusters frm ende wrong) 0 0 55 [] []) → V p l e rmX4_sizes s m args below meth c D A 4 Q (MW D a x.2 past kept text queue isMet clusterOf fresh saved length met clusters frm ende wrong) 0 0 24 [(0, .ref (a 0)), (3, .int x.1)] [] := by
  refine v_loop (fun (x : Int32 × (Nat → Int32)) => V p l e rmX4_sizes s m args below meth c D A 4 Q (MW D a x.2 past kept text queue isMet clusterOf fresh saved length met clusters frm ende wrong) 0 0 24 [(0, .ref (a 0)), (3, .int x.1)] []) (fun (o : ((Nat → Int32))) => V p l e rmX4_sizes s m args below meth c D A 4 Q (MW D a o past kept text queue isMet clusterOf fresh saved length met clusters frm ende wrong) 0 0 55 [] []) ?_
  rintro ⟨v3, now⟩ r hF hI hO
  replace hF : M_sizes_24 v3 now = some r := hF
  show V p l e rmX4_sizes s m args below meth c D A 4 Q (MW D a now past kept text queue isMet clusterOf fresh saved length met clusters frm ende wrong) 0 0 24 [(0, .ref (a 0)), (3, .int v3)] []
  unfold M_sizes_24 at hF
  refine v_iload_n 25 X 1 dX4_sizes_24 rfl rfl rfl ?_
  refine v_sipush (v := 647) 28 X dX4_sizes_25 rfl ks_647 ?_
  refine v_icmp_ge 31 55 X dX4_sizes_28 rfl (by decide) (fun h28 => ?_) (fun h28 => ?_)
  · replace hF := ifp h28 hF
    obtain rfl := Option.some.inj hF
    exact v_lv [] rfl (hO _ rfl)
  · replace hF := ifn h28 hF
    refine v_aload_n 32 X 0 dX4_sizes_31 rfl rfl rfl ?_
    refine v_get 35 X in_X4 0 0 rfl rfl (by decide) q1172 rfl rfl dX4_sizes_32 rfl ?_
    refine v_iload_n 36 X 1 dX4_sizes_35 rfl rfl rfl ?_
    refine v_iload_n 37 X 1 dX4_sizes_36 rfl rfl rfl ?_
    refine v_bipush (v := 87) 39 X dX4_sizes_37 rfl kb_87 ?_
    refine v_icmp_ge 42 47 X dX4_sizes_39 rfl (by decide) (fun h39 => ?_) (fun h39 => ?_)
    · replace hF := ifp h39 hF
      refine v_iconst (v := 0) 48 X dX4_sizes_47 rfl ki_0 ?_
      obtain ⟨z48, hz48, hF⟩ := ob hF
      refine v_iast 49 (MW D a z48 past kept text queue isMet clusterOf fresh saved length met clusters frm ende wrong) X 1 hz48 rfl dX4_sizes_48 rfl rfl ?_
      refine v_iinc (v := (v3 + 1)) 52 [(3, .int (v3 + 1)), (0, .ref (a 0))] X 1 dX4_sizes_49 rfl rfl (by rfl) (by decide) rfl ?_
      refine v_goto 24 X dX4_sizes_52 (by decide) ?_
      obtain rfl := Option.some.inj hF
      exact v_lv [1, 0] rfl (hI _ rfl)
    · replace hF := ifn h39 hF
      refine v_bipush (v := 50) 44 X dX4_sizes_42 rfl kb_50 ?_
      refine v_goto 48 X dX4_sizes_44 (by decide) ?_
      obtain ⟨z48, hz48, hF⟩ := ob hF
      refine v_iast 49 (MW D a z48 past kept text queue isMet clusterOf fresh saved length met clusters frm ende wrong) X 1 hz48 rfl dX4_sizes_48 rfl rfl ?_
      refine v_iinc (v := (v3 + 1)) 52 [(3, .int (v3 + 1)), (0, .ref (a 0))] X 1 dX4_sizes_49 rfl rfl (by rfl) (by decide) rfl ?_
      refine v_goto 24 X dX4_sizes_52 (by decide) ?_
      obtain rfl := Option.some.inj hF
      exact v_lv [1, 0] rfl (hI _ rfl)
theorem w_X4_sizes (v1 : Int32) (v2 : Int32) (r : (Nat → Int32)) (hF : M_sizes now v1 v2 = some r) : CTv l yX4_sizes cX4_sizes 4 (Option.none : Option Jvm.ClassFile.FieldType) rmX4_sizes D (MW D a now past kept text queue isMet clusterOf fresh saved length met clusters frm ende wrong) [.ref (a 0), .int v1, .int v2] NoX (fun u => u = (MW D a r past kept text queue isMet clusterOf fresh saved length met clusters frm ende wrong)) := by
  refine m_v (by decide) (Nat.le_of_ble_eq_true rfl) ?_
  intro p e s m args below meth c A B
  obtain ⟨X, hr, -, -, -, -⟩ := B
  replace X : CX p s m args meth c D A cX4_sizes 4 "DyeLatticeModel" := X
  refine v_lv (lv' := [(0, .ref (a 0)), (1, .int v1), (2, .int v2)]) [0, 1, 2] rfl ?_
  unfold M_sizes at hF
  refine v_aload_n 1 X 0 dX4_sizes_0 rfl rfl rfl ?_
  refine v_get 4 X in_X4 0 0 rfl rfl (by decide) q1172 rfl rfl dX4_sizes_1 rfl ?_
  refine v_iconst (v := 0) 5 X dX4_sizes_4 rfl ki_0 ?_
  refine v_iload_n 6 X 1 dX4_sizes_5 rfl rfl rfl ?_
  obtain ⟨z6, hz6, hF⟩ := ob hF
  refine v_iast 7 (MW D a z6 past kept text queue isMet clusterOf fresh saved length met clusters frm ende wrong) X 1 hz6 rfl dX4_sizes_6 rfl rfl ?_
  refine v_aload_n 8 X 0 dX4_sizes_7 rfl rfl rfl ?_
  refine v_get 11 X in_X4 0 0 rfl rfl (by decide) q1172 rfl rfl dX4_sizes_8 rfl ?_
  refine v_iconst (v := 1) 12 X dX4_sizes_11 rfl ki_1 ?_
  refine v_iload_n 13 X 2 dX4_sizes_12 rfl rfl rfl ?_
  obtain ⟨z13, hz13, hF⟩ := ob hF
  refine v_iast 14 (MW D a z13 past kept text queue isMet clusterOf fresh saved length met clusters frm ende wrong) X 1 hz13 rfl dX4_sizes_13 rfl rfl ?_
  refine v_aload_n 15 X 0 dX4_sizes_14 rfl rfl rfl ?_
  refine v_get 18 X in_X4 0 0 rfl rfl (by decide) q1172 rfl rfl dX4_sizes_15 rfl ?_
  refine v_iconst (v := 5) 19 X dX4_sizes_18 rfl ki_5 ?_
  refine v_iconst (v := 0) 20 X dX4_sizes_19 rfl ki_0 ?_
  obtain ⟨z20, hz20, hF⟩ := ob hF
  refine v_iast 21 (MW D a z20 past kept text queue isMet clusterOf fresh saved length met clusters frm ende wrong) X 1 hz20 rfl dX4_sizes_20 rfl rfl ?_
  refine v_bipush (v := 7) 23 X dX4_sizes_21 rfl kb_7 ?_
  refine v_istore_n 24 [(3, .int 7), (0, .ref (a 0)), (1, .int v1), (2, .int v2)] X dX4_sizes_23 rfl rfl (by decide) rfl ?_
  obtain ⟨z24, hz24, hF⟩ := ob hF
  refine v_lv [1, 0] rfl (w_X4_sizes_24 X _ (7, z20) _ hz24 ?_)
  obtain rfl := Option.some.inj hF
  exact v_vret X hr rfl (Nat.zero_le _) (Nat.zero_le _) dX4_sizes_55
theorem w_X4_begins_2 (X : CX p s m args meth c D A cX4_begins 2 "DyeLatticeModel") : ∀ (n : Nat) (x : Int32 × (Nat → Int32)) (o : ((Nat → Int32))), loopN (fun x => M_begins_2 x.1 x.2) n x = some o → (V p l e rmX4_begins s m args below meth c D A 2 Q (MW D a o past kept text queue isMet clusterOf fresh saved length met clusters frm ende wrong) 0 0 22 [(0, .ref (a 0))] []) → V p l e rmX4_begins s m args below meth c D A 2 Q (MW D a x.2 past kept text queue isMet clusterOf fresh saved length met clusters frm ende wrong) 0 0 2 [(0, .ref (a 0)), (1, .int x.1)] [] := by
  refine v_loop (fun (x : Int32 × (Nat → Int32)) => V p l e rmX4_begins s m args below meth c D A 2 Q (MW D a x.2 past kept text queue isMet clusterOf fresh saved length met clusters frm ende wrong) 0 0 2 [(0, .ref (a 0)), (1, .int x.1)] []) (fun (o : ((Nat → Int32))) => V p l e rmX4_begins s m args below meth c D A 2 Q (MW D a o past kept text queue isMet clusterOf fresh saved length met clusters frm ende wrong) 0 0 22 [(0, .ref (a 0))] []) ?_
  rintro ⟨v1, now⟩ r hF hI hO
  replace hF : M_begins_2 v1 now = some r := hF
  show V p l e rmX4_begins s m args below meth c D A 2 Q (MW D a now past kept text queue isMet clusterOf fresh saved length met clusters frm ende wrong) 0 0 2 [(0, .ref (a 0)), (1, .int v1)] []
  unfold M_begins_2 at hF
  refine v_iload_n 3 X 1 dX4_begins_2 rfl rfl rfl ?_
  refine v_sipush (v := 647) 6 X dX4_begins_3 rfl ks_647 ?_
  refine v_icmp_ge 9 22 X dX4_begins_6 rfl (by decide) (fun h6 => ?_) (fun h6 => ?_)
  · replace hF := ifp h6 hF
    obtain rfl := Option.some.inj hF
    exact v_lv [0] rfl (hO _ rfl)
  · replace hF := ifn h6 hF
    refine v_aload_n 10 X 0 dX4_begins_9 rfl rfl rfl ?_
    refine v_get 13 X in_X4 0 0 rfl rfl (by decide) q1172 rfl rfl dX4_begins_10 rfl ?_
    refine v_iload_n 14 X 1 dX4_begins_13 rfl rfl rfl ?_
    refine v_iconst (v := 0) 15 X dX4_begins_14 rfl ki_0 ?_
    obtain ⟨z15, hz15, hF⟩ := ob hF
    refine v_iast 16 (MW D a z15 past kept text queue isMet clusterOf fresh saved length met clusters frm ende wrong) X 1 hz15 rfl dX4_begins_15 rfl rfl ?_
    refine v_iinc (v := (v1 + 1)) 19 [(1, .int (v1 + 1)), (0, .ref (a 0))] X 1 dX4_begins_16 rfl rfl (by rfl) (by decide) rfl ?_
    refine v_goto 2 X dX4_begins_19 (by decide) ?_
    obtain rfl := Option.some.inj hF
    exact v_lv [1, 0] rfl (hI _ rfl)
theorem w_X4_begins (r : (Nat → Int32)) (hF : M_begins now = some r) : CTv l yX4_begins cX4_begins 2 (Option.none : Option Jvm.ClassFile.FieldType) rmX4_begins D (MW D a now past kept text queue isMet clusterOf fresh saved length met clusters frm ende wrong) [.ref (a 0)] NoX (fun u => u = (MW D a r past kept text queue isMet clusterOf fresh saved length met clusters frm ende wrong)) := by
  refine m_v (by decide) (Nat.le_of_ble_eq_true rfl) ?_
  intro p e s m args below meth c A B
  obtain ⟨X, hr, -, -, -, -⟩ := B
  replace X : CX p s m args meth c D A cX4_begins 2 "DyeLatticeModel" := X
  refine v_lv (lv' := [(0, .ref (a 0))]) [0] rfl ?_
  unfold M_begins at hF
  refine v_iconst (v := 0) 1 X dX4_begins_0 rfl ki_0 ?_
  refine v_istore_n 2 [(1, .int 0), (0, .ref (a 0))] X dX4_begins_1 rfl rfl (by decide) rfl ?_
  obtain ⟨z2, hz2, hF⟩ := ob hF
  refine v_lv [1, 0] rfl (w_X4_begins_2 X _ (0, now) _ hz2 ?_)
  refine v_aload_n 23 X 0 dX4_begins_22 rfl rfl rfl ?_
  refine v_get 26 X in_X4 0 0 rfl rfl (by decide) q1172 rfl rfl dX4_begins_23 rfl ?_
  refine v_iconst (v := 3) 27 X dX4_begins_26 rfl ki_3 ?_
  refine v_bipush (v := 50) 29 X dX4_begins_27 rfl kb_50 ?_
  obtain ⟨z29, hz29, hF⟩ := ob hF
  refine v_iast 30 (MW D a z29 past kept text queue isMet clusterOf fresh saved length met clusters frm ende wrong) X 1 hz29 rfl dX4_begins_29 rfl rfl ?_
  refine v_aload_n 31 X 0 dX4_begins_30 rfl rfl rfl ?_
  refine v_get 34 X in_X4 0 0 rfl rfl (by decide) q1172 rfl rfl dX4_begins_31 rfl ?_
  refine v_iconst (v := 4) 35 X dX4_begins_34 rfl ki_4 ?_
  refine v_iconst (v := 1) 36 X dX4_begins_35 rfl ki_1 ?_
  obtain ⟨z36, hz36, hF⟩ := ob hF
  refine v_iast 37 (MW D a z36 past kept text queue isMet clusterOf fresh saved length met clusters frm ende wrong) X 1 hz36 rfl dX4_begins_36 rfl rfl ?_
  refine v_aload_n 38 X 0 dX4_begins_37 rfl rfl rfl ?_
  refine v_iconst (v := 4) 39 X dX4_begins_38 rfl ki_4 ?_
  refine v_iconst (v := 4) 40 X dX4_begins_39 rfl ki_4 ?_
  obtain ⟨z40, hz40, hF⟩ := ob hF
  refine v_mVv 43 X 2 [.int 4, .int 4] (w_X4_sizes 4 4 _ hz40) q1168 q1170 qs36 q95 q1171 hdX4_sizes 0 rfl rfl pass_no ⟨rfl, rfl⟩ ⟨Nat.le_of_ble_eq_true rfl, Nat.le_of_ble_eq_true rfl⟩ ⟨Nat.le_refl 0, Nat.le_refl 0⟩ rfl rfl (Nat.le_of_ble_eq_true rfl) dX4_begins_40 rfl ?_
  obtain rfl := Option.some.inj hF
  exact v_vret X hr rfl (Nat.zero_le _) (Nat.zero_le _) dX4_begins_43
theorem w_X4_undo_22 (X : CX p s m args meth c D A cX4_undo 2 "DyeLatticeModel") : ∀ (n : Nat) (x : Int32 × (Nat → Int32)) (o : ((Nat → Int32))), loopN (fun x => M_undo_22 past saved x.1 x.2) n x = some o → (V p l e rmX4_undo s m args below meth c D A 2 Q (MW D a o past kept text queue isMet clusterOf fresh saved length met clusters frm ende wrong) 0 0 56 [(0, .ref (a 0))] []) → V p l e rmX4_undo s m args below meth c D A 2 Q (MW D a x.2 past kept text queue isMet clusterOf fresh saved length met clusters frm ende wrong) 0 0 22 [(0, .ref (a 0)), (1, .int x.1)] [] := by
  refine v_loop (fun (x : Int32 × (Nat → Int32)) => V p l e rmX4_undo s m args below meth c D A 2 Q (MW D a x.2 past kept text queue isMet clusterOf fresh saved length met clusters frm ende wrong) 0 0 22 [(0, .ref (a 0)), (1, .int x.1)] []) (fun (o : ((Nat → Int32))) => V p l e rmX4_undo s m args below meth c D A 2 Q (MW D a o past kept text queue isMet clusterOf fresh saved length met clusters frm ende wrong) 0 0 56 [(0, .ref (a 0))] []) ?_
  rintro ⟨v1, now⟩ r hF hI hO
  replace hF : M_undo_22 past saved v1 now = some r := hF
  show V p l e rmX4_undo s m args below meth c D A 2 Q (MW D a now past kept text queue isMet clusterOf fresh saved length met clusters frm ende wrong) 0 0 22 [(0, .ref (a 0)), (1, .int v1)] []
  unfold M_undo_22 at hF
  refine v_iload_n 23 X 1 dX4_undo_22 rfl rfl rfl ?_
  refine v_sipush (v := 647) 26 X dX4_undo_23 rfl ks_647 ?_
  refine v_icmp_ge 29 56 X dX4_undo_26 rfl (by decide) (fun h26 => ?_) (fun h26 => ?_)
  · replace hF := ifp h26 hF
    obtain rfl := Option.some.inj hF
    exact v_lv [0] rfl (hO _ rfl)
  · replace hF := ifn h26 hF
    refine v_aload_n 30 X 0 dX4_undo_29 rfl rfl rfl ?_
    refine v_get 33 X in_X4 0 0 rfl rfl (by decide) q1172 rfl rfl dX4_undo_30 rfl ?_
    refine v_iload_n 34 X 1 dX4_undo_33 rfl rfl rfl ?_
    refine v_aload_n 35 X 0 dX4_undo_34 rfl rfl rfl ?_
    refine v_get 38 X in_X4 0 1 rfl rfl (by decide) q1173 rfl rfl dX4_undo_35 rfl ?_
    refine v_sipush (v := 647) 41 X dX4_undo_38 rfl ks_647 ?_
    refine v_aload_n 42 X 0 dX4_undo_41 rfl rfl rfl ?_
    refine v_get 45 X in_X4 0 3 rfl rfl (by decide) q1175 rfl rfl dX4_undo_42 rfl ?_
    refine v_imul 46 X dX4_undo_45 rfl ?_
    refine v_iload_n 47 X 1 dX4_undo_46 rfl rfl rfl ?_
    refine v_iadd 48 X dX4_undo_47 rfl ?_
    obtain ⟨z48, hz48, hF⟩ := ob hF
    refine v_iald 49 X 2 hz48 rfl dX4_undo_48 rfl ?_
    obtain ⟨z49, hz49, hF⟩ := ob hF
    refine v_iast 50 (MW D a z49 past kept text queue isMet clusterOf fresh saved length met clusters frm ende wrong) X 1 hz49 rfl dX4_undo_49 rfl rfl ?_
    refine v_iinc (v := (v1 + 1)) 53 [(1, .int (v1 + 1)), (0, .ref (a 0))] X 1 dX4_undo_50 rfl rfl (by rfl) (by decide) rfl ?_
    refine v_goto 22 X dX4_undo_53 (by decide) ?_
    obtain rfl := Option.some.inj hF
    exact v_lv [1, 0] rfl (hI _ rfl)
theorem w_X4_undo (r : Int32 × (Nat → Int32) × Int32) (hF : M_undo now past saved = some r) : CTi l yX4_undo cX4_undo 2 (Option.some Jvm.ClassFile.FieldType.int) rmX4_undo D (MW D a now past kept text queue isMet clusterOf fresh saved length met clusters frm ende wrong) [.ref (a 0)] NoX (fun r1 u => r1 = r.1 ∧ u = (MW D a r.2.1 past kept text queue isMet clusterOf fresh r.2.2 length met clusters frm ende wrong)) := by
  refine m_i (by decide) (Nat.le_of_ble_eq_true rfl) ?_
  intro p e s m args below meth c A B
  obtain ⟨X, hr, -, -, -, -⟩ := B
  replace X : CX p s m args meth c D A cX4_undo 2 "DyeLatticeModel" := X
  refine v_lv (lv' := [(0, .ref (a 0))]) [0] rfl ?_
  unfold M_undo at hF
  refine v_aload_n 1 X 0 dX4_undo_0 rfl rfl rfl ?_
  refine v_get 4 X in_X4 0 3 rfl rfl (by decide) q1175 rfl rfl dX4_undo_1 rfl ?_
  refine v_if_ne 7 10 X dX4_undo_4 rfl (by decide) (fun h4 => ?_) (fun h4 => ?_)
  · replace hF := ifn h4 hF
    refine v_aload_n 11 X 0 dX4_undo_10 rfl rfl rfl ?_
    refine v_dup 12 X dX4_undo_11 rfl rfl ?_
    refine v_get 15 X in_X4 0 3 rfl rfl (by decide) q1175 rfl rfl dX4_undo_12 rfl ?_
    refine v_iconst (v := 1) 16 X dX4_undo_15 rfl ki_1 ?_
    refine v_isub 17 X dX4_undo_16 rfl ?_
    refine v_put 20 (MW D a now past kept text queue isMet clusterOf fresh (saved - 1) length met clusters frm ende wrong) X in_X4 tyX4_ok nmX4 0 3 rfl rfl (by decide) q1175 rfl rfl rfl rfl rfl (Nat.le_of_ble_eq_true rfl) dX4_undo_17 rfl rfl ?_
    refine v_iconst (v := 0) 21 X dX4_undo_20 rfl ki_0 ?_
    refine v_istore_n 22 [(1, .int 0), (0, .ref (a 0))] X dX4_undo_21 rfl rfl (by decide) rfl ?_
    obtain ⟨z22, hz22, hF⟩ := ob hF
    refine v_lv [1, 0] rfl (w_X4_undo_22 X _ (0, now) _ hz22 ?_)
    refine v_aload_n 57 X 0 dX4_undo_56 rfl rfl rfl ?_
    refine v_get 60 X in_X4 0 3 rfl rfl (by decide) q1175 rfl rfl dX4_undo_57 rfl ?_
    obtain rfl := Option.some.inj hF
    exact v_iret X hr ⟨rfl, rfl⟩ (Nat.zero_le _) (Nat.zero_le _) dX4_undo_60
  · replace hF := ifp h4 hF
    refine v_bipush (v := (-2)) 9 X dX4_undo_7 rfl kb_m2 ?_
    obtain rfl := Option.some.inj hF
    exact v_iret X hr ⟨rfl, rfl⟩ (Nat.zero_le _) (Nat.zero_le _) dX4_undo_9
theorem w_X4_within (v0 : Int32) (v1 : Int32) (v2 : Int32) (r : Int32) (hF : M_within v0 v1 v2 = some r) : CTi l yX4_within cX4_within 3 (Option.some Jvm.ClassFile.FieldType.boolean) rmX4_within D (MW D a now past kept text queue isMet clusterOf fresh saved length met clusters frm ende wrong) [.int v0, .int v1, .int v2] NoX (fun r1 u => r1 = r ∧ u = (MW D a now past kept text queue isMet clusterOf fresh saved length met clusters frm ende wrong)) := by
  refine m_i (by decide) (Nat.le_of_ble_eq_true rfl) ?_
  intro p e s m args below meth c A B
  obtain ⟨X, hr, -, -, -, -⟩ := B
  replace X : CX p s m args meth c D A cX4_within 3 "DyeLatticeModel" := X
  refine v_lv (lv' := [(0, .int v0), (1, .int v1), (2, .int v2)]) [0, 1, 2] rfl ?_
  unfold M_within at hF
  refine v_iload_n 1 X 0 dX4_within_0 rfl rfl rfl ?_
  refine v_iload_n 2 X 1 dX4_within_1 rfl rfl rfl ?_
  refine v_icmp_lt 5 14 X dX4_within_2 rfl (by decide) (fun h2 => ?_) (fun h2 => ?_)
  · replace hF := ifp h2 hF
    refine v_iconst (v := 0) 15 X dX4_within_14 rfl ki_0 ?_
    obtain rfl := Option.some.inj hF
    exact v_zret X hr rfl ⟨rfl, rfl⟩ (Nat.zero_le _) (Nat.zero_le _) dX4_within_15
  · replace hF := ifn h2 hF
    refine v_iload_n 6 X 0 dX4_within_5 rfl rfl rfl ?_
    refine v_iload_n 7 X 2 dX4_within_6 rfl rfl rfl ?_
    refine v_icmp_gt 10 14 X dX4_within_7 rfl (by decide) (fun h7 => ?_) (fun h7 => ?_)
    · replace hF := ifp h7 hF
      refine v_iconst (v := 0) 15 X dX4_within_14 rfl ki_0 ?_
      obtain rfl := Option.some.inj hF
      exact v_zret X hr rfl ⟨rfl, rfl⟩ (Nat.zero_le _) (Nat.zero_le _) dX4_within_15
    · replace hF := ifn h7 hF
      refine v_iconst (v := 1) 11 X dX4_within_10 rfl ki_1 ?_
      refine v_goto 15 X dX4_within_11 (by decide) ?_
      obtain rfl := Option.some.inj hF
      exact v_zret X hr rfl ⟨rfl, rfl⟩ (Nat.zero_le _) (Nat.zero_le _) dX4_within_15
theorem w_X4_saves_10 (X : CX p s m args meth c D A cX4_saves 2 "DyeLatticeModel") : ∀ (n : Nat) (x : Int32 × (Nat → Int32)) (o : ((Nat → Int32))), loopN (fun x => M_saves_10 x.1 x.2) n x = some o → (V p l e rmX4_saves s m args below meth c D A 2 Q (MW D a now o kept text queue isMet clusterOf fresh saved length met clusters frm ende wrong) 0 0 39 [(0, .ref (a 0))] []) → V p l e rmX4_saves s m args below meth c D A 2 Q (MW D a now x.2 kept text queue isMet clusterOf fresh saved length met clusters frm ende wrong) 0 0 10 [(0, .ref (a 0)), (1, .int x.1)] [] := by
  refine v_loop (fun (x : Int32 × (Nat → Int32)) => V p l e rmX4_saves s m args below meth c D A 2 Q (MW D a now x.2 kept text queue isMet clusterOf fresh saved length met clusters frm ende wrong) 0 0 10 [(0, .ref (a 0)), (1, .int x.1)] []) (fun (o : ((Nat → Int32))) => V p l e rmX4_saves s m args below meth c D A 2 Q (MW D a now o kept text queue isMet clusterOf fresh saved length met clusters frm ende wrong) 0 0 39 [(0, .ref (a 0))] []) ?_
  rintro ⟨v1, past⟩ r hF hI hO
  replace hF : M_saves_10 v1 past = some r := hF
  show V p l e rmX4_saves s m args below meth c D A 2 Q (MW D a now past kept text queue isMet clusterOf fresh saved length met clusters frm ende wrong) 0 0 10 [(0, .ref (a 0)), (1, .int v1)] []
  unfold M_saves_10 at hF
  refine v_iload_n 11 X 1 dX4_saves_10 rfl rfl rfl ?_
  refine v_sipush (v := 2588) 14 X dX4_saves_11 rfl ks_2588 ?_
  refine v_icmp_ge 17 39 X dX4_saves_14 rfl (by decide) (fun h14 => ?_) (fun h14 => ?_)
  · replace hF := ifp h14 hF
    obtain rfl := Option.some.inj hF
    exact v_lv [0] rfl (hO _ rfl)
  · replace hF := ifn h14 hF
    refine v_aload_n 18 X 0 dX4_saves_17 rfl rfl rfl ?_
    refine v_get 21 X in_X4 0 1 rfl rfl (by decide) q1173 rfl rfl dX4_saves_18 rfl ?_
    refine v_iload_n 22 X 1 dX4_saves_21 rfl rfl rfl ?_
    refine v_aload_n 23 X 0 dX4_saves_22 rfl rfl rfl ?_
    refine v_get 26 X in_X4 0 1 rfl rfl (by decide) q1173 rfl rfl dX4_saves_23 rfl ?_
    refine v_iload_n 27 X 1 dX4_saves_26 rfl rfl rfl ?_
    refine v_sipush (v := 647) 30 X dX4_saves_27 rfl ks_647 ?_
    refine v_iadd 31 X dX4_saves_30 rfl ?_
    obtain ⟨z31, hz31, hF⟩ := ob hF
    refine v_iald 32 X 2 hz31 rfl dX4_saves_31 rfl ?_
    obtain ⟨z32, hz32, hF⟩ := ob hF
    refine v_iast 33 (MW D a now z32 kept text queue isMet clusterOf fresh saved length met clusters frm ende wrong) X 2 hz32 rfl dX4_saves_32 rfl rfl ?_
    refine v_iinc (v := (v1 + 1)) 36 [(1, .int (v1 + 1)), (0, .ref (a 0))] X 1 dX4_saves_33 rfl rfl (by rfl) (by decide) rfl ?_
    refine v_goto 10 X dX4_saves_36 (by decide) ?_
    obtain rfl := Option.some.inj hF
    exact v_lv [1, 0] rfl (hI _ rfl)
theorem w_X4_saves_51 (X : CX p s m args meth c D A cX4_saves 2 "DyeLatticeModel") : ∀ (n : Nat) (x : Int32 × (Nat → Int32)) (o : ((Nat → Int32))), loopN (fun x => M_saves_51 now saved x.1 x.2) n x = some o → (V p l e rmX4_saves s m args below meth c D A 2 Q (MW D a now o kept text queue isMet clusterOf fresh saved length met clusters frm ende wrong) 0 0 85 [(0, .ref (a 0))] []) → V p l e rmX4_saves s m args below meth c D A 2 Q (MW D a now x.2 kept text queue isMet clusterOf fresh saved length met clusters frm ende wrong) 0 0 51 [(0, .ref (a 0)), (1, .int x.1)] [] := by
  refine v_loop (fun (x : Int32 × (Nat → Int32)) => V p l e rmX4_saves s m args below meth c D A 2 Q (MW D a now x.2 kept text queue isMet clusterOf fresh saved length met clusters frm ende wrong) 0 0 51 [(0, .ref (a 0)), (1, .int x.1)] []) (fun (o : ((Nat → Int32))) => V p l e rmX4_saves s m args below meth c D A 2 Q (MW D a now o kept text queue isMet clusterOf fresh saved length met clusters frm ende wrong) 0 0 85 [(0, .ref (a 0))] []) ?_
  rintro ⟨v1, past⟩ r hF hI hO
  replace hF : M_saves_51 now saved v1 past = some r := hF
  show V p l e rmX4_saves s m args below meth c D A 2 Q (MW D a now past kept text queue isMet clusterOf fresh saved length met clusters frm ende wrong) 0 0 51 [(0, .ref (a 0)), (1, .int v1)] []
  unfold M_saves_51 at hF
  refine v_iload_n 52 X 1 dX4_saves_51 rfl rfl rfl ?_
  refine v_sipush (v := 647) 55 X dX4_saves_52 rfl ks_647 ?_
  refine v_icmp_ge 58 85 X dX4_saves_55 rfl (by decide) (fun h55 => ?_) (fun h55 => ?_)
  · replace hF := ifp h55 hF
    obtain rfl := Option.some.inj hF
    exact v_lv [0] rfl (hO _ rfl)
  · replace hF := ifn h55 hF
    refine v_aload_n 59 X 0 dX4_saves_58 rfl rfl rfl ?_
    refine v_get 62 X in_X4 0 1 rfl rfl (by decide) q1173 rfl rfl dX4_saves_59 rfl ?_
    refine v_sipush (v := 647) 65 X dX4_saves_62 rfl ks_647 ?_
    refine v_aload_n 66 X 0 dX4_saves_65 rfl rfl rfl ?_
    refine v_get 69 X in_X4 0 3 rfl rfl (by decide) q1175 rfl rfl dX4_saves_66 rfl ?_
    refine v_imul 70 X dX4_saves_69 rfl ?_
    refine v_iload_n 71 X 1 dX4_saves_70 rfl rfl rfl ?_
    refine v_iadd 72 X dX4_saves_71 rfl ?_
    refine v_aload_n 73 X 0 dX4_saves_72 rfl rfl rfl ?_
    refine v_get 76 X in_X4 0 0 rfl rfl (by decide) q1172 rfl rfl dX4_saves_73 rfl ?_
    refine v_iload_n 77 X 1 dX4_saves_76 rfl rfl rfl ?_
    obtain ⟨z77, hz77, hF⟩ := ob hF
    refine v_iald 78 X 1 hz77 rfl dX4_saves_77 rfl ?_
    obtain ⟨z78, hz78, hF⟩ := ob hF
    refine v_iast 79 (MW D a now z78 kept text queue isMet clusterOf fresh saved length met clusters frm ende wrong) X 2 hz78 rfl dX4_saves_78 rfl rfl ?_
    refine v_iinc (v := (v1 + 1)) 82 [(1, .int (v1 + 1)), (0, .ref (a 0))] X 1 dX4_saves_79 rfl rfl (by rfl) (by decide) rfl ?_
    refine v_goto 51 X dX4_saves_82 (by decide) ?_
    obtain rfl := Option.some.inj hF
    exact v_lv [1, 0] rfl (hI _ rfl)
theorem w_X4_saves (r : (Nat → Int32) × Int32) (hF : M_saves now past saved = some r) : CTv l yX4_saves cX4_saves 2 (Option.none : Option Jvm.ClassFile.FieldType) rmX4_saves D (MW D a now past kept text queue isMet clusterOf fresh saved length met clusters frm ende wrong) [.ref (a 0)] NoX (fun u => u = (MW D a now r.1 kept text queue isMet clusterOf fresh r.2 length met clusters frm ende wrong)) := by
  refine m_v (by decide) (Nat.le_of_ble_eq_true rfl) ?_
  intro p e s m args below meth c A B
  obtain ⟨X, hr, -, -, -, -⟩ := B
  replace X : CX p s m args meth c D A cX4_saves 2 "DyeLatticeModel" := X
  refine v_lv (lv' := [(0, .ref (a 0))]) [0] rfl ?_
  unfold M_saves at hF
  refine v_aload_n 1 X 0 dX4_saves_0 rfl rfl rfl ?_
  refine v_get 4 X in_X4 0 3 rfl rfl (by decide) q1175 rfl rfl dX4_saves_1 rfl ?_
  refine v_iconst (v := 5) 5 X dX4_saves_4 rfl ki_5 ?_
  refine v_icmp_ne 8 49 X dX4_saves_5 rfl (by decide) (fun h5 => ?_) (fun h5 => ?_)
  · replace hF := ifn h5 hF
    refine v_iconst (v := 0) 50 X dX4_saves_49 rfl ki_0 ?_
    refine v_istore_n 51 [(1, .int 0), (0, .ref (a 0))] X dX4_saves_50 rfl rfl (by decide) rfl ?_
    obtain ⟨z51, hz51, hF⟩ := ob hF
    refine v_lv [1, 0] rfl (w_X4_saves_51 X _ (0, past) _ hz51 ?_)
    refine v_aload_n 86 X 0 dX4_saves_85 rfl rfl rfl ?_
    refine v_dup 87 X dX4_saves_86 rfl rfl ?_
    refine v_get 90 X in_X4 0 3 rfl rfl (by decide) q1175 rfl rfl dX4_saves_87 rfl ?_
    refine v_iconst (v := 1) 91 X dX4_saves_90 rfl ki_1 ?_
    refine v_iadd 92 X dX4_saves_91 rfl ?_
    refine v_put 95 (MW D a now z51 kept text queue isMet clusterOf fresh (saved + 1) length met clusters frm ende wrong) X in_X4 tyX4_ok nmX4 0 3 rfl rfl (by decide) q1175 rfl rfl rfl rfl rfl (Nat.le_of_ble_eq_true rfl) dX4_saves_92 rfl rfl ?_
    obtain rfl := Option.some.inj hF
    exact v_vret X hr rfl (Nat.zero_le _) (Nat.zero_le _) dX4_saves_95
  · replace hF := ifp h5 hF
    refine v_iconst (v := 0) 9 X dX4_saves_8 rfl ki_0 ?_
    refine v_istore_n 10 [(1, .int 0), (0, .ref (a 0))] X dX4_saves_9 rfl rfl (by decide) rfl ?_
    obtain ⟨z10, hz10, hF⟩ := ob hF
    refine v_lv [1, 0] rfl (w_X4_saves_10 X _ (0, past) _ hz10 ?_)
    refine v_aload_n 40 X 0 dX4_saves_39 rfl rfl rfl ?_
    refine v_dup 41 X dX4_saves_40 rfl rfl ?_
    refine v_get 44 X in_X4 0 3 rfl rfl (by decide) q1175 rfl rfl dX4_saves_41 rfl ?_
    refine v_iconst (v := 1) 45 X dX4_saves_44 rfl ki_1 ?_
    refine v_isub 46 X dX4_saves_45 rfl ?_
    refine v_put 49 (MW D a now z10 kept text queue isMet clusterOf fresh (saved - 1) length met clusters frm ende wrong) X in_X4 tyX4_ok nmX4 0 3 rfl rfl (by decide) q1175 rfl rfl rfl rfl rfl (Nat.le_of_ble_eq_true rfl) dX4_saves_46 rfl rfl ?_
    refine v_iconst (v := 0) 50 X dX4_saves_49 rfl ki_0 ?_
    refine v_istore_n 51 [(1, .int 0), (0, .ref (a 0))] X dX4_saves_50 rfl rfl (by decide) rfl ?_
    obtain ⟨z51, hz51, hF⟩ := ob hF
    refine v_lv [1, 0] rfl (w_X4_saves_51 X _ (0, z10) _ hz51 ?_)
    refine v_aload_n 86 X 0 dX4_saves_85 rfl rfl rfl ?_
    refine v_dup 87 X dX4_saves_86 rfl rfl ?_
    refine v_get 90 X in_X4 0 3 rfl rfl (by decide) q1175 rfl rfl dX4_saves_87 rfl ?_
    refine v_iconst (v := 1) 91 X dX4_saves_90 rfl ki_1 ?_
    refine v_iadd 92 X dX4_saves_91 rfl ?_
    refine v_put 95 (MW D a now z51 kept text queue isMet clusterOf fresh ((saved - 1) + 1) length met clusters frm ende wrong) X in_X4 tyX4_ok nmX4 0 3 rfl rfl (by decide) q1175 rfl rfl rfl rfl rfl (Nat.le_of_ble_eq_true rfl) dX4_saves_92 rfl rfl ?_
    obtain rfl := Option.some.inj hF
    exact v_vret X hr rfl (Nat.zero_le _) (Nat.zero_le _) dX4_saves_95
theorem w_X4_cells (r : Int32) (hF : M_cells now = some r) : CTi l yX4_cells cX4_cells 1 (Option.some Jvm.ClassFile.FieldType.int) rmX4_cells D (MW D a now past kept text queue isMet clusterOf fresh saved length met clusters frm ende wrong) [.ref (a 0)] NoX (fun r1 u => r1 = r ∧ u = (MW D a now past kept text queue isMet clusterOf fresh saved length met clusters frm ende wrong)) := by
  refine m_i (by decide) (Nat.le_of_ble_eq_true rfl) ?_
  intro p e s m args below meth c A B
  obtain ⟨X, hr, -, -, -, -⟩ := B
  replace X : CX p s m args meth c D A cX4_cells 1 "DyeLatticeModel" := X
  refine v_lv (lv' := [(0, .ref (a 0))]) [0] rfl ?_
  unfold M_cells at hF
  refine v_aload_n 1 X 0 dX4_cells_0 rfl rfl rfl ?_
  refine v_get 4 X in_X4 0 0 rfl rfl (by decide) q1172 rfl rfl dX4_cells_1 rfl ?_
  refine v_iconst (v := 0) 5 X dX4_cells_4 rfl ki_0 ?_
  obtain ⟨z5, hz5, hF⟩ := ob hF
  refine v_iald 6 X 1 hz5 rfl dX4_cells_5 rfl ?_
  refine v_aload_n 7 X 0 dX4_cells_6 rfl rfl rfl ?_
  refine v_get 10 X in_X4 0 0 rfl rfl (by decide) q1172 rfl rfl dX4_cells_7 rfl ?_
  refine v_iconst (v := 1) 11 X dX4_cells_10 rfl ki_1 ?_
  obtain ⟨z11, hz11, hF⟩ := ob hF
  refine v_iald 12 X 1 hz11 rfl dX4_cells_11 rfl ?_
  refine v_imul 13 X dX4_cells_12 rfl ?_
  obtain rfl := Option.some.inj hF
  exact v_iret X hr ⟨rfl, rfl⟩ (Nat.zero_le _) (Nat.zero_le _) dX4_cells_13
theorem w_X4_setSize (v1 : Int32) (v2 : Int32) (r : Int32 × (Nat → Int32) × (Nat → Int32) × Int32) (hF : M_setSize now past saved v1 v2 = some r) : CTi l yX4_setSize cX4_setSize 3 (Option.some Jvm.ClassFile.FieldType.int) rmX4_setSize D (MW D a now past kept text queue isMet clusterOf fresh saved length met clusters frm ende wrong) [.ref (a 0), .int v1, .int v2] NoX (fun r1 u => r1 = r.1 ∧ u = (MW D a r.2.1 r.2.2.1 kept text queue isMet clusterOf fresh r.2.2.2 length met clusters frm ende wrong)) := by
  refine m_i (by decide) (Nat.le_of_ble_eq_true rfl) ?_
  intro p e s m args below meth c A B
  obtain ⟨X, hr, -, -, -, -⟩ := B
  replace X : CX p s m args meth c D A cX4_setSize 3 "DyeLatticeModel" := X
  refine v_lv (lv' := [(0, .ref (a 0)), (1, .int v1), (2, .int v2)]) [0, 1, 2] rfl ?_
  unfold M_setSize at hF
  refine v_iload_n 1 X 1 dX4_setSize_0 rfl rfl rfl ?_
  refine v_iconst (v := 2) 2 X dX4_setSize_1 rfl ki_2 ?_
  refine v_bipush (v := 10) 4 X dX4_setSize_2 rfl kb_10 ?_
  obtain ⟨z4, hz4, hF⟩ := ob hF
  refine v_mSi 7 X 3 [.int v1, .int 2, .int 10] (w_X4_within v1 2 10 _ hz4) q1226 q1227 q95 q1228 hdX4_within pass_no ⟨rfl, rfl⟩ ⟨Nat.le_of_ble_eq_true rfl, Nat.le_of_ble_eq_true rfl⟩ ⟨Nat.le_refl 0, Nat.le_refl 0⟩ rfl rfl (Nat.le_of_ble_eq_true rfl) dX4_setSize_4 rfl ?_
  refine v_if_eq 10 20 X dX4_setSize_7 rfl (by decide) (fun h7 => ?_) (fun h7 => ?_)
  · replace hF := ifp h7 hF
    refine v_iconst (v := (-1)) 21 X dX4_setSize_20 rfl ki_m1 ?_
    obtain rfl := Option.some.inj hF
    exact v_iret X hr ⟨rfl, rfl⟩ (Nat.zero_le _) (Nat.zero_le _) dX4_setSize_21
  · replace hF := ifn h7 hF
    refine v_iload_n 11 X 2 dX4_setSize_10 rfl rfl rfl ?_
    refine v_iconst (v := 2) 12 X dX4_setSize_11 rfl ki_2 ?_
    refine v_bipush (v := 8) 14 X dX4_setSize_12 rfl kb_8 ?_
    obtain ⟨z14, hz14, hF⟩ := ob hF
    refine v_mSi 17 X 3 [.int v2, .int 2, .int 8] (w_X4_within v2 2 8 _ hz14) q1226 q1227 q95 q1228 hdX4_within pass_no ⟨rfl, rfl⟩ ⟨Nat.le_of_ble_eq_true rfl, Nat.le_of_ble_eq_true rfl⟩ ⟨Nat.le_refl 0, Nat.le_refl 0⟩ rfl rfl (Nat.le_of_ble_eq_true rfl) dX4_setSize_14 rfl ?_
    refine v_if_ne 20 22 X dX4_setSize_17 rfl (by decide) (fun h17 => ?_) (fun h17 => ?_)
    · replace hF := ifn h17 hF
      refine v_aload_n 23 X 0 dX4_setSize_22 rfl rfl rfl ?_
      obtain ⟨z23, hz23, hF⟩ := ob hF
      refine v_mVv 26 X 0 [] (w_X4_saves _ hz23) q1229 q1231 qs37 q95 q1232 hdX4_saves 0 rfl rfl pass_no ⟨rfl, rfl⟩ ⟨Nat.le_of_ble_eq_true rfl, Nat.le_of_ble_eq_true rfl⟩ ⟨Nat.le_refl 0, Nat.le_refl 0⟩ rfl rfl (Nat.le_of_ble_eq_true rfl) dX4_setSize_23 rfl ?_
      refine v_aload_n 27 X 0 dX4_setSize_26 rfl rfl rfl ?_
      refine v_iload_n 28 X 1 dX4_setSize_27 rfl rfl rfl ?_
      refine v_iload_n 29 X 2 dX4_setSize_28 rfl rfl rfl ?_
      obtain ⟨z29, hz29, hF⟩ := ob hF
      refine v_mVv 32 X 2 [.int v1, .int v2] (w_X4_sizes v1 v2 _ hz29) q1168 q1170 qs36 q95 q1171 hdX4_sizes 0 rfl rfl pass_no ⟨rfl, rfl⟩ ⟨Nat.le_of_ble_eq_true rfl, Nat.le_of_ble_eq_true rfl⟩ ⟨Nat.le_refl 0, Nat.le_refl 0⟩ rfl rfl (Nat.le_of_ble_eq_true rfl) dX4_setSize_29 rfl ?_
      refine v_aload_n 33 X 0 dX4_setSize_32 rfl rfl rfl ?_
      obtain ⟨z33, hz33, hF⟩ := ob hF
      refine v_mVi 36 X 0 [] (w_X4_cells _ hz33) q1233 q1235 qs38 q95 q1236 hdX4_cells 0 rfl rfl pass_no ⟨rfl, rfl⟩ ⟨Nat.le_of_ble_eq_true rfl, Nat.le_of_ble_eq_true rfl⟩ ⟨Nat.le_refl 0, Nat.le_refl 0⟩ rfl rfl (Nat.le_of_ble_eq_true rfl) dX4_setSize_33 rfl ?_
      obtain rfl := Option.some.inj hF
      exact v_iret X hr ⟨rfl, rfl⟩ (Nat.zero_le _) (Nat.zero_le _) dX4_setSize_36
    · replace hF := ifp h17 hF
      refine v_iconst (v := (-1)) 21 X dX4_setSize_20 rfl ki_m1 ?_
      obtain rfl := Option.some.inj hF
      exact v_iret X hr ⟨rfl, rfl⟩ (Nat.zero_le _) (Nat.zero_le _) dX4_setSize_21
theorem w_X4_kinds_10 (X : CX p s m args meth c D A cX4_kinds 3 "DyeLatticeModel") : ∀ (n : Nat) (x : Int32 × (Nat → Int32)) (o : ((Nat → Int32))), loopN (fun x => M_kinds_10 x.1 x.2) n x = some o → (V p l e rmX4_kinds s m args below meth c D A 3 Q (MW D a o past kept text queue isMet clusterOf fresh saved length met clusters frm ende wrong) 0 0 30 [] []) → V p l e rmX4_kinds s m args below meth c D A 3 Q (MW D a x.2 past kept text queue isMet clusterOf fresh saved length met clusters frm ende wrong) 0 0 10 [(0, .ref (a 0)), (2, .int x.1)] [] := by
  refine v_loop (fun (x : Int32 × (Nat → Int32)) => V p l e rmX4_kinds s m args below meth c D A 3 Q (MW D a x.2 past kept text queue isMet clusterOf fresh saved length met clusters frm ende wrong) 0 0 10 [(0, .ref (a 0)), (2, .int x.1)] []) (fun (o : ((Nat → Int32))) => V p l e rmX4_kinds s m args below meth c D A 3 Q (MW D a o past kept text queue isMet clusterOf fresh saved length met clusters frm ende wrong) 0 0 30 [] []) ?_
  rintro ⟨v2, now⟩ r hF hI hO
  replace hF : M_kinds_10 v2 now = some r := hF
  show V p l e rmX4_kinds s m args below meth c D A 3 Q (MW D a now past kept text queue isMet clusterOf fresh saved length met clusters frm ende wrong) 0 0 10 [(0, .ref (a 0)), (2, .int v2)] []
  unfold M_kinds_10 at hF
  refine v_iload_n 11 X 1 dX4_kinds_10 rfl rfl rfl ?_
  refine v_sipush (v := 407) 14 X dX4_kinds_11 rfl ks_407 ?_
  refine v_icmp_ge 17 30 X dX4_kinds_14 rfl (by decide) (fun h14 => ?_) (fun h14 => ?_)
  · replace hF := ifp h14 hF
    obtain rfl := Option.some.inj hF
    exact v_lv [] rfl (hO _ rfl)
  · replace hF := ifn h14 hF
    refine v_aload_n 18 X 0 dX4_kinds_17 rfl rfl rfl ?_
    refine v_get 21 X in_X4 0 0 rfl rfl (by decide) q1172 rfl rfl dX4_kinds_18 rfl ?_
    refine v_iload_n 22 X 1 dX4_kinds_21 rfl rfl rfl ?_
    refine v_iconst (v := 0) 23 X dX4_kinds_22 rfl ki_0 ?_
    obtain ⟨z23, hz23, hF⟩ := ob hF
    refine v_iast 24 (MW D a z23 past kept text queue isMet clusterOf fresh saved length met clusters frm ende wrong) X 1 hz23 rfl dX4_kinds_23 rfl rfl ?_
    refine v_iinc (v := (v2 + 1)) 27 [(2, .int (v2 + 1)), (0, .ref (a 0))] X 1 dX4_kinds_24 rfl rfl (by rfl) (by decide) rfl ?_
    refine v_goto 10 X dX4_kinds_27 (by decide) ?_
    obtain rfl := Option.some.inj hF
    exact v_lv [1, 0] rfl (hI _ rfl)
theorem w_X4_kinds (v1 : Int32) (r : (Nat → Int32)) (hF : M_kinds now v1 = some r) : CTv l yX4_kinds cX4_kinds 3 (Option.none : Option Jvm.ClassFile.FieldType) rmX4_kinds D (MW D a now past kept text queue isMet clusterOf fresh saved length met clusters frm ende wrong) [.ref (a 0), .int v1] NoX (fun u => u = (MW D a r past kept text queue isMet clusterOf fresh saved length met clusters frm ende wrong)) := by
  refine m_v (by decide) (Nat.le_of_ble_eq_true rfl) ?_
  intro p e s m args below meth c A B
  obtain ⟨X, hr, -, -, -, -⟩ := B
  replace X : CX p s m args meth c D A cX4_kinds 3 "DyeLatticeModel" := X
  refine v_lv (lv' := [(0, .ref (a 0)), (1, .int v1)]) [0, 1] rfl ?_
  unfold M_kinds at hF
  refine v_aload_n 1 X 0 dX4_kinds_0 rfl rfl rfl ?_
  refine v_get 4 X in_X4 0 0 rfl rfl (by decide) q1172 rfl rfl dX4_kinds_1 rfl ?_
  refine v_iconst (v := 2) 5 X dX4_kinds_4 rfl ki_2 ?_
  refine v_iload_n 6 X 1 dX4_kinds_5 rfl rfl rfl ?_
  obtain ⟨z6, hz6, hF⟩ := ob hF
  refine v_iast 7 (MW D a z6 past kept text queue isMet clusterOf fresh saved length met clusters frm ende wrong) X 1 hz6 rfl dX4_kinds_6 rfl rfl ?_
  refine v_bipush (v := 87) 9 X dX4_kinds_7 rfl kb_87 ?_
  refine v_istore_n 10 [(2, .int 87), (0, .ref (a 0)), (1, .int v1)] X dX4_kinds_9 rfl rfl (by decide) rfl ?_
  obtain ⟨z10, hz10, hF⟩ := ob hF
  refine v_lv [1, 0] rfl (w_X4_kinds_10 X _ (87, z6) _ hz10 ?_)
  obtain rfl := Option.some.inj hF
  exact v_vret X hr rfl (Nat.zero_le _) (Nat.zero_le _) dX4_kinds_30
theorem w_X4_isCell (v1 : Int32) (r : Int32) (hF : M_isCell now v1 = some r) : CTi l yX4_isCell cX4_isCell 2 (Option.some Jvm.ClassFile.FieldType.boolean) rmX4_isCell D (MW D a now past kept text queue isMet clusterOf fresh saved length met clusters frm ende wrong) [.ref (a 0), .int v1] NoX (fun r1 u => r1 = r ∧ u = (MW D a now past kept text queue isMet clusterOf fresh saved length met clusters frm ende wrong)) := by
  refine m_i (by decide) (Nat.le_of_ble_eq_true rfl) ?_
  intro p e s m args below meth c A B
  obtain ⟨X, hr, -, -, -, -⟩ := B
  replace X : CX p s m args meth c D A cX4_isCell 2 "DyeLatticeModel" := X
  refine v_lv (lv' := [(0, .ref (a 0)), (1, .int v1)]) [0, 1] rfl ?_
  unfold M_isCell at hF
  refine v_iload_n 1 X 1 dX4_isCell_0 rfl rfl rfl ?_
  refine v_iconst (v := 0) 2 X dX4_isCell_1 rfl ki_0 ?_
  refine v_aload_n 3 X 0 dX4_isCell_2 rfl rfl rfl ?_
  obtain ⟨z3, hz3, hF⟩ := ob hF
  refine v_mVi 6 X 0 [] (w_X4_cells _ hz3) q1233 q1235 qs38 q95 q1236 hdX4_cells 0 rfl rfl pass_no ⟨rfl, rfl⟩ ⟨Nat.le_of_ble_eq_true rfl, Nat.le_of_ble_eq_true rfl⟩ ⟨Nat.le_refl 0, Nat.le_refl 0⟩ rfl rfl (Nat.le_of_ble_eq_true rfl) dX4_isCell_3 rfl ?_
  refine v_iconst (v := 1) 7 X dX4_isCell_6 rfl ki_1 ?_
  refine v_isub 8 X dX4_isCell_7 rfl ?_
  obtain ⟨z8, hz8, hF⟩ := ob hF
  refine v_mSi 11 X 3 [.int v1, .int 0, .int (z3 - 1)] (w_X4_within v1 0 (z3 - 1) _ hz8) q1226 q1227 q95 q1228 hdX4_within pass_no ⟨rfl, rfl⟩ ⟨Nat.le_of_ble_eq_true rfl, Nat.le_of_ble_eq_true rfl⟩ ⟨Nat.le_refl 0, Nat.le_refl 0⟩ rfl rfl (Nat.le_of_ble_eq_true rfl) dX4_isCell_8 rfl ?_
  obtain ⟨z11, hz11, hF⟩ := ob hF
  refine v_topi (zck_s hz11).1 ?_
  obtain rfl := Option.some.inj hF
  exact v_zret X hr (zck_s hz11).2.1 ⟨rfl, rfl⟩ (Nat.zero_le _) (Nat.zero_le _) dX4_isCell_11
theorem w_X4_column (v1 : Int32) (r : Int32) (hF : M_column now v1 = some r) : CTi l yX4_column cX4_column 2 (Option.some Jvm.ClassFile.FieldType.int) rmX4_column D (MW D a now past kept text queue isMet clusterOf fresh saved length met clusters frm ende wrong) [.ref (a 0), .int v1] NoX (fun r1 u => r1 = r ∧ u = (MW D a now past kept text queue isMet clusterOf fresh saved length met clusters frm ende wrong)) := by
  refine m_i (by decide) (Nat.le_of_ble_eq_true rfl) ?_
  intro p e s m args below meth c A B
  obtain ⟨X, hr, -, -, -, -⟩ := B
  replace X : CX p s m args meth c D A cX4_column 2 "DyeLatticeModel" := X
  refine v_lv (lv' := [(0, .ref (a 0)), (1, .int v1)]) [0, 1] rfl ?_
  unfold M_column at hF
  refine v_iload_n 1 X 1 dX4_column_0 rfl rfl rfl ?_
  refine v_aload_n 2 X 0 dX4_column_1 rfl rfl rfl ?_
  refine v_get 5 X in_X4 0 0 rfl rfl (by decide) q1172 rfl rfl dX4_column_2 rfl ?_
  refine v_iconst (v := 0) 6 X dX4_column_5 rfl ki_0 ?_
  obtain ⟨z6, hz6, hF⟩ := ob hF
  refine v_iald 7 X 1 hz6 rfl dX4_column_6 rfl ?_
  obtain ⟨z7, hz7, hF⟩ := ob hF
  refine v_irem 8 X hz7 dX4_column_7 rfl ?_
  obtain rfl := Option.some.inj hF
  exact v_iret X hr ⟨rfl, rfl⟩ (Nat.zero_le _) (Nat.zero_le _) dX4_column_8
theorem w_X4_second_j74 (X : CX p s m args meth c D A cX4_second 5 "DyeLatticeModel") (hr : meth.sig.returnType = (Option.some Jvm.ClassFile.FieldType.int)) {r : Int32} (v3 : Int32) (s0 : Int32) (s1 : Int32) (hF : M_second_j74 now v3 s0 s1 = some r) : V p l e rmX4_second s m args below meth c D A 5 (MQ below (va_Qi (fun r1 u => r1 = r ∧ u = (MW D a now past kept text queue isMet clusterOf fresh saved length met clusters frm ende wrong)) (Wd D A) A) args s rmX4_second.cells rmX4_second.slots A) (MW D a now past kept text queue isMet clusterOf fresh saved length met clusters frm ende wrong) 0 0 74 [(0, .ref (a 0)), (3, .int v3)] [.int s1, .int s0] := by
  unfold M_second_j74 at hF
  refine v_iadd 75 X dX4_second_74 rfl ?_
  refine v_istore 77 [(4, .int (s0 + s1)), (0, .ref (a 0)), (3, .int v3)] X dX4_second_75 rfl (by decide) rfl ?_
  refine v_iload_n 78 X 2 dX4_second_77 rfl rfl rfl ?_
  refine v_iconst (v := 0) 79 X dX4_second_78 rfl ki_0 ?_
  refine v_aload_n 80 X 1 dX4_second_79 rfl rfl rfl ?_
  refine v_get 83 X in_X4 0 0 rfl rfl (by decide) q1172 rfl rfl dX4_second_80 rfl ?_
  refine v_iconst (v := 0) 84 X dX4_second_83 rfl ki_0 ?_
  obtain ⟨z84, hz84, hF⟩ := ob hF
  refine v_iald 85 X 1 hz84 rfl dX4_second_84 rfl ?_
  refine v_iconst (v := 1) 86 X dX4_second_85 rfl ki_1 ?_
  refine v_isub 87 X dX4_second_86 rfl ?_
  obtain ⟨z87, hz87, hF⟩ := ob hF
  refine v_mSi 90 X 3 [.int v3, .int 0, .int (z84 - 1)] (w_X4_within v3 0 (z84 - 1) _ hz87) q1226 q1227 q95 q1228 hdX4_within pass_no ⟨rfl, rfl⟩ ⟨Nat.le_of_ble_eq_true rfl, Nat.le_of_ble_eq_true rfl⟩ ⟨Nat.le_refl 0, Nat.le_refl 0⟩ rfl rfl (Nat.le_of_ble_eq_true rfl) dX4_second_87 rfl ?_
  refine v_if_eq 93 118 X dX4_second_90 rfl (by decide) (fun h90 => ?_) (fun h90 => ?_)
  · replace hF := ifp h90 hF
    refine v_bipush (v := (-9)) 120 X dX4_second_118 rfl kb_m9 ?_
    obtain rfl := Option.some.inj hF
    exact v_iret X hr ⟨rfl, rfl⟩ (Nat.zero_le _) (Nat.zero_le _) dX4_second_120
  · replace hF := ifn h90 hF
    refine v_iload 95 X 0 dX4_second_93 rfl rfl ?_
    refine v_aload_n 96 X 1 dX4_second_95 rfl rfl rfl ?_
    refine v_get 99 X in_X4 0 0 rfl rfl (by decide) q1172 rfl rfl dX4_second_96 rfl ?_
    refine v_iconst (v := 1) 100 X dX4_second_99 rfl ki_1 ?_
    obtain ⟨z100, hz100, hF⟩ := ob hF
    refine v_iald 101 X 1 hz100 rfl dX4_second_100 rfl ?_
    refine v_icmp_ge 104 118 X dX4_second_101 rfl (by decide) (fun h101 => ?_) (fun h101 => ?_)
    · replace hF := ifp h101 hF
      refine v_bipush (v := (-9)) 120 X dX4_second_118 rfl kb_m9 ?_
      obtain rfl := Option.some.inj hF
      exact v_iret X hr ⟨rfl, rfl⟩ (Nat.zero_le _) (Nat.zero_le _) dX4_second_120
    · replace hF := ifn h101 hF
      refine v_iload 106 X 0 dX4_second_104 rfl rfl ?_
      refine v_aload_n 107 X 1 dX4_second_106 rfl rfl rfl ?_
      refine v_get 110 X in_X4 0 0 rfl rfl (by decide) q1172 rfl rfl dX4_second_107 rfl ?_
      refine v_iconst (v := 0) 111 X dX4_second_110 rfl ki_0 ?_
      obtain ⟨z111, hz111, hF⟩ := ob hF
      refine v_iald 112 X 1 hz111 rfl dX4_second_111 rfl ?_
      refine v_imul 113 X dX4_second_112 rfl ?_
      refine v_iload_n 114 X 2 dX4_second_113 rfl rfl rfl ?_
      refine v_iadd 115 X dX4_second_114 rfl ?_
      refine v_goto 120 X dX4_second_115 (by decide) ?_
      obtain rfl := Option.some.inj hF
      exact v_iret X hr ⟨rfl, rfl⟩ (Nat.zero_le _) (Nat.zero_le _) dX4_second_120
theorem w_X4_second_j55 (X : CX p s m args meth c D A cX4_second 5 "DyeLatticeModel") (hr : meth.sig.returnType = (Option.some Jvm.ClassFile.FieldType.int)) {r : Int32} (v1 : Int32) (v2 : Int32) (s0 : Int32) (s1 : Int32) (hF : M_second_j55 now v1 v2 s0 s1 = some r) : V p l e rmX4_second s m args below meth c D A 5 (MQ below (va_Qi (fun r1 u => r1 = r ∧ u = (MW D a now past kept text queue isMet clusterOf fresh saved length met clusters frm ende wrong)) (Wd D A) A) args s rmX4_second.cells rmX4_second.slots A) (MW D a now past kept text queue isMet clusterOf fresh saved length met clusters frm ende wrong) 0 0 55 [(0, .ref (a 0)), (1, .int v1), (2, .int v2)] [.int s1, .int s0] := by
  unfold M_second_j55 at hF
  refine v_iadd 56 X dX4_second_55 rfl ?_
  refine v_istore_n 57 [(3, .int (s0 + s1)), (0, .ref (a 0)), (1, .int v1), (2, .int v2)] X dX4_second_56 rfl rfl (by decide) rfl ?_
  refine v_iload_n 58 X 2 dX4_second_57 rfl rfl rfl ?_
  refine v_aload_n 59 X 1 dX4_second_58 rfl rfl rfl ?_
  refine v_get 62 X in_X4 0 0 rfl rfl (by decide) q1172 rfl rfl dX4_second_59 rfl ?_
  refine v_iconst (v := 0) 63 X dX4_second_62 rfl ki_0 ?_
  obtain ⟨z63, hz63, hF⟩ := ob hF
  refine v_iald 64 X 1 hz63 rfl dX4_second_63 rfl ?_
  obtain ⟨z64, hz64, hF⟩ := ob hF
  refine v_idiv 65 X hz64 dX4_second_64 rfl ?_
  refine v_iload_n 66 X 3 dX4_second_65 rfl rfl rfl ?_
  refine v_if_ne 69 73 X dX4_second_66 rfl (by decide) (fun h66 => ?_) (fun h66 => ?_)
  · replace hF := ifn h66 hF
    refine v_iconst (v := 1) 74 X dX4_second_73 rfl ki_1 ?_
    exact v_lv [1, 0] rfl (w_X4_second_j74 X hr (s0 + s1) z64 1 hF)
  · replace hF := ifp h66 hF
    refine v_iconst (v := 0) 70 X dX4_second_69 rfl ki_0 ?_
    refine v_goto 74 X dX4_second_70 (by decide) ?_
    exact v_lv [1, 0] rfl (w_X4_second_j74 X hr (s0 + s1) z64 0 hF)
theorem w_X4_second (v1 : Int32) (v2 : Int32) (r : Int32) (hF : M_second now v1 v2 = some r) : CTi l yX4_second cX4_second 5 (Option.some Jvm.ClassFile.FieldType.int) rmX4_second D (MW D a now past kept text queue isMet clusterOf fresh saved length met clusters frm ende wrong) [.ref (a 0), .int v1, .int v2] NoX (fun r1 u => r1 = r ∧ u = (MW D a now past kept text queue isMet clusterOf fresh saved length met clusters frm ende wrong)) := by
  refine m_i (by decide) (Nat.le_of_ble_eq_true rfl) ?_
  intro p e s m args below meth c A B
  obtain ⟨X, hr, -, -, -, -⟩ := B
  replace X : CX p s m args meth c D A cX4_second 5 "DyeLatticeModel" := X
  refine v_lv (lv' := [(0, .ref (a 0)), (1, .int v1), (2, .int v2)]) [0, 1, 2] rfl ?_
  unfold M_second at hF
  refine v_aload_n 1 X 0 dX4_second_0 rfl rfl rfl ?_
  refine v_iload_n 2 X 1 dX4_second_1 rfl rfl rfl ?_
  obtain ⟨z2, hz2, hF⟩ := ob hF
  refine v_mVi 5 X 1 [.int v1] (w_X4_isCell v1 _ hz2) q1253 q1255 qs42 q95 q1256 hdX4_isCell 0 rfl rfl pass_no ⟨rfl, rfl⟩ ⟨Nat.le_of_ble_eq_true rfl, Nat.le_of_ble_eq_true rfl⟩ ⟨Nat.le_refl 0, Nat.le_refl 0⟩ rfl rfl (Nat.le_of_ble_eq_true rfl) dX4_second_2 rfl ?_
  refine v_if_eq 8 24 X dX4_second_5 rfl (by decide) (fun h5 => ?_) (fun h5 => ?_)
  · replace hF := ifp h5 hF
    refine v_bipush (v := (-9)) 26 X dX4_second_24 rfl kb_m9 ?_
    obtain rfl := Option.some.inj hF
    exact v_iret X hr ⟨rfl, rfl⟩ (Nat.zero_le _) (Nat.zero_le _) dX4_second_26
  · replace hF := ifn h5 hF
    refine v_iload_n 9 X 2 dX4_second_8 rfl rfl rfl ?_
    refine v_iconst (v := 0) 10 X dX4_second_9 rfl ki_0 ?_
    refine v_aload_n 11 X 0 dX4_second_10 rfl rfl rfl ?_
    refine v_get 14 X in_X4 0 0 rfl rfl (by decide) q1172 rfl rfl dX4_second_11 rfl ?_
    refine v_iconst (v := 2) 15 X dX4_second_14 rfl ki_2 ?_
    obtain ⟨z15, hz15, hF⟩ := ob hF
    refine v_iald 16 X 1 hz15 rfl dX4_second_15 rfl ?_
    refine v_iconst (v := 1) 17 X dX4_second_16 rfl ki_1 ?_
    refine v_iadd 18 X dX4_second_17 rfl ?_
    obtain ⟨z18, hz18, hF⟩ := ob hF
    refine v_mSi 21 X 3 [.int v2, .int 0, .int (z15 + 1)] (w_X4_within v2 0 (z15 + 1) _ hz18) q1226 q1227 q95 q1228 hdX4_within pass_no ⟨rfl, rfl⟩ ⟨Nat.le_of_ble_eq_true rfl, Nat.le_of_ble_eq_true rfl⟩ ⟨Nat.le_refl 0, Nat.le_refl 0⟩ rfl rfl (Nat.le_of_ble_eq_true rfl) dX4_second_18 rfl ?_
    refine v_if_ne 24 27 X dX4_second_21 rfl (by decide) (fun h21 => ?_) (fun h21 => ?_)
    · replace hF := ifn h21 hF
      refine v_aload_n 28 X 0 dX4_second_27 rfl rfl rfl ?_
      refine v_iload_n 29 X 1 dX4_second_28 rfl rfl rfl ?_
      obtain ⟨z29, hz29, hF⟩ := ob hF
      refine v_mVi 32 X 1 [.int v1] (w_X4_column v1 _ hz29) q1257 q1259 qs43 q95 q1260 hdX4_column 0 rfl rfl pass_no ⟨rfl, rfl⟩ ⟨Nat.le_of_ble_eq_true rfl, Nat.le_of_ble_eq_true rfl⟩ ⟨Nat.le_refl 0, Nat.le_refl 0⟩ rfl rfl (Nat.le_of_ble_eq_true rfl) dX4_second_29 rfl ?_
      refine v_iload_n 33 X 2 dX4_second_32 rfl rfl rfl ?_
      refine v_if_eq 36 41 X dX4_second_33 rfl (by decide) (fun h33 => ?_) (fun h33 => ?_)
      · replace hF := ifp h33 hF
        refine v_iconst (v := 1) 42 X dX4_second_41 rfl ki_1 ?_
        refine v_goto 55 X dX4_second_42 (by decide) ?_
        exact v_lv [0, 1, 2] rfl (w_X4_second_j55 X hr v1 v2 z29 1 hF)
      · replace hF := ifn h33 hF
        refine v_iload_n 37 X 2 dX4_second_36 rfl rfl rfl ?_
        refine v_iconst (v := 3) 38 X dX4_second_37 rfl ki_3 ?_
        refine v_icmp_ne 41 45 X dX4_second_38 rfl (by decide) (fun h38 => ?_) (fun h38 => ?_)
        · replace hF := ifn h38 hF
          refine v_iload_n 46 X 2 dX4_second_45 rfl rfl rfl ?_
          refine v_iconst (v := 2) 47 X dX4_second_46 rfl ki_2 ?_
          refine v_icmp_ne 50 54 X dX4_second_47 rfl (by decide) (fun h47 => ?_) (fun h47 => ?_)
          · replace hF := ifn h47 hF
            refine v_iconst (v := 0) 55 X dX4_second_54 rfl ki_0 ?_
            exact v_lv [0, 1, 2] rfl (w_X4_second_j55 X hr v1 v2 z29 0 hF)
          · replace hF := ifp h47 hF
            refine v_iconst (v := (-1)) 51 X dX4_second_50 rfl ki_m1 ?_
            refine v_goto 55 X dX4_second_51 (by decide) ?_
            exact v_lv [0, 1, 2] rfl (w_X4_second_j55 X hr v1 v2 z29 (-1) hF)
        · replace hF := ifp h38 hF
          refine v_iconst (v := 1) 42 X dX4_second_41 rfl ki_1 ?_
          refine v_goto 55 X dX4_second_42 (by decide) ?_
          exact v_lv [0, 1, 2] rfl (w_X4_second_j55 X hr v1 v2 z29 1 hF)
    · replace hF := ifp h21 hF
      refine v_bipush (v := (-9)) 26 X dX4_second_24 rfl kb_m9 ?_
      obtain rfl := Option.some.inj hF
      exact v_iret X hr ⟨rfl, rfl⟩ (Nat.zero_le _) (Nat.zero_le _) dX4_second_26
theorem w_X4_bonds_14 (X : CX p s m args meth c D A cX4_bonds 4 "DyeLatticeModel") (v2 : Int32) : ∀ (n : Nat) (x : Int32 × Int32) (o : (Int32)), loopN (fun x => M_bonds_14 v2 now x.1 x.2) n x = some o → (V p l e rmX4_bonds s m args below meth c D A 4 Q (MW D a now past kept text queue isMet clusterOf fresh saved length met clusters frm ende wrong) 0 0 44 [(0, .ref (a 0)), (1, .int o), (2, .int v2)] []) → V p l e rmX4_bonds s m args below meth c D A 4 Q (MW D a now past kept text queue isMet clusterOf fresh saved length met clusters frm ende wrong) 0 0 14 [(0, .ref (a 0)), (1, .int x.1), (2, .int v2), (3, .int x.2)] [] := by
  refine v_loop (fun (x : Int32 × Int32) => V p l e rmX4_bonds s m args below meth c D A 4 Q (MW D a now past kept text queue isMet clusterOf fresh saved length met clusters frm ende wrong) 0 0 14 [(0, .ref (a 0)), (1, .int x.1), (2, .int v2), (3, .int x.2)] []) (fun (o : (Int32)) => V p l e rmX4_bonds s m args below meth c D A 4 Q (MW D a now past kept text queue isMet clusterOf fresh saved length met clusters frm ende wrong) 0 0 44 [(0, .ref (a 0)), (1, .int o), (2, .int v2)] []) ?_
  rintro ⟨v1, v3⟩ r hF hI hO
  replace hF : M_bonds_14 v2 now v1 v3 = some r := hF
  show V p l e rmX4_bonds s m args below meth c D A 4 Q (MW D a now past kept text queue isMet clusterOf fresh saved length met clusters frm ende wrong) 0 0 14 [(0, .ref (a 0)), (1, .int v1), (2, .int v2), (3, .int v3)] []
  unfold M_bonds_14 at hF
  refine v_iload_n 15 X 3 dX4_bonds_14 rfl rfl rfl ?_
  refine v_iconst (v := 4) 16 X dX4_bonds_15 rfl ki_4 ?_
  refine v_icmp_ge 19 44 X dX4_bonds_16 rfl (by decide) (fun h16 => ?_) (fun h16 => ?_)
  · replace hF := ifp h16 hF
    obtain rfl := Option.some.inj hF
    exact v_lv [0, 1, 2] rfl (hO _ rfl)
  · replace hF := ifn h16 hF
    refine v_iload_n 20 X 1 dX4_bonds_19 rfl rfl rfl ?_
    refine v_aload_n 21 X 0 dX4_bonds_20 rfl rfl rfl ?_
    refine v_iload_n 22 X 2 dX4_bonds_21 rfl rfl rfl ?_
    refine v_iload_n 23 X 3 dX4_bonds_22 rfl rfl rfl ?_
    obtain ⟨z23, hz23, hF⟩ := ob hF
    refine v_mVi 26 X 2 [.int v2, .int v3] (w_X4_second v2 v3 _ hz23) q1249 q1251 qs41 q95 q1252 hdX4_second 0 rfl rfl pass_no ⟨rfl, rfl⟩ ⟨Nat.le_of_ble_eq_true rfl, Nat.le_of_ble_eq_true rfl⟩ ⟨Nat.le_refl 0, Nat.le_refl 0⟩ rfl rfl (Nat.le_of_ble_eq_true rfl) dX4_bonds_23 rfl ?_
    refine v_bipush (v := (-9)) 28 X dX4_bonds_26 rfl kb_m9 ?_
    refine v_icmp_ne 31 35 X dX4_bonds_28 rfl (by decide) (fun h28 => ?_) (fun h28 => ?_)
    · replace hF := ifn h28 hF
      refine v_iconst (v := 1) 36 X dX4_bonds_35 rfl ki_1 ?_
      refine v_iadd 37 X dX4_bonds_36 rfl ?_
      refine v_istore_n 38 [(1, .int (v1 + 1)), (0, .ref (a 0)), (2, .int v2), (3, .int v3)] X dX4_bonds_37 rfl rfl (by decide) rfl ?_
      refine v_iinc (v := (v3 + 1)) 41 [(3, .int (v3 + 1)), (1, .int (v1 + 1)), (0, .ref (a 0)), (2, .int v2)] X 3 dX4_bonds_38 rfl rfl (by rfl) (by decide) rfl ?_
      refine v_goto 14 X dX4_bonds_41 (by decide) ?_
      obtain rfl := Option.some.inj hF
      exact v_lv [2, 1, 3, 0] rfl (hI _ rfl)
    · replace hF := ifp h28 hF
      refine v_iconst (v := 0) 32 X dX4_bonds_31 rfl ki_0 ?_
      refine v_goto 36 X dX4_bonds_32 (by decide) ?_
      refine v_iadd 37 X dX4_bonds_36 rfl ?_
      refine v_istore_n 38 [(1, .int (v1 + 0)), (0, .ref (a 0)), (2, .int v2), (3, .int v3)] X dX4_bonds_37 rfl rfl (by decide) rfl ?_
      refine v_iinc (v := (v3 + 1)) 41 [(3, .int (v3 + 1)), (1, .int (v1 + 0)), (0, .ref (a 0)), (2, .int v2)] X 3 dX4_bonds_38 rfl rfl (by rfl) (by decide) rfl ?_
      refine v_goto 14 X dX4_bonds_41 (by decide) ?_
      obtain rfl := Option.some.inj hF
      exact v_lv [2, 1, 3, 0] rfl (hI _ rfl)
theorem w_X4_bonds_4 (X : CX p s m args meth c D A cX4_bonds 4 "DyeLatticeModel") : ∀ (n : Nat) (x : Int32 × Int32) (o : (Int32)), loopN (fun x => M_bonds_4 now x.1 x.2) n x = some o → (V p l e rmX4_bonds s m args below meth c D A 4 Q (MW D a now past kept text queue isMet clusterOf fresh saved length met clusters frm ende wrong) 0 0 50 [(1, .int o)] []) → V p l e rmX4_bonds s m args below meth c D A 4 Q (MW D a now past kept text queue isMet clusterOf fresh saved length met clusters frm ende wrong) 0 0 4 [(0, .ref (a 0)), (1, .int x.1), (2, .int x.2)] [] := by
  refine v_loop (fun (x : Int32 × Int32) => V p l e rmX4_bonds s m args below meth c D A 4 Q (MW D a now past kept text queue isMet clusterOf fresh saved length met clusters frm ende wrong) 0 0 4 [(0, .ref (a 0)), (1, .int x.1), (2, .int x.2)] []) (fun (o : (Int32)) => V p l e rmX4_bonds s m args below meth c D A 4 Q (MW D a now past kept text queue isMet clusterOf fresh saved length met clusters frm ende wrong) 0 0 50 [(1, .int o)] []) ?_
  rintro ⟨v1, v2⟩ r hF hI hO
  replace hF : M_bonds_4 now v1 v2 = some r := hF
  show V p l e rmX4_bonds s m args below meth c D A 4 Q (MW D a now past kept text queue isMet clusterOf fresh saved length met clusters frm ende wrong) 0 0 4 [(0, .ref (a 0)), (1, .int v1), (2, .int v2)] []
  unfold M_bonds_4 at hF
  refine v_iload_n 5 X 2 dX4_bonds_4 rfl rfl rfl ?_
  refine v_aload_n 6 X 0 dX4_bonds_5 rfl rfl rfl ?_
  obtain ⟨z6, hz6, hF⟩ := ob hF
  refine v_mVi 9 X 0 [] (w_X4_cells _ hz6) q1233 q1235 qs38 q95 q1236 hdX4_cells 0 rfl rfl pass_no ⟨rfl, rfl⟩ ⟨Nat.le_of_ble_eq_true rfl, Nat.le_of_ble_eq_true rfl⟩ ⟨Nat.le_refl 0, Nat.le_refl 0⟩ rfl rfl (Nat.le_of_ble_eq_true rfl) dX4_bonds_6 rfl ?_
  refine v_icmp_ge 12 50 X dX4_bonds_9 rfl (by decide) (fun h9 => ?_) (fun h9 => ?_)
  · replace hF := ifp h9 hF
    obtain rfl := Option.some.inj hF
    exact v_lv [1] rfl (hO _ rfl)
  · replace hF := ifn h9 hF
    refine v_iconst (v := 0) 13 X dX4_bonds_12 rfl ki_0 ?_
    refine v_istore_n 14 [(3, .int 0), (0, .ref (a 0)), (1, .int v1), (2, .int v2)] X dX4_bonds_13 rfl rfl (by decide) rfl ?_
    obtain ⟨z14, hz14, hF⟩ := ob hF
    refine v_lv [1, 2, 3, 0] rfl (w_X4_bonds_14 X v2 _ (v1, 0) _ hz14 ?_)
    refine v_iinc (v := (v2 + 1)) 47 [(2, .int (v2 + 1)), (0, .ref (a 0)), (1, .int z14)] X 2 dX4_bonds_44 rfl rfl (by rfl) (by decide) rfl ?_
    refine v_goto 4 X dX4_bonds_47 (by decide) ?_
    obtain rfl := Option.some.inj hF
    exact v_lv [1, 2, 0] rfl (hI _ rfl)
theorem w_X4_bonds (r : Int32) (hF : M_bonds now = some r) : CTi l yX4_bonds cX4_bonds 4 (Option.some Jvm.ClassFile.FieldType.int) rmX4_bonds D (MW D a now past kept text queue isMet clusterOf fresh saved length met clusters frm ende wrong) [.ref (a 0)] NoX (fun r1 u => r1 = r ∧ u = (MW D a now past kept text queue isMet clusterOf fresh saved length met clusters frm ende wrong)) := by
  refine m_i (by decide) (Nat.le_of_ble_eq_true rfl) ?_
  intro p e s m args below meth c A B
  obtain ⟨X, hr, -, -, -, -⟩ := B
  replace X : CX p s m args meth c D A cX4_bonds 4 "DyeLatticeModel" := X
  refine v_lv (lv' := [(0, .ref (a 0))]) [0] rfl ?_
  unfold M_bonds at hF
  refine v_iconst (v := 0) 1 X dX4_bonds_0 rfl ki_0 ?_
  refine v_istore_n 2 [(1, .int 0), (0, .ref (a 0))] X dX4_bonds_1 rfl rfl (by decide) rfl ?_
  refine v_iconst (v := 0) 3 X dX4_bonds_2 rfl ki_0 ?_
  refine v_istore_n 4 [(2, .int 0), (1, .int 0), (0, .ref (a 0))] X dX4_bonds_3 rfl rfl (by decide) rfl ?_
  obtain ⟨z4, hz4, hF⟩ := ob hF
  refine v_lv [2, 1, 0] rfl (w_X4_bonds_4 X _ (0, 0) _ hz4 ?_)
  refine v_iload_n 51 X 0 dX4_bonds_50 rfl rfl rfl ?_
  obtain rfl := Option.some.inj hF
  exact v_iret X hr ⟨rfl, rfl⟩ (Nat.zero_le _) (Nat.zero_le _) dX4_bonds_51
theorem w_X4_setKind (v1 : Int32) (r : Int32 × (Nat → Int32) × (Nat → Int32) × Int32) (hF : M_setKind now past saved v1 = some r) : CTi l yX4_setKind cX4_setKind 2 (Option.some Jvm.ClassFile.FieldType.int) rmX4_setKind D (MW D a now past kept text queue isMet clusterOf fresh saved length met clusters frm ende wrong) [.ref (a 0), .int v1] NoX (fun r1 u => r1 = r.1 ∧ u = (MW D a r.2.1 r.2.2.1 kept text queue isMet clusterOf fresh r.2.2.2 length met clusters frm ende wrong)) := by
  refine m_i (by decide) (Nat.le_of_ble_eq_true rfl) ?_
  intro p e s m args below meth c A B
  obtain ⟨X, hr, -, -, -, -⟩ := B
  replace X : CX p s m args meth c D A cX4_setKind 2 "DyeLatticeModel" := X
  refine v_lv (lv' := [(0, .ref (a 0)), (1, .int v1)]) [0, 1] rfl ?_
  unfold M_setKind at hF
  refine v_iload_n 1 X 1 dX4_setKind_0 rfl rfl rfl ?_
  refine v_iconst (v := 0) 2 X dX4_setKind_1 rfl ki_0 ?_
  refine v_iconst (v := 2) 3 X dX4_setKind_2 rfl ki_2 ?_
  obtain ⟨z3, hz3, hF⟩ := ob hF
  refine v_mSi 6 X 3 [.int v1, .int 0, .int 2] (w_X4_within v1 0 2 _ hz3) q1226 q1227 q95 q1228 hdX4_within pass_no ⟨rfl, rfl⟩ ⟨Nat.le_of_ble_eq_true rfl, Nat.le_of_ble_eq_true rfl⟩ ⟨Nat.le_refl 0, Nat.le_refl 0⟩ rfl rfl (Nat.le_of_ble_eq_true rfl) dX4_setKind_3 rfl ?_
  refine v_if_ne 9 11 X dX4_setKind_6 rfl (by decide) (fun h6 => ?_) (fun h6 => ?_)
  · replace hF := ifn h6 hF
    refine v_aload_n 12 X 0 dX4_setKind_11 rfl rfl rfl ?_
    obtain ⟨z12, hz12, hF⟩ := ob hF
    refine v_mVv 15 X 0 [] (w_X4_saves _ hz12) q1229 q1231 qs37 q95 q1232 hdX4_saves 0 rfl rfl pass_no ⟨rfl, rfl⟩ ⟨Nat.le_of_ble_eq_true rfl, Nat.le_of_ble_eq_true rfl⟩ ⟨Nat.le_refl 0, Nat.le_refl 0⟩ rfl rfl (Nat.le_of_ble_eq_true rfl) dX4_setKind_12 rfl ?_
    refine v_aload_n 16 X 0 dX4_setKind_15 rfl rfl rfl ?_
    refine v_iload_n 17 X 1 dX4_setKind_16 rfl rfl rfl ?_
    obtain ⟨z17, hz17, hF⟩ := ob hF
    refine v_mVv 20 X 1 [.int v1] (w_X4_kinds v1 _ hz17) q1241 q1243 qs39 q95 q1244 hdX4_kinds 0 rfl rfl pass_no ⟨rfl, rfl⟩ ⟨Nat.le_of_ble_eq_true rfl, Nat.le_of_ble_eq_true rfl⟩ ⟨Nat.le_refl 0, Nat.le_refl 0⟩ rfl rfl (Nat.le_of_ble_eq_true rfl) dX4_setKind_17 rfl ?_
    refine v_aload_n 21 X 0 dX4_setKind_20 rfl rfl rfl ?_
    obtain ⟨z21, hz21, hF⟩ := ob hF
    refine v_mVi 24 X 0 [] (w_X4_bonds _ hz21) q1245 q1247 qs40 q95 q1248 hdX4_bonds 0 rfl rfl pass_no ⟨rfl, rfl⟩ ⟨Nat.le_of_ble_eq_true rfl, Nat.le_of_ble_eq_true rfl⟩ ⟨Nat.le_refl 0, Nat.le_refl 0⟩ rfl rfl (Nat.le_of_ble_eq_true rfl) dX4_setKind_21 rfl ?_
    obtain rfl := Option.some.inj hF
    exact v_iret X hr ⟨rfl, rfl⟩ (Nat.zero_le _) (Nat.zero_le _) dX4_setKind_24
  · replace hF := ifp h6 hF
    refine v_iconst (v := (-1)) 10 X dX4_setKind_9 rfl ki_m1 ?_
    obtain rfl := Option.some.inj hF
    exact v_iret X hr ⟨rfl, rfl⟩ (Nat.zero_le _) (Nat.zero_le _) dX4_setKind_10
theorem w_X4_setGrain (v1 : Int32) (v2 : Int32) (r : Int32 × (Nat → Int32) × (Nat → Int32) × Int32) (hF : M_setGrain now past saved v1 v2 = some r) : CTi l yX4_setGrain cX4_setGrain 4 (Option.some Jvm.ClassFile.FieldType.int) rmX4_setGrain D (MW D a now past kept text queue isMet clusterOf fresh saved length met clusters frm ende wrong) [.ref (a 0), .int v1, .int v2] NoX (fun r1 u => r1 = r.1 ∧ u = (MW D a r.2.1 r.2.2.1 kept text queue isMet clusterOf fresh r.2.2.2 length met clusters frm ende wrong)) := by
  refine m_i (by decide) (Nat.le_of_ble_eq_true rfl) ?_
  intro p e s m args below meth c A B
  obtain ⟨X, hr, -, -, -, -⟩ := B
  replace X : CX p s m args meth c D A cX4_setGrain 4 "DyeLatticeModel" := X
  refine v_lv (lv' := [(0, .ref (a 0)), (1, .int v1), (2, .int v2)]) [0, 1, 2] rfl ?_
  unfold M_setGrain at hF
  refine v_aload_n 1 X 0 dX4_setGrain_0 rfl rfl rfl ?_
  refine v_iload_n 2 X 1 dX4_setGrain_1 rfl rfl rfl ?_
  obtain ⟨z2, hz2, hF⟩ := ob hF
  refine v_mVi 5 X 1 [.int v1] (w_X4_isCell v1 _ hz2) q1253 q1255 qs42 q95 q1256 hdX4_isCell 0 rfl rfl pass_no ⟨rfl, rfl⟩ ⟨Nat.le_of_ble_eq_true rfl, Nat.le_of_ble_eq_true rfl⟩ ⟨Nat.le_refl 0, Nat.le_refl 0⟩ rfl rfl (Nat.le_of_ble_eq_true rfl) dX4_setGrain_2 rfl ?_
  refine v_if_eq 8 18 X dX4_setGrain_5 rfl (by decide) (fun h5 => ?_) (fun h5 => ?_)
  · replace hF := ifp h5 hF
    refine v_iconst (v := (-1)) 19 X dX4_setGrain_18 rfl ki_m1 ?_
    obtain rfl := Option.some.inj hF
    exact v_iret X hr ⟨rfl, rfl⟩ (Nat.zero_le _) (Nat.zero_le _) dX4_setGrain_19
  · replace hF := ifn h5 hF
    refine v_iload_n 9 X 2 dX4_setGrain_8 rfl rfl rfl ?_
    refine v_iconst (v := 0) 10 X dX4_setGrain_9 rfl ki_0 ?_
    refine v_bipush (v := 99) 12 X dX4_setGrain_10 rfl kb_99 ?_
    obtain ⟨z12, hz12, hF⟩ := ob hF
    refine v_mSi 15 X 3 [.int v2, .int 0, .int 99] (w_X4_within v2 0 99 _ hz12) q1226 q1227 q95 q1228 hdX4_within pass_no ⟨rfl, rfl⟩ ⟨Nat.le_of_ble_eq_true rfl, Nat.le_of_ble_eq_true rfl⟩ ⟨Nat.le_refl 0, Nat.le_refl 0⟩ rfl rfl (Nat.le_of_ble_eq_true rfl) dX4_setGrain_12 rfl ?_
    refine v_if_ne 18 20 X dX4_setGrain_15 rfl (by decide) (fun h15 => ?_) (fun h15 => ?_)
    · replace hF := ifn h15 hF
      refine v_aload_n 21 X 0 dX4_setGrain_20 rfl rfl rfl ?_
      refine v_get 24 X in_X4 0 0 rfl rfl (by decide) q1172 rfl rfl dX4_setGrain_21 rfl ?_
      refine v_bipush (v := 7) 26 X dX4_setGrain_24 rfl kb_7 ?_
      refine v_iload_n 27 X 1 dX4_setGrain_26 rfl rfl rfl ?_
      refine v_iadd 28 X dX4_setGrain_27 rfl ?_
      obtain ⟨z28, hz28, hF⟩ := ob hF
      refine v_iald 29 X 1 hz28 rfl dX4_setGrain_28 rfl ?_
      refine v_istore_n 30 [(3, .int z28), (0, .ref (a 0)), (1, .int v1), (2, .int v2)] X dX4_setGrain_29 rfl rfl (by decide) rfl ?_
      refine v_aload_n 31 X 1 dX4_setGrain_30 rfl rfl rfl ?_
      obtain ⟨z31, hz31, hF⟩ := ob hF
      refine v_mVv 34 X 0 [] (w_X4_saves _ hz31) q1229 q1231 qs37 q95 q1232 hdX4_saves 0 rfl rfl pass_no ⟨rfl, rfl⟩ ⟨Nat.le_of_ble_eq_true rfl, Nat.le_of_ble_eq_true rfl⟩ ⟨Nat.le_refl 0, Nat.le_refl 0⟩ rfl rfl (Nat.le_of_ble_eq_true rfl) dX4_setGrain_31 rfl ?_
      refine v_aload_n 35 X 1 dX4_setGrain_34 rfl rfl rfl ?_
      refine v_get 38 X in_X4 0 0 rfl rfl (by decide) q1172 rfl rfl dX4_setGrain_35 rfl ?_
      refine v_bipush (v := 7) 40 X dX4_setGrain_38 rfl kb_7 ?_
      refine v_iload_n 41 X 2 dX4_setGrain_40 rfl rfl rfl ?_
      refine v_iadd 42 X dX4_setGrain_41 rfl ?_
      refine v_iload_n 43 X 3 dX4_setGrain_42 rfl rfl rfl ?_
      obtain ⟨z43, hz43, hF⟩ := ob hF
      refine v_iast 44 (MW D a z43 z31.1 kept text queue isMet clusterOf fresh z31.2 length met clusters frm ende wrong) X 1 hz43 rfl dX4_setGrain_43 rfl rfl ?_
      refine v_iload_n 45 X 0 dX4_setGrain_44 rfl rfl rfl ?_
      obtain rfl := Option.some.inj hF
      exact v_iret X hr ⟨rfl, rfl⟩ (Nat.zero_le _) (Nat.zero_le _) dX4_setGrain_45
    · replace hF := ifp h15 hF
      refine v_iconst (v := (-1)) 19 X dX4_setGrain_18 rfl ki_m1 ?_
      obtain rfl := Option.some.inj hF
      exact v_iret X hr ⟨rfl, rfl⟩ (Nat.zero_le _) (Nat.zero_le _) dX4_setGrain_19
theorem w_X4_fills_4 (X : CX p s m args meth c D A cX4_fills 4 "DyeLatticeModel") : ∀ (n : Nat) (x : Int32 × Int32 × (Nat → Int32)) (o : ((Nat → Int32))), loopN (fun x => M_fills_4 x.1 x.2.1 x.2.2) n x = some o → (V p l e rmX4_fills s m args below meth c D A 4 Q (MW D a o past kept text queue isMet clusterOf fresh saved length met clusters frm ende wrong) 0 0 42 [] []) → V p l e rmX4_fills s m args below meth c D A 4 Q (MW D a x.2.2 past kept text queue isMet clusterOf fresh saved length met clusters frm ende wrong) 0 0 4 [(0, .ref (a 0)), (2, .int x.1), (3, .int x.2.1)] [] := by
  refine v_loop (fun (x : Int32 × Int32 × (Nat → Int32)) => V p l e rmX4_fills s m args below meth c D A 4 Q (MW D a x.2.2 past kept text queue isMet clusterOf fresh saved length met clusters frm ende wrong) 0 0 4 [(0, .ref (a 0)), (2, .int x.1), (3, .int x.2.1)] []) (fun (o : ((Nat → Int32))) => V p l e rmX4_fills s m args below meth c D A 4 Q (MW D a o past kept text queue isMet clusterOf fresh saved length met clusters frm ende wrong) 0 0 42 [] []) ?_
  rintro ⟨v2, v3, now⟩ r hF hI hO
  replace hF : M_fills_4 v2 v3 now = some r := hF
  show V p l e rmX4_fills s m args below meth c D A 4 Q (MW D a now past kept text queue isMet clusterOf fresh saved length met clusters frm ende wrong) 0 0 4 [(0, .ref (a 0)), (2, .int v2), (3, .int v3)] []
  unfold M_fills_4 at hF
  refine v_iload_n 5 X 2 dX4_fills_4 rfl rfl rfl ?_
  refine v_aload_n 6 X 0 dX4_fills_5 rfl rfl rfl ?_
  obtain ⟨z6, hz6, hF⟩ := ob hF
  refine v_mVi 9 X 0 [] (w_X4_cells _ hz6) q1233 q1235 qs38 q95 q1236 hdX4_cells 0 rfl rfl pass_no ⟨rfl, rfl⟩ ⟨Nat.le_of_ble_eq_true rfl, Nat.le_of_ble_eq_true rfl⟩ ⟨Nat.le_refl 0, Nat.le_refl 0⟩ rfl rfl (Nat.le_of_ble_eq_true rfl) dX4_fills_6 rfl ?_
  refine v_icmp_ge 12 42 X dX4_fills_9 rfl (by decide) (fun h9 => ?_) (fun h9 => ?_)
  · replace hF := ifp h9 hF
    obtain rfl := Option.some.inj hF
    exact v_lv [] rfl (hO _ rfl)
  · replace hF := ifn h9 hF
    refine v_bipush (v := 75) 14 X dX4_fills_12 rfl kb_75 ?_
    refine v_iload_n 15 X 1 dX4_fills_14 rfl rfl rfl ?_
    refine v_imul 16 X dX4_fills_15 rfl ?_
    refine v_bipush (v := 74) 18 X dX4_fills_16 rfl kb_74 ?_
    refine v_iadd 19 X dX4_fills_18 rfl ?_
    refine v_ldc 21 X q1273 dX4_fills_19 rfl ?_
    obtain ⟨z21, hz21, hF⟩ := ob hF
    refine v_irem 22 X hz21 dX4_fills_21 rfl ?_
    refine v_istore_n 23 [(2, .int z21), (0, .ref (a 0)), (3, .int v3)] X dX4_fills_22 rfl rfl (by decide) rfl ?_
    refine v_aload_n 24 X 1 dX4_fills_23 rfl rfl rfl ?_
    refine v_get 27 X in_X4 0 0 rfl rfl (by decide) q1172 rfl rfl dX4_fills_24 rfl ?_
    refine v_bipush (v := 7) 29 X dX4_fills_27 rfl kb_7 ?_
    refine v_iload_n 30 X 2 dX4_fills_29 rfl rfl rfl ?_
    refine v_iadd 31 X dX4_fills_30 rfl ?_
    refine v_iload_n 32 X 0 dX4_fills_31 rfl rfl rfl ?_
    refine v_bipush (v := 100) 34 X dX4_fills_32 rfl kb_100 ?_
    obtain ⟨z34, hz34, hF⟩ := ob hF
    refine v_irem 35 X hz34 dX4_fills_34 rfl ?_
    obtain ⟨z35, hz35, hF⟩ := ob hF
    refine v_iast 36 (MW D a z35 past kept text queue isMet clusterOf fresh saved length met clusters frm ende wrong) X 1 hz35 rfl dX4_fills_35 rfl rfl ?_
    refine v_iinc (v := (v3 + 1)) 39 [(3, .int (v3 + 1)), (2, .int z21), (0, .ref (a 0))] X 2 dX4_fills_36 rfl rfl (by rfl) (by decide) rfl ?_
    refine v_goto 4 X dX4_fills_39 (by decide) ?_
    obtain rfl := Option.some.inj hF
    exact v_lv [2, 1, 0] rfl (hI _ rfl)
theorem w_X4_fills (v1 : Int32) (r : (Nat → Int32)) (hF : M_fills now v1 = some r) : CTv l yX4_fills cX4_fills 4 (Option.none : Option Jvm.ClassFile.FieldType) rmX4_fills D (MW D a now past kept text queue isMet clusterOf fresh saved length met clusters frm ende wrong) [.ref (a 0), .int v1] NoX (fun u => u = (MW D a r past kept text queue isMet clusterOf fresh saved length met clusters frm ende wrong)) := by
  refine m_v (by decide) (Nat.le_of_ble_eq_true rfl) ?_
  intro p e s m args below meth c A B
  obtain ⟨X, hr, -, -, -, -⟩ := B
  replace X : CX p s m args meth c D A cX4_fills 4 "DyeLatticeModel" := X
  refine v_lv (lv' := [(0, .ref (a 0)), (1, .int v1)]) [0, 1] rfl ?_
  unfold M_fills at hF
  refine v_iload_n 1 X 1 dX4_fills_0 rfl rfl rfl ?_
  refine v_istore_n 2 [(2, .int v1), (0, .ref (a 0)), (1, .int v1)] X dX4_fills_1 rfl rfl (by decide) rfl ?_
  refine v_iconst (v := 0) 3 X dX4_fills_2 rfl ki_0 ?_
  refine v_istore_n 4 [(3, .int 0), (2, .int v1), (0, .ref (a 0)), (1, .int v1)] X dX4_fills_3 rfl rfl (by decide) rfl ?_
  obtain ⟨z4, hz4, hF⟩ := ob hF
  refine v_lv [2, 1, 0] rfl (w_X4_fills_4 X _ (v1, 0, now) _ hz4 ?_)
  obtain rfl := Option.some.inj hF
  exact v_vret X hr rfl (Nat.zero_le _) (Nat.zero_le _) dX4_fills_42
theorem w_X4_isOpen (v1 : Int32) (v2 : Int32) (r : Int32) (hF : M_isOpen now v1 v2 = some r) : CTi l yX4_isOpen cX4_isOpen 3 (Option.some Jvm.ClassFile.FieldType.boolean) rmX4_isOpen D (MW D a now past kept text queue isMet clusterOf fresh saved length met clusters frm ende wrong) [.ref (a 0), .int v1, .int v2] NoX (fun r1 u => r1 = r ∧ u = (MW D a now past kept text queue isMet clusterOf fresh saved length met clusters frm ende wrong)) := by
  refine m_i (by decide) (Nat.le_of_ble_eq_true rfl) ?_
  intro p e s m args below meth c A B
  obtain ⟨X, hr, -, -, -, -⟩ := B
  replace X : CX p s m args meth c D A cX4_isOpen 3 "DyeLatticeModel" := X
  refine v_lv (lv' := [(0, .ref (a 0)), (1, .int v1), (2, .int v2)]) [0, 1, 2] rfl ?_
  unfold M_isOpen at hF
  refine v_aload_n 1 X 0 dX4_isOpen_0 rfl rfl rfl ?_
  refine v_get 4 X in_X4 0 0 rfl rfl (by decide) q1172 rfl rfl dX4_isOpen_1 rfl ?_
  refine v_bipush (v := 7) 6 X dX4_isOpen_4 rfl kb_7 ?_
  refine v_iload_n 7 X 1 dX4_isOpen_6 rfl rfl rfl ?_
  refine v_iadd 8 X dX4_isOpen_7 rfl ?_
  obtain ⟨z8, hz8, hF⟩ := ob hF
  refine v_iald 9 X 1 hz8 rfl dX4_isOpen_8 rfl ?_
  refine v_iload_n 10 X 2 dX4_isOpen_9 rfl rfl rfl ?_
  refine v_icmp_ge 13 17 X dX4_isOpen_10 rfl (by decide) (fun h10 => ?_) (fun h10 => ?_)
  · replace hF := ifp h10 hF
    refine v_iconst (v := 0) 18 X dX4_isOpen_17 rfl ki_0 ?_
    obtain rfl := Option.some.inj hF
    exact v_zret X hr rfl ⟨rfl, rfl⟩ (Nat.zero_le _) (Nat.zero_le _) dX4_isOpen_18
  · replace hF := ifn h10 hF
    refine v_iconst (v := 1) 14 X dX4_isOpen_13 rfl ki_1 ?_
    refine v_goto 18 X dX4_isOpen_14 (by decide) ?_
    obtain rfl := Option.some.inj hF
    exact v_zret X hr rfl ⟨rfl, rfl⟩ (Nat.zero_le _) (Nat.zero_le _) dX4_isOpen_18
theorem w_X4_openAt_4 (X : CX p s m args meth c D A cX4_openAt 4 "DyeLatticeModel") (v1 : Int32) : ∀ (n : Nat) (x : Int32 × Int32) (o : (Int32)), loopN (fun x => M_openAt_4 v1 now x.1 x.2) n x = some o → (V p l e rmX4_openAt s m args below meth c D A 4 Q (MW D a now past kept text queue isMet clusterOf fresh saved length met clusters frm ende wrong) 0 0 35 [(2, .int o)] []) → V p l e rmX4_openAt s m args below meth c D A 4 Q (MW D a now past kept text queue isMet clusterOf fresh saved length met clusters frm ende wrong) 0 0 4 [(0, .ref (a 0)), (1, .int v1), (2, .int x.1), (3, .int x.2)] [] := by
  refine v_loop (fun (x : Int32 × Int32) => V p l e rmX4_openAt s m args below meth c D A 4 Q (MW D a now past kept text queue isMet clusterOf fresh saved length met clusters frm ende wrong) 0 0 4 [(0, .ref (a 0)), (1, .int v1), (2, .int x.1), (3, .int x.2)] []) (fun (o : (Int32)) => V p l e rmX4_openAt s m args below meth c D A 4 Q (MW D a now past kept text queue isMet clusterOf fresh saved length met clusters frm ende wrong) 0 0 35 [(2, .int o)] []) ?_
  rintro ⟨v2, v3⟩ r hF hI hO
  replace hF : M_openAt_4 v1 now v2 v3 = some r := hF
  show V p l e rmX4_openAt s m args below meth c D A 4 Q (MW D a now past kept text queue isMet clusterOf fresh saved length met clusters frm ende wrong) 0 0 4 [(0, .ref (a 0)), (1, .int v1), (2, .int v2), (3, .int v3)] []
  unfold M_openAt_4 at hF
  refine v_iload_n 5 X 3 dX4_openAt_4 rfl rfl rfl ?_
  refine v_aload_n 6 X 0 dX4_openAt_5 rfl rfl rfl ?_
  obtain ⟨z6, hz6, hF⟩ := ob hF
  refine v_mVi 9 X 0 [] (w_X4_cells _ hz6) q1233 q1235 qs38 q95 q1236 hdX4_cells 0 rfl rfl pass_no ⟨rfl, rfl⟩ ⟨Nat.le_of_ble_eq_true rfl, Nat.le_of_ble_eq_true rfl⟩ ⟨Nat.le_refl 0, Nat.le_refl 0⟩ rfl rfl (Nat.le_of_ble_eq_true rfl) dX4_openAt_6 rfl ?_
  refine v_icmp_ge 12 35 X dX4_openAt_9 rfl (by decide) (fun h9 => ?_) (fun h9 => ?_)
  · replace hF := ifp h9 hF
    obtain rfl := Option.some.inj hF
    exact v_lv [2] rfl (hO _ rfl)
  · replace hF := ifn h9 hF
    refine v_iload_n 13 X 2 dX4_openAt_12 rfl rfl rfl ?_
    refine v_aload_n 14 X 0 dX4_openAt_13 rfl rfl rfl ?_
    refine v_iload_n 15 X 3 dX4_openAt_14 rfl rfl rfl ?_
    refine v_iload_n 16 X 1 dX4_openAt_15 rfl rfl rfl ?_
    obtain ⟨z16, hz16, hF⟩ := ob hF
    refine v_mVi 19 X 2 [.int v3, .int v1] (w_X4_isOpen v3 v1 _ hz16) q1278 q1280 qs46 q95 q1281 hdX4_isOpen 0 rfl rfl pass_no ⟨rfl, rfl⟩ ⟨Nat.le_of_ble_eq_true rfl, Nat.le_of_ble_eq_true rfl⟩ ⟨Nat.le_refl 0, Nat.le_refl 0⟩ rfl rfl (Nat.le_of_ble_eq_true rfl) dX4_openAt_16 rfl ?_
    refine v_if_eq 22 26 X dX4_openAt_19 rfl (by decide) (fun h19 => ?_) (fun h19 => ?_)
    · replace hF := ifp h19 hF
      refine v_iconst (v := 0) 27 X dX4_openAt_26 rfl ki_0 ?_
      refine v_iadd 28 X dX4_openAt_27 rfl ?_
      refine v_istore_n 29 [(2, .int (v2 + 0)), (0, .ref (a 0)), (1, .int v1), (3, .int v3)] X dX4_openAt_28 rfl rfl (by decide) rfl ?_
      refine v_iinc (v := (v3 + 1)) 32 [(3, .int (v3 + 1)), (2, .int (v2 + 0)), (0, .ref (a 0)), (1, .int v1)] X 3 dX4_openAt_29 rfl rfl (by rfl) (by decide) rfl ?_
      refine v_goto 4 X dX4_openAt_32 (by decide) ?_
      obtain rfl := Option.some.inj hF
      exact v_lv [2, 3, 1, 0] rfl (hI _ rfl)
    · replace hF := ifn h19 hF
      refine v_iconst (v := 1) 23 X dX4_openAt_22 rfl ki_1 ?_
      refine v_goto 27 X dX4_openAt_23 (by decide) ?_
      refine v_iadd 28 X dX4_openAt_27 rfl ?_
      refine v_istore_n 29 [(2, .int (v2 + 1)), (0, .ref (a 0)), (1, .int v1), (3, .int v3)] X dX4_openAt_28 rfl rfl (by decide) rfl ?_
      refine v_iinc (v := (v3 + 1)) 32 [(3, .int (v3 + 1)), (2, .int (v2 + 1)), (0, .ref (a 0)), (1, .int v1)] X 3 dX4_openAt_29 rfl rfl (by rfl) (by decide) rfl ?_
      refine v_goto 4 X dX4_openAt_32 (by decide) ?_
      obtain rfl := Option.some.inj hF
      exact v_lv [2, 3, 1, 0] rfl (hI _ rfl)
theorem w_X4_openAt (v1 : Int32) (r : Int32) (hF : M_openAt now v1 = some r) : CTi l yX4_openAt cX4_openAt 4 (Option.some Jvm.ClassFile.FieldType.int) rmX4_openAt D (MW D a now past kept text queue isMet clusterOf fresh saved length met clusters frm ende wrong) [.ref (a 0), .int v1] NoX (fun r1 u => r1 = r ∧ u = (MW D a now past kept text queue isMet clusterOf fresh saved length met clusters frm ende wrong)) := by
  refine m_i (by decide) (Nat.le_of_ble_eq_true rfl) ?_
  intro p e s m args below meth c A B
  obtain ⟨X, hr, -, -, -, -⟩ := B
  replace X : CX p s m args meth c D A cX4_openAt 4 "DyeLatticeModel" := X
  refine v_lv (lv' := [(0, .ref (a 0)), (1, .int v1)]) [0, 1] rfl ?_
  unfold M_openAt at hF
  refine v_iconst (v := 0) 1 X dX4_openAt_0 rfl ki_0 ?_
  refine v_istore_n 2 [(2, .int 0), (0, .ref (a 0)), (1, .int v1)] X dX4_openAt_1 rfl rfl (by decide) rfl ?_
  refine v_iconst (v := 0) 3 X dX4_openAt_2 rfl ki_0 ?_
  refine v_istore_n 4 [(3, .int 0), (2, .int 0), (0, .ref (a 0)), (1, .int v1)] X dX4_openAt_3 rfl rfl (by decide) rfl ?_
  obtain ⟨z4, hz4, hF⟩ := ob hF
  refine v_lv [2, 3, 1, 0] rfl (w_X4_openAt_4 X v1 _ (0, 0) _ hz4 ?_)
  refine v_iload_n 36 X 0 dX4_openAt_35 rfl rfl rfl ?_
  obtain rfl := Option.some.inj hF
  exact v_iret X hr ⟨rfl, rfl⟩ (Nat.zero_le _) (Nat.zero_le _) dX4_openAt_36
theorem w_X4_fill (v1 : Int32) (r : Int32 × (Nat → Int32) × (Nat → Int32) × Int32) (hF : M_fill now past saved v1 = some r) : CTi l yX4_fill cX4_fill 2 (Option.some Jvm.ClassFile.FieldType.int) rmX4_fill D (MW D a now past kept text queue isMet clusterOf fresh saved length met clusters frm ende wrong) [.ref (a 0), .int v1] NoX (fun r1 u => r1 = r.1 ∧ u = (MW D a r.2.1 r.2.2.1 kept text queue isMet clusterOf fresh r.2.2.2 length met clusters frm ende wrong)) := by
  refine m_i (by decide) (Nat.le_of_ble_eq_true rfl) ?_
  intro p e s m args below meth c A B
  obtain ⟨X, hr, -, -, -, -⟩ := B
  replace X : CX p s m args meth c D A cX4_fill 2 "DyeLatticeModel" := X
  refine v_lv (lv' := [(0, .ref (a 0)), (1, .int v1)]) [0, 1] rfl ?_
  unfold M_fill at hF
  refine v_iload_n 1 X 1 dX4_fill_0 rfl rfl rfl ?_
  refine v_iconst (v := 0) 2 X dX4_fill_1 rfl ki_0 ?_
  refine v_sipush (v := 9999) 5 X dX4_fill_2 rfl ks_9999 ?_
  obtain ⟨z5, hz5, hF⟩ := ob hF
  refine v_mSi 8 X 3 [.int v1, .int 0, .int 9999] (w_X4_within v1 0 9999 _ hz5) q1226 q1227 q95 q1228 hdX4_within pass_no ⟨rfl, rfl⟩ ⟨Nat.le_of_ble_eq_true rfl, Nat.le_of_ble_eq_true rfl⟩ ⟨Nat.le_refl 0, Nat.le_refl 0⟩ rfl rfl (Nat.le_of_ble_eq_true rfl) dX4_fill_5 rfl ?_
  refine v_if_ne 11 13 X dX4_fill_8 rfl (by decide) (fun h8 => ?_) (fun h8 => ?_)
  · replace hF := ifn h8 hF
    refine v_aload_n 14 X 0 dX4_fill_13 rfl rfl rfl ?_
    obtain ⟨z14, hz14, hF⟩ := ob hF
    refine v_mVv 17 X 0 [] (w_X4_saves _ hz14) q1229 q1231 qs37 q95 q1232 hdX4_saves 0 rfl rfl pass_no ⟨rfl, rfl⟩ ⟨Nat.le_of_ble_eq_true rfl, Nat.le_of_ble_eq_true rfl⟩ ⟨Nat.le_refl 0, Nat.le_refl 0⟩ rfl rfl (Nat.le_of_ble_eq_true rfl) dX4_fill_14 rfl ?_
    refine v_aload_n 18 X 0 dX4_fill_17 rfl rfl rfl ?_
    refine v_iload_n 19 X 1 dX4_fill_18 rfl rfl rfl ?_
    obtain ⟨z19, hz19, hF⟩ := ob hF
    refine v_mVv 22 X 1 [.int v1] (w_X4_fills v1 _ hz19) q1269 q1271 qs44 q95 q1272 hdX4_fills 0 rfl rfl pass_no ⟨rfl, rfl⟩ ⟨Nat.le_of_ble_eq_true rfl, Nat.le_of_ble_eq_true rfl⟩ ⟨Nat.le_refl 0, Nat.le_refl 0⟩ rfl rfl (Nat.le_of_ble_eq_true rfl) dX4_fill_19 rfl ?_
    refine v_aload_n 23 X 0 dX4_fill_22 rfl rfl rfl ?_
    refine v_aload_n 24 X 0 dX4_fill_23 rfl rfl rfl ?_
    refine v_get 27 X in_X4 0 0 rfl rfl (by decide) q1172 rfl rfl dX4_fill_24 rfl ?_
    refine v_iconst (v := 3) 28 X dX4_fill_27 rfl ki_3 ?_
    obtain ⟨z28, hz28, hF⟩ := ob hF
    refine v_iald 29 X 1 hz28 rfl dX4_fill_28 rfl ?_
    obtain ⟨z29, hz29, hF⟩ := ob hF
    refine v_mVi 32 X 1 [.int z28] (w_X4_openAt z28 _ hz29) q1274 q1276 qs45 q95 q1277 hdX4_openAt 0 rfl rfl pass_no ⟨rfl, rfl⟩ ⟨Nat.le_of_ble_eq_true rfl, Nat.le_of_ble_eq_true rfl⟩ ⟨Nat.le_refl 0, Nat.le_refl 0⟩ rfl rfl (Nat.le_of_ble_eq_true rfl) dX4_fill_29 rfl ?_
    obtain rfl := Option.some.inj hF
    exact v_iret X hr ⟨rfl, rfl⟩ (Nat.zero_le _) (Nat.zero_le _) dX4_fill_32
  · replace hF := ifp h8 hF
    refine v_iconst (v := (-1)) 12 X dX4_fill_11 rfl ki_m1 ?_
    obtain rfl := Option.some.inj hF
    exact v_iret X hr ⟨rfl, rfl⟩ (Nat.zero_le _) (Nat.zero_le _) dX4_fill_12
theorem w_X4_valveOf (v1 : Int32) (v2 : Int32) (r : Int32) (hF : M_valveOf now v1 v2 = some r) : CTi l yX4_valveOf cX4_valveOf 3 (Option.some Jvm.ClassFile.FieldType.int) rmX4_valveOf D (MW D a now past kept text queue isMet clusterOf fresh saved length met clusters frm ende wrong) [.ref (a 0), .int v1, .int v2] NoX (fun r1 u => r1 = r ∧ u = (MW D a now past kept text queue isMet clusterOf fresh saved length met clusters frm ende wrong)) := by
  refine m_i (by decide) (Nat.le_of_ble_eq_true rfl) ?_
  intro p e s m args below meth c A B
  obtain ⟨X, hr, -, -, -, -⟩ := B
  replace X : CX p s m args meth c D A cX4_valveOf 3 "DyeLatticeModel" := X
  refine v_lv (lv' := [(0, .ref (a 0)), (1, .int v1), (2, .int v2)]) [0, 1, 2] rfl ?_
  unfold M_valveOf at hF
  refine v_aload_n 1 X 0 dX4_valveOf_0 rfl rfl rfl ?_
  refine v_get 4 X in_X4 0 0 rfl rfl (by decide) q1172 rfl rfl dX4_valveOf_1 rfl ?_
  refine v_bipush (v := 87) 6 X dX4_valveOf_4 rfl kb_87 ?_
  refine v_iconst (v := 4) 7 X dX4_valveOf_6 rfl ki_4 ?_
  refine v_iload_n 8 X 1 dX4_valveOf_7 rfl rfl rfl ?_
  refine v_imul 9 X dX4_valveOf_8 rfl ?_
  refine v_iadd 10 X dX4_valveOf_9 rfl ?_
  refine v_iload_n 11 X 2 dX4_valveOf_10 rfl rfl rfl ?_
  refine v_iadd 12 X dX4_valveOf_11 rfl ?_
  obtain ⟨z12, hz12, hF⟩ := ob hF
  refine v_iald 13 X 1 hz12 rfl dX4_valveOf_12 rfl ?_
  obtain rfl := Option.some.inj hF
  exact v_iret X hr ⟨rfl, rfl⟩ (Nat.zero_le _) (Nat.zero_le _) dX4_valveOf_13
theorem w_X4_setValve (v1 : Int32) (v2 : Int32) (v3 : Int32) (r : Int32 × (Nat → Int32) × (Nat → Int32) × Int32) (hF : M_setValve now past saved v1 v2 v3 = some r) : CTi l yX4_setValve cX4_setValve 5 (Option.some Jvm.ClassFile.FieldType.int) rmX4_setValve D (MW D a now past kept text queue isMet clusterOf fresh saved length met clusters frm ende wrong) [.ref (a 0), .int v1, .int v2, .int v3] NoX (fun r1 u => r1 = r.1 ∧ u = (MW D a r.2.1 r.2.2.1 kept text queue isMet clusterOf fresh r.2.2.2 length met clusters frm ende wrong)) := by
  refine m_i (by decide) (Nat.le_of_ble_eq_true rfl) ?_
  intro p e s m args below meth c A B
  obtain ⟨X, hr, -, -, -, -⟩ := B
  replace X : CX p s m args meth c D A cX4_setValve 5 "DyeLatticeModel" := X
  refine v_lv (lv' := [(0, .ref (a 0)), (1, .int v1), (2, .int v2), (3, .int v3)]) [0, 1, 2, 3] rfl ?_
  unfold M_setValve at hF
  refine v_aload_n 1 X 0 dX4_setValve_0 rfl rfl rfl ?_
  refine v_iload_n 2 X 1 dX4_setValve_1 rfl rfl rfl ?_
  refine v_iload_n 3 X 2 dX4_setValve_2 rfl rfl rfl ?_
  obtain ⟨z3, hz3, hF⟩ := ob hF
  refine v_mVi 6 X 2 [.int v1, .int v2] (w_X4_second v1 v2 _ hz3) q1249 q1251 qs41 q95 q1252 hdX4_second 0 rfl rfl pass_no ⟨rfl, rfl⟩ ⟨Nat.le_of_ble_eq_true rfl, Nat.le_of_ble_eq_true rfl⟩ ⟨Nat.le_refl 0, Nat.le_refl 0⟩ rfl rfl (Nat.le_of_ble_eq_true rfl) dX4_setValve_3 rfl ?_
  refine v_bipush (v := (-9)) 8 X dX4_setValve_6 rfl kb_m9 ?_
  refine v_icmp_eq 11 20 X dX4_setValve_8 rfl (by decide) (fun h8 => ?_) (fun h8 => ?_)
  · replace hF := ifp h8 hF
    refine v_iconst (v := (-1)) 21 X dX4_setValve_20 rfl ki_m1 ?_
    obtain rfl := Option.some.inj hF
    exact v_iret X hr ⟨rfl, rfl⟩ (Nat.zero_le _) (Nat.zero_le _) dX4_setValve_21
  · replace hF := ifn h8 hF
    refine v_iload_n 12 X 3 dX4_setValve_11 rfl rfl rfl ?_
    refine v_iconst (v := 0) 13 X dX4_setValve_12 rfl ki_0 ?_
    refine v_iconst (v := 4) 14 X dX4_setValve_13 rfl ki_4 ?_
    obtain ⟨z14, hz14, hF⟩ := ob hF
    refine v_mSi 17 X 3 [.int v3, .int 0, .int 4] (w_X4_within v3 0 4 _ hz14) q1226 q1227 q95 q1228 hdX4_within pass_no ⟨rfl, rfl⟩ ⟨Nat.le_of_ble_eq_true rfl, Nat.le_of_ble_eq_true rfl⟩ ⟨Nat.le_refl 0, Nat.le_refl 0⟩ rfl rfl (Nat.le_of_ble_eq_true rfl) dX4_setValve_14 rfl ?_
    refine v_if_ne 20 22 X dX4_setValve_17 rfl (by decide) (fun h17 => ?_) (fun h17 => ?_)
    · replace hF := ifn h17 hF
      refine v_aload_n 23 X 0 dX4_setValve_22 rfl rfl rfl ?_
      refine v_iload_n 24 X 1 dX4_setValve_23 rfl rfl rfl ?_
      refine v_iload_n 25 X 2 dX4_setValve_24 rfl rfl rfl ?_
      obtain ⟨z25, hz25, hF⟩ := ob hF
      refine v_mVi 28 X 2 [.int v1, .int v2] (w_X4_valveOf v1 v2 _ hz25) q1286 q1288 qs47 q95 q1289 hdX4_valveOf 0 rfl rfl pass_no ⟨rfl, rfl⟩ ⟨Nat.le_of_ble_eq_true rfl, Nat.le_of_ble_eq_true rfl⟩ ⟨Nat.le_refl 0, Nat.le_refl 0⟩ rfl rfl (Nat.le_of_ble_eq_true rfl) dX4_setValve_25 rfl ?_
      refine v_istore 30 [(4, .int z25), (0, .ref (a 0)), (1, .int v1), (2, .int v2), (3, .int v3)] X dX4_setValve_28 rfl (by decide) rfl ?_
      refine v_aload_n 31 X 1 dX4_setValve_30 rfl rfl rfl ?_
      obtain ⟨z31, hz31, hF⟩ := ob hF
      refine v_mVv 34 X 0 [] (w_X4_saves _ hz31) q1229 q1231 qs37 q95 q1232 hdX4_saves 0 rfl rfl pass_no ⟨rfl, rfl⟩ ⟨Nat.le_of_ble_eq_true rfl, Nat.le_of_ble_eq_true rfl⟩ ⟨Nat.le_refl 0, Nat.le_refl 0⟩ rfl rfl (Nat.le_of_ble_eq_true rfl) dX4_setValve_31 rfl ?_
      refine v_aload_n 35 X 1 dX4_setValve_34 rfl rfl rfl ?_
      refine v_get 38 X in_X4 0 0 rfl rfl (by decide) q1172 rfl rfl dX4_setValve_35 rfl ?_
      refine v_bipush (v := 87) 40 X dX4_setValve_38 rfl kb_87 ?_
      refine v_iconst (v := 4) 41 X dX4_setValve_40 rfl ki_4 ?_
      refine v_iload_n 42 X 2 dX4_setValve_41 rfl rfl rfl ?_
      refine v_imul 43 X dX4_setValve_42 rfl ?_
      refine v_iadd 44 X dX4_setValve_43 rfl ?_
      refine v_iload_n 45 X 3 dX4_setValve_44 rfl rfl rfl ?_
      refine v_iadd 46 X dX4_setValve_45 rfl ?_
      refine v_iload_n 47 X 4 dX4_setValve_46 rfl rfl rfl ?_
      obtain ⟨z47, hz47, hF⟩ := ob hF
      refine v_iast 48 (MW D a z47 z31.1 kept text queue isMet clusterOf fresh z31.2 length met clusters frm ende wrong) X 1 hz47 rfl dX4_setValve_47 rfl rfl ?_
      refine v_iload 50 X 0 dX4_setValve_48 rfl rfl ?_
      obtain rfl := Option.some.inj hF
      exact v_iret X hr ⟨rfl, rfl⟩ (Nat.zero_le _) (Nat.zero_le _) dX4_setValve_50
    · replace hF := ifp h17 hF
      refine v_iconst (v := (-1)) 21 X dX4_setValve_20 rfl ki_m1 ?_
      obtain rfl := Option.some.inj hF
      exact v_iret X hr ⟨rfl, rfl⟩ (Nat.zero_le _) (Nat.zero_le _) dX4_setValve_21
theorem w_X4_setThreshold (v1 : Int32) (r : Int32 × (Nat → Int32) × (Nat → Int32) × Int32) (hF : M_setThreshold now past saved v1 = some r) : CTi l yX4_setThreshold cX4_setThreshold 2 (Option.some Jvm.ClassFile.FieldType.int) rmX4_setThreshold D (MW D a now past kept text queue isMet clusterOf fresh saved length met clusters frm ende wrong) [.ref (a 0), .int v1] NoX (fun r1 u => r1 = r.1 ∧ u = (MW D a r.2.1 r.2.2.1 kept text queue isMet clusterOf fresh r.2.2.2 length met clusters frm ende wrong)) := by
  refine m_i (by decide) (Nat.le_of_ble_eq_true rfl) ?_
  intro p e s m args below meth c A B
  obtain ⟨X, hr, -, -, -, -⟩ := B
  replace X : CX p s m args meth c D A cX4_setThreshold 2 "DyeLatticeModel" := X
  refine v_lv (lv' := [(0, .ref (a 0)), (1, .int v1)]) [0, 1] rfl ?_
  unfold M_setThreshold at hF
  refine v_iload_n 1 X 1 dX4_setThreshold_0 rfl rfl rfl ?_
  refine v_iconst (v := 0) 2 X dX4_setThreshold_1 rfl ki_0 ?_
  refine v_bipush (v := 100) 4 X dX4_setThreshold_2 rfl kb_100 ?_
  obtain ⟨z4, hz4, hF⟩ := ob hF
  refine v_mSi 7 X 3 [.int v1, .int 0, .int 100] (w_X4_within v1 0 100 _ hz4) q1226 q1227 q95 q1228 hdX4_within pass_no ⟨rfl, rfl⟩ ⟨Nat.le_of_ble_eq_true rfl, Nat.le_of_ble_eq_true rfl⟩ ⟨Nat.le_refl 0, Nat.le_refl 0⟩ rfl rfl (Nat.le_of_ble_eq_true rfl) dX4_setThreshold_4 rfl ?_
  refine v_if_ne 10 12 X dX4_setThreshold_7 rfl (by decide) (fun h7 => ?_) (fun h7 => ?_)
  · replace hF := ifn h7 hF
    refine v_aload_n 13 X 0 dX4_setThreshold_12 rfl rfl rfl ?_
    obtain ⟨z13, hz13, hF⟩ := ob hF
    refine v_mVv 16 X 0 [] (w_X4_saves _ hz13) q1229 q1231 qs37 q95 q1232 hdX4_saves 0 rfl rfl pass_no ⟨rfl, rfl⟩ ⟨Nat.le_of_ble_eq_true rfl, Nat.le_of_ble_eq_true rfl⟩ ⟨Nat.le_refl 0, Nat.le_refl 0⟩ rfl rfl (Nat.le_of_ble_eq_true rfl) dX4_setThreshold_13 rfl ?_
    refine v_aload_n 17 X 0 dX4_setThreshold_16 rfl rfl rfl ?_
    refine v_get 20 X in_X4 0 0 rfl rfl (by decide) q1172 rfl rfl dX4_setThreshold_17 rfl ?_
    refine v_iconst (v := 3) 21 X dX4_setThreshold_20 rfl ki_3 ?_
    refine v_iload_n 22 X 1 dX4_setThreshold_21 rfl rfl rfl ?_
    obtain ⟨z22, hz22, hF⟩ := ob hF
    refine v_iast 23 (MW D a z22 z13.1 kept text queue isMet clusterOf fresh z13.2 length met clusters frm ende wrong) X 1 hz22 rfl dX4_setThreshold_22 rfl rfl ?_
    refine v_aload_n 24 X 0 dX4_setThreshold_23 rfl rfl rfl ?_
    refine v_iload_n 25 X 1 dX4_setThreshold_24 rfl rfl rfl ?_
    obtain ⟨z25, hz25, hF⟩ := ob hF
    refine v_mVi 28 X 1 [.int v1] (w_X4_openAt v1 _ hz25) q1274 q1276 qs45 q95 q1277 hdX4_openAt 0 rfl rfl pass_no ⟨rfl, rfl⟩ ⟨Nat.le_of_ble_eq_true rfl, Nat.le_of_ble_eq_true rfl⟩ ⟨Nat.le_refl 0, Nat.le_refl 0⟩ rfl rfl (Nat.le_of_ble_eq_true rfl) dX4_setThreshold_25 rfl ?_
    obtain rfl := Option.some.inj hF
    exact v_iret X hr ⟨rfl, rfl⟩ (Nat.zero_le _) (Nat.zero_le _) dX4_setThreshold_28
  · replace hF := ifp h7 hF
    refine v_iconst (v := (-1)) 11 X dX4_setThreshold_10 rfl ki_m1 ?_
    obtain rfl := Option.some.inj hF
    exact v_iret X hr ⟨rfl, rfl⟩ (Nat.zero_le _) (Nat.zero_le _) dX4_setThreshold_11
theorem w_X4_has (v0 : Int32) (v1 : Int32) (r : Int32) (hF : M_has v0 v1 = some r) : CTi l yX4_has cX4_has 2 (Option.some Jvm.ClassFile.FieldType.boolean) rmX4_has D (MW D a now past kept text queue isMet clusterOf fresh saved length met clusters frm ende wrong) [.int v0, .int v1] NoX (fun r1 u => r1 = r ∧ u = (MW D a now past kept text queue isMet clusterOf fresh saved length met clusters frm ende wrong)) := by
  refine m_i (by decide) (Nat.le_of_ble_eq_true rfl) ?_
  intro p e s m args below meth c A B
  obtain ⟨X, hr, -, -, -, -⟩ := B
  replace X : CX p s m args meth c D A cX4_has 2 "DyeLatticeModel" := X
  refine v_lv (lv' := [(0, .int v0), (1, .int v1)]) [0, 1] rfl ?_
  unfold M_has at hF
  refine v_iload_n 1 X 0 dX4_has_0 rfl rfl rfl ?_
  refine v_iload_n 2 X 1 dX4_has_1 rfl rfl rfl ?_
  refine v_ishr 3 X dX4_has_2 rfl ?_
  refine v_iconst (v := 1) 4 X dX4_has_3 rfl ki_1 ?_
  refine v_iand 5 X dX4_has_4 rfl ?_
  refine v_iconst (v := 1) 6 X dX4_has_5 rfl ki_1 ?_
  refine v_icmp_ne 9 13 X dX4_has_6 rfl (by decide) (fun h6 => ?_) (fun h6 => ?_)
  · replace hF := ifn h6 hF
    refine v_iconst (v := 0) 14 X dX4_has_13 rfl ki_0 ?_
    obtain rfl := Option.some.inj hF
    exact v_zret X hr rfl ⟨rfl, rfl⟩ (Nat.zero_le _) (Nat.zero_le _) dX4_has_14
  · replace hF := ifp h6 hF
    refine v_iconst (v := 1) 10 X dX4_has_9 rfl ki_1 ?_
    refine v_goto 14 X dX4_has_10 (by decide) ?_
    obtain rfl := Option.some.inj hF
    exact v_zret X hr rfl ⟨rfl, rfl⟩ (Nat.zero_le _) (Nat.zero_le _) dX4_has_14
theorem w_X4_withDye_5 (X : CX p s m args meth c D A cX4_withDye 5 "DyeLatticeModel") (v1 : Int32) (v2 : Int32) : ∀ (n : Nat) (x : Int32 × Int32) (o : (Int32)), loopN (fun x => M_withDye_5 v1 v2 now x.1 x.2) n x = some o → (V p l e rmX4_withDye s m args below meth c D A 5 Q (MW D a now past kept text queue isMet clusterOf fresh saved length met clusters frm ende wrong) 0 0 44 [(3, .int o)] []) → V p l e rmX4_withDye s m args below meth c D A 5 Q (MW D a now past kept text queue isMet clusterOf fresh saved length met clusters frm ende wrong) 0 0 5 [(0, .ref (a 0)), (1, .int v1), (2, .int v2), (3, .int x.1), (4, .int x.2)] [] := by
  refine v_loop (fun (x : Int32 × Int32) => V p l e rmX4_withDye s m args below meth c D A 5 Q (MW D a now past kept text queue isMet clusterOf fresh saved length met clusters frm ende wrong) 0 0 5 [(0, .ref (a 0)), (1, .int v1), (2, .int v2), (3, .int x.1), (4, .int x.2)] []) (fun (o : (Int32)) => V p l e rmX4_withDye s m args below meth c D A 5 Q (MW D a now past kept text queue isMet clusterOf fresh saved length met clusters frm ende wrong) 0 0 44 [(3, .int o)] []) ?_
  rintro ⟨v3, v4⟩ r hF hI hO
  replace hF : M_withDye_5 v1 v2 now v3 v4 = some r := hF
  show V p l e rmX4_withDye s m args below meth c D A 5 Q (MW D a now past kept text queue isMet clusterOf fresh saved length met clusters frm ende wrong) 0 0 5 [(0, .ref (a 0)), (1, .int v1), (2, .int v2), (3, .int v3), (4, .int v4)] []
  unfold M_withDye_5 at hF
  refine v_iload 7 X 4 dX4_withDye_5 rfl rfl ?_
  refine v_aload_n 8 X 0 dX4_withDye_7 rfl rfl rfl ?_
  obtain ⟨z8, hz8, hF⟩ := ob hF
  refine v_mVi 11 X 0 [] (w_X4_cells _ hz8) q1233 q1235 qs38 q95 q1236 hdX4_cells 0 rfl rfl pass_no ⟨rfl, rfl⟩ ⟨Nat.le_of_ble_eq_true rfl, Nat.le_of_ble_eq_true rfl⟩ ⟨Nat.le_refl 0, Nat.le_refl 0⟩ rfl rfl (Nat.le_of_ble_eq_true rfl) dX4_withDye_8 rfl ?_
  refine v_icmp_ge 14 44 X dX4_withDye_11 rfl (by decide) (fun h11 => ?_) (fun h11 => ?_)
  · replace hF := ifp h11 hF
    obtain rfl := Option.some.inj hF
    exact v_lv [3] rfl (hO _ rfl)
  · replace hF := ifn h11 hF
    refine v_iload_n 15 X 3 dX4_withDye_14 rfl rfl rfl ?_
    refine v_aload_n 16 X 0 dX4_withDye_15 rfl rfl rfl ?_
    refine v_get 19 X in_X4 0 0 rfl rfl (by decide) q1172 rfl rfl dX4_withDye_16 rfl ?_
    refine v_iload_n 20 X 1 dX4_withDye_19 rfl rfl rfl ?_
    refine v_iload 22 X 4 dX4_withDye_20 rfl rfl ?_
    refine v_iadd 23 X dX4_withDye_22 rfl ?_
    obtain ⟨z23, hz23, hF⟩ := ob hF
    refine v_iald 24 X 1 hz23 rfl dX4_withDye_23 rfl ?_
    refine v_iload_n 25 X 2 dX4_withDye_24 rfl rfl rfl ?_
    obtain ⟨z25, hz25, hF⟩ := ob hF
    refine v_mSi 28 X 2 [.int z23, .int v2] (w_X4_has z23 v2 _ hz25) q1298 q1299 q95 q1300 hdX4_has pass_no ⟨rfl, rfl⟩ ⟨Nat.le_of_ble_eq_true rfl, Nat.le_of_ble_eq_true rfl⟩ ⟨Nat.le_refl 0, Nat.le_refl 0⟩ rfl rfl (Nat.le_of_ble_eq_true rfl) dX4_withDye_25 rfl ?_
    refine v_if_eq 31 35 X dX4_withDye_28 rfl (by decide) (fun h28 => ?_) (fun h28 => ?_)
    · replace hF := ifp h28 hF
      refine v_iconst (v := 0) 36 X dX4_withDye_35 rfl ki_0 ?_
      refine v_iadd 37 X dX4_withDye_36 rfl ?_
      refine v_istore_n 38 [(3, .int (v3 + 0)), (0, .ref (a 0)), (1, .int v1), (2, .int v2), (4, .int v4)] X dX4_withDye_37 rfl rfl (by decide) rfl ?_
      refine v_iinc (v := (v4 + 1)) 41 [(4, .int (v4 + 1)), (3, .int (v3 + 0)), (0, .ref (a 0)), (1, .int v1), (2, .int v2)] X 4 dX4_withDye_38 rfl rfl (by rfl) (by decide) rfl ?_
      refine v_goto 5 X dX4_withDye_41 (by decide) ?_
      obtain rfl := Option.some.inj hF
      exact v_lv [2, 3, 4, 1, 0] rfl (hI _ rfl)
    · replace hF := ifn h28 hF
      refine v_iconst (v := 1) 32 X dX4_withDye_31 rfl ki_1 ?_
      refine v_goto 36 X dX4_withDye_32 (by decide) ?_
      refine v_iadd 37 X dX4_withDye_36 rfl ?_
      refine v_istore_n 38 [(3, .int (v3 + 1)), (0, .ref (a 0)), (1, .int v1), (2, .int v2), (4, .int v4)] X dX4_withDye_37 rfl rfl (by decide) rfl ?_
      refine v_iinc (v := (v4 + 1)) 41 [(4, .int (v4 + 1)), (3, .int (v3 + 1)), (0, .ref (a 0)), (1, .int v1), (2, .int v2)] X 4 dX4_withDye_38 rfl rfl (by rfl) (by decide) rfl ?_
      refine v_goto 5 X dX4_withDye_41 (by decide) ?_
      obtain rfl := Option.some.inj hF
      exact v_lv [2, 3, 4, 1, 0] rfl (hI _ rfl)
theorem w_X4_withDye (v1 : Int32) (v2 : Int32) (r : Int32) (hF : M_withDye now v1 v2 = some r) : CTi l yX4_withDye cX4_withDye 5 (Option.some Jvm.ClassFile.FieldType.int) rmX4_withDye D (MW D a now past kept text queue isMet clusterOf fresh saved length met clusters frm ende wrong) [.ref (a 0), .int v1, .int v2] NoX (fun r1 u => r1 = r ∧ u = (MW D a now past kept text queue isMet clusterOf fresh saved length met clusters frm ende wrong)) := by
  refine m_i (by decide) (Nat.le_of_ble_eq_true rfl) ?_
  intro p e s m args below meth c A B
  obtain ⟨X, hr, -, -, -, -⟩ := B
  replace X : CX p s m args meth c D A cX4_withDye 5 "DyeLatticeModel" := X
  refine v_lv (lv' := [(0, .ref (a 0)), (1, .int v1), (2, .int v2)]) [0, 1, 2] rfl ?_
  unfold M_withDye at hF
  refine v_iconst (v := 0) 1 X dX4_withDye_0 rfl ki_0 ?_
  refine v_istore_n 2 [(3, .int 0), (0, .ref (a 0)), (1, .int v1), (2, .int v2)] X dX4_withDye_1 rfl rfl (by decide) rfl ?_
  refine v_iconst (v := 0) 3 X dX4_withDye_2 rfl ki_0 ?_
  refine v_istore 5 [(4, .int 0), (3, .int 0), (0, .ref (a 0)), (1, .int v1), (2, .int v2)] X dX4_withDye_3 rfl (by decide) rfl ?_
  obtain ⟨z5, hz5, hF⟩ := ob hF
  refine v_lv [2, 3, 4, 1, 0] rfl (w_X4_withDye_5 X v1 v2 _ (0, 0) _ hz5 ?_)
  refine v_iload_n 45 X 0 dX4_withDye_44 rfl rfl rfl ?_
  obtain rfl := Option.some.inj hF
  exact v_iret X hr ⟨rfl, rfl⟩ (Nat.zero_le _) (Nat.zero_le _) dX4_withDye_45
theorem w_X4_setSource_j52 (X : CX p s m args meth c D A cX4_setSource 4 "DyeLatticeModel") (hr : meth.sig.returnType = (Option.some Jvm.ClassFile.FieldType.int)) {r : Int32 × (Nat → Int32) × (Nat → Int32) × Int32} (v1 : Int32) (v2 : Int32) (v3 : Int32) (s0 : Int32) (s1 : Int32) (hF : M_setSource_j52 now past saved v1 v2 v3 s0 s1 = some r) : V p l e rmX4_setSource s m args below meth c D A 4 (MQ below (va_Qi (fun r1 u => r1 = r.1 ∧ u = (MW D a r.2.1 r.2.2.1 kept text queue isMet clusterOf fresh r.2.2.2 length met clusters frm ende wrong)) (Wd D A) A) args s rmX4_setSource.cells rmX4_setSource.slots A) (MW D a now past kept text queue isMet clusterOf fresh saved length met clusters frm ende wrong) 0 0 52 [(0, .ref (a 0)), (1, .int v1), (2, .int v2), (3, .int v3)] [.int s1, .int s0] := by
  unfold M_setSource_j52 at hF
  refine v_icmp_ne 55 58 X dX4_setSource_52 rfl (by decide) (fun h52 => ?_) (fun h52 => ?_)
  · replace hF := ifn h52 hF
    refine v_aload_n 59 X 0 dX4_setSource_58 rfl rfl rfl ?_
    obtain ⟨z59, hz59, hF⟩ := ob hF
    refine v_mVv 62 X 0 [] (w_X4_saves _ hz59) q1229 q1231 qs37 q95 q1232 hdX4_saves 0 rfl rfl pass_no ⟨rfl, rfl⟩ ⟨Nat.le_of_ble_eq_true rfl, Nat.le_of_ble_eq_true rfl⟩ ⟨Nat.le_refl 0, Nat.le_refl 0⟩ rfl rfl (Nat.le_of_ble_eq_true rfl) dX4_setSource_59 rfl ?_
    refine v_aload_n 63 X 0 dX4_setSource_62 rfl rfl rfl ?_
    refine v_get 66 X in_X4 0 0 rfl rfl (by decide) q1172 rfl rfl dX4_setSource_63 rfl ?_
    refine v_sipush (v := 407) 69 X dX4_setSource_66 rfl ks_407 ?_
    refine v_iload_n 70 X 1 dX4_setSource_69 rfl rfl rfl ?_
    refine v_iadd 71 X dX4_setSource_70 rfl ?_
    refine v_dup2 72 X dX4_setSource_71 rfl rfl rfl ?_
    obtain ⟨z72, hz72, hF⟩ := ob hF
    refine v_iald 73 X 1 hz72 rfl dX4_setSource_72 rfl ?_
    refine v_iload_n 74 X 3 dX4_setSource_73 rfl rfl rfl ?_
    refine v_iconst (v := 1) 75 X dX4_setSource_74 rfl ki_1 ?_
    refine v_icmp_ne 78 84 X dX4_setSource_75 rfl (by decide) (fun h75 => ?_) (fun h75 => ?_)
    · replace hF := ifn h75 hF
      refine v_iconst (v := 1) 85 X dX4_setSource_84 rfl ki_1 ?_
      refine v_iload_n 86 X 2 dX4_setSource_85 rfl rfl rfl ?_
      refine v_ishl 87 X dX4_setSource_86 rfl ?_
      refine v_ineg 88 X dX4_setSource_87 rfl ?_
      refine v_iadd 89 X dX4_setSource_88 rfl ?_
      obtain ⟨z89, hz89, hF⟩ := ob hF
      refine v_iast 90 (MW D a z89 z59.1 kept text queue isMet clusterOf fresh z59.2 length met clusters frm ende wrong) X 1 hz89 rfl dX4_setSource_89 rfl rfl ?_
      refine v_aload_n 91 X 0 dX4_setSource_90 rfl rfl rfl ?_
      refine v_sipush (v := 407) 94 X dX4_setSource_91 rfl ks_407 ?_
      refine v_iload_n 95 X 2 dX4_setSource_94 rfl rfl rfl ?_
      obtain ⟨z95, hz95, hF⟩ := ob hF
      refine v_mVi 98 X 2 [.int 407, .int v2] (w_X4_withDye 407 v2 _ hz95) q1301 q1303 qs48 q95 q1304 hdX4_withDye 0 rfl rfl pass_no ⟨rfl, rfl⟩ ⟨Nat.le_of_ble_eq_true rfl, Nat.le_of_ble_eq_true rfl⟩ ⟨Nat.le_refl 0, Nat.le_refl 0⟩ rfl rfl (Nat.le_of_ble_eq_true rfl) dX4_setSource_95 rfl ?_
      obtain rfl := Option.some.inj hF
      exact v_iret X hr ⟨rfl, rfl⟩ (Nat.zero_le _) (Nat.zero_le _) dX4_setSource_98
    · replace hF := ifp h75 hF
      refine v_iconst (v := 1) 79 X dX4_setSource_78 rfl ki_1 ?_
      refine v_iload_n 80 X 2 dX4_setSource_79 rfl rfl rfl ?_
      refine v_ishl 81 X dX4_setSource_80 rfl ?_
      refine v_goto 88 X dX4_setSource_81 (by decide) ?_
      refine v_iadd 89 X dX4_setSource_88 rfl ?_
      obtain ⟨z89, hz89, hF⟩ := ob hF
      refine v_iast 90 (MW D a z89 z59.1 kept text queue isMet clusterOf fresh z59.2 length met clusters frm ende wrong) X 1 hz89 rfl dX4_setSource_89 rfl rfl ?_
      refine v_aload_n 91 X 0 dX4_setSource_90 rfl rfl rfl ?_
      refine v_sipush (v := 407) 94 X dX4_setSource_91 rfl ks_407 ?_
      refine v_iload_n 95 X 2 dX4_setSource_94 rfl rfl rfl ?_
      obtain ⟨z95, hz95, hF⟩ := ob hF
      refine v_mVi 98 X 2 [.int 407, .int v2] (w_X4_withDye 407 v2 _ hz95) q1301 q1303 qs48 q95 q1304 hdX4_withDye 0 rfl rfl pass_no ⟨rfl, rfl⟩ ⟨Nat.le_of_ble_eq_true rfl, Nat.le_of_ble_eq_true rfl⟩ ⟨Nat.le_refl 0, Nat.le_refl 0⟩ rfl rfl (Nat.le_of_ble_eq_true rfl) dX4_setSource_95 rfl ?_
      obtain rfl := Option.some.inj hF
      exact v_iret X hr ⟨rfl, rfl⟩ (Nat.zero_le _) (Nat.zero_le _) dX4_setSource_98
  · replace hF := ifp h52 hF
    refine v_bipush (v := (-2)) 57 X dX4_setSource_55 rfl kb_m2 ?_
    obtain rfl := Option.some.inj hF
    exact v_iret X hr ⟨rfl, rfl⟩ (Nat.zero_le _) (Nat.zero_le _) dX4_setSource_57
theorem w_X4_setSource (v1 : Int32) (v2 : Int32) (v3 : Int32) (r : Int32 × (Nat → Int32) × (Nat → Int32) × Int32) (hF : M_setSource now past saved v1 v2 v3 = some r) : CTi l yX4_setSource cX4_setSource 4 (Option.some Jvm.ClassFile.FieldType.int) rmX4_setSource D (MW D a now past kept text queue isMet clusterOf fresh saved length met clusters frm ende wrong) [.ref (a 0), .int v1, .int v2, .int v3] NoX (fun r1 u => r1 = r.1 ∧ u = (MW D a r.2.1 r.2.2.1 kept text queue isMet clusterOf fresh r.2.2.2 length met clusters frm ende wrong)) := by
  refine m_i (by decide) (Nat.le_of_ble_eq_true rfl) ?_
  intro p e s m args below meth c A B
  obtain ⟨X, hr, -, -, -, -⟩ := B
  replace X : CX p s m args meth c D A cX4_setSource 4 "DyeLatticeModel" := X
  refine v_lv (lv' := [(0, .ref (a 0)), (1, .int v1), (2, .int v2), (3, .int v3)]) [0, 1, 2, 3] rfl ?_
  unfold M_setSource at hF
  refine v_aload_n 1 X 0 dX4_setSource_0 rfl rfl rfl ?_
  refine v_iload_n 2 X 1 dX4_setSource_1 rfl rfl rfl ?_
  obtain ⟨z2, hz2, hF⟩ := ob hF
  refine v_mVi 5 X 1 [.int v1] (w_X4_isCell v1 _ hz2) q1253 q1255 qs42 q95 q1256 hdX4_isCell 0 rfl rfl pass_no ⟨rfl, rfl⟩ ⟨Nat.le_of_ble_eq_true rfl, Nat.le_of_ble_eq_true rfl⟩ ⟨Nat.le_refl 0, Nat.le_refl 0⟩ rfl rfl (Nat.le_of_ble_eq_true rfl) dX4_setSource_2 rfl ?_
  refine v_if_eq 8 26 X dX4_setSource_5 rfl (by decide) (fun h5 => ?_) (fun h5 => ?_)
  · replace hF := ifp h5 hF
    refine v_iconst (v := (-1)) 27 X dX4_setSource_26 rfl ki_m1 ?_
    obtain rfl := Option.some.inj hF
    exact v_iret X hr ⟨rfl, rfl⟩ (Nat.zero_le _) (Nat.zero_le _) dX4_setSource_27
  · replace hF := ifn h5 hF
    refine v_iload_n 9 X 2 dX4_setSource_8 rfl rfl rfl ?_
    refine v_iconst (v := 0) 10 X dX4_setSource_9 rfl ki_0 ?_
    refine v_iconst (v := 2) 11 X dX4_setSource_10 rfl ki_2 ?_
    obtain ⟨z11, hz11, hF⟩ := ob hF
    refine v_mSi 14 X 3 [.int v2, .int 0, .int 2] (w_X4_within v2 0 2 _ hz11) q1226 q1227 q95 q1228 hdX4_within pass_no ⟨rfl, rfl⟩ ⟨Nat.le_of_ble_eq_true rfl, Nat.le_of_ble_eq_true rfl⟩ ⟨Nat.le_refl 0, Nat.le_refl 0⟩ rfl rfl (Nat.le_of_ble_eq_true rfl) dX4_setSource_11 rfl ?_
    refine v_if_eq 17 26 X dX4_setSource_14 rfl (by decide) (fun h14 => ?_) (fun h14 => ?_)
    · replace hF := ifp h14 hF
      refine v_iconst (v := (-1)) 27 X dX4_setSource_26 rfl ki_m1 ?_
      obtain rfl := Option.some.inj hF
      exact v_iret X hr ⟨rfl, rfl⟩ (Nat.zero_le _) (Nat.zero_le _) dX4_setSource_27
    · replace hF := ifn h14 hF
      refine v_iload_n 18 X 3 dX4_setSource_17 rfl rfl rfl ?_
      refine v_iconst (v := 0) 19 X dX4_setSource_18 rfl ki_0 ?_
      refine v_iconst (v := 1) 20 X dX4_setSource_19 rfl ki_1 ?_
      obtain ⟨z20, hz20, hF⟩ := ob hF
      refine v_mSi 23 X 3 [.int v3, .int 0, .int 1] (w_X4_within v3 0 1 _ hz20) q1226 q1227 q95 q1228 hdX4_within pass_no ⟨rfl, rfl⟩ ⟨Nat.le_of_ble_eq_true rfl, Nat.le_of_ble_eq_true rfl⟩ ⟨Nat.le_refl 0, Nat.le_refl 0⟩ rfl rfl (Nat.le_of_ble_eq_true rfl) dX4_setSource_20 rfl ?_
      refine v_if_ne 26 28 X dX4_setSource_23 rfl (by decide) (fun h23 => ?_) (fun h23 => ?_)
      · replace hF := ifn h23 hF
        refine v_aload_n 29 X 0 dX4_setSource_28 rfl rfl rfl ?_
        refine v_get 32 X in_X4 0 0 rfl rfl (by decide) q1172 rfl rfl dX4_setSource_29 rfl ?_
        refine v_sipush (v := 407) 35 X dX4_setSource_32 rfl ks_407 ?_
        refine v_iload_n 36 X 1 dX4_setSource_35 rfl rfl rfl ?_
        refine v_iadd 37 X dX4_setSource_36 rfl ?_
        obtain ⟨z37, hz37, hF⟩ := ob hF
        refine v_iald 38 X 1 hz37 rfl dX4_setSource_37 rfl ?_
        refine v_iload_n 39 X 2 dX4_setSource_38 rfl rfl rfl ?_
        obtain ⟨z39, hz39, hF⟩ := ob hF
        refine v_mSi 42 X 2 [.int z37, .int v2] (w_X4_has z37 v2 _ hz39) q1298 q1299 q95 q1300 hdX4_has pass_no ⟨rfl, rfl⟩ ⟨Nat.le_of_ble_eq_true rfl, Nat.le_of_ble_eq_true rfl⟩ ⟨Nat.le_refl 0, Nat.le_refl 0⟩ rfl rfl (Nat.le_of_ble_eq_true rfl) dX4_setSource_39 rfl ?_
        refine v_iload_n 43 X 3 dX4_setSource_42 rfl rfl rfl ?_
        refine v_iconst (v := 1) 44 X dX4_setSource_43 rfl ki_1 ?_
        refine v_icmp_ne 47 51 X dX4_setSource_44 rfl (by decide) (fun h44 => ?_) (fun h44 => ?_)
        · replace hF := ifn h44 hF
          refine v_iconst (v := 0) 52 X dX4_setSource_51 rfl ki_0 ?_
          exact v_lv [0, 1, 2, 3] rfl (w_X4_setSource_j52 X hr v1 v2 v3 z39 0 hF)
        · replace hF := ifp h44 hF
          refine v_iconst (v := 1) 48 X dX4_setSource_47 rfl ki_1 ?_
          refine v_goto 52 X dX4_setSource_48 (by decide) ?_
          exact v_lv [0, 1, 2, 3] rfl (w_X4_setSource_j52 X hr v1 v2 v3 z39 1 hF)
      · replace hF := ifp h23 hF
        refine v_iconst (v := (-1)) 27 X dX4_setSource_26 rfl ki_m1 ?_
        obtain rfl := Option.some.inj hF
        exact v_iret X hr ⟨rfl, rfl⟩ (Nat.zero_le _) (Nat.zero_le _) dX4_setSource_27
theorem w_X4_pairs (r : Int32) (hF : M_pairs now = some r) : CTi l yX4_pairs cX4_pairs 1 (Option.some Jvm.ClassFile.FieldType.int) rmX4_pairs D (MW D a now past kept text queue isMet clusterOf fresh saved length met clusters frm ende wrong) [.ref (a 0)] NoX (fun r1 u => r1 = r ∧ u = (MW D a now past kept text queue isMet clusterOf fresh saved length met clusters frm ende wrong)) := by
  refine m_i (by decide) (Nat.le_of_ble_eq_true rfl) ?_
  intro p e s m args below meth c A B
  obtain ⟨X, hr, -, -, -, -⟩ := B
  replace X : CX p s m args meth c D A cX4_pairs 1 "DyeLatticeModel" := X
  refine v_lv (lv' := [(0, .ref (a 0))]) [0] rfl ?_
  unfold M_pairs at hF
  refine v_aload_n 1 X 0 dX4_pairs_0 rfl rfl rfl ?_
  refine v_get 4 X in_X4 0 0 rfl rfl (by decide) q1172 rfl rfl dX4_pairs_1 rfl ?_
  refine v_bipush (v := 6) 6 X dX4_pairs_4 rfl kb_6 ?_
  obtain ⟨z6, hz6, hF⟩ := ob hF
  refine v_iald 7 X 1 hz6 rfl dX4_pairs_6 rfl ?_
  refine v_iconst (v := 2) 8 X dX4_pairs_7 rfl ki_2 ?_
  obtain ⟨z8, hz8, hF⟩ := ob hF
  refine v_irem 9 X hz8 dX4_pairs_8 rfl ?_
  refine v_aload_n 10 X 0 dX4_pairs_9 rfl rfl rfl ?_
  refine v_get 13 X in_X4 0 0 rfl rfl (by decide) q1172 rfl rfl dX4_pairs_10 rfl ?_
  refine v_bipush (v := 6) 15 X dX4_pairs_13 rfl kb_6 ?_
  obtain ⟨z15, hz15, hF⟩ := ob hF
  refine v_iald 16 X 1 hz15 rfl dX4_pairs_15 rfl ?_
  refine v_iconst (v := 2) 17 X dX4_pairs_16 rfl ki_2 ?_
  obtain ⟨z17, hz17, hF⟩ := ob hF
  refine v_idiv 18 X hz17 dX4_pairs_17 rfl ?_
  refine v_iconst (v := 2) 19 X dX4_pairs_18 rfl ki_2 ?_
  obtain ⟨z19, hz19, hF⟩ := ob hF
  refine v_irem 20 X hz19 dX4_pairs_19 rfl ?_
  refine v_iadd 21 X dX4_pairs_20 rfl ?_
  refine v_aload_n 22 X 0 dX4_pairs_21 rfl rfl rfl ?_
  refine v_get 25 X in_X4 0 0 rfl rfl (by decide) q1172 rfl rfl dX4_pairs_22 rfl ?_
  refine v_bipush (v := 6) 27 X dX4_pairs_25 rfl kb_6 ?_
  obtain ⟨z27, hz27, hF⟩ := ob hF
  refine v_iald 28 X 1 hz27 rfl dX4_pairs_27 rfl ?_
  refine v_iconst (v := 4) 29 X dX4_pairs_28 rfl ki_4 ?_
  obtain ⟨z29, hz29, hF⟩ := ob hF
  refine v_idiv 30 X hz29 dX4_pairs_29 rfl ?_
  refine v_iadd 31 X dX4_pairs_30 rfl ?_
  obtain rfl := Option.some.inj hF
  exact v_iret X hr ⟨rfl, rfl⟩ (Nat.zero_le _) (Nat.zero_le _) dX4_pairs_31
theorem w_X4_setReaction_j63 (X : CX p s m args meth c D A cX4_setReaction 5 "DyeLatticeModel") (hr : meth.sig.returnType = (Option.some Jvm.ClassFile.FieldType.int)) {r : Int32 × (Nat → Int32) × (Nat → Int32) × Int32} (v3 : Int32) (v4 : Int32) (s0 : Int32) (s1 : Int32) (hF : M_setReaction_j63 now past saved v3 v4 s0 s1 = some r) : V p l e rmX4_setReaction s m args below meth c D A 5 (MQ below (va_Qi (fun r1 u => r1 = r.1 ∧ u = (MW D a r.2.1 r.2.2.1 kept text queue isMet clusterOf fresh r.2.2.2 length met clusters frm ende wrong)) (Wd D A) A) args s rmX4_setReaction.cells rmX4_setReaction.slots A) (MW D a now past kept text queue isMet clusterOf fresh saved length met clusters frm ende wrong) 0 0 63 [(0, .ref (a 0)), (3, .int v3), (4, .int v4)] [.int s1, .int s0] := by
  unfold M_setReaction_j63 at hF
  refine v_icmp_ne 66 69 X dX4_setReaction_63 rfl (by decide) (fun h63 => ?_) (fun h63 => ?_)
  · replace hF := ifn h63 hF
    refine v_aload_n 70 X 0 dX4_setReaction_69 rfl rfl rfl ?_
    obtain ⟨z70, hz70, hF⟩ := ob hF
    refine v_mVv 73 X 0 [] (w_X4_saves _ hz70) q1229 q1231 qs37 q95 q1232 hdX4_saves 0 rfl rfl pass_no ⟨rfl, rfl⟩ ⟨Nat.le_of_ble_eq_true rfl, Nat.le_of_ble_eq_true rfl⟩ ⟨Nat.le_refl 0, Nat.le_refl 0⟩ rfl rfl (Nat.le_of_ble_eq_true rfl) dX4_setReaction_70 rfl ?_
    refine v_aload_n 74 X 0 dX4_setReaction_73 rfl rfl rfl ?_
    refine v_get 77 X in_X4 0 0 rfl rfl (by decide) q1172 rfl rfl dX4_setReaction_74 rfl ?_
    refine v_bipush (v := 6) 79 X dX4_setReaction_77 rfl kb_6 ?_
    refine v_dup2 80 X dX4_setReaction_79 rfl rfl rfl ?_
    obtain ⟨z80, hz80, hF⟩ := ob hF
    refine v_iald 81 X 1 hz80 rfl dX4_setReaction_80 rfl ?_
    refine v_iload_n 82 X 1 dX4_setReaction_81 rfl rfl rfl ?_
    refine v_iconst (v := 1) 83 X dX4_setReaction_82 rfl ki_1 ?_
    refine v_icmp_ne 86 93 X dX4_setReaction_83 rfl (by decide) (fun h83 => ?_) (fun h83 => ?_)
    · replace hF := ifn h83 hF
      refine v_iconst (v := 1) 94 X dX4_setReaction_93 rfl ki_1 ?_
      refine v_iload 96 X 2 dX4_setReaction_94 rfl rfl ?_
      refine v_ishl 97 X dX4_setReaction_96 rfl ?_
      refine v_ineg 98 X dX4_setReaction_97 rfl ?_
      refine v_iadd 99 X dX4_setReaction_98 rfl ?_
      obtain ⟨z99, hz99, hF⟩ := ob hF
      refine v_iast 100 (MW D a z99 z70.1 kept text queue isMet clusterOf fresh z70.2 length met clusters frm ende wrong) X 1 hz99 rfl dX4_setReaction_99 rfl rfl ?_
      refine v_aload_n 101 X 0 dX4_setReaction_100 rfl rfl rfl ?_
      obtain ⟨z101, hz101, hF⟩ := ob hF
      refine v_mVi 104 X 0 [] (w_X4_pairs _ hz101) q1309 q1311 qs49 q95 q1312 hdX4_pairs 0 rfl rfl pass_no ⟨rfl, rfl⟩ ⟨Nat.le_of_ble_eq_true rfl, Nat.le_of_ble_eq_true rfl⟩ ⟨Nat.le_refl 0, Nat.le_refl 0⟩ rfl rfl (Nat.le_of_ble_eq_true rfl) dX4_setReaction_101 rfl ?_
      obtain rfl := Option.some.inj hF
      exact v_iret X hr ⟨rfl, rfl⟩ (Nat.zero_le _) (Nat.zero_le _) dX4_setReaction_104
    · replace hF := ifp h83 hF
      refine v_iconst (v := 1) 87 X dX4_setReaction_86 rfl ki_1 ?_
      refine v_iload 89 X 2 dX4_setReaction_87 rfl rfl ?_
      refine v_ishl 90 X dX4_setReaction_89 rfl ?_
      refine v_goto 98 X dX4_setReaction_90 (by decide) ?_
      refine v_iadd 99 X dX4_setReaction_98 rfl ?_
      obtain ⟨z99, hz99, hF⟩ := ob hF
      refine v_iast 100 (MW D a z99 z70.1 kept text queue isMet clusterOf fresh z70.2 length met clusters frm ende wrong) X 1 hz99 rfl dX4_setReaction_99 rfl rfl ?_
      refine v_aload_n 101 X 0 dX4_setReaction_100 rfl rfl rfl ?_
      obtain ⟨z101, hz101, hF⟩ := ob hF
      refine v_mVi 104 X 0 [] (w_X4_pairs _ hz101) q1309 q1311 qs49 q95 q1312 hdX4_pairs 0 rfl rfl pass_no ⟨rfl, rfl⟩ ⟨Nat.le_of_ble_eq_true rfl, Nat.le_of_ble_eq_true rfl⟩ ⟨Nat.le_refl 0, Nat.le_refl 0⟩ rfl rfl (Nat.le_of_ble_eq_true rfl) dX4_setReaction_101 rfl ?_
      obtain rfl := Option.some.inj hF
      exact v_iret X hr ⟨rfl, rfl⟩ (Nat.zero_le _) (Nat.zero_le _) dX4_setReaction_104
  · replace hF := ifp h63 hF
    refine v_bipush (v := (-2)) 68 X dX4_setReaction_66 rfl kb_m2 ?_
    obtain rfl := Option.some.inj hF
    exact v_iret X hr ⟨rfl, rfl⟩ (Nat.zero_le _) (Nat.zero_le _) dX4_setReaction_68
theorem w_X4_setReaction (v1 : Int32) (v2 : Int32) (v3 : Int32) (r : Int32 × (Nat → Int32) × (Nat → Int32) × Int32) (hF : M_setReaction now past saved v1 v2 v3 = some r) : CTi l yX4_setReaction cX4_setReaction 5 (Option.some Jvm.ClassFile.FieldType.int) rmX4_setReaction D (MW D a now past kept text queue isMet clusterOf fresh saved length met clusters frm ende wrong) [.ref (a 0), .int v1, .int v2, .int v3] NoX (fun r1 u => r1 = r.1 ∧ u = (MW D a r.2.1 r.2.2.1 kept text queue isMet clusterOf fresh r.2.2.2 length met clusters frm ende wrong)) := by
  refine m_i (by decide) (Nat.le_of_ble_eq_true rfl) ?_
  intro p e s m args below meth c A B
  obtain ⟨X, hr, -, -, -, -⟩ := B
  replace X : CX p s m args meth c D A cX4_setReaction 5 "DyeLatticeModel" := X
  refine v_lv (lv' := [(0, .ref (a 0)), (1, .int v1), (2, .int v2), (3, .int v3)]) [0, 1, 2, 3] rfl ?_
  unfold M_setReaction at hF
  refine v_iload_n 1 X 1 dX4_setReaction_0 rfl rfl rfl ?_
  refine v_iconst (v := 0) 2 X dX4_setReaction_1 rfl ki_0 ?_
  refine v_iconst (v := 2) 3 X dX4_setReaction_2 rfl ki_2 ?_
  obtain ⟨z3, hz3, hF⟩ := ob hF
  refine v_mSi 6 X 3 [.int v1, .int 0, .int 2] (w_X4_within v1 0 2 _ hz3) q1226 q1227 q95 q1228 hdX4_within pass_no ⟨rfl, rfl⟩ ⟨Nat.le_of_ble_eq_true rfl, Nat.le_of_ble_eq_true rfl⟩ ⟨Nat.le_refl 0, Nat.le_refl 0⟩ rfl rfl (Nat.le_of_ble_eq_true rfl) dX4_setReaction_3 rfl ?_
  refine v_if_eq 9 32 X dX4_setReaction_6 rfl (by decide) (fun h6 => ?_) (fun h6 => ?_)
  · replace hF := ifp h6 hF
    refine v_iconst (v := (-1)) 33 X dX4_setReaction_32 rfl ki_m1 ?_
    obtain rfl := Option.some.inj hF
    exact v_iret X hr ⟨rfl, rfl⟩ (Nat.zero_le _) (Nat.zero_le _) dX4_setReaction_33
  · replace hF := ifn h6 hF
    refine v_iload_n 10 X 2 dX4_setReaction_9 rfl rfl rfl ?_
    refine v_iconst (v := 0) 11 X dX4_setReaction_10 rfl ki_0 ?_
    refine v_iconst (v := 2) 12 X dX4_setReaction_11 rfl ki_2 ?_
    obtain ⟨z12, hz12, hF⟩ := ob hF
    refine v_mSi 15 X 3 [.int v2, .int 0, .int 2] (w_X4_within v2 0 2 _ hz12) q1226 q1227 q95 q1228 hdX4_within pass_no ⟨rfl, rfl⟩ ⟨Nat.le_of_ble_eq_true rfl, Nat.le_of_ble_eq_true rfl⟩ ⟨Nat.le_refl 0, Nat.le_refl 0⟩ rfl rfl (Nat.le_of_ble_eq_true rfl) dX4_setReaction_12 rfl ?_
    refine v_if_eq 18 32 X dX4_setReaction_15 rfl (by decide) (fun h15 => ?_) (fun h15 => ?_)
    · replace hF := ifp h15 hF
      refine v_iconst (v := (-1)) 33 X dX4_setReaction_32 rfl ki_m1 ?_
      obtain rfl := Option.some.inj hF
      exact v_iret X hr ⟨rfl, rfl⟩ (Nat.zero_le _) (Nat.zero_le _) dX4_setReaction_33
    · replace hF := ifn h15 hF
      refine v_iload_n 19 X 3 dX4_setReaction_18 rfl rfl rfl ?_
      refine v_iconst (v := 0) 20 X dX4_setReaction_19 rfl ki_0 ?_
      refine v_iconst (v := 1) 21 X dX4_setReaction_20 rfl ki_1 ?_
      obtain ⟨z21, hz21, hF⟩ := ob hF
      refine v_mSi 24 X 3 [.int v3, .int 0, .int 1] (w_X4_within v3 0 1 _ hz21) q1226 q1227 q95 q1228 hdX4_within pass_no ⟨rfl, rfl⟩ ⟨Nat.le_of_ble_eq_true rfl, Nat.le_of_ble_eq_true rfl⟩ ⟨Nat.le_refl 0, Nat.le_refl 0⟩ rfl rfl (Nat.le_of_ble_eq_true rfl) dX4_setReaction_21 rfl ?_
      refine v_if_eq 27 32 X dX4_setReaction_24 rfl (by decide) (fun h24 => ?_) (fun h24 => ?_)
      · replace hF := ifp h24 hF
        refine v_iconst (v := (-1)) 33 X dX4_setReaction_32 rfl ki_m1 ?_
        obtain rfl := Option.some.inj hF
        exact v_iret X hr ⟨rfl, rfl⟩ (Nat.zero_le _) (Nat.zero_le _) dX4_setReaction_33
      · replace hF := ifn h24 hF
        refine v_iload_n 28 X 1 dX4_setReaction_27 rfl rfl rfl ?_
        refine v_iload_n 29 X 2 dX4_setReaction_28 rfl rfl rfl ?_
        refine v_icmp_ne 32 34 X dX4_setReaction_29 rfl (by decide) (fun h29 => ?_) (fun h29 => ?_)
        · replace hF := ifn h29 hF
          refine v_iload_n 35 X 1 dX4_setReaction_34 rfl rfl rfl ?_
          refine v_iload_n 36 X 2 dX4_setReaction_35 rfl rfl rfl ?_
          refine v_iadd 37 X dX4_setReaction_36 rfl ?_
          refine v_iconst (v := 1) 38 X dX4_setReaction_37 rfl ki_1 ?_
          refine v_isub 39 X dX4_setReaction_38 rfl ?_
          refine v_istore 41 [(4, .int ((v1 + v2) - 1)), (0, .ref (a 0)), (1, .int v1), (2, .int v2), (3, .int v3)] X dX4_setReaction_39 rfl (by decide) rfl ?_
          refine v_aload_n 42 X 1 dX4_setReaction_41 rfl rfl rfl ?_
          refine v_get 45 X in_X4 0 0 rfl rfl (by decide) q1172 rfl rfl dX4_setReaction_42 rfl ?_
          refine v_bipush (v := 6) 47 X dX4_setReaction_45 rfl kb_6 ?_
          obtain ⟨z47, hz47, hF⟩ := ob hF
          refine v_iald 48 X 1 hz47 rfl dX4_setReaction_47 rfl ?_
          refine v_iload 50 X 0 dX4_setReaction_48 rfl rfl ?_
          obtain ⟨z50, hz50, hF⟩ := ob hF
          refine v_mSi 53 X 2 [.int z47, .int ((v1 + v2) - 1)] (w_X4_has z47 ((v1 + v2) - 1) _ hz50) q1298 q1299 q95 q1300 hdX4_has pass_no ⟨rfl, rfl⟩ ⟨Nat.le_of_ble_eq_true rfl, Nat.le_of_ble_eq_true rfl⟩ ⟨Nat.le_refl 0, Nat.le_refl 0⟩ rfl rfl (Nat.le_of_ble_eq_true rfl) dX4_setReaction_50 rfl ?_
          refine v_iload_n 54 X 4 dX4_setReaction_53 rfl rfl rfl ?_
          refine v_iconst (v := 1) 55 X dX4_setReaction_54 rfl ki_1 ?_
          refine v_icmp_ne 58 62 X dX4_setReaction_55 rfl (by decide) (fun h55 => ?_) (fun h55 => ?_)
          · replace hF := ifn h55 hF
            refine v_iconst (v := 0) 63 X dX4_setReaction_62 rfl ki_0 ?_
            exact v_lv [1, 4, 0] rfl (w_X4_setReaction_j63 X hr v3 ((v1 + v2) - 1) z50 0 hF)
          · replace hF := ifp h55 hF
            refine v_iconst (v := 1) 59 X dX4_setReaction_58 rfl ki_1 ?_
            refine v_goto 63 X dX4_setReaction_59 (by decide) ?_
            exact v_lv [1, 4, 0] rfl (w_X4_setReaction_j63 X hr v3 ((v1 + v2) - 1) z50 1 hF)
        · replace hF := ifp h29 hF
          refine v_iconst (v := (-1)) 33 X dX4_setReaction_32 rfl ki_m1 ?_
          obtain rfl := Option.some.inj hF
          exact v_iret X hr ⟨rfl, rfl⟩ (Nat.zero_le _) (Nat.zero_le _) dX4_setReaction_33
theorem w_X4_setBeat (v1 : Int32) (r : Int32 × (Nat → Int32) × (Nat → Int32) × Int32) (hF : M_setBeat now past saved v1 = some r) : CTi l yX4_setBeat cX4_setBeat 3 (Option.some Jvm.ClassFile.FieldType.int) rmX4_setBeat D (MW D a now past kept text queue isMet clusterOf fresh saved length met clusters frm ende wrong) [.ref (a 0), .int v1] NoX (fun r1 u => r1 = r.1 ∧ u = (MW D a r.2.1 r.2.2.1 kept text queue isMet clusterOf fresh r.2.2.2 length met clusters frm ende wrong)) := by
  refine m_i (by decide) (Nat.le_of_ble_eq_true rfl) ?_
  intro p e s m args below meth c A B
  obtain ⟨X, hr, -, -, -, -⟩ := B
  replace X : CX p s m args meth c D A cX4_setBeat 3 "DyeLatticeModel" := X
  refine v_lv (lv' := [(0, .ref (a 0)), (1, .int v1)]) [0, 1] rfl ?_
  unfold M_setBeat at hF
  refine v_iload_n 1 X 1 dX4_setBeat_0 rfl rfl rfl ?_
  refine v_iconst (v := 1) 2 X dX4_setBeat_1 rfl ki_1 ?_
  refine v_bipush (v := 9) 4 X dX4_setBeat_2 rfl kb_9 ?_
  obtain ⟨z4, hz4, hF⟩ := ob hF
  refine v_mSi 7 X 3 [.int v1, .int 1, .int 9] (w_X4_within v1 1 9 _ hz4) q1226 q1227 q95 q1228 hdX4_within pass_no ⟨rfl, rfl⟩ ⟨Nat.le_of_ble_eq_true rfl, Nat.le_of_ble_eq_true rfl⟩ ⟨Nat.le_refl 0, Nat.le_refl 0⟩ rfl rfl (Nat.le_of_ble_eq_true rfl) dX4_setBeat_4 rfl ?_
  refine v_if_ne 10 12 X dX4_setBeat_7 rfl (by decide) (fun h7 => ?_) (fun h7 => ?_)
  · replace hF := ifn h7 hF
    refine v_aload_n 13 X 0 dX4_setBeat_12 rfl rfl rfl ?_
    refine v_get 16 X in_X4 0 0 rfl rfl (by decide) q1172 rfl rfl dX4_setBeat_13 rfl ?_
    refine v_iconst (v := 4) 17 X dX4_setBeat_16 rfl ki_4 ?_
    obtain ⟨z17, hz17, hF⟩ := ob hF
    refine v_iald 18 X 1 hz17 rfl dX4_setBeat_17 rfl ?_
    refine v_istore_n 19 [(2, .int z17), (0, .ref (a 0)), (1, .int v1)] X dX4_setBeat_18 rfl rfl (by decide) rfl ?_
    refine v_aload_n 20 X 1 dX4_setBeat_19 rfl rfl rfl ?_
    obtain ⟨z20, hz20, hF⟩ := ob hF
    refine v_mVv 23 X 0 [] (w_X4_saves _ hz20) q1229 q1231 qs37 q95 q1232 hdX4_saves 0 rfl rfl pass_no ⟨rfl, rfl⟩ ⟨Nat.le_of_ble_eq_true rfl, Nat.le_of_ble_eq_true rfl⟩ ⟨Nat.le_refl 0, Nat.le_refl 0⟩ rfl rfl (Nat.le_of_ble_eq_true rfl) dX4_setBeat_20 rfl ?_
    refine v_aload_n 24 X 1 dX4_setBeat_23 rfl rfl rfl ?_
    refine v_get 27 X in_X4 0 0 rfl rfl (by decide) q1172 rfl rfl dX4_setBeat_24 rfl ?_
    refine v_iconst (v := 4) 28 X dX4_setBeat_27 rfl ki_4 ?_
    refine v_iload_n 29 X 2 dX4_setBeat_28 rfl rfl rfl ?_
    obtain ⟨z29, hz29, hF⟩ := ob hF
    refine v_iast 30 (MW D a z29 z20.1 kept text queue isMet clusterOf fresh z20.2 length met clusters frm ende wrong) X 1 hz29 rfl dX4_setBeat_29 rfl rfl ?_
    refine v_iload_n 31 X 0 dX4_setBeat_30 rfl rfl rfl ?_
    obtain rfl := Option.some.inj hF
    exact v_iret X hr ⟨rfl, rfl⟩ (Nat.zero_le _) (Nat.zero_le _) dX4_setBeat_31
  · replace hF := ifp h7 hF
    refine v_iconst (v := (-1)) 11 X dX4_setBeat_10 rfl ki_m1 ?_
    obtain rfl := Option.some.inj hF
    exact v_iret X hr ⟨rfl, rfl⟩ (Nat.zero_le _) (Nat.zero_le _) dX4_setBeat_11
theorem w_X4_isFlowing (v1 : Int32) (r : Int32) (hF : M_isFlowing now v1 = some r) : CTi l yX4_isFlowing cX4_isFlowing 2 (Option.some Jvm.ClassFile.FieldType.boolean) rmX4_isFlowing D (MW D a now past kept text queue isMet clusterOf fresh saved length met clusters frm ende wrong) [.ref (a 0), .int v1] NoX (fun r1 u => r1 = r ∧ u = (MW D a now past kept text queue isMet clusterOf fresh saved length met clusters frm ende wrong)) := by
  refine m_i (by decide) (Nat.le_of_ble_eq_true rfl) ?_
  intro p e s m args below meth c A B
  obtain ⟨X, hr, -, -, -, -⟩ := B
  replace X : CX p s m args meth c D A cX4_isFlowing 2 "DyeLatticeModel" := X
  refine v_lv (lv' := [(0, .ref (a 0)), (1, .int v1)]) [0, 1] rfl ?_
  unfold M_isFlowing at hF
  refine v_aload_n 1 X 0 dX4_isFlowing_0 rfl rfl rfl ?_
  refine v_iload_n 2 X 1 dX4_isFlowing_1 rfl rfl rfl ?_
  refine v_aload_n 3 X 0 dX4_isFlowing_2 rfl rfl rfl ?_
  refine v_get 6 X in_X4 0 0 rfl rfl (by decide) q1172 rfl rfl dX4_isFlowing_3 rfl ?_
  refine v_iconst (v := 3) 7 X dX4_isFlowing_6 rfl ki_3 ?_
  obtain ⟨z7, hz7, hF⟩ := ob hF
  refine v_iald 8 X 1 hz7 rfl dX4_isFlowing_7 rfl ?_
  obtain ⟨z8, hz8, hF⟩ := ob hF
  refine v_mVi 11 X 2 [.int v1, .int z7] (w_X4_isOpen v1 z7 _ hz8) q1278 q1280 qs46 q95 q1281 hdX4_isOpen 0 rfl rfl pass_no ⟨rfl, rfl⟩ ⟨Nat.le_of_ble_eq_true rfl, Nat.le_of_ble_eq_true rfl⟩ ⟨Nat.le_refl 0, Nat.le_refl 0⟩ rfl rfl (Nat.le_of_ble_eq_true rfl) dX4_isFlowing_8 rfl ?_
  refine v_if_eq 14 31 X dX4_isFlowing_11 rfl (by decide) (fun h11 => ?_) (fun h11 => ?_)
  · replace hF := ifp h11 hF
    refine v_iconst (v := 0) 32 X dX4_isFlowing_31 rfl ki_0 ?_
    obtain rfl := Option.some.inj hF
    exact v_zret X hr rfl ⟨rfl, rfl⟩ (Nat.zero_le _) (Nat.zero_le _) dX4_isFlowing_32
  · replace hF := ifn h11 hF
    refine v_aload_n 15 X 0 dX4_isFlowing_14 rfl rfl rfl ?_
    refine v_get 18 X in_X4 0 0 rfl rfl (by decide) q1172 rfl rfl dX4_isFlowing_15 rfl ?_
    refine v_sipush (v := 567) 21 X dX4_isFlowing_18 rfl ks_567 ?_
    refine v_iload_n 22 X 1 dX4_isFlowing_21 rfl rfl rfl ?_
    refine v_iadd 23 X dX4_isFlowing_22 rfl ?_
    obtain ⟨z23, hz23, hF⟩ := ob hF
    refine v_iald 24 X 1 hz23 rfl dX4_isFlowing_23 rfl ?_
    refine v_if_ne 27 31 X dX4_isFlowing_24 rfl (by decide) (fun h24 => ?_) (fun h24 => ?_)
    · replace hF := ifn h24 hF
      refine v_iconst (v := 0) 32 X dX4_isFlowing_31 rfl ki_0 ?_
      obtain rfl := Option.some.inj hF
      exact v_zret X hr rfl ⟨rfl, rfl⟩ (Nat.zero_le _) (Nat.zero_le _) dX4_isFlowing_32
    · replace hF := ifp h24 hF
      refine v_iconst (v := 1) 28 X dX4_isFlowing_27 rfl ki_1 ?_
      refine v_goto 32 X dX4_isFlowing_28 (by decide) ?_
      obtain rfl := Option.some.inj hF
      exact v_zret X hr rfl ⟨rfl, rfl⟩ (Nat.zero_le _) (Nat.zero_le _) dX4_isFlowing_32
theorem w_X4_lets (v1 : Int32) (v2 : Int32) (v3 : Int32) (r : Int32) (hF : M_lets now v1 v2 v3 = some r) : CTi l yX4_lets cX4_lets 5 (Option.some Jvm.ClassFile.FieldType.boolean) rmX4_lets D (MW D a now past kept text queue isMet clusterOf fresh saved length met clusters frm ende wrong) [.ref (a 0), .int v1, .int v2, .int v3] NoX (fun r1 u => r1 = r ∧ u = (MW D a now past kept text queue isMet clusterOf fresh saved length met clusters frm ende wrong)) := by
  refine m_i (by decide) (Nat.le_of_ble_eq_true rfl) ?_
  intro p e s m args below meth c A B
  obtain ⟨X, hr, -, -, -, -⟩ := B
  replace X : CX p s m args meth c D A cX4_lets 5 "DyeLatticeModel" := X
  refine v_lv (lv' := [(0, .ref (a 0)), (1, .int v1), (2, .int v2), (3, .int v3)]) [0, 1, 2, 3] rfl ?_
  unfold M_lets at hF
  refine v_aload_n 1 X 0 dX4_lets_0 rfl rfl rfl ?_
  refine v_iload_n 2 X 1 dX4_lets_1 rfl rfl rfl ?_
  refine v_iload_n 3 X 2 dX4_lets_2 rfl rfl rfl ?_
  obtain ⟨z3, hz3, hF⟩ := ob hF
  refine v_mVi 6 X 2 [.int v1, .int v2] (w_X4_valveOf v1 v2 _ hz3) q1286 q1288 qs47 q95 q1289 hdX4_valveOf 0 rfl rfl pass_no ⟨rfl, rfl⟩ ⟨Nat.le_of_ble_eq_true rfl, Nat.le_of_ble_eq_true rfl⟩ ⟨Nat.le_refl 0, Nat.le_refl 0⟩ rfl rfl (Nat.le_of_ble_eq_true rfl) dX4_lets_3 rfl ?_
  refine v_istore 8 [(4, .int z3), (0, .ref (a 0)), (1, .int v1), (2, .int v2), (3, .int v3)] X dX4_lets_6 rfl (by decide) rfl ?_
  refine v_iload 10 X 0 dX4_lets_8 rfl rfl ?_
  refine v_iconst (v := 1) 11 X dX4_lets_10 rfl ki_1 ?_
  refine v_icmp_eq 14 32 X dX4_lets_11 rfl (by decide) (fun h11 => ?_) (fun h11 => ?_)
  · replace hF := ifp h11 hF
    refine v_iconst (v := 0) 33 X dX4_lets_32 rfl ki_0 ?_
    obtain rfl := Option.some.inj hF
    exact v_zret X hr rfl ⟨rfl, rfl⟩ (Nat.zero_le _) (Nat.zero_le _) dX4_lets_33
  · replace hF := ifn h11 hF
    refine v_iload 16 X 0 dX4_lets_14 rfl rfl ?_
    refine v_iload_n 17 X 4 dX4_lets_16 rfl rfl rfl ?_
    refine v_if_eq 20 24 X dX4_lets_17 rfl (by decide) (fun h17 => ?_) (fun h17 => ?_)
    · replace hF := ifp h17 hF
      refine v_iconst (v := 2) 25 X dX4_lets_24 rfl ki_2 ?_
      refine v_icmp_eq 28 32 X dX4_lets_25 rfl (by decide) (fun h25 => ?_) (fun h25 => ?_)
      · replace hF := ifp h25 hF
        refine v_iconst (v := 0) 33 X dX4_lets_32 rfl ki_0 ?_
        obtain rfl := Option.some.inj hF
        exact v_zret X hr rfl ⟨rfl, rfl⟩ (Nat.zero_le _) (Nat.zero_le _) dX4_lets_33
      · replace hF := ifn h25 hF
        refine v_iconst (v := 1) 29 X dX4_lets_28 rfl ki_1 ?_
        refine v_goto 33 X dX4_lets_29 (by decide) ?_
        obtain rfl := Option.some.inj hF
        exact v_zret X hr rfl ⟨rfl, rfl⟩ (Nat.zero_le _) (Nat.zero_le _) dX4_lets_33
    · replace hF := ifn h17 hF
      refine v_iconst (v := 3) 21 X dX4_lets_20 rfl ki_3 ?_
      refine v_goto 25 X dX4_lets_21 (by decide) ?_
      refine v_icmp_eq 28 32 X dX4_lets_25 rfl (by decide) (fun h25 => ?_) (fun h25 => ?_)
      · replace hF := ifp h25 hF
        refine v_iconst (v := 0) 33 X dX4_lets_32 rfl ki_0 ?_
        obtain rfl := Option.some.inj hF
        exact v_zret X hr rfl ⟨rfl, rfl⟩ (Nat.zero_le _) (Nat.zero_le _) dX4_lets_33
      · replace hF := ifn h25 hF
        refine v_iconst (v := 1) 29 X dX4_lets_28 rfl ki_1 ?_
        refine v_goto 33 X dX4_lets_29 (by decide) ?_
        obtain rfl := Option.some.inj hF
        exact v_zret X hr rfl ⟨rfl, rfl⟩ (Nat.zero_le _) (Nat.zero_le _) dX4_lets_33
theorem w_X4_flows (v1 : Int32) (v2 : Int32) (r : (Nat → Int32)) (hF : M_flows now fresh v1 v2 = some r) : CTv l yX4_flows cX4_flows 3 (Option.none : Option Jvm.ClassFile.FieldType) rmX4_flows D (MW D a now past kept text queue isMet clusterOf fresh saved length met clusters frm ende wrong) [.ref (a 0), .int v1, .int v2] NoX (fun u => u = (MW D a now past kept text queue isMet clusterOf r saved length met clusters frm ende wrong)) := by
  refine m_v (by decide) (Nat.le_of_ble_eq_true rfl) ?_
  intro p e s m args below meth c A B
  obtain ⟨X, hr, -, -, -, -⟩ := B
  replace X : CX p s m args meth c D A cX4_flows 3 "DyeLatticeModel" := X
  refine v_lv (lv' := [(0, .ref (a 0)), (1, .int v1), (2, .int v2)]) [0, 1, 2] rfl ?_
  unfold M_flows at hF
  refine v_aload_n 1 X 0 dX4_flows_0 rfl rfl rfl ?_
  refine v_iload_n 2 X 1 dX4_flows_1 rfl rfl rfl ?_
  obtain ⟨z2, hz2, hF⟩ := ob hF
  refine v_mVi 5 X 1 [.int v1] (w_X4_isFlowing v1 _ hz2) q1325 q1327 qs51 q95 q1328 hdX4_isFlowing 0 rfl rfl pass_no ⟨rfl, rfl⟩ ⟨Nat.le_of_ble_eq_true rfl, Nat.le_of_ble_eq_true rfl⟩ ⟨Nat.le_refl 0, Nat.le_refl 0⟩ rfl rfl (Nat.le_of_ble_eq_true rfl) dX4_flows_2 rfl ?_
  refine v_if_eq 8 35 X dX4_flows_5 rfl (by decide) (fun h5 => ?_) (fun h5 => ?_)
  · replace hF := ifp h5 hF
    obtain rfl := Option.some.inj hF
    exact v_vret X hr rfl (Nat.zero_le _) (Nat.zero_le _) dX4_flows_35
  · replace hF := ifn h5 hF
    refine v_aload_n 9 X 0 dX4_flows_8 rfl rfl rfl ?_
    refine v_iload_n 10 X 2 dX4_flows_9 rfl rfl rfl ?_
    obtain ⟨z10, hz10, hF⟩ := ob hF
    refine v_mVi 13 X 1 [.int v2] (w_X4_isFlowing v2 _ hz10) q1325 q1327 qs51 q95 q1328 hdX4_isFlowing 0 rfl rfl pass_no ⟨rfl, rfl⟩ ⟨Nat.le_of_ble_eq_true rfl, Nat.le_of_ble_eq_true rfl⟩ ⟨Nat.le_refl 0, Nat.le_refl 0⟩ rfl rfl (Nat.le_of_ble_eq_true rfl) dX4_flows_10 rfl ?_
    refine v_if_eq 16 35 X dX4_flows_13 rfl (by decide) (fun h13 => ?_) (fun h13 => ?_)
    · replace hF := ifp h13 hF
      obtain rfl := Option.some.inj hF
      exact v_vret X hr rfl (Nat.zero_le _) (Nat.zero_le _) dX4_flows_35
    · replace hF := ifn h13 hF
      refine v_aload_n 17 X 0 dX4_flows_16 rfl rfl rfl ?_
      refine v_get 20 X in_X4 0 11 rfl rfl (by decide) q1183 rfl rfl dX4_flows_17 rfl ?_
      refine v_iload_n 21 X 2 dX4_flows_20 rfl rfl rfl ?_
      refine v_dup2 22 X dX4_flows_21 rfl rfl rfl ?_
      obtain ⟨z22, hz22, hF⟩ := ob hF
      refine v_iald 23 X 8 hz22 rfl dX4_flows_22 rfl ?_
      refine v_aload_n 24 X 0 dX4_flows_23 rfl rfl rfl ?_
      refine v_get 27 X in_X4 0 0 rfl rfl (by decide) q1172 rfl rfl dX4_flows_24 rfl ?_
      refine v_sipush (v := 487) 30 X dX4_flows_27 rfl ks_487 ?_
      refine v_iload_n 31 X 1 dX4_flows_30 rfl rfl rfl ?_
      refine v_iadd 32 X dX4_flows_31 rfl ?_
      obtain ⟨z32, hz32, hF⟩ := ob hF
      refine v_iald 33 X 1 hz32 rfl dX4_flows_32 rfl ?_
      refine v_ior 34 X dX4_flows_33 rfl ?_
      obtain ⟨z34, hz34, hF⟩ := ob hF
      refine v_iast 35 (MW D a now past kept text queue isMet clusterOf z34 saved length met clusters frm ende wrong) X 8 hz34 rfl dX4_flows_34 rfl rfl ?_
      obtain rfl := Option.some.inj hF
      exact v_vret X hr rfl (Nat.zero_le _) (Nat.zero_le _) dX4_flows_35
theorem w_X4_reacts_j75 (X : CX p s m args meth c D A cX4_reacts 3 "DyeLatticeModel") (hr : meth.sig.returnType = (Option.some Jvm.ClassFile.FieldType.boolean)) {r : Int32} (v1 : Int32) (s0 : Int32) (hF : M_reacts_j75 now v1 s0 = some r) : V p l e rmX4_reacts s m args below meth c D A 3 (MQ below (va_Qi (fun r1 u => r1 = r ∧ u = (MW D a now past kept text queue isMet clusterOf fresh saved length met clusters frm ende wrong)) (Wd D A) A) args s rmX4_reacts.cells rmX4_reacts.slots A) (MW D a now past kept text queue isMet clusterOf fresh saved length met clusters frm ende wrong) 0 0 75 [(0, .ref (a 0)), (1, .int v1)] [.int s0] := by
  unfold M_reacts_j75 at hF
  refine v_istore_n 76 [(2, .int s0), (0, .ref (a 0)), (1, .int v1)] X dX4_reacts_75 rfl rfl (by decide) rfl ?_
  refine v_iload_n 77 X 0 dX4_reacts_76 rfl rfl rfl ?_
  refine v_if_ne 80 110 X dX4_reacts_77 rfl (by decide) (fun h77 => ?_) (fun h77 => ?_)
  · replace hF := ifn h77 hF
    refine v_iconst (v := 1) 111 X dX4_reacts_110 rfl ki_1 ?_
    refine v_goto 115 X dX4_reacts_111 (by decide) ?_
    obtain rfl := Option.some.inj hF
    exact v_zret X hr rfl ⟨rfl, rfl⟩ (Nat.zero_le _) (Nat.zero_le _) dX4_reacts_115
  · replace hF := ifp h77 hF
    refine v_iload_n 81 X 2 dX4_reacts_80 rfl rfl rfl ?_
    refine v_iconst (v := 1) 82 X dX4_reacts_81 rfl ki_1 ?_
    obtain ⟨z82, hz82, hF⟩ := ob hF
    refine v_mSi 85 X 2 [.int v1, .int 1] (w_X4_has v1 1 _ hz82) q1298 q1299 q95 q1300 hdX4_has pass_no ⟨rfl, rfl⟩ ⟨Nat.le_of_ble_eq_true rfl, Nat.le_of_ble_eq_true rfl⟩ ⟨Nat.le_refl 0, Nat.le_refl 0⟩ rfl rfl (Nat.le_of_ble_eq_true rfl) dX4_reacts_82 rfl ?_
    refine v_if_eq 88 114 X dX4_reacts_85 rfl (by decide) (fun h85 => ?_) (fun h85 => ?_)
    · replace hF := ifp h85 hF
      refine v_iconst (v := 0) 115 X dX4_reacts_114 rfl ki_0 ?_
      obtain rfl := Option.some.inj hF
      exact v_zret X hr rfl ⟨rfl, rfl⟩ (Nat.zero_le _) (Nat.zero_le _) dX4_reacts_115
    · replace hF := ifn h85 hF
      refine v_iload_n 89 X 2 dX4_reacts_88 rfl rfl rfl ?_
      refine v_iconst (v := 2) 90 X dX4_reacts_89 rfl ki_2 ?_
      obtain ⟨z90, hz90, hF⟩ := ob hF
      refine v_mSi 93 X 2 [.int v1, .int 2] (w_X4_has v1 2 _ hz90) q1298 q1299 q95 q1300 hdX4_has pass_no ⟨rfl, rfl⟩ ⟨Nat.le_of_ble_eq_true rfl, Nat.le_of_ble_eq_true rfl⟩ ⟨Nat.le_refl 0, Nat.le_refl 0⟩ rfl rfl (Nat.le_of_ble_eq_true rfl) dX4_reacts_90 rfl ?_
      refine v_if_eq 96 114 X dX4_reacts_93 rfl (by decide) (fun h93 => ?_) (fun h93 => ?_)
      · replace hF := ifp h93 hF
        refine v_iconst (v := 0) 115 X dX4_reacts_114 rfl ki_0 ?_
        obtain rfl := Option.some.inj hF
        exact v_zret X hr rfl ⟨rfl, rfl⟩ (Nat.zero_le _) (Nat.zero_le _) dX4_reacts_115
      · replace hF := ifn h93 hF
        refine v_aload_n 97 X 1 dX4_reacts_96 rfl rfl rfl ?_
        refine v_get 100 X in_X4 0 0 rfl rfl (by decide) q1172 rfl rfl dX4_reacts_97 rfl ?_
        refine v_bipush (v := 6) 102 X dX4_reacts_100 rfl kb_6 ?_
        obtain ⟨z102, hz102, hF⟩ := ob hF
        refine v_iald 103 X 1 hz102 rfl dX4_reacts_102 rfl ?_
        refine v_iconst (v := 2) 104 X dX4_reacts_103 rfl ki_2 ?_
        obtain ⟨z104, hz104, hF⟩ := ob hF
        refine v_mSi 107 X 2 [.int z102, .int 2] (w_X4_has z102 2 _ hz104) q1298 q1299 q95 q1300 hdX4_has pass_no ⟨rfl, rfl⟩ ⟨Nat.le_of_ble_eq_true rfl, Nat.le_of_ble_eq_true rfl⟩ ⟨Nat.le_refl 0, Nat.le_refl 0⟩ rfl rfl (Nat.le_of_ble_eq_true rfl) dX4_reacts_104 rfl ?_
        refine v_if_eq 110 114 X dX4_reacts_107 rfl (by decide) (fun h107 => ?_) (fun h107 => ?_)
        · replace hF := ifp h107 hF
          refine v_iconst (v := 0) 115 X dX4_reacts_114 rfl ki_0 ?_
          obtain rfl := Option.some.inj hF
          exact v_zret X hr rfl ⟨rfl, rfl⟩ (Nat.zero_le _) (Nat.zero_le _) dX4_reacts_115
        · replace hF := ifn h107 hF
          refine v_iconst (v := 1) 111 X dX4_reacts_110 rfl ki_1 ?_
          refine v_goto 115 X dX4_reacts_111 (by decide) ?_
          obtain rfl := Option.some.inj hF
          exact v_zret X hr rfl ⟨rfl, rfl⟩ (Nat.zero_le _) (Nat.zero_le _) dX4_reacts_115
theorem w_X4_reacts_j35 (X : CX p s m args meth c D A cX4_reacts 3 "DyeLatticeModel") (hr : meth.sig.returnType = (Option.some Jvm.ClassFile.FieldType.boolean)) {r : Int32} (v1 : Int32) (s0 : Int32) (hF : M_reacts_j35 now v1 s0 = some r) : V p l e rmX4_reacts s m args below meth c D A 3 (MQ below (va_Qi (fun r1 u => r1 = r ∧ u = (MW D a now past kept text queue isMet clusterOf fresh saved length met clusters frm ende wrong)) (Wd D A) A) args s rmX4_reacts.cells rmX4_reacts.slots A) (MW D a now past kept text queue isMet clusterOf fresh saved length met clusters frm ende wrong) 0 0 35 [(0, .ref (a 0)), (1, .int v1)] [.int s0] := by
  unfold M_reacts_j35 at hF
  refine v_istore_n 36 [(2, .int s0), (0, .ref (a 0)), (1, .int v1)] X dX4_reacts_35 rfl rfl (by decide) rfl ?_
  refine v_iload_n 37 X 0 dX4_reacts_36 rfl rfl rfl ?_
  refine v_if_ne 40 70 X dX4_reacts_37 rfl (by decide) (fun h37 => ?_) (fun h37 => ?_)
  · replace hF := ifn h37 hF
    refine v_iconst (v := 1) 71 X dX4_reacts_70 rfl ki_1 ?_
    refine v_goto 75 X dX4_reacts_71 (by decide) ?_
    exact v_lv [1, 2] rfl (w_X4_reacts_j75 X hr v1 1 hF)
  · replace hF := ifp h37 hF
    refine v_iload_n 41 X 2 dX4_reacts_40 rfl rfl rfl ?_
    refine v_iconst (v := 0) 42 X dX4_reacts_41 rfl ki_0 ?_
    obtain ⟨z42, hz42, hF⟩ := ob hF
    refine v_mSi 45 X 2 [.int v1, .int 0] (w_X4_has v1 0 _ hz42) q1298 q1299 q95 q1300 hdX4_has pass_no ⟨rfl, rfl⟩ ⟨Nat.le_of_ble_eq_true rfl, Nat.le_of_ble_eq_true rfl⟩ ⟨Nat.le_refl 0, Nat.le_refl 0⟩ rfl rfl (Nat.le_of_ble_eq_true rfl) dX4_reacts_42 rfl ?_
    refine v_if_eq 48 74 X dX4_reacts_45 rfl (by decide) (fun h45 => ?_) (fun h45 => ?_)
    · replace hF := ifp h45 hF
      refine v_iconst (v := 0) 75 X dX4_reacts_74 rfl ki_0 ?_
      exact v_lv [1, 2] rfl (w_X4_reacts_j75 X hr v1 0 hF)
    · replace hF := ifn h45 hF
      refine v_iload_n 49 X 2 dX4_reacts_48 rfl rfl rfl ?_
      refine v_iconst (v := 2) 50 X dX4_reacts_49 rfl ki_2 ?_
      obtain ⟨z50, hz50, hF⟩ := ob hF
      refine v_mSi 53 X 2 [.int v1, .int 2] (w_X4_has v1 2 _ hz50) q1298 q1299 q95 q1300 hdX4_has pass_no ⟨rfl, rfl⟩ ⟨Nat.le_of_ble_eq_true rfl, Nat.le_of_ble_eq_true rfl⟩ ⟨Nat.le_refl 0, Nat.le_refl 0⟩ rfl rfl (Nat.le_of_ble_eq_true rfl) dX4_reacts_50 rfl ?_
      refine v_if_eq 56 74 X dX4_reacts_53 rfl (by decide) (fun h53 => ?_) (fun h53 => ?_)
      · replace hF := ifp h53 hF
        refine v_iconst (v := 0) 75 X dX4_reacts_74 rfl ki_0 ?_
        exact v_lv [1, 2] rfl (w_X4_reacts_j75 X hr v1 0 hF)
      · replace hF := ifn h53 hF
        refine v_aload_n 57 X 1 dX4_reacts_56 rfl rfl rfl ?_
        refine v_get 60 X in_X4 0 0 rfl rfl (by decide) q1172 rfl rfl dX4_reacts_57 rfl ?_
        refine v_bipush (v := 6) 62 X dX4_reacts_60 rfl kb_6 ?_
        obtain ⟨z62, hz62, hF⟩ := ob hF
        refine v_iald 63 X 1 hz62 rfl dX4_reacts_62 rfl ?_
        refine v_iconst (v := 1) 64 X dX4_reacts_63 rfl ki_1 ?_
        obtain ⟨z64, hz64, hF⟩ := ob hF
        refine v_mSi 67 X 2 [.int z62, .int 1] (w_X4_has z62 1 _ hz64) q1298 q1299 q95 q1300 hdX4_has pass_no ⟨rfl, rfl⟩ ⟨Nat.le_of_ble_eq_true rfl, Nat.le_of_ble_eq_true rfl⟩ ⟨Nat.le_refl 0, Nat.le_refl 0⟩ rfl rfl (Nat.le_of_ble_eq_true rfl) dX4_reacts_64 rfl ?_
        refine v_if_eq 70 74 X dX4_reacts_67 rfl (by decide) (fun h67 => ?_) (fun h67 => ?_)
        · replace hF := ifp h67 hF
          refine v_iconst (v := 0) 75 X dX4_reacts_74 rfl ki_0 ?_
          exact v_lv [1, 2] rfl (w_X4_reacts_j75 X hr v1 0 hF)
        · replace hF := ifn h67 hF
          refine v_iconst (v := 1) 71 X dX4_reacts_70 rfl ki_1 ?_
          refine v_goto 75 X dX4_reacts_71 (by decide) ?_
          exact v_lv [1, 2] rfl (w_X4_reacts_j75 X hr v1 1 hF)
theorem w_X4_reacts (v1 : Int32) (r : Int32) (hF : M_reacts now v1 = some r) : CTi l yX4_reacts cX4_reacts 3 (Option.some Jvm.ClassFile.FieldType.boolean) rmX4_reacts D (MW D a now past kept text queue isMet clusterOf fresh saved length met clusters frm ende wrong) [.ref (a 0), .int v1] NoX (fun r1 u => r1 = r ∧ u = (MW D a now past kept text queue isMet clusterOf fresh saved length met clusters frm ende wrong)) := by
  refine m_i (by decide) (Nat.le_of_ble_eq_true rfl) ?_
  intro p e s m args below meth c A B
  obtain ⟨X, hr, -, -, -, -⟩ := B
  replace X : CX p s m args meth c D A cX4_reacts 3 "DyeLatticeModel" := X
  refine v_lv (lv' := [(0, .ref (a 0)), (1, .int v1)]) [0, 1] rfl ?_
  unfold M_reacts at hF
  refine v_iload_n 1 X 1 dX4_reacts_0 rfl rfl rfl ?_
  refine v_iconst (v := 0) 2 X dX4_reacts_1 rfl ki_0 ?_
  obtain ⟨z2, hz2, hF⟩ := ob hF
  refine v_mSi 5 X 2 [.int v1, .int 0] (w_X4_has v1 0 _ hz2) q1298 q1299 q95 q1300 hdX4_has pass_no ⟨rfl, rfl⟩ ⟨Nat.le_of_ble_eq_true rfl, Nat.le_of_ble_eq_true rfl⟩ ⟨Nat.le_refl 0, Nat.le_refl 0⟩ rfl rfl (Nat.le_of_ble_eq_true rfl) dX4_reacts_2 rfl ?_
  refine v_if_eq 8 34 X dX4_reacts_5 rfl (by decide) (fun h5 => ?_) (fun h5 => ?_)
  · replace hF := ifp h5 hF
    refine v_iconst (v := 0) 35 X dX4_reacts_34 rfl ki_0 ?_
    exact v_lv [0, 1] rfl (w_X4_reacts_j35 X hr v1 0 hF)
  · replace hF := ifn h5 hF
    refine v_iload_n 9 X 1 dX4_reacts_8 rfl rfl rfl ?_
    refine v_iconst (v := 1) 10 X dX4_reacts_9 rfl ki_1 ?_
    obtain ⟨z10, hz10, hF⟩ := ob hF
    refine v_mSi 13 X 2 [.int v1, .int 1] (w_X4_has v1 1 _ hz10) q1298 q1299 q95 q1300 hdX4_has pass_no ⟨rfl, rfl⟩ ⟨Nat.le_of_ble_eq_true rfl, Nat.le_of_ble_eq_true rfl⟩ ⟨Nat.le_refl 0, Nat.le_refl 0⟩ rfl rfl (Nat.le_of_ble_eq_true rfl) dX4_reacts_10 rfl ?_
    refine v_if_eq 16 34 X dX4_reacts_13 rfl (by decide) (fun h13 => ?_) (fun h13 => ?_)
    · replace hF := ifp h13 hF
      refine v_iconst (v := 0) 35 X dX4_reacts_34 rfl ki_0 ?_
      exact v_lv [0, 1] rfl (w_X4_reacts_j35 X hr v1 0 hF)
    · replace hF := ifn h13 hF
      refine v_aload_n 17 X 0 dX4_reacts_16 rfl rfl rfl ?_
      refine v_get 20 X in_X4 0 0 rfl rfl (by decide) q1172 rfl rfl dX4_reacts_17 rfl ?_
      refine v_bipush (v := 6) 22 X dX4_reacts_20 rfl kb_6 ?_
      obtain ⟨z22, hz22, hF⟩ := ob hF
      refine v_iald 23 X 1 hz22 rfl dX4_reacts_22 rfl ?_
      refine v_iconst (v := 0) 24 X dX4_reacts_23 rfl ki_0 ?_
      obtain ⟨z24, hz24, hF⟩ := ob hF
      refine v_mSi 27 X 2 [.int z22, .int 0] (w_X4_has z22 0 _ hz24) q1298 q1299 q95 q1300 hdX4_has pass_no ⟨rfl, rfl⟩ ⟨Nat.le_of_ble_eq_true rfl, Nat.le_of_ble_eq_true rfl⟩ ⟨Nat.le_refl 0, Nat.le_refl 0⟩ rfl rfl (Nat.le_of_ble_eq_true rfl) dX4_reacts_24 rfl ?_
      refine v_if_eq 30 34 X dX4_reacts_27 rfl (by decide) (fun h27 => ?_) (fun h27 => ?_)
      · replace hF := ifp h27 hF
        refine v_iconst (v := 0) 35 X dX4_reacts_34 rfl ki_0 ?_
        exact v_lv [0, 1] rfl (w_X4_reacts_j35 X hr v1 0 hF)
      · replace hF := ifn h27 hF
        refine v_iconst (v := 1) 31 X dX4_reacts_30 rfl ki_1 ?_
        refine v_goto 35 X dX4_reacts_31 (by decide) ?_
        exact v_lv [0, 1] rfl (w_X4_reacts_j35 X hr v1 1 hF)
theorem w_X4_steps_209 (X : CX p s m args meth c D A cX4_steps 7 "DyeLatticeModel") (v3 : Int32) : ∀ (n : Nat) (x : Int32 × Int32) (o : (Int32)), loopN (fun x => M_steps_209 v3 now fresh x.1 x.2) n x = some o → (V p l e rmX4_steps s m args below meth c D A 7 Q (MW D a now past kept text queue isMet clusterOf fresh saved length met clusters frm ende wrong) 0 0 261 [(0, .ref (a 0)), (2, .int o), (3, .int v3)] []) → V p l e rmX4_steps s m args below meth c D A 7 Q (MW D a now past kept text queue isMet clusterOf fresh saved length met clusters frm ende wrong) 0 0 209 [(0, .ref (a 0)), (2, .int x.1), (3, .int v3), (4, .int x.2)] [] := by
  refine v_loop (fun (x : Int32 × Int32) => V p l e rmX4_steps s m args below meth c D A 7 Q (MW D a now past kept text queue isMet clusterOf fresh saved length met clusters frm ende wrong) 0 0 209 [(0, .ref (a 0)), (2, .int x.1), (3, .int v3), (4, .int x.2)] []) (fun (o : (Int32)) => V p l e rmX4_steps s m args below meth c D A 7 Q (MW D a now past kept text queue isMet clusterOf fresh saved length met clusters frm ende wrong) 0 0 261 [(0, .ref (a 0)), (2, .int o), (3, .int v3)] []) ?_
  rintro ⟨v2, v4⟩ r hF hI hO
  replace hF : M_steps_209 v3 now fresh v2 v4 = some r := hF
  show V p l e rmX4_steps s m args below meth c D A 7 Q (MW D a now past kept text queue isMet clusterOf fresh saved length met clusters frm ende wrong) 0 0 209 [(0, .ref (a 0)), (2, .int v2), (3, .int v3), (4, .int v4)] []
  unfold M_steps_209 at hF
  refine v_iload 211 X 3 dX4_steps_209 rfl rfl ?_
  refine v_iconst (v := 3) 212 X dX4_steps_211 rfl ki_3 ?_
  refine v_icmp_ge 215 261 X dX4_steps_212 rfl (by decide) (fun h212 => ?_) (fun h212 => ?_)
  · replace hF := ifp h212 hF
    obtain rfl := Option.some.inj hF
    exact v_lv [0, 1, 2] rfl (hO _ rfl)
  · replace hF := ifn h212 hF
    refine v_iload_n 216 X 1 dX4_steps_215 rfl rfl rfl ?_
    refine v_aload_n 217 X 0 dX4_steps_216 rfl rfl rfl ?_
    refine v_get 220 X in_X4 0 11 rfl rfl (by decide) q1183 rfl rfl dX4_steps_217 rfl ?_
    refine v_iload_n 221 X 2 dX4_steps_220 rfl rfl rfl ?_
    obtain ⟨z221, hz221, hF⟩ := ob hF
    refine v_iald 222 X 8 hz221 rfl dX4_steps_221 rfl ?_
    refine v_iload 224 X 3 dX4_steps_222 rfl rfl ?_
    obtain ⟨z224, hz224, hF⟩ := ob hF
    refine v_mSi 227 X 2 [.int z221, .int v4] (w_X4_has z221 v4 _ hz224) q1298 q1299 q95 q1300 hdX4_has pass_no ⟨rfl, rfl⟩ ⟨Nat.le_of_ble_eq_true rfl, Nat.le_of_ble_eq_true rfl⟩ ⟨Nat.le_refl 0, Nat.le_refl 0⟩ rfl rfl (Nat.le_of_ble_eq_true rfl) dX4_steps_224 rfl ?_
    refine v_if_eq 230 252 X dX4_steps_227 rfl (by decide) (fun h227 => ?_) (fun h227 => ?_)
    · replace hF := ifp h227 hF
      refine v_iconst (v := 0) 253 X dX4_steps_252 rfl ki_0 ?_
      refine v_iadd 254 X dX4_steps_253 rfl ?_
      refine v_istore_n 255 [(2, .int (v2 + 0)), (0, .ref (a 0)), (3, .int v3), (4, .int v4)] X dX4_steps_254 rfl rfl (by decide) rfl ?_
      refine v_iinc (v := (v4 + 1)) 258 [(4, .int (v4 + 1)), (2, .int (v2 + 0)), (0, .ref (a 0)), (3, .int v3)] X 3 dX4_steps_255 rfl rfl (by rfl) (by decide) rfl ?_
      refine v_goto 209 X dX4_steps_258 (by decide) ?_
      obtain rfl := Option.some.inj hF
      exact v_lv [2, 1, 3, 0] rfl (hI _ rfl)
    · replace hF := ifn h227 hF
      refine v_aload_n 231 X 0 dX4_steps_230 rfl rfl rfl ?_
      refine v_get 234 X in_X4 0 0 rfl rfl (by decide) q1172 rfl rfl dX4_steps_231 rfl ?_
      refine v_sipush (v := 487) 237 X dX4_steps_234 rfl ks_487 ?_
      refine v_iload_n 238 X 2 dX4_steps_237 rfl rfl rfl ?_
      refine v_iadd 239 X dX4_steps_238 rfl ?_
      obtain ⟨z239, hz239, hF⟩ := ob hF
      refine v_iald 240 X 1 hz239 rfl dX4_steps_239 rfl ?_
      refine v_iload 242 X 3 dX4_steps_240 rfl rfl ?_
      obtain ⟨z242, hz242, hF⟩ := ob hF
      refine v_mSi 245 X 2 [.int z239, .int v4] (w_X4_has z239 v4 _ hz242) q1298 q1299 q95 q1300 hdX4_has pass_no ⟨rfl, rfl⟩ ⟨Nat.le_of_ble_eq_true rfl, Nat.le_of_ble_eq_true rfl⟩ ⟨Nat.le_refl 0, Nat.le_refl 0⟩ rfl rfl (Nat.le_of_ble_eq_true rfl) dX4_steps_242 rfl ?_
      refine v_if_ne 248 252 X dX4_steps_245 rfl (by decide) (fun h245 => ?_) (fun h245 => ?_)
      · replace hF := ifn h245 hF
        refine v_iconst (v := 0) 253 X dX4_steps_252 rfl ki_0 ?_
        refine v_iadd 254 X dX4_steps_253 rfl ?_
        refine v_istore_n 255 [(2, .int (v2 + 0)), (0, .ref (a 0)), (3, .int v3), (4, .int v4)] X dX4_steps_254 rfl rfl (by decide) rfl ?_
        refine v_iinc (v := (v4 + 1)) 258 [(4, .int (v4 + 1)), (2, .int (v2 + 0)), (0, .ref (a 0)), (3, .int v3)] X 3 dX4_steps_255 rfl rfl (by rfl) (by decide) rfl ?_
        refine v_goto 209 X dX4_steps_258 (by decide) ?_
        obtain rfl := Option.some.inj hF
        exact v_lv [2, 1, 3, 0] rfl (hI _ rfl)
      · replace hF := ifp h245 hF
        refine v_iconst (v := 1) 249 X dX4_steps_248 rfl ki_1 ?_
        refine v_goto 253 X dX4_steps_249 (by decide) ?_
        refine v_iadd 254 X dX4_steps_253 rfl ?_
        refine v_istore_n 255 [(2, .int (v2 + 1)), (0, .ref (a 0)), (3, .int v3), (4, .int v4)] X dX4_steps_254 rfl rfl (by decide) rfl ?_
        refine v_iinc (v := (v4 + 1)) 258 [(4, .int (v4 + 1)), (2, .int (v2 + 1)), (0, .ref (a 0)), (3, .int v3)] X 3 dX4_steps_255 rfl rfl (by rfl) (by decide) rfl ?_
        refine v_goto 209 X dX4_steps_258 (by decide) ?_
        obtain rfl := Option.some.inj hF
        exact v_lv [2, 1, 3, 0] rfl (hI _ rfl)
theorem w_X4_steps_28 (X : CX p s m args meth c D A cX4_steps 7 "DyeLatticeModel") (v1 : Int32) (v2 : Int32) : ∀ (n : Nat) (x : Int32 × (Nat → Int32)) (o : ((Nat → Int32))), loopN (fun x => M_steps_28 v1 v2 now x.1 x.2) n x = some o → (V p l e rmX4_steps s m args below meth c D A 7 Q (MW D a now past kept text queue isMet clusterOf o saved length met clusters frm ende wrong) 0 0 81 [(0, .ref (a 0)), (1, .int v1), (2, .int v2)] []) → V p l e rmX4_steps s m args below meth c D A 7 Q (MW D a now past kept text queue isMet clusterOf x.2 saved length met clusters frm ende wrong) 0 0 28 [(0, .ref (a 0)), (1, .int v1), (2, .int v2), (3, .int x.1)] [] := by
  refine v_loop (fun (x : Int32 × (Nat → Int32)) => V p l e rmX4_steps s m args below meth c D A 7 Q (MW D a now past kept text queue isMet clusterOf x.2 saved length met clusters frm ende wrong) 0 0 28 [(0, .ref (a 0)), (1, .int v1), (2, .int v2), (3, .int x.1)] []) (fun (o : ((Nat → Int32))) => V p l e rmX4_steps s m args below meth c D A 7 Q (MW D a now past kept text queue isMet clusterOf o saved length met clusters frm ende wrong) 0 0 81 [(0, .ref (a 0)), (1, .int v1), (2, .int v2)] []) ?_
  rintro ⟨v3, fresh⟩ r hF hI hO
  replace hF : M_steps_28 v1 v2 now v3 fresh = some r := hF
  show V p l e rmX4_steps s m args below meth c D A 7 Q (MW D a now past kept text queue isMet clusterOf fresh saved length met clusters frm ende wrong) 0 0 28 [(0, .ref (a 0)), (1, .int v1), (2, .int v2), (3, .int v3)] []
  unfold M_steps_28 at hF
  refine v_iload_n 29 X 3 dX4_steps_28 rfl rfl rfl ?_
  refine v_aload_n 30 X 0 dX4_steps_29 rfl rfl rfl ?_
  obtain ⟨z30, hz30, hF⟩ := ob hF
  refine v_mVi 33 X 0 [] (w_X4_cells _ hz30) q1233 q1235 qs38 q95 q1236 hdX4_cells 0 rfl rfl pass_no ⟨rfl, rfl⟩ ⟨Nat.le_of_ble_eq_true rfl, Nat.le_of_ble_eq_true rfl⟩ ⟨Nat.le_refl 0, Nat.le_refl 0⟩ rfl rfl (Nat.le_of_ble_eq_true rfl) dX4_steps_30 rfl ?_
  refine v_icmp_ge 36 81 X dX4_steps_33 rfl (by decide) (fun h33 => ?_) (fun h33 => ?_)
  · replace hF := ifp h33 hF
    obtain rfl := Option.some.inj hF
    exact v_lv [0, 1, 2] rfl (hO _ rfl)
  · replace hF := ifn h33 hF
    refine v_aload_n 37 X 0 dX4_steps_36 rfl rfl rfl ?_
    refine v_get 40 X in_X4 0 11 rfl rfl (by decide) q1183 rfl rfl dX4_steps_37 rfl ?_
    refine v_iload_n 41 X 3 dX4_steps_40 rfl rfl rfl ?_
    refine v_aload_n 42 X 0 dX4_steps_41 rfl rfl rfl ?_
    refine v_get 45 X in_X4 0 0 rfl rfl (by decide) q1172 rfl rfl dX4_steps_42 rfl ?_
    refine v_sipush (v := 487) 48 X dX4_steps_45 rfl ks_487 ?_
    refine v_iload_n 49 X 3 dX4_steps_48 rfl rfl rfl ?_
    refine v_iadd 50 X dX4_steps_49 rfl ?_
    obtain ⟨z50, hz50, hF⟩ := ob hF
    refine v_iald 51 X 1 hz50 rfl dX4_steps_50 rfl ?_
    refine v_aload_n 52 X 0 dX4_steps_51 rfl rfl rfl ?_
    refine v_iload_n 53 X 3 dX4_steps_52 rfl rfl rfl ?_
    obtain ⟨z53, hz53, hF⟩ := ob hF
    refine v_mVi 56 X 1 [.int v3] (w_X4_isFlowing v3 _ hz53) q1325 q1327 qs51 q95 q1328 hdX4_isFlowing 0 rfl rfl pass_no ⟨rfl, rfl⟩ ⟨Nat.le_of_ble_eq_true rfl, Nat.le_of_ble_eq_true rfl⟩ ⟨Nat.le_refl 0, Nat.le_refl 0⟩ rfl rfl (Nat.le_of_ble_eq_true rfl) dX4_steps_53 rfl ?_
    refine v_if_eq 59 72 X dX4_steps_56 rfl (by decide) (fun h56 => ?_) (fun h56 => ?_)
    · replace hF := ifp h56 hF
      refine v_iconst (v := 0) 73 X dX4_steps_72 rfl ki_0 ?_
      refine v_ior 74 X dX4_steps_73 rfl ?_
      obtain ⟨z74, hz74, hF⟩ := ob hF
      refine v_iast 75 (MW D a now past kept text queue isMet clusterOf z74 saved length met clusters frm ende wrong) X 8 hz74 rfl dX4_steps_74 rfl rfl ?_
      refine v_iinc (v := (v3 + 1)) 78 [(3, .int (v3 + 1)), (0, .ref (a 0)), (1, .int v1), (2, .int v2)] X 3 dX4_steps_75 rfl rfl (by rfl) (by decide) rfl ?_
      refine v_goto 28 X dX4_steps_78 (by decide) ?_
      obtain rfl := Option.some.inj hF
      exact v_lv [1, 2, 3, 0] rfl (hI _ rfl)
    · replace hF := ifn h56 hF
      refine v_aload_n 60 X 0 dX4_steps_59 rfl rfl rfl ?_
      refine v_get 63 X in_X4 0 0 rfl rfl (by decide) q1172 rfl rfl dX4_steps_60 rfl ?_
      refine v_sipush (v := 407) 66 X dX4_steps_63 rfl ks_407 ?_
      refine v_iload_n 67 X 3 dX4_steps_66 rfl rfl rfl ?_
      refine v_iadd 68 X dX4_steps_67 rfl ?_
      obtain ⟨z68, hz68, hF⟩ := ob hF
      refine v_iald 69 X 1 hz68 rfl dX4_steps_68 rfl ?_
      refine v_goto 73 X dX4_steps_69 (by decide) ?_
      refine v_ior 74 X dX4_steps_73 rfl ?_
      obtain ⟨z74, hz74, hF⟩ := ob hF
      refine v_iast 75 (MW D a now past kept text queue isMet clusterOf z74 saved length met clusters frm ende wrong) X 8 hz74 rfl dX4_steps_74 rfl rfl ?_
      refine v_iinc (v := (v3 + 1)) 78 [(3, .int (v3 + 1)), (0, .ref (a 0)), (1, .int v1), (2, .int v2)] X 3 dX4_steps_75 rfl rfl (by rfl) (by decide) rfl ?_
      refine v_goto 28 X dX4_steps_78 (by decide) ?_
      obtain rfl := Option.some.inj hF
      exact v_lv [1, 2, 3, 0] rfl (hI _ rfl)
theorem w_X4_steps_94_j161 (X : CX p s m args meth c D A cX4_steps 7 "DyeLatticeModel") (v1 : Int32) (v2 : Int32) (v3 : Int32) (v4 : Int32) (v5 : Int32) (v6 : Int32) {r : (Int32 × (Nat → Int32)) ⊕ ((Nat → Int32))} (hI : ∀ y, r = .inl y → V p l e rmX4_steps s m args below meth c D A 7 Q (MW D a now past kept text queue isMet clusterOf y.2 saved length met clusters frm ende wrong) 0 0 94 [(0, .ref (a 0)), (1, .int v1), (2, .int v2), (3, .int v3), (4, .int y.1)] []) (hO : ∀ y, r = .inr y → (V p l e rmX4_steps s m args below meth c D A 7 Q (MW D a now past kept text queue isMet clusterOf y saved length met clusters frm ende wrong) 0 0 190 [(0, .ref (a 0)), (1, .int v1), (2, .int v2), (3, .int v3)] [])) (hF : M_steps_94_j161 now fresh v1 v2 v3 v4 v5 v6 = some r) : V p l e rmX4_steps s m args below meth c D A 7 Q (MW D a now past kept text queue isMet clusterOf fresh saved length met clusters frm ende wrong) 0 0 161 [(0, .ref (a 0)), (1, .int v1), (2, .int v2), (3, .int v3), (4, .int v4), (5, .int v5), (6, .int v6)] [] := by
  unfold M_steps_94_j161 at hF
  refine v_iload 163 X 6 dX4_steps_161 rfl rfl ?_
  refine v_if_eq 166 184 X dX4_steps_163 rfl (by decide) (fun h163 => ?_) (fun h163 => ?_)
  · replace hF := ifp h163 hF
    refine v_iinc (v := (v4 + 1)) 187 [(4, .int (v4 + 1)), (0, .ref (a 0)), (1, .int v1), (2, .int v2), (3, .int v3), (5, .int v5), (6, .int v6)] X 4 dX4_steps_184 rfl rfl (by rfl) (by decide) rfl ?_
    refine v_goto 94 X dX4_steps_187 (by decide) ?_
    obtain rfl := Option.some.inj hF
    exact v_lv [1, 2, 3, 4, 0] rfl (hI _ rfl)
  · replace hF := ifn h163 hF
    refine v_aload_n 167 X 0 dX4_steps_166 rfl rfl rfl ?_
    refine v_iload_n 168 X 3 dX4_steps_167 rfl rfl rfl ?_
    refine v_iload 170 X 4 dX4_steps_168 rfl rfl ?_
    refine v_iconst (v := 0) 171 X dX4_steps_170 rfl ki_0 ?_
    obtain ⟨z171, hz171, hF⟩ := ob hF
    refine v_mVi 174 X 3 [.int v3, .int v4, .int 0] (w_X4_lets v3 v4 0 _ hz171) q1329 q1331 qs52 q95 q1332 hdX4_lets 0 rfl rfl pass_no ⟨rfl, rfl⟩ ⟨Nat.le_of_ble_eq_true rfl, Nat.le_of_ble_eq_true rfl⟩ ⟨Nat.le_refl 0, Nat.le_refl 0⟩ rfl rfl (Nat.le_of_ble_eq_true rfl) dX4_steps_171 rfl ?_
    refine v_if_eq 177 184 X dX4_steps_174 rfl (by decide) (fun h174 => ?_) (fun h174 => ?_)
    · replace hF := ifp h174 hF
      refine v_iinc (v := (v4 + 1)) 187 [(4, .int (v4 + 1)), (0, .ref (a 0)), (1, .int v1), (2, .int v2), (3, .int v3), (5, .int v5), (6, .int v6)] X 4 dX4_steps_184 rfl rfl (by rfl) (by decide) rfl ?_
      refine v_goto 94 X dX4_steps_187 (by decide) ?_
      obtain rfl := Option.some.inj hF
      exact v_lv [1, 2, 3, 4, 0] rfl (hI _ rfl)
    · replace hF := ifn h174 hF
      refine v_aload_n 178 X 0 dX4_steps_177 rfl rfl rfl ?_
      refine v_iload 180 X 5 dX4_steps_178 rfl rfl ?_
      refine v_iload_n 181 X 3 dX4_steps_180 rfl rfl rfl ?_
      obtain ⟨z181, hz181, hF⟩ := ob hF
      refine v_mVv 184 X 2 [.int v5, .int v3] (w_X4_flows v5 v3 _ hz181) q1333 q1335 qs53 q95 q1336 hdX4_flows 0 rfl rfl pass_no ⟨rfl, rfl⟩ ⟨Nat.le_of_ble_eq_true rfl, Nat.le_of_ble_eq_true rfl⟩ ⟨Nat.le_refl 0, Nat.le_refl 0⟩ rfl rfl (Nat.le_of_ble_eq_true rfl) dX4_steps_181 rfl ?_
      refine v_iinc (v := (v4 + 1)) 187 [(4, .int (v4 + 1)), (0, .ref (a 0)), (1, .int v1), (2, .int v2), (3, .int v3), (5, .int v5), (6, .int v6)] X 4 dX4_steps_184 rfl rfl (by rfl) (by decide) rfl ?_
      refine v_goto 94 X dX4_steps_187 (by decide) ?_
      obtain rfl := Option.some.inj hF
      exact v_lv [1, 2, 3, 4, 0] rfl (hI _ rfl)
theorem w_X4_steps_94_j136 (X : CX p s m args meth c D A cX4_steps 7 "DyeLatticeModel") (v1 : Int32) (v2 : Int32) (v3 : Int32) (v4 : Int32) (v5 : Int32) (s0 : Int32) {r : (Int32 × (Nat → Int32)) ⊕ ((Nat → Int32))} (hI : ∀ y, r = .inl y → V p l e rmX4_steps s m args below meth c D A 7 Q (MW D a now past kept text queue isMet clusterOf y.2 saved length met clusters frm ende wrong) 0 0 94 [(0, .ref (a 0)), (1, .int v1), (2, .int v2), (3, .int v3), (4, .int y.1)] []) (hO : ∀ y, r = .inr y → (V p l e rmX4_steps s m args below meth c D A 7 Q (MW D a now past kept text queue isMet clusterOf y saved length met clusters frm ende wrong) 0 0 190 [(0, .ref (a 0)), (1, .int v1), (2, .int v2), (3, .int v3)] [])) (hF : M_steps_94_j136 now fresh v1 v2 v3 v4 v5 s0 = some r) : V p l e rmX4_steps s m args below meth c D A 7 Q (MW D a now past kept text queue isMet clusterOf fresh saved length met clusters frm ende wrong) 0 0 136 [(0, .ref (a 0)), (1, .int v1), (2, .int v2), (3, .int v3), (4, .int v4), (5, .int v5)] [.int s0] := by
  unfold M_steps_94_j136 at hF
  refine v_istore 138 [(6, .int s0), (0, .ref (a 0)), (1, .int v1), (2, .int v2), (3, .int v3), (4, .int v4), (5, .int v5)] X dX4_steps_136 rfl (by decide) rfl ?_
  refine v_iload 140 X 0 dX4_steps_138 rfl rfl ?_
  refine v_if_eq 143 161 X dX4_steps_140 rfl (by decide) (fun h140 => ?_) (fun h140 => ?_)
  · replace hF := ifp h140 hF
    exact v_lv [1, 2, 3, 4, 5, 6, 0] rfl (w_X4_steps_94_j161 X v1 v2 v3 v4 v5 s0 hI hO hF)
  · replace hF := ifn h140 hF
    refine v_aload_n 144 X 1 dX4_steps_143 rfl rfl rfl ?_
    refine v_iload_n 145 X 4 dX4_steps_144 rfl rfl rfl ?_
    refine v_iload 147 X 5 dX4_steps_145 rfl rfl ?_
    refine v_iconst (v := 1) 148 X dX4_steps_147 rfl ki_1 ?_
    obtain ⟨z148, hz148, hF⟩ := ob hF
    refine v_mVi 151 X 3 [.int v3, .int v4, .int 1] (w_X4_lets v3 v4 1 _ hz148) q1329 q1331 qs52 q95 q1332 hdX4_lets 0 rfl rfl pass_no ⟨rfl, rfl⟩ ⟨Nat.le_of_ble_eq_true rfl, Nat.le_of_ble_eq_true rfl⟩ ⟨Nat.le_refl 0, Nat.le_refl 0⟩ rfl rfl (Nat.le_of_ble_eq_true rfl) dX4_steps_148 rfl ?_
    refine v_if_eq 154 161 X dX4_steps_151 rfl (by decide) (fun h151 => ?_) (fun h151 => ?_)
    · replace hF := ifp h151 hF
      exact v_lv [1, 2, 3, 4, 5, 6, 0] rfl (w_X4_steps_94_j161 X v1 v2 v3 v4 v5 s0 hI hO hF)
    · replace hF := ifn h151 hF
      refine v_aload_n 155 X 1 dX4_steps_154 rfl rfl rfl ?_
      refine v_iload_n 156 X 4 dX4_steps_155 rfl rfl rfl ?_
      refine v_iload 158 X 6 dX4_steps_156 rfl rfl ?_
      obtain ⟨z158, hz158, hF⟩ := ob hF
      refine v_mVv 161 X 2 [.int v3, .int v5] (w_X4_flows v3 v5 _ hz158) q1333 q1335 qs53 q95 q1336 hdX4_flows 0 rfl rfl pass_no ⟨rfl, rfl⟩ ⟨Nat.le_of_ble_eq_true rfl, Nat.le_of_ble_eq_true rfl⟩ ⟨Nat.le_refl 0, Nat.le_refl 0⟩ rfl rfl (Nat.le_of_ble_eq_true rfl) dX4_steps_158 rfl ?_
      exact v_lv [1, 2, 3, 4, 5, 6, 0] rfl (w_X4_steps_94_j161 X v1 v2 v3 v4 v5 s0 hI hO hF)
theorem w_X4_steps_94 (X : CX p s m args meth c D A cX4_steps 7 "DyeLatticeModel") (v1 : Int32) (v2 : Int32) (v3 : Int32) : ∀ (n : Nat) (x : Int32 × (Nat → Int32)) (o : ((Nat → Int32))), loopN (fun x => M_steps_94 v1 v2 v3 now x.1 x.2) n x = some o → (V p l e rmX4_steps s m args below meth c D A 7 Q (MW D a now past kept text queue isMet clusterOf o saved length met clusters frm ende wrong) 0 0 190 [(0, .ref (a 0)), (1, .int v1), (2, .int v2), (3, .int v3)] []) → V p l e rmX4_steps s m args below meth c D A 7 Q (MW D a now past kept text queue isMet clusterOf x.2 saved length met clusters frm ende wrong) 0 0 94 [(0, .ref (a 0)), (1, .int v1), (2, .int v2), (3, .int v3), (4, .int x.1)] [] := by
  refine v_loop (fun (x : Int32 × (Nat → Int32)) => V p l e rmX4_steps s m args below meth c D A 7 Q (MW D a now past kept text queue isMet clusterOf x.2 saved length met clusters frm ende wrong) 0 0 94 [(0, .ref (a 0)), (1, .int v1), (2, .int v2), (3, .int v3), (4, .int x.1)] []) (fun (o : ((Nat → Int32))) => V p l e rmX4_steps s m args below meth c D A 7 Q (MW D a now past kept text queue isMet clusterOf o saved length met clusters frm ende wrong) 0 0 190 [(0, .ref (a 0)), (1, .int v1), (2, .int v2), (3, .int v3)] []) ?_
  rintro ⟨v4, fresh⟩ r hF hI hO
  replace hF : M_steps_94 v1 v2 v3 now v4 fresh = some r := hF
  show V p l e rmX4_steps s m args below meth c D A 7 Q (MW D a now past kept text queue isMet clusterOf fresh saved length met clusters frm ende wrong) 0 0 94 [(0, .ref (a 0)), (1, .int v1), (2, .int v2), (3, .int v3), (4, .int v4)] []
  unfold M_steps_94 at hF
  refine v_iload 96 X 4 dX4_steps_94 rfl rfl ?_
  refine v_iconst (v := 4) 97 X dX4_steps_96 rfl ki_4 ?_
  refine v_icmp_ge 100 190 X dX4_steps_97 rfl (by decide) (fun h97 => ?_) (fun h97 => ?_)
  · replace hF := ifp h97 hF
    obtain rfl := Option.some.inj hF
    exact v_lv [0, 1, 2, 3] rfl (hO _ rfl)
  · replace hF := ifn h97 hF
    refine v_aload_n 101 X 0 dX4_steps_100 rfl rfl rfl ?_
    refine v_iload_n 102 X 3 dX4_steps_101 rfl rfl rfl ?_
    refine v_iload 104 X 4 dX4_steps_102 rfl rfl ?_
    obtain ⟨z104, hz104, hF⟩ := ob hF
    refine v_mVi 107 X 2 [.int v3, .int v4] (w_X4_second v3 v4 _ hz104) q1249 q1251 qs41 q95 q1252 hdX4_second 0 rfl rfl pass_no ⟨rfl, rfl⟩ ⟨Nat.le_of_ble_eq_true rfl, Nat.le_of_ble_eq_true rfl⟩ ⟨Nat.le_refl 0, Nat.le_refl 0⟩ rfl rfl (Nat.le_of_ble_eq_true rfl) dX4_steps_104 rfl ?_
    refine v_istore 109 [(5, .int z104), (0, .ref (a 0)), (1, .int v1), (2, .int v2), (3, .int v3), (4, .int v4)] X dX4_steps_107 rfl (by decide) rfl ?_
    refine v_iload 111 X 0 dX4_steps_109 rfl rfl ?_
    refine v_bipush (v := (-9)) 113 X dX4_steps_111 rfl kb_m9 ?_
    refine v_icmp_eq 116 135 X dX4_steps_113 rfl (by decide) (fun h113 => ?_) (fun h113 => ?_)
    · replace hF := ifp h113 hF
      refine v_iconst (v := 0) 136 X dX4_steps_135 rfl ki_0 ?_
      exact v_lv [1, 2, 3, 4, 5, 0] rfl (w_X4_steps_94_j136 X v1 v2 v3 v4 z104 0 hI hO hF)
    · replace hF := ifn h113 hF
      refine v_iload_n 117 X 2 dX4_steps_116 rfl rfl rfl ?_
      refine v_if_ne 120 131 X dX4_steps_117 rfl (by decide) (fun h117 => ?_) (fun h117 => ?_)
      · replace hF := ifn h117 hF
        refine v_iconst (v := 1) 132 X dX4_steps_131 rfl ki_1 ?_
        refine v_goto 136 X dX4_steps_132 (by decide) ?_
        exact v_lv [1, 2, 3, 4, 5, 0] rfl (w_X4_steps_94_j136 X v1 v2 v3 v4 z104 1 hI hO hF)
      · replace hF := ifp h117 hF
        refine v_aload_n 121 X 1 dX4_steps_120 rfl rfl rfl ?_
        refine v_iload_n 122 X 4 dX4_steps_121 rfl rfl rfl ?_
        refine v_iload 124 X 5 dX4_steps_122 rfl rfl ?_
        obtain ⟨z124, hz124, hF⟩ := ob hF
        refine v_mVi 127 X 2 [.int v3, .int v4] (w_X4_valveOf v3 v4 _ hz124) q1286 q1288 qs47 q95 q1289 hdX4_valveOf 0 rfl rfl pass_no ⟨rfl, rfl⟩ ⟨Nat.le_of_ble_eq_true rfl, Nat.le_of_ble_eq_true rfl⟩ ⟨Nat.le_refl 0, Nat.le_refl 0⟩ rfl rfl (Nat.le_of_ble_eq_true rfl) dX4_steps_124 rfl ?_
        refine v_iconst (v := 4) 128 X dX4_steps_127 rfl ki_4 ?_
        refine v_icmp_eq 131 135 X dX4_steps_128 rfl (by decide) (fun h128 => ?_) (fun h128 => ?_)
        · replace hF := ifp h128 hF
          refine v_iconst (v := 0) 136 X dX4_steps_135 rfl ki_0 ?_
          exact v_lv [1, 2, 3, 4, 5, 0] rfl (w_X4_steps_94_j136 X v1 v2 v3 v4 z104 0 hI hO hF)
        · replace hF := ifn h128 hF
          refine v_iconst (v := 1) 132 X dX4_steps_131 rfl ki_1 ?_
          refine v_goto 136 X dX4_steps_132 (by decide) ?_
          exact v_lv [1, 2, 3, 4, 5, 0] rfl (w_X4_steps_94_j136 X v1 v2 v3 v4 z104 1 hI hO hF)
theorem w_X4_steps_83 (X : CX p s m args meth c D A cX4_steps 7 "DyeLatticeModel") (v1 : Int32) (v2 : Int32) : ∀ (n : Nat) (x : Int32 × (Nat → Int32)) (o : ((Nat → Int32))), loopN (fun x => M_steps_83 v1 v2 now x.1 x.2) n x = some o → (V p l e rmX4_steps s m args below meth c D A 7 Q (MW D a now past kept text queue isMet clusterOf o saved length met clusters frm ende wrong) 0 0 196 [(0, .ref (a 0)), (2, .int v2)] []) → V p l e rmX4_steps s m args below meth c D A 7 Q (MW D a now past kept text queue isMet clusterOf x.2 saved length met clusters frm ende wrong) 0 0 83 [(0, .ref (a 0)), (1, .int v1), (2, .int v2), (3, .int x.1)] [] := by
  refine v_loop (fun (x : Int32 × (Nat → Int32)) => V p l e rmX4_steps s m args below meth c D A 7 Q (MW D a now past kept text queue isMet clusterOf x.2 saved length met clusters frm ende wrong) 0 0 83 [(0, .ref (a 0)), (1, .int v1), (2, .int v2), (3, .int x.1)] []) (fun (o : ((Nat → Int32))) => V p l e rmX4_steps s m args below meth c D A 7 Q (MW D a now past kept text queue isMet clusterOf o saved length met clusters frm ende wrong) 0 0 196 [(0, .ref (a 0)), (2, .int v2)] []) ?_
  rintro ⟨v3, fresh⟩ r hF hI hO
  replace hF : M_steps_83 v1 v2 now v3 fresh = some r := hF
  show V p l e rmX4_steps s m args below meth c D A 7 Q (MW D a now past kept text queue isMet clusterOf fresh saved length met clusters frm ende wrong) 0 0 83 [(0, .ref (a 0)), (1, .int v1), (2, .int v2), (3, .int v3)] []
  unfold M_steps_83 at hF
  refine v_iload_n 84 X 3 dX4_steps_83 rfl rfl rfl ?_
  refine v_aload_n 85 X 0 dX4_steps_84 rfl rfl rfl ?_
  obtain ⟨z85, hz85, hF⟩ := ob hF
  refine v_mVi 88 X 0 [] (w_X4_cells _ hz85) q1233 q1235 qs38 q95 q1236 hdX4_cells 0 rfl rfl pass_no ⟨rfl, rfl⟩ ⟨Nat.le_of_ble_eq_true rfl, Nat.le_of_ble_eq_true rfl⟩ ⟨Nat.le_refl 0, Nat.le_refl 0⟩ rfl rfl (Nat.le_of_ble_eq_true rfl) dX4_steps_85 rfl ?_
  refine v_icmp_ge 91 196 X dX4_steps_88 rfl (by decide) (fun h88 => ?_) (fun h88 => ?_)
  · replace hF := ifp h88 hF
    obtain rfl := Option.some.inj hF
    exact v_lv [0, 2] rfl (hO _ rfl)
  · replace hF := ifn h88 hF
    refine v_iconst (v := 0) 92 X dX4_steps_91 rfl ki_0 ?_
    refine v_istore 94 [(4, .int 0), (0, .ref (a 0)), (1, .int v1), (2, .int v2), (3, .int v3)] X dX4_steps_92 rfl (by decide) rfl ?_
    obtain ⟨z94, hz94, hF⟩ := ob hF
    refine v_lv [1, 2, 3, 4, 0] rfl (w_X4_steps_94 X v1 v2 v3 _ (0, fresh) _ hz94 ?_)
    refine v_iinc (v := (v3 + 1)) 193 [(3, .int (v3 + 1)), (0, .ref (a 0)), (1, .int v1), (2, .int v2)] X 3 dX4_steps_190 rfl rfl (by rfl) (by decide) rfl ?_
    refine v_goto 83 X dX4_steps_193 (by decide) ?_
    obtain rfl := Option.some.inj hF
    exact v_lv [1, 2, 3, 0] rfl (hI _ rfl)
theorem w_X4_steps_198 (X : CX p s m args meth c D A cX4_steps 7 "DyeLatticeModel") : ∀ (n : Nat) (x : Int32 × Int32 × (Nat → Int32)) (o : (Int32 × (Nat → Int32))), loopN (fun x => M_steps_198 fresh x.1 x.2.1 x.2.2) n x = some o → (V p l e rmX4_steps s m args below meth c D A 7 Q (MW D a o.2 past kept text queue isMet clusterOf fresh saved length met clusters frm ende wrong) 0 0 325 [(0, .ref (a 0)), (2, .int o.1)] []) → V p l e rmX4_steps s m args below meth c D A 7 Q (MW D a x.2.2 past kept text queue isMet clusterOf fresh saved length met clusters frm ende wrong) 0 0 198 [(0, .ref (a 0)), (2, .int x.1), (3, .int x.2.1)] [] := by
  refine v_loop (fun (x : Int32 × Int32 × (Nat → Int32)) => V p l e rmX4_steps s m args below meth c D A 7 Q (MW D a x.2.2 past kept text queue isMet clusterOf fresh saved length met clusters frm ende wrong) 0 0 198 [(0, .ref (a 0)), (2, .int x.1), (3, .int x.2.1)] []) (fun (o : (Int32 × (Nat → Int32))) => V p l e rmX4_steps s m args below meth c D A 7 Q (MW D a o.2 past kept text queue isMet clusterOf fresh saved length met clusters frm ende wrong) 0 0 325 [(0, .ref (a 0)), (2, .int o.1)] []) ?_
  rintro ⟨v2, v3, now⟩ r hF hI hO
  replace hF : M_steps_198 fresh v2 v3 now = some r := hF
  show V p l e rmX4_steps s m args below meth c D A 7 Q (MW D a now past kept text queue isMet clusterOf fresh saved length met clusters frm ende wrong) 0 0 198 [(0, .ref (a 0)), (2, .int v2), (3, .int v3)] []
  unfold M_steps_198 at hF
  refine v_iload_n 199 X 2 dX4_steps_198 rfl rfl rfl ?_
  refine v_aload_n 200 X 0 dX4_steps_199 rfl rfl rfl ?_
  obtain ⟨z200, hz200, hF⟩ := ob hF
  refine v_mVi 203 X 0 [] (w_X4_cells _ hz200) q1233 q1235 qs38 q95 q1236 hdX4_cells 0 rfl rfl pass_no ⟨rfl, rfl⟩ ⟨Nat.le_of_ble_eq_true rfl, Nat.le_of_ble_eq_true rfl⟩ ⟨Nat.le_refl 0, Nat.le_refl 0⟩ rfl rfl (Nat.le_of_ble_eq_true rfl) dX4_steps_200 rfl ?_
  refine v_icmp_ge 206 325 X dX4_steps_203 rfl (by decide) (fun h203 => ?_) (fun h203 => ?_)
  · replace hF := ifp h203 hF
    obtain rfl := Option.some.inj hF
    exact v_lv [0, 1] rfl (hO _ rfl)
  · replace hF := ifn h203 hF
    refine v_iconst (v := 0) 207 X dX4_steps_206 rfl ki_0 ?_
    refine v_istore 209 [(4, .int 0), (0, .ref (a 0)), (2, .int v2), (3, .int v3)] X dX4_steps_207 rfl (by decide) rfl ?_
    obtain ⟨z209, hz209, hF⟩ := ob hF
    refine v_lv [1, 2, 3, 0] rfl (w_X4_steps_209 X v3 _ (v2, 0) _ hz209 ?_)
    refine v_aload_n 262 X 0 dX4_steps_261 rfl rfl rfl ?_
    refine v_get 265 X in_X4 0 0 rfl rfl (by decide) q1172 rfl rfl dX4_steps_262 rfl ?_
    refine v_sipush (v := 487) 268 X dX4_steps_265 rfl ks_487 ?_
    refine v_iload_n 269 X 2 dX4_steps_268 rfl rfl rfl ?_
    refine v_iadd 270 X dX4_steps_269 rfl ?_
    refine v_aload_n 271 X 0 dX4_steps_270 rfl rfl rfl ?_
    refine v_get 274 X in_X4 0 11 rfl rfl (by decide) q1183 rfl rfl dX4_steps_271 rfl ?_
    refine v_iload_n 275 X 2 dX4_steps_274 rfl rfl rfl ?_
    obtain ⟨z275, hz275, hF⟩ := ob hF
    refine v_iald 276 X 8 hz275 rfl dX4_steps_275 rfl ?_
    obtain ⟨z276, hz276, hF⟩ := ob hF
    refine v_iast 277 (MW D a z276 past kept text queue isMet clusterOf fresh saved length met clusters frm ende wrong) X 1 hz276 rfl dX4_steps_276 rfl rfl ?_
    refine v_aload_n 278 X 0 dX4_steps_277 rfl rfl rfl ?_
    refine v_get 281 X in_X4 0 0 rfl rfl (by decide) q1172 rfl rfl dX4_steps_278 rfl ?_
    refine v_sipush (v := 567) 284 X dX4_steps_281 rfl ks_567 ?_
    refine v_iload_n 285 X 2 dX4_steps_284 rfl rfl rfl ?_
    refine v_iadd 286 X dX4_steps_285 rfl ?_
    refine v_aload_n 287 X 0 dX4_steps_286 rfl rfl rfl ?_
    refine v_get 290 X in_X4 0 0 rfl rfl (by decide) q1172 rfl rfl dX4_steps_287 rfl ?_
    refine v_sipush (v := 567) 293 X dX4_steps_290 rfl ks_567 ?_
    refine v_iload_n 294 X 2 dX4_steps_293 rfl rfl rfl ?_
    refine v_iadd 295 X dX4_steps_294 rfl ?_
    obtain ⟨z295, hz295, hF⟩ := ob hF
    refine v_iald 296 X 1 hz295 rfl dX4_steps_295 rfl ?_
    refine v_iconst (v := 1) 297 X dX4_steps_296 rfl ki_1 ?_
    refine v_icmp_eq 300 313 X dX4_steps_297 rfl (by decide) (fun h297 => ?_) (fun h297 => ?_)
    · replace hF := ifp h297 hF
      refine v_iconst (v := 1) 314 X dX4_steps_313 rfl ki_1 ?_
      refine v_goto 318 X dX4_steps_314 (by decide) ?_
      obtain ⟨z318, hz318, hF⟩ := ob hF
      refine v_iast 319 (MW D a z318 past kept text queue isMet clusterOf fresh saved length met clusters frm ende wrong) X 1 hz318 rfl dX4_steps_318 rfl rfl ?_
      refine v_iinc (v := (v3 + 1)) 322 [(3, .int (v3 + 1)), (0, .ref (a 0)), (2, .int z209)] X 2 dX4_steps_319 rfl rfl (by rfl) (by decide) rfl ?_
      refine v_goto 198 X dX4_steps_322 (by decide) ?_
      obtain rfl := Option.some.inj hF
      exact v_lv [1, 2, 0] rfl (hI _ rfl)
    · replace hF := ifn h297 hF
      refine v_aload_n 301 X 0 dX4_steps_300 rfl rfl rfl ?_
      refine v_aload_n 302 X 0 dX4_steps_301 rfl rfl rfl ?_
      refine v_get 305 X in_X4 0 11 rfl rfl (by decide) q1183 rfl rfl dX4_steps_302 rfl ?_
      refine v_iload_n 306 X 2 dX4_steps_305 rfl rfl rfl ?_
      obtain ⟨z306, hz306, hF⟩ := ob hF
      refine v_iald 307 X 8 hz306 rfl dX4_steps_306 rfl ?_
      obtain ⟨z307, hz307, hF⟩ := ob hF
      refine v_mVi 310 X 1 [.int z306] (w_X4_reacts z306 _ hz307) q1337 q1339 qs54 q95 q1340 hdX4_reacts 0 rfl rfl pass_no ⟨rfl, rfl⟩ ⟨Nat.le_of_ble_eq_true rfl, Nat.le_of_ble_eq_true rfl⟩ ⟨Nat.le_refl 0, Nat.le_refl 0⟩ rfl rfl (Nat.le_of_ble_eq_true rfl) dX4_steps_307 rfl ?_
      refine v_if_eq 313 317 X dX4_steps_310 rfl (by decide) (fun h310 => ?_) (fun h310 => ?_)
      · replace hF := ifp h310 hF
        refine v_iconst (v := 0) 318 X dX4_steps_317 rfl ki_0 ?_
        obtain ⟨z318, hz318, hF⟩ := ob hF
        refine v_iast 319 (MW D a z318 past kept text queue isMet clusterOf fresh saved length met clusters frm ende wrong) X 1 hz318 rfl dX4_steps_318 rfl rfl ?_
        refine v_iinc (v := (v3 + 1)) 322 [(3, .int (v3 + 1)), (0, .ref (a 0)), (2, .int z209)] X 2 dX4_steps_319 rfl rfl (by rfl) (by decide) rfl ?_
        refine v_goto 198 X dX4_steps_322 (by decide) ?_
        obtain rfl := Option.some.inj hF
        exact v_lv [1, 2, 0] rfl (hI _ rfl)
      · replace hF := ifn h310 hF
        refine v_iconst (v := 1) 314 X dX4_steps_313 rfl ki_1 ?_
        refine v_goto 318 X dX4_steps_314 (by decide) ?_
        obtain ⟨z318, hz318, hF⟩ := ob hF
        refine v_iast 319 (MW D a z318 past kept text queue isMet clusterOf fresh saved length met clusters frm ende wrong) X 1 hz318 rfl dX4_steps_318 rfl rfl ?_
        refine v_iinc (v := (v3 + 1)) 322 [(3, .int (v3 + 1)), (0, .ref (a 0)), (2, .int z209)] X 2 dX4_steps_319 rfl rfl (by rfl) (by decide) rfl ?_
        refine v_goto 198 X dX4_steps_322 (by decide) ?_
        obtain rfl := Option.some.inj hF
        exact v_lv [1, 2, 0] rfl (hI _ rfl)
theorem w_X4_steps_j23 (X : CX p s m args meth c D A cX4_steps 7 "DyeLatticeModel") (hr : meth.sig.returnType = (Option.some Jvm.ClassFile.FieldType.int)) {r : Int32 × (Nat → Int32) × (Nat → Int32)} (s0 : Int32) (hF : M_steps_j23 now fresh s0 = some r) : V p l e rmX4_steps s m args below meth c D A 7 (MQ below (va_Qi (fun r1 u => r1 = r.1 ∧ u = (MW D a r.2.1 past kept text queue isMet clusterOf r.2.2 saved length met clusters frm ende wrong)) (Wd D A) A) args s rmX4_steps.cells rmX4_steps.slots A) (MW D a now past kept text queue isMet clusterOf fresh saved length met clusters frm ende wrong) 0 0 23 [(0, .ref (a 0))] [.int s0] := by
  unfold M_steps_j23 at hF
  refine v_istore_n 24 [(1, .int s0), (0, .ref (a 0))] X dX4_steps_23 rfl rfl (by decide) rfl ?_
  refine v_iconst (v := 0) 25 X dX4_steps_24 rfl ki_0 ?_
  refine v_istore_n 26 [(2, .int 0), (1, .int s0), (0, .ref (a 0))] X dX4_steps_25 rfl rfl (by decide) rfl ?_
  refine v_iconst (v := 0) 27 X dX4_steps_26 rfl ki_0 ?_
  refine v_istore_n 28 [(3, .int 0), (2, .int 0), (1, .int s0), (0, .ref (a 0))] X dX4_steps_27 rfl rfl (by decide) rfl ?_
  obtain ⟨z28, hz28, hF⟩ := ob hF
  refine v_lv [3, 2, 1, 0] rfl (w_X4_steps_28 X s0 0 _ (0, fresh) _ hz28 ?_)
  refine v_iconst (v := 0) 82 X dX4_steps_81 rfl ki_0 ?_
  refine v_istore_n 83 [(3, .int 0), (0, .ref (a 0)), (1, .int s0), (2, .int 0)] X dX4_steps_82 rfl rfl (by decide) rfl ?_
  obtain ⟨z83, hz83, hF⟩ := ob hF
  refine v_lv [1, 2, 3, 0] rfl (w_X4_steps_83 X s0 0 _ (0, z28) _ hz83 ?_)
  refine v_iconst (v := 0) 197 X dX4_steps_196 rfl ki_0 ?_
  refine v_istore_n 198 [(3, .int 0), (0, .ref (a 0)), (2, .int 0)] X dX4_steps_197 rfl rfl (by decide) rfl ?_
  obtain ⟨z198, hz198, hF⟩ := ob hF
  refine v_lv [1, 2, 0] rfl (w_X4_steps_198 X _ (0, 0, now) _ hz198 ?_)
  refine v_aload_n 326 X 0 dX4_steps_325 rfl rfl rfl ?_
  refine v_get 329 X in_X4 0 0 rfl rfl (by decide) q1172 rfl rfl dX4_steps_326 rfl ?_
  refine v_iconst (v := 5) 330 X dX4_steps_329 rfl ki_5 ?_
  refine v_dup2 331 X dX4_steps_330 rfl rfl rfl ?_
  obtain ⟨z331, hz331, hF⟩ := ob hF
  refine v_iald 332 X 1 hz331 rfl dX4_steps_331 rfl ?_
  refine v_iconst (v := 1) 333 X dX4_steps_332 rfl ki_1 ?_
  refine v_iadd 334 X dX4_steps_333 rfl ?_
  obtain ⟨z334, hz334, hF⟩ := ob hF
  refine v_iast 335 (MW D a z334 past kept text queue isMet clusterOf z83 saved length met clusters frm ende wrong) X 1 hz334 rfl dX4_steps_334 rfl rfl ?_
  refine v_iload_n 336 X 1 dX4_steps_335 rfl rfl rfl ?_
  obtain rfl := Option.some.inj hF
  exact v_iret X hr ⟨rfl, rfl⟩ (Nat.zero_le _) (Nat.zero_le _) dX4_steps_336
theorem w_X4_steps (r : Int32 × (Nat → Int32) × (Nat → Int32)) (hF : M_steps now fresh = some r) : CTi l yX4_steps cX4_steps 7 (Option.some Jvm.ClassFile.FieldType.int) rmX4_steps D (MW D a now past kept text queue isMet clusterOf fresh saved length met clusters frm ende wrong) [.ref (a 0)] NoX (fun r1 u => r1 = r.1 ∧ u = (MW D a r.2.1 past kept text queue isMet clusterOf r.2.2 saved length met clusters frm ende wrong)) := by
  refine m_i (by decide) (Nat.le_of_ble_eq_true rfl) ?_
  intro p e s m args below meth c A B
  obtain ⟨X, hr, -, -, -, -⟩ := B
  replace X : CX p s m args meth c D A cX4_steps 7 "DyeLatticeModel" := X
  refine v_lv (lv' := [(0, .ref (a 0))]) [0] rfl ?_
  unfold M_steps at hF
  refine v_aload_n 1 X 0 dX4_steps_0 rfl rfl rfl ?_
  refine v_get 4 X in_X4 0 0 rfl rfl (by decide) q1172 rfl rfl dX4_steps_1 rfl ?_
  refine v_iconst (v := 5) 5 X dX4_steps_4 rfl ki_5 ?_
  obtain ⟨z5, hz5, hF⟩ := ob hF
  refine v_iald 6 X 1 hz5 rfl dX4_steps_5 rfl ?_
  refine v_aload_n 7 X 0 dX4_steps_6 rfl rfl rfl ?_
  refine v_get 10 X in_X4 0 0 rfl rfl (by decide) q1172 rfl rfl dX4_steps_7 rfl ?_
  refine v_iconst (v := 4) 11 X dX4_steps_10 rfl ki_4 ?_
  obtain ⟨z11, hz11, hF⟩ := ob hF
  refine v_iald 12 X 1 hz11 rfl dX4_steps_11 rfl ?_
  obtain ⟨z12, hz12, hF⟩ := ob hF
  refine v_idiv 13 X hz12 dX4_steps_12 rfl ?_
  refine v_iconst (v := 2) 14 X dX4_steps_13 rfl ki_2 ?_
  obtain ⟨z14, hz14, hF⟩ := ob hF
  refine v_irem 15 X hz14 dX4_steps_14 rfl ?_
  refine v_if_ne 18 22 X dX4_steps_15 rfl (by decide) (fun h15 => ?_) (fun h15 => ?_)
  · replace hF := ifn h15 hF
    refine v_iconst (v := 0) 23 X dX4_steps_22 rfl ki_0 ?_
    exact v_lv [0] rfl (w_X4_steps_j23 X hr 0 hF)
  · replace hF := ifp h15 hF
    refine v_iconst (v := 1) 19 X dX4_steps_18 rfl ki_1 ?_
    refine v_goto 23 X dX4_steps_19 (by decide) ?_
    exact v_lv [0] rfl (w_X4_steps_j23 X hr 1 hF)
end
