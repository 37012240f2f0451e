set_option maxRecDepth 100000
set_option maxHeartbeats 4000000
section
variable {p : Program} {l : Launch} {e : Env} {s : State} {m : MethodId} {args : Array Value} {below : List Frame} {meth : Method} {c : Code} {D : va_G} {A : Nat → Prop} {Q : State → Prop} {ws : va_W} {b0 b1 b2 b3 b4 b5 n n4 kd : Nat} {cols rows thr bt tm rea : Int32} {gr so dy cg : Nat → Int32} {vl : Nat → Nat}
theorem w_X0_isBetween (ws : va_W) (v0 : Int32) (v1 : Int32) (v2 : Int32) (r : Int32) (hF : C_isBetween v0 v1 v2 = some r) : CTi l yX0_isBetween cX0_isBetween 3 (Option.some Jvm.ClassFile.FieldType.boolean) rmX0_isBetween D ws [.int v0, .int v1, .int v2] (NoX) (fun r1 u => r1 = r ∧ u = ws) := by
  refine m_i (by decide) (Nat.le_of_ble_eq_true rfl) ?_
  intro p e s m args below meth c A B
  obtain ⟨X, hr, hAm, -, hnm, hnmd⟩ := B
  replace X : CX p s m args meth c D A cX0_isBetween 3 "DyeLattice" := X
  refine v_lv (lv' := [(0, .int v0), (1, .int v1), (2, .int v2)]) [0, 1, 2] rfl ?_
  unfold C_isBetween at hF
  refine v_iload_n 1 X 0 dX0_isBetween_0 rfl rfl rfl ?_
  refine v_iload_n 2 X 1 dX0_isBetween_1 rfl rfl rfl ?_
  refine v_icmp_lt 5 14 X dX0_isBetween_2 rfl (by decide) (fun h2 => ?_) (fun h2 => ?_)
  · replace hF := ifp h2 hF
    refine v_iconst (v := 0) 15 X dX0_isBetween_14 rfl ki_0 ?_
    obtain rfl := Option.some.inj hF
    exact v_zret X hr rfl ⟨rfl, rfl⟩ (Nat.le_of_ble_eq_true rfl) (Nat.le_of_ble_eq_true rfl) dX0_isBetween_15
  · replace hF := ifn h2 hF
    refine v_iload_n 6 X 0 dX0_isBetween_5 rfl rfl rfl ?_
    refine v_iload_n 7 X 2 dX0_isBetween_6 rfl rfl rfl ?_
    refine v_icmp_gt 10 14 X dX0_isBetween_7 rfl (by decide) (fun h7 => ?_) (fun h7 => ?_)
    · replace hF := ifp h7 hF
      refine v_iconst (v := 0) 15 X dX0_isBetween_14 rfl ki_0 ?_
      obtain rfl := Option.some.inj hF
      exact v_zret X hr rfl ⟨rfl, rfl⟩ (Nat.le_of_ble_eq_true rfl) (Nat.le_of_ble_eq_true rfl) dX0_isBetween_15
    · replace hF := ifn h7 hF
      refine v_iconst (v := 1) 11 X dX0_isBetween_10 rfl ki_1 ?_
      refine v_goto 15 X dX0_isBetween_11 (by decide) ?_
      obtain rfl := Option.some.inj hF
      exact v_zret X hr rfl ⟨rfl, rfl⟩ (Nat.le_of_ble_eq_true rfl) (Nat.le_of_ble_eq_true rfl) dX0_isBetween_15
theorem w_X0_xStep (ws : va_W) (v0 : Int32) (r : Int32) (hF : C_xStep v0 = some r) : CTi l yX0_xStep cX0_xStep 1 (Option.some Jvm.ClassFile.FieldType.int) rmX0_xStep D ws [.int v0] (NoX) (fun r1 u => r1 = r ∧ u = ws) := by
  refine m_i (by decide) (Nat.le_of_ble_eq_true rfl) ?_
  intro p e s m args below meth c A B
  obtain ⟨X, hr, hAm, -, hnm, hnmd⟩ := B
  replace X : CX p s m args meth c D A cX0_xStep 1 "DyeLattice" := X
  refine v_lv (lv' := [(0, .int v0)]) [0] rfl ?_
  unfold C_xStep at hF
  refine v_iload_n 1 X 0 dX0_xStep_0 rfl rfl rfl ?_
  refine v_iconst (v := 1) 2 X dX0_xStep_1 rfl ki_1 ?_
  refine v_icmp_ne 5 9 X dX0_xStep_2 rfl (by decide) (fun h2 => ?_) (fun h2 => ?_)
  · replace hF := ifn h2 hF
    refine v_iload_n 10 X 0 dX0_xStep_9 rfl rfl rfl ?_
    refine v_iconst (v := 2) 11 X dX0_xStep_10 rfl ki_2 ?_
    refine v_icmp_ne 14 18 X dX0_xStep_11 rfl (by decide) (fun h11 => ?_) (fun h11 => ?_)
    · replace hF := ifn h11 hF
      refine v_iconst (v := 1) 19 X dX0_xStep_18 rfl ki_1 ?_
      obtain rfl := Option.some.inj hF
      exact v_iret X hr ⟨rfl, rfl⟩ (Nat.le_of_ble_eq_true rfl) (Nat.le_of_ble_eq_true rfl) dX0_xStep_19
    · replace hF := ifp h11 hF
      refine v_iconst (v := (-1)) 15 X dX0_xStep_14 rfl ki_m1 ?_
      refine v_goto 19 X dX0_xStep_15 (by decide) ?_
      obtain rfl := Option.some.inj hF
      exact v_iret X hr ⟨rfl, rfl⟩ (Nat.le_of_ble_eq_true rfl) (Nat.le_of_ble_eq_true rfl) dX0_xStep_19
  · replace hF := ifp h2 hF
    refine v_iconst (v := 0) 6 X dX0_xStep_5 rfl ki_0 ?_
    refine v_goto 19 X dX0_xStep_6 (by decide) ?_
    obtain rfl := Option.some.inj hF
    exact v_iret X hr ⟨rfl, rfl⟩ (Nat.le_of_ble_eq_true rfl) (Nat.le_of_ble_eq_true rfl) dX0_xStep_19
theorem w_X0_yStep (ws : va_W) (v0 : Int32) (r : Int32) (hF : C_yStep v0 = some r) : CTi l yX0_yStep cX0_yStep 1 (Option.some Jvm.ClassFile.FieldType.int) rmX0_yStep D ws [.int v0] (NoX) (fun r1 u => r1 = r ∧ u = ws) := by
  refine m_i (by decide) (Nat.le_of_ble_eq_true rfl) ?_
  intro p e s m args below meth c A B
  obtain ⟨X, hr, hAm, -, hnm, hnmd⟩ := B
  replace X : CX p s m args meth c D A cX0_yStep 1 "DyeLattice" := X
  refine v_lv (lv' := [(0, .int v0)]) [0] rfl ?_
  unfold C_yStep at hF
  refine v_iload_n 1 X 0 dX0_yStep_0 rfl rfl rfl ?_
  refine v_if_ne 4 8 X dX0_yStep_1 rfl (by decide) (fun h1 => ?_) (fun h1 => ?_)
  · replace hF := ifn h1 hF
    refine v_iconst (v := 1) 9 X dX0_yStep_8 rfl ki_1 ?_
    obtain rfl := Option.some.inj hF
    exact v_iret X hr ⟨rfl, rfl⟩ (Nat.le_of_ble_eq_true rfl) (Nat.le_of_ble_eq_true rfl) dX0_yStep_9
  · replace hF := ifp h1 hF
    refine v_iconst (v := 0) 5 X dX0_yStep_4 rfl ki_0 ?_
    refine v_goto 9 X dX0_yStep_5 (by decide) ?_
    obtain rfl := Option.some.inj hF
    exact v_iret X hr ⟨rfl, rfl⟩ (Nat.le_of_ble_eq_true rfl) (Nat.le_of_ble_eq_true rfl) dX0_yStep_9
theorem w_X0_pair (ws : va_W) (v0 : Int32) (v1 : Int32) (r : Int32) (hF : C_pair v0 v1 = some r) : CTi l yX0_pair cX0_pair 2 (Option.some Jvm.ClassFile.FieldType.int) rmX0_pair D ws [.int v0, .int v1] (NoX) (fun r1 u => r1 = r ∧ u = ws) := by
  refine m_i (by decide) (Nat.le_of_ble_eq_true rfl) ?_
  intro p e s m args below meth c A B
  obtain ⟨X, hr, hAm, -, hnm, hnmd⟩ := B
  replace X : CX p s m args meth c D A cX0_pair 2 "DyeLattice" := X
  refine v_lv (lv' := [(0, .int v0), (1, .int v1)]) [0, 1] rfl ?_
  unfold C_pair at hF
  refine v_iload_n 1 X 0 dX0_pair_0 rfl rfl rfl ?_
  refine v_iload_n 2 X 1 dX0_pair_1 rfl rfl rfl ?_
  refine v_iadd 3 X dX0_pair_2 rfl ?_
  refine v_iconst (v := 1) 4 X dX0_pair_3 rfl ki_1 ?_
  refine v_isub 5 X dX0_pair_4 rfl ?_
  obtain rfl := Option.some.inj hF
  exact v_iret X hr ⟨rfl, rfl⟩ (Nat.le_of_ble_eq_true rfl) (Nat.le_of_ble_eq_true rfl) dX0_pair_5
theorem w_X0_isDye (ws : va_W) (v0 : Int32) (r : Int32) (hF : C_isDye v0 = some r) : CTi l yX0_isDye cX0_isDye 1 (Option.some Jvm.ClassFile.FieldType.boolean) rmX0_isDye D ws [.int v0] (NoX) (fun r1 u => r1 = r ∧ u = ws) := by
  refine m_i (by decide) (Nat.le_of_ble_eq_true rfl) ?_
  intro p e s m args below meth c A B
  obtain ⟨X, hr, hAm, -, hnm, hnmd⟩ := B
  replace X : CX p s m args meth c D A cX0_isDye 1 "DyeLattice" := X
  refine v_lv (lv' := [(0, .int v0)]) [0] rfl ?_
  unfold C_isDye at hF
  refine v_iload_n 1 X 0 dX0_isDye_0 rfl rfl rfl ?_
  refine v_iconst (v := 0) 2 X dX0_isDye_1 rfl ki_0 ?_
  refine v_iconst (v := 2) 3 X dX0_isDye_2 rfl ki_2 ?_
  obtain ⟨z3, hz3, hF⟩ := ob hF
  refine v_mSi 6 X 3 [.int v0, .int 0, .int 2] (w_X0_isBetween ws v0 0 2 _ hz3) q260 q261 q84 q262 hdX0_isBetween pass_no ⟨rfl, rfl⟩ ⟨Nat.le_of_ble_eq_true rfl, Nat.le_of_ble_eq_true rfl⟩ ⟨(Nat.le_of_ble_eq_true rfl), (Nat.le_of_ble_eq_true rfl)⟩ rfl rfl (Nat.le_of_ble_eq_true rfl) dX0_isDye_3 rfl ?_
  obtain ⟨z6, hz6, hF⟩ := ob hF
  refine v_topi (zck_s hz6).1 ?_
  obtain rfl := Option.some.inj hF
  exact v_zret X hr (zck_s hz6).2.1 ⟨rfl, rfl⟩ (Nat.le_of_ble_eq_true rfl) (Nat.le_of_ble_eq_true rfl) dX0_isDye_6
theorem w_J9_bitCount (ws : va_W) (v0 : Int32) (r : Int32) (hF : J9_bitCount v0 = some r) : CTi l yJ9_bitCount cJ9_bitCount 1 (Option.some Jvm.ClassFile.FieldType.int) rmJ9_bitCount D ws [.int v0] (NoX) (fun r1 u => r1 = r ∧ u = ws) := by
  refine m_i (by decide) (Nat.le_of_ble_eq_true rfl) ?_
  intro p e s m args below meth c A B
  obtain ⟨X, hr, hAm, -, hnm, hnmd⟩ := B
  replace X : CX p s m args meth c D A cJ9_bitCount 1 "java/lang/Integer" := X
  refine v_lv (lv' := [(0, .int v0)]) [0] rfl ?_
  unfold J9_bitCount at hF
  refine v_iload_n 1 X 0 dJ9_bitCount_0 rfl rfl rfl ?_
  refine v_iload_n 2 X 0 dJ9_bitCount_1 rfl rfl rfl ?_
  refine v_iconst (v := 1) 3 X dJ9_bitCount_2 rfl ki_1 ?_
  refine v_iushr 4 X dJ9_bitCount_3 rfl ?_
  refine v_ldcw 7 X q486 dJ9_bitCount_4 rfl ?_
  refine v_iand 8 X dJ9_bitCount_7 rfl ?_
  refine v_isub 9 X dJ9_bitCount_8 rfl ?_
  obtain ⟨z9, hz9, hF⟩ := ob hF
  refine v_topi (Option.some.inj hz9) ?_
  refine v_istore_n 10 [(0, .int z9)] X dJ9_bitCount_9 rfl rfl (by decide) rfl ?_
  refine v_iload_n 11 X 0 dJ9_bitCount_10 rfl rfl rfl ?_
  refine v_ldcw 14 X q487 dJ9_bitCount_11 rfl ?_
  refine v_iand 15 X dJ9_bitCount_14 rfl ?_
  refine v_iload_n 16 X 0 dJ9_bitCount_15 rfl rfl rfl ?_
  refine v_iconst (v := 2) 17 X dJ9_bitCount_16 rfl ki_2 ?_
  refine v_iushr 18 X dJ9_bitCount_17 rfl ?_
  refine v_ldcw 21 X q487 dJ9_bitCount_18 rfl ?_
  refine v_iand 22 X dJ9_bitCount_21 rfl ?_
  refine v_iadd 23 X dJ9_bitCount_22 rfl ?_
  obtain ⟨z23, hz23, hF⟩ := ob hF
  refine v_topi (Option.some.inj hz23) ?_
  refine v_istore_n 24 [(0, .int z23)] X dJ9_bitCount_23 rfl rfl (by decide) rfl ?_
  refine v_iload_n 25 X 0 dJ9_bitCount_24 rfl rfl rfl ?_
  refine v_iload_n 26 X 0 dJ9_bitCount_25 rfl rfl rfl ?_
  refine v_iconst (v := 4) 27 X dJ9_bitCount_26 rfl ki_4 ?_
  refine v_iushr 28 X dJ9_bitCount_27 rfl ?_
  refine v_iadd 29 X dJ9_bitCount_28 rfl ?_
  refine v_ldcw 32 X q488 dJ9_bitCount_29 rfl ?_
  refine v_iand 33 X dJ9_bitCount_32 rfl ?_
  obtain ⟨z33, hz33, hF⟩ := ob hF
  refine v_topi (Option.some.inj hz33) ?_
  refine v_istore_n 34 [(0, .int z33)] X dJ9_bitCount_33 rfl rfl (by decide) rfl ?_
  refine v_iload_n 35 X 0 dJ9_bitCount_34 rfl rfl rfl ?_
  refine v_iload_n 36 X 0 dJ9_bitCount_35 rfl rfl rfl ?_
  refine v_bipush (v := 8) 38 X dJ9_bitCount_36 rfl kb_8 ?_
  refine v_iushr 39 X dJ9_bitCount_38 rfl ?_
  refine v_iadd 40 X dJ9_bitCount_39 rfl ?_
  obtain ⟨z40, hz40, hF⟩ := ob hF
  refine v_topi (Option.some.inj hz40) ?_
  refine v_istore_n 41 [(0, .int z40)] X dJ9_bitCount_40 rfl rfl (by decide) rfl ?_
  refine v_iload_n 42 X 0 dJ9_bitCount_41 rfl rfl rfl ?_
  refine v_iload_n 43 X 0 dJ9_bitCount_42 rfl rfl rfl ?_
  refine v_bipush (v := 16) 45 X dJ9_bitCount_43 rfl kb_16 ?_
  refine v_iushr 46 X dJ9_bitCount_45 rfl ?_
  refine v_iadd 47 X dJ9_bitCount_46 rfl ?_
  obtain ⟨z47, hz47, hF⟩ := ob hF
  refine v_topi (Option.some.inj hz47) ?_
  refine v_istore_n 48 [(0, .int z47)] X dJ9_bitCount_47 rfl rfl (by decide) rfl ?_
  refine v_iload_n 49 X 0 dJ9_bitCount_48 rfl rfl rfl ?_
  refine v_bipush (v := 63) 51 X dJ9_bitCount_49 rfl kb_63 ?_
  refine v_iand 52 X dJ9_bitCount_51 rfl ?_
  obtain rfl := Option.some.inj hF
  exact v_iret X hr ⟨rfl, rfl⟩ (Nat.le_of_ble_eq_true rfl) (Nat.le_of_ble_eq_true rfl) dJ9_bitCount_52
theorem w_X1_freeValves_2 (X : CX p s m args meth c D A cX1_freeValves 2 "DyeLattice$Lattice") (hAm : AMB D A s) {cb sb : Nat} (hcb : cb ≤ rmX1_freeValves.cells) (hsb : sb ≤ rmX1_freeValves.slots) : ∀ (fu : Nat) (x : Int32 × (Nat → Nat)) (o : ((Nat → Nat))), loopN (fun x => L_freeValves_2 n4 x.1 x.2) fu x = some o → (V p l e rmX1_freeValves s m args below meth c D A 2 Q (LW D b0 b1 b2 b3 b4 b5 n n4 cols rows kd thr bt tm rea gr o so dy cg) cb sb 26 [] []) → V p l e rmX1_freeValves s m args below meth c D A 2 Q (LW D b0 b1 b2 b3 b4 b5 n n4 cols rows kd thr bt tm rea gr x.2 so dy cg) cb sb 2 [(0, .ref b0), (1, .int x.1)] [] := by
  refine v_loop (fun (x : Int32 × (Nat → Nat)) => V p l e rmX1_freeValves s m args below meth c D A 2 Q (LW D b0 b1 b2 b3 b4 b5 n n4 cols rows kd thr bt tm rea gr x.2 so dy cg) cb sb 2 [(0, .ref b0), (1, .int x.1)] []) (fun (o : ((Nat → Nat))) => V p l e rmX1_freeValves s m args below meth c D A 2 Q (LW D b0 b1 b2 b3 b4 b5 n n4 cols rows kd thr bt tm rea gr o so dy cg) cb sb 26 [] []) ?_
  rintro ⟨v1, vl⟩ r hF hI hO
  replace hF : L_freeValves_2 n4 v1 vl = some r := hF
  show V p l e rmX1_freeValves s m args below meth c D A 2 Q (LW D b0 b1 b2 b3 b4 b5 n n4 cols rows kd thr bt tm rea gr vl so dy cg) cb sb 2 [(0, .ref b0), (1, .int v1)] []
  unfold L_freeValves_2 at hF
  refine v_iload_n 3 X 1 dX1_freeValves_2 rfl rfl rfl ?_
  refine v_aload_n 4 X 0 dX1_freeValves_3 rfl rfl rfl ?_
  refine v_get 7 X in_X1 0 8 rfl rfl (by decide) q155 rfl rfl dX1_freeValves_4 rfl ?_
  refine v_alen 8 X 2 4 rfl rfl rfl dX1_freeValves_7 rfl ?_
  refine v_icmp_ge 11 26 X dX1_freeValves_8 rfl (by decide) (fun h8 => ?_) (fun h8 => ?_)
  · replace hF := ifp h8 hF
    obtain rfl := Option.some.inj hF
    exact v_lv [] rfl ((hO _ rfl))
  · replace hF := ifn h8 hF
    refine v_aload_n 12 X 0 dX1_freeValves_11 rfl rfl rfl ?_
    refine v_get 15 X in_X1 0 8 rfl rfl (by decide) q155 rfl rfl dX1_freeValves_12 rfl ?_
    refine v_iload_n 16 X 1 dX1_freeValves_15 rfl rfl rfl ?_
    refine v_getV 19 X hAm 0 (by decide) (by rfl) q133 dX1_freeValves_16 rfl ?_
    obtain ⟨z19, hz19, hF⟩ := ob hF
    refine v_astV 20 (LW D b0 b1 b2 b3 b4 b5 n n4 cols rows kd thr bt tm rea gr z19 so dy cg) X hAm 2 hz19 rfl dX1_freeValves_19 rfl rfl ?_
    refine v_iinc (v := (v1 + 1)) 23 [(1, .int (v1 + 1)), (0, .ref b0)] X 1 dX1_freeValves_20 rfl rfl (by rfl) (by decide) rfl ?_
    refine v_goto 2 X dX1_freeValves_23 (by decide) ?_
    obtain rfl := Option.some.inj hF
    exact v_lv [1, 0] rfl (hI _ rfl)
theorem w_X1_freeValves (r : (Nat → Nat)) (hF : L_freeValves n4 vl = some r) : CTv l yX1_freeValves cX1_freeValves 2 (Option.none : Option Jvm.ClassFile.FieldType) rmX1_freeValves D (LW D b0 b1 b2 b3 b4 b5 n n4 cols rows kd thr bt tm rea gr vl so dy cg) [.ref b0] (AMB D) (fun u => u = (LW D b0 b1 b2 b3 b4 b5 n n4 cols rows kd thr bt tm rea gr r so dy cg)) := by
  refine m_v (by decide) (Nat.le_of_ble_eq_true rfl) ?_
  intro p e s m args below meth c A B
  obtain ⟨X, hr, hAm, -, hnm, hnmd⟩ := B
  replace X : CX p s m args meth c D A cX1_freeValves 2 "DyeLattice$Lattice" := X
  refine v_lv (lv' := [(0, .ref b0)]) [0] rfl ?_
  unfold L_freeValves at hF
  refine v_iconst (v := 0) 1 X dX1_freeValves_0 rfl ki_0 ?_
  refine v_istore_n 2 [(1, .int 0), (0, .ref b0)] X dX1_freeValves_1 rfl rfl (by decide) rfl ?_
  obtain ⟨z2, hz2, hF⟩ := ob hF
  refine v_lv [1, 0] rfl (w_X1_freeValves_2 X hAm (Nat.le_of_ble_eq_true rfl) (Nat.le_of_ble_eq_true rfl) _ (0, vl) _ hz2 ?_)
  obtain rfl := Option.some.inj hF
  exact v_vret X hr rfl (Nat.le_of_ble_eq_true rfl) (Nat.le_of_ble_eq_true rfl) dX1_freeValves_26
theorem w_X1_cells (r : Int32) (hF : L_cells n = some r) : CTi l yX1_cells cX1_cells 1 (Option.some Jvm.ClassFile.FieldType.int) rmX1_cells D (LW D b0 b1 b2 b3 b4 b5 n n4 cols rows kd thr bt tm rea gr vl so dy cg) [.ref b0] (AMB D) (fun r1 u => r1 = r ∧ u = (LW D b0 b1 b2 b3 b4 b5 n n4 cols rows kd thr bt tm rea gr vl so dy cg)) := by
  refine m_i (by decide) (Nat.le_of_ble_eq_true rfl) ?_
  intro p e s m args below meth c A B
  obtain ⟨X, hr, hAm, -, hnm, hnmd⟩ := B
  replace X : CX p s m args meth c D A cX1_cells 1 "DyeLattice$Lattice" := X
  refine v_lv (lv' := [(0, .ref b0)]) [0] rfl ?_
  unfold L_cells at hF
  refine v_aload_n 1 X 0 dX1_cells_0 rfl rfl rfl ?_
  refine v_get 4 X in_X1 0 7 rfl rfl (by decide) q152 rfl rfl dX1_cells_1 rfl ?_
  refine v_alen 5 X 1 0 rfl rfl rfl dX1_cells_4 rfl ?_
  obtain rfl := Option.some.inj hF
  exact v_iret X hr ⟨rfl, rfl⟩ (Nat.le_of_ble_eq_true rfl) (Nat.le_of_ble_eq_true rfl) dX1_cells_5
theorem w_X1_isCell (v1 : Int32) (r : Int32) (hF : L_isCell n v1 = some r) : CTi l yX1_isCell cX1_isCell 2 (Option.some Jvm.ClassFile.FieldType.boolean) rmX1_isCell D (LW D b0 b1 b2 b3 b4 b5 n n4 cols rows kd thr bt tm rea gr vl so dy cg) [.ref b0, .int v1] (AMB D) (fun r1 u => r1 = r ∧ u = (LW D b0 b1 b2 b3 b4 b5 n n4 cols rows kd thr bt tm rea gr vl so dy cg)) := by
  refine m_i (by decide) (Nat.le_of_ble_eq_true rfl) ?_
  intro p e s m args below meth c A B
  obtain ⟨X, hr, hAm, -, hnm, hnmd⟩ := B
  replace X : CX p s m args meth c D A cX1_isCell 2 "DyeLattice$Lattice" := X
  refine v_lv (lv' := [(0, .ref b0), (1, .int v1)]) [0, 1] rfl ?_
  unfold L_isCell at hF
  refine v_iload_n 1 X 1 dX1_isCell_0 rfl rfl rfl ?_
  refine v_iconst (v := 0) 2 X dX1_isCell_1 rfl ki_0 ?_
  refine v_aload_n 3 X 0 dX1_isCell_2 rfl rfl rfl ?_
  have hz3 : L_cells n = some (nI n) := rfl
  refine v_mVi 6 X 0 [] (w_X1_cells _ hz3) q394 q345 q346 q85 q347 hdX1_cells 0 rfl rfl (pass_amb hAm) ⟨rfl, rfl⟩ ⟨Nat.le_of_ble_eq_true rfl, Nat.le_of_ble_eq_true rfl⟩ ⟨(Nat.le_of_ble_eq_true rfl), (Nat.le_of_ble_eq_true rfl)⟩ rfl rfl (Nat.le_of_ble_eq_true rfl) dX1_isCell_3 rfl ?_
  refine v_iconst (v := 1) 7 X dX1_isCell_6 rfl ki_1 ?_
  refine v_isub 8 X dX1_isCell_7 rfl ?_
  obtain ⟨z8, hz8, hF⟩ := ob hF
  refine v_nSi 11 X hAm 3 [.int v1, .int 0, .int ((nI n) - 1)] (w_X0_isBetween (LW D b0 b1 b2 b3 b4 b5 n n4 cols rows kd thr bt tm rea gr vl so dy cg) v1 0 ((nI n) - 1) _ hz8) q395 q261 q84 q262 hdX0_isBetween pass_no ⟨rfl, rfl⟩ ⟨Nat.le_of_ble_eq_true rfl, Nat.le_of_ble_eq_true rfl⟩ ⟨(Nat.le_of_ble_eq_true rfl), (Nat.le_of_ble_eq_true rfl)⟩ rfl rfl (Nat.le_of_ble_eq_true rfl) dX1_isCell_8 rfl ?_
  obtain ⟨z11, hz11, hF⟩ := ob hF
  refine v_topi (zck_s hz11).1 ?_
  obtain rfl := Option.some.inj hF
  exact v_zret X hr (zck_s hz11).2.1 ⟨rfl, rfl⟩ (Nat.le_of_ble_eq_true rfl) (Nat.le_of_ble_eq_true rfl) dX1_isCell_11
theorem w_X1_cellAt (v1 : Int32) (v2 : Int32) (r : Int32) (hF : L_cellAt cols rows v1 v2 = some r) : CTi l yX1_cellAt cX1_cellAt 3 (Option.some Jvm.ClassFile.FieldType.int) rmX1_cellAt D (LW D b0 b1 b2 b3 b4 b5 n n4 cols rows kd thr bt tm rea gr vl so dy cg) [.ref b0, .int v1, .int v2] (AMB D) (fun r1 u => r1 = r ∧ u = (LW D b0 b1 b2 b3 b4 b5 n n4 cols rows kd thr bt tm rea gr vl so dy cg)) := by
  refine m_i (by decide) (Nat.le_of_ble_eq_true rfl) ?_
  intro p e s m args below meth c A B
  obtain ⟨X, hr, hAm, -, hnm, hnmd⟩ := B
  replace X : CX p s m args meth c D A cX1_cellAt 3 "DyeLattice$Lattice" := X
  refine v_lv (lv' := [(0, .ref b0), (1, .int v1), (2, .int v2)]) [0, 1, 2] rfl ?_
  unfold L_cellAt at hF
  refine v_iload_n 1 X 1 dX1_cellAt_0 rfl rfl rfl ?_
  refine v_iconst (v := 0) 2 X dX1_cellAt_1 rfl ki_0 ?_
  refine v_aload_n 3 X 0 dX1_cellAt_2 rfl rfl rfl ?_
  refine v_get 6 X in_X1 0 0 rfl rfl (by decide) q135 rfl rfl dX1_cellAt_3 rfl ?_
  refine v_iconst (v := 1) 7 X dX1_cellAt_6 rfl ki_1 ?_
  refine v_isub 8 X dX1_cellAt_7 rfl ?_
  obtain ⟨z8, hz8, hF⟩ := ob hF
  refine v_nSi 11 X hAm 3 [.int v1, .int 0, .int (cols - 1)] (w_X0_isBetween (LW D b0 b1 b2 b3 b4 b5 n n4 cols rows kd thr bt tm rea gr vl so dy cg) v1 0 (cols - 1) _ hz8) q395 q261 q84 q262 hdX0_isBetween pass_no ⟨rfl, rfl⟩ ⟨Nat.le_of_ble_eq_true rfl, Nat.le_of_ble_eq_true rfl⟩ ⟨(Nat.le_of_ble_eq_true rfl), (Nat.le_of_ble_eq_true rfl)⟩ rfl rfl (Nat.le_of_ble_eq_true rfl) dX1_cellAt_8 rfl ?_
  refine v_if_eq 14 39 X dX1_cellAt_11 rfl (by decide) (fun h11 => ?_) (fun h11 => ?_)
  · replace hF := ifp h11 hF
    refine v_bipush (v := (-9)) 41 X dX1_cellAt_39 rfl kb_m9 ?_
    obtain rfl := Option.some.inj hF
    exact v_iret X hr ⟨rfl, rfl⟩ (Nat.le_of_ble_eq_true rfl) (Nat.le_of_ble_eq_true rfl) dX1_cellAt_41
  · replace hF := ifn h11 hF
    refine v_iload_n 15 X 2 dX1_cellAt_14 rfl rfl rfl ?_
    refine v_iconst (v := 0) 16 X dX1_cellAt_15 rfl ki_0 ?_
    refine v_aload_n 17 X 0 dX1_cellAt_16 rfl rfl rfl ?_
    refine v_get 20 X in_X1 0 1 rfl rfl (by decide) q138 rfl rfl dX1_cellAt_17 rfl ?_
    refine v_iconst (v := 1) 21 X dX1_cellAt_20 rfl ki_1 ?_
    refine v_isub 22 X dX1_cellAt_21 rfl ?_
    obtain ⟨z22, hz22, hF⟩ := ob hF
    refine v_nSi 25 X hAm 3 [.int v2, .int 0, .int (rows - 1)] (w_X0_isBetween (LW D b0 b1 b2 b3 b4 b5 n n4 cols rows kd thr bt tm rea gr vl so dy cg) v2 0 (rows - 1) _ hz22) q395 q261 q84 q262 hdX0_isBetween pass_no ⟨rfl, rfl⟩ ⟨Nat.le_of_ble_eq_true rfl, Nat.le_of_ble_eq_true rfl⟩ ⟨(Nat.le_of_ble_eq_true rfl), (Nat.le_of_ble_eq_true rfl)⟩ rfl rfl (Nat.le_of_ble_eq_true rfl) dX1_cellAt_22 rfl ?_
    refine v_if_eq 28 39 X dX1_cellAt_25 rfl (by decide) (fun h25 => ?_) (fun h25 => ?_)
    · replace hF := ifp h25 hF
      refine v_bipush (v := (-9)) 41 X dX1_cellAt_39 rfl kb_m9 ?_
      obtain rfl := Option.some.inj hF
      exact v_iret X hr ⟨rfl, rfl⟩ (Nat.le_of_ble_eq_true rfl) (Nat.le_of_ble_eq_true rfl) dX1_cellAt_41
    · replace hF := ifn h25 hF
      refine v_iload_n 29 X 2 dX1_cellAt_28 rfl rfl rfl ?_
      refine v_aload_n 30 X 0 dX1_cellAt_29 rfl rfl rfl ?_
      refine v_get 33 X in_X1 0 0 rfl rfl (by decide) q135 rfl rfl dX1_cellAt_30 rfl ?_
      refine v_imul 34 X dX1_cellAt_33 rfl ?_
      refine v_iload_n 35 X 1 dX1_cellAt_34 rfl rfl rfl ?_
      refine v_iadd 36 X dX1_cellAt_35 rfl ?_
      refine v_goto 41 X dX1_cellAt_36 (by decide) ?_
      obtain rfl := Option.some.inj hF
      exact v_iret X hr ⟨rfl, rfl⟩ (Nat.le_of_ble_eq_true rfl) (Nat.le_of_ble_eq_true rfl) dX1_cellAt_41
theorem w_X1_second (v1 : Int32) (v2 : Int32) (r : Int32) (hF : L_second cols rows v1 v2 = some r) : CTi l yX1_second cX1_second 3 (Option.some Jvm.ClassFile.FieldType.int) rmX1_second D (LW D b0 b1 b2 b3 b4 b5 n n4 cols rows kd thr bt tm rea gr vl so dy cg) [.ref b0, .int v1, .int v2] (AMB D) (fun r1 u => r1 = r ∧ u = (LW D b0 b1 b2 b3 b4 b5 n n4 cols rows kd thr bt tm rea gr vl so dy cg)) := by
  refine m_i (by decide) (Nat.le_of_ble_eq_true rfl) ?_
  intro p e s m args below meth c A B
  obtain ⟨X, hr, hAm, -, hnm, hnmd⟩ := B
  replace X : CX p s m args meth c D A cX1_second 3 "DyeLattice$Lattice" := X
  refine v_lv (lv' := [(0, .ref b0), (1, .int v1), (2, .int v2)]) [0, 1, 2] rfl ?_
  unfold L_second at hF
  refine v_aload_n 1 X 0 dX1_second_0 rfl rfl rfl ?_
  refine v_iload_n 2 X 1 dX1_second_1 rfl rfl rfl ?_
  refine v_aload_n 3 X 0 dX1_second_2 rfl rfl rfl ?_
  refine v_get 6 X in_X1 0 0 rfl rfl (by decide) q135 rfl rfl dX1_second_3 rfl ?_
  obtain ⟨z6, hz6, hF⟩ := ob hF
  refine v_irem 7 X hz6 dX1_second_6 rfl ?_
  refine v_iload_n 8 X 2 dX1_second_7 rfl rfl rfl ?_
  obtain ⟨z8, hz8, hF⟩ := ob hF
  refine v_nSi 11 X hAm 1 [.int v2] (w_X0_xStep (LW D b0 b1 b2 b3 b4 b5 n n4 cols rows kd thr bt tm rea gr vl so dy cg) v2 _ hz8) q400 q401 q84 q402 hdX0_xStep pass_no ⟨rfl, rfl⟩ ⟨Nat.le_of_ble_eq_true rfl, Nat.le_of_ble_eq_true rfl⟩ ⟨(Nat.le_of_ble_eq_true rfl), (Nat.le_of_ble_eq_true rfl)⟩ rfl rfl (Nat.le_of_ble_eq_true rfl) dX1_second_8 rfl ?_
  refine v_iadd 12 X dX1_second_11 rfl ?_
  refine v_iload_n 13 X 1 dX1_second_12 rfl rfl rfl ?_
  refine v_aload_n 14 X 0 dX1_second_13 rfl rfl rfl ?_
  refine v_get 17 X in_X1 0 0 rfl rfl (by decide) q135 rfl rfl dX1_second_14 rfl ?_
  obtain ⟨z17, hz17, hF⟩ := ob hF
  refine v_idiv 18 X hz17 dX1_second_17 rfl ?_
  refine v_iload_n 19 X 2 dX1_second_18 rfl rfl rfl ?_
  obtain ⟨z19, hz19, hF⟩ := ob hF
  refine v_nSi 22 X hAm 1 [.int v2] (w_X0_yStep (LW D b0 b1 b2 b3 b4 b5 n n4 cols rows kd thr bt tm rea gr vl so dy cg) v2 _ hz19) q403 q404 q84 q405 hdX0_yStep pass_no ⟨rfl, rfl⟩ ⟨Nat.le_of_ble_eq_true rfl, Nat.le_of_ble_eq_true rfl⟩ ⟨(Nat.le_of_ble_eq_true rfl), (Nat.le_of_ble_eq_true rfl)⟩ rfl rfl (Nat.le_of_ble_eq_true rfl) dX1_second_19 rfl ?_
  refine v_iadd 23 X dX1_second_22 rfl ?_
  obtain ⟨z23, hz23, hF⟩ := ob hF
  refine v_mVi 26 X 2 [.int (z6 + z8), .int (z17 + z19)] (w_X1_cellAt (z6 + z8) (z17 + z19) _ hz23) q406 q408 qs4 q85 q409 hdX1_cellAt 0 rfl rfl (pass_amb hAm) ⟨rfl, rfl⟩ ⟨Nat.le_of_ble_eq_true rfl, Nat.le_of_ble_eq_true rfl⟩ ⟨(Nat.le_of_ble_eq_true rfl), (Nat.le_of_ble_eq_true rfl)⟩ rfl rfl (Nat.le_of_ble_eq_true rfl) dX1_second_23 rfl ?_
  obtain rfl := Option.some.inj hF
  exact v_iret X hr ⟨rfl, rfl⟩ (Nat.le_of_ble_eq_true rfl) (Nat.le_of_ble_eq_true rfl) dX1_second_26
theorem w_X1_first (v1 : Int32) (v2 : Int32) (r : Int32) (hF : L_first cols rows v1 v2 = some r) : CTi l yX1_first cX1_first 3 (Option.some Jvm.ClassFile.FieldType.int) rmX1_first D (LW D b0 b1 b2 b3 b4 b5 n n4 cols rows kd thr bt tm rea gr vl so dy cg) [.ref b0, .int v1, .int v2] (AMB D) (fun r1 u => r1 = r ∧ u = (LW D b0 b1 b2 b3 b4 b5 n n4 cols rows kd thr bt tm rea gr vl so dy cg)) := by
  refine m_i (by decide) (Nat.le_of_ble_eq_true rfl) ?_
  intro p e s m args below meth c A B
  obtain ⟨X, hr, hAm, -, hnm, hnmd⟩ := B
  replace X : CX p s m args meth c D A cX1_first 3 "DyeLattice$Lattice" := X
  refine v_lv (lv' := [(0, .ref b0), (1, .int v1), (2, .int v2)]) [0, 1, 2] rfl ?_
  unfold L_first at hF
  refine v_aload_n 1 X 0 dX1_first_0 rfl rfl rfl ?_
  refine v_iload_n 2 X 1 dX1_first_1 rfl rfl rfl ?_
  refine v_aload_n 3 X 0 dX1_first_2 rfl rfl rfl ?_
  refine v_get 6 X in_X1 0 0 rfl rfl (by decide) q135 rfl rfl dX1_first_3 rfl ?_
  obtain ⟨z6, hz6, hF⟩ := ob hF
  refine v_irem 7 X hz6 dX1_first_6 rfl ?_
  refine v_iload_n 8 X 2 dX1_first_7 rfl rfl rfl ?_
  obtain ⟨z8, hz8, hF⟩ := ob hF
  refine v_nSi 11 X hAm 1 [.int v2] (w_X0_xStep (LW D b0 b1 b2 b3 b4 b5 n n4 cols rows kd thr bt tm rea gr vl so dy cg) v2 _ hz8) q400 q401 q84 q402 hdX0_xStep pass_no ⟨rfl, rfl⟩ ⟨Nat.le_of_ble_eq_true rfl, Nat.le_of_ble_eq_true rfl⟩ ⟨(Nat.le_of_ble_eq_true rfl), (Nat.le_of_ble_eq_true rfl)⟩ rfl rfl (Nat.le_of_ble_eq_true rfl) dX1_first_8 rfl ?_
  refine v_isub 12 X dX1_first_11 rfl ?_
  refine v_iload_n 13 X 1 dX1_first_12 rfl rfl rfl ?_
  refine v_aload_n 14 X 0 dX1_first_13 rfl rfl rfl ?_
  refine v_get 17 X in_X1 0 0 rfl rfl (by decide) q135 rfl rfl dX1_first_14 rfl ?_
  obtain ⟨z17, hz17, hF⟩ := ob hF
  refine v_idiv 18 X hz17 dX1_first_17 rfl ?_
  refine v_iload_n 19 X 2 dX1_first_18 rfl rfl rfl ?_
  obtain ⟨z19, hz19, hF⟩ := ob hF
  refine v_nSi 22 X hAm 1 [.int v2] (w_X0_yStep (LW D b0 b1 b2 b3 b4 b5 n n4 cols rows kd thr bt tm rea gr vl so dy cg) v2 _ hz19) q403 q404 q84 q405 hdX0_yStep pass_no ⟨rfl, rfl⟩ ⟨Nat.le_of_ble_eq_true rfl, Nat.le_of_ble_eq_true rfl⟩ ⟨(Nat.le_of_ble_eq_true rfl), (Nat.le_of_ble_eq_true rfl)⟩ rfl rfl (Nat.le_of_ble_eq_true rfl) dX1_first_19 rfl ?_
  refine v_isub 23 X dX1_first_22 rfl ?_
  obtain ⟨z23, hz23, hF⟩ := ob hF
  refine v_mVi 26 X 2 [.int (z6 - z8), .int (z17 - z19)] (w_X1_cellAt (z6 - z8) (z17 - z19) _ hz23) q406 q408 qs4 q85 q409 hdX1_cellAt 0 rfl rfl (pass_amb hAm) ⟨rfl, rfl⟩ ⟨Nat.le_of_ble_eq_true rfl, Nat.le_of_ble_eq_true rfl⟩ ⟨(Nat.le_of_ble_eq_true rfl), (Nat.le_of_ble_eq_true rfl)⟩ rfl rfl (Nat.le_of_ble_eq_true rfl) dX1_first_23 rfl ?_
  obtain rfl := Option.some.inj hF
  exact v_iret X hr ⟨rfl, rfl⟩ (Nat.le_of_ble_eq_true rfl) (Nat.le_of_ble_eq_true rfl) dX1_first_26
theorem w_X1_isBond (v1 : Int32) (v2 : Int32) (r : Int32) (hF : L_isBond cols rows kd n v1 v2 = some r) : CTi l yX1_isBond cX1_isBond 3 (Option.some Jvm.ClassFile.FieldType.boolean) rmX1_isBond D (LW D b0 b1 b2 b3 b4 b5 n n4 cols rows kd thr bt tm rea gr vl so dy cg) [.ref b0, .int v1, .int v2] (AMB D) (fun r1 u => r1 = r ∧ u = (LW D b0 b1 b2 b3 b4 b5 n n4 cols rows kd thr bt tm rea gr vl so dy cg)) := by
  refine m_i (by decide) (Nat.le_of_ble_eq_true rfl) ?_
  intro p e s m args below meth c A B
  obtain ⟨X, hr, hAm, -, hnm, hnmd⟩ := B
  replace X : CX p s m args meth c D A cX1_isBond 3 "DyeLattice$Lattice" := X
  refine v_lv (lv' := [(0, .ref b0), (1, .int v1), (2, .int v2)]) [0, 1, 2] rfl ?_
  unfold L_isBond at hF
  refine v_aload_n 1 X 0 dX1_isBond_0 rfl rfl rfl ?_
  refine v_iload_n 2 X 1 dX1_isBond_1 rfl rfl rfl ?_
  obtain ⟨z2, hz2, hF⟩ := ob hF
  refine v_mVi 5 X 1 [.int v1] (w_X1_isCell v1 _ hz2) q390 q391 q392 q85 q393 hdX1_isCell 0 rfl rfl (pass_amb hAm) ⟨rfl, rfl⟩ ⟨Nat.le_of_ble_eq_true rfl, Nat.le_of_ble_eq_true rfl⟩ ⟨(Nat.le_of_ble_eq_true rfl), (Nat.le_of_ble_eq_true rfl)⟩ rfl rfl (Nat.le_of_ble_eq_true rfl) dX1_isBond_2 rfl ?_
  refine v_if_eq 8 40 X dX1_isBond_5 rfl (by decide) (fun h5 => ?_) (fun h5 => ?_)
  · replace hF := ifp h5 hF
    refine v_iconst (v := 0) 41 X dX1_isBond_40 rfl ki_0 ?_
    obtain rfl := Option.some.inj hF
    exact v_zret X hr rfl ⟨rfl, rfl⟩ (Nat.le_of_ble_eq_true rfl) (Nat.le_of_ble_eq_true rfl) dX1_isBond_41
  · replace hF := ifn h5 hF
    refine v_iload_n 9 X 2 dX1_isBond_8 rfl rfl rfl ?_
    refine v_iconst (v := 0) 10 X dX1_isBond_9 rfl ki_0 ?_
    refine v_aload_n 11 X 0 dX1_isBond_10 rfl rfl rfl ?_
    refine v_get 14 X in_X1 0 2 rfl rfl (by decide) q141 rfl rfl dX1_isBond_11 rfl ?_
    obtain ⟨z14, hz14, hF⟩ := ob hF
    refine v_dir 17 X hAm hz14 q1579 dX1_isBond_14 rfl ?_
    refine v_iconst (v := 1) 18 X dX1_isBond_17 rfl ki_1 ?_
    refine v_isub 19 X dX1_isBond_18 rfl ?_
    obtain ⟨z19, hz19, hF⟩ := ob hF
    refine v_nSi 22 X hAm 3 [.int v2, .int 0, .int (z14 - 1)] (w_X0_isBetween (LW D b0 b1 b2 b3 b4 b5 n n4 cols rows kd thr bt tm rea gr vl so dy cg) v2 0 (z14 - 1) _ hz19) q395 q261 q84 q262 hdX0_isBetween pass_no ⟨rfl, rfl⟩ ⟨Nat.le_of_ble_eq_true rfl, Nat.le_of_ble_eq_true rfl⟩ ⟨(Nat.le_of_ble_eq_true rfl), (Nat.le_of_ble_eq_true rfl)⟩ rfl rfl (Nat.le_of_ble_eq_true rfl) dX1_isBond_19 rfl ?_
    refine v_if_eq 25 40 X dX1_isBond_22 rfl (by decide) (fun h22 => ?_) (fun h22 => ?_)
    · replace hF := ifp h22 hF
      refine v_iconst (v := 0) 41 X dX1_isBond_40 rfl ki_0 ?_
      obtain rfl := Option.some.inj hF
      exact v_zret X hr rfl ⟨rfl, rfl⟩ (Nat.le_of_ble_eq_true rfl) (Nat.le_of_ble_eq_true rfl) dX1_isBond_41
    · replace hF := ifn h22 hF
      refine v_aload_n 26 X 0 dX1_isBond_25 rfl rfl rfl ?_
      refine v_iload_n 27 X 1 dX1_isBond_26 rfl rfl rfl ?_
      refine v_iload_n 28 X 2 dX1_isBond_27 rfl rfl rfl ?_
      obtain ⟨z28, hz28, hF⟩ := ob hF
      refine v_mVi 31 X 2 [.int v1, .int v2] (w_X1_second v1 v2 _ hz28) q396 q397 q398 q85 q399 hdX1_second 0 rfl rfl (pass_amb hAm) ⟨rfl, rfl⟩ ⟨Nat.le_of_ble_eq_true rfl, Nat.le_of_ble_eq_true rfl⟩ ⟨(Nat.le_of_ble_eq_true rfl), (Nat.le_of_ble_eq_true rfl)⟩ rfl rfl (Nat.le_of_ble_eq_true rfl) dX1_isBond_28 rfl ?_
      refine v_bipush (v := (-9)) 33 X dX1_isBond_31 rfl kb_m9 ?_
      refine v_icmp_eq 36 40 X dX1_isBond_33 rfl (by decide) (fun h33 => ?_) (fun h33 => ?_)
      · replace hF := ifp h33 hF
        refine v_iconst (v := 0) 41 X dX1_isBond_40 rfl ki_0 ?_
        obtain rfl := Option.some.inj hF
        exact v_zret X hr rfl ⟨rfl, rfl⟩ (Nat.le_of_ble_eq_true rfl) (Nat.le_of_ble_eq_true rfl) dX1_isBond_41
      · replace hF := ifn h33 hF
        refine v_iconst (v := 1) 37 X dX1_isBond_36 rfl ki_1 ?_
        refine v_goto 41 X dX1_isBond_37 (by decide) ?_
        obtain rfl := Option.some.inj hF
        exact v_zret X hr rfl ⟨rfl, rfl⟩ (Nat.le_of_ble_eq_true rfl) (Nat.le_of_ble_eq_true rfl) dX1_isBond_41
theorem w_X1_bonds_4 (X : CX p s m args meth c D A cX1_bonds 3 "DyeLattice$Lattice") (hAm : AMB D A s) {cb sb : Nat} (hcb : cb ≤ rmX1_bonds.cells) (hsb : sb ≤ rmX1_bonds.slots) : ∀ (fu : Nat) (x : Int32 × Int32) (o : (Int32)), loopN (fun x => L_bonds_4 cols rows kd n n4 x.1 x.2) fu x = some o → (V p l e rmX1_bonds s m args below meth c D A 3 Q (LW D b0 b1 b2 b3 b4 b5 n n4 cols rows kd thr bt tm rea gr vl so dy cg) cb sb 40 [(1, .int o)] []) → V p l e rmX1_bonds s m args below meth c D A 3 Q (LW D b0 b1 b2 b3 b4 b5 n n4 cols rows kd thr bt tm rea gr vl so dy cg) cb sb 4 [(0, .ref b0), (1, .int x.1), (2, .int x.2)] [] := by
  refine v_loop (fun (x : Int32 × Int32) => V p l e rmX1_bonds s m args below meth c D A 3 Q (LW D b0 b1 b2 b3 b4 b5 n n4 cols rows kd thr bt tm rea gr vl so dy cg) cb sb 4 [(0, .ref b0), (1, .int x.1), (2, .int x.2)] []) (fun (o : (Int32)) => V p l e rmX1_bonds s m args below meth c D A 3 Q (LW D b0 b1 b2 b3 b4 b5 n n4 cols rows kd thr bt tm rea gr vl so dy cg) cb sb 40 [(1, .int o)] []) ?_
  rintro ⟨v1, v2⟩ r hF hI hO
  replace hF : L_bonds_4 cols rows kd n n4 v1 v2 = some r := hF
  show V p l e rmX1_bonds s m args below meth c D A 3 Q (LW D b0 b1 b2 b3 b4 b5 n n4 cols rows kd thr bt tm rea gr vl so dy cg) cb sb 4 [(0, .ref b0), (1, .int v1), (2, .int v2)] []
  unfold L_bonds_4 at hF
  refine v_iload_n 5 X 2 dX1_bonds_4 rfl rfl rfl ?_
  refine v_aload_n 6 X 0 dX1_bonds_5 rfl rfl rfl ?_
  refine v_get 9 X in_X1 0 8 rfl rfl (by decide) q155 rfl rfl dX1_bonds_6 rfl ?_
  refine v_alen 10 X 2 4 rfl rfl rfl dX1_bonds_9 rfl ?_
  refine v_icmp_ge 13 40 X dX1_bonds_10 rfl (by decide) (fun h10 => ?_) (fun h10 => ?_)
  · replace hF := ifp h10 hF
    obtain rfl := Option.some.inj hF
    exact v_lv [1] rfl ((hO _ rfl))
  · replace hF := ifn h10 hF
    refine v_iload_n 14 X 1 dX1_bonds_13 rfl rfl rfl ?_
    refine v_aload_n 15 X 0 dX1_bonds_14 rfl rfl rfl ?_
    refine v_iload_n 16 X 2 dX1_bonds_15 rfl rfl rfl ?_
    refine v_iconst (v := 4) 17 X dX1_bonds_16 rfl ki_4 ?_
    obtain ⟨z17, hz17, hF⟩ := ob hF
    refine v_idiv 18 X hz17 dX1_bonds_17 rfl ?_
    refine v_iload_n 19 X 2 dX1_bonds_18 rfl rfl rfl ?_
    refine v_iconst (v := 4) 20 X dX1_bonds_19 rfl ki_4 ?_
    obtain ⟨z20, hz20, hF⟩ := ob hF
    refine v_irem 21 X hz20 dX1_bonds_20 rfl ?_
    obtain ⟨z21, hz21, hF⟩ := ob hF
    refine v_mVi 24 X 2 [.int z17, .int z20] (w_X1_isBond z17 z20 _ hz21) q386 q387 q388 q85 q389 hdX1_isBond 0 rfl rfl (pass_amb hAm) ⟨rfl, rfl⟩ ⟨Nat.le_of_ble_eq_true rfl, Nat.le_of_ble_eq_true rfl⟩ ⟨(by exact hcb), (by exact hsb)⟩ rfl rfl (Nat.le_of_ble_eq_true rfl) dX1_bonds_21 rfl ?_
    refine v_if_eq 27 31 X dX1_bonds_24 rfl (by decide) (fun h24 => ?_) (fun h24 => ?_)
    · replace hF := ifp h24 hF
      refine v_iconst (v := 0) 32 X dX1_bonds_31 rfl ki_0 ?_
      refine v_iadd 33 X dX1_bonds_32 rfl ?_
      refine v_istore_n 34 [(1, .int (v1 + 0)), (0, .ref b0), (2, .int v2)] X dX1_bonds_33 rfl rfl (by decide) rfl ?_
      refine v_iinc (v := (v2 + 1)) 37 [(2, .int (v2 + 1)), (1, .int (v1 + 0)), (0, .ref b0)] X 2 dX1_bonds_34 rfl rfl (by rfl) (by decide) rfl ?_
      refine v_goto 4 X dX1_bonds_37 (by decide) ?_
      obtain rfl := Option.some.inj hF
      exact v_lv [2, 1, 0] rfl (hI _ rfl)
    · replace hF := ifn h24 hF
      refine v_iconst (v := 1) 28 X dX1_bonds_27 rfl ki_1 ?_
      refine v_goto 32 X dX1_bonds_28 (by decide) ?_
      refine v_iadd 33 X dX1_bonds_32 rfl ?_
      refine v_istore_n 34 [(1, .int (v1 + 1)), (0, .ref b0), (2, .int v2)] X dX1_bonds_33 rfl rfl (by decide) rfl ?_
      refine v_iinc (v := (v2 + 1)) 37 [(2, .int (v2 + 1)), (1, .int (v1 + 1)), (0, .ref b0)] X 2 dX1_bonds_34 rfl rfl (by rfl) (by decide) rfl ?_
      refine v_goto 4 X dX1_bonds_37 (by decide) ?_
      obtain rfl := Option.some.inj hF
      exact v_lv [2, 1, 0] rfl (hI _ rfl)
theorem w_X1_bonds (r : Int32) (hF : L_bonds cols rows kd n n4 = some r) : CTi l yX1_bonds cX1_bonds 3 (Option.some Jvm.ClassFile.FieldType.int) rmX1_bonds D (LW D b0 b1 b2 b3 b4 b5 n n4 cols rows kd thr bt tm rea gr vl so dy cg) [.ref b0] (AMB D) (fun r1 u => r1 = r ∧ u = (LW D b0 b1 b2 b3 b4 b5 n n4 cols rows kd thr bt tm rea gr vl so dy cg)) := by
  refine m_i (by decide) (Nat.le_of_ble_eq_true rfl) ?_
  intro p e s m args below meth c A B
  obtain ⟨X, hr, hAm, -, hnm, hnmd⟩ := B
  replace X : CX p s m args meth c D A cX1_bonds 3 "DyeLattice$Lattice" := X
  refine v_lv (lv' := [(0, .ref b0)]) [0] rfl ?_
  unfold L_bonds at hF
  refine v_iconst (v := 0) 1 X dX1_bonds_0 rfl ki_0 ?_
  refine v_istore_n 2 [(1, .int 0), (0, .ref b0)] X dX1_bonds_1 rfl rfl (by decide) rfl ?_
  refine v_iconst (v := 0) 3 X dX1_bonds_2 rfl ki_0 ?_
  refine v_istore_n 4 [(2, .int 0), (1, .int 0), (0, .ref b0)] X dX1_bonds_3 rfl rfl (by decide) rfl ?_
  obtain ⟨z4, hz4, hF⟩ := ob hF
  refine v_lv [2, 1, 0] rfl (w_X1_bonds_4 X hAm (Nat.le_of_ble_eq_true rfl) (Nat.le_of_ble_eq_true rfl) _ (0, 0) _ hz4 ?_)
  refine v_iload_n 41 X 0 dX1_bonds_40 rfl rfl rfl ?_
  obtain rfl := Option.some.inj hF
  exact v_iret X hr ⟨rfl, rfl⟩ (Nat.le_of_ble_eq_true rfl) (Nat.le_of_ble_eq_true rfl) dX1_bonds_41
theorem w_X1_bondsAt_4_j32 (X : CX p s m args meth c D A cX1_bondsAt 4 "DyeLattice$Lattice") (hAm : AMB D A s) {cb sb : Nat} (v1 : Int32) (v3 : Int32) (s0 : Int32) (s1 : Int32) (hcb : cb ≤ rmX1_bondsAt.cells) (hsb : sb ≤ rmX1_bondsAt.slots) {r : (Int32 × Int32) ⊕ (Int32)} (hI : ∀ y, r = .inl y → V p l e rmX1_bondsAt s m args below meth c D A 4 Q (LW D b0 b1 b2 b3 b4 b5 n n4 cols rows kd thr bt tm rea gr vl so dy cg) cb sb 4 [(0, .ref b0), (1, .int v1), (2, .int y.1), (3, .int y.2)] []) (hO : ∀ y, r = .inr y → (V p l e rmX1_bondsAt s m args below meth c D A 4 Q (LW D b0 b1 b2 b3 b4 b5 n n4 cols rows kd thr bt tm rea gr vl so dy cg) cb sb 57 [(2, .int y)] [])) (hF : L_bondsAt_4_j32 cols rows v1 v3 s0 s1 = some r) : V p l e rmX1_bondsAt s m args below meth c D A 4 Q (LW D b0 b1 b2 b3 b4 b5 n n4 cols rows kd thr bt tm rea gr vl so dy cg) cb sb 32 [(0, .ref b0), (1, .int v1), (3, .int v3)] [.int s1, .int s0] := by
  unfold L_bondsAt_4_j32 at hF
  refine v_aload_n 33 X 0 dX1_bondsAt_32 rfl rfl rfl ?_
  refine v_iload_n 34 X 1 dX1_bondsAt_33 rfl rfl rfl ?_
  refine v_iload_n 35 X 2 dX1_bondsAt_34 rfl rfl rfl ?_
  obtain ⟨z35, hz35, hF⟩ := ob hF
  refine v_mVi 38 X 2 [.int v1, .int v3] (w_X1_first v1 v3 _ hz35) q943 q945 qs19 q85 q946 hdX1_first 0 rfl rfl (pass_amb hAm) ⟨rfl, rfl⟩ ⟨Nat.le_of_ble_eq_true rfl, Nat.le_of_ble_eq_true rfl⟩ ⟨(by exact hcb), (by exact hsb)⟩ rfl rfl (Nat.le_of_ble_eq_true rfl) dX1_bondsAt_35 rfl ?_
  refine v_bipush (v := (-9)) 40 X dX1_bondsAt_38 rfl kb_m9 ?_
  refine v_icmp_ne 43 47 X dX1_bondsAt_40 rfl (by decide) (fun h40 => ?_) (fun h40 => ?_)
  · replace hF := ifn h40 hF
    refine v_iconst (v := 1) 48 X dX1_bondsAt_47 rfl ki_1 ?_
    refine v_iadd 49 X dX1_bondsAt_48 rfl ?_
    refine v_iadd 50 X dX1_bondsAt_49 rfl ?_
    refine v_istore_n 51 [(2, .int (s0 + (s1 + 1))), (0, .ref b0), (1, .int v1), (3, .int v3)] X dX1_bondsAt_50 rfl rfl (by decide) rfl ?_
    refine v_iinc (v := (v3 + 1)) 54 [(3, .int (v3 + 1)), (2, .int (s0 + (s1 + 1))), (0, .ref b0), (1, .int v1)] X 3 dX1_bondsAt_51 rfl rfl (by rfl) (by decide) rfl ?_
    refine v_goto 4 X dX1_bondsAt_54 (by decide) ?_
    obtain rfl := Option.some.inj hF
    exact v_lv [2, 3, 1, 0] rfl (hI _ rfl)
  · replace hF := ifp h40 hF
    refine v_iconst (v := 0) 44 X dX1_bondsAt_43 rfl ki_0 ?_
    refine v_goto 48 X dX1_bondsAt_44 (by decide) ?_
    refine v_iadd 49 X dX1_bondsAt_48 rfl ?_
    refine v_iadd 50 X dX1_bondsAt_49 rfl ?_
    refine v_istore_n 51 [(2, .int (s0 + (s1 + 0))), (0, .ref b0), (1, .int v1), (3, .int v3)] X dX1_bondsAt_50 rfl rfl (by decide) rfl ?_
    refine v_iinc (v := (v3 + 1)) 54 [(3, .int (v3 + 1)), (2, .int (s0 + (s1 + 0))), (0, .ref b0), (1, .int v1)] X 3 dX1_bondsAt_51 rfl rfl (by rfl) (by decide) rfl ?_
    refine v_goto 4 X dX1_bondsAt_54 (by decide) ?_
    obtain rfl := Option.some.inj hF
    exact v_lv [2, 3, 1, 0] rfl (hI _ rfl)
theorem w_X1_bondsAt_4 (X : CX p s m args meth c D A cX1_bondsAt 4 "DyeLattice$Lattice") (hAm : AMB D A s) {cb sb : Nat} (hcb : cb ≤ rmX1_bondsAt.cells) (hsb : sb ≤ rmX1_bondsAt.slots) (v1 : Int32) : ∀ (fu : Nat) (x : Int32 × Int32) (o : (Int32)), loopN (fun x => L_bondsAt_4 v1 cols rows kd x.1 x.2) fu x = some o → (V p l e rmX1_bondsAt s m args below meth c D A 4 Q (LW D b0 b1 b2 b3 b4 b5 n n4 cols rows kd thr bt tm rea gr vl so dy cg) cb sb 57 [(2, .int o)] []) → V p l e rmX1_bondsAt s m args below meth c D A 4 Q (LW D b0 b1 b2 b3 b4 b5 n n4 cols rows kd thr bt tm rea gr vl so dy cg) cb sb 4 [(0, .ref b0), (1, .int v1), (2, .int x.1), (3, .int x.2)] [] := by
  refine v_loop (fun (x : Int32 × Int32) => V p l e rmX1_bondsAt s m args below meth c D A 4 Q (LW D b0 b1 b2 b3 b4 b5 n n4 cols rows kd thr bt tm rea gr vl so dy cg) cb sb 4 [(0, .ref b0), (1, .int v1), (2, .int x.1), (3, .int x.2)] []) (fun (o : (Int32)) => V p l e rmX1_bondsAt s m args below meth c D A 4 Q (LW D b0 b1 b2 b3 b4 b5 n n4 cols rows kd thr bt tm rea gr vl so dy cg) cb sb 57 [(2, .int o)] []) ?_
  rintro ⟨v2, v3⟩ r hF hI hO
  replace hF : L_bondsAt_4 v1 cols rows kd v2 v3 = some r := hF
  show V p l e rmX1_bondsAt s m args below meth c D A 4 Q (LW D b0 b1 b2 b3 b4 b5 n n4 cols rows kd thr bt tm rea gr vl so dy cg) cb sb 4 [(0, .ref b0), (1, .int v1), (2, .int v2), (3, .int v3)] []
  unfold L_bondsAt_4 at hF
  refine v_iload_n 5 X 3 dX1_bondsAt_4 rfl rfl rfl ?_
  refine v_aload_n 6 X 0 dX1_bondsAt_5 rfl rfl rfl ?_
  refine v_get 9 X in_X1 0 2 rfl rfl (by decide) q141 rfl rfl dX1_bondsAt_6 rfl ?_
  obtain ⟨z9, hz9, hF⟩ := ob hF
  refine v_dir 12 X hAm hz9 q1579 dX1_bondsAt_9 rfl ?_
  refine v_icmp_ge 15 57 X dX1_bondsAt_12 rfl (by decide) (fun h12 => ?_) (fun h12 => ?_)
  · replace hF := ifp h12 hF
    obtain rfl := Option.some.inj hF
    exact v_lv [2] rfl ((hO _ rfl))
  · replace hF := ifn h12 hF
    refine v_iload_n 16 X 2 dX1_bondsAt_15 rfl rfl rfl ?_
    refine v_aload_n 17 X 0 dX1_bondsAt_16 rfl rfl rfl ?_
    refine v_iload_n 18 X 1 dX1_bondsAt_17 rfl rfl rfl ?_
    refine v_iload_n 19 X 3 dX1_bondsAt_18 rfl rfl rfl ?_
    obtain ⟨z19, hz19, hF⟩ := ob hF
    refine v_mVi 22 X 2 [.int v1, .int v3] (w_X1_second v1 v3 _ hz19) q396 q397 q398 q85 q399 hdX1_second 0 rfl rfl (pass_amb hAm) ⟨rfl, rfl⟩ ⟨Nat.le_of_ble_eq_true rfl, Nat.le_of_ble_eq_true rfl⟩ ⟨(by exact hcb), (by exact hsb)⟩ rfl rfl (Nat.le_of_ble_eq_true rfl) dX1_bondsAt_19 rfl ?_
    refine v_bipush (v := (-9)) 24 X dX1_bondsAt_22 rfl kb_m9 ?_
    refine v_icmp_ne 27 31 X dX1_bondsAt_24 rfl (by decide) (fun h24 => ?_) (fun h24 => ?_)
    · replace hF := ifn h24 hF
      refine v_iconst (v := 1) 32 X dX1_bondsAt_31 rfl ki_1 ?_
      exact v_lv [0, 1, 3] rfl (w_X1_bondsAt_4_j32 X hAm v1 v3 v2 1 hcb hsb hI hO hF)
    · replace hF := ifp h24 hF
      refine v_iconst (v := 0) 28 X dX1_bondsAt_27 rfl ki_0 ?_
      refine v_goto 32 X dX1_bondsAt_28 (by decide) ?_
      exact v_lv [0, 1, 3] rfl (w_X1_bondsAt_4_j32 X hAm v1 v3 v2 0 hcb hsb hI hO hF)
theorem w_X1_bondsAt (v1 : Int32) (r : Int32) (hF : L_bondsAt cols rows kd v1 = some r) : CTi l yX1_bondsAt cX1_bondsAt 4 (Option.some Jvm.ClassFile.FieldType.int) rmX1_bondsAt D (LW D b0 b1 b2 b3 b4 b5 n n4 cols rows kd thr bt tm rea gr vl so dy cg) [.ref b0, .int v1] (AMB D) (fun r1 u => r1 = r ∧ u = (LW D b0 b1 b2 b3 b4 b5 n n4 cols rows kd thr bt tm rea gr vl so dy cg)) := by
  refine m_i (by decide) (Nat.le_of_ble_eq_true rfl) ?_
  intro p e s m args below meth c A B
  obtain ⟨X, hr, hAm, -, hnm, hnmd⟩ := B
  replace X : CX p s m args meth c D A cX1_bondsAt 4 "DyeLattice$Lattice" := X
  refine v_lv (lv' := [(0, .ref b0), (1, .int v1)]) [0, 1] rfl ?_
  unfold L_bondsAt at hF
  refine v_iconst (v := 0) 1 X dX1_bondsAt_0 rfl ki_0 ?_
  refine v_istore_n 2 [(2, .int 0), (0, .ref b0), (1, .int v1)] X dX1_bondsAt_1 rfl rfl (by decide) rfl ?_
  refine v_iconst (v := 0) 3 X dX1_bondsAt_2 rfl ki_0 ?_
  refine v_istore_n 4 [(3, .int 0), (2, .int 0), (0, .ref b0), (1, .int v1)] X dX1_bondsAt_3 rfl rfl (by decide) rfl ?_
  obtain ⟨z4, hz4, hF⟩ := ob hF
  refine v_lv [2, 3, 1, 0] rfl (w_X1_bondsAt_4 X hAm (Nat.le_of_ble_eq_true rfl) (Nat.le_of_ble_eq_true rfl) v1 _ (0, 0) _ hz4 ?_)
  refine v_iload_n 58 X 0 dX1_bondsAt_57 rfl rfl rfl ?_
  obtain rfl := Option.some.inj hF
  exact v_iret X hr ⟨rfl, rfl⟩ (Nat.le_of_ble_eq_true rfl) (Nat.le_of_ble_eq_true rfl) dX1_bondsAt_58
theorem w_X1_isOpen (v1 : Int32) (r : Int32) (hF : L_isOpen thr n gr v1 = some r) : CTi l yX1_isOpen cX1_isOpen 2 (Option.some Jvm.ClassFile.FieldType.boolean) rmX1_isOpen D (LW D b0 b1 b2 b3 b4 b5 n n4 cols rows kd thr bt tm rea gr vl so dy cg) [.ref b0, .int v1] (AMB D) (fun r1 u => r1 = r ∧ u = (LW D b0 b1 b2 b3 b4 b5 n n4 cols rows kd thr bt tm rea gr vl so dy cg)) := by
  refine m_i (by decide) (Nat.le_of_ble_eq_true rfl) ?_
  intro p e s m args below meth c A B
  obtain ⟨X, hr, hAm, -, hnm, hnmd⟩ := B
  replace X : CX p s m args meth c D A cX1_isOpen 2 "DyeLattice$Lattice" := X
  refine v_lv (lv' := [(0, .ref b0), (1, .int v1)]) [0, 1] rfl ?_
  unfold L_isOpen at hF
  refine v_aload_n 1 X 0 dX1_isOpen_0 rfl rfl rfl ?_
  refine v_get 4 X in_X1 0 7 rfl rfl (by decide) q152 rfl rfl dX1_isOpen_1 rfl ?_
  refine v_iload_n 5 X 1 dX1_isOpen_4 rfl rfl rfl ?_
  obtain ⟨z5, hz5, hF⟩ := ob hF
  refine v_iald 6 X 1 hz5 rfl dX1_isOpen_5 rfl ?_
  refine v_aload_n 7 X 0 dX1_isOpen_6 rfl rfl rfl ?_
  refine v_get 10 X in_X1 0 3 rfl rfl (by decide) q143 rfl rfl dX1_isOpen_7 rfl ?_
  refine v_icmp_ge 13 17 X dX1_isOpen_10 rfl (by decide) (fun h10 => ?_) (fun h10 => ?_)
  · replace hF := ifp h10 hF
    refine v_iconst (v := 0) 18 X dX1_isOpen_17 rfl ki_0 ?_
    obtain rfl := Option.some.inj hF
    exact v_zret X hr rfl ⟨rfl, rfl⟩ (Nat.le_of_ble_eq_true rfl) (Nat.le_of_ble_eq_true rfl) dX1_isOpen_18
  · replace hF := ifn h10 hF
    refine v_iconst (v := 1) 14 X dX1_isOpen_13 rfl ki_1 ?_
    refine v_goto 18 X dX1_isOpen_14 (by decide) ?_
    obtain rfl := Option.some.inj hF
    exact v_zret X hr rfl ⟨rfl, rfl⟩ (Nat.le_of_ble_eq_true rfl) (Nat.le_of_ble_eq_true rfl) dX1_isOpen_18
theorem w_X1_openCells_4 (X : CX p s m args meth c D A cX1_openCells 3 "DyeLattice$Lattice") (hAm : AMB D A s) {cb sb : Nat} (hcb : cb ≤ rmX1_openCells.cells) (hsb : sb ≤ rmX1_openCells.slots) : ∀ (fu : Nat) (x : Int32 × Int32) (o : (Int32)), loopN (fun x => L_openCells_4 thr n gr x.1 x.2) fu x = some o → (V p l e rmX1_openCells s m args below meth c D A 3 Q (LW D b0 b1 b2 b3 b4 b5 n n4 cols rows kd thr bt tm rea gr vl so dy cg) cb sb 34 [(1, .int o)] []) → V p l e rmX1_openCells s m args below meth c D A 3 Q (LW D b0 b1 b2 b3 b4 b5 n n4 cols rows kd thr bt tm rea gr vl so dy cg) cb sb 4 [(0, .ref b0), (1, .int x.1), (2, .int x.2)] [] := by
  refine v_loop (fun (x : Int32 × Int32) => V p l e rmX1_openCells s m args below meth c D A 3 Q (LW D b0 b1 b2 b3 b4 b5 n n4 cols rows kd thr bt tm rea gr vl so dy cg) cb sb 4 [(0, .ref b0), (1, .int x.1), (2, .int x.2)] []) (fun (o : (Int32)) => V p l e rmX1_openCells s m args below meth c D A 3 Q (LW D b0 b1 b2 b3 b4 b5 n n4 cols rows kd thr bt tm rea gr vl so dy cg) cb sb 34 [(1, .int o)] []) ?_
  rintro ⟨v1, v2⟩ r hF hI hO
  replace hF : L_openCells_4 thr n gr v1 v2 = some r := hF
  show V p l e rmX1_openCells s m args below meth c D A 3 Q (LW D b0 b1 b2 b3 b4 b5 n n4 cols rows kd thr bt tm rea gr vl so dy cg) cb sb 4 [(0, .ref b0), (1, .int v1), (2, .int v2)] []
  unfold L_openCells_4 at hF
  refine v_iload_n 5 X 2 dX1_openCells_4 rfl rfl rfl ?_
  refine v_aload_n 6 X 0 dX1_openCells_5 rfl rfl rfl ?_
  have hz6 : L_cells n = some (nI n) := rfl
  refine v_mVi 9 X 0 [] (w_X1_cells _ hz6) q394 q345 q346 q85 q347 hdX1_cells 0 rfl rfl (pass_amb hAm) ⟨rfl, rfl⟩ ⟨Nat.le_of_ble_eq_true rfl, Nat.le_of_ble_eq_true rfl⟩ ⟨(by exact hcb), (by exact hsb)⟩ rfl rfl (Nat.le_of_ble_eq_true rfl) dX1_openCells_6 rfl ?_
  refine v_icmp_ge 12 34 X dX1_openCells_9 rfl (by decide) (fun h9 => ?_) (fun h9 => ?_)
  · replace hF := ifp h9 hF
    obtain rfl := Option.some.inj hF
    exact v_lv [1] rfl ((hO _ rfl))
  · replace hF := ifn h9 hF
    refine v_iload_n 13 X 1 dX1_openCells_12 rfl rfl rfl ?_
    refine v_aload_n 14 X 0 dX1_openCells_13 rfl rfl rfl ?_
    refine v_iload_n 15 X 2 dX1_openCells_14 rfl rfl rfl ?_
    obtain ⟨z15, hz15, hF⟩ := ob hF
    refine v_mVi 18 X 1 [.int v2] (w_X1_isOpen v2 _ hz15) q428 q429 q430 q85 q431 hdX1_isOpen 0 rfl rfl (pass_amb hAm) ⟨rfl, rfl⟩ ⟨Nat.le_of_ble_eq_true rfl, Nat.le_of_ble_eq_true rfl⟩ ⟨(by exact hcb), (by exact hsb)⟩ rfl rfl (Nat.le_of_ble_eq_true rfl) dX1_openCells_15 rfl ?_
    refine v_if_eq 21 25 X dX1_openCells_18 rfl (by decide) (fun h18 => ?_) (fun h18 => ?_)
    · replace hF := ifp h18 hF
      refine v_iconst (v := 0) 26 X dX1_openCells_25 rfl ki_0 ?_
      refine v_iadd 27 X dX1_openCells_26 rfl ?_
      refine v_istore_n 28 [(1, .int (v1 + 0)), (0, .ref b0), (2, .int v2)] X dX1_openCells_27 rfl rfl (by decide) rfl ?_
      refine v_iinc (v := (v2 + 1)) 31 [(2, .int (v2 + 1)), (1, .int (v1 + 0)), (0, .ref b0)] X 2 dX1_openCells_28 rfl rfl (by rfl) (by decide) rfl ?_
      refine v_goto 4 X dX1_openCells_31 (by decide) ?_
      obtain rfl := Option.some.inj hF
      exact v_lv [2, 1, 0] rfl (hI _ rfl)
    · replace hF := ifn h18 hF
      refine v_iconst (v := 1) 22 X dX1_openCells_21 rfl ki_1 ?_
      refine v_goto 26 X dX1_openCells_22 (by decide) ?_
      refine v_iadd 27 X dX1_openCells_26 rfl ?_
      refine v_istore_n 28 [(1, .int (v1 + 1)), (0, .ref b0), (2, .int v2)] X dX1_openCells_27 rfl rfl (by decide) rfl ?_
      refine v_iinc (v := (v2 + 1)) 31 [(2, .int (v2 + 1)), (1, .int (v1 + 1)), (0, .ref b0)] X 2 dX1_openCells_28 rfl rfl (by rfl) (by decide) rfl ?_
      refine v_goto 4 X dX1_openCells_31 (by decide) ?_
      obtain rfl := Option.some.inj hF
      exact v_lv [2, 1, 0] rfl (hI _ rfl)
theorem w_X1_openCells (r : Int32) (hF : L_openCells thr n gr = some r) : CTi l yX1_openCells cX1_openCells 3 (Option.some Jvm.ClassFile.FieldType.int) rmX1_openCells D (LW D b0 b1 b2 b3 b4 b5 n n4 cols rows kd thr bt tm rea gr vl so dy cg) [.ref b0] (AMB D) (fun r1 u => r1 = r ∧ u = (LW D b0 b1 b2 b3 b4 b5 n n4 cols rows kd thr bt tm rea gr vl so dy cg)) := by
  refine m_i (by decide) (Nat.le_of_ble_eq_true rfl) ?_
  intro p e s m args below meth c A B
  obtain ⟨X, hr, hAm, -, hnm, hnmd⟩ := B
  replace X : CX p s m args meth c D A cX1_openCells 3 "DyeLattice$Lattice" := X
  refine v_lv (lv' := [(0, .ref b0)]) [0] rfl ?_
  unfold L_openCells at hF
  refine v_iconst (v := 0) 1 X dX1_openCells_0 rfl ki_0 ?_
  refine v_istore_n 2 [(1, .int 0), (0, .ref b0)] X dX1_openCells_1 rfl rfl (by decide) rfl ?_
  refine v_iconst (v := 0) 3 X dX1_openCells_2 rfl ki_0 ?_
  refine v_istore_n 4 [(2, .int 0), (1, .int 0), (0, .ref b0)] X dX1_openCells_3 rfl rfl (by decide) rfl ?_
  obtain ⟨z4, hz4, hF⟩ := ob hF
  refine v_lv [2, 1, 0] rfl (w_X1_openCells_4 X hAm (Nat.le_of_ble_eq_true rfl) (Nat.le_of_ble_eq_true rfl) _ (0, 0) _ hz4 ?_)
  refine v_iload_n 35 X 0 dX1_openCells_34 rfl rfl rfl ?_
  obtain rfl := Option.some.inj hF
  exact v_iret X hr ⟨rfl, rfl⟩ (Nat.le_of_ble_eq_true rfl) (Nat.le_of_ble_eq_true rfl) dX1_openCells_35
theorem w_X1_fill_4 (X : CX p s m args meth c D A cX1_fill 4 "DyeLattice$Lattice") (hAm : AMB D A s) {cb sb : Nat} (hcb : cb ≤ rmX1_fill.cells) (hsb : sb ≤ rmX1_fill.slots) : ∀ (fu : Nat) (x : Int32 × Int32 × (Nat → Int32)) (o : ((Nat → Int32))), loopN (fun x => L_fill_4 n x.1 x.2.1 x.2.2) fu x = some o → (V p l e rmX1_fill s m args below meth c D A 4 Q (LW D b0 b1 b2 b3 b4 b5 n n4 cols rows kd thr bt tm rea o vl so dy cg) cb sb 39 [(0, .ref b0)] []) → V p l e rmX1_fill s m args below meth c D A 4 Q (LW D b0 b1 b2 b3 b4 b5 n n4 cols rows kd thr bt tm rea x.2.2 vl so dy cg) cb sb 4 [(0, .ref b0), (2, .int x.1), (3, .int x.2.1)] [] := by
  refine v_loop (fun (x : Int32 × Int32 × (Nat → Int32)) => V p l e rmX1_fill s m args below meth c D A 4 Q (LW D b0 b1 b2 b3 b4 b5 n n4 cols rows kd thr bt tm rea x.2.2 vl so dy cg) cb sb 4 [(0, .ref b0), (2, .int x.1), (3, .int x.2.1)] []) (fun (o : ((Nat → Int32))) => V p l e rmX1_fill s m args below meth c D A 4 Q (LW D b0 b1 b2 b3 b4 b5 n n4 cols rows kd thr bt tm rea o vl so dy cg) cb sb 39 [(0, .ref b0)] []) ?_
  rintro ⟨v2, v3, gr⟩ r hF hI hO
  replace hF : L_fill_4 n v2 v3 gr = some r := hF
  show V p l e rmX1_fill s m args below meth c D A 4 Q (LW D b0 b1 b2 b3 b4 b5 n n4 cols rows kd thr bt tm rea gr vl so dy cg) cb sb 4 [(0, .ref b0), (2, .int v2), (3, .int v3)] []
  unfold L_fill_4 at hF
  refine v_iload_n 5 X 2 dX1_fill_4 rfl rfl rfl ?_
  refine v_aload_n 6 X 0 dX1_fill_5 rfl rfl rfl ?_
  have hz6 : L_cells n = some (nI n) := rfl
  refine v_mVi 9 X 0 [] (w_X1_cells _ hz6) q394 q345 q346 q85 q347 hdX1_cells 0 rfl rfl (pass_amb hAm) ⟨rfl, rfl⟩ ⟨Nat.le_of_ble_eq_true rfl, Nat.le_of_ble_eq_true rfl⟩ ⟨(by exact hcb), (by exact hsb)⟩ rfl rfl (Nat.le_of_ble_eq_true rfl) dX1_fill_6 rfl ?_
  refine v_icmp_ge 12 39 X dX1_fill_9 rfl (by decide) (fun h9 => ?_) (fun h9 => ?_)
  · replace hF := ifp h9 hF
    obtain rfl := Option.some.inj hF
    exact v_lv [0] rfl ((hO _ rfl))
  · replace hF := ifn h9 hF
    refine v_bipush (v := 75) 14 X dX1_fill_12 rfl kb_75 ?_
    refine v_iload_n 15 X 1 dX1_fill_14 rfl rfl rfl ?_
    refine v_imul 16 X dX1_fill_15 rfl ?_
    refine v_bipush (v := 74) 18 X dX1_fill_16 rfl kb_74 ?_
    refine v_iadd 19 X dX1_fill_18 rfl ?_
    refine v_ldc 21 X q423 dX1_fill_19 rfl ?_
    obtain ⟨z21, hz21, hF⟩ := ob hF
    refine v_irem 22 X hz21 dX1_fill_21 rfl ?_
    refine v_istore_n 23 [(2, .int z21), (0, .ref b0), (3, .int v3)] X dX1_fill_22 rfl rfl (by decide) rfl ?_
    refine v_aload_n 24 X 1 dX1_fill_23 rfl rfl rfl ?_
    refine v_get 27 X in_X1 0 7 rfl rfl (by decide) q152 rfl rfl dX1_fill_24 rfl ?_
    refine v_iload_n 28 X 2 dX1_fill_27 rfl rfl rfl ?_
    refine v_iload_n 29 X 0 dX1_fill_28 rfl rfl rfl ?_
    refine v_bipush (v := 100) 31 X dX1_fill_29 rfl kb_100 ?_
    obtain ⟨z31, hz31, hF⟩ := ob hF
    refine v_irem 32 X hz31 dX1_fill_31 rfl ?_
    obtain ⟨z32, hz32, hF⟩ := ob hF
    refine v_iast 33 (LW D b0 b1 b2 b3 b4 b5 n n4 cols rows kd thr bt tm rea z32 vl so dy cg) X 1 hz32 rfl dX1_fill_32 rfl rfl ?_
    refine v_iinc (v := (v3 + 1)) 36 [(3, .int (v3 + 1)), (2, .int z21), (0, .ref b0)] X 2 dX1_fill_33 rfl rfl (by rfl) (by decide) rfl ?_
    refine v_goto 4 X dX1_fill_36 (by decide) ?_
    obtain rfl := Option.some.inj hF
    exact v_lv [2, 1, 0] rfl (hI _ rfl)
theorem w_X1_fill (v1 : Int32) (r : Int32 × (Nat → Int32)) (hF : L_fill thr n gr v1 = some r) : CTi l yX1_fill cX1_fill 4 (Option.some Jvm.ClassFile.FieldType.int) rmX1_fill D (LW D b0 b1 b2 b3 b4 b5 n n4 cols rows kd thr bt tm rea gr vl so dy cg) [.ref b0, .int v1] (AMB D) (fun r1 u => r1 = r.1 ∧ u = (LW D b0 b1 b2 b3 b4 b5 n n4 cols rows kd thr bt tm rea r.2 vl so dy cg)) := by
  refine m_i (by decide) (Nat.le_of_ble_eq_true rfl) ?_
  intro p e s m args below meth c A B
  obtain ⟨X, hr, hAm, -, hnm, hnmd⟩ := B
  replace X : CX p s m args meth c D A cX1_fill 4 "DyeLattice$Lattice" := X
  refine v_lv (lv' := [(0, .ref b0), (1, .int v1)]) [0, 1] rfl ?_
  unfold L_fill at hF
  refine v_iload_n 1 X 1 dX1_fill_0 rfl rfl rfl ?_
  refine v_istore_n 2 [(2, .int v1), (0, .ref b0), (1, .int v1)] X dX1_fill_1 rfl rfl (by decide) rfl ?_
  refine v_iconst (v := 0) 3 X dX1_fill_2 rfl ki_0 ?_
  refine v_istore_n 4 [(3, .int 0), (2, .int v1), (0, .ref b0), (1, .int v1)] X dX1_fill_3 rfl rfl (by decide) rfl ?_
  obtain ⟨z4, hz4, hF⟩ := ob hF
  refine v_lv [2, 1, 0] rfl (w_X1_fill_4 X hAm (Nat.le_of_ble_eq_true rfl) (Nat.le_of_ble_eq_true rfl) _ (v1, 0, gr) _ hz4 ?_)
  refine v_aload_n 40 X 0 dX1_fill_39 rfl rfl rfl ?_
  obtain ⟨z40, hz40, hF⟩ := ob hF
  refine v_mVi 43 X 0 [] (w_X1_openCells _ hz40) q424 q425 q426 q85 q427 hdX1_openCells 0 rfl rfl (pass_amb hAm) ⟨rfl, rfl⟩ ⟨Nat.le_of_ble_eq_true rfl, Nat.le_of_ble_eq_true rfl⟩ ⟨(Nat.le_of_ble_eq_true rfl), (Nat.le_of_ble_eq_true rfl)⟩ rfl rfl (Nat.le_of_ble_eq_true rfl) dX1_fill_40 rfl ?_
  obtain rfl := Option.some.inj hF
  exact v_iret X hr ⟨rfl, rfl⟩ (Nat.le_of_ble_eq_true rfl) (Nat.le_of_ble_eq_true rfl) dX1_fill_43
theorem w_X1_sourcesOf_14 (X : CX p s m args meth c D A cX1_sourcesOf 7 "DyeLattice$Lattice") (hAm : AMB D A s) {cb sb : Nat} (hcb : cb ≤ rmX1_sourcesOf.cells) (hsb : sb ≤ rmX1_sourcesOf.slots) (v1 : Int32) (v4 : Int32) : ∀ (fu : Nat) (x : Int32 × Int32) (o : (Int32)), loopN (fun x => L_sourcesOf_14 v1 v4 n so x.1 x.2) fu x = some o → (V p l e rmX1_sourcesOf s m args below meth c D A 7 Q (LW D b0 b1 b2 b3 b4 b5 n n4 cols rows kd thr bt tm rea gr vl so dy cg) cb sb 42 [(2, .int o)] []) → V p l e rmX1_sourcesOf s m args below meth c D A 7 Q (LW D b0 b1 b2 b3 b4 b5 n n4 cols rows kd thr bt tm rea gr vl so dy cg) cb sb 14 [(1, .int v1), (2, .int x.1), (3, .ref b3), (4, .int v4), (5, .int x.2)] [] := by
  refine v_loop (fun (x : Int32 × Int32) => V p l e rmX1_sourcesOf s m args below meth c D A 7 Q (LW D b0 b1 b2 b3 b4 b5 n n4 cols rows kd thr bt tm rea gr vl so dy cg) cb sb 14 [(1, .int v1), (2, .int x.1), (3, .ref b3), (4, .int v4), (5, .int x.2)] []) (fun (o : (Int32)) => V p l e rmX1_sourcesOf s m args below meth c D A 7 Q (LW D b0 b1 b2 b3 b4 b5 n n4 cols rows kd thr bt tm rea gr vl so dy cg) cb sb 42 [(2, .int o)] []) ?_
  rintro ⟨v2, v5⟩ r hF hI hO
  replace hF : L_sourcesOf_14 v1 v4 n so v2 v5 = some r := hF
  show V p l e rmX1_sourcesOf s m args below meth c D A 7 Q (LW D b0 b1 b2 b3 b4 b5 n n4 cols rows kd thr bt tm rea gr vl so dy cg) cb sb 14 [(1, .int v1), (2, .int v2), (3, .ref b3), (4, .int v4), (5, .int v5)] []
  unfold L_sourcesOf_14 at hF
  refine v_iload 16 X 4 dX1_sourcesOf_14 rfl rfl ?_
  refine v_iload 18 X 3 dX1_sourcesOf_16 rfl rfl ?_
  refine v_icmp_ge 21 42 X dX1_sourcesOf_18 rfl (by decide) (fun h18 => ?_) (fun h18 => ?_)
  · replace hF := ifp h18 hF
    obtain rfl := Option.some.inj hF
    exact v_lv [1] rfl ((hO _ rfl))
  · replace hF := ifn h18 hF
    refine v_aload_n 22 X 2 dX1_sourcesOf_21 rfl rfl rfl ?_
    refine v_iload 24 X 4 dX1_sourcesOf_22 rfl rfl ?_
    obtain ⟨z24, hz24, hF⟩ := ob hF
    refine v_iald 25 X 3 hz24 rfl dX1_sourcesOf_24 rfl ?_
    refine v_istore 27 [(6, .int z24), (1, .int v1), (2, .int v2), (3, .ref b3), (4, .int v4), (5, .int v5)] X dX1_sourcesOf_25 rfl (by decide) rfl ?_
    refine v_iload_n 28 X 2 dX1_sourcesOf_27 rfl rfl rfl ?_
    refine v_iload 30 X 0 dX1_sourcesOf_28 rfl rfl ?_
    refine v_iload_n 31 X 1 dX1_sourcesOf_30 rfl rfl rfl ?_
    refine v_ishr 32 X dX1_sourcesOf_31 rfl ?_
    refine v_iconst (v := 1) 33 X dX1_sourcesOf_32 rfl ki_1 ?_
    refine v_iand 34 X dX1_sourcesOf_33 rfl ?_
    refine v_iadd 35 X dX1_sourcesOf_34 rfl ?_
    refine v_istore_n 36 [(2, .int (v2 + ((z24 >>> (v1 &&& 31)) &&& 1))), (6, .int z24), (1, .int v1), (3, .ref b3), (4, .int v4), (5, .int v5)] X dX1_sourcesOf_35 rfl rfl (by decide) rfl ?_
    refine v_iinc (v := (v5 + 1)) 39 [(5, .int (v5 + 1)), (2, .int (v2 + ((z24 >>> (v1 &&& 31)) &&& 1))), (6, .int z24), (1, .int v1), (3, .ref b3), (4, .int v4)] X 5 dX1_sourcesOf_36 rfl rfl (by rfl) (by decide) rfl ?_
    refine v_goto 14 X dX1_sourcesOf_39 (by decide) ?_
    obtain rfl := Option.some.inj hF
    exact v_lv [3, 1, 4, 5, 0] rfl (hI _ rfl)
theorem w_X1_sourcesOf (v1 : Int32) (r : Int32) (hF : L_sourcesOf n so v1 = some r) : CTi l yX1_sourcesOf cX1_sourcesOf 7 (Option.some Jvm.ClassFile.FieldType.int) rmX1_sourcesOf D (LW D b0 b1 b2 b3 b4 b5 n n4 cols rows kd thr bt tm rea gr vl so dy cg) [.ref b0, .int v1] (AMB D) (fun r1 u => r1 = r ∧ u = (LW D b0 b1 b2 b3 b4 b5 n n4 cols rows kd thr bt tm rea gr vl so dy cg)) := by
  refine m_i (by decide) (Nat.le_of_ble_eq_true rfl) ?_
  intro p e s m args below meth c A B
  obtain ⟨X, hr, hAm, -, hnm, hnmd⟩ := B
  replace X : CX p s m args meth c D A cX1_sourcesOf 7 "DyeLattice$Lattice" := X
  refine v_lv (lv' := [(0, .ref b0), (1, .int v1)]) [0, 1] rfl ?_
  unfold L_sourcesOf at hF
  refine v_iconst (v := 0) 1 X dX1_sourcesOf_0 rfl ki_0 ?_
  refine v_istore_n 2 [(2, .int 0), (0, .ref b0), (1, .int v1)] X dX1_sourcesOf_1 rfl rfl (by decide) rfl ?_
  refine v_aload_n 3 X 1 dX1_sourcesOf_2 rfl rfl rfl ?_
  refine v_get 6 X in_X1 0 9 rfl rfl (by decide) q158 rfl rfl dX1_sourcesOf_3 rfl ?_
  refine v_astore_n 7 [(3, .ref b3), (2, .int 0), (0, .ref b0), (1, .int v1)] X dX1_sourcesOf_6 rfl rfl (by decide) rfl ?_
  refine v_aload_n 8 X 0 dX1_sourcesOf_7 rfl rfl rfl ?_
  refine v_alen 9 X 3 0 rfl rfl rfl dX1_sourcesOf_8 rfl ?_
  refine v_istore 11 [(4, .int (nI n)), (3, .ref b3), (2, .int 0), (0, .ref b0), (1, .int v1)] X dX1_sourcesOf_9 rfl (by decide) rfl ?_
  refine v_iconst (v := 0) 12 X dX1_sourcesOf_11 rfl ki_0 ?_
  refine v_istore 14 [(5, .int 0), (4, .int (nI n)), (3, .ref b3), (2, .int 0), (0, .ref b0), (1, .int v1)] X dX1_sourcesOf_12 rfl (by decide) rfl ?_
  obtain ⟨z14, hz14, hF⟩ := ob hF
  refine v_lv [5, 3, 2, 1, 0] rfl (w_X1_sourcesOf_14 X hAm (Nat.le_of_ble_eq_true rfl) (Nat.le_of_ble_eq_true rfl) v1 (nI n) _ (0, 0) _ hz14 ?_)
  refine v_iload_n 43 X 0 dX1_sourcesOf_42 rfl rfl rfl ?_
  obtain rfl := Option.some.inj hF
  exact v_iret X hr ⟨rfl, rfl⟩ (Nat.le_of_ble_eq_true rfl) (Nat.le_of_ble_eq_true rfl) dX1_sourcesOf_43
theorem w_X1_dyed_14 (X : CX p s m args meth c D A cX1_dyed 7 "DyeLattice$Lattice") (hAm : AMB D A s) {cb sb : Nat} (hcb : cb ≤ rmX1_dyed.cells) (hsb : sb ≤ rmX1_dyed.slots) (v1 : Int32) (v4 : Int32) : ∀ (fu : Nat) (x : Int32 × Int32) (o : (Int32)), loopN (fun x => L_dyed_14 v1 v4 n dy x.1 x.2) fu x = some o → (V p l e rmX1_dyed s m args below meth c D A 7 Q (LW D b0 b1 b2 b3 b4 b5 n n4 cols rows kd thr bt tm rea gr vl so dy cg) cb sb 42 [(2, .int o)] []) → V p l e rmX1_dyed s m args below meth c D A 7 Q (LW D b0 b1 b2 b3 b4 b5 n n4 cols rows kd thr bt tm rea gr vl so dy cg) cb sb 14 [(1, .int v1), (2, .int x.1), (3, .ref b4), (4, .int v4), (5, .int x.2)] [] := by
  refine v_loop (fun (x : Int32 × Int32) => V p l e rmX1_dyed s m args below meth c D A 7 Q (LW D b0 b1 b2 b3 b4 b5 n n4 cols rows kd thr bt tm rea gr vl so dy cg) cb sb 14 [(1, .int v1), (2, .int x.1), (3, .ref b4), (4, .int v4), (5, .int x.2)] []) (fun (o : (Int32)) => V p l e rmX1_dyed s m args below meth c D A 7 Q (LW D b0 b1 b2 b3 b4 b5 n n4 cols rows kd thr bt tm rea gr vl so dy cg) cb sb 42 [(2, .int o)] []) ?_
  rintro ⟨v2, v5⟩ r hF hI hO
  replace hF : L_dyed_14 v1 v4 n dy v2 v5 = some r := hF
  show V p l e rmX1_dyed s m args below meth c D A 7 Q (LW D b0 b1 b2 b3 b4 b5 n n4 cols rows kd thr bt tm rea gr vl so dy cg) cb sb 14 [(1, .int v1), (2, .int v2), (3, .ref b4), (4, .int v4), (5, .int v5)] []
  unfold L_dyed_14 at hF
  refine v_iload 16 X 4 dX1_dyed_14 rfl rfl ?_
  refine v_iload 18 X 3 dX1_dyed_16 rfl rfl ?_
  refine v_icmp_ge 21 42 X dX1_dyed_18 rfl (by decide) (fun h18 => ?_) (fun h18 => ?_)
  · replace hF := ifp h18 hF
    obtain rfl := Option.some.inj hF
    exact v_lv [1] rfl ((hO _ rfl))
  · replace hF := ifn h18 hF
    refine v_aload_n 22 X 2 dX1_dyed_21 rfl rfl rfl ?_
    refine v_iload 24 X 4 dX1_dyed_22 rfl rfl ?_
    obtain ⟨z24, hz24, hF⟩ := ob hF
    refine v_iald 25 X 4 hz24 rfl dX1_dyed_24 rfl ?_
    refine v_istore 27 [(6, .int z24), (1, .int v1), (2, .int v2), (3, .ref b4), (4, .int v4), (5, .int v5)] X dX1_dyed_25 rfl (by decide) rfl ?_
    refine v_iload_n 28 X 2 dX1_dyed_27 rfl rfl rfl ?_
    refine v_iload 30 X 0 dX1_dyed_28 rfl rfl ?_
    refine v_iload_n 31 X 1 dX1_dyed_30 rfl rfl rfl ?_
    refine v_ishr 32 X dX1_dyed_31 rfl ?_
    refine v_iconst (v := 1) 33 X dX1_dyed_32 rfl ki_1 ?_
    refine v_iand 34 X dX1_dyed_33 rfl ?_
    refine v_iadd 35 X dX1_dyed_34 rfl ?_
    refine v_istore_n 36 [(2, .int (v2 + ((z24 >>> (v1 &&& 31)) &&& 1))), (6, .int z24), (1, .int v1), (3, .ref b4), (4, .int v4), (5, .int v5)] X dX1_dyed_35 rfl rfl (by decide) rfl ?_
    refine v_iinc (v := (v5 + 1)) 39 [(5, .int (v5 + 1)), (2, .int (v2 + ((z24 >>> (v1 &&& 31)) &&& 1))), (6, .int z24), (1, .int v1), (3, .ref b4), (4, .int v4)] X 5 dX1_dyed_36 rfl rfl (by rfl) (by decide) rfl ?_
    refine v_goto 14 X dX1_dyed_39 (by decide) ?_
    obtain rfl := Option.some.inj hF
    exact v_lv [3, 1, 4, 5, 0] rfl (hI _ rfl)
theorem w_X1_dyed (v1 : Int32) (r : Int32) (hF : L_dyed n dy v1 = some r) : CTi l yX1_dyed cX1_dyed 7 (Option.some Jvm.ClassFile.FieldType.int) rmX1_dyed D (LW D b0 b1 b2 b3 b4 b5 n n4 cols rows kd thr bt tm rea gr vl so dy cg) [.ref b0, .int v1] (AMB D) (fun r1 u => r1 = r ∧ u = (LW D b0 b1 b2 b3 b4 b5 n n4 cols rows kd thr bt tm rea gr vl so dy cg)) := by
  refine m_i (by decide) (Nat.le_of_ble_eq_true rfl) ?_
  intro p e s m args below meth c A B
  obtain ⟨X, hr, hAm, -, hnm, hnmd⟩ := B
  replace X : CX p s m args meth c D A cX1_dyed 7 "DyeLattice$Lattice" := X
  refine v_lv (lv' := [(0, .ref b0), (1, .int v1)]) [0, 1] rfl ?_
  unfold L_dyed at hF
  refine v_iconst (v := 0) 1 X dX1_dyed_0 rfl ki_0 ?_
  refine v_istore_n 2 [(2, .int 0), (0, .ref b0), (1, .int v1)] X dX1_dyed_1 rfl rfl (by decide) rfl ?_
  refine v_aload_n 3 X 1 dX1_dyed_2 rfl rfl rfl ?_
  refine v_get 6 X in_X1 0 10 rfl rfl (by decide) q161 rfl rfl dX1_dyed_3 rfl ?_
  refine v_astore_n 7 [(3, .ref b4), (2, .int 0), (0, .ref b0), (1, .int v1)] X dX1_dyed_6 rfl rfl (by decide) rfl ?_
  refine v_aload_n 8 X 0 dX1_dyed_7 rfl rfl rfl ?_
  refine v_alen 9 X 4 0 rfl rfl rfl dX1_dyed_8 rfl ?_
  refine v_istore 11 [(4, .int (nI n)), (3, .ref b4), (2, .int 0), (0, .ref b0), (1, .int v1)] X dX1_dyed_9 rfl (by decide) rfl ?_
  refine v_iconst (v := 0) 12 X dX1_dyed_11 rfl ki_0 ?_
  refine v_istore 14 [(5, .int 0), (4, .int (nI n)), (3, .ref b4), (2, .int 0), (0, .ref b0), (1, .int v1)] X dX1_dyed_12 rfl (by decide) rfl ?_
  obtain ⟨z14, hz14, hF⟩ := ob hF
  refine v_lv [5, 3, 2, 1, 0] rfl (w_X1_dyed_14 X hAm (Nat.le_of_ble_eq_true rfl) (Nat.le_of_ble_eq_true rfl) v1 (nI n) _ (0, 0) _ hz14 ?_)
  refine v_iload_n 43 X 0 dX1_dyed_42 rfl rfl rfl ?_
  obtain rfl := Option.some.inj hF
  exact v_iret X hr ⟨rfl, rfl⟩ (Nat.le_of_ble_eq_true rfl) (Nat.le_of_ble_eq_true rfl) dX1_dyed_43
theorem w_X1_isMoving (v1 : Int32) (r : Int32) (hF : L_isMoving thr n gr cg v1 = some r) : CTi l yX1_isMoving cX1_isMoving 2 (Option.some Jvm.ClassFile.FieldType.boolean) rmX1_isMoving D (LW D b0 b1 b2 b3 b4 b5 n n4 cols rows kd thr bt tm rea gr vl so dy cg) [.ref b0, .int v1] (AMB D) (fun r1 u => r1 = r ∧ u = (LW D b0 b1 b2 b3 b4 b5 n n4 cols rows kd thr bt tm rea gr vl so dy cg)) := by
  refine m_i (by decide) (Nat.le_of_ble_eq_true rfl) ?_
  intro p e s m args below meth c A B
  obtain ⟨X, hr, hAm, -, hnm, hnmd⟩ := B
  replace X : CX p s m args meth c D A cX1_isMoving 2 "DyeLattice$Lattice" := X
  refine v_lv (lv' := [(0, .ref b0), (1, .int v1)]) [0, 1] rfl ?_
  unfold L_isMoving at hF
  refine v_aload_n 1 X 0 dX1_isMoving_0 rfl rfl rfl ?_
  refine v_iload_n 2 X 1 dX1_isMoving_1 rfl rfl rfl ?_
  obtain ⟨z2, hz2, hF⟩ := ob hF
  refine v_mVi 5 X 1 [.int v1] (w_X1_isOpen v1 _ hz2) q428 q429 q430 q85 q431 hdX1_isOpen 0 rfl rfl (pass_amb hAm) ⟨rfl, rfl⟩ ⟨Nat.le_of_ble_eq_true rfl, Nat.le_of_ble_eq_true rfl⟩ ⟨(Nat.le_of_ble_eq_true rfl), (Nat.le_of_ble_eq_true rfl)⟩ rfl rfl (Nat.le_of_ble_eq_true rfl) dX1_isMoving_2 rfl ?_
  refine v_if_eq 8 21 X dX1_isMoving_5 rfl (by decide) (fun h5 => ?_) (fun h5 => ?_)
  · replace hF := ifp h5 hF
    refine v_iconst (v := 0) 22 X dX1_isMoving_21 rfl ki_0 ?_
    obtain rfl := Option.some.inj hF
    exact v_zret X hr rfl ⟨rfl, rfl⟩ (Nat.le_of_ble_eq_true rfl) (Nat.le_of_ble_eq_true rfl) dX1_isMoving_22
  · replace hF := ifn h5 hF
    refine v_aload_n 9 X 0 dX1_isMoving_8 rfl rfl rfl ?_
    refine v_get 12 X in_X1 0 11 rfl rfl (by decide) q163 rfl rfl dX1_isMoving_9 rfl ?_
    refine v_iload_n 13 X 1 dX1_isMoving_12 rfl rfl rfl ?_
    obtain ⟨z13, hz13, hF⟩ := ob hF
    refine v_zald 14 X 5 hz13 rfl dX1_isMoving_13 rfl ?_
    refine v_if_ne 17 21 X dX1_isMoving_14 rfl (by decide) (fun h14 => ?_) (fun h14 => ?_)
    · replace hF := ifn h14 hF
      refine v_iconst (v := 0) 22 X dX1_isMoving_21 rfl ki_0 ?_
      obtain rfl := Option.some.inj hF
      exact v_zret X hr rfl ⟨rfl, rfl⟩ (Nat.le_of_ble_eq_true rfl) (Nat.le_of_ble_eq_true rfl) dX1_isMoving_22
    · replace hF := ifp h14 hF
      refine v_iconst (v := 1) 18 X dX1_isMoving_17 rfl ki_1 ?_
      refine v_goto 22 X dX1_isMoving_18 (by decide) ?_
      obtain rfl := Option.some.inj hF
      exact v_zret X hr rfl ⟨rfl, rfl⟩ (Nat.le_of_ble_eq_true rfl) (Nat.le_of_ble_eq_true rfl) dX1_isMoving_22
theorem w_X1_coming_5_j72 (X : CX p s m args meth c D A cX1_coming 7 "DyeLattice$Lattice") (hAm : AMB D A s) {cb sb : Nat} (v1 : Int32) (v2 : Int32) (v3 : Int32) (v4 : Int32) (hcb : cb ≤ rmX1_coming.cells) (hsb : sb ≤ rmX1_coming.slots) {r : (Int32 × Int32) ⊕ (Int32)} (hI : ∀ y, r = .inl y → V p l e rmX1_coming s m args below meth c D A 7 Q (LW D b0 b1 b2 b3 b4 b5 n n4 cols rows kd thr bt tm rea gr vl so dy cg) cb sb 5 [(0, .ref b0), (1, .int v1), (2, .int v2), (3, .int y.1), (4, .int y.2)] []) (hO : ∀ y, r = .inr y → (V p l e rmX1_coming s m args below meth c D A 7 Q (LW D b0 b1 b2 b3 b4 b5 n n4 cols rows kd thr bt tm rea gr vl so dy cg) cb sb 132 [(3, .int y)] [])) (hF : L_coming_5_j72 cols rows thr n n4 vl gr dy cg v1 v2 v3 v4 = some r) : V p l e rmX1_coming s m args below meth c D A 7 Q (LW D b0 b1 b2 b3 b4 b5 n n4 cols rows kd thr bt tm rea gr vl so dy cg) cb sb 72 [(0, .ref b0), (1, .int v1), (2, .int v2), (3, .int v3), (4, .int v4)] [] := by
  unfold L_coming_5_j72 at hF
  refine v_aload_n 73 X 0 dX1_coming_72 rfl rfl rfl ?_
  refine v_iload_n 74 X 1 dX1_coming_73 rfl rfl rfl ?_
  refine v_iload 76 X 4 dX1_coming_74 rfl rfl ?_
  obtain ⟨z76, hz76, hF⟩ := ob hF
  refine v_mVi 79 X 2 [.int v1, .int v4] (w_X1_second v1 v4 _ hz76) q396 q397 q398 q85 q399 hdX1_second 0 rfl rfl (pass_amb hAm) ⟨rfl, rfl⟩ ⟨Nat.le_of_ble_eq_true rfl, Nat.le_of_ble_eq_true rfl⟩ ⟨(by exact hcb), (by exact hsb)⟩ rfl rfl (Nat.le_of_ble_eq_true rfl) dX1_coming_76 rfl ?_
  refine v_istore 81 [(6, .int z76), (0, .ref b0), (1, .int v1), (2, .int v2), (3, .int v3), (4, .int v4)] X dX1_coming_79 rfl (by decide) rfl ?_
  refine v_iload 83 X 0 dX1_coming_81 rfl rfl ?_
  refine v_bipush (v := (-9)) 85 X dX1_coming_83 rfl kb_m9 ?_
  refine v_icmp_eq 88 126 X dX1_coming_85 rfl (by decide) (fun h85 => ?_) (fun h85 => ?_)
  · replace hF := ifp h85 hF
    refine v_iinc (v := (v4 + 1)) 129 [(4, .int (v4 + 1)), (6, .int z76), (0, .ref b0), (1, .int v1), (2, .int v2), (3, .int v3)] X 5 dX1_coming_126 rfl rfl (by rfl) (by decide) rfl ?_
    refine v_goto 5 X dX1_coming_129 (by decide) ?_
    obtain rfl := Option.some.inj hF
    exact v_lv [2, 3, 4, 5, 0] rfl (hI _ rfl)
  · replace hF := ifn h85 hF
    refine v_aload_n 89 X 1 dX1_coming_88 rfl rfl rfl ?_
    refine v_iload 91 X 0 dX1_coming_89 rfl rfl ?_
    obtain ⟨z91, hz91, hF⟩ := ob hF
    refine v_mVi 94 X 1 [.int z76] (w_X1_isMoving z76 _ hz91) q935 q937 qs17 q85 q938 hdX1_isMoving 0 rfl rfl (pass_amb hAm) ⟨rfl, rfl⟩ ⟨Nat.le_of_ble_eq_true rfl, Nat.le_of_ble_eq_true rfl⟩ ⟨(by exact hcb), (by exact hsb)⟩ rfl rfl (Nat.le_of_ble_eq_true rfl) dX1_coming_91 rfl ?_
    refine v_if_eq 97 126 X dX1_coming_94 rfl (by decide) (fun h94 => ?_) (fun h94 => ?_)
    · replace hF := ifp h94 hF
      refine v_iinc (v := (v4 + 1)) 129 [(4, .int (v4 + 1)), (6, .int z76), (0, .ref b0), (1, .int v1), (2, .int v2), (3, .int v3)] X 5 dX1_coming_126 rfl rfl (by rfl) (by decide) rfl ?_
      refine v_goto 5 X dX1_coming_129 (by decide) ?_
      obtain rfl := Option.some.inj hF
      exact v_lv [2, 3, 4, 5, 0] rfl (hI _ rfl)
    · replace hF := ifn h94 hF
      refine v_aload_n 98 X 1 dX1_coming_97 rfl rfl rfl ?_
      refine v_get 101 X in_X1 0 8 rfl rfl (by decide) q155 rfl rfl dX1_coming_98 rfl ?_
      refine v_iconst (v := 4) 102 X dX1_coming_101 rfl ki_4 ?_
      refine v_iload_n 103 X 2 dX1_coming_102 rfl rfl rfl ?_
      refine v_imul 104 X dX1_coming_103 rfl ?_
      refine v_iload 106 X 5 dX1_coming_104 rfl rfl ?_
      refine v_iadd 107 X dX1_coming_106 rfl ?_
      obtain ⟨z107, hz107, hF⟩ := ob hF
      refine v_aldV 108 X 2 hz107 rfl dX1_coming_107 rfl ?_
      refine v_iconst (v := 0) 109 X dX1_coming_108 rfl ki_0 ?_
      refine v_iload_n 110 X 3 dX1_coming_109 rfl rfl rfl ?_
      obtain ⟨z110, hz110, hF⟩ := ob hF
      refine v_lets 113 X hAm hz110 q947 ⟨Nat.le_of_ble_eq_true rfl, Nat.le_of_ble_eq_true rfl⟩ ⟨(by exact hcb), (by exact hsb)⟩ rfl (Nat.le_of_ble_eq_true rfl) dX1_coming_110 rfl ?_
      refine v_if_eq 116 126 X dX1_coming_113 rfl (by decide) (fun h113 => ?_) (fun h113 => ?_)
      · replace hF := ifp h113 hF
        refine v_iinc (v := (v4 + 1)) 129 [(4, .int (v4 + 1)), (6, .int z76), (0, .ref b0), (1, .int v1), (2, .int v2), (3, .int v3)] X 5 dX1_coming_126 rfl rfl (by rfl) (by decide) rfl ?_
        refine v_goto 5 X dX1_coming_129 (by decide) ?_
        obtain rfl := Option.some.inj hF
        exact v_lv [2, 3, 4, 5, 0] rfl (hI _ rfl)
      · replace hF := ifn h113 hF
        refine v_iload_n 117 X 4 dX1_coming_116 rfl rfl rfl ?_
        refine v_aload_n 118 X 1 dX1_coming_117 rfl rfl rfl ?_
        refine v_get 121 X in_X1 0 10 rfl rfl (by decide) q161 rfl rfl dX1_coming_118 rfl ?_
        refine v_iload 123 X 0 dX1_coming_121 rfl rfl ?_
        obtain ⟨z123, hz123, hF⟩ := ob hF
        refine v_iald 124 X 4 hz123 rfl dX1_coming_123 rfl ?_
        refine v_ior 125 X dX1_coming_124 rfl ?_
        refine v_istore_n 126 [(3, .int (v3 ||| z123)), (6, .int z76), (0, .ref b0), (1, .int v1), (2, .int v2), (4, .int v4)] X dX1_coming_125 rfl rfl (by decide) rfl ?_
        refine v_iinc (v := (v4 + 1)) 129 [(4, .int (v4 + 1)), (3, .int (v3 ||| z123)), (6, .int z76), (0, .ref b0), (1, .int v1), (2, .int v2)] X 5 dX1_coming_126 rfl rfl (by rfl) (by decide) rfl ?_
        refine v_goto 5 X dX1_coming_129 (by decide) ?_
        obtain rfl := Option.some.inj hF
        exact v_lv [3, 4, 5, 1, 0] rfl (hI _ rfl)
theorem w_X1_coming_5 (X : CX p s m args meth c D A cX1_coming 7 "DyeLattice$Lattice") (hAm : AMB D A s) {cb sb : Nat} (hcb : cb ≤ rmX1_coming.cells) (hsb : sb ≤ rmX1_coming.slots) (v1 : Int32) (v2 : Int32) : ∀ (fu : Nat) (x : Int32 × Int32) (o : (Int32)), loopN (fun x => L_coming_5 v1 v2 cols rows thr kd n n4 vl gr dy cg x.1 x.2) fu x = some o → (V p l e rmX1_coming s m args below meth c D A 7 Q (LW D b0 b1 b2 b3 b4 b5 n n4 cols rows kd thr bt tm rea gr vl so dy cg) cb sb 132 [(3, .int o)] []) → V p l e rmX1_coming s m args below meth c D A 7 Q (LW D b0 b1 b2 b3 b4 b5 n n4 cols rows kd thr bt tm rea gr vl so dy cg) cb sb 5 [(0, .ref b0), (1, .int v1), (2, .int v2), (3, .int x.1), (4, .int x.2)] [] := by
  refine v_loop (fun (x : Int32 × Int32) => V p l e rmX1_coming s m args below meth c D A 7 Q (LW D b0 b1 b2 b3 b4 b5 n n4 cols rows kd thr bt tm rea gr vl so dy cg) cb sb 5 [(0, .ref b0), (1, .int v1), (2, .int v2), (3, .int x.1), (4, .int x.2)] []) (fun (o : (Int32)) => V p l e rmX1_coming s m args below meth c D A 7 Q (LW D b0 b1 b2 b3 b4 b5 n n4 cols rows kd thr bt tm rea gr vl so dy cg) cb sb 132 [(3, .int o)] []) ?_
  rintro ⟨v3, v4⟩ r hF hI hO
  replace hF : L_coming_5 v1 v2 cols rows thr kd n n4 vl gr dy cg v3 v4 = some r := hF
  show V p l e rmX1_coming s m args below meth c D A 7 Q (LW D b0 b1 b2 b3 b4 b5 n n4 cols rows kd thr bt tm rea gr vl so dy cg) cb sb 5 [(0, .ref b0), (1, .int v1), (2, .int v2), (3, .int v3), (4, .int v4)] []
  unfold L_coming_5 at hF
  refine v_iload 7 X 4 dX1_coming_5 rfl rfl ?_
  refine v_aload_n 8 X 0 dX1_coming_7 rfl rfl rfl ?_
  refine v_get 11 X in_X1 0 2 rfl rfl (by decide) q141 rfl rfl dX1_coming_8 rfl ?_
  obtain ⟨z11, hz11, hF⟩ := ob hF
  refine v_dir 14 X hAm hz11 q1579 dX1_coming_11 rfl ?_
  refine v_icmp_ge 17 132 X dX1_coming_14 rfl (by decide) (fun h14 => ?_) (fun h14 => ?_)
  · replace hF := ifp h14 hF
    obtain rfl := Option.some.inj hF
    exact v_lv [3] rfl ((hO _ rfl))
  · replace hF := ifn h14 hF
    refine v_aload_n 18 X 0 dX1_coming_17 rfl rfl rfl ?_
    refine v_iload_n 19 X 1 dX1_coming_18 rfl rfl rfl ?_
    refine v_iload 21 X 4 dX1_coming_19 rfl rfl ?_
    obtain ⟨z21, hz21, hF⟩ := ob hF
    refine v_mVi 24 X 2 [.int v1, .int v4] (w_X1_first v1 v4 _ hz21) q943 q945 qs19 q85 q946 hdX1_first 0 rfl rfl (pass_amb hAm) ⟨rfl, rfl⟩ ⟨Nat.le_of_ble_eq_true rfl, Nat.le_of_ble_eq_true rfl⟩ ⟨(by exact hcb), (by exact hsb)⟩ rfl rfl (Nat.le_of_ble_eq_true rfl) dX1_coming_21 rfl ?_
    refine v_istore 26 [(5, .int z21), (0, .ref b0), (1, .int v1), (2, .int v2), (3, .int v3), (4, .int v4)] X dX1_coming_24 rfl (by decide) rfl ?_
    refine v_iload 28 X 0 dX1_coming_26 rfl rfl ?_
    refine v_bipush (v := (-9)) 30 X dX1_coming_28 rfl kb_m9 ?_
    refine v_icmp_eq 33 72 X dX1_coming_30 rfl (by decide) (fun h30 => ?_) (fun h30 => ?_)
    · replace hF := ifp h30 hF
      exact v_lv [1, 2, 3, 4, 5] rfl (w_X1_coming_5_j72 X hAm v1 v2 v3 v4 hcb hsb hI hO hF)
    · replace hF := ifn h30 hF
      refine v_aload_n 34 X 1 dX1_coming_33 rfl rfl rfl ?_
      refine v_iload 36 X 0 dX1_coming_34 rfl rfl ?_
      obtain ⟨z36, hz36, hF⟩ := ob hF
      refine v_mVi 39 X 1 [.int z21] (w_X1_isMoving z21 _ hz36) q935 q937 qs17 q85 q938 hdX1_isMoving 0 rfl rfl (pass_amb hAm) ⟨rfl, rfl⟩ ⟨Nat.le_of_ble_eq_true rfl, Nat.le_of_ble_eq_true rfl⟩ ⟨(by exact hcb), (by exact hsb)⟩ rfl rfl (Nat.le_of_ble_eq_true rfl) dX1_coming_36 rfl ?_
      refine v_if_eq 42 72 X dX1_coming_39 rfl (by decide) (fun h39 => ?_) (fun h39 => ?_)
      · replace hF := ifp h39 hF
        exact v_lv [1, 2, 3, 4, 5] rfl (w_X1_coming_5_j72 X hAm v1 v2 v3 v4 hcb hsb hI hO hF)
      · replace hF := ifn h39 hF
        refine v_aload_n 43 X 1 dX1_coming_42 rfl rfl rfl ?_
        refine v_get 46 X in_X1 0 8 rfl rfl (by decide) q155 rfl rfl dX1_coming_43 rfl ?_
        refine v_iconst (v := 4) 47 X dX1_coming_46 rfl ki_4 ?_
        refine v_iload 49 X 0 dX1_coming_47 rfl rfl ?_
        refine v_imul 50 X dX1_coming_49 rfl ?_
        refine v_iload 52 X 5 dX1_coming_50 rfl rfl ?_
        refine v_iadd 53 X dX1_coming_52 rfl ?_
        obtain ⟨z53, hz53, hF⟩ := ob hF
        refine v_aldV 54 X 2 hz53 rfl dX1_coming_53 rfl ?_
        refine v_iconst (v := 1) 55 X dX1_coming_54 rfl ki_1 ?_
        refine v_iload_n 56 X 3 dX1_coming_55 rfl rfl rfl ?_
        obtain ⟨z56, hz56, hF⟩ := ob hF
        refine v_lets 59 X hAm hz56 q947 ⟨Nat.le_of_ble_eq_true rfl, Nat.le_of_ble_eq_true rfl⟩ ⟨(by exact hcb), (by exact hsb)⟩ rfl (Nat.le_of_ble_eq_true rfl) dX1_coming_56 rfl ?_
        refine v_if_eq 62 72 X dX1_coming_59 rfl (by decide) (fun h59 => ?_) (fun h59 => ?_)
        · replace hF := ifp h59 hF
          exact v_lv [1, 2, 3, 4, 5] rfl (w_X1_coming_5_j72 X hAm v1 v2 v3 v4 hcb hsb hI hO hF)
        · replace hF := ifn h59 hF
          refine v_iload_n 63 X 4 dX1_coming_62 rfl rfl rfl ?_
          refine v_aload_n 64 X 1 dX1_coming_63 rfl rfl rfl ?_
          refine v_get 67 X in_X1 0 10 rfl rfl (by decide) q161 rfl rfl dX1_coming_64 rfl ?_
          refine v_iload 69 X 0 dX1_coming_67 rfl rfl ?_
          obtain ⟨z69, hz69, hF⟩ := ob hF
          refine v_iald 70 X 4 hz69 rfl dX1_coming_69 rfl ?_
          refine v_ior 71 X dX1_coming_70 rfl ?_
          refine v_istore_n 72 [(3, .int (v3 ||| z69)), (5, .int z21), (0, .ref b0), (1, .int v1), (2, .int v2), (4, .int v4)] X dX1_coming_71 rfl rfl (by decide) rfl ?_
          exact v_lv [2, 3, 4, 0, 5] rfl (w_X1_coming_5_j72 X hAm v1 v2 (v3 ||| z69) v4 hcb hsb hI hO hF)
theorem w_X1_coming (v1 : Int32) (v2 : Int32) (r : Int32) (hF : L_coming cols rows thr kd n n4 vl gr dy cg v1 v2 = some r) : CTi l yX1_coming cX1_coming 7 (Option.some Jvm.ClassFile.FieldType.int) rmX1_coming D (LW D b0 b1 b2 b3 b4 b5 n n4 cols rows kd thr bt tm rea gr vl so dy cg) [.ref b0, .int v1, .int v2] (AMB D) (fun r1 u => r1 = r ∧ u = (LW D b0 b1 b2 b3 b4 b5 n n4 cols rows kd thr bt tm rea gr vl so dy cg)) := by
  refine m_i (by decide) (Nat.le_of_ble_eq_true rfl) ?_
  intro p e s m args below meth c A B
  obtain ⟨X, hr, hAm, -, hnm, hnmd⟩ := B
  replace X : CX p s m args meth c D A cX1_coming 7 "DyeLattice$Lattice" := X
  refine v_lv (lv' := [(0, .ref b0), (1, .int v1), (2, .int v2)]) [0, 1, 2] rfl ?_
  unfold L_coming at hF
  refine v_iconst (v := 0) 1 X dX1_coming_0 rfl ki_0 ?_
  refine v_istore_n 2 [(3, .int 0), (0, .ref b0), (1, .int v1), (2, .int v2)] X dX1_coming_1 rfl rfl (by decide) rfl ?_
  refine v_iconst (v := 0) 3 X dX1_coming_2 rfl ki_0 ?_
  refine v_istore 5 [(4, .int 0), (3, .int 0), (0, .ref b0), (1, .int v1), (2, .int v2)] X dX1_coming_3 rfl (by decide) rfl ?_
  obtain ⟨z5, hz5, hF⟩ := ob hF
  refine v_lv [2, 3, 4, 1, 0] rfl (w_X1_coming_5 X hAm (Nat.le_of_ble_eq_true rfl) (Nat.le_of_ble_eq_true rfl) v1 v2 _ (0, 0) _ hz5 ?_)
  refine v_iload_n 133 X 0 dX1_coming_132 rfl rfl rfl ?_
  obtain rfl := Option.some.inj hF
  exact v_iret X hr ⟨rfl, rfl⟩ (Nat.le_of_ble_eq_true rfl) (Nat.le_of_ble_eq_true rfl) dX1_coming_133
theorem w_X1_reacts_14 (X : CX p s m args meth c D A cX1_reacts 5 "DyeLattice$Lattice") (hAm : AMB D A s) {cb sb : Nat} (hcb : cb ≤ rmX1_reacts.cells) (hsb : sb ≤ rmX1_reacts.slots) (v1 : Int32) (v3 : Int32) : ∀ (fu : Nat) (x : Int32 × Int32) (o : (Int32)), loopN (fun x => L_reacts_14 v1 v3 rea x.1 x.2) fu x = some o → (V p l e rmX1_reacts s m args below meth c D A 5 Q (LW D b0 b1 b2 b3 b4 b5 n n4 cols rows kd thr bt tm rea gr vl so dy cg) cb sb 60 [(0, .ref b0), (1, .int v1), (2, .int o), (3, .int v3)] []) → V p l e rmX1_reacts s m args below meth c D A 5 Q (LW D b0 b1 b2 b3 b4 b5 n n4 cols rows kd thr bt tm rea gr vl so dy cg) cb sb 14 [(0, .ref b0), (1, .int v1), (2, .int x.1), (3, .int v3), (4, .int x.2)] [] := by
  refine v_loop (fun (x : Int32 × Int32) => V p l e rmX1_reacts s m args below meth c D A 5 Q (LW D b0 b1 b2 b3 b4 b5 n n4 cols rows kd thr bt tm rea gr vl so dy cg) cb sb 14 [(0, .ref b0), (1, .int v1), (2, .int x.1), (3, .int v3), (4, .int x.2)] []) (fun (o : (Int32)) => V p l e rmX1_reacts s m args below meth c D A 5 Q (LW D b0 b1 b2 b3 b4 b5 n n4 cols rows kd thr bt tm rea gr vl so dy cg) cb sb 60 [(0, .ref b0), (1, .int v1), (2, .int o), (3, .int v3)] []) ?_
  rintro ⟨v2, v4⟩ r hF hI hO
  replace hF : L_reacts_14 v1 v3 rea v2 v4 = some r := hF
  show V p l e rmX1_reacts s m args below meth c D A 5 Q (LW D b0 b1 b2 b3 b4 b5 n n4 cols rows kd thr bt tm rea gr vl so dy cg) cb sb 14 [(0, .ref b0), (1, .int v1), (2, .int v2), (3, .int v3), (4, .int v4)] []
  unfold L_reacts_14 at hF
  refine v_iload 16 X 4 dX1_reacts_14 rfl rfl ?_
  refine v_iconst (v := 3) 17 X dX1_reacts_16 rfl ki_3 ?_
  refine v_icmp_ge 20 60 X dX1_reacts_17 rfl (by decide) (fun h17 => ?_) (fun h17 => ?_)
  · replace hF := ifp h17 hF
    obtain rfl := Option.some.inj hF
    exact v_lv [0, 1, 2, 3] rfl ((hO _ rfl))
  · replace hF := ifn h17 hF
    refine v_iload_n 21 X 2 dX1_reacts_20 rfl rfl rfl ?_
    refine v_iload_n 22 X 1 dX1_reacts_21 rfl rfl rfl ?_
    refine v_iload_n 23 X 3 dX1_reacts_22 rfl rfl rfl ?_
    refine v_ishr 24 X dX1_reacts_23 rfl ?_
    refine v_iload_n 25 X 1 dX1_reacts_24 rfl rfl rfl ?_
    refine v_iload 27 X 4 dX1_reacts_25 rfl rfl ?_
    refine v_ishr 28 X dX1_reacts_27 rfl ?_
    refine v_iand 29 X dX1_reacts_28 rfl ?_
    refine v_aload_n 30 X 0 dX1_reacts_29 rfl rfl rfl ?_
    refine v_get 33 X in_X1 0 6 rfl rfl (by decide) q150 rfl rfl dX1_reacts_30 rfl ?_
    refine v_iload_n 34 X 3 dX1_reacts_33 rfl rfl rfl ?_
    refine v_iload 36 X 4 dX1_reacts_34 rfl rfl ?_
    obtain ⟨z36, hz36, hF⟩ := ob hF
    refine v_nSi 39 X hAm 2 [.int v3, .int v4] (w_X0_pair (LW D b0 b1 b2 b3 b4 b5 n n4 cols rows kd thr bt tm rea gr vl so dy cg) v3 v4 _ hz36) q970 q481 q84 q482 hdX0_pair pass_no ⟨rfl, rfl⟩ ⟨Nat.le_of_ble_eq_true rfl, Nat.le_of_ble_eq_true rfl⟩ ⟨(by exact hcb), (by exact hsb)⟩ rfl rfl (Nat.le_of_ble_eq_true rfl) dX1_reacts_36 rfl ?_
    refine v_ishr 40 X dX1_reacts_39 rfl ?_
    refine v_iand 41 X dX1_reacts_40 rfl ?_
    refine v_iconst (v := 1) 42 X dX1_reacts_41 rfl ki_1 ?_
    refine v_iand 43 X dX1_reacts_42 rfl ?_
    refine v_iconst (v := 1) 44 X dX1_reacts_43 rfl ki_1 ?_
    refine v_icmp_ne 47 51 X dX1_reacts_44 rfl (by decide) (fun h44 => ?_) (fun h44 => ?_)
    · replace hF := ifn h44 hF
      refine v_iconst (v := 0) 52 X dX1_reacts_51 rfl ki_0 ?_
      refine v_ior 53 X dX1_reacts_52 rfl ?_
      refine v_istore_n 54 [(2, .int (v2 ||| 0)), (0, .ref b0), (1, .int v1), (3, .int v3), (4, .int v4)] X dX1_reacts_53 rfl rfl (by decide) rfl ?_
      refine v_iinc (v := (v4 + 1)) 57 [(4, .int (v4 + 1)), (2, .int (v2 ||| 0)), (0, .ref b0), (1, .int v1), (3, .int v3)] X 4 dX1_reacts_54 rfl rfl (by rfl) (by decide) rfl ?_
      refine v_goto 14 X dX1_reacts_57 (by decide) ?_
      obtain rfl := Option.some.inj hF
      exact v_lv [2, 3, 1, 4, 0] rfl (hI _ rfl)
    · replace hF := ifp h44 hF
      refine v_iconst (v := 1) 48 X dX1_reacts_47 rfl ki_1 ?_
      refine v_goto 52 X dX1_reacts_48 (by decide) ?_
      refine v_ior 53 X dX1_reacts_52 rfl ?_
      refine v_istore_n 54 [(2, .int (v2 ||| 1)), (0, .ref b0), (1, .int v1), (3, .int v3), (4, .int v4)] X dX1_reacts_53 rfl rfl (by decide) rfl ?_
      refine v_iinc (v := (v4 + 1)) 57 [(4, .int (v4 + 1)), (2, .int (v2 ||| 1)), (0, .ref b0), (1, .int v1), (3, .int v3)] X 4 dX1_reacts_54 rfl rfl (by rfl) (by decide) rfl ?_
      refine v_goto 14 X dX1_reacts_57 (by decide) ?_
      obtain rfl := Option.some.inj hF
      exact v_lv [2, 3, 1, 4, 0] rfl (hI _ rfl)
theorem w_X1_reacts_4 (X : CX p s m args meth c D A cX1_reacts 5 "DyeLattice$Lattice") (hAm : AMB D A s) {cb sb : Nat} (hcb : cb ≤ rmX1_reacts.cells) (hsb : sb ≤ rmX1_reacts.slots) (v1 : Int32) : ∀ (fu : Nat) (x : Int32 × Int32) (o : (Int32)), loopN (fun x => L_reacts_4 v1 rea x.1 x.2) fu x = some o → (V p l e rmX1_reacts s m args below meth c D A 5 Q (LW D b0 b1 b2 b3 b4 b5 n n4 cols rows kd thr bt tm rea gr vl so dy cg) cb sb 66 [(2, .int o)] []) → V p l e rmX1_reacts s m args below meth c D A 5 Q (LW D b0 b1 b2 b3 b4 b5 n n4 cols rows kd thr bt tm rea gr vl so dy cg) cb sb 4 [(0, .ref b0), (1, .int v1), (2, .int x.1), (3, .int x.2)] [] := by
  refine v_loop (fun (x : Int32 × Int32) => V p l e rmX1_reacts s m args below meth c D A 5 Q (LW D b0 b1 b2 b3 b4 b5 n n4 cols rows kd thr bt tm rea gr vl so dy cg) cb sb 4 [(0, .ref b0), (1, .int v1), (2, .int x.1), (3, .int x.2)] []) (fun (o : (Int32)) => V p l e rmX1_reacts s m args below meth c D A 5 Q (LW D b0 b1 b2 b3 b4 b5 n n4 cols rows kd thr bt tm rea gr vl so dy cg) cb sb 66 [(2, .int o)] []) ?_
  rintro ⟨v2, v3⟩ r hF hI hO
  replace hF : L_reacts_4 v1 rea v2 v3 = some r := hF
  show V p l e rmX1_reacts s m args below meth c D A 5 Q (LW D b0 b1 b2 b3 b4 b5 n n4 cols rows kd thr bt tm rea gr vl so dy cg) cb sb 4 [(0, .ref b0), (1, .int v1), (2, .int v2), (3, .int v3)] []
  unfold L_reacts_4 at hF
  refine v_iload_n 5 X 3 dX1_reacts_4 rfl rfl rfl ?_
  refine v_iconst (v := 3) 6 X dX1_reacts_5 rfl ki_3 ?_
  refine v_icmp_ge 9 66 X dX1_reacts_6 rfl (by decide) (fun h6 => ?_) (fun h6 => ?_)
  · replace hF := ifp h6 hF
    obtain rfl := Option.some.inj hF
    exact v_lv [2] rfl ((hO _ rfl))
  · replace hF := ifn h6 hF
    refine v_iload_n 10 X 3 dX1_reacts_9 rfl rfl rfl ?_
    refine v_iconst (v := 1) 11 X dX1_reacts_10 rfl ki_1 ?_
    refine v_iadd 12 X dX1_reacts_11 rfl ?_
    refine v_istore 14 [(4, .int (v3 + 1)), (0, .ref b0), (1, .int v1), (2, .int v2), (3, .int v3)] X dX1_reacts_12 rfl (by decide) rfl ?_
    obtain ⟨z14, hz14, hF⟩ := ob hF
    refine v_lv [1, 2, 3, 4, 0] rfl (w_X1_reacts_14 X hAm (by exact hcb) (by exact hsb) v1 v3 _ (v2, (v3 + 1)) _ hz14 ?_)
    refine v_iinc (v := (v3 + 1)) 63 [(3, .int (v3 + 1)), (0, .ref b0), (1, .int v1), (2, .int z14)] X 3 dX1_reacts_60 rfl rfl (by rfl) (by decide) rfl ?_
    refine v_goto 4 X dX1_reacts_63 (by decide) ?_
    obtain rfl := Option.some.inj hF
    exact v_lv [1, 2, 3, 0] rfl (hI _ rfl)
theorem w_X1_reacts (v1 : Int32) (r : Int32) (hF : L_reacts rea v1 = some r) : CTi l yX1_reacts cX1_reacts 5 (Option.some Jvm.ClassFile.FieldType.boolean) rmX1_reacts D (LW D b0 b1 b2 b3 b4 b5 n n4 cols rows kd thr bt tm rea gr vl so dy cg) [.ref b0, .int v1] (AMB D) (fun r1 u => r1 = r ∧ u = (LW D b0 b1 b2 b3 b4 b5 n n4 cols rows kd thr bt tm rea gr vl so dy cg)) := by
  refine m_i (by decide) (Nat.le_of_ble_eq_true rfl) ?_
  intro p e s m args below meth c A B
  obtain ⟨X, hr, hAm, -, hnm, hnmd⟩ := B
  replace X : CX p s m args meth c D A cX1_reacts 5 "DyeLattice$Lattice" := X
  refine v_lv (lv' := [(0, .ref b0), (1, .int v1)]) [0, 1] rfl ?_
  unfold L_reacts at hF
  refine v_iconst (v := 0) 1 X dX1_reacts_0 rfl ki_0 ?_
  refine v_istore_n 2 [(2, .int 0), (0, .ref b0), (1, .int v1)] X dX1_reacts_1 rfl rfl (by decide) rfl ?_
  refine v_iconst (v := 0) 3 X dX1_reacts_2 rfl ki_0 ?_
  refine v_istore_n 4 [(3, .int 0), (2, .int 0), (0, .ref b0), (1, .int v1)] X dX1_reacts_3 rfl rfl (by decide) rfl ?_
  obtain ⟨z4, hz4, hF⟩ := ob hF
  refine v_lv [2, 3, 1, 0] rfl (w_X1_reacts_4 X hAm (Nat.le_of_ble_eq_true rfl) (Nat.le_of_ble_eq_true rfl) v1 _ (0, 0) _ hz4 ?_)
  refine v_iload_n 67 X 0 dX1_reacts_66 rfl rfl rfl ?_
  obtain ⟨z67, hz67, hF⟩ := ob hF
  refine v_topi (zck_s hz67).1 ?_
  obtain rfl := Option.some.inj hF
  exact v_zret X hr (zck_s hz67).2.1 ⟨rfl, rfl⟩ (Nat.le_of_ble_eq_true rfl) (Nat.le_of_ble_eq_true rfl) dX1_reacts_67
theorem w_X1_lambda_mark_7 (v1 : Int32) (v2 : Int32) (r : Int32) (hF : L_lambda_mark_7 n gr v1 v2 = some r) : CTi l yX1_lambda_mark_7 cX1_lambda_mark_7 3 (Option.some Jvm.ClassFile.FieldType.boolean) rmX1_lambda_mark_7 D (LW D b0 b1 b2 b3 b4 b5 n n4 cols rows kd thr bt tm rea gr vl so dy cg) [.ref b0, .int v1, .int v2] (AMB D) (fun r1 u => r1 = r ∧ u = (LW D b0 b1 b2 b3 b4 b5 n n4 cols rows kd thr bt tm rea gr vl so dy cg)) := by
  refine m_i (by decide) (Nat.le_of_ble_eq_true rfl) ?_
  intro p e s m args below meth c A B
  obtain ⟨X, hr, hAm, -, hnm, hnmd⟩ := B
  replace X : CX p s m args meth c D A cX1_lambda_mark_7 3 "DyeLattice$Lattice" := X
  refine v_lv (lv' := [(0, .ref b0), (1, .int v1), (2, .int v2)]) [0, 1, 2] rfl ?_
  unfold L_lambda_mark_7 at hF
  refine v_aload_n 1 X 0 dX1_lambda_mark_7_0 rfl rfl rfl ?_
  refine v_get 4 X in_X1 0 7 rfl rfl (by decide) q152 rfl rfl dX1_lambda_mark_7_1 rfl ?_
  refine v_iload_n 5 X 2 dX1_lambda_mark_7_4 rfl rfl rfl ?_
  obtain ⟨z5, hz5, hF⟩ := ob hF
  refine v_iald 6 X 1 hz5 rfl dX1_lambda_mark_7_5 rfl ?_
  refine v_iload_n 7 X 1 dX1_lambda_mark_7_6 rfl rfl rfl ?_
  refine v_icmp_ge 10 14 X dX1_lambda_mark_7_7 rfl (by decide) (fun h7 => ?_) (fun h7 => ?_)
  · replace hF := ifp h7 hF
    refine v_iconst (v := 0) 15 X dX1_lambda_mark_7_14 rfl ki_0 ?_
    obtain rfl := Option.some.inj hF
    exact v_zret X hr rfl ⟨rfl, rfl⟩ (Nat.le_of_ble_eq_true rfl) (Nat.le_of_ble_eq_true rfl) dX1_lambda_mark_7_15
  · replace hF := ifn h7 hF
    refine v_iconst (v := 1) 11 X dX1_lambda_mark_7_10 rfl ki_1 ?_
    refine v_goto 15 X dX1_lambda_mark_7_11 (by decide) ?_
    obtain rfl := Option.some.inj hF
    exact v_zret X hr rfl ⟨rfl, rfl⟩ (Nat.le_of_ble_eq_true rfl) (Nat.le_of_ble_eq_true rfl) dX1_lambda_mark_7_15
theorem w_X1_lambda_reach_6 (v1 : Int32) (r : Int32) (hF : L_lambda_reach_6 thr n gr v1 = some r) : CTi l yX1_lambda_reach_6 cX1_lambda_reach_6 2 (Option.some Jvm.ClassFile.FieldType.boolean) rmX1_lambda_reach_6 D (LW D b0 b1 b2 b3 b4 b5 n n4 cols rows kd thr bt tm rea gr vl so dy cg) [.ref b0, .int v1] (AMB D) (fun r1 u => r1 = r ∧ u = (LW D b0 b1 b2 b3 b4 b5 n n4 cols rows kd thr bt tm rea gr vl so dy cg)) := by
  refine m_i (by decide) (Nat.le_of_ble_eq_true rfl) ?_
  intro p e s m args below meth c A B
  obtain ⟨X, hr, hAm, -, hnm, hnmd⟩ := B
  replace X : CX p s m args meth c D A cX1_lambda_reach_6 2 "DyeLattice$Lattice" := X
  refine v_lv (lv' := [(0, .ref b0), (1, .int v1)]) [0, 1] rfl ?_
  unfold L_lambda_reach_6 at hF
  refine v_aload_n 1 X 0 dX1_lambda_reach_6_0 rfl rfl rfl ?_
  refine v_iload_n 2 X 1 dX1_lambda_reach_6_1 rfl rfl rfl ?_
  obtain ⟨z2, hz2, hF⟩ := ob hF
  refine v_mVi 5 X 1 [.int v1] (w_X1_isOpen v1 _ hz2) q428 q429 q430 q85 q431 hdX1_isOpen 0 rfl rfl (pass_amb hAm) ⟨rfl, rfl⟩ ⟨Nat.le_of_ble_eq_true rfl, Nat.le_of_ble_eq_true rfl⟩ ⟨(Nat.le_of_ble_eq_true rfl), (Nat.le_of_ble_eq_true rfl)⟩ rfl rfl (Nat.le_of_ble_eq_true rfl) dX1_lambda_reach_6_2 rfl ?_
  obtain ⟨z5, hz5, hF⟩ := ob hF
  refine v_topi (zck_s hz5).1 ?_
  obtain rfl := Option.some.inj hF
  exact v_zret X hr (zck_s hz5).2.1 ⟨rfl, rfl⟩ (Nat.le_of_ble_eq_true rfl) (Nat.le_of_ble_eq_true rfl) dX1_lambda_reach_6_5
theorem w_X1_lambda_reach_5 (v1 : Int32) (v2 : Int32) (r : Int32) (hF : L_lambda_reach_5 n so v1 v2 = some r) : CTi l yX1_lambda_reach_5 cX1_lambda_reach_5 3 (Option.some Jvm.ClassFile.FieldType.boolean) rmX1_lambda_reach_5 D (LW D b0 b1 b2 b3 b4 b5 n n4 cols rows kd thr bt tm rea gr vl so dy cg) [.ref b0, .int v1, .int v2] (AMB D) (fun r1 u => r1 = r ∧ u = (LW D b0 b1 b2 b3 b4 b5 n n4 cols rows kd thr bt tm rea gr vl so dy cg)) := by
  refine m_i (by decide) (Nat.le_of_ble_eq_true rfl) ?_
  intro p e s m args below meth c A B
  obtain ⟨X, hr, hAm, -, hnm, hnmd⟩ := B
  replace X : CX p s m args meth c D A cX1_lambda_reach_5 3 "DyeLattice$Lattice" := X
  refine v_lv (lv' := [(0, .ref b0), (1, .int v1), (2, .int v2)]) [0, 1, 2] rfl ?_
  unfold L_lambda_reach_5 at hF
  refine v_aload_n 1 X 0 dX1_lambda_reach_5_0 rfl rfl rfl ?_
  refine v_get 4 X in_X1 0 9 rfl rfl (by decide) q158 rfl rfl dX1_lambda_reach_5_1 rfl ?_
  refine v_iload_n 5 X 2 dX1_lambda_reach_5_4 rfl rfl rfl ?_
  obtain ⟨z5, hz5, hF⟩ := ob hF
  refine v_iald 6 X 3 hz5 rfl dX1_lambda_reach_5_5 rfl ?_
  refine v_iload_n 7 X 1 dX1_lambda_reach_5_6 rfl rfl rfl ?_
  refine v_ishr 8 X dX1_lambda_reach_5_7 rfl ?_
  refine v_iconst (v := 1) 9 X dX1_lambda_reach_5_8 rfl ki_1 ?_
  refine v_iand 10 X dX1_lambda_reach_5_9 rfl ?_
  refine v_iconst (v := 1) 11 X dX1_lambda_reach_5_10 rfl ki_1 ?_
  refine v_icmp_ne 14 18 X dX1_lambda_reach_5_11 rfl (by decide) (fun h11 => ?_) (fun h11 => ?_)
  · replace hF := ifn h11 hF
    refine v_iconst (v := 0) 19 X dX1_lambda_reach_5_18 rfl ki_0 ?_
    obtain rfl := Option.some.inj hF
    exact v_zret X hr rfl ⟨rfl, rfl⟩ (Nat.le_of_ble_eq_true rfl) (Nat.le_of_ble_eq_true rfl) dX1_lambda_reach_5_19
  · replace hF := ifp h11 hF
    refine v_iconst (v := 1) 15 X dX1_lambda_reach_5_14 rfl ki_1 ?_
    refine v_goto 19 X dX1_lambda_reach_5_15 (by decide) ?_
    obtain rfl := Option.some.inj hF
    exact v_zret X hr rfl ⟨rfl, rfl⟩ (Nat.le_of_ble_eq_true rfl) (Nat.le_of_ble_eq_true rfl) dX1_lambda_reach_5_19
theorem w_X1_lambda_hasWay_4 (v1 : Int32) (v2 : Int32) (r : Int32) (hF : L_lambda_hasWay_4 n gr v1 v2 = some r) : CTi l yX1_lambda_hasWay_4 cX1_lambda_hasWay_4 3 (Option.some Jvm.ClassFile.FieldType.boolean) rmX1_lambda_hasWay_4 D (LW D b0 b1 b2 b3 b4 b5 n n4 cols rows kd thr bt tm rea gr vl so dy cg) [.ref b0, .int v1, .int v2] (AMB D) (fun r1 u => r1 = r ∧ u = (LW D b0 b1 b2 b3 b4 b5 n n4 cols rows kd thr bt tm rea gr vl so dy cg)) := by
  refine m_i (by decide) (Nat.le_of_ble_eq_true rfl) ?_
  intro p e s m args below meth c A B
  obtain ⟨X, hr, hAm, -, hnm, hnmd⟩ := B
  replace X : CX p s m args meth c D A cX1_lambda_hasWay_4 3 "DyeLattice$Lattice" := X
  refine v_lv (lv' := [(0, .ref b0), (1, .int v1), (2, .int v2)]) [0, 1, 2] rfl ?_
  unfold L_lambda_hasWay_4 at hF
  refine v_aload_n 1 X 0 dX1_lambda_hasWay_4_0 rfl rfl rfl ?_
  refine v_get 4 X in_X1 0 7 rfl rfl (by decide) q152 rfl rfl dX1_lambda_hasWay_4_1 rfl ?_
  refine v_iload_n 5 X 2 dX1_lambda_hasWay_4_4 rfl rfl rfl ?_
  obtain ⟨z5, hz5, hF⟩ := ob hF
  refine v_iald 6 X 1 hz5 rfl dX1_lambda_hasWay_4_5 rfl ?_
  refine v_iload_n 7 X 1 dX1_lambda_hasWay_4_6 rfl rfl rfl ?_
  refine v_icmp_ge 10 14 X dX1_lambda_hasWay_4_7 rfl (by decide) (fun h7 => ?_) (fun h7 => ?_)
  · replace hF := ifp h7 hF
    refine v_iconst (v := 0) 15 X dX1_lambda_hasWay_4_14 rfl ki_0 ?_
    obtain rfl := Option.some.inj hF
    exact v_zret X hr rfl ⟨rfl, rfl⟩ (Nat.le_of_ble_eq_true rfl) (Nat.le_of_ble_eq_true rfl) dX1_lambda_hasWay_4_15
  · replace hF := ifn h7 hF
    refine v_iconst (v := 1) 11 X dX1_lambda_hasWay_4_10 rfl ki_1 ?_
    refine v_goto 15 X dX1_lambda_hasWay_4_11 (by decide) ?_
    obtain rfl := Option.some.inj hF
    exact v_zret X hr rfl ⟨rfl, rfl⟩ (Nat.le_of_ble_eq_true rfl) (Nat.le_of_ble_eq_true rfl) dX1_lambda_hasWay_4_15
theorem w_X1_lambda_spans_2 (v1 : Int32) (v2 : Int32) (v3 : Int32) (r : Int32) (hF : L_lambda_spans_2 n gr v1 v2 v3 = some r) : CTi l yX1_lambda_spans_2 cX1_lambda_spans_2 4 (Option.some Jvm.ClassFile.FieldType.boolean) rmX1_lambda_spans_2 D (LW D b0 b1 b2 b3 b4 b5 n n4 cols rows kd thr bt tm rea gr vl so dy cg) [.ref b0, .int v1, .int v2, .int v3] (AMB D) (fun r1 u => r1 = r ∧ u = (LW D b0 b1 b2 b3 b4 b5 n n4 cols rows kd thr bt tm rea gr vl so dy cg)) := by
  refine m_i (by decide) (Nat.le_of_ble_eq_true rfl) ?_
  intro p e s m args below meth c A B
  obtain ⟨X, hr, hAm, -, hnm, hnmd⟩ := B
  replace X : CX p s m args meth c D A cX1_lambda_spans_2 4 "DyeLattice$Lattice" := X
  refine v_lv (lv' := [(0, .ref b0), (1, .int v1), (2, .int v2), (3, .int v3)]) [0, 1, 2, 3] rfl ?_
  unfold L_lambda_spans_2 at hF
  refine v_aload_n 1 X 0 dX1_lambda_spans_2_0 rfl rfl rfl ?_
  refine v_get 4 X in_X1 0 7 rfl rfl (by decide) q152 rfl rfl dX1_lambda_spans_2_1 rfl ?_
  refine v_iload_n 5 X 3 dX1_lambda_spans_2_4 rfl rfl rfl ?_
  obtain ⟨z5, hz5, hF⟩ := ob hF
  refine v_iald 6 X 1 hz5 rfl dX1_lambda_spans_2_5 rfl ?_
  refine v_iload_n 7 X 1 dX1_lambda_spans_2_6 rfl rfl rfl ?_
  refine v_icmp_ge 10 19 X dX1_lambda_spans_2_7 rfl (by decide) (fun h7 => ?_) (fun h7 => ?_)
  · replace hF := ifp h7 hF
    refine v_iconst (v := 0) 20 X dX1_lambda_spans_2_19 rfl ki_0 ?_
    obtain rfl := Option.some.inj hF
    exact v_zret X hr rfl ⟨rfl, rfl⟩ (Nat.le_of_ble_eq_true rfl) (Nat.le_of_ble_eq_true rfl) dX1_lambda_spans_2_20
  · replace hF := ifn h7 hF
    refine v_iload_n 11 X 3 dX1_lambda_spans_2_10 rfl rfl rfl ?_
    refine v_iload_n 12 X 2 dX1_lambda_spans_2_11 rfl rfl rfl ?_
    refine v_icmp_eq 15 19 X dX1_lambda_spans_2_12 rfl (by decide) (fun h12 => ?_) (fun h12 => ?_)
    · replace hF := ifp h12 hF
      refine v_iconst (v := 0) 20 X dX1_lambda_spans_2_19 rfl ki_0 ?_
      obtain rfl := Option.some.inj hF
      exact v_zret X hr rfl ⟨rfl, rfl⟩ (Nat.le_of_ble_eq_true rfl) (Nat.le_of_ble_eq_true rfl) dX1_lambda_spans_2_20
    · replace hF := ifn h12 hF
      refine v_iconst (v := 1) 16 X dX1_lambda_spans_2_15 rfl ki_1 ?_
      refine v_goto 20 X dX1_lambda_spans_2_16 (by decide) ?_
      obtain rfl := Option.some.inj hF
      exact v_zret X hr rfl ⟨rfl, rfl⟩ (Nat.le_of_ble_eq_true rfl) (Nat.le_of_ble_eq_true rfl) dX1_lambda_spans_2_20
theorem w_X1_lambda_spans_1 (v1 : Int32) (r : Int32) (hF : L_lambda_spans_1 cols v1 = some r) : CTi l yX1_lambda_spans_1 cX1_lambda_spans_1 2 (Option.some Jvm.ClassFile.FieldType.boolean) rmX1_lambda_spans_1 D (LW D b0 b1 b2 b3 b4 b5 n n4 cols rows kd thr bt tm rea gr vl so dy cg) [.ref b0, .int v1] (AMB D) (fun r1 u => r1 = r ∧ u = (LW D b0 b1 b2 b3 b4 b5 n n4 cols rows kd thr bt tm rea gr vl so dy cg)) := by
  refine m_i (by decide) (Nat.le_of_ble_eq_true rfl) ?_
  intro p e s m args below meth c A B
  obtain ⟨X, hr, hAm, -, hnm, hnmd⟩ := B
  replace X : CX p s m args meth c D A cX1_lambda_spans_1 2 "DyeLattice$Lattice" := X
  refine v_lv (lv' := [(0, .ref b0), (1, .int v1)]) [0, 1] rfl ?_
  unfold L_lambda_spans_1 at hF
  refine v_iload_n 1 X 1 dX1_lambda_spans_1_0 rfl rfl rfl ?_
  refine v_aload_n 2 X 0 dX1_lambda_spans_1_1 rfl rfl rfl ?_
  refine v_get 5 X in_X1 0 0 rfl rfl (by decide) q135 rfl rfl dX1_lambda_spans_1_2 rfl ?_
  obtain ⟨z5, hz5, hF⟩ := ob hF
  refine v_irem 6 X hz5 dX1_lambda_spans_1_5 rfl ?_
  refine v_if_ne 9 13 X dX1_lambda_spans_1_6 rfl (by decide) (fun h6 => ?_) (fun h6 => ?_)
  · replace hF := ifn h6 hF
    refine v_iconst (v := 0) 14 X dX1_lambda_spans_1_13 rfl ki_0 ?_
    obtain rfl := Option.some.inj hF
    exact v_zret X hr rfl ⟨rfl, rfl⟩ (Nat.le_of_ble_eq_true rfl) (Nat.le_of_ble_eq_true rfl) dX1_lambda_spans_1_14
  · replace hF := ifp h6 hF
    refine v_iconst (v := 1) 10 X dX1_lambda_spans_1_9 rfl ki_1 ?_
    refine v_goto 14 X dX1_lambda_spans_1_10 (by decide) ?_
    obtain rfl := Option.some.inj hF
    exact v_zret X hr rfl ⟨rfl, rfl⟩ (Nat.le_of_ble_eq_true rfl) (Nat.le_of_ble_eq_true rfl) dX1_lambda_spans_1_14
end
