set_option maxRecDepth 100000
set_option maxHeartbeats 4000000
section
variable {p : Program} {l : Launch} {e : Env} {s : State} {m : MethodId} {args : Array Value} {below : List Frame} {meth : Method} {c : Code} {D : va_G} {A : Nat → Prop} {Q : State → Prop} {ws : va_W} {t1 t2 bm bc : Nat} {k0 k1 k2 : Int32} {mk clu : Nat → Int32} {b0 b1 b2 b3 b4 b5 n n4 kd : Nat} {cols rows thr bt tm rea : Int32} {gr so dy cg : Nat → Int32} {vl : Nat → Nat}
theorem w_X1_lambda_spanningThreshold_9 (v1 : Int32) (r : Int32) (hF : L_lambda_spanningThreshold_9 cols rows kd n n4 vl gr v1 = some r) : CTi l yX1_lambda_spanningThreshold_9 cX1_lambda_spanningThreshold_9 2 (Option.some Jvm.ClassFile.FieldType.boolean) rmX1_lambda_spanningThreshold_9 D (LW D b0 b1 b2 b3 b4 b5 n n4 cols rows kd thr bt tm rea gr vl so dy cg) [.ref b0, .int v1] (AMB D) (fun r1 u => r1 = r ∧ u = (LW D b0 b1 b2 b3 b4 b5 n n4 cols rows kd thr bt tm rea gr vl so dy cg)) := by
  refine m_i (by decide) (Nat.le_of_ble_eq_true rfl) ?_
  intro p e s m args below meth c A B
  obtain ⟨X, hr, hAm, -, hnm, hnmd⟩ := B
  replace X : CX p s m args meth c D A cX1_lambda_spanningThreshold_9 2 "DyeLattice$Lattice" := X
  refine v_lv (lv' := [(0, .ref b0), (1, .int v1)]) [0, 1] rfl ?_
  unfold L_lambda_spanningThreshold_9 at hF
  refine v_aload_n 1 X 0 dX1_lambda_spanningThreshold_9_0 rfl rfl rfl ?_
  refine v_iload_n 2 X 1 dX1_lambda_spanningThreshold_9_1 rfl rfl rfl ?_
  refine v_bipush (v := (-9)) 4 X dX1_lambda_spanningThreshold_9_2 rfl kb_m9 ?_
  obtain ⟨z4, hz4, hF⟩ := ob hF
  refine vc_Vi (wr := ([] : va_W)) 7 4 164 X 2 [.int v1, .int (-9)] [0, 1, 2, 3, 4, 5] [] (LW D b0 b1 b2 b3 b4 b5 n n4 cols rows kd thr bt tm rea gr vl so dy cg) rfl rfl (by decide) (by decide) (by decide) (w_X1_spans v1 (-9) _ hz4) q1120 q1100 q1101 q85 q1102 hdX1_spans 0 rfl rfl (pass_amb hAm) ⟨Nat.le_of_ble_eq_true rfl, Nat.le_of_ble_eq_true rfl⟩ ⟨(Nat.le_of_ble_eq_true rfl), (Nat.le_of_ble_eq_true rfl)⟩ rfl rfl (Nat.le_of_ble_eq_true rfl) dX1_lambda_spanningThreshold_9_4 rfl rfl rfl (fun r4 u4 e4 => ?_)
  obtain ⟨e41, rfl⟩ := e4
  have e42 := e41.symm
  subst e42
  refine v_ws (ws' := (LW D b0 b1 b2 b3 b4 b5 n n4 cols rows kd thr bt tm rea gr vl so dy cg)) [0, 1, 2, 3, 4, 5] (by decide) rfl ?_
  obtain ⟨z7, hz7, hF⟩ := ob hF
  refine v_topi (zck_s hz7).1 ?_
  obtain rfl := Option.some.inj hF
  exact v_zret X hr (zck_s hz7).2.1 ⟨rfl, rfl⟩ (Nat.le_of_ble_eq_true rfl) (Nat.le_of_ble_eq_true rfl) dX1_lambda_spanningThreshold_9_7
theorem w_X1_smallest_a_19 (X : CX p s m args meth c D A cX1_smallest 5 "DyeLattice$Lattice") (hAm : AMB D A s) (hl0 : LamO (D.1 307) [.ref b0] t1 A s.heap) : ∀ (fu cb sb : Nat) (x : Int32 × Int32) (o : (Int32)), cb + fu * 4 ≤ rmX1_smallest_a.cells → sb + fu * 164 ≤ rmX1_smallest_a.slots → loopN (fun x => L_smallest_19 (fun x => L_lambda_spanningThreshold_9 cols rows kd n n4 vl gr x) x.1 x.2) fu x = some o → (V p l e rmX1_smallest_a s m args below meth c D A 5 Q (LW D b0 b1 b2 b3 b4 b5 n n4 cols rows kd thr bt tm rea gr vl so dy cg) (cb + fu * 4) (sb + fu * 164) 66 [(1, .int o)] []) → V p l e rmX1_smallest_a s m args below meth c D A 5 Q (LW D b0 b1 b2 b3 b4 b5 n n4 cols rows kd thr bt tm rea gr vl so dy cg) cb sb 19 [(0, .ref t1), (1, .int x.1), (2, .int x.2)] [] := by
  refine v_loopA 4 164 rmX1_smallest_a.cells rmX1_smallest_a.slots (fun cb sb (x : Int32 × Int32) => V p l e rmX1_smallest_a s m args below meth c D A 5 Q (LW D b0 b1 b2 b3 b4 b5 n n4 cols rows kd thr bt tm rea gr vl so dy cg) cb sb 19 [(0, .ref t1), (1, .int x.1), (2, .int x.2)] []) (fun cb sb (o : (Int32)) => V p l e rmX1_smallest_a s m args below meth c D A 5 Q (LW D b0 b1 b2 b3 b4 b5 n n4 cols rows kd thr bt tm rea gr vl so dy cg) cb sb 66 [(1, .int o)] []) (fun c0 s0 c1 s1 o hc hs h => v_cs c1 s1 hc hs (h)) ?_
  rintro cb sb ⟨v1, v2⟩ r hcb hsb hF hI hO
  replace hF : L_smallest_19 (fun x => L_lambda_spanningThreshold_9 cols rows kd n n4 vl gr x) v1 v2 = some r := hF
  show V p l e rmX1_smallest_a s m args below meth c D A 5 Q (LW D b0 b1 b2 b3 b4 b5 n n4 cols rows kd thr bt tm rea gr vl so dy cg) cb sb 19 [(0, .ref t1), (1, .int v1), (2, .int v2)] []
  unfold L_smallest_19 at hF
  refine v_iload_n 20 X 1 dX1_smallest_19 rfl rfl rfl ?_
  refine v_iload_n 21 X 2 dX1_smallest_20 rfl rfl rfl ?_
  refine v_icmp_ge 24 66 X dX1_smallest_21 rfl (by decide) (fun h21 => ?_) (fun h21 => ?_)
  · replace hF := ifp h21 hF
    refine v_cs (cb + 4) (sb + 164) (by omega) (by omega) ?_
    obtain rfl := Option.some.inj hF
    exact v_lv [1] rfl ((hO _ rfl))
  · replace hF := ifn h21 hF
    refine v_iload_n 25 X 1 dX1_smallest_24 rfl rfl rfl ?_
    refine v_iload_n 26 X 2 dX1_smallest_25 rfl rfl rfl ?_
    refine v_iadd 27 X dX1_smallest_26 rfl ?_
    refine v_iconst (v := 2) 28 X dX1_smallest_27 rfl ki_2 ?_
    obtain ⟨z28, hz28, hF⟩ := ob hF
    refine v_idiv 29 X hz28 dX1_smallest_28 rfl ?_
    refine v_istore_n 30 [(3, .int z28), (0, .ref t1), (1, .int v1), (2, .int v2)] X dX1_smallest_29 rfl rfl (by decide) rfl ?_
    refine v_aload_n 31 X 1 dX1_smallest_30 rfl rfl rfl ?_
    refine v_iload_n 32 X 0 dX1_smallest_31 rfl rfl rfl ?_
    obtain ⟨z32, hz32, hF⟩ := ob hF
    obtain ⟨hz32, hnz32⟩ := tz_s hz32
    replace hz32 : L_lambda_spanningThreshold_9 cols rows kd n n4 vl gr z28 = some z32 := hz32
    refine v_icI (wr := ([] : va_W)) 37 X hAm 2 7 (by decide) (by decide) (σ := sg7) rfl rfl rfl (by decide +kernel) rfl rfl (by decide) sok7 fd7_5 hl0 (y := yX1_lambda_spanningThreshold_9) rfl rfl (by decide +kernel) [.int z28] [.int z28] [0, 1, 2, 3, 4, 5] [] (LW D b0 b1 b2 b3 b4 b5 n n4 cols rows kd thr bt tm rea gr vl so dy cg) rfl rfl (by decide) (by decide) (by decide) (w_X1_lambda_spanningThreshold_9 z28 _ hz32) (fbI1 fd7_0 fd7_1 fd7_4 fd7_5 fd7_8) hnz32 (ic_link dX1_smallest_32 q1125) q1118 qs32 0 rfl rfl q85 q1119 ⟨by decide, by decide⟩ hdX1_lambda_spanningThreshold_9.2.2.2 ifl2 ⟨Nat.le_of_ble_eq_true rfl, Nat.le_of_ble_eq_true rfl⟩ ⟨(Nat.le_trans (show cb + 4 ≤ cb + 4 from by omega) hcb), (Nat.le_trans (show sb + 164 ≤ sb + 164 from by omega) hsb)⟩ rfl (Nat.le_of_ble_eq_true rfl) dX1_smallest_32 rfl ?_
    refine v_ws (ws' := (LW D b0 b1 b2 b3 b4 b5 n n4 cols rows kd thr bt tm rea gr vl so dy cg)) [0, 1, 2, 3, 4, 5] (by decide) rfl ?_
    refine v_c0 (cb + 4) (sb + 164) (by show cb + 4 = cb + 4; omega) (by show sb + 164 = sb + 164; omega) ?_
    refine v_istore 39 [(4, .int z32), (3, .int z28), (0, .ref t1), (1, .int v1), (2, .int v2)] X dX1_smallest_37 rfl (by decide) rfl ?_
    refine v_iload 41 X 0 dX1_smallest_39 rfl rfl ?_
    refine v_if_eq 44 48 X dX1_smallest_41 rfl (by decide) (fun h41 => ?_) (fun h41 => ?_)
    · replace hF := ifp h41 hF
      refine v_iload_n 49 X 4 dX1_smallest_48 rfl rfl rfl ?_
      refine v_istore_n 50 [(2, .int v2), (4, .int z32), (3, .int z28), (0, .ref t1), (1, .int v1)] X dX1_smallest_49 rfl rfl (by decide) rfl ?_
      refine v_iload 52 X 1 dX1_smallest_50 rfl rfl ?_
      refine v_if_eq 55 59 X dX1_smallest_52 rfl (by decide) (fun h52 => ?_) (fun h52 => ?_)
      · replace hF := ifp h52 hF
        refine v_iload_n 60 X 2 dX1_smallest_59 rfl rfl rfl ?_
        refine v_iconst (v := 1) 61 X dX1_smallest_60 rfl ki_1 ?_
        refine v_iadd 62 X dX1_smallest_61 rfl ?_
        refine v_istore_n 63 [(1, .int (z28 + 1)), (2, .int v2), (4, .int z32), (3, .int z28), (0, .ref t1)] X dX1_smallest_62 rfl rfl (by decide) rfl ?_
        refine v_goto 19 X dX1_smallest_63 (by decide) ?_
        obtain rfl := Option.some.inj hF
        exact v_lv [4, 0, 1] rfl (hI _ rfl)
      · replace hF := ifn h52 hF
        refine v_iload_n 56 X 4 dX1_smallest_55 rfl rfl rfl ?_
        refine v_goto 62 X dX1_smallest_56 (by decide) ?_
        refine v_istore_n 63 [(1, .int v1), (2, .int v2), (4, .int z32), (3, .int z28), (0, .ref t1)] X dX1_smallest_62 rfl rfl (by decide) rfl ?_
        refine v_goto 19 X dX1_smallest_63 (by decide) ?_
        obtain rfl := Option.some.inj hF
        exact v_lv [4, 0, 1] rfl (hI _ rfl)
    · replace hF := ifn h41 hF
      refine v_iload_n 45 X 1 dX1_smallest_44 rfl rfl rfl ?_
      refine v_goto 49 X dX1_smallest_45 (by decide) ?_
      refine v_istore_n 50 [(2, .int z28), (4, .int z32), (3, .int z28), (0, .ref t1), (1, .int v1)] X dX1_smallest_49 rfl rfl (by decide) rfl ?_
      refine v_iload 52 X 1 dX1_smallest_50 rfl rfl ?_
      refine v_if_eq 55 59 X dX1_smallest_52 rfl (by decide) (fun h52 => ?_) (fun h52 => ?_)
      · replace hF := ifp h52 hF
        refine v_iload_n 60 X 2 dX1_smallest_59 rfl rfl rfl ?_
        refine v_iconst (v := 1) 61 X dX1_smallest_60 rfl ki_1 ?_
        refine v_iadd 62 X dX1_smallest_61 rfl ?_
        refine v_istore_n 63 [(1, .int (z28 + 1)), (2, .int z28), (4, .int z32), (3, .int z28), (0, .ref t1)] X dX1_smallest_62 rfl rfl (by decide) rfl ?_
        refine v_goto 19 X dX1_smallest_63 (by decide) ?_
        obtain rfl := Option.some.inj hF
        exact v_lv [4, 0, 1] rfl (hI _ rfl)
      · replace hF := ifn h52 hF
        refine v_iload_n 56 X 4 dX1_smallest_55 rfl rfl rfl ?_
        refine v_goto 62 X dX1_smallest_56 (by decide) ?_
        refine v_istore_n 63 [(1, .int v1), (2, .int z28), (4, .int z32), (3, .int z28), (0, .ref t1)] X dX1_smallest_62 rfl rfl (by decide) rfl ?_
        refine v_goto 19 X dX1_smallest_63 (by decide) ?_
        obtain rfl := Option.some.inj hF
        exact v_lv [4, 0, 1] rfl (hI _ rfl)
theorem w_X1_smallest_a (r : Int32) (hF : L_smallest (fun x => L_lambda_spanningThreshold_9 cols rows kd n n4 vl gr x) = some r) : CTi l yX1_smallest cX1_smallest 5 (Option.some Jvm.ClassFile.FieldType.int) rmX1_smallest_a D (LW D b0 b1 b2 b3 b4 b5 n n4 cols rows kd thr bt tm rea gr vl so dy cg) [.ref t1] (AML D [(t1, D.1 307, [.ref b0])]) (fun r1 u => r1 = r ∧ u = (LW D b0 b1 b2 b3 b4 b5 n n4 cols rows kd thr bt tm rea gr vl so dy cg)) := by
  refine m_i (by decide) (Nat.le_of_ble_eq_true rfl) ?_
  intro p e s m args below meth c A B
  obtain ⟨X, hr, hAm, -, hnm, hnmd⟩ := B
  obtain ⟨hAm, hL⟩ := hAm
  have hl0 : LamO (D.1 307) [.ref b0] t1 A s.heap := hL _ (List.Mem.head _)
  replace X : CX p s m args meth c D A cX1_smallest 5 "DyeLattice$Lattice" := X
  refine v_lv (lv' := [(0, .ref t1)]) [0] rfl ?_
  unfold L_smallest at hF
  refine v_aload_n 1 X 0 dX1_smallest_0 rfl rfl rfl ?_
  refine v_bipush (v := 100) 3 X dX1_smallest_1 rfl kb_100 ?_
  obtain ⟨z3, hz3, hF⟩ := ob hF
  obtain ⟨hz3, hnz3⟩ := tz_s hz3
  replace hz3 : L_lambda_spanningThreshold_9 cols rows kd n n4 vl gr 100 = some z3 := hz3
  refine v_icI (wr := ([] : va_W)) 8 X hAm 2 7 (by decide) (by decide) (σ := sg7) rfl rfl rfl (by decide +kernel) rfl rfl (by decide) sok7 fd7_5 hl0 (y := yX1_lambda_spanningThreshold_9) rfl rfl (by decide +kernel) [.int 100] [.int 100] [0, 1, 2, 3, 4, 5] [] (LW D b0 b1 b2 b3 b4 b5 n n4 cols rows kd thr bt tm rea gr vl so dy cg) rfl rfl (by decide) (by decide) (by decide) (w_X1_lambda_spanningThreshold_9 100 _ hz3) (fbI1 fd7_0 fd7_1 fd7_4 fd7_5 fd7_8) hnz3 (ic_link dX1_smallest_3 q1125) q1118 qs32 0 rfl rfl q85 q1119 ⟨by decide, by decide⟩ hdX1_lambda_spanningThreshold_9.2.2.2 ifl2 ⟨Nat.le_of_ble_eq_true rfl, Nat.le_of_ble_eq_true rfl⟩ ⟨(Nat.le_of_ble_eq_true rfl), (Nat.le_of_ble_eq_true rfl)⟩ rfl (Nat.le_of_ble_eq_true rfl) dX1_smallest_3 rfl ?_
  refine v_ws (ws' := (LW D b0 b1 b2 b3 b4 b5 n n4 cols rows kd thr bt tm rea gr vl so dy cg)) [0, 1, 2, 3, 4, 5] (by decide) rfl ?_
  refine v_c0 4 164 rfl rfl ?_
  refine v_if_ne 11 14 X dX1_smallest_8 rfl (by decide) (fun h8 => ?_) (fun h8 => ?_)
  · replace hF := ifn h8 hF
    refine v_iconst (v := 0) 15 X dX1_smallest_14 rfl ki_0 ?_
    refine v_istore_n 16 [(1, .int 0), (0, .ref t1)] X dX1_smallest_15 rfl rfl (by decide) rfl ?_
    refine v_bipush (v := 100) 18 X dX1_smallest_16 rfl kb_100 ?_
    refine v_istore_n 19 [(2, .int 100), (1, .int 0), (0, .ref t1)] X dX1_smallest_18 rfl rfl (by decide) rfl ?_
    obtain ⟨z19, hz19, hF⟩ := ob hF
    refine v_lv [2, 1, 0] rfl (w_X1_smallest_a_19 X hAm hl0 8 4 164 (0, 100) _ (Nat.le_of_ble_eq_true rfl) (Nat.le_of_ble_eq_true rfl) hz19 ?_)
    refine v_c0 36 1476 rfl rfl ?_
    refine v_iload_n 67 X 0 dX1_smallest_66 rfl rfl rfl ?_
    obtain rfl := Option.some.inj hF
    exact v_iret X hr ⟨rfl, rfl⟩ (Nat.le_of_ble_eq_true rfl) (Nat.le_of_ble_eq_true rfl) dX1_smallest_67
  · replace hF := ifp h8 hF
    refine v_bipush (v := (-9)) 13 X dX1_smallest_11 rfl kb_m9 ?_
    obtain rfl := Option.some.inj hF
    exact v_iret X hr ⟨rfl, rfl⟩ (Nat.le_of_ble_eq_true rfl) (Nat.le_of_ble_eq_true rfl) dX1_smallest_13
theorem w_X1_spanningThreshold (r : Int32) (hF : L_spanningThreshold cols rows kd n n4 vl gr = some r) : CTi l yX1_spanningThreshold cX1_spanningThreshold 1 (Option.some Jvm.ClassFile.FieldType.int) rmX1_spanningThreshold D (LW D b0 b1 b2 b3 b4 b5 n n4 cols rows kd thr bt tm rea gr vl so dy cg) [.ref b0] (AMB D) (fun r1 u => r1 = r ∧ u = (LW D b0 b1 b2 b3 b4 b5 n n4 cols rows kd thr bt tm rea gr vl so dy cg)) := by
  refine m_i (by decide) (Nat.le_of_ble_eq_true rfl) ?_
  intro p e s m args below meth c A B
  obtain ⟨X, hr, hAm, -, hnm, hnmd⟩ := B
  replace X : CX p s m args meth c D A cX1_spanningThreshold 1 "DyeLattice$Lattice" := X
  refine v_lv (lv' := [(0, .ref b0)]) [0] rfl ?_
  unfold L_spanningThreshold at hF
  refine v_aload_n 1 X 0 dX1_spanningThreshold_0 rfl rfl rfl ?_
  refine vl_of ?_
  refine vl_make 6 1 1 X hAm 7 (by decide) (by decide) (x := yX1_spanningThreshold) rfl hnmd rfl rfl sok7 rfl [.ref b0] rfl rfl (lam_fit rfl) rfl (Nat.le_of_ble_eq_true rfl) (Nat.le_of_ble_eq_true rfl) (Nat.le_of_ble_eq_true rfl) dX1_spanningThreshold_1 rfl rfl rfl (fun q1 => ?_)
  obtain ⟨z6, hz6, hF⟩ := ob hF
  refine vl_Si (wr := ([] : va_W)) 9 37 1477 X 1 [.ref q1] [0, 1, 2, 3, 4, 5] [] (LW D b0 b1 b2 b3 b4 b5 n n4 cols rows kd thr bt tm rea gr vl so dy cg) rfl rfl (by decide) (by decide) (by decide) (w_X1_smallest_a _ hz6) q1121 q1122 q85 q1123 hdX1_smallest (aml_blind hAm) (aml_xp hAm (List.forall_mem_cons.mpr ⟨Or.inl (List.Mem.head _), (fun _ h => by cases h)⟩)) ⟨Nat.le_of_ble_eq_true rfl, Nat.le_of_ble_eq_true rfl⟩ ⟨(Nat.le_of_ble_eq_true rfl), (Nat.le_of_ble_eq_true rfl)⟩ rfl rfl (Nat.le_of_ble_eq_true rfl) dX1_spanningThreshold_6 rfl rfl rfl (fun r6 u6 e6 => ?_)
  obtain ⟨e61, rfl⟩ := e6
  have e62 := e61.symm
  subst e62
  refine v_ws (ws' := (LW D b0 b1 b2 b3 b4 b5 n n4 cols rows kd thr bt tm rea gr vl so dy cg)) [0, 1, 2, 3, 4, 5] (by decide) rfl ?_
  obtain rfl := Option.some.inj hF
  exact v_iret X hr ⟨rfl, rfl⟩ (Nat.le_of_ble_eq_true rfl) (Nat.le_of_ble_eq_true rfl) dX1_spanningThreshold_9
end
