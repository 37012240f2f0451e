set_option maxRecDepth 100000
set_option maxHeartbeats 4000000
section
variable {p : Program} {l : Launch} {e : Env} {s : State} {m : MethodId} {args : Array Value} {below : List Frame} {meth : Method} {c : Code} {D : va_G} {A : Nat → Prop} {Q : State → Prop} {a : Nat → Nat} {now past kept text queue isMet clusterOf fresh : Nat → Int32} {saved length met clusters frm ende wrong : Int32}
theorem w_X4_cluster_38 (X : CX p s m args meth c D A cX4_cluster 4 "DyeLatticeModel") (v1 : Int32) (v2 : Int32) : ∀ (n : Nat) (x : Int32) (o : (Int32)), loopN (fun x => M_cluster_38 v1 v2 clusterOf x) n x = some o → (V p l e rmX4_cluster s m args below meth c D A 4 Q (MW D a now past kept text queue isMet clusterOf fresh saved length met clusters frm ende wrong) 0 0 54 [(0, .ref (a 0)), (1, .int v1), (2, .int v2), (3, .int o)] []) → V p l e rmX4_cluster s m args below meth c D A 4 Q (MW D a now past kept text queue isMet clusterOf fresh saved length met clusters frm ende wrong) 0 0 38 [(0, .ref (a 0)), (1, .int v1), (2, .int v2), (3, .int x)] [] := by
  refine v_loop (fun (x : Int32) => V p l e rmX4_cluster s m args below meth c D A 4 Q (MW D a now past kept text queue isMet clusterOf fresh saved length met clusters frm ende wrong) 0 0 38 [(0, .ref (a 0)), (1, .int v1), (2, .int v2), (3, .int x)] []) (fun (o : (Int32)) => V p l e rmX4_cluster s m args below meth c D A 4 Q (MW D a now past kept text queue isMet clusterOf fresh saved length met clusters frm ende wrong) 0 0 54 [(0, .ref (a 0)), (1, .int v1), (2, .int v2), (3, .int o)] []) ?_
  rintro v3 r hF hI hO
  replace hF : M_cluster_38 v1 v2 clusterOf v3 = some r := hF
  show V p l e rmX4_cluster s m args below meth c D A 4 Q (MW D a now past kept text queue isMet clusterOf fresh saved length met clusters frm ende wrong) 0 0 38 [(0, .ref (a 0)), (1, .int v1), (2, .int v2), (3, .int v3)] []
  unfold M_cluster_38 at hF
  refine v_aload_n 39 X 0 dX4_cluster_38 rfl rfl rfl ?_
  refine v_get 42 X in_X4 0 9 rfl rfl (by decide) q1181 rfl rfl dX4_cluster_39 rfl ?_
  refine v_iload_n 43 X 3 dX4_cluster_42 rfl rfl rfl ?_
  obtain ⟨z43, hz43, hF⟩ := ob hF
  refine v_iald 44 X 7 hz43 rfl dX4_cluster_43 rfl ?_
  refine v_iload_n 45 X 1 dX4_cluster_44 rfl rfl rfl ?_
  refine v_icmp_eq 48 54 X dX4_cluster_45 rfl (by decide) (fun h45 => ?_) (fun h45 => ?_)
  · replace hF := ifp h45 hF
    obtain rfl := Option.some.inj hF
    exact v_lv [0, 1, 2, 3] rfl (hO _ rfl)
  · replace hF := ifn h45 hF
    refine v_iinc (v := (v3 + 1)) 51 [(3, .int (v3 + 1)), (0, .ref (a 0)), (1, .int v1), (2, .int v2)] X 3 dX4_cluster_48 rfl rfl (by rfl) (by decide) rfl ?_
    refine v_goto 38 X dX4_cluster_51 (by decide) ?_
    obtain rfl := Option.some.inj hF
    exact v_lv [1, 2, 3, 0] rfl (hI _ rfl)
theorem w_X4_cluster (v1 : Int32) (v2 : Int32) (r : Int32 × (Nat → Int32) × (Nat → Int32) × (Nat → Int32) × Int32 × Int32) (hF : M_cluster now queue isMet clusterOf met clusters v1 v2 = some r) : CTi l yX4_cluster cX4_cluster 4 (Option.some Jvm.ClassFile.FieldType.int) rmX4_cluster D (MW D a now past kept text queue isMet clusterOf fresh saved length met clusters frm ende wrong) [.ref (a 0), .int v1, .int v2] NoX (fun r1 u => r1 = r.1 ∧ u = (MW D a now past kept text r.2.1 r.2.2.1 r.2.2.2.1 fresh saved length r.2.2.2.2.1 r.2.2.2.2.2 frm ende wrong)) := by
  refine m_i (by decide) (Nat.le_of_ble_eq_true rfl) ?_
  intro p e s m args below meth c A B
  obtain ⟨X, hr, -, -, -, -⟩ := B
  replace X : CX p s m args meth c D A cX4_cluster 4 "DyeLatticeModel" := X
  refine v_lv (lv' := [(0, .ref (a 0)), (1, .int v1), (2, .int v2)]) [0, 1, 2] rfl ?_
  unfold M_cluster at hF
  refine v_iload_n 1 X 1 dX4_cluster_0 rfl rfl rfl ?_
  refine v_if_lt 4 13 X dX4_cluster_1 rfl (by decide) (fun h1 => ?_) (fun h1 => ?_)
  · replace hF := ifp h1 hF
    refine v_iconst (v := (-1)) 14 X dX4_cluster_13 rfl ki_m1 ?_
    obtain rfl := Option.some.inj hF
    exact v_iret X hr ⟨rfl, rfl⟩ (Nat.zero_le _) (Nat.zero_le _) dX4_cluster_14
  · replace hF := ifn h1 hF
    refine v_iload_n 5 X 2 dX4_cluster_4 rfl rfl rfl ?_
    refine v_iconst (v := 0) 6 X dX4_cluster_5 rfl ki_0 ?_
    refine v_iconst (v := 5) 7 X dX4_cluster_6 rfl ki_5 ?_
    obtain ⟨z7, hz7, hF⟩ := ob hF
    refine v_mSi 10 X 3 [.int v2, .int 0, .int 5] (w_X4_within v2 0 5 _ hz7) q1226 q1227 q95 q1228 hdX4_within pass_no ⟨rfl, rfl⟩ ⟨Nat.le_of_ble_eq_true rfl, Nat.le_of_ble_eq_true rfl⟩ ⟨Nat.le_refl 0, Nat.le_refl 0⟩ rfl rfl (Nat.le_of_ble_eq_true rfl) dX4_cluster_7 rfl ?_
    refine v_if_ne 13 15 X dX4_cluster_10 rfl (by decide) (fun h10 => ?_) (fun h10 => ?_)
    · replace hF := ifn h10 hF
      refine v_aload_n 16 X 0 dX4_cluster_15 rfl rfl rfl ?_
      refine v_aload_n 17 X 0 dX4_cluster_16 rfl rfl rfl ?_
      refine v_get 20 X in_X4 0 0 rfl rfl (by decide) q1172 rfl rfl dX4_cluster_17 rfl ?_
      refine v_iconst (v := 3) 21 X dX4_cluster_20 rfl ki_3 ?_
      obtain ⟨z21, hz21, hF⟩ := ob hF
      refine v_iald 22 X 1 hz21 rfl dX4_cluster_21 rfl ?_
      obtain ⟨z22, hz22, hF⟩ := ob hF
      refine v_mVv 25 X 1 [.int z21] (w_X4_laysClusters z21 _ hz22) q1349 q1351 qs55 q95 q1352 hdX4_laysClusters 0 rfl rfl pass_no ⟨rfl, rfl⟩ ⟨Nat.le_of_ble_eq_true rfl, Nat.le_of_ble_eq_true rfl⟩ ⟨Nat.le_refl 0, Nat.le_refl 0⟩ rfl rfl (Nat.le_of_ble_eq_true rfl) dX4_cluster_22 rfl ?_
      refine v_iload_n 26 X 1 dX4_cluster_25 rfl rfl rfl ?_
      refine v_aload_n 27 X 0 dX4_cluster_26 rfl rfl rfl ?_
      refine v_get 30 X in_X4 0 10 rfl rfl (by decide) q1182 rfl rfl dX4_cluster_27 rfl ?_
      refine v_icmp_lt 33 36 X dX4_cluster_30 rfl (by decide) (fun h30 => ?_) (fun h30 => ?_)
      · replace hF := ifp h30 hF
        refine v_iconst (v := 0) 37 X dX4_cluster_36 rfl ki_0 ?_
        refine v_istore_n 38 [(3, .int 0), (0, .ref (a 0)), (1, .int v1), (2, .int v2)] X dX4_cluster_37 rfl rfl (by decide) rfl ?_
        obtain ⟨z38, hz38, hF⟩ := ob hF
        refine v_lv [1, 2, 3, 0] rfl (w_X4_cluster_38 X v1 v2 _ 0 _ hz38 ?_)
        refine v_iload_n 55 X 2 dX4_cluster_54 rfl rfl rfl ?_
        by_cases h55_0 : v2 = 0
        · replace hF := ifp h55_0 hF
          refine v_tableAt 84 X 0 h55_0 dX4_cluster_55 (by decide) (by decide) (by rfl) (by decide) ?_
          refine v_iload_n 85 X 3 dX4_cluster_84 rfl rfl rfl ?_
          obtain rfl := Option.some.inj hF
          exact v_iret X hr ⟨rfl, rfl⟩ (Nat.zero_le _) (Nat.zero_le _) dX4_cluster_85
        · replace hF := ifn h55_0 hF
          by_cases h55_1 : v2 = 1
          · replace hF := ifp h55_1 hF
            refine v_tableAt 86 X 1 h55_1 dX4_cluster_55 (by decide) (by decide) (by rfl) (by decide) ?_
            refine v_aload_n 87 X 0 dX4_cluster_86 rfl rfl rfl ?_
            refine v_iload_n 88 X 1 dX4_cluster_87 rfl rfl rfl ?_
            obtain ⟨z88, hz88, hF⟩ := ob hF
            refine v_mVi 91 X 1 [.int v1] (w_X4_sizeOf v1 _ hz88) q1409 q1411 qs64 q95 q1412 hdX4_sizeOf 0 rfl rfl pass_no ⟨rfl, rfl⟩ ⟨Nat.le_of_ble_eq_true rfl, Nat.le_of_ble_eq_true rfl⟩ ⟨Nat.le_refl 0, Nat.le_refl 0⟩ rfl rfl (Nat.le_of_ble_eq_true rfl) dX4_cluster_88 rfl ?_
            obtain rfl := Option.some.inj hF
            exact v_iret X hr ⟨rfl, rfl⟩ (Nat.zero_le _) (Nat.zero_le _) dX4_cluster_91
          · replace hF := ifn h55_1 hF
            by_cases h55_2 : v2 = 2
            · replace hF := ifp h55_2 hF
              refine v_tableAt 92 X 2 h55_2 dX4_cluster_55 (by decide) (by decide) (by rfl) (by decide) ?_
              refine v_aload_n 93 X 0 dX4_cluster_92 rfl rfl rfl ?_
              refine v_iload_n 94 X 1 dX4_cluster_93 rfl rfl rfl ?_
              obtain ⟨z94, hz94, hF⟩ := ob hF
              refine v_mVi 97 X 1 [.int v1] (w_X4_grainsOf v1 _ hz94) q1413 q1415 qs65 q95 q1416 hdX4_grainsOf 0 rfl rfl pass_no ⟨rfl, rfl⟩ ⟨Nat.le_of_ble_eq_true rfl, Nat.le_of_ble_eq_true rfl⟩ ⟨Nat.le_refl 0, Nat.le_refl 0⟩ rfl rfl (Nat.le_of_ble_eq_true rfl) dX4_cluster_94 rfl ?_
              obtain rfl := Option.some.inj hF
              exact v_iret X hr ⟨rfl, rfl⟩ (Nat.zero_le _) (Nat.zero_le _) dX4_cluster_97
            · replace hF := ifn h55_2 hF
              by_cases h55_3 : v2 = 3
              · replace hF := ifp h55_3 hF
                refine v_tableAt 98 X 3 h55_3 dX4_cluster_55 (by decide) (by decide) (by rfl) (by decide) ?_
                refine v_aload_n 99 X 0 dX4_cluster_98 rfl rfl rfl ?_
                refine v_iload_n 100 X 1 dX4_cluster_99 rfl rfl rfl ?_
                obtain ⟨z100, hz100, hF⟩ := ob hF
                refine v_mVi 103 X 1 [.int v1] (w_X4_sidesOf v1 _ hz100) q1417 q1419 qs66 q95 q1420 hdX4_sidesOf 0 rfl rfl pass_no ⟨rfl, rfl⟩ ⟨Nat.le_of_ble_eq_true rfl, Nat.le_of_ble_eq_true rfl⟩ ⟨Nat.le_refl 0, Nat.le_refl 0⟩ rfl rfl (Nat.le_of_ble_eq_true rfl) dX4_cluster_100 rfl ?_
                obtain rfl := Option.some.inj hF
                exact v_iret X hr ⟨rfl, rfl⟩ (Nat.zero_le _) (Nat.zero_le _) dX4_cluster_103
              · replace hF := ifn h55_3 hF
                refine v_tableNo 104 X dX4_cluster_55 ?_ (by decide) ?_
                · refine Classical.byContradiction (fun hh => ?_)
                  have hc : (v2).toInt = 0 ∨ (v2).toInt = 1 ∨ (v2).toInt = 2 ∨ (v2).toInt = 3 := by omega
                  rcases hc with hc | hc | hc | hc
                  · exact h55_0 (i32_of hc)
                  · exact h55_1 (i32_of hc)
                  · exact h55_2 (i32_of hc)
                  · exact h55_3 (i32_of hc)
                refine v_aload_n 105 X 0 dX4_cluster_104 rfl rfl rfl ?_
                refine v_iload_n 106 X 1 dX4_cluster_105 rfl rfl rfl ?_
                refine v_iload_n 107 X 2 dX4_cluster_106 rfl rfl rfl ?_
                refine v_iconst (v := 3) 108 X dX4_cluster_107 rfl ki_3 ?_
                refine v_isub 109 X dX4_cluster_108 rfl ?_
                obtain ⟨z109, hz109, hF⟩ := ob hF
                refine v_mVi 112 X 2 [.int v1, .int (v2 - 3)] (w_X4_bondsOf v1 (v2 - 3) _ hz109) q1421 q1423 qs67 q95 q1424 hdX4_bondsOf 0 rfl rfl pass_no ⟨rfl, rfl⟩ ⟨Nat.le_of_ble_eq_true rfl, Nat.le_of_ble_eq_true rfl⟩ ⟨Nat.le_refl 0, Nat.le_refl 0⟩ rfl rfl (Nat.le_of_ble_eq_true rfl) dX4_cluster_109 rfl ?_
                obtain rfl := Option.some.inj hF
                exact v_iret X hr ⟨rfl, rfl⟩ (Nat.zero_le _) (Nat.zero_le _) dX4_cluster_112
      · replace hF := ifn h30 hF
        refine v_bipush (v := (-9)) 35 X dX4_cluster_33 rfl kb_m9 ?_
        obtain rfl := Option.some.inj hF
        exact v_iret X hr ⟨rfl, rfl⟩ (Nat.zero_le _) (Nat.zero_le _) dX4_cluster_35
    · replace hF := ifp h10 hF
      refine v_iconst (v := (-1)) 14 X dX4_cluster_13 rfl ki_m1 ?_
      obtain rfl := Option.some.inj hF
      exact v_iret X hr ⟨rfl, rfl⟩ (Nat.zero_le _) (Nat.zero_le _) dX4_cluster_14
theorem w_X4_spans_6 (X : CX p s m args meth c D A cX4_spans 5 "DyeLatticeModel") (v1 : Int32) (v2 : Int32) : ∀ (n : Nat) (x : Int32 × (Nat → Int32) × (Nat → Int32) × Int32) (o : ((Nat → Int32) × (Nat → Int32) × Int32)), loopN (fun x => M_spans_6 v1 v2 now x.1 x.2.1 x.2.2.1 x.2.2.2) n x = some o → (V p l e rmX4_spans s m args below meth c D A 5 Q (MW D a now past kept text o.1 o.2.1 clusterOf fresh saved length o.2.2 clusters frm ende wrong) 0 0 36 [(0, .ref (a 0)), (1, .int v1), (2, .int v2)] []) → V p l e rmX4_spans s m args below meth c D A 5 Q (MW D a now past kept text x.2.1 x.2.2.1 clusterOf fresh saved length x.2.2.2 clusters frm ende wrong) 0 0 6 [(0, .ref (a 0)), (1, .int v1), (2, .int v2), (3, .int x.1)] [] := by
  refine v_loop (fun (x : Int32 × (Nat → Int32) × (Nat → Int32) × Int32) => V p l e rmX4_spans s m args below meth c D A 5 Q (MW D a now past kept text x.2.1 x.2.2.1 clusterOf fresh saved length x.2.2.2 clusters frm ende wrong) 0 0 6 [(0, .ref (a 0)), (1, .int v1), (2, .int v2), (3, .int x.1)] []) (fun (o : ((Nat → Int32) × (Nat → Int32) × Int32)) => V p l e rmX4_spans s m args below meth c D A 5 Q (MW D a now past kept text o.1 o.2.1 clusterOf fresh saved length o.2.2 clusters frm ende wrong) 0 0 36 [(0, .ref (a 0)), (1, .int v1), (2, .int v2)] []) ?_
  rintro ⟨v3, queue, isMet, met⟩ r hF hI hO
  replace hF : M_spans_6 v1 v2 now v3 queue isMet met = some r := hF
  show V p l e rmX4_spans s m args below meth c D A 5 Q (MW D a now past kept text queue isMet clusterOf fresh saved length met clusters frm ende wrong) 0 0 6 [(0, .ref (a 0)), (1, .int v1), (2, .int v2), (3, .int v3)] []
  unfold M_spans_6 at hF
  refine v_iload_n 7 X 3 dX4_spans_6 rfl rfl rfl ?_
  refine v_aload_n 8 X 0 dX4_spans_7 rfl rfl rfl ?_
  refine v_get 11 X in_X4 0 0 rfl rfl (by decide) q1172 rfl rfl dX4_spans_8 rfl ?_
  refine v_iconst (v := 1) 12 X dX4_spans_11 rfl ki_1 ?_
  obtain ⟨z12, hz12, hF⟩ := ob hF
  refine v_iald 13 X 1 hz12 rfl dX4_spans_12 rfl ?_
  refine v_icmp_ge 16 36 X dX4_spans_13 rfl (by decide) (fun h13 => ?_) (fun h13 => ?_)
  · replace hF := ifp h13 hF
    obtain rfl := Option.some.inj hF
    exact v_lv [0, 1, 2] rfl (hO _ rfl)
  · replace hF := ifn h13 hF
    refine v_aload_n 17 X 0 dX4_spans_16 rfl rfl rfl ?_
    refine v_iload_n 18 X 3 dX4_spans_17 rfl rfl rfl ?_
    refine v_aload_n 19 X 0 dX4_spans_18 rfl rfl rfl ?_
    refine v_get 22 X in_X4 0 0 rfl rfl (by decide) q1172 rfl rfl dX4_spans_19 rfl ?_
    refine v_iconst (v := 0) 23 X dX4_spans_22 rfl ki_0 ?_
    obtain ⟨z23, hz23, hF⟩ := ob hF
    refine v_iald 24 X 1 hz23 rfl dX4_spans_23 rfl ?_
    refine v_imul 25 X dX4_spans_24 rfl ?_
    refine v_iload_n 26 X 1 dX4_spans_25 rfl rfl rfl ?_
    refine v_iload_n 27 X 2 dX4_spans_26 rfl rfl rfl ?_
    obtain ⟨z27, hz27, hF⟩ := ob hF
    refine v_mVv 30 X 3 [.int (v3 * z23), .int v1, .int v2] (w_X4_meets (v3 * z23) v1 v2 _ hz27) q1357 q1359 qs57 q95 q1360 hdX4_meets 0 rfl rfl pass_no ⟨rfl, rfl⟩ ⟨Nat.le_of_ble_eq_true rfl, Nat.le_of_ble_eq_true rfl⟩ ⟨Nat.le_refl 0, Nat.le_refl 0⟩ rfl rfl (Nat.le_of_ble_eq_true rfl) dX4_spans_27 rfl ?_
    refine v_iinc (v := (v3 + 1)) 33 [(3, .int (v3 + 1)), (0, .ref (a 0)), (1, .int v1), (2, .int v2)] X 3 dX4_spans_30 rfl rfl (by rfl) (by decide) rfl ?_
    refine v_goto 6 X dX4_spans_33 (by decide) ?_
    obtain rfl := Option.some.inj hF
    exact v_lv [1, 2, 3, 0] rfl (hI _ rfl)
theorem w_X4_spans_48 (X : CX p s m args meth c D A cX4_spans 5 "DyeLatticeModel") : ∀ (n : Nat) (x : Int32 × Int32) (o : (Int32)), loopN (fun x => M_spans_48 now isMet x.1 x.2) n x = some o → (V p l e rmX4_spans s m args below meth c D A 5 Q (MW D a now past kept text queue isMet clusterOf fresh saved length met clusters frm ende wrong) 0 0 101 [(3, .int o)] []) → V p l e rmX4_spans s m args below meth c D A 5 Q (MW D a now past kept text queue isMet clusterOf fresh saved length met clusters frm ende wrong) 0 0 48 [(0, .ref (a 0)), (3, .int x.1), (4, .int x.2)] [] := by
  refine v_loop (fun (x : Int32 × Int32) => V p l e rmX4_spans s m args below meth c D A 5 Q (MW D a now past kept text queue isMet clusterOf fresh saved length met clusters frm ende wrong) 0 0 48 [(0, .ref (a 0)), (3, .int x.1), (4, .int x.2)] []) (fun (o : (Int32)) => V p l e rmX4_spans s m args below meth c D A 5 Q (MW D a now past kept text queue isMet clusterOf fresh saved length met clusters frm ende wrong) 0 0 101 [(3, .int o)] []) ?_
  rintro ⟨v3, v4⟩ r hF hI hO
  replace hF : M_spans_48 now isMet v3 v4 = some r := hF
  show V p l e rmX4_spans s m args below meth c D A 5 Q (MW D a now past kept text queue isMet clusterOf fresh saved length met clusters frm ende wrong) 0 0 48 [(0, .ref (a 0)), (3, .int v3), (4, .int v4)] []
  unfold M_spans_48 at hF
  refine v_iload 50 X 2 dX4_spans_48 rfl rfl ?_
  refine v_aload_n 51 X 0 dX4_spans_50 rfl rfl rfl ?_
  refine v_get 54 X in_X4 0 0 rfl rfl (by decide) q1172 rfl rfl dX4_spans_51 rfl ?_
  refine v_iconst (v := 1) 55 X dX4_spans_54 rfl ki_1 ?_
  obtain ⟨z55, hz55, hF⟩ := ob hF
  refine v_iald 56 X 1 hz55 rfl dX4_spans_55 rfl ?_
  refine v_icmp_ge 59 101 X dX4_spans_56 rfl (by decide) (fun h56 => ?_) (fun h56 => ?_)
  · replace hF := ifp h56 hF
    obtain rfl := Option.some.inj hF
    exact v_lv [1] rfl (hO _ rfl)
  · replace hF := ifn h56 hF
    refine v_iload_n 60 X 1 dX4_spans_59 rfl rfl rfl ?_
    refine v_if_ne 63 89 X dX4_spans_60 rfl (by decide) (fun h60 => ?_) (fun h60 => ?_)
    · replace hF := ifn h60 hF
      refine v_iconst (v := 1) 90 X dX4_spans_89 rfl ki_1 ?_
      refine v_goto 94 X dX4_spans_90 (by decide) ?_
      refine v_istore_n 95 [(3, .int 1), (0, .ref (a 0)), (4, .int v4)] X dX4_spans_94 rfl rfl (by decide) rfl ?_
      refine v_iinc (v := (v4 + 1)) 98 [(4, .int (v4 + 1)), (3, .int 1), (0, .ref (a 0))] X 2 dX4_spans_95 rfl rfl (by rfl) (by decide) rfl ?_
      refine v_goto 48 X dX4_spans_98 (by decide) ?_
      obtain rfl := Option.some.inj hF
      exact v_lv [2, 1, 0] rfl (hI _ rfl)
    · replace hF := ifp h60 hF
      refine v_aload_n 64 X 0 dX4_spans_63 rfl rfl rfl ?_
      refine v_get 67 X in_X4 0 7 rfl rfl (by decide) q1179 rfl rfl dX4_spans_64 rfl ?_
      refine v_iload 69 X 2 dX4_spans_67 rfl rfl ?_
      refine v_aload_n 70 X 0 dX4_spans_69 rfl rfl rfl ?_
      refine v_get 73 X in_X4 0 0 rfl rfl (by decide) q1172 rfl rfl dX4_spans_70 rfl ?_
      refine v_iconst (v := 0) 74 X dX4_spans_73 rfl ki_0 ?_
      obtain ⟨z74, hz74, hF⟩ := ob hF
      refine v_iald 75 X 1 hz74 rfl dX4_spans_74 rfl ?_
      refine v_imul 76 X dX4_spans_75 rfl ?_
      refine v_aload_n 77 X 0 dX4_spans_76 rfl rfl rfl ?_
      refine v_get 80 X in_X4 0 0 rfl rfl (by decide) q1172 rfl rfl dX4_spans_77 rfl ?_
      refine v_iconst (v := 0) 81 X dX4_spans_80 rfl ki_0 ?_
      obtain ⟨z81, hz81, hF⟩ := ob hF
      refine v_iald 82 X 1 hz81 rfl dX4_spans_81 rfl ?_
      refine v_iadd 83 X dX4_spans_82 rfl ?_
      refine v_iconst (v := 1) 84 X dX4_spans_83 rfl ki_1 ?_
      refine v_isub 85 X dX4_spans_84 rfl ?_
      obtain ⟨z85, hz85, hF⟩ := ob hF
      refine v_zald 86 X 6 hz85 rfl dX4_spans_85 rfl ?_
      refine v_if_eq 89 93 X dX4_spans_86 rfl (by decide) (fun h86 => ?_) (fun h86 => ?_)
      · replace hF := ifp h86 hF
        refine v_iconst (v := 0) 94 X dX4_spans_93 rfl ki_0 ?_
        refine v_istore_n 95 [(3, .int 0), (0, .ref (a 0)), (4, .int v4)] X dX4_spans_94 rfl rfl (by decide) rfl ?_
        refine v_iinc (v := (v4 + 1)) 98 [(4, .int (v4 + 1)), (3, .int 0), (0, .ref (a 0))] X 2 dX4_spans_95 rfl rfl (by rfl) (by decide) rfl ?_
        refine v_goto 48 X dX4_spans_98 (by decide) ?_
        obtain rfl := Option.some.inj hF
        exact v_lv [2, 1, 0] rfl (hI _ rfl)
      · replace hF := ifn h86 hF
        refine v_iconst (v := 1) 90 X dX4_spans_89 rfl ki_1 ?_
        refine v_goto 94 X dX4_spans_90 (by decide) ?_
        refine v_istore_n 95 [(3, .int 1), (0, .ref (a 0)), (4, .int v4)] X dX4_spans_94 rfl rfl (by decide) rfl ?_
        refine v_iinc (v := (v4 + 1)) 98 [(4, .int (v4 + 1)), (3, .int 1), (0, .ref (a 0))] X 2 dX4_spans_95 rfl rfl (by rfl) (by decide) rfl ?_
        refine v_goto 48 X dX4_spans_98 (by decide) ?_
        obtain rfl := Option.some.inj hF
        exact v_lv [2, 1, 0] rfl (hI _ rfl)
theorem w_X4_spans (v1 : Int32) (v2 : Int32) (r : Int32 × (Nat → Int32) × (Nat → Int32) × Int32) (hF : M_spans now queue isMet met v1 v2 = some r) : CTi l yX4_spans cX4_spans 5 (Option.some Jvm.ClassFile.FieldType.boolean) rmX4_spans D (MW D a now past kept text queue isMet clusterOf fresh saved length met clusters frm ende wrong) [.ref (a 0), .int v1, .int v2] NoX (fun r1 u => r1 = r.1 ∧ u = (MW D a now past kept text r.2.1 r.2.2.1 clusterOf fresh saved length r.2.2.2 clusters frm ende wrong)) := by
  refine m_i (by decide) (Nat.le_of_ble_eq_true rfl) ?_
  intro p e s m args below meth c A B
  obtain ⟨X, hr, -, -, -, -⟩ := B
  replace X : CX p s m args meth c D A cX4_spans 5 "DyeLatticeModel" := X
  refine v_lv (lv' := [(0, .ref (a 0)), (1, .int v1), (2, .int v2)]) [0, 1, 2] rfl ?_
  unfold M_spans at hF
  refine v_aload_n 1 X 0 dX4_spans_0 rfl rfl rfl ?_
  obtain ⟨z1, hz1, hF⟩ := ob hF
  refine v_mVv 4 X 0 [] (w_X4_forgets _ hz1) q1353 q1355 qs56 q95 q1356 hdX4_forgets 0 rfl rfl pass_no ⟨rfl, rfl⟩ ⟨Nat.le_of_ble_eq_true rfl, Nat.le_of_ble_eq_true rfl⟩ ⟨Nat.le_refl 0, Nat.le_refl 0⟩ rfl rfl (Nat.le_of_ble_eq_true rfl) dX4_spans_1 rfl ?_
  refine v_iconst (v := 0) 5 X dX4_spans_4 rfl ki_0 ?_
  refine v_istore_n 6 [(3, .int 0), (0, .ref (a 0)), (1, .int v1), (2, .int v2)] X dX4_spans_5 rfl rfl (by decide) rfl ?_
  obtain ⟨z6, hz6, hF⟩ := ob hF
  refine v_lv [1, 2, 3, 0] rfl (w_X4_spans_6 X v1 v2 _ (0, queue, z1.1, z1.2) _ hz6 ?_)
  refine v_aload_n 37 X 0 dX4_spans_36 rfl rfl rfl ?_
  refine v_iload_n 38 X 1 dX4_spans_37 rfl rfl rfl ?_
  refine v_iload_n 39 X 2 dX4_spans_38 rfl rfl rfl ?_
  refine v_iconst (v := 0) 40 X dX4_spans_39 rfl ki_0 ?_
  obtain ⟨z40, hz40, hF⟩ := ob hF
  refine v_mVv 43 X 3 [.int v1, .int v2, .int 0] (w_X4_walks v1 v2 0 _ hz40) q1361 q1363 qs58 q95 q1364 hdX4_walks 0 rfl rfl pass_no ⟨rfl, rfl⟩ ⟨Nat.le_of_ble_eq_true rfl, Nat.le_of_ble_eq_true rfl⟩ ⟨Nat.le_refl 0, Nat.le_refl 0⟩ rfl rfl (Nat.le_of_ble_eq_true rfl) dX4_spans_40 rfl ?_
  refine v_iconst (v := 0) 44 X dX4_spans_43 rfl ki_0 ?_
  refine v_istore_n 45 [(3, .int 0), (0, .ref (a 0)), (1, .int v1), (2, .int v2)] X dX4_spans_44 rfl rfl (by decide) rfl ?_
  refine v_iconst (v := 0) 46 X dX4_spans_45 rfl ki_0 ?_
  refine v_istore 48 [(4, .int 0), (3, .int 0), (0, .ref (a 0)), (1, .int v1), (2, .int v2)] X dX4_spans_46 rfl (by decide) rfl ?_
  obtain ⟨z48, hz48, hF⟩ := ob hF
  refine v_lv [2, 1, 0] rfl (w_X4_spans_48 X _ (0, 0) _ hz48 ?_)
  refine v_iload_n 102 X 0 dX4_spans_101 rfl rfl rfl ?_
  obtain ⟨z102, hz102, hF⟩ := ob hF
  refine v_topi (zck_s hz102).1 ?_
  obtain rfl := Option.some.inj hF
  exact v_zret X hr (zck_s hz102).2.1 ⟨rfl, rfl⟩ (Nat.zero_le _) (Nat.zero_le _) dX4_spans_102
theorem w_X4_ledger_55 (X : CX p s m args meth c D A cX4_ledger 7 "DyeLatticeModel") (v1 : Int32) (v2 : Int32) : ∀ (n : Nat) (x : Int32 × Int32 × Int32) (o : (Int32 × Int32)), loopN (fun x => M_ledger_55 v1 v2 now clusterOf clusters x.1 x.2.1 x.2.2) n x = some o → (V p l e rmX4_ledger s m args below meth c D A 7 Q (MW D a now past kept text queue isMet clusterOf fresh saved length met clusters frm ende wrong) 0 0 101 [(0, .ref (a 0)), (1, .int v1), (2, .int v2), (3, .int o.1), (4, .int o.2)] []) → V p l e rmX4_ledger s m args below meth c D A 7 Q (MW D a now past kept text queue isMet clusterOf fresh saved length met clusters frm ende wrong) 0 0 55 [(0, .ref (a 0)), (1, .int v1), (2, .int v2), (3, .int x.1), (4, .int x.2.1), (5, .int x.2.2)] [] := by
  refine v_loop (fun (x : Int32 × Int32 × Int32) => V p l e rmX4_ledger s m args below meth c D A 7 Q (MW D a now past kept text queue isMet clusterOf fresh saved length met clusters frm ende wrong) 0 0 55 [(0, .ref (a 0)), (1, .int v1), (2, .int v2), (3, .int x.1), (4, .int x.2.1), (5, .int x.2.2)] []) (fun (o : (Int32 × Int32)) => V p l e rmX4_ledger s m args below meth c D A 7 Q (MW D a now past kept text queue isMet clusterOf fresh saved length met clusters frm ende wrong) 0 0 101 [(0, .ref (a 0)), (1, .int v1), (2, .int v2), (3, .int o.1), (4, .int o.2)] []) ?_
  rintro ⟨v3, v4, v5⟩ r hF hI hO
  replace hF : M_ledger_55 v1 v2 now clusterOf clusters v3 v4 v5 = some r := hF
  show V p l e rmX4_ledger s m args below meth c D A 7 Q (MW D a now past kept text queue isMet clusterOf fresh saved length met clusters frm ende wrong) 0 0 55 [(0, .ref (a 0)), (1, .int v1), (2, .int v2), (3, .int v3), (4, .int v4), (5, .int v5)] []
  unfold M_ledger_55 at hF
  refine v_iload 57 X 5 dX4_ledger_55 rfl rfl ?_
  refine v_aload_n 58 X 0 dX4_ledger_57 rfl rfl rfl ?_
  refine v_get 61 X in_X4 0 10 rfl rfl (by decide) q1182 rfl rfl dX4_ledger_58 rfl ?_
  refine v_icmp_ge 64 101 X dX4_ledger_61 rfl (by decide) (fun h61 => ?_) (fun h61 => ?_)
  · replace hF := ifp h61 hF
    obtain rfl := Option.some.inj hF
    exact v_lv [0, 1, 2, 3, 4] rfl (hO _ rfl)
  · replace hF := ifn h61 hF
    refine v_aload_n 65 X 0 dX4_ledger_64 rfl rfl rfl ?_
    refine v_iload 67 X 5 dX4_ledger_65 rfl rfl ?_
    obtain ⟨z67, hz67, hF⟩ := ob hF
    refine v_mVi 70 X 1 [.int v5] (w_X4_sizeOf v5 _ hz67) q1409 q1411 qs64 q95 q1412 hdX4_sizeOf 0 rfl rfl pass_no ⟨rfl, rfl⟩ ⟨Nat.le_of_ble_eq_true rfl, Nat.le_of_ble_eq_true rfl⟩ ⟨Nat.le_refl 0, Nat.le_refl 0⟩ rfl rfl (Nat.le_of_ble_eq_true rfl) dX4_ledger_67 rfl ?_
    refine v_istore 72 [(6, .int z67), (0, .ref (a 0)), (1, .int v1), (2, .int v2), (3, .int v3), (4, .int v4), (5, .int v5)] X dX4_ledger_70 rfl (by decide) rfl ?_
    refine v_iload 74 X 0 dX4_ledger_72 rfl rfl ?_
    refine v_iload_n 75 X 4 dX4_ledger_74 rfl rfl rfl ?_
    refine v_icmp_le 78 83 X dX4_ledger_75 rfl (by decide) (fun h75 => ?_) (fun h75 => ?_)
    · replace hF := ifp h75 hF
      refine v_iload_n 84 X 4 dX4_ledger_83 rfl rfl rfl ?_
      refine v_istore_n 85 [(3, .int v3), (6, .int z67), (0, .ref (a 0)), (1, .int v1), (2, .int v2), (4, .int v4), (5, .int v5)] X dX4_ledger_84 rfl rfl (by decide) rfl ?_
      refine v_iload 87 X 5 dX4_ledger_85 rfl rfl ?_
      refine v_iload 89 X 1 dX4_ledger_87 rfl rfl ?_
      refine v_iload 91 X 1 dX4_ledger_89 rfl rfl ?_
      refine v_imul 92 X dX4_ledger_91 rfl ?_
      refine v_iadd 93 X dX4_ledger_92 rfl ?_
      refine v_istore 95 [(4, .int (v4 + (z67 * z67))), (3, .int v3), (6, .int z67), (0, .ref (a 0)), (1, .int v1), (2, .int v2), (5, .int v5)] X dX4_ledger_93 rfl (by decide) rfl ?_
      refine v_iinc (v := (v5 + 1)) 98 [(5, .int (v5 + 1)), (4, .int (v4 + (z67 * z67))), (3, .int v3), (6, .int z67), (0, .ref (a 0)), (1, .int v1), (2, .int v2)] X 6 dX4_ledger_95 rfl rfl (by rfl) (by decide) rfl ?_
      refine v_goto 55 X dX4_ledger_98 (by decide) ?_
      obtain rfl := Option.some.inj hF
      exact v_lv [4, 5, 6, 2, 1, 0] rfl (hI _ rfl)
    · replace hF := ifn h75 hF
      refine v_iload 80 X 0 dX4_ledger_78 rfl rfl ?_
      refine v_goto 84 X dX4_ledger_80 (by decide) ?_
      refine v_istore_n 85 [(3, .int z67), (6, .int z67), (0, .ref (a 0)), (1, .int v1), (2, .int v2), (4, .int v4), (5, .int v5)] X dX4_ledger_84 rfl rfl (by decide) rfl ?_
      refine v_iload 87 X 5 dX4_ledger_85 rfl rfl ?_
      refine v_iload 89 X 1 dX4_ledger_87 rfl rfl ?_
      refine v_iload 91 X 1 dX4_ledger_89 rfl rfl ?_
      refine v_imul 92 X dX4_ledger_91 rfl ?_
      refine v_iadd 93 X dX4_ledger_92 rfl ?_
      refine v_istore 95 [(4, .int (v4 + (z67 * z67))), (3, .int z67), (6, .int z67), (0, .ref (a 0)), (1, .int v1), (2, .int v2), (5, .int v5)] X dX4_ledger_93 rfl (by decide) rfl ?_
      refine v_iinc (v := (v5 + 1)) 98 [(5, .int (v5 + 1)), (4, .int (v4 + (z67 * z67))), (3, .int z67), (6, .int z67), (0, .ref (a 0)), (1, .int v1), (2, .int v2)] X 6 dX4_ledger_95 rfl rfl (by rfl) (by decide) rfl ?_
      refine v_goto 55 X dX4_ledger_98 (by decide) ?_
      obtain rfl := Option.some.inj hF
      exact v_lv [4, 5, 6, 2, 1, 0] rfl (hI _ rfl)
theorem w_X4_ledger (v1 : Int32) (v2 : Int32) (r : Int32 × (Nat → Int32) × (Nat → Int32) × (Nat → Int32) × Int32 × Int32) (hF : M_ledger now queue isMet clusterOf met clusters v1 v2 = some r) : CTi l yX4_ledger cX4_ledger 7 (Option.some Jvm.ClassFile.FieldType.int) rmX4_ledger D (MW D a now past kept text queue isMet clusterOf fresh saved length met clusters frm ende wrong) [.ref (a 0), .int v1, .int v2] NoX (fun r1 u => r1 = r.1 ∧ u = (MW D a now past kept text r.2.1 r.2.2.1 r.2.2.2.1 fresh saved length r.2.2.2.2.1 r.2.2.2.2.2 frm ende wrong)) := by
  refine m_i (by decide) (Nat.le_of_ble_eq_true rfl) ?_
  intro p e s m args below meth c A B
  obtain ⟨X, hr, -, -, -, -⟩ := B
  replace X : CX p s m args meth c D A cX4_ledger 7 "DyeLatticeModel" := X
  refine v_lv (lv' := [(0, .ref (a 0)), (1, .int v1), (2, .int v2)]) [0, 1, 2] rfl ?_
  unfold M_ledger at hF
  refine v_iload_n 1 X 1 dX4_ledger_0 rfl rfl rfl ?_
  refine v_iconst (v := 0) 2 X dX4_ledger_1 rfl ki_0 ?_
  refine v_bipush (v := 100) 4 X dX4_ledger_2 rfl kb_100 ?_
  obtain ⟨z4, hz4, hF⟩ := ob hF
  refine v_mSi 7 X 3 [.int v1, .int 0, .int 100] (w_X4_within v1 0 100 _ hz4) q1226 q1227 q95 q1228 hdX4_within pass_no ⟨rfl, rfl⟩ ⟨Nat.le_of_ble_eq_true rfl, Nat.le_of_ble_eq_true rfl⟩ ⟨Nat.le_refl 0, Nat.le_refl 0⟩ rfl rfl (Nat.le_of_ble_eq_true rfl) dX4_ledger_4 rfl ?_
  refine v_if_eq 10 19 X dX4_ledger_7 rfl (by decide) (fun h7 => ?_) (fun h7 => ?_)
  · replace hF := ifp h7 hF
    refine v_iconst (v := (-1)) 20 X dX4_ledger_19 rfl ki_m1 ?_
    obtain rfl := Option.some.inj hF
    exact v_iret X hr ⟨rfl, rfl⟩ (Nat.zero_le _) (Nat.zero_le _) dX4_ledger_20
  · replace hF := ifn h7 hF
    refine v_iload_n 11 X 2 dX4_ledger_10 rfl rfl rfl ?_
    refine v_iconst (v := 0) 12 X dX4_ledger_11 rfl ki_0 ?_
    refine v_iconst (v := 4) 13 X dX4_ledger_12 rfl ki_4 ?_
    obtain ⟨z13, hz13, hF⟩ := ob hF
    refine v_mSi 16 X 3 [.int v2, .int 0, .int 4] (w_X4_within v2 0 4 _ hz13) q1226 q1227 q95 q1228 hdX4_within pass_no ⟨rfl, rfl⟩ ⟨Nat.le_of_ble_eq_true rfl, Nat.le_of_ble_eq_true rfl⟩ ⟨Nat.le_refl 0, Nat.le_refl 0⟩ rfl rfl (Nat.le_of_ble_eq_true rfl) dX4_ledger_13 rfl ?_
    refine v_if_ne 19 21 X dX4_ledger_16 rfl (by decide) (fun h16 => ?_) (fun h16 => ?_)
    · replace hF := ifn h16 hF
      refine v_iload_n 22 X 2 dX4_ledger_21 rfl rfl rfl ?_
      refine v_iconst (v := 4) 23 X dX4_ledger_22 rfl ki_4 ?_
      refine v_icmp_ne 26 42 X dX4_ledger_23 rfl (by decide) (fun h23 => ?_) (fun h23 => ?_)
      · replace hF := ifn h23 hF
        refine v_aload_n 43 X 0 dX4_ledger_42 rfl rfl rfl ?_
        refine v_iload_n 44 X 1 dX4_ledger_43 rfl rfl rfl ?_
        obtain ⟨z44, hz44, hF⟩ := ob hF
        refine v_mVv 47 X 1 [.int v1] (w_X4_laysClusters v1 _ hz44) q1349 q1351 qs55 q95 q1352 hdX4_laysClusters 0 rfl rfl pass_no ⟨rfl, rfl⟩ ⟨Nat.le_of_ble_eq_true rfl, Nat.le_of_ble_eq_true rfl⟩ ⟨Nat.le_refl 0, Nat.le_refl 0⟩ rfl rfl (Nat.le_of_ble_eq_true rfl) dX4_ledger_44 rfl ?_
        refine v_iconst (v := 0) 48 X dX4_ledger_47 rfl ki_0 ?_
        refine v_istore_n 49 [(3, .int 0), (0, .ref (a 0)), (1, .int v1), (2, .int v2)] X dX4_ledger_48 rfl rfl (by decide) rfl ?_
        refine v_iconst (v := 0) 50 X dX4_ledger_49 rfl ki_0 ?_
        refine v_istore 52 [(4, .int 0), (3, .int 0), (0, .ref (a 0)), (1, .int v1), (2, .int v2)] X dX4_ledger_50 rfl (by decide) rfl ?_
        refine v_iconst (v := 0) 53 X dX4_ledger_52 rfl ki_0 ?_
        refine v_istore 55 [(5, .int 0), (4, .int 0), (3, .int 0), (0, .ref (a 0)), (1, .int v1), (2, .int v2)] X dX4_ledger_53 rfl (by decide) rfl ?_
        obtain ⟨z55, hz55, hF⟩ := ob hF
        refine v_lv [3, 4, 5, 2, 1, 0] rfl (w_X4_ledger_55 X v1 v2 _ (0, 0, 0) _ hz55 ?_)
        refine v_iload_n 102 X 2 dX4_ledger_101 rfl rfl rfl ?_
        refine v_if_ne 105 113 X dX4_ledger_102 rfl (by decide) (fun h102 => ?_) (fun h102 => ?_)
        · replace hF := ifn h102 hF
          refine v_iload_n 114 X 2 dX4_ledger_113 rfl rfl rfl ?_
          refine v_iconst (v := 1) 115 X dX4_ledger_114 rfl ki_1 ?_
          refine v_icmp_ne 118 125 X dX4_ledger_115 rfl (by decide) (fun h115 => ?_) (fun h115 => ?_)
          · replace hF := ifn h115 hF
            refine v_iload_n 126 X 2 dX4_ledger_125 rfl rfl rfl ?_
            refine v_iconst (v := 2) 127 X dX4_ledger_126 rfl ki_2 ?_
            refine v_icmp_ne 130 134 X dX4_ledger_127 rfl (by decide) (fun h127 => ?_) (fun h127 => ?_)
            · replace hF := ifn h127 hF
              refine v_iload 136 X 4 dX4_ledger_134 rfl rfl ?_
              obtain rfl := Option.some.inj hF
              exact v_iret X hr ⟨rfl, rfl⟩ (Nat.zero_le _) (Nat.zero_le _) dX4_ledger_136
            · replace hF := ifp h127 hF
              refine v_iload_n 131 X 3 dX4_ledger_130 rfl rfl rfl ?_
              refine v_goto 136 X dX4_ledger_131 (by decide) ?_
              obtain rfl := Option.some.inj hF
              exact v_iret X hr ⟨rfl, rfl⟩ (Nat.zero_le _) (Nat.zero_le _) dX4_ledger_136
          · replace hF := ifp h115 hF
            refine v_aload_n 119 X 0 dX4_ledger_118 rfl rfl rfl ?_
            refine v_get 122 X in_X4 0 10 rfl rfl (by decide) q1182 rfl rfl dX4_ledger_119 rfl ?_
            refine v_goto 136 X dX4_ledger_122 (by decide) ?_
            obtain rfl := Option.some.inj hF
            exact v_iret X hr ⟨rfl, rfl⟩ (Nat.zero_le _) (Nat.zero_le _) dX4_ledger_136
        · replace hF := ifp h102 hF
          refine v_aload_n 106 X 0 dX4_ledger_105 rfl rfl rfl ?_
          refine v_iload_n 107 X 1 dX4_ledger_106 rfl rfl rfl ?_
          obtain ⟨z107, hz107, hF⟩ := ob hF
          refine v_mVi 110 X 1 [.int v1] (w_X4_openAt v1 _ hz107) q1274 q1276 qs45 q95 q1277 hdX4_openAt 0 rfl rfl pass_no ⟨rfl, rfl⟩ ⟨Nat.le_of_ble_eq_true rfl, Nat.le_of_ble_eq_true rfl⟩ ⟨Nat.le_refl 0, Nat.le_refl 0⟩ rfl rfl (Nat.le_of_ble_eq_true rfl) dX4_ledger_107 rfl ?_
          refine v_goto 136 X dX4_ledger_110 (by decide) ?_
          obtain rfl := Option.some.inj hF
          exact v_iret X hr ⟨rfl, rfl⟩ (Nat.zero_le _) (Nat.zero_le _) dX4_ledger_136
      · replace hF := ifp h23 hF
        refine v_aload_n 27 X 0 dX4_ledger_26 rfl rfl rfl ?_
        refine v_iload_n 28 X 1 dX4_ledger_27 rfl rfl rfl ?_
        refine v_bipush (v := (-9)) 30 X dX4_ledger_28 rfl kb_m9 ?_
        obtain ⟨z30, hz30, hF⟩ := ob hF
        refine v_mVi 33 X 2 [.int v1, .int (-9)] (w_X4_spans v1 (-9) _ hz30) q1429 q1431 qs68 q95 q1432 hdX4_spans 0 rfl rfl pass_no ⟨rfl, rfl⟩ ⟨Nat.le_of_ble_eq_true rfl, Nat.le_of_ble_eq_true rfl⟩ ⟨Nat.le_refl 0, Nat.le_refl 0⟩ rfl rfl (Nat.le_of_ble_eq_true rfl) dX4_ledger_30 rfl ?_
        refine v_if_eq 36 40 X dX4_ledger_33 rfl (by decide) (fun h33 => ?_) (fun h33 => ?_)
        · replace hF := ifp h33 hF
          refine v_iconst (v := 0) 41 X dX4_ledger_40 rfl ki_0 ?_
          obtain rfl := Option.some.inj hF
          exact v_iret X hr ⟨rfl, rfl⟩ (Nat.zero_le _) (Nat.zero_le _) dX4_ledger_41
        · replace hF := ifn h33 hF
          refine v_iconst (v := 1) 37 X dX4_ledger_36 rfl ki_1 ?_
          refine v_goto 41 X dX4_ledger_37 (by decide) ?_
          obtain rfl := Option.some.inj hF
          exact v_iret X hr ⟨rfl, rfl⟩ (Nat.zero_le _) (Nat.zero_le _) dX4_ledger_41
    · replace hF := ifp h16 hF
      refine v_iconst (v := (-1)) 20 X dX4_ledger_19 rfl ki_m1 ?_
      obtain rfl := Option.some.inj hF
      exact v_iret X hr ⟨rfl, rfl⟩ (Nat.zero_le _) (Nat.zero_le _) dX4_ledger_20
theorem w_X4_smallest_19 (X : CX p s m args meth c D A cX4_smallest 5 "DyeLatticeModel") : ∀ (n : Nat) (x : Int32 × Int32 × (Nat → Int32) × (Nat → Int32) × Int32) (o : (Int32 × (Nat → Int32) × (Nat → Int32) × Int32)), loopN (fun x => M_smallest_19 now x.1 x.2.1 x.2.2.1 x.2.2.2.1 x.2.2.2.2) n x = some o → (V p l e rmX4_smallest s m args below meth c D A 5 Q (MW D a now past kept text o.2.1 o.2.2.1 clusterOf fresh saved length o.2.2.2 clusters frm ende wrong) 0 0 66 [(1, .int o.1)] []) → V p l e rmX4_smallest s m args below meth c D A 5 Q (MW D a now past kept text x.2.2.1 x.2.2.2.1 clusterOf fresh saved length x.2.2.2.2 clusters frm ende wrong) 0 0 19 [(0, .ref (a 0)), (1, .int x.1), (2, .int x.2.1)] [] := by
  refine v_loop (fun (x : Int32 × Int32 × (Nat → Int32) × (Nat → Int32) × Int32) => V p l e rmX4_smallest s m args below meth c D A 5 Q (MW D a now past kept text x.2.2.1 x.2.2.2.1 clusterOf fresh saved length x.2.2.2.2 clusters frm ende wrong) 0 0 19 [(0, .ref (a 0)), (1, .int x.1), (2, .int x.2.1)] []) (fun (o : (Int32 × (Nat → Int32) × (Nat → Int32) × Int32)) => V p l e rmX4_smallest s m args below meth c D A 5 Q (MW D a now past kept text o.2.1 o.2.2.1 clusterOf fresh saved length o.2.2.2 clusters frm ende wrong) 0 0 66 [(1, .int o.1)] []) ?_
  rintro ⟨v1, v2, queue, isMet, met⟩ r hF hI hO
  replace hF : M_smallest_19 now v1 v2 queue isMet met = some r := hF
  show V p l e rmX4_smallest s m args below meth c D A 5 Q (MW D a now past kept text queue isMet clusterOf fresh saved length met clusters frm ende wrong) 0 0 19 [(0, .ref (a 0)), (1, .int v1), (2, .int v2)] []
  unfold M_smallest_19 at hF
  refine v_iload_n 20 X 1 dX4_smallest_19 rfl rfl rfl ?_
  refine v_iload_n 21 X 2 dX4_smallest_20 rfl rfl rfl ?_
  refine v_icmp_ge 24 66 X dX4_smallest_21 rfl (by decide) (fun h21 => ?_) (fun h21 => ?_)
  · replace hF := ifp h21 hF
    obtain rfl := Option.some.inj hF
    exact v_lv [1] rfl (hO _ rfl)
  · replace hF := ifn h21 hF
    refine v_iload_n 25 X 1 dX4_smallest_24 rfl rfl rfl ?_
    refine v_iload_n 26 X 2 dX4_smallest_25 rfl rfl rfl ?_
    refine v_iadd 27 X dX4_smallest_26 rfl ?_
    refine v_iconst (v := 2) 28 X dX4_smallest_27 rfl ki_2 ?_
    obtain ⟨z28, hz28, hF⟩ := ob hF
    refine v_idiv 29 X hz28 dX4_smallest_28 rfl ?_
    refine v_istore_n 30 [(3, .int z28), (0, .ref (a 0)), (1, .int v1), (2, .int v2)] X dX4_smallest_29 rfl rfl (by decide) rfl ?_
    refine v_aload_n 31 X 1 dX4_smallest_30 rfl rfl rfl ?_
    refine v_iload_n 32 X 0 dX4_smallest_31 rfl rfl rfl ?_
    refine v_bipush (v := (-9)) 34 X dX4_smallest_32 rfl kb_m9 ?_
    obtain ⟨z34, hz34, hF⟩ := ob hF
    refine v_mVi 37 X 2 [.int z28, .int (-9)] (w_X4_spans z28 (-9) _ hz34) q1429 q1431 qs68 q95 q1432 hdX4_spans 0 rfl rfl pass_no ⟨rfl, rfl⟩ ⟨Nat.le_of_ble_eq_true rfl, Nat.le_of_ble_eq_true rfl⟩ ⟨Nat.le_refl 0, Nat.le_refl 0⟩ rfl rfl (Nat.le_of_ble_eq_true rfl) dX4_smallest_34 rfl ?_
    refine v_istore 39 [(4, .int z34.1), (3, .int z28), (0, .ref (a 0)), (1, .int v1), (2, .int v2)] X dX4_smallest_37 rfl (by decide) rfl ?_
    refine v_iload 41 X 0 dX4_smallest_39 rfl rfl ?_
    refine v_if_eq 44 48 X dX4_smallest_41 rfl (by decide) (fun h41 => ?_) (fun h41 => ?_)
    · replace hF := ifp h41 hF
      refine v_iload_n 49 X 4 dX4_smallest_48 rfl rfl rfl ?_
      refine v_istore_n 50 [(2, .int v2), (4, .int z34.1), (3, .int z28), (0, .ref (a 0)), (1, .int v1)] X dX4_smallest_49 rfl rfl (by decide) rfl ?_
      refine v_iload 52 X 1 dX4_smallest_50 rfl rfl ?_
      refine v_if_eq 55 59 X dX4_smallest_52 rfl (by decide) (fun h52 => ?_) (fun h52 => ?_)
      · replace hF := ifp h52 hF
        refine v_iload_n 60 X 2 dX4_smallest_59 rfl rfl rfl ?_
        refine v_iconst (v := 1) 61 X dX4_smallest_60 rfl ki_1 ?_
        refine v_iadd 62 X dX4_smallest_61 rfl ?_
        refine v_istore_n 63 [(1, .int (z28 + 1)), (2, .int v2), (4, .int z34.1), (3, .int z28), (0, .ref (a 0))] X dX4_smallest_62 rfl rfl (by decide) rfl ?_
        refine v_goto 19 X dX4_smallest_63 (by decide) ?_
        obtain rfl := Option.some.inj hF
        exact v_lv [4, 0, 1] rfl (hI _ rfl)
      · replace hF := ifn h52 hF
        refine v_iload_n 56 X 4 dX4_smallest_55 rfl rfl rfl ?_
        refine v_goto 62 X dX4_smallest_56 (by decide) ?_
        refine v_istore_n 63 [(1, .int v1), (2, .int v2), (4, .int z34.1), (3, .int z28), (0, .ref (a 0))] X dX4_smallest_62 rfl rfl (by decide) rfl ?_
        refine v_goto 19 X dX4_smallest_63 (by decide) ?_
        obtain rfl := Option.some.inj hF
        exact v_lv [4, 0, 1] rfl (hI _ rfl)
    · replace hF := ifn h41 hF
      refine v_iload_n 45 X 1 dX4_smallest_44 rfl rfl rfl ?_
      refine v_goto 49 X dX4_smallest_45 (by decide) ?_
      refine v_istore_n 50 [(2, .int z28), (4, .int z34.1), (3, .int z28), (0, .ref (a 0)), (1, .int v1)] X dX4_smallest_49 rfl rfl (by decide) rfl ?_
      refine v_iload 52 X 1 dX4_smallest_50 rfl rfl ?_
      refine v_if_eq 55 59 X dX4_smallest_52 rfl (by decide) (fun h52 => ?_) (fun h52 => ?_)
      · replace hF := ifp h52 hF
        refine v_iload_n 60 X 2 dX4_smallest_59 rfl rfl rfl ?_
        refine v_iconst (v := 1) 61 X dX4_smallest_60 rfl ki_1 ?_
        refine v_iadd 62 X dX4_smallest_61 rfl ?_
        refine v_istore_n 63 [(1, .int (z28 + 1)), (2, .int z28), (4, .int z34.1), (3, .int z28), (0, .ref (a 0))] X dX4_smallest_62 rfl rfl (by decide) rfl ?_
        refine v_goto 19 X dX4_smallest_63 (by decide) ?_
        obtain rfl := Option.some.inj hF
        exact v_lv [4, 0, 1] rfl (hI _ rfl)
      · replace hF := ifn h52 hF
        refine v_iload_n 56 X 4 dX4_smallest_55 rfl rfl rfl ?_
        refine v_goto 62 X dX4_smallest_56 (by decide) ?_
        refine v_istore_n 63 [(1, .int v1), (2, .int z28), (4, .int z34.1), (3, .int z28), (0, .ref (a 0))] X dX4_smallest_62 rfl rfl (by decide) rfl ?_
        refine v_goto 19 X dX4_smallest_63 (by decide) ?_
        obtain rfl := Option.some.inj hF
        exact v_lv [4, 0, 1] rfl (hI _ rfl)
theorem w_X4_smallest (r : Int32 × (Nat → Int32) × (Nat → Int32) × Int32) (hF : M_smallest now queue isMet met = some r) : CTi l yX4_smallest cX4_smallest 5 (Option.some Jvm.ClassFile.FieldType.int) rmX4_smallest D (MW D a now past kept text queue isMet clusterOf fresh saved length met clusters frm ende wrong) [.ref (a 0)] NoX (fun r1 u => r1 = r.1 ∧ u = (MW D a now past kept text r.2.1 r.2.2.1 clusterOf fresh saved length r.2.2.2 clusters frm ende wrong)) := by
  refine m_i (by decide) (Nat.le_of_ble_eq_true rfl) ?_
  intro p e s m args below meth c A B
  obtain ⟨X, hr, -, -, -, -⟩ := B
  replace X : CX p s m args meth c D A cX4_smallest 5 "DyeLatticeModel" := X
  refine v_lv (lv' := [(0, .ref (a 0))]) [0] rfl ?_
  unfold M_smallest at hF
  refine v_aload_n 1 X 0 dX4_smallest_0 rfl rfl rfl ?_
  refine v_bipush (v := 100) 3 X dX4_smallest_1 rfl kb_100 ?_
  refine v_bipush (v := (-9)) 5 X dX4_smallest_3 rfl kb_m9 ?_
  obtain ⟨z5, hz5, hF⟩ := ob hF
  refine v_mVi 8 X 2 [.int 100, .int (-9)] (w_X4_spans 100 (-9) _ hz5) q1429 q1431 qs68 q95 q1432 hdX4_spans 0 rfl rfl pass_no ⟨rfl, rfl⟩ ⟨Nat.le_of_ble_eq_true rfl, Nat.le_of_ble_eq_true rfl⟩ ⟨Nat.le_refl 0, Nat.le_refl 0⟩ rfl rfl (Nat.le_of_ble_eq_true rfl) dX4_smallest_5 rfl ?_
  refine v_if_ne 11 14 X dX4_smallest_8 rfl (by decide) (fun h8 => ?_) (fun h8 => ?_)
  · replace hF := ifn h8 hF
    refine v_iconst (v := 0) 15 X dX4_smallest_14 rfl ki_0 ?_
    refine v_istore_n 16 [(1, .int 0), (0, .ref (a 0))] X dX4_smallest_15 rfl rfl (by decide) rfl ?_
    refine v_bipush (v := 100) 18 X dX4_smallest_16 rfl kb_100 ?_
    refine v_istore_n 19 [(2, .int 100), (1, .int 0), (0, .ref (a 0))] X dX4_smallest_18 rfl rfl (by decide) rfl ?_
    obtain ⟨z19, hz19, hF⟩ := ob hF
    refine v_lv [2, 1, 0] rfl (w_X4_smallest_19 X _ (0, 100, z5.2.1, z5.2.2.1, z5.2.2.2) _ hz19 ?_)
    refine v_iload_n 67 X 0 dX4_smallest_66 rfl rfl rfl ?_
    obtain rfl := Option.some.inj hF
    exact v_iret X hr ⟨rfl, rfl⟩ (Nat.zero_le _) (Nat.zero_le _) dX4_smallest_67
  · replace hF := ifp h8 hF
    refine v_bipush (v := 101) 13 X dX4_smallest_11 rfl kb_101 ?_
    obtain rfl := Option.some.inj hF
    exact v_iret X hr ⟨rfl, rfl⟩ (Nat.zero_le _) (Nat.zero_le _) dX4_smallest_13
theorem w_X4_threshold (r : Int32 × (Nat → Int32) × (Nat → Int32) × Int32) (hF : M_threshold now queue isMet met = some r) : CTi l yX4_threshold cX4_threshold 2 (Option.some Jvm.ClassFile.FieldType.int) rmX4_threshold D (MW D a now past kept text queue isMet clusterOf fresh saved length met clusters frm ende wrong) [.ref (a 0)] NoX (fun r1 u => r1 = r.1 ∧ u = (MW D a now past kept text r.2.1 r.2.2.1 clusterOf fresh saved length r.2.2.2 clusters frm ende wrong)) := by
  refine m_i (by decide) (Nat.le_of_ble_eq_true rfl) ?_
  intro p e s m args below meth c A B
  obtain ⟨X, hr, -, -, -, -⟩ := B
  replace X : CX p s m args meth c D A cX4_threshold 2 "DyeLatticeModel" := X
  refine v_lv (lv' := [(0, .ref (a 0))]) [0] rfl ?_
  unfold M_threshold at hF
  refine v_aload_n 1 X 0 dX4_threshold_0 rfl rfl rfl ?_
  obtain ⟨z1, hz1, hF⟩ := ob hF
  refine v_mVi 4 X 0 [] (w_X4_smallest _ hz1) q1437 q1439 qs69 q95 q1440 hdX4_smallest 0 rfl rfl pass_no ⟨rfl, rfl⟩ ⟨Nat.le_of_ble_eq_true rfl, Nat.le_of_ble_eq_true rfl⟩ ⟨Nat.le_refl 0, Nat.le_refl 0⟩ rfl rfl (Nat.le_of_ble_eq_true rfl) dX4_threshold_1 rfl ?_
  refine v_istore_n 5 [(1, .int z1.1), (0, .ref (a 0))] X dX4_threshold_4 rfl rfl (by decide) rfl ?_
  refine v_iload_n 6 X 0 dX4_threshold_5 rfl rfl rfl ?_
  refine v_bipush (v := 100) 8 X dX4_threshold_6 rfl kb_100 ?_
  refine v_icmp_le 11 16 X dX4_threshold_8 rfl (by decide) (fun h8 => ?_) (fun h8 => ?_)
  · replace hF := ifp h8 hF
    refine v_iload_n 17 X 0 dX4_threshold_16 rfl rfl rfl ?_
    obtain rfl := Option.some.inj hF
    exact v_iret X hr ⟨rfl, rfl⟩ (Nat.zero_le _) (Nat.zero_le _) dX4_threshold_17
  · replace hF := ifn h8 hF
    refine v_bipush (v := (-9)) 13 X dX4_threshold_11 rfl kb_m9 ?_
    refine v_goto 17 X dX4_threshold_13 (by decide) ?_
    obtain rfl := Option.some.inj hF
    exact v_iret X hr ⟨rfl, rfl⟩ (Nat.zero_le _) (Nat.zero_le _) dX4_threshold_17
theorem w_X4_probe_14_j56 (X : CX p s m args meth c D A cX4_probe 7 "DyeLatticeModel") (v1 : Int32) (v2 : Int32) (v4 : Int32) (v5 : Int32) (v6 : Int32) (s0 : Int32) {r : (Int32 × Int32 × Int32 × (Nat → Int32) × (Nat → Int32) × Int32) ⊕ (((Nat → Int32) × (Nat → Int32) × Int32) ⊕ (Int32 × (Nat → Int32) × (Nat → Int32) × Int32))} (hI : ∀ y, r = .inl y → V p l e rmX4_probe s m args below meth c D A 7 Q (MW D a now past kept text y.2.2.2.1 y.2.2.2.2.1 clusterOf fresh saved length y.2.2.2.2.2 clusters frm ende wrong) 0 0 14 [(0, .ref (a 0)), (1, .int v1), (2, .int y.1), (3, .int y.2.1), (4, .int y.2.2.1)] []) (hO : ∀ y, r = .inr y → ((∀ z : (Nat → Int32) × (Nat → Int32) × Int32, y = (.inl z) → V p l e rmX4_probe s m args below meth c D A 7 Q (MW D a now past kept text z.1 z.2.1 clusterOf fresh saved length z.2.2 clusters frm ende wrong) 0 0 77 [] []) ∧ (∀ z : Int32 × (Nat → Int32) × (Nat → Int32) × Int32, y = (.inr z) → V p l e rmX4_probe s m args below meth c D A 7 Q (MW D a now past kept text z.2.1 z.2.2.1 clusterOf fresh saved length z.2.2.2 clusters frm ende wrong) 0 0 32 [(5, .int z.1)] []))) (hF : M_probe_14_j56 now queue isMet met v1 v2 v4 v5 v6 s0 = some r) : V p l e rmX4_probe s m args below meth c D A 7 Q (MW D a now past kept text queue isMet clusterOf fresh saved length met clusters frm ende wrong) 0 0 56 [(0, .ref (a 0)), (1, .int v1), (2, .int v2), (4, .int v4), (5, .int v5), (6, .int v6)] [.int s0] := by
  unfold M_probe_14_j56 at hF
  refine v_istore_n 57 [(3, .int s0), (0, .ref (a 0)), (1, .int v1), (2, .int v2), (4, .int v4), (5, .int v5), (6, .int v6)] X dX4_probe_56 rfl rfl (by decide) rfl ?_
  refine v_iload 59 X 6 dX4_probe_57 rfl rfl ?_
  refine v_if_eq 62 66 X dX4_probe_59 rfl (by decide) (fun h59 => ?_) (fun h59 => ?_)
  · replace hF := ifp h59 hF
    refine v_iload 68 X 5 dX4_probe_66 rfl rfl ?_
    refine v_iconst (v := 1) 69 X dX4_probe_68 rfl ki_1 ?_
    refine v_iadd 70 X dX4_probe_69 rfl ?_
    refine v_istore_n 71 [(2, .int (v5 + 1)), (3, .int s0), (0, .ref (a 0)), (1, .int v1), (4, .int v4), (5, .int v5), (6, .int v6)] X dX4_probe_70 rfl rfl (by decide) rfl ?_
    refine v_iinc (v := (v4 + 1)) 74 [(4, .int (v4 + 1)), (2, .int (v5 + 1)), (3, .int s0), (0, .ref (a 0)), (1, .int v1), (5, .int v5), (6, .int v6)] X 4 dX4_probe_71 rfl rfl (by rfl) (by decide) rfl ?_
    refine v_goto 14 X dX4_probe_74 (by decide) ?_
    obtain rfl := Option.some.inj hF
    exact v_lv [3, 4, 1, 2, 0] rfl (hI _ rfl)
  · replace hF := ifn h59 hF
    refine v_iload_n 63 X 3 dX4_probe_62 rfl rfl rfl ?_
    refine v_goto 70 X dX4_probe_63 (by decide) ?_
    refine v_istore_n 71 [(2, .int v2), (3, .int s0), (0, .ref (a 0)), (1, .int v1), (4, .int v4), (5, .int v5), (6, .int v6)] X dX4_probe_70 rfl rfl (by decide) rfl ?_
    refine v_iinc (v := (v4 + 1)) 74 [(4, .int (v4 + 1)), (2, .int v2), (3, .int s0), (0, .ref (a 0)), (1, .int v1), (5, .int v5), (6, .int v6)] X 4 dX4_probe_71 rfl rfl (by rfl) (by decide) rfl ?_
    refine v_goto 14 X dX4_probe_74 (by decide) ?_
    obtain rfl := Option.some.inj hF
    exact v_lv [3, 4, 1, 2, 0] rfl (hI _ rfl)
theorem w_X4_probe_14 (X : CX p s m args meth c D A cX4_probe 7 "DyeLatticeModel") (v1 : Int32) : ∀ (n : Nat) (x : Int32 × Int32 × Int32 × (Nat → Int32) × (Nat → Int32) × Int32) (o : (((Nat → Int32) × (Nat → Int32) × Int32) ⊕ (Int32 × (Nat → Int32) × (Nat → Int32) × Int32))), loopN (fun x => M_probe_14 v1 now x.1 x.2.1 x.2.2.1 x.2.2.2.1 x.2.2.2.2.1 x.2.2.2.2.2) n x = some o → ((∀ z : (Nat → Int32) × (Nat → Int32) × Int32, o = (.inl z) → V p l e rmX4_probe s m args below meth c D A 7 Q (MW D a now past kept text z.1 z.2.1 clusterOf fresh saved length z.2.2 clusters frm ende wrong) 0 0 77 [] []) ∧ (∀ z : Int32 × (Nat → Int32) × (Nat → Int32) × Int32, o = (.inr z) → V p l e rmX4_probe s m args below meth c D A 7 Q (MW D a now past kept text z.2.1 z.2.2.1 clusterOf fresh saved length z.2.2.2 clusters frm ende wrong) 0 0 32 [(5, .int z.1)] [])) → V p l e rmX4_probe s m args below meth c D A 7 Q (MW D a now past kept text x.2.2.2.1 x.2.2.2.2.1 clusterOf fresh saved length x.2.2.2.2.2 clusters frm ende wrong) 0 0 14 [(0, .ref (a 0)), (1, .int v1), (2, .int x.1), (3, .int x.2.1), (4, .int x.2.2.1)] [] := by
  refine v_loop (fun (x : Int32 × Int32 × Int32 × (Nat → Int32) × (Nat → Int32) × Int32) => V p l e rmX4_probe s m args below meth c D A 7 Q (MW D a now past kept text x.2.2.2.1 x.2.2.2.2.1 clusterOf fresh saved length x.2.2.2.2.2 clusters frm ende wrong) 0 0 14 [(0, .ref (a 0)), (1, .int v1), (2, .int x.1), (3, .int x.2.1), (4, .int x.2.2.1)] []) (fun (o : (((Nat → Int32) × (Nat → Int32) × Int32) ⊕ (Int32 × (Nat → Int32) × (Nat → Int32) × Int32))) => (∀ z : (Nat → Int32) × (Nat → Int32) × Int32, o = (.inl z) → V p l e rmX4_probe s m args below meth c D A 7 Q (MW D a now past kept text z.1 z.2.1 clusterOf fresh saved length z.2.2 clusters frm ende wrong) 0 0 77 [] []) ∧ (∀ z : Int32 × (Nat → Int32) × (Nat → Int32) × Int32, o = (.inr z) → V p l e rmX4_probe s m args below meth c D A 7 Q (MW D a now past kept text z.2.1 z.2.2.1 clusterOf fresh saved length z.2.2.2 clusters frm ende wrong) 0 0 32 [(5, .int z.1)] [])) ?_
  rintro ⟨v2, v3, v4, queue, isMet, met⟩ r hF hI hO
  replace hF : M_probe_14 v1 now v2 v3 v4 queue isMet met = some r := hF
  show V p l e rmX4_probe s m args below meth c D A 7 Q (MW D a now past kept text queue isMet clusterOf fresh saved length met clusters frm ende wrong) 0 0 14 [(0, .ref (a 0)), (1, .int v1), (2, .int v2), (3, .int v3), (4, .int v4)] []
  unfold M_probe_14 at hF
  refine v_iload_n 15 X 2 dX4_probe_14 rfl rfl rfl ?_
  refine v_iload_n 16 X 3 dX4_probe_15 rfl rfl rfl ?_
  refine v_icmp_ge 19 77 X dX4_probe_16 rfl (by decide) (fun h16 => ?_) (fun h16 => ?_)
  · replace hF := ifp h16 hF
    obtain rfl := Option.some.inj hF
    exact v_lv [] rfl ((hO _ rfl).1 _ rfl)
  · replace hF := ifn h16 hF
    refine v_iload_n 20 X 2 dX4_probe_19 rfl rfl rfl ?_
    refine v_iload_n 21 X 3 dX4_probe_20 rfl rfl rfl ?_
    refine v_iadd 22 X dX4_probe_21 rfl ?_
    refine v_iconst (v := 2) 23 X dX4_probe_22 rfl ki_2 ?_
    obtain ⟨z23, hz23, hF⟩ := ob hF
    refine v_idiv 24 X hz23 dX4_probe_23 rfl ?_
    refine v_istore 26 [(5, .int z23), (0, .ref (a 0)), (1, .int v1), (2, .int v2), (3, .int v3), (4, .int v4)] X dX4_probe_24 rfl (by decide) rfl ?_
    refine v_iload 28 X 5 dX4_probe_26 rfl rfl ?_
    refine v_iload_n 29 X 2 dX4_probe_28 rfl rfl rfl ?_
    refine v_icmp_ne 32 35 X dX4_probe_29 rfl (by decide) (fun h29 => ?_) (fun h29 => ?_)
    · replace hF := ifn h29 hF
      refine v_aload_n 36 X 1 dX4_probe_35 rfl rfl rfl ?_
      refine v_iload 38 X 0 dX4_probe_36 rfl rfl ?_
      refine v_bipush (v := (-9)) 40 X dX4_probe_38 rfl kb_m9 ?_
      obtain ⟨z40, hz40, hF⟩ := ob hF
      refine v_mVi 43 X 2 [.int z23, .int (-9)] (w_X4_spans z23 (-9) _ hz40) q1429 q1431 qs68 q95 q1432 hdX4_spans 0 rfl rfl pass_no ⟨rfl, rfl⟩ ⟨Nat.le_of_ble_eq_true rfl, Nat.le_of_ble_eq_true rfl⟩ ⟨Nat.le_refl 0, Nat.le_refl 0⟩ rfl rfl (Nat.le_of_ble_eq_true rfl) dX4_probe_40 rfl ?_
      refine v_istore 45 [(6, .int z40.1), (5, .int z23), (0, .ref (a 0)), (1, .int v1), (2, .int v2), (3, .int v3), (4, .int v4)] X dX4_probe_43 rfl (by decide) rfl ?_
      refine v_iload 47 X 0 dX4_probe_45 rfl rfl ?_
      refine v_if_eq 50 55 X dX4_probe_47 rfl (by decide) (fun h47 => ?_) (fun h47 => ?_)
      · replace hF := ifp h47 hF
        refine v_iload_n 56 X 5 dX4_probe_55 rfl rfl rfl ?_
        exact v_lv [2, 3, 4, 6, 1, 0] rfl (w_X4_probe_14_j56 X v1 v2 v4 z23 z40.1 v3 hI hO hF)
      · replace hF := ifn h47 hF
        refine v_iload 52 X 1 dX4_probe_50 rfl rfl ?_
        refine v_goto 56 X dX4_probe_52 (by decide) ?_
        exact v_lv [2, 3, 4, 6, 1, 0] rfl (w_X4_probe_14_j56 X v1 v2 v4 z23 z40.1 z23 hI hO hF)
    · replace hF := ifp h29 hF
      obtain rfl := Option.some.inj hF
      exact v_lv [0] rfl ((hO _ rfl).2 _ rfl)
theorem w_X4_probe (v1 : Int32) (r : Int32 × (Nat → Int32) × (Nat → Int32) × Int32) (hF : M_probe now queue isMet met v1 = some r) : CTi l yX4_probe cX4_probe 7 (Option.some Jvm.ClassFile.FieldType.int) rmX4_probe D (MW D a now past kept text queue isMet clusterOf fresh saved length met clusters frm ende wrong) [.ref (a 0), .int v1] NoX (fun r1 u => r1 = r.1 ∧ u = (MW D a now past kept text r.2.1 r.2.2.1 clusterOf fresh saved length r.2.2.2 clusters frm ende wrong)) := by
  refine m_i (by decide) (Nat.le_of_ble_eq_true rfl) ?_
  intro p e s m args below meth c A B
  obtain ⟨X, hr, -, -, -, -⟩ := B
  replace X : CX p s m args meth c D A cX4_probe 7 "DyeLatticeModel" := X
  refine v_lv (lv' := [(0, .ref (a 0)), (1, .int v1)]) [0, 1] rfl ?_
  unfold M_probe at hF
  refine v_iload_n 1 X 1 dX4_probe_0 rfl rfl rfl ?_
  refine v_if_ge 4 6 X dX4_probe_1 rfl (by decide) (fun h1 => ?_) (fun h1 => ?_)
  · replace hF := ifp h1 hF
    refine v_iconst (v := 0) 7 X dX4_probe_6 rfl ki_0 ?_
    refine v_istore_n 8 [(2, .int 0), (0, .ref (a 0)), (1, .int v1)] X dX4_probe_7 rfl rfl (by decide) rfl ?_
    refine v_bipush (v := 100) 10 X dX4_probe_8 rfl kb_100 ?_
    refine v_istore_n 11 [(3, .int 100), (2, .int 0), (0, .ref (a 0)), (1, .int v1)] X dX4_probe_10 rfl rfl (by decide) rfl ?_
    refine v_iconst (v := 0) 12 X dX4_probe_11 rfl ki_0 ?_
    refine v_istore 14 [(4, .int 0), (3, .int 100), (2, .int 0), (0, .ref (a 0)), (1, .int v1)] X dX4_probe_12 rfl (by decide) rfl ?_
    obtain ⟨z14, hz14, hF⟩ := ob hF
    refine v_lv [3, 4, 2, 1, 0] rfl (w_X4_probe_14 X v1 _ (0, 100, 0, queue, isMet, met) _ hz14 ⟨fun y14 hy => ?_, fun y14 hy => ?_⟩)
    · subst hy
      dsimp only at hF
      refine v_bipush (v := (-9)) 79 X dX4_probe_77 rfl kb_m9 ?_
      obtain rfl := Option.some.inj hF
      exact v_iret X hr ⟨rfl, rfl⟩ (Nat.zero_le _) (Nat.zero_le _) dX4_probe_79
    · subst hy
      dsimp only at hF
      refine v_iload 34 X 0 dX4_probe_32 rfl rfl ?_
      obtain rfl := Option.some.inj hF
      exact v_iret X hr ⟨rfl, rfl⟩ (Nat.zero_le _) (Nat.zero_le _) dX4_probe_34
  · replace hF := ifn h1 hF
    refine v_iconst (v := (-1)) 5 X dX4_probe_4 rfl ki_m1 ?_
    obtain rfl := Option.some.inj hF
    exact v_iret X hr ⟨rfl, rfl⟩ (Nat.zero_le _) (Nat.zero_le _) dX4_probe_5
theorem w_X4_isWay (v1 : Int32) (v2 : Int32) (v3 : Int32) (r : Int32 × (Nat → Int32) × (Nat → Int32) × Int32) (hF : M_isWay now queue isMet met v1 v2 v3 = some r) : CTi l yX4_isWay cX4_isWay 4 (Option.some Jvm.ClassFile.FieldType.boolean) rmX4_isWay D (MW D a now past kept text queue isMet clusterOf fresh saved length met clusters frm ende wrong) [.ref (a 0), .int v1, .int v2, .int v3] NoX (fun r1 u => r1 = r.1 ∧ u = (MW D a now past kept text r.2.1 r.2.2.1 clusterOf fresh saved length r.2.2.2 clusters frm ende wrong)) := by
  refine m_i (by decide) (Nat.le_of_ble_eq_true rfl) ?_
  intro p e s m args below meth c A B
  obtain ⟨X, hr, -, -, -, -⟩ := B
  replace X : CX p s m args meth c D A cX4_isWay 4 "DyeLatticeModel" := X
  refine v_lv (lv' := [(0, .ref (a 0)), (1, .int v1), (2, .int v2), (3, .int v3)]) [0, 1, 2, 3] rfl ?_
  unfold M_isWay at hF
  refine v_aload_n 1 X 0 dX4_isWay_0 rfl rfl rfl ?_
  obtain ⟨z1, hz1, hF⟩ := ob hF
  refine v_mVv 4 X 0 [] (w_X4_forgets _ hz1) q1353 q1355 qs56 q95 q1356 hdX4_forgets 0 rfl rfl pass_no ⟨rfl, rfl⟩ ⟨Nat.le_of_ble_eq_true rfl, Nat.le_of_ble_eq_true rfl⟩ ⟨Nat.le_refl 0, Nat.le_refl 0⟩ rfl rfl (Nat.le_of_ble_eq_true rfl) dX4_isWay_1 rfl ?_
  refine v_aload_n 5 X 0 dX4_isWay_4 rfl rfl rfl ?_
  refine v_iload_n 6 X 1 dX4_isWay_5 rfl rfl rfl ?_
  refine v_iload_n 7 X 3 dX4_isWay_6 rfl rfl rfl ?_
  refine v_bipush (v := (-9)) 9 X dX4_isWay_7 rfl kb_m9 ?_
  obtain ⟨z9, hz9, hF⟩ := ob hF
  refine v_mVv 12 X 3 [.int v1, .int v3, .int (-9)] (w_X4_meets v1 v3 (-9) _ hz9) q1357 q1359 qs57 q95 q1360 hdX4_meets 0 rfl rfl pass_no ⟨rfl, rfl⟩ ⟨Nat.le_of_ble_eq_true rfl, Nat.le_of_ble_eq_true rfl⟩ ⟨Nat.le_refl 0, Nat.le_refl 0⟩ rfl rfl (Nat.le_of_ble_eq_true rfl) dX4_isWay_9 rfl ?_
  refine v_aload_n 13 X 0 dX4_isWay_12 rfl rfl rfl ?_
  refine v_iload_n 14 X 3 dX4_isWay_13 rfl rfl rfl ?_
  refine v_bipush (v := (-9)) 16 X dX4_isWay_14 rfl kb_m9 ?_
  refine v_iconst (v := 0) 17 X dX4_isWay_16 rfl ki_0 ?_
  obtain ⟨z17, hz17, hF⟩ := ob hF
  refine v_mVv 20 X 3 [.int v3, .int (-9), .int 0] (w_X4_walks v3 (-9) 0 _ hz17) q1361 q1363 qs58 q95 q1364 hdX4_walks 0 rfl rfl pass_no ⟨rfl, rfl⟩ ⟨Nat.le_of_ble_eq_true rfl, Nat.le_of_ble_eq_true rfl⟩ ⟨Nat.le_refl 0, Nat.le_refl 0⟩ rfl rfl (Nat.le_of_ble_eq_true rfl) dX4_isWay_17 rfl ?_
  refine v_aload_n 21 X 0 dX4_isWay_20 rfl rfl rfl ?_
  refine v_get 24 X in_X4 0 7 rfl rfl (by decide) q1179 rfl rfl dX4_isWay_21 rfl ?_
  refine v_iload_n 25 X 2 dX4_isWay_24 rfl rfl rfl ?_
  obtain ⟨z25, hz25, hF⟩ := ob hF
  refine v_zald 26 X 6 hz25 rfl dX4_isWay_25 rfl ?_
  obtain ⟨z26, hz26, hF⟩ := ob hF
  refine v_topi (zck_s hz26).1 ?_
  obtain rfl := Option.some.inj hF
  exact v_zret X hr (zck_s hz26).2.1 ⟨rfl, rfl⟩ (Nat.zero_le _) (Nat.zero_le _) dX4_isWay_26
theorem w_X4_thresholdBetween_20 (X : CX p s m args meth c D A cX4_thresholdBetween 4 "DyeLatticeModel") (v1 : Int32) (v2 : Int32) : ∀ (n : Nat) (x : Int32 × (Nat → Int32) × (Nat → Int32) × Int32) (o : (((Nat → Int32) × (Nat → Int32) × Int32) ⊕ (Int32 × (Nat → Int32) × (Nat → Int32) × Int32))), loopN (fun x => M_thresholdBetween_20 v1 v2 now x.1 x.2.1 x.2.2.1 x.2.2.2) n x = some o → ((∀ z : (Nat → Int32) × (Nat → Int32) × Int32, o = (.inl z) → V p l e rmX4_thresholdBetween s m args below meth c D A 4 Q (MW D a now past kept text z.1 z.2.1 clusterOf fresh saved length z.2.2 clusters frm ende wrong) 0 0 44 [] []) ∧ (∀ z : Int32 × (Nat → Int32) × (Nat → Int32) × Int32, o = (.inr z) → V p l e rmX4_thresholdBetween s m args below meth c D A 4 Q (MW D a now past kept text z.2.1 z.2.2.1 clusterOf fresh saved length z.2.2.2 clusters frm ende wrong) 0 0 36 [(3, .int z.1)] [])) → V p l e rmX4_thresholdBetween s m args below meth c D A 4 Q (MW D a now past kept text x.2.1 x.2.2.1 clusterOf fresh saved length x.2.2.2 clusters frm ende wrong) 0 0 20 [(0, .ref (a 0)), (1, .int v1), (2, .int v2), (3, .int x.1)] [] := by
  refine v_loop (fun (x : Int32 × (Nat → Int32) × (Nat → Int32) × Int32) => V p l e rmX4_thresholdBetween s m args below meth c D A 4 Q (MW D a now past kept text x.2.1 x.2.2.1 clusterOf fresh saved length x.2.2.2 clusters frm ende wrong) 0 0 20 [(0, .ref (a 0)), (1, .int v1), (2, .int v2), (3, .int x.1)] []) (fun (o : (((Nat → Int32) × (Nat → Int32) × Int32) ⊕ (Int32 × (Nat → Int32) × (Nat → Int32) × Int32))) => (∀ z : (Nat → Int32) × (Nat → Int32) × Int32, o = (.inl z) → V p l e rmX4_thresholdBetween s m args below meth c D A 4 Q (MW D a now past kept text z.1 z.2.1 clusterOf fresh saved length z.2.2 clusters frm ende wrong) 0 0 44 [] []) ∧ (∀ z : Int32 × (Nat → Int32) × (Nat → Int32) × Int32, o = (.inr z) → V p l e rmX4_thresholdBetween s m args below meth c D A 4 Q (MW D a now past kept text z.2.1 z.2.2.1 clusterOf fresh saved length z.2.2.2 clusters frm ende wrong) 0 0 36 [(3, .int z.1)] [])) ?_
  rintro ⟨v3, queue, isMet, met⟩ r hF hI hO
  replace hF : M_thresholdBetween_20 v1 v2 now v3 queue isMet met = some r := hF
  show V p l e rmX4_thresholdBetween s m args below meth c D A 4 Q (MW D a now past kept text queue isMet clusterOf fresh saved length met clusters frm ende wrong) 0 0 20 [(0, .ref (a 0)), (1, .int v1), (2, .int v2), (3, .int v3)] []
  unfold M_thresholdBetween_20 at hF
  refine v_iload_n 21 X 3 dX4_thresholdBetween_20 rfl rfl rfl ?_
  refine v_bipush (v := 100) 23 X dX4_thresholdBetween_21 rfl kb_100 ?_
  refine v_icmp_gt 26 44 X dX4_thresholdBetween_23 rfl (by decide) (fun h23 => ?_) (fun h23 => ?_)
  · replace hF := ifp h23 hF
    obtain rfl := Option.some.inj hF
    exact v_lv [] rfl ((hO _ rfl).1 _ rfl)
  · replace hF := ifn h23 hF
    refine v_aload_n 27 X 0 dX4_thresholdBetween_26 rfl rfl rfl ?_
    refine v_iload_n 28 X 1 dX4_thresholdBetween_27 rfl rfl rfl ?_
    refine v_iload_n 29 X 2 dX4_thresholdBetween_28 rfl rfl rfl ?_
    refine v_iload_n 30 X 3 dX4_thresholdBetween_29 rfl rfl rfl ?_
    obtain ⟨z30, hz30, hF⟩ := ob hF
    refine v_mVi 33 X 3 [.int v1, .int v2, .int v3] (w_X4_isWay v1 v2 v3 _ hz30) q1449 q1451 qs70 q95 q1452 hdX4_isWay 0 rfl rfl pass_no ⟨rfl, rfl⟩ ⟨Nat.le_of_ble_eq_true rfl, Nat.le_of_ble_eq_true rfl⟩ ⟨Nat.le_refl 0, Nat.le_refl 0⟩ rfl rfl (Nat.le_of_ble_eq_true rfl) dX4_thresholdBetween_30 rfl ?_
    refine v_if_eq 36 38 X dX4_thresholdBetween_33 rfl (by decide) (fun h33 => ?_) (fun h33 => ?_)
    · replace hF := ifp h33 hF
      refine v_iinc (v := (v3 + 1)) 41 [(3, .int (v3 + 1)), (0, .ref (a 0)), (1, .int v1), (2, .int v2)] X 3 dX4_thresholdBetween_38 rfl rfl (by rfl) (by decide) rfl ?_
      refine v_goto 20 X dX4_thresholdBetween_41 (by decide) ?_
      obtain rfl := Option.some.inj hF
      exact v_lv [1, 2, 3, 0] rfl (hI _ rfl)
    · replace hF := ifn h33 hF
      obtain rfl := Option.some.inj hF
      exact v_lv [3] rfl ((hO _ rfl).2 _ rfl)
theorem w_X4_thresholdBetween (v1 : Int32) (v2 : Int32) (r : Int32 × (Nat → Int32) × (Nat → Int32) × Int32) (hF : M_thresholdBetween now queue isMet met v1 v2 = some r) : CTi l yX4_thresholdBetween cX4_thresholdBetween 4 (Option.some Jvm.ClassFile.FieldType.int) rmX4_thresholdBetween D (MW D a now past kept text queue isMet clusterOf fresh saved length met clusters frm ende wrong) [.ref (a 0), .int v1, .int v2] NoX (fun r1 u => r1 = r.1 ∧ u = (MW D a now past kept text r.2.1 r.2.2.1 clusterOf fresh saved length r.2.2.2 clusters frm ende wrong)) := by
  refine m_i (by decide) (Nat.le_of_ble_eq_true rfl) ?_
  intro p e s m args below meth c A B
  obtain ⟨X, hr, -, -, -, -⟩ := B
  replace X : CX p s m args meth c D A cX4_thresholdBetween 4 "DyeLatticeModel" := X
  refine v_lv (lv' := [(0, .ref (a 0)), (1, .int v1), (2, .int v2)]) [0, 1, 2] rfl ?_
  unfold M_thresholdBetween at hF
  refine v_aload_n 1 X 0 dX4_thresholdBetween_0 rfl rfl rfl ?_
  refine v_iload_n 2 X 1 dX4_thresholdBetween_1 rfl rfl rfl ?_
  obtain ⟨z2, hz2, hF⟩ := ob hF
  refine v_mVi 5 X 1 [.int v1] (w_X4_isCell v1 _ hz2) q1253 q1255 qs42 q95 q1256 hdX4_isCell 0 rfl rfl pass_no ⟨rfl, rfl⟩ ⟨Nat.le_of_ble_eq_true rfl, Nat.le_of_ble_eq_true rfl⟩ ⟨Nat.le_refl 0, Nat.le_refl 0⟩ rfl rfl (Nat.le_of_ble_eq_true rfl) dX4_thresholdBetween_2 rfl ?_
  refine v_if_eq 8 16 X dX4_thresholdBetween_5 rfl (by decide) (fun h5 => ?_) (fun h5 => ?_)
  · replace hF := ifp h5 hF
    refine v_iconst (v := (-1)) 17 X dX4_thresholdBetween_16 rfl ki_m1 ?_
    obtain rfl := Option.some.inj hF
    exact v_iret X hr ⟨rfl, rfl⟩ (Nat.zero_le _) (Nat.zero_le _) dX4_thresholdBetween_17
  · replace hF := ifn h5 hF
    refine v_aload_n 9 X 0 dX4_thresholdBetween_8 rfl rfl rfl ?_
    refine v_iload_n 10 X 2 dX4_thresholdBetween_9 rfl rfl rfl ?_
    obtain ⟨z10, hz10, hF⟩ := ob hF
    refine v_mVi 13 X 1 [.int v2] (w_X4_isCell v2 _ hz10) q1253 q1255 qs42 q95 q1256 hdX4_isCell 0 rfl rfl pass_no ⟨rfl, rfl⟩ ⟨Nat.le_of_ble_eq_true rfl, Nat.le_of_ble_eq_true rfl⟩ ⟨Nat.le_refl 0, Nat.le_refl 0⟩ rfl rfl (Nat.le_of_ble_eq_true rfl) dX4_thresholdBetween_10 rfl ?_
    refine v_if_ne 16 18 X dX4_thresholdBetween_13 rfl (by decide) (fun h13 => ?_) (fun h13 => ?_)
    · replace hF := ifn h13 hF
      refine v_iconst (v := 1) 19 X dX4_thresholdBetween_18 rfl ki_1 ?_
      refine v_istore_n 20 [(3, .int 1), (0, .ref (a 0)), (1, .int v1), (2, .int v2)] X dX4_thresholdBetween_19 rfl rfl (by decide) rfl ?_
      obtain ⟨z20, hz20, hF⟩ := ob hF
      refine v_lv [1, 2, 3, 0] rfl (w_X4_thresholdBetween_20 X v1 v2 _ (1, queue, isMet, met) _ hz20 ⟨fun y20 hy => ?_, fun y20 hy => ?_⟩)
      · subst hy
        dsimp only at hF
        refine v_bipush (v := (-9)) 46 X dX4_thresholdBetween_44 rfl kb_m9 ?_
        obtain rfl := Option.some.inj hF
        exact v_iret X hr ⟨rfl, rfl⟩ (Nat.zero_le _) (Nat.zero_le _) dX4_thresholdBetween_46
      · subst hy
        dsimp only at hF
        refine v_iload_n 37 X 0 dX4_thresholdBetween_36 rfl rfl rfl ?_
        obtain rfl := Option.some.inj hF
        exact v_iret X hr ⟨rfl, rfl⟩ (Nat.zero_le _) (Nat.zero_le _) dX4_thresholdBetween_37
    · replace hF := ifp h13 hF
      refine v_iconst (v := (-1)) 17 X dX4_thresholdBetween_16 rfl ki_m1 ?_
      obtain rfl := Option.some.inj hF
      exact v_iret X hr ⟨rfl, rfl⟩ (Nat.zero_le _) (Nat.zero_le _) dX4_thresholdBetween_17
theorem w_X4_pivots_22 (X : CX p s m args meth c D A cX4_pivots 3 "DyeLatticeModel") : ∀ (n : Nat) (x : Int32 × Int32 × (Nat → Int32) × (Nat → Int32) × Int32) (o : (Int32 × (Nat → Int32) × (Nat → Int32) × Int32)), loopN (fun x => M_pivots_22 now x.1 x.2.1 x.2.2.1 x.2.2.2.1 x.2.2.2.2) n x = some o → (V p l e rmX4_pivots s m args below meth c D A 3 Q (MW D a now past kept text o.2.1 o.2.2.1 clusterOf fresh saved length o.2.2.2 clusters frm ende wrong) 0 0 72 [(1, .int o.1)] []) → V p l e rmX4_pivots s m args below meth c D A 3 Q (MW D a now past kept text x.2.2.1 x.2.2.2.1 clusterOf fresh saved length x.2.2.2.2 clusters frm ende wrong) 0 0 22 [(0, .ref (a 0)), (1, .int x.1), (2, .int x.2.1)] [] := by
  refine v_loop (fun (x : Int32 × Int32 × (Nat → Int32) × (Nat → Int32) × Int32) => V p l e rmX4_pivots s m args below meth c D A 3 Q (MW D a now past kept text x.2.2.1 x.2.2.2.1 clusterOf fresh saved length x.2.2.2.2 clusters frm ende wrong) 0 0 22 [(0, .ref (a 0)), (1, .int x.1), (2, .int x.2.1)] []) (fun (o : (Int32 × (Nat → Int32) × (Nat → Int32) × Int32)) => V p l e rmX4_pivots s m args below meth c D A 3 Q (MW D a now past kept text o.2.1 o.2.2.1 clusterOf fresh saved length o.2.2.2 clusters frm ende wrong) 0 0 72 [(1, .int o.1)] []) ?_
  rintro ⟨v1, v2, queue, isMet, met⟩ r hF hI hO
  replace hF : M_pivots_22 now v1 v2 queue isMet met = some r := hF
  show V p l e rmX4_pivots s m args below meth c D A 3 Q (MW D a now past kept text queue isMet clusterOf fresh saved length met clusters frm ende wrong) 0 0 22 [(0, .ref (a 0)), (1, .int v1), (2, .int v2)] []
  unfold M_pivots_22 at hF
  refine v_iload_n 23 X 2 dX4_pivots_22 rfl rfl rfl ?_
  refine v_aload_n 24 X 0 dX4_pivots_23 rfl rfl rfl ?_
  obtain ⟨z24, hz24, hF⟩ := ob hF
  refine v_mVi 27 X 0 [] (w_X4_cells _ hz24) q1233 q1235 qs38 q95 q1236 hdX4_cells 0 rfl rfl pass_no ⟨rfl, rfl⟩ ⟨Nat.le_of_ble_eq_true rfl, Nat.le_of_ble_eq_true rfl⟩ ⟨Nat.le_refl 0, Nat.le_refl 0⟩ rfl rfl (Nat.le_of_ble_eq_true rfl) dX4_pivots_24 rfl ?_
  refine v_icmp_ge 30 72 X dX4_pivots_27 rfl (by decide) (fun h27 => ?_) (fun h27 => ?_)
  · replace hF := ifp h27 hF
    obtain rfl := Option.some.inj hF
    exact v_lv [1] rfl (hO _ rfl)
  · replace hF := ifn h27 hF
    refine v_iload_n 31 X 1 dX4_pivots_30 rfl rfl rfl ?_
    refine v_aload_n 32 X 0 dX4_pivots_31 rfl rfl rfl ?_
    refine v_iload_n 33 X 2 dX4_pivots_32 rfl rfl rfl ?_
    refine v_aload_n 34 X 0 dX4_pivots_33 rfl rfl rfl ?_
    refine v_get 37 X in_X4 0 0 rfl rfl (by decide) q1172 rfl rfl dX4_pivots_34 rfl ?_
    refine v_iconst (v := 3) 38 X dX4_pivots_37 rfl ki_3 ?_
    obtain ⟨z38, hz38, hF⟩ := ob hF
    refine v_iald 39 X 1 hz38 rfl dX4_pivots_38 rfl ?_
    obtain ⟨z39, hz39, hF⟩ := ob hF
    refine v_mVi 42 X 2 [.int v2, .int z38] (w_X4_isOpen v2 z38 _ hz39) q1278 q1280 qs46 q95 q1281 hdX4_isOpen 0 rfl rfl pass_no ⟨rfl, rfl⟩ ⟨Nat.le_of_ble_eq_true rfl, Nat.le_of_ble_eq_true rfl⟩ ⟨Nat.le_refl 0, Nat.le_refl 0⟩ rfl rfl (Nat.le_of_ble_eq_true rfl) dX4_pivots_39 rfl ?_
    refine v_if_eq 45 63 X dX4_pivots_42 rfl (by decide) (fun h42 => ?_) (fun h42 => ?_)
    · replace hF := ifp h42 hF
      refine v_iconst (v := 0) 64 X dX4_pivots_63 rfl ki_0 ?_
      refine v_iadd 65 X dX4_pivots_64 rfl ?_
      refine v_istore_n 66 [(1, .int (v1 + 0)), (0, .ref (a 0)), (2, .int v2)] X dX4_pivots_65 rfl rfl (by decide) rfl ?_
      refine v_iinc (v := (v2 + 1)) 69 [(2, .int (v2 + 1)), (1, .int (v1 + 0)), (0, .ref (a 0))] X 2 dX4_pivots_66 rfl rfl (by rfl) (by decide) rfl ?_
      refine v_goto 22 X dX4_pivots_69 (by decide) ?_
      obtain rfl := Option.some.inj hF
      exact v_lv [2, 1, 0] rfl (hI _ rfl)
    · replace hF := ifn h42 hF
      refine v_aload_n 46 X 0 dX4_pivots_45 rfl rfl rfl ?_
      refine v_aload_n 47 X 0 dX4_pivots_46 rfl rfl rfl ?_
      refine v_get 50 X in_X4 0 0 rfl rfl (by decide) q1172 rfl rfl dX4_pivots_47 rfl ?_
      refine v_iconst (v := 3) 51 X dX4_pivots_50 rfl ki_3 ?_
      obtain ⟨z51, hz51, hF⟩ := ob hF
      refine v_iald 52 X 1 hz51 rfl dX4_pivots_51 rfl ?_
      refine v_iload_n 53 X 2 dX4_pivots_52 rfl rfl rfl ?_
      obtain ⟨z53, hz53, hF⟩ := ob hF
      refine v_mVi 56 X 2 [.int z51, .int v2] (w_X4_spans z51 v2 _ hz53) q1429 q1431 qs68 q95 q1432 hdX4_spans 0 rfl rfl pass_no ⟨rfl, rfl⟩ ⟨Nat.le_of_ble_eq_true rfl, Nat.le_of_ble_eq_true rfl⟩ ⟨Nat.le_refl 0, Nat.le_refl 0⟩ rfl rfl (Nat.le_of_ble_eq_true rfl) dX4_pivots_53 rfl ?_
      refine v_if_ne 59 63 X dX4_pivots_56 rfl (by decide) (fun h56 => ?_) (fun h56 => ?_)
      · replace hF := ifn h56 hF
        refine v_iconst (v := 0) 64 X dX4_pivots_63 rfl ki_0 ?_
        refine v_iadd 65 X dX4_pivots_64 rfl ?_
        refine v_istore_n 66 [(1, .int (v1 + 0)), (0, .ref (a 0)), (2, .int v2)] X dX4_pivots_65 rfl rfl (by decide) rfl ?_
        refine v_iinc (v := (v2 + 1)) 69 [(2, .int (v2 + 1)), (1, .int (v1 + 0)), (0, .ref (a 0))] X 2 dX4_pivots_66 rfl rfl (by rfl) (by decide) rfl ?_
        refine v_goto 22 X dX4_pivots_69 (by decide) ?_
        obtain rfl := Option.some.inj hF
        exact v_lv [2, 1, 0] rfl (hI _ rfl)
      · replace hF := ifp h56 hF
        refine v_iconst (v := 1) 60 X dX4_pivots_59 rfl ki_1 ?_
        refine v_goto 64 X dX4_pivots_60 (by decide) ?_
        refine v_iadd 65 X dX4_pivots_64 rfl ?_
        refine v_istore_n 66 [(1, .int (v1 + 1)), (0, .ref (a 0)), (2, .int v2)] X dX4_pivots_65 rfl rfl (by decide) rfl ?_
        refine v_iinc (v := (v2 + 1)) 69 [(2, .int (v2 + 1)), (1, .int (v1 + 1)), (0, .ref (a 0))] X 2 dX4_pivots_66 rfl rfl (by rfl) (by decide) rfl ?_
        refine v_goto 22 X dX4_pivots_69 (by decide) ?_
        obtain rfl := Option.some.inj hF
        exact v_lv [2, 1, 0] rfl (hI _ rfl)
theorem w_X4_pivots (r : Int32 × (Nat → Int32) × (Nat → Int32) × Int32) (hF : M_pivots now queue isMet met = some r) : CTi l yX4_pivots cX4_pivots 3 (Option.some Jvm.ClassFile.FieldType.int) rmX4_pivots D (MW D a now past kept text queue isMet clusterOf fresh saved length met clusters frm ende wrong) [.ref (a 0)] NoX (fun r1 u => r1 = r.1 ∧ u = (MW D a now past kept text r.2.1 r.2.2.1 clusterOf fresh saved length r.2.2.2 clusters frm ende wrong)) := by
  refine m_i (by decide) (Nat.le_of_ble_eq_true rfl) ?_
  intro p e s m args below meth c A B
  obtain ⟨X, hr, -, -, -, -⟩ := B
  replace X : CX p s m args meth c D A cX4_pivots 3 "DyeLatticeModel" := X
  refine v_lv (lv' := [(0, .ref (a 0))]) [0] rfl ?_
  unfold M_pivots at hF
  refine v_aload_n 1 X 0 dX4_pivots_0 rfl rfl rfl ?_
  refine v_aload_n 2 X 0 dX4_pivots_1 rfl rfl rfl ?_
  refine v_get 5 X in_X4 0 0 rfl rfl (by decide) q1172 rfl rfl dX4_pivots_2 rfl ?_
  refine v_iconst (v := 3) 6 X dX4_pivots_5 rfl ki_3 ?_
  obtain ⟨z6, hz6, hF⟩ := ob hF
  refine v_iald 7 X 1 hz6 rfl dX4_pivots_6 rfl ?_
  refine v_bipush (v := (-9)) 9 X dX4_pivots_7 rfl kb_m9 ?_
  obtain ⟨z9, hz9, hF⟩ := ob hF
  refine v_mVi 12 X 2 [.int z6, .int (-9)] (w_X4_spans z6 (-9) _ hz9) q1429 q1431 qs68 q95 q1432 hdX4_spans 0 rfl rfl pass_no ⟨rfl, rfl⟩ ⟨Nat.le_of_ble_eq_true rfl, Nat.le_of_ble_eq_true rfl⟩ ⟨Nat.le_refl 0, Nat.le_refl 0⟩ rfl rfl (Nat.le_of_ble_eq_true rfl) dX4_pivots_9 rfl ?_
  refine v_if_ne 15 18 X dX4_pivots_12 rfl (by decide) (fun h12 => ?_) (fun h12 => ?_)
  · replace hF := ifn h12 hF
    refine v_iconst (v := 0) 19 X dX4_pivots_18 rfl ki_0 ?_
    refine v_istore_n 20 [(1, .int 0), (0, .ref (a 0))] X dX4_pivots_19 rfl rfl (by decide) rfl ?_
    refine v_iconst (v := 0) 21 X dX4_pivots_20 rfl ki_0 ?_
    refine v_istore_n 22 [(2, .int 0), (1, .int 0), (0, .ref (a 0))] X dX4_pivots_21 rfl rfl (by decide) rfl ?_
    obtain ⟨z22, hz22, hF⟩ := ob hF
    refine v_lv [2, 1, 0] rfl (w_X4_pivots_22 X _ (0, 0, z9.2.1, z9.2.2.1, z9.2.2.2) _ hz22 ?_)
    refine v_iload_n 73 X 0 dX4_pivots_72 rfl rfl rfl ?_
    obtain rfl := Option.some.inj hF
    exact v_iret X hr ⟨rfl, rfl⟩ (Nat.zero_le _) (Nat.zero_le _) dX4_pivots_73
  · replace hF := ifp h12 hF
    refine v_bipush (v := (-2)) 17 X dX4_pivots_15 rfl kb_m2 ?_
    obtain rfl := Option.some.inj hF
    exact v_iret X hr ⟨rfl, rfl⟩ (Nat.zero_le _) (Nat.zero_le _) dX4_pivots_17
theorem w_X4_bestValve_10 (X : CX p s m args meth c D A cX4_bestValve 5 "DyeLatticeModel") : ∀ (n : Nat) (x : Int32 × Int32 × Int32 × (Nat → Int32) × (Nat → Int32) × (Nat → Int32) × Int32) (o : (Int32 × (Nat → Int32) × (Nat → Int32) × (Nat → Int32) × Int32)), loopN (fun x => M_bestValve_10 x.1 x.2.1 x.2.2.1 x.2.2.2.1 x.2.2.2.2.1 x.2.2.2.2.2.1 x.2.2.2.2.2.2) n x = some o → (V p l e rmX4_bestValve s m args below meth c D A 5 Q (MW D a o.2.1 past kept text o.2.2.1 o.2.2.2.1 clusterOf fresh saved length o.2.2.2.2 clusters frm ende wrong) 0 0 105 [(1, .int o.1)] []) → V p l e rmX4_bestValve s m args below meth c D A 5 Q (MW D a x.2.2.2.1 past kept text x.2.2.2.2.1 x.2.2.2.2.2.1 clusterOf fresh saved length x.2.2.2.2.2.2 clusters frm ende wrong) 0 0 10 [(0, .ref (a 0)), (1, .int x.1), (2, .int x.2.1), (3, .int x.2.2.1)] [] := by
  refine v_loop (fun (x : Int32 × Int32 × Int32 × (Nat → Int32) × (Nat → Int32) × (Nat → Int32) × Int32) => V p l e rmX4_bestValve s m args below meth c D A 5 Q (MW D a x.2.2.2.1 past kept text x.2.2.2.2.1 x.2.2.2.2.2.1 clusterOf fresh saved length x.2.2.2.2.2.2 clusters frm ende wrong) 0 0 10 [(0, .ref (a 0)), (1, .int x.1), (2, .int x.2.1), (3, .int x.2.2.1)] []) (fun (o : (Int32 × (Nat → Int32) × (Nat → Int32) × (Nat → Int32) × Int32)) => V p l e rmX4_bestValve s m args below meth c D A 5 Q (MW D a o.2.1 past kept text o.2.2.1 o.2.2.2.1 clusterOf fresh saved length o.2.2.2.2 clusters frm ende wrong) 0 0 105 [(1, .int o.1)] []) ?_
  rintro ⟨v1, v2, v3, now, queue, isMet, met⟩ r hF hI hO
  replace hF : M_bestValve_10 v1 v2 v3 now queue isMet met = some r := hF
  show V p l e rmX4_bestValve s m args below meth c D A 5 Q (MW D a now past kept text queue isMet clusterOf fresh saved length met clusters frm ende wrong) 0 0 10 [(0, .ref (a 0)), (1, .int v1), (2, .int v2), (3, .int v3)] []
  unfold M_bestValve_10 at hF
  refine v_iload_n 11 X 3 dX4_bestValve_10 rfl rfl rfl ?_
  refine v_iconst (v := 4) 12 X dX4_bestValve_11 rfl ki_4 ?_
  refine v_aload_n 13 X 0 dX4_bestValve_12 rfl rfl rfl ?_
  obtain ⟨z13, hz13, hF⟩ := ob hF
  refine v_mVi 16 X 0 [] (w_X4_cells _ hz13) q1233 q1235 qs38 q95 q1236 hdX4_cells 0 rfl rfl pass_no ⟨rfl, rfl⟩ ⟨Nat.le_of_ble_eq_true rfl, Nat.le_of_ble_eq_true rfl⟩ ⟨Nat.le_refl 0, Nat.le_refl 0⟩ rfl rfl (Nat.le_of_ble_eq_true rfl) dX4_bestValve_13 rfl ?_
  refine v_imul 17 X dX4_bestValve_16 rfl ?_
  refine v_icmp_ge 20 105 X dX4_bestValve_17 rfl (by decide) (fun h17 => ?_) (fun h17 => ?_)
  · replace hF := ifp h17 hF
    obtain rfl := Option.some.inj hF
    exact v_lv [1] rfl (hO _ rfl)
  · replace hF := ifn h17 hF
    refine v_aload_n 21 X 0 dX4_bestValve_20 rfl rfl rfl ?_
    refine v_iload_n 22 X 3 dX4_bestValve_21 rfl rfl rfl ?_
    refine v_iconst (v := 4) 23 X dX4_bestValve_22 rfl ki_4 ?_
    obtain ⟨z23, hz23, hF⟩ := ob hF
    refine v_idiv 24 X hz23 dX4_bestValve_23 rfl ?_
    refine v_iload_n 25 X 3 dX4_bestValve_24 rfl rfl rfl ?_
    refine v_iconst (v := 4) 26 X dX4_bestValve_25 rfl ki_4 ?_
    obtain ⟨z26, hz26, hF⟩ := ob hF
    refine v_irem 27 X hz26 dX4_bestValve_26 rfl ?_
    obtain ⟨z27, hz27, hF⟩ := ob hF
    refine v_mVi 30 X 2 [.int z23, .int z26] (w_X4_second z23 z26 _ hz27) q1249 q1251 qs41 q95 q1252 hdX4_second 0 rfl rfl pass_no ⟨rfl, rfl⟩ ⟨Nat.le_of_ble_eq_true rfl, Nat.le_of_ble_eq_true rfl⟩ ⟨Nat.le_refl 0, Nat.le_refl 0⟩ rfl rfl (Nat.le_of_ble_eq_true rfl) dX4_bestValve_27 rfl ?_
    refine v_bipush (v := (-9)) 32 X dX4_bestValve_30 rfl kb_m9 ?_
    refine v_icmp_eq 35 99 X dX4_bestValve_32 rfl (by decide) (fun h32 => ?_) (fun h32 => ?_)
    · replace hF := ifp h32 hF
      refine v_iinc (v := (v3 + 1)) 102 [(3, .int (v3 + 1)), (0, .ref (a 0)), (1, .int v1), (2, .int v2)] X 3 dX4_bestValve_99 rfl rfl (by rfl) (by decide) rfl ?_
      refine v_goto 10 X dX4_bestValve_102 (by decide) ?_
      obtain rfl := Option.some.inj hF
      exact v_lv [1, 2, 3, 0] rfl (hI _ rfl)
    · replace hF := ifn h32 hF
      refine v_aload_n 36 X 0 dX4_bestValve_35 rfl rfl rfl ?_
      refine v_get 39 X in_X4 0 0 rfl rfl (by decide) q1172 rfl rfl dX4_bestValve_36 rfl ?_
      refine v_bipush (v := 87) 41 X dX4_bestValve_39 rfl kb_87 ?_
      refine v_iload_n 42 X 3 dX4_bestValve_41 rfl rfl rfl ?_
      refine v_iadd 43 X dX4_bestValve_42 rfl ?_
      obtain ⟨z43, hz43, hF⟩ := ob hF
      refine v_iald 44 X 1 hz43 rfl dX4_bestValve_43 rfl ?_
      refine v_iconst (v := 1) 45 X dX4_bestValve_44 rfl ki_1 ?_
      refine v_icmp_ne 48 99 X dX4_bestValve_45 rfl (by decide) (fun h45 => ?_) (fun h45 => ?_)
      · replace hF := ifn h45 hF
        refine v_iinc (v := (v3 + 1)) 102 [(3, .int (v3 + 1)), (0, .ref (a 0)), (1, .int v1), (2, .int v2)] X 3 dX4_bestValve_99 rfl rfl (by rfl) (by decide) rfl ?_
        refine v_goto 10 X dX4_bestValve_102 (by decide) ?_
        obtain rfl := Option.some.inj hF
        exact v_lv [1, 2, 3, 0] rfl (hI _ rfl)
      · replace hF := ifp h45 hF
        refine v_aload_n 49 X 0 dX4_bestValve_48 rfl rfl rfl ?_
        refine v_get 52 X in_X4 0 0 rfl rfl (by decide) q1172 rfl rfl dX4_bestValve_49 rfl ?_
        refine v_bipush (v := 87) 54 X dX4_bestValve_52 rfl kb_87 ?_
        refine v_iload_n 55 X 3 dX4_bestValve_54 rfl rfl rfl ?_
        refine v_iadd 56 X dX4_bestValve_55 rfl ?_
        refine v_iconst (v := 0) 57 X dX4_bestValve_56 rfl ki_0 ?_
        obtain ⟨z57, hz57, hF⟩ := ob hF
        refine v_iast 58 (MW D a z57 past kept text queue isMet clusterOf fresh saved length met clusters frm ende wrong) X 1 hz57 rfl dX4_bestValve_57 rfl rfl ?_
        refine v_aload_n 59 X 0 dX4_bestValve_58 rfl rfl rfl ?_
        obtain ⟨z59, hz59, hF⟩ := ob hF
        refine v_mVi 62 X 0 [] (w_X4_smallest _ hz59) q1437 q1439 qs69 q95 q1440 hdX4_smallest 0 rfl rfl pass_no ⟨rfl, rfl⟩ ⟨Nat.le_of_ble_eq_true rfl, Nat.le_of_ble_eq_true rfl⟩ ⟨Nat.le_refl 0, Nat.le_refl 0⟩ rfl rfl (Nat.le_of_ble_eq_true rfl) dX4_bestValve_59 rfl ?_
        refine v_istore 64 [(4, .int z59.1), (0, .ref (a 0)), (1, .int v1), (2, .int v2), (3, .int v3)] X dX4_bestValve_62 rfl (by decide) rfl ?_
        refine v_aload_n 65 X 1 dX4_bestValve_64 rfl rfl rfl ?_
        refine v_get 68 X in_X4 0 0 rfl rfl (by decide) q1172 rfl rfl dX4_bestValve_65 rfl ?_
        refine v_bipush (v := 87) 70 X dX4_bestValve_68 rfl kb_87 ?_
        refine v_iload_n 71 X 4 dX4_bestValve_70 rfl rfl rfl ?_
        refine v_iadd 72 X dX4_bestValve_71 rfl ?_
        refine v_iconst (v := 1) 73 X dX4_bestValve_72 rfl ki_1 ?_
        obtain ⟨z73, hz73, hF⟩ := ob hF
        refine v_iast 74 (MW D a z73 past kept text z59.2.1 z59.2.2.1 clusterOf fresh saved length z59.2.2.2 clusters frm ende wrong) X 1 hz73 rfl dX4_bestValve_73 rfl rfl ?_
        refine v_iload 76 X 0 dX4_bestValve_74 rfl rfl ?_
        refine v_iload_n 77 X 3 dX4_bestValve_76 rfl rfl rfl ?_
        refine v_icmp_ge 80 84 X dX4_bestValve_77 rfl (by decide) (fun h77 => ?_) (fun h77 => ?_)
        · replace hF := ifp h77 hF
          refine v_iload_n 85 X 2 dX4_bestValve_84 rfl rfl rfl ?_
          refine v_istore_n 86 [(1, .int v1), (4, .int z59.1), (0, .ref (a 0)), (2, .int v2), (3, .int v3)] X dX4_bestValve_85 rfl rfl (by decide) rfl ?_
          refine v_iload 88 X 1 dX4_bestValve_86 rfl rfl ?_
          refine v_iload_n 89 X 3 dX4_bestValve_88 rfl rfl rfl ?_
          refine v_icmp_ge 92 97 X dX4_bestValve_89 rfl (by decide) (fun h89 => ?_) (fun h89 => ?_)
          · replace hF := ifp h89 hF
            refine v_iload_n 98 X 3 dX4_bestValve_97 rfl rfl rfl ?_
            refine v_istore_n 99 [(2, .int v2), (1, .int v1), (4, .int z59.1), (0, .ref (a 0)), (3, .int v3)] X dX4_bestValve_98 rfl rfl (by decide) rfl ?_
            refine v_iinc (v := (v3 + 1)) 102 [(3, .int (v3 + 1)), (2, .int v2), (1, .int v1), (4, .int z59.1), (0, .ref (a 0))] X 4 dX4_bestValve_99 rfl rfl (by rfl) (by decide) rfl ?_
            refine v_goto 10 X dX4_bestValve_102 (by decide) ?_
            obtain rfl := Option.some.inj hF
            exact v_lv [4, 2, 1, 0] rfl (hI _ rfl)
          · replace hF := ifn h89 hF
            refine v_iload 94 X 1 dX4_bestValve_92 rfl rfl ?_
            refine v_goto 98 X dX4_bestValve_94 (by decide) ?_
            refine v_istore_n 99 [(2, .int z59.1), (1, .int v1), (4, .int z59.1), (0, .ref (a 0)), (3, .int v3)] X dX4_bestValve_98 rfl rfl (by decide) rfl ?_
            refine v_iinc (v := (v3 + 1)) 102 [(3, .int (v3 + 1)), (2, .int z59.1), (1, .int v1), (4, .int z59.1), (0, .ref (a 0))] X 4 dX4_bestValve_99 rfl rfl (by rfl) (by decide) rfl ?_
            refine v_goto 10 X dX4_bestValve_102 (by decide) ?_
            obtain rfl := Option.some.inj hF
            exact v_lv [4, 2, 1, 0] rfl (hI _ rfl)
        · replace hF := ifn h77 hF
          refine v_iload_n 81 X 4 dX4_bestValve_80 rfl rfl rfl ?_
          refine v_goto 85 X dX4_bestValve_81 (by decide) ?_
          refine v_istore_n 86 [(1, .int v3), (4, .int z59.1), (0, .ref (a 0)), (2, .int v2), (3, .int v3)] X dX4_bestValve_85 rfl rfl (by decide) rfl ?_
          refine v_iload 88 X 1 dX4_bestValve_86 rfl rfl ?_
          refine v_iload_n 89 X 3 dX4_bestValve_88 rfl rfl rfl ?_
          refine v_icmp_ge 92 97 X dX4_bestValve_89 rfl (by decide) (fun h89 => ?_) (fun h89 => ?_)
          · replace hF := ifp h89 hF
            refine v_iload_n 98 X 3 dX4_bestValve_97 rfl rfl rfl ?_
            refine v_istore_n 99 [(2, .int v2), (1, .int v3), (4, .int z59.1), (0, .ref (a 0)), (3, .int v3)] X dX4_bestValve_98 rfl rfl (by decide) rfl ?_
            refine v_iinc (v := (v3 + 1)) 102 [(3, .int (v3 + 1)), (2, .int v2), (1, .int v3), (4, .int z59.1), (0, .ref (a 0))] X 4 dX4_bestValve_99 rfl rfl (by rfl) (by decide) rfl ?_
            refine v_goto 10 X dX4_bestValve_102 (by decide) ?_
            obtain rfl := Option.some.inj hF
            exact v_lv [4, 2, 1, 0] rfl (hI _ rfl)
          · replace hF := ifn h89 hF
            refine v_iload 94 X 1 dX4_bestValve_92 rfl rfl ?_
            refine v_goto 98 X dX4_bestValve_94 (by decide) ?_
            refine v_istore_n 99 [(2, .int z59.1), (1, .int v3), (4, .int z59.1), (0, .ref (a 0)), (3, .int v3)] X dX4_bestValve_98 rfl rfl (by decide) rfl ?_
            refine v_iinc (v := (v3 + 1)) 102 [(3, .int (v3 + 1)), (2, .int z59.1), (1, .int v3), (4, .int z59.1), (0, .ref (a 0))] X 4 dX4_bestValve_99 rfl rfl (by rfl) (by decide) rfl ?_
            refine v_goto 10 X dX4_bestValve_102 (by decide) ?_
            obtain rfl := Option.some.inj hF
            exact v_lv [4, 2, 1, 0] rfl (hI _ rfl)
theorem w_X4_bestValve (r : Int32 × (Nat → Int32) × (Nat → Int32) × (Nat → Int32) × Int32) (hF : M_bestValve now queue isMet met = some r) : CTi l yX4_bestValve cX4_bestValve 5 (Option.some Jvm.ClassFile.FieldType.int) rmX4_bestValve D (MW D a now past kept text queue isMet clusterOf fresh saved length met clusters frm ende wrong) [.ref (a 0)] NoX (fun r1 u => r1 = r.1 ∧ u = (MW D a r.2.1 past kept text r.2.2.1 r.2.2.2.1 clusterOf fresh saved length r.2.2.2.2 clusters frm ende wrong)) := by
  refine m_i (by decide) (Nat.le_of_ble_eq_true rfl) ?_
  intro p e s m args below meth c A B
  obtain ⟨X, hr, -, -, -, -⟩ := B
  replace X : CX p s m args meth c D A cX4_bestValve 5 "DyeLatticeModel" := X
  refine v_lv (lv' := [(0, .ref (a 0))]) [0] rfl ?_
  unfold M_bestValve at hF
  refine v_bipush (v := (-9)) 2 X dX4_bestValve_0 rfl kb_m9 ?_
  refine v_istore_n 3 [(1, .int (-9)), (0, .ref (a 0))] X dX4_bestValve_2 rfl rfl (by decide) rfl ?_
  refine v_aload_n 4 X 1 dX4_bestValve_3 rfl rfl rfl ?_
  obtain ⟨z4, hz4, hF⟩ := ob hF
  refine v_mVi 7 X 0 [] (w_X4_smallest _ hz4) q1437 q1439 qs69 q95 q1440 hdX4_smallest 0 rfl rfl pass_no ⟨rfl, rfl⟩ ⟨Nat.le_of_ble_eq_true rfl, Nat.le_of_ble_eq_true rfl⟩ ⟨Nat.le_refl 0, Nat.le_refl 0⟩ rfl rfl (Nat.le_of_ble_eq_true rfl) dX4_bestValve_4 rfl ?_
  refine v_istore_n 8 [(2, .int z4.1), (1, .int (-9)), (0, .ref (a 0))] X dX4_bestValve_7 rfl rfl (by decide) rfl ?_
  refine v_iconst (v := 0) 9 X dX4_bestValve_8 rfl ki_0 ?_
  refine v_istore_n 10 [(3, .int 0), (2, .int z4.1), (1, .int (-9)), (0, .ref (a 0))] X dX4_bestValve_9 rfl rfl (by decide) rfl ?_
  obtain ⟨z10, hz10, hF⟩ := ob hF
  refine v_lv [3, 2, 1, 0] rfl (w_X4_bestValve_10 X _ ((-9), z4.1, 0, now, z4.2.1, z4.2.2.1, z4.2.2.2) _ hz10 ?_)
  refine v_iload_n 106 X 0 dX4_bestValve_105 rfl rfl rfl ?_
  obtain rfl := Option.some.inj hF
  exact v_iret X hr ⟨rfl, rfl⟩ (Nat.zero_le _) (Nat.zero_le _) dX4_bestValve_106
theorem w_X4_append (v1 : Int32) (r : Int32 × (Nat → Int32) × Int32) (hF : M_append text length v1 = some r) : CTi l yX4_append cX4_append 2 (Option.some Jvm.ClassFile.FieldType.int) rmX4_append D (MW D a now past kept text queue isMet clusterOf fresh saved length met clusters frm ende wrong) [.ref (a 0), .int v1] NoX (fun r1 u => r1 = r.1 ∧ u = (MW D a now past kept r.2.1 queue isMet clusterOf fresh saved r.2.2 met clusters frm ende wrong)) := by
  refine m_i (by decide) (Nat.le_of_ble_eq_true rfl) ?_
  intro p e s m args below meth c A B
  obtain ⟨X, hr, -, -, -, -⟩ := B
  replace X : CX p s m args meth c D A cX4_append 2 "DyeLatticeModel" := X
  refine v_lv (lv' := [(0, .ref (a 0)), (1, .int v1)]) [0, 1] rfl ?_
  unfold M_append at hF
  refine v_iload_n 1 X 1 dX4_append_0 rfl rfl rfl ?_
  refine v_iconst (v := 1) 2 X dX4_append_1 rfl ki_1 ?_
  refine v_sipush (v := 255) 5 X dX4_append_2 rfl ks_255 ?_
  obtain ⟨z5, hz5, hF⟩ := ob hF
  refine v_mSi 8 X 3 [.int v1, .int 1, .int 255] (w_X4_within v1 1 255 _ hz5) q1226 q1227 q95 q1228 hdX4_within pass_no ⟨rfl, rfl⟩ ⟨Nat.le_of_ble_eq_true rfl, Nat.le_of_ble_eq_true rfl⟩ ⟨Nat.le_refl 0, Nat.le_refl 0⟩ rfl rfl (Nat.le_of_ble_eq_true rfl) dX4_append_5 rfl ?_
  refine v_if_ne 11 13 X dX4_append_8 rfl (by decide) (fun h8 => ?_) (fun h8 => ?_)
  · replace hF := ifn h8 hF
    refine v_aload_n 14 X 0 dX4_append_13 rfl rfl rfl ?_
    refine v_get 17 X in_X4 0 5 rfl rfl (by decide) q1177 rfl rfl dX4_append_14 rfl ?_
    refine v_bipush (v := 120) 19 X dX4_append_17 rfl kb_120 ?_
    refine v_icmp_ne 22 25 X dX4_append_19 rfl (by decide) (fun h19 => ?_) (fun h19 => ?_)
    · replace hF := ifn h19 hF
      refine v_aload_n 26 X 0 dX4_append_25 rfl rfl rfl ?_
      refine v_get 29 X in_X4 0 4 rfl rfl (by decide) q1176 rfl rfl dX4_append_26 rfl ?_
      refine v_aload_n 30 X 0 dX4_append_29 rfl rfl rfl ?_
      refine v_get 33 X in_X4 0 5 rfl rfl (by decide) q1177 rfl rfl dX4_append_30 rfl ?_
      refine v_iload_n 34 X 1 dX4_append_33 rfl rfl rfl ?_
      obtain ⟨z34, hz34, hF⟩ := ob hF
      refine v_iast 35 (MW D a now past kept z34 queue isMet clusterOf fresh saved length met clusters frm ende wrong) X 4 hz34 rfl dX4_append_34 rfl rfl ?_
      refine v_aload_n 36 X 0 dX4_append_35 rfl rfl rfl ?_
      refine v_dup 37 X dX4_append_36 rfl rfl ?_
      refine v_get 40 X in_X4 0 5 rfl rfl (by decide) q1177 rfl rfl dX4_append_37 rfl ?_
      refine v_iconst (v := 1) 41 X dX4_append_40 rfl ki_1 ?_
      refine v_iadd 42 X dX4_append_41 rfl ?_
      refine v_put 45 (MW D a now past kept z34 queue isMet clusterOf fresh saved (length + 1) met clusters frm ende wrong) X in_X4 tyX4_ok nmX4 0 5 rfl rfl (by decide) q1177 rfl rfl rfl rfl rfl (Nat.le_of_ble_eq_true rfl) dX4_append_42 rfl rfl ?_
      refine v_aload_n 46 X 0 dX4_append_45 rfl rfl rfl ?_
      refine v_get 49 X in_X4 0 5 rfl rfl (by decide) q1177 rfl rfl dX4_append_46 rfl ?_
      obtain rfl := Option.some.inj hF
      exact v_iret X hr ⟨rfl, rfl⟩ (Nat.zero_le _) (Nat.zero_le _) dX4_append_49
    · replace hF := ifp h19 hF
      refine v_bipush (v := (-3)) 24 X dX4_append_22 rfl kb_m3 ?_
      obtain rfl := Option.some.inj hF
      exact v_iret X hr ⟨rfl, rfl⟩ (Nat.zero_le _) (Nat.zero_le _) dX4_append_24
  · replace hF := ifp h8 hF
    refine v_iconst (v := (-1)) 12 X dX4_append_11 rfl ki_m1 ?_
    obtain rfl := Option.some.inj hF
    exact v_iret X hr ⟨rfl, rfl⟩ (Nat.zero_le _) (Nat.zero_le _) dX4_append_12
theorem w_X4_clearText (r : Int32 × Int32) (hF : M_clearText length = some r) : CTi l yX4_clearText cX4_clearText 2 (Option.some Jvm.ClassFile.FieldType.int) rmX4_clearText D (MW D a now past kept text queue isMet clusterOf fresh saved length met clusters frm ende wrong) [.ref (a 0)] NoX (fun r1 u => r1 = r.1 ∧ u = (MW D a now past kept text queue isMet clusterOf fresh saved r.2 met clusters frm ende wrong)) := by
  refine m_i (by decide) (Nat.le_of_ble_eq_true rfl) ?_
  intro p e s m args below meth c A B
  obtain ⟨X, hr, -, -, -, -⟩ := B
  replace X : CX p s m args meth c D A cX4_clearText 2 "DyeLatticeModel" := X
  refine v_lv (lv' := [(0, .ref (a 0))]) [0] rfl ?_
  unfold M_clearText at hF
  refine v_aload_n 1 X 0 dX4_clearText_0 rfl rfl rfl ?_
  refine v_get 4 X in_X4 0 5 rfl rfl (by decide) q1177 rfl rfl dX4_clearText_1 rfl ?_
  refine v_istore_n 5 [(1, .int length), (0, .ref (a 0))] X dX4_clearText_4 rfl rfl (by decide) rfl ?_
  refine v_aload_n 6 X 1 dX4_clearText_5 rfl rfl rfl ?_
  refine v_iconst (v := 0) 7 X dX4_clearText_6 rfl ki_0 ?_
  refine v_put 10 (MW D a now past kept text queue isMet clusterOf fresh saved 0 met clusters frm ende wrong) X in_X4 tyX4_ok nmX4 0 5 rfl rfl (by decide) q1177 rfl rfl rfl rfl rfl (Nat.le_of_ble_eq_true rfl) dX4_clearText_7 rfl rfl ?_
  refine v_iload_n 11 X 0 dX4_clearText_10 rfl rfl rfl ?_
  obtain rfl := Option.some.inj hF
  exact v_iret X hr ⟨rfl, rfl⟩ (Nat.zero_le _) (Nat.zero_le _) dX4_clearText_11
theorem w_X4_isLetter (v0 : Int32) (r : Int32) (hF : M_isLetter v0 = some r) : CTi l yX4_isLetter cX4_isLetter 1 (Option.some Jvm.ClassFile.FieldType.boolean) rmX4_isLetter D (MW D a now past kept text queue isMet clusterOf fresh saved length met clusters frm ende wrong) [.int v0] NoX (fun r1 u => r1 = r ∧ u = (MW D a now past kept text queue isMet clusterOf fresh saved length met clusters frm ende wrong)) := by
  refine m_i (by decide) (Nat.le_of_ble_eq_true rfl) ?_
  intro p e s m args below meth c A B
  obtain ⟨X, hr, -, -, -, -⟩ := B
  replace X : CX p s m args meth c D A cX4_isLetter 1 "DyeLatticeModel" := X
  refine v_lv (lv' := [(0, .int v0)]) [0] rfl ?_
  unfold M_isLetter at hF
  refine v_iload_n 1 X 0 dX4_isLetter_0 rfl rfl rfl ?_
  refine v_bipush (v := 97) 3 X dX4_isLetter_1 rfl kb_97 ?_
  refine v_bipush (v := 122) 5 X dX4_isLetter_3 rfl kb_122 ?_
  obtain ⟨z5, hz5, hF⟩ := ob hF
  refine v_mSi 8 X 3 [.int v0, .int 97, .int 122] (w_X4_within v0 97 122 _ hz5) q1226 q1227 q95 q1228 hdX4_within pass_no ⟨rfl, rfl⟩ ⟨Nat.le_of_ble_eq_true rfl, Nat.le_of_ble_eq_true rfl⟩ ⟨Nat.le_refl 0, Nat.le_refl 0⟩ rfl rfl (Nat.le_of_ble_eq_true rfl) dX4_isLetter_5 rfl ?_
  obtain ⟨z8, hz8, hF⟩ := ob hF
  refine v_topi (zck_s hz8).1 ?_
  obtain rfl := Option.some.inj hF
  exact v_zret X hr (zck_s hz8).2.1 ⟨rfl, rfl⟩ (Nat.zero_le _) (Nat.zero_le _) dX4_isLetter_8
theorem w_X4_isDigit (v0 : Int32) (r : Int32) (hF : M_isDigit v0 = some r) : CTi l yX4_isDigit cX4_isDigit 1 (Option.some Jvm.ClassFile.FieldType.boolean) rmX4_isDigit D (MW D a now past kept text queue isMet clusterOf fresh saved length met clusters frm ende wrong) [.int v0] NoX (fun r1 u => r1 = r ∧ u = (MW D a now past kept text queue isMet clusterOf fresh saved length met clusters frm ende wrong)) := by
  refine m_i (by decide) (Nat.le_of_ble_eq_true rfl) ?_
  intro p e s m args below meth c A B
  obtain ⟨X, hr, -, -, -, -⟩ := B
  replace X : CX p s m args meth c D A cX4_isDigit 1 "DyeLatticeModel" := X
  refine v_lv (lv' := [(0, .int v0)]) [0] rfl ?_
  unfold M_isDigit at hF
  refine v_iload_n 1 X 0 dX4_isDigit_0 rfl rfl rfl ?_
  refine v_bipush (v := 48) 3 X dX4_isDigit_1 rfl kb_48 ?_
  refine v_bipush (v := 57) 5 X dX4_isDigit_3 rfl kb_57 ?_
  obtain ⟨z5, hz5, hF⟩ := ob hF
  refine v_mSi 8 X 3 [.int v0, .int 48, .int 57] (w_X4_within v0 48 57 _ hz5) q1226 q1227 q95 q1228 hdX4_within pass_no ⟨rfl, rfl⟩ ⟨Nat.le_of_ble_eq_true rfl, Nat.le_of_ble_eq_true rfl⟩ ⟨Nat.le_refl 0, Nat.le_refl 0⟩ rfl rfl (Nat.le_of_ble_eq_true rfl) dX4_isDigit_5 rfl ?_
  obtain ⟨z8, hz8, hF⟩ := ob hF
  refine v_topi (zck_s hz8).1 ?_
  obtain rfl := Option.some.inj hF
  exact v_zret X hr (zck_s hz8).2.1 ⟨rfl, rfl⟩ (Nat.zero_le _) (Nat.zero_le _) dX4_isDigit_8
theorem w_X4_goes_8 (X : CX p s m args meth c D A cX4_goes 3 "DyeLatticeModel") : ∀ (n : Nat) (x : Int32) (o : (Int32)), loopN (fun x => M_goes_8 text length x) n x = some o → (V p l e rmX4_goes s m args below meth c D A 3 Q (MW D a now past kept text queue isMet clusterOf fresh saved length met clusters o ende wrong) 0 0 46 [(0, .ref (a 0))] []) → V p l e rmX4_goes s m args below meth c D A 3 Q (MW D a now past kept text queue isMet clusterOf fresh saved length met clusters x ende wrong) 0 0 8 [(0, .ref (a 0))] [] := by
  refine v_loop (fun (x : Int32) => V p l e rmX4_goes s m args below meth c D A 3 Q (MW D a now past kept text queue isMet clusterOf fresh saved length met clusters x ende wrong) 0 0 8 [(0, .ref (a 0))] []) (fun (o : (Int32)) => V p l e rmX4_goes s m args below meth c D A 3 Q (MW D a now past kept text queue isMet clusterOf fresh saved length met clusters o ende wrong) 0 0 46 [(0, .ref (a 0))] []) ?_
  rintro frm r hF hI hO
  replace hF : M_goes_8 text length frm = some r := hF
  show V p l e rmX4_goes s m args below meth c D A 3 Q (MW D a now past kept text queue isMet clusterOf fresh saved length met clusters frm ende wrong) 0 0 8 [(0, .ref (a 0))] []
  unfold M_goes_8 at hF
  refine v_aload_n 9 X 0 dX4_goes_8 rfl rfl rfl ?_
  refine v_get 12 X in_X4 0 12 rfl rfl (by decide) q1184 rfl rfl dX4_goes_9 rfl ?_
  refine v_aload_n 13 X 0 dX4_goes_12 rfl rfl rfl ?_
  refine v_get 16 X in_X4 0 5 rfl rfl (by decide) q1177 rfl rfl dX4_goes_13 rfl ?_
  refine v_icmp_ge 19 46 X dX4_goes_16 rfl (by decide) (fun h16 => ?_) (fun h16 => ?_)
  · replace hF := ifp h16 hF
    obtain rfl := Option.some.inj hF
    exact v_lv [0] rfl (hO _ rfl)
  · replace hF := ifn h16 hF
    refine v_aload_n 20 X 0 dX4_goes_19 rfl rfl rfl ?_
    refine v_get 23 X in_X4 0 4 rfl rfl (by decide) q1176 rfl rfl dX4_goes_20 rfl ?_
    refine v_aload_n 24 X 0 dX4_goes_23 rfl rfl rfl ?_
    refine v_get 27 X in_X4 0 12 rfl rfl (by decide) q1184 rfl rfl dX4_goes_24 rfl ?_
    obtain ⟨z27, hz27, hF⟩ := ob hF
    refine v_iald 28 X 4 hz27 rfl dX4_goes_27 rfl ?_
    refine v_bipush (v := 32) 30 X dX4_goes_28 rfl kb_32 ?_
    refine v_icmp_ne 33 46 X dX4_goes_30 rfl (by decide) (fun h30 => ?_) (fun h30 => ?_)
    · replace hF := ifn h30 hF
      obtain rfl := Option.some.inj hF
      exact v_lv [0] rfl (hO _ rfl)
    · replace hF := ifp h30 hF
      refine v_aload_n 34 X 0 dX4_goes_33 rfl rfl rfl ?_
      refine v_dup 35 X dX4_goes_34 rfl rfl ?_
      refine v_get 38 X in_X4 0 12 rfl rfl (by decide) q1184 rfl rfl dX4_goes_35 rfl ?_
      refine v_iconst (v := 1) 39 X dX4_goes_38 rfl ki_1 ?_
      refine v_iadd 40 X dX4_goes_39 rfl ?_
      refine v_put 43 (MW D a now past kept text queue isMet clusterOf fresh saved length met clusters (frm + 1) ende wrong) X in_X4 tyX4_ok nmX4 0 12 rfl rfl (by decide) q1184 rfl rfl rfl rfl rfl (Nat.le_of_ble_eq_true rfl) dX4_goes_40 rfl rfl ?_
      refine v_goto 8 X dX4_goes_43 (by decide) ?_
      obtain rfl := Option.some.inj hF
      exact v_lv [0] rfl (hI _ rfl)
theorem w_X4_goes_103_j133 (X : CX p s m args meth c D A cX4_goes 3 "DyeLatticeModel") (v1 : Int32) (v2 : Int32) {r : (Int32) ⊕ (Int32)} (hI : ∀ y, r = .inl y → V p l e rmX4_goes s m args below meth c D A 3 Q (MW D a now past kept text queue isMet clusterOf fresh saved length met clusters frm y wrong) 0 0 103 [(0, .ref (a 0)), (1, .int v1), (2, .int v2)] []) (hO : ∀ y, r = .inr y → (V p l e rmX4_goes s m args below meth c D A 3 Q (MW D a now past kept text queue isMet clusterOf fresh saved length met clusters frm y wrong) 0 0 165 [] [])) (hF : M_goes_103_j133 text length ende v1 v2 = some r) : V p l e rmX4_goes s m args below meth c D A 3 Q (MW D a now past kept text queue isMet clusterOf fresh saved length met clusters frm ende wrong) 0 0 133 [(0, .ref (a 0)), (1, .int v1), (2, .int v2)] [] := by
  unfold M_goes_103_j133 at hF
  refine v_iload_n 134 X 2 dX4_goes_133 rfl rfl rfl ?_
  refine v_if_eq 137 165 X dX4_goes_134 rfl (by decide) (fun h134 => ?_) (fun h134 => ?_)
  · replace hF := ifp h134 hF
    obtain rfl := Option.some.inj hF
    exact v_lv [] rfl (hO _ rfl)
  · replace hF := ifn h134 hF
    refine v_aload_n 138 X 0 dX4_goes_137 rfl rfl rfl ?_
    refine v_get 141 X in_X4 0 4 rfl rfl (by decide) q1176 rfl rfl dX4_goes_138 rfl ?_
    refine v_aload_n 142 X 0 dX4_goes_141 rfl rfl rfl ?_
    refine v_get 145 X in_X4 0 13 rfl rfl (by decide) q1185 rfl rfl dX4_goes_142 rfl ?_
    obtain ⟨z145, hz145, hF⟩ := ob hF
    refine v_iald 146 X 4 hz145 rfl dX4_goes_145 rfl ?_
    obtain ⟨z146, hz146, hF⟩ := ob hF
    refine v_mSi 149 X 1 [.int z145] (w_X4_isDigit z145 _ hz146) q1480 q1481 q95 q1482 hdX4_isDigit pass_no ⟨rfl, rfl⟩ ⟨Nat.le_of_ble_eq_true rfl, Nat.le_of_ble_eq_true rfl⟩ ⟨Nat.le_refl 0, Nat.le_refl 0⟩ rfl rfl (Nat.le_of_ble_eq_true rfl) dX4_goes_146 rfl ?_
    refine v_if_eq 152 165 X dX4_goes_149 rfl (by decide) (fun h149 => ?_) (fun h149 => ?_)
    · replace hF := ifp h149 hF
      obtain rfl := Option.some.inj hF
      exact v_lv [] rfl (hO _ rfl)
    · replace hF := ifn h149 hF
      refine v_aload_n 153 X 0 dX4_goes_152 rfl rfl rfl ?_
      refine v_dup 154 X dX4_goes_153 rfl rfl ?_
      refine v_get 157 X in_X4 0 13 rfl rfl (by decide) q1185 rfl rfl dX4_goes_154 rfl ?_
      refine v_iconst (v := 1) 158 X dX4_goes_157 rfl ki_1 ?_
      refine v_iadd 159 X dX4_goes_158 rfl ?_
      refine v_put 162 (MW D a now past kept text queue isMet clusterOf fresh saved length met clusters frm (ende + 1) wrong) X in_X4 tyX4_ok nmX4 0 13 rfl rfl (by decide) q1185 rfl rfl rfl rfl rfl (Nat.le_of_ble_eq_true rfl) dX4_goes_159 rfl rfl ?_
      refine v_goto 103 X dX4_goes_162 (by decide) ?_
      obtain rfl := Option.some.inj hF
      exact v_lv [0, 1, 2] rfl (hI _ rfl)
theorem w_X4_goes_103 (X : CX p s m args meth c D A cX4_goes 3 "DyeLatticeModel") (v1 : Int32) (v2 : Int32) : ∀ (n : Nat) (x : Int32) (o : (Int32)), loopN (fun x => M_goes_103 v1 v2 text length x) n x = some o → (V p l e rmX4_goes s m args below meth c D A 3 Q (MW D a now past kept text queue isMet clusterOf fresh saved length met clusters frm o wrong) 0 0 165 [] []) → V p l e rmX4_goes s m args below meth c D A 3 Q (MW D a now past kept text queue isMet clusterOf fresh saved length met clusters frm x wrong) 0 0 103 [(0, .ref (a 0)), (1, .int v1), (2, .int v2)] [] := by
  refine v_loop (fun (x : Int32) => V p l e rmX4_goes s m args below meth c D A 3 Q (MW D a now past kept text queue isMet clusterOf fresh saved length met clusters frm x wrong) 0 0 103 [(0, .ref (a 0)), (1, .int v1), (2, .int v2)] []) (fun (o : (Int32)) => V p l e rmX4_goes s m args below meth c D A 3 Q (MW D a now past kept text queue isMet clusterOf fresh saved length met clusters frm o wrong) 0 0 165 [] []) ?_
  rintro ende r hF hI hO
  replace hF : M_goes_103 v1 v2 text length ende = some r := hF
  show V p l e rmX4_goes s m args below meth c D A 3 Q (MW D a now past kept text queue isMet clusterOf fresh saved length met clusters frm ende wrong) 0 0 103 [(0, .ref (a 0)), (1, .int v1), (2, .int v2)] []
  unfold M_goes_103 at hF
  refine v_aload_n 104 X 0 dX4_goes_103 rfl rfl rfl ?_
  refine v_get 107 X in_X4 0 13 rfl rfl (by decide) q1185 rfl rfl dX4_goes_104 rfl ?_
  refine v_aload_n 108 X 0 dX4_goes_107 rfl rfl rfl ?_
  refine v_get 111 X in_X4 0 5 rfl rfl (by decide) q1177 rfl rfl dX4_goes_108 rfl ?_
  refine v_icmp_ge 114 165 X dX4_goes_111 rfl (by decide) (fun h111 => ?_) (fun h111 => ?_)
  · replace hF := ifp h111 hF
    obtain rfl := Option.some.inj hF
    exact v_lv [] rfl (hO _ rfl)
  · replace hF := ifn h111 hF
    refine v_iload_n 115 X 1 dX4_goes_114 rfl rfl rfl ?_
    refine v_if_eq 118 133 X dX4_goes_115 rfl (by decide) (fun h115 => ?_) (fun h115 => ?_)
    · replace hF := ifp h115 hF
      exact v_lv [0, 1, 2] rfl (w_X4_goes_103_j133 X v1 v2 hI hO hF)
    · replace hF := ifn h115 hF
      refine v_aload_n 119 X 0 dX4_goes_118 rfl rfl rfl ?_
      refine v_get 122 X in_X4 0 4 rfl rfl (by decide) q1176 rfl rfl dX4_goes_119 rfl ?_
      refine v_aload_n 123 X 0 dX4_goes_122 rfl rfl rfl ?_
      refine v_get 126 X in_X4 0 13 rfl rfl (by decide) q1185 rfl rfl dX4_goes_123 rfl ?_
      obtain ⟨z126, hz126, hF⟩ := ob hF
      refine v_iald 127 X 4 hz126 rfl dX4_goes_126 rfl ?_
      obtain ⟨z127, hz127, hF⟩ := ob hF
      refine v_mSi 130 X 1 [.int z126] (w_X4_isLetter z126 _ hz127) q1477 q1478 q95 q1479 hdX4_isLetter pass_no ⟨rfl, rfl⟩ ⟨Nat.le_of_ble_eq_true rfl, Nat.le_of_ble_eq_true rfl⟩ ⟨Nat.le_refl 0, Nat.le_refl 0⟩ rfl rfl (Nat.le_of_ble_eq_true rfl) dX4_goes_127 rfl ?_
      refine v_if_ne 133 152 X dX4_goes_130 rfl (by decide) (fun h130 => ?_) (fun h130 => ?_)
      · replace hF := ifn h130 hF
        refine v_aload_n 153 X 0 dX4_goes_152 rfl rfl rfl ?_
        refine v_dup 154 X dX4_goes_153 rfl rfl ?_
        refine v_get 157 X in_X4 0 13 rfl rfl (by decide) q1185 rfl rfl dX4_goes_154 rfl ?_
        refine v_iconst (v := 1) 158 X dX4_goes_157 rfl ki_1 ?_
        refine v_iadd 159 X dX4_goes_158 rfl ?_
        refine v_put 162 (MW D a now past kept text queue isMet clusterOf fresh saved length met clusters frm (ende + 1) wrong) X in_X4 tyX4_ok nmX4 0 13 rfl rfl (by decide) q1185 rfl rfl rfl rfl rfl (Nat.le_of_ble_eq_true rfl) dX4_goes_159 rfl rfl ?_
        refine v_goto 103 X dX4_goes_162 (by decide) ?_
        obtain rfl := Option.some.inj hF
        exact v_lv [0, 1, 2] rfl (hI _ rfl)
      · replace hF := ifp h130 hF
        exact v_lv [0, 1, 2] rfl (w_X4_goes_103_j133 X v1 v2 hI hO hF)
theorem w_X4_goes (r : Int32 × Int32 × Int32) (hF : M_goes text length frm ende = some r) : CTi l yX4_goes cX4_goes 3 (Option.some Jvm.ClassFile.FieldType.boolean) rmX4_goes D (MW D a now past kept text queue isMet clusterOf fresh saved length met clusters frm ende wrong) [.ref (a 0)] NoX (fun r1 u => r1 = r.1 ∧ u = (MW D a now past kept text queue isMet clusterOf fresh saved length met clusters r.2.1 r.2.2 wrong)) := by
  refine m_i (by decide) (Nat.le_of_ble_eq_true rfl) ?_
  intro p e s m args below meth c A B
  obtain ⟨X, hr, -, -, -, -⟩ := B
  replace X : CX p s m args meth c D A cX4_goes 3 "DyeLatticeModel" := X
  refine v_lv (lv' := [(0, .ref (a 0))]) [0] rfl ?_
  unfold M_goes at hF
  refine v_aload_n 1 X 0 dX4_goes_0 rfl rfl rfl ?_
  refine v_aload_n 2 X 0 dX4_goes_1 rfl rfl rfl ?_
  refine v_get 5 X in_X4 0 13 rfl rfl (by decide) q1185 rfl rfl dX4_goes_2 rfl ?_
  refine v_put 8 (MW D a now past kept text queue isMet clusterOf fresh saved length met clusters ende ende wrong) X in_X4 tyX4_ok nmX4 0 12 rfl rfl (by decide) q1184 rfl rfl rfl rfl rfl (Nat.le_of_ble_eq_true rfl) dX4_goes_5 rfl rfl ?_
  obtain ⟨z8, hz8, hF⟩ := ob hF
  refine v_lv [0] rfl (w_X4_goes_8 X _ ende _ hz8 ?_)
  refine v_aload_n 47 X 0 dX4_goes_46 rfl rfl rfl ?_
  refine v_aload_n 48 X 0 dX4_goes_47 rfl rfl rfl ?_
  refine v_get 51 X in_X4 0 12 rfl rfl (by decide) q1184 rfl rfl dX4_goes_48 rfl ?_
  refine v_put 54 (MW D a now past kept text queue isMet clusterOf fresh saved length met clusters z8 z8 wrong) X in_X4 tyX4_ok nmX4 0 13 rfl rfl (by decide) q1185 rfl rfl rfl rfl rfl (Nat.le_of_ble_eq_true rfl) dX4_goes_51 rfl rfl ?_
  refine v_aload_n 55 X 0 dX4_goes_54 rfl rfl rfl ?_
  refine v_get 58 X in_X4 0 12 rfl rfl (by decide) q1184 rfl rfl dX4_goes_55 rfl ?_
  refine v_aload_n 59 X 0 dX4_goes_58 rfl rfl rfl ?_
  refine v_get 62 X in_X4 0 5 rfl rfl (by decide) q1177 rfl rfl dX4_goes_59 rfl ?_
  refine v_icmp_ne 65 67 X dX4_goes_62 rfl (by decide) (fun h62 => ?_) (fun h62 => ?_)
  · replace hF := ifn h62 hF
    refine v_aload_n 68 X 0 dX4_goes_67 rfl rfl rfl ?_
    refine v_get 71 X in_X4 0 4 rfl rfl (by decide) q1176 rfl rfl dX4_goes_68 rfl ?_
    refine v_aload_n 72 X 0 dX4_goes_71 rfl rfl rfl ?_
    refine v_get 75 X in_X4 0 12 rfl rfl (by decide) q1184 rfl rfl dX4_goes_72 rfl ?_
    obtain ⟨z75, hz75, hF⟩ := ob hF
    refine v_iald 76 X 4 hz75 rfl dX4_goes_75 rfl ?_
    obtain ⟨z76, hz76, hF⟩ := ob hF
    refine v_mSi 79 X 1 [.int z75] (w_X4_isLetter z75 _ hz76) q1477 q1478 q95 q1479 hdX4_isLetter pass_no ⟨rfl, rfl⟩ ⟨Nat.le_of_ble_eq_true rfl, Nat.le_of_ble_eq_true rfl⟩ ⟨Nat.le_refl 0, Nat.le_refl 0⟩ rfl rfl (Nat.le_of_ble_eq_true rfl) dX4_goes_76 rfl ?_
    refine v_istore_n 80 [(1, .int z76), (0, .ref (a 0))] X dX4_goes_79 rfl rfl (by decide) rfl ?_
    refine v_aload_n 81 X 1 dX4_goes_80 rfl rfl rfl ?_
    refine v_get 84 X in_X4 0 4 rfl rfl (by decide) q1176 rfl rfl dX4_goes_81 rfl ?_
    refine v_aload_n 85 X 1 dX4_goes_84 rfl rfl rfl ?_
    refine v_get 88 X in_X4 0 12 rfl rfl (by decide) q1184 rfl rfl dX4_goes_85 rfl ?_
    obtain ⟨z88, hz88, hF⟩ := ob hF
    refine v_iald 89 X 4 hz88 rfl dX4_goes_88 rfl ?_
    obtain ⟨z89, hz89, hF⟩ := ob hF
    refine v_mSi 92 X 1 [.int z88] (w_X4_isDigit z88 _ hz89) q1480 q1481 q95 q1482 hdX4_isDigit pass_no ⟨rfl, rfl⟩ ⟨Nat.le_of_ble_eq_true rfl, Nat.le_of_ble_eq_true rfl⟩ ⟨Nat.le_refl 0, Nat.le_refl 0⟩ rfl rfl (Nat.le_of_ble_eq_true rfl) dX4_goes_89 rfl ?_
    refine v_istore_n 93 [(2, .int z89), (1, .int z76), (0, .ref (a 0))] X dX4_goes_92 rfl rfl (by decide) rfl ?_
    refine v_aload_n 94 X 2 dX4_goes_93 rfl rfl rfl ?_
    refine v_dup 95 X dX4_goes_94 rfl rfl ?_
    refine v_get 98 X in_X4 0 13 rfl rfl (by decide) q1185 rfl rfl dX4_goes_95 rfl ?_
    refine v_iconst (v := 1) 99 X dX4_goes_98 rfl ki_1 ?_
    refine v_iadd 100 X dX4_goes_99 rfl ?_
    refine v_put 103 (MW D a now past kept text queue isMet clusterOf fresh saved length met clusters z8 (z8 + 1) wrong) X in_X4 tyX4_ok nmX4 0 13 rfl rfl (by decide) q1185 rfl rfl rfl rfl rfl (Nat.le_of_ble_eq_true rfl) dX4_goes_100 rfl rfl ?_
    obtain ⟨z103, hz103, hF⟩ := ob hF
    refine v_lv [2, 1, 0] rfl (w_X4_goes_103 X z76 z89 _ (z8 + 1) _ hz103 ?_)
    refine v_iconst (v := 1) 166 X dX4_goes_165 rfl ki_1 ?_
    obtain rfl := Option.some.inj hF
    exact v_zret X hr rfl ⟨rfl, rfl⟩ (Nat.zero_le _) (Nat.zero_le _) dX4_goes_166
  · replace hF := ifp h62 hF
    refine v_iconst (v := 0) 66 X dX4_goes_65 rfl ki_0 ?_
    obtain rfl := Option.some.inj hF
    exact v_zret X hr rfl ⟨rfl, rfl⟩ (Nat.zero_le _) (Nat.zero_le _) dX4_goes_66
theorem w_X4_word_7 (X : CX p s m args meth c D A cX4_word 4 "DyeLatticeModel") : ∀ (n : Nat) (x : Int64 × Int32) (o : ((Int64) ⊕ (Int64))), loopN (fun x => M_word_7 text frm ende x.1 x.2) n x = some o → ((∀ z : Int64, o = (.inl z) → V p l e rmX4_word s m args below meth c D A 4 Q (MW D a now past kept text queue isMet clusterOf fresh saved length met clusters frm ende wrong) 0 0 78 [(1, .long z)] []) ∧ (∀ z : Int64, o = (.inr z) → V p l e rmX4_word s m args below meth c D A 4 Q (MW D a now past kept text queue isMet clusterOf fresh saved length met clusters frm ende wrong) 0 0 70 [(1, .long z)] [])) → V p l e rmX4_word s m args below meth c D A 4 Q (MW D a now past kept text queue isMet clusterOf fresh saved length met clusters frm ende wrong) 0 0 7 [(0, .ref (a 0)), (1, .long x.1), (3, .int x.2)] [] := by
  refine v_loop (fun (x : Int64 × Int32) => V p l e rmX4_word s m args below meth c D A 4 Q (MW D a now past kept text queue isMet clusterOf fresh saved length met clusters frm ende wrong) 0 0 7 [(0, .ref (a 0)), (1, .long x.1), (3, .int x.2)] []) (fun (o : ((Int64) ⊕ (Int64))) => (∀ z : Int64, o = (.inl z) → V p l e rmX4_word s m args below meth c D A 4 Q (MW D a now past kept text queue isMet clusterOf fresh saved length met clusters frm ende wrong) 0 0 78 [(1, .long z)] []) ∧ (∀ z : Int64, o = (.inr z) → V p l e rmX4_word s m args below meth c D A 4 Q (MW D a now past kept text queue isMet clusterOf fresh saved length met clusters frm ende wrong) 0 0 70 [(1, .long z)] [])) ?_
  rintro ⟨v1, v3⟩ r hF hI hO
  replace hF : M_word_7 text frm ende v1 v3 = some r := hF
  show V p l e rmX4_word s m args below meth c D A 4 Q (MW D a now past kept text queue isMet clusterOf fresh saved length met clusters frm ende wrong) 0 0 7 [(0, .ref (a 0)), (1, .long v1), (3, .int v3)] []
  unfold M_word_7 at hF
  refine v_iload_n 8 X 2 dX4_word_7 rfl rfl rfl ?_
  refine v_aload_n 9 X 0 dX4_word_8 rfl rfl rfl ?_
  refine v_get 12 X in_X4 0 13 rfl rfl (by decide) q1185 rfl rfl dX4_word_9 rfl ?_
  refine v_icmp_ge 15 78 X dX4_word_12 rfl (by decide) (fun h12 => ?_) (fun h12 => ?_)
  · replace hF := ifp h12 hF
    obtain rfl := Option.some.inj hF
    exact v_lv [1] rfl ((hO _ rfl).1 _ rfl)
  · replace hF := ifn h12 hF
    refine v_aload_n 16 X 0 dX4_word_15 rfl rfl rfl ?_
    refine v_get 19 X in_X4 0 4 rfl rfl (by decide) q1176 rfl rfl dX4_word_16 rfl ?_
    refine v_iload_n 20 X 2 dX4_word_19 rfl rfl rfl ?_
    obtain ⟨z20, hz20, hF⟩ := ob hF
    refine v_iald 21 X 4 hz20 rfl dX4_word_20 rfl ?_
    obtain ⟨z21, hz21, hF⟩ := ob hF
    refine v_mSi 24 X 1 [.int z20] (w_X4_isLetter z20 _ hz21) q1477 q1478 q95 q1479 hdX4_isLetter pass_no ⟨rfl, rfl⟩ ⟨Nat.le_of_ble_eq_true rfl, Nat.le_of_ble_eq_true rfl⟩ ⟨Nat.le_refl 0, Nat.le_refl 0⟩ rfl rfl (Nat.le_of_ble_eq_true rfl) dX4_word_21 rfl ?_
    refine v_if_eq 27 60 X dX4_word_24 rfl (by decide) (fun h24 => ?_) (fun h24 => ?_)
    · replace hF := ifp h24 hF
      refine v_ldc2 63 X q1493 dX4_word_60 rfl ?_
      refine v_lstore_n 64 [(1, .long (-1)), (0, .ref (a 0)), (3, .int v3)] X dX4_word_63 rfl rfl (by decide) rfl ?_
      refine v_lload_n 65 X 0 dX4_word_64 rfl rfl rfl ?_
      refine v_lconst (v := 0) 66 X dX4_word_65 rfl (by decide) ?_
      refine v_lcmp 67 X dX4_word_66 rfl ?_
      refine v_if_ge 70 72 X dX4_word_67 rfl (by decide) (fun h67 => ?_) (fun h67 => ?_)
      · replace hF := ifp h67 hF
        refine v_iinc (v := (v3 + 1)) 75 [(3, .int (v3 + 1)), (1, .long (-1)), (0, .ref (a 0))] X 2 dX4_word_72 rfl rfl (by rfl) (by decide) rfl ?_
        refine v_goto 7 X dX4_word_75 (by decide) ?_
        obtain rfl := Option.some.inj hF
        exact v_lv [2, 1, 0] rfl (hI _ rfl)
      · replace hF := ifn h67 hF
        obtain rfl := Option.some.inj hF
        exact v_lv [0] rfl ((hO _ rfl).2 _ rfl)
    · replace hF := ifn h24 hF
      refine v_iload_n 28 X 2 dX4_word_27 rfl rfl rfl ?_
      refine v_aload_n 29 X 0 dX4_word_28 rfl rfl rfl ?_
      refine v_get 32 X in_X4 0 12 rfl rfl (by decide) q1184 rfl rfl dX4_word_29 rfl ?_
      refine v_isub 33 X dX4_word_32 rfl ?_
      refine v_bipush (v := 12) 35 X dX4_word_33 rfl kb_12 ?_
      refine v_icmp_ge 38 60 X dX4_word_35 rfl (by decide) (fun h35 => ?_) (fun h35 => ?_)
      · replace hF := ifp h35 hF
        refine v_ldc2 63 X q1493 dX4_word_60 rfl ?_
        refine v_lstore_n 64 [(1, .long (-1)), (0, .ref (a 0)), (3, .int v3)] X dX4_word_63 rfl rfl (by decide) rfl ?_
        refine v_lload_n 65 X 0 dX4_word_64 rfl rfl rfl ?_
        refine v_lconst (v := 0) 66 X dX4_word_65 rfl (by decide) ?_
        refine v_lcmp 67 X dX4_word_66 rfl ?_
        refine v_if_ge 70 72 X dX4_word_67 rfl (by decide) (fun h67 => ?_) (fun h67 => ?_)
        · replace hF := ifp h67 hF
          refine v_iinc (v := (v3 + 1)) 75 [(3, .int (v3 + 1)), (1, .long (-1)), (0, .ref (a 0))] X 2 dX4_word_72 rfl rfl (by rfl) (by decide) rfl ?_
          refine v_goto 7 X dX4_word_75 (by decide) ?_
          obtain rfl := Option.some.inj hF
          exact v_lv [2, 1, 0] rfl (hI _ rfl)
        · replace hF := ifn h67 hF
          obtain rfl := Option.some.inj hF
          exact v_lv [0] rfl ((hO _ rfl).2 _ rfl)
      · replace hF := ifn h35 hF
        refine v_ldc2 41 X q1491 dX4_word_38 rfl ?_
        refine v_lload_n 42 X 1 dX4_word_41 rfl rfl rfl ?_
        refine v_lmul 43 X dX4_word_42 rfl ?_
        refine v_aload_n 44 X 0 dX4_word_43 rfl rfl rfl ?_
        refine v_get 47 X in_X4 0 4 rfl rfl (by decide) q1176 rfl rfl dX4_word_44 rfl ?_
        refine v_iload_n 48 X 2 dX4_word_47 rfl rfl rfl ?_
        obtain ⟨z48, hz48, hF⟩ := ob hF
        refine v_iald 49 X 4 hz48 rfl dX4_word_48 rfl ?_
        refine v_i2l 50 X dX4_word_49 rfl ?_
        refine v_ladd 51 X dX4_word_50 rfl ?_
        refine v_ldc2 54 X q1492 dX4_word_51 rfl ?_
        refine v_lsub 55 X dX4_word_54 rfl ?_
        refine v_lconst (v := 1) 56 X dX4_word_55 rfl (by decide) ?_
        refine v_ladd 57 X dX4_word_56 rfl ?_
        refine v_goto 63 X dX4_word_57 (by decide) ?_
        refine v_lstore_n 64 [(1, .long ((((27 * v1) + (Int32.toInt64 z48)) - 97) + 1)), (0, .ref (a 0)), (3, .int v3)] X dX4_word_63 rfl rfl (by decide) rfl ?_
        refine v_lload_n 65 X 0 dX4_word_64 rfl rfl rfl ?_
        refine v_lconst (v := 0) 66 X dX4_word_65 rfl (by decide) ?_
        refine v_lcmp 67 X dX4_word_66 rfl ?_
        refine v_if_ge 70 72 X dX4_word_67 rfl (by decide) (fun h67 => ?_) (fun h67 => ?_)
        · replace hF := ifp h67 hF
          refine v_iinc (v := (v3 + 1)) 75 [(3, .int (v3 + 1)), (1, .long ((((27 * v1) + (Int32.toInt64 z48)) - 97) + 1)), (0, .ref (a 0))] X 2 dX4_word_72 rfl rfl (by rfl) (by decide) rfl ?_
          refine v_goto 7 X dX4_word_75 (by decide) ?_
          obtain rfl := Option.some.inj hF
          exact v_lv [2, 1, 0] rfl (hI _ rfl)
        · replace hF := ifn h67 hF
          obtain rfl := Option.some.inj hF
          exact v_lv [0] rfl ((hO _ rfl).2 _ rfl)
theorem w_X4_word (r : Int64) (hF : M_word text frm ende = some r) : CTl l yX4_word cX4_word 4 (Option.some Jvm.ClassFile.FieldType.long) rmX4_word D (MW D a now past kept text queue isMet clusterOf fresh saved length met clusters frm ende wrong) [.ref (a 0)] NoX (fun r1 u => r1 = r ∧ u = (MW D a now past kept text queue isMet clusterOf fresh saved length met clusters frm ende wrong)) := by
  refine m_l (by decide) (Nat.le_of_ble_eq_true rfl) ?_
  intro p e s m args below meth c A B
  obtain ⟨X, hr, -, -, -, -⟩ := B
  replace X : CX p s m args meth c D A cX4_word 4 "DyeLatticeModel" := X
  refine v_lv (lv' := [(0, .ref (a 0))]) [0] rfl ?_
  unfold M_word at hF
  refine v_lconst (v := 0) 1 X dX4_word_0 rfl (by decide) ?_
  refine v_lstore_n 2 [(1, .long 0), (0, .ref (a 0))] X dX4_word_1 rfl rfl (by decide) rfl ?_
  refine v_aload_n 3 X 1 dX4_word_2 rfl rfl rfl ?_
  refine v_get 6 X in_X4 0 12 rfl rfl (by decide) q1184 rfl rfl dX4_word_3 rfl ?_
  refine v_istore_n 7 [(3, .int frm), (1, .long 0), (0, .ref (a 0))] X dX4_word_6 rfl rfl (by decide) rfl ?_
  obtain ⟨z7, hz7, hF⟩ := ob hF
  refine v_lv [2, 1, 0] rfl (w_X4_word_7 X _ (0, frm) _ hz7 ⟨fun y7 hy => ?_, fun y7 hy => ?_⟩)
  · subst hy
    dsimp only at hF
    refine v_lload_n 79 X 0 dX4_word_78 rfl rfl rfl ?_
    obtain rfl := Option.some.inj hF
    exact v_lret X hr ⟨rfl, rfl⟩ (Nat.zero_le _) (Nat.zero_le _) dX4_word_79
  · subst hy
    dsimp only at hF
    refine v_lload_n 71 X 0 dX4_word_70 rfl rfl rfl ?_
    obtain rfl := Option.some.inj hF
    exact v_lret X hr ⟨rfl, rfl⟩ (Nat.zero_le _) (Nat.zero_le _) dX4_word_71
theorem w_X4_spelled_j46 (X : CX p s m args meth c D A cX4_spelled 6 "DyeLatticeModel") (hr : meth.sig.returnType = (Option.some Jvm.ClassFile.FieldType.long)) {r : Int64} (v3 : Int32) (s0 : Int64) (hF : M_spelled_j46 v3 s0 = some r) : V p l e rmX4_spelled s m args below meth c D A 6 (MQ below (va_Ql (fun r1 u => r1 = r ∧ u = (MW D a now past kept text queue isMet clusterOf fresh saved length met clusters frm ende wrong)) (Wd D A) A) args s rmX4_spelled.cells rmX4_spelled.slots A) (MW D a now past kept text queue isMet clusterOf fresh saved length met clusters frm ende wrong) 0 0 46 [(3, .int v3)] [.long s0] := by
  unfold M_spelled_j46 at hF
  refine v_lstore 48 [(4, .long s0), (3, .int v3)] X dX4_spelled_46 rfl (by decide) rfl ?_
  refine v_iload_n 49 X 1 dX4_spelled_48 rfl rfl rfl ?_
  refine v_if_ne 52 57 X dX4_spelled_49 rfl (by decide) (fun h49 => ?_) (fun h49 => ?_)
  · replace hF := ifn h49 hF
    refine v_ldc2 60 X q1491 dX4_spelled_57 rfl ?_
    refine v_lload 62 X 0 dX4_spelled_60 rfl rfl ?_
    refine v_lmul 63 X dX4_spelled_62 rfl ?_
    refine v_iload_n 64 X 1 dX4_spelled_63 rfl rfl rfl ?_
    refine v_i2l 65 X dX4_spelled_64 rfl ?_
    refine v_ladd 66 X dX4_spelled_65 rfl ?_
    refine v_ldc2 69 X q1492 dX4_spelled_66 rfl ?_
    refine v_lsub 70 X dX4_spelled_69 rfl ?_
    refine v_lconst (v := 1) 71 X dX4_spelled_70 rfl (by decide) ?_
    refine v_ladd 72 X dX4_spelled_71 rfl ?_
    obtain rfl := Option.some.inj hF
    exact v_lret X hr ⟨rfl, rfl⟩ (Nat.zero_le _) (Nat.zero_le _) dX4_spelled_72
  · replace hF := ifp h49 hF
    refine v_lload 54 X 0 dX4_spelled_52 rfl rfl ?_
    refine v_goto 72 X dX4_spelled_54 (by decide) ?_
    obtain rfl := Option.some.inj hF
    exact v_lret X hr ⟨rfl, rfl⟩ (Nat.zero_le _) (Nat.zero_le _) dX4_spelled_72
theorem w_X4_spelled (v0 : Int32) (v1 : Int32) (v2 : Int32) (v3 : Int32) (r : Int64) (hF : M_spelled v0 v1 v2 v3 = some r) : CTl l yX4_spelled cX4_spelled 6 (Option.some Jvm.ClassFile.FieldType.long) rmX4_spelled D (MW D a now past kept text queue isMet clusterOf fresh saved length met clusters frm ende wrong) [.int v0, .int v1, .int v2, .int v3] NoX (fun r1 u => r1 = r ∧ u = (MW D a now past kept text queue isMet clusterOf fresh saved length met clusters frm ende wrong)) := by
  refine m_l (by decide) (Nat.le_of_ble_eq_true rfl) ?_
  intro p e s m args below meth c A B
  obtain ⟨X, hr, -, -, -, -⟩ := B
  replace X : CX p s m args meth c D A cX4_spelled 6 "DyeLatticeModel" := X
  refine v_lv (lv' := [(0, .int v0), (1, .int v1), (2, .int v2), (3, .int v3)]) [0, 1, 2, 3] rfl ?_
  unfold M_spelled at hF
  refine v_ldc2 3 X q1491 dX4_spelled_0 rfl ?_
  refine v_iload_n 4 X 0 dX4_spelled_3 rfl rfl rfl ?_
  refine v_bipush (v := 97) 6 X dX4_spelled_4 rfl kb_97 ?_
  refine v_isub 7 X dX4_spelled_6 rfl ?_
  refine v_iconst (v := 1) 8 X dX4_spelled_7 rfl ki_1 ?_
  refine v_iadd 9 X dX4_spelled_8 rfl ?_
  refine v_i2l 10 X dX4_spelled_9 rfl ?_
  refine v_lmul 11 X dX4_spelled_10 rfl ?_
  refine v_iload_n 12 X 1 dX4_spelled_11 rfl rfl rfl ?_
  refine v_i2l 13 X dX4_spelled_12 rfl ?_
  refine v_ladd 14 X dX4_spelled_13 rfl ?_
  refine v_ldc2 17 X q1492 dX4_spelled_14 rfl ?_
  refine v_lsub 18 X dX4_spelled_17 rfl ?_
  refine v_lconst (v := 1) 19 X dX4_spelled_18 rfl (by decide) ?_
  refine v_ladd 20 X dX4_spelled_19 rfl ?_
  refine v_lstore 22 [(4, .long ((((27 * (Int32.toInt64 ((v0 - 97) + 1))) + (Int32.toInt64 v1)) - 97) + 1)), (0, .int v0), (1, .int v1), (2, .int v2), (3, .int v3)] X dX4_spelled_20 rfl (by decide) rfl ?_
  refine v_iload_n 23 X 3 dX4_spelled_22 rfl rfl rfl ?_
  refine v_if_ne 26 31 X dX4_spelled_23 rfl (by decide) (fun h23 => ?_) (fun h23 => ?_)
  · replace hF := ifn h23 hF
    refine v_ldc2 34 X q1491 dX4_spelled_31 rfl ?_
    refine v_lload 36 X 0 dX4_spelled_34 rfl rfl ?_
    refine v_lmul 37 X dX4_spelled_36 rfl ?_
    refine v_iload_n 38 X 3 dX4_spelled_37 rfl rfl rfl ?_
    refine v_i2l 39 X dX4_spelled_38 rfl ?_
    refine v_ladd 40 X dX4_spelled_39 rfl ?_
    refine v_ldc2 43 X q1492 dX4_spelled_40 rfl ?_
    refine v_lsub 44 X dX4_spelled_43 rfl ?_
    refine v_lconst (v := 1) 45 X dX4_spelled_44 rfl (by decide) ?_
    refine v_ladd 46 X dX4_spelled_45 rfl ?_
    exact v_lv [4] rfl (w_X4_spelled_j46 X hr v3 ((((27 * ((((27 * (Int32.toInt64 ((v0 - 97) + 1))) + (Int32.toInt64 v1)) - 97) + 1)) + (Int32.toInt64 v2)) - 97) + 1) hF)
  · replace hF := ifp h23 hF
    refine v_lload 28 X 0 dX4_spelled_26 rfl rfl ?_
    refine v_goto 46 X dX4_spelled_28 (by decide) ?_
    exact v_lv [4] rfl (w_X4_spelled_j46 X hr v3 ((((27 * (Int32.toInt64 ((v0 - 97) + 1))) + (Int32.toInt64 v1)) - 97) + 1) hF)
theorem w_X4_number_44 (X : CX p s m args meth c D A cX4_number 5 "DyeLatticeModel") (v1 : Int32) (v2 : Int32) : ∀ (n : Nat) (x : Int32 × Int32) (o : (Int32)), loopN (fun x => M_number_44 v1 v2 text ende x.1 x.2) n x = some o → (V p l e rmX4_number s m args below meth c D A 5 Q (MW D a now past kept text queue isMet clusterOf fresh saved length met clusters frm ende wrong) 0 0 86 [(0, .ref (a 0)), (1, .int v1), (2, .int v2), (3, .int o)] []) → V p l e rmX4_number s m args below meth c D A 5 Q (MW D a now past kept text queue isMet clusterOf fresh saved length met clusters frm ende wrong) 0 0 44 [(0, .ref (a 0)), (1, .int v1), (2, .int v2), (3, .int x.1), (4, .int x.2)] [] := by
  refine v_loop (fun (x : Int32 × Int32) => V p l e rmX4_number s m args below meth c D A 5 Q (MW D a now past kept text queue isMet clusterOf fresh saved length met clusters frm ende wrong) 0 0 44 [(0, .ref (a 0)), (1, .int v1), (2, .int v2), (3, .int x.1), (4, .int x.2)] []) (fun (o : (Int32)) => V p l e rmX4_number s m args below meth c D A 5 Q (MW D a now past kept text queue isMet clusterOf fresh saved length met clusters frm ende wrong) 0 0 86 [(0, .ref (a 0)), (1, .int v1), (2, .int v2), (3, .int o)] []) ?_
  rintro ⟨v3, v4⟩ r hF hI hO
  replace hF : M_number_44 v1 v2 text ende v3 v4 = some r := hF
  show V p l e rmX4_number s m args below meth c D A 5 Q (MW D a now past kept text queue isMet clusterOf fresh saved length met clusters frm ende wrong) 0 0 44 [(0, .ref (a 0)), (1, .int v1), (2, .int v2), (3, .int v3), (4, .int v4)] []
  unfold M_number_44 at hF
  refine v_iload 46 X 4 dX4_number_44 rfl rfl ?_
  refine v_aload_n 47 X 0 dX4_number_46 rfl rfl rfl ?_
  refine v_get 50 X in_X4 0 13 rfl rfl (by decide) q1185 rfl rfl dX4_number_47 rfl ?_
  refine v_icmp_ge 53 86 X dX4_number_50 rfl (by decide) (fun h50 => ?_) (fun h50 => ?_)
  · replace hF := ifp h50 hF
    obtain rfl := Option.some.inj hF
    exact v_lv [0, 1, 2, 3] rfl (hO _ rfl)
  · replace hF := ifn h50 hF
    refine v_iload_n 54 X 3 dX4_number_53 rfl rfl rfl ?_
    refine v_sipush (v := 9999) 57 X dX4_number_54 rfl ks_9999 ?_
    refine v_icmp_le 60 64 X dX4_number_57 rfl (by decide) (fun h57 => ?_) (fun h57 => ?_)
    · replace hF := ifp h57 hF
      refine v_bipush (v := 10) 66 X dX4_number_64 rfl kb_10 ?_
      refine v_iload_n 67 X 3 dX4_number_66 rfl rfl rfl ?_
      refine v_imul 68 X dX4_number_67 rfl ?_
      refine v_aload_n 69 X 0 dX4_number_68 rfl rfl rfl ?_
      refine v_get 72 X in_X4 0 4 rfl rfl (by decide) q1176 rfl rfl dX4_number_69 rfl ?_
      refine v_iload 74 X 4 dX4_number_72 rfl rfl ?_
      obtain ⟨z74, hz74, hF⟩ := ob hF
      refine v_iald 75 X 4 hz74 rfl dX4_number_74 rfl ?_
      refine v_iadd 76 X dX4_number_75 rfl ?_
      refine v_bipush (v := 48) 78 X dX4_number_76 rfl kb_48 ?_
      refine v_isub 79 X dX4_number_78 rfl ?_
      refine v_istore_n 80 [(3, .int (((10 * v3) + z74) - 48)), (0, .ref (a 0)), (1, .int v1), (2, .int v2), (4, .int v4)] X dX4_number_79 rfl rfl (by decide) rfl ?_
      refine v_iinc (v := (v4 + 1)) 83 [(4, .int (v4 + 1)), (3, .int (((10 * v3) + z74) - 48)), (0, .ref (a 0)), (1, .int v1), (2, .int v2)] X 4 dX4_number_80 rfl rfl (by rfl) (by decide) rfl ?_
      refine v_goto 44 X dX4_number_83 (by decide) ?_
      obtain rfl := Option.some.inj hF
      exact v_lv [2, 3, 4, 1, 0] rfl (hI _ rfl)
    · replace hF := ifn h57 hF
      refine v_iload_n 61 X 3 dX4_number_60 rfl rfl rfl ?_
      refine v_goto 79 X dX4_number_61 (by decide) ?_
      refine v_istore_n 80 [(3, .int v3), (0, .ref (a 0)), (1, .int v1), (2, .int v2), (4, .int v4)] X dX4_number_79 rfl rfl (by decide) rfl ?_
      refine v_iinc (v := (v4 + 1)) 83 [(4, .int (v4 + 1)), (3, .int v3), (0, .ref (a 0)), (1, .int v1), (2, .int v2)] X 4 dX4_number_80 rfl rfl (by rfl) (by decide) rfl ?_
      refine v_goto 44 X dX4_number_83 (by decide) ?_
      obtain rfl := Option.some.inj hF
      exact v_lv [2, 3, 4, 1, 0] rfl (hI _ rfl)
theorem w_X4_number_j114 (X : CX p s m args meth c D A cX4_number 5 "DyeLatticeModel") (hr : meth.sig.returnType = (Option.some Jvm.ClassFile.FieldType.int)) {r : Int32 × Int32 × Int32 × Int32} (v1 : Int32) (v2 : Int32) (v3 : Int32) (hF : M_number_j114 text length frm ende wrong v1 v2 v3 = some r) : V p l e rmX4_number s m args below meth c D A 5 (MQ below (va_Qi (fun r1 u => r1 = r.1 ∧ u = (MW D a now past kept text queue isMet clusterOf fresh saved length met clusters r.2.1 r.2.2.1 r.2.2.2)) (Wd D A) A) args s rmX4_number.cells rmX4_number.slots A) (MW D a now past kept text queue isMet clusterOf fresh saved length met clusters frm ende wrong) 0 0 114 [(1, .int v1), (2, .int v2), (3, .int v3)] [.ref (a 0)] := by
  unfold M_number_j114 at hF
  refine v_iload_n 115 X 2 dX4_number_114 rfl rfl rfl ?_
  refine v_iload_n 116 X 0 dX4_number_115 rfl rfl rfl ?_
  refine v_iload_n 117 X 1 dX4_number_116 rfl rfl rfl ?_
  obtain ⟨z117, hz117, hF⟩ := ob hF
  refine v_mSi 120 X 3 [.int v3, .int v1, .int v2] (w_X4_within v3 v1 v2 _ hz117) q1226 q1227 q95 q1228 hdX4_within pass_no ⟨rfl, rfl⟩ ⟨Nat.le_of_ble_eq_true rfl, Nat.le_of_ble_eq_true rfl⟩ ⟨Nat.le_refl 0, Nat.le_refl 0⟩ rfl rfl (Nat.le_of_ble_eq_true rfl) dX4_number_117 rfl ?_
  refine v_if_ne 123 127 X dX4_number_120 rfl (by decide) (fun h120 => ?_) (fun h120 => ?_)
  · replace hF := ifn h120 hF
    refine v_iconst (v := 0) 128 X dX4_number_127 rfl ki_0 ?_
    refine v_put 131 (MW D a now past kept text queue isMet clusterOf fresh saved length met clusters frm ende 0) X in_X4 tyX4_ok nmX4 0 14 rfl rfl (by decide) q1186 rfl rfl rfl rfl rfl (Nat.le_of_ble_eq_true rfl) dX4_number_128 rfl rfl ?_
    refine v_iload_n 132 X 2 dX4_number_131 rfl rfl rfl ?_
    obtain rfl := Option.some.inj hF
    exact v_iret X hr ⟨rfl, rfl⟩ (Nat.zero_le _) (Nat.zero_le _) dX4_number_132
  · replace hF := ifp h120 hF
    refine v_iconst (v := 1) 124 X dX4_number_123 rfl ki_1 ?_
    refine v_goto 128 X dX4_number_124 (by decide) ?_
    refine v_put 131 (MW D a now past kept text queue isMet clusterOf fresh saved length met clusters frm ende 1) X in_X4 tyX4_ok nmX4 0 14 rfl rfl (by decide) q1186 rfl rfl rfl rfl rfl (Nat.le_of_ble_eq_true rfl) dX4_number_128 rfl rfl ?_
    refine v_iload_n 132 X 2 dX4_number_131 rfl rfl rfl ?_
    obtain rfl := Option.some.inj hF
    exact v_iret X hr ⟨rfl, rfl⟩ (Nat.zero_le _) (Nat.zero_le _) dX4_number_132
theorem w_X4_number (v1 : Int32) (v2 : Int32) (r : Int32 × Int32 × Int32 × Int32) (hF : M_number text length frm ende wrong v1 v2 = some r) : CTi l yX4_number cX4_number 5 (Option.some Jvm.ClassFile.FieldType.int) rmX4_number D (MW D a now past kept text queue isMet clusterOf fresh saved length met clusters frm ende wrong) [.ref (a 0), .int v1, .int v2] NoX (fun r1 u => r1 = r.1 ∧ u = (MW D a now past kept text queue isMet clusterOf fresh saved length met clusters r.2.1 r.2.2.1 r.2.2.2)) := by
  refine m_i (by decide) (Nat.le_of_ble_eq_true rfl) ?_
  intro p e s m args below meth c A B
  obtain ⟨X, hr, -, -, -, -⟩ := B
  replace X : CX p s m args meth c D A cX4_number 5 "DyeLatticeModel" := X
  refine v_lv (lv' := [(0, .ref (a 0)), (1, .int v1), (2, .int v2)]) [0, 1, 2] rfl ?_
  unfold M_number at hF
  refine v_aload_n 1 X 0 dX4_number_0 rfl rfl rfl ?_
  refine v_get 4 X in_X4 0 14 rfl rfl (by decide) q1186 rfl rfl dX4_number_1 rfl ?_
  refine v_if_ne 7 29 X dX4_number_4 rfl (by decide) (fun h4 => ?_) (fun h4 => ?_)
  · replace hF := ifn h4 hF
    refine v_aload_n 30 X 0 dX4_number_29 rfl rfl rfl ?_
    refine v_iconst (v := 1) 31 X dX4_number_30 rfl ki_1 ?_
    refine v_put 34 (MW D a now past kept text queue isMet clusterOf fresh saved length met clusters frm ende 1) X in_X4 tyX4_ok nmX4 0 14 rfl rfl (by decide) q1186 rfl rfl rfl rfl rfl (Nat.le_of_ble_eq_true rfl) dX4_number_31 rfl rfl ?_
    refine v_iconst (v := 0) 35 X dX4_number_34 rfl ki_0 ?_
    obtain rfl := Option.some.inj hF
    exact v_iret X hr ⟨rfl, rfl⟩ (Nat.zero_le _) (Nat.zero_le _) dX4_number_35
  · replace hF := ifp h4 hF
    refine v_aload_n 8 X 0 dX4_number_7 rfl rfl rfl ?_
    obtain ⟨z8, hz8, hF⟩ := ob hF
    refine v_mVi 11 X 0 [] (w_X4_goes _ hz8) q1473 q1475 qs71 q95 q1476 hdX4_goes 0 rfl rfl pass_no ⟨rfl, rfl⟩ ⟨Nat.le_of_ble_eq_true rfl, Nat.le_of_ble_eq_true rfl⟩ ⟨Nat.le_refl 0, Nat.le_refl 0⟩ rfl rfl (Nat.le_of_ble_eq_true rfl) dX4_number_8 rfl ?_
    refine v_if_eq 14 29 X dX4_number_11 rfl (by decide) (fun h11 => ?_) (fun h11 => ?_)
    · replace hF := ifp h11 hF
      refine v_aload_n 30 X 0 dX4_number_29 rfl rfl rfl ?_
      refine v_iconst (v := 1) 31 X dX4_number_30 rfl ki_1 ?_
      refine v_put 34 (MW D a now past kept text queue isMet clusterOf fresh saved length met clusters z8.2.1 z8.2.2 1) X in_X4 tyX4_ok nmX4 0 14 rfl rfl (by decide) q1186 rfl rfl rfl rfl rfl (Nat.le_of_ble_eq_true rfl) dX4_number_31 rfl rfl ?_
      refine v_iconst (v := 0) 35 X dX4_number_34 rfl ki_0 ?_
      obtain rfl := Option.some.inj hF
      exact v_iret X hr ⟨rfl, rfl⟩ (Nat.zero_le _) (Nat.zero_le _) dX4_number_35
    · replace hF := ifn h11 hF
      refine v_aload_n 15 X 0 dX4_number_14 rfl rfl rfl ?_
      refine v_get 18 X in_X4 0 4 rfl rfl (by decide) q1176 rfl rfl dX4_number_15 rfl ?_
      refine v_aload_n 19 X 0 dX4_number_18 rfl rfl rfl ?_
      refine v_get 22 X in_X4 0 12 rfl rfl (by decide) q1184 rfl rfl dX4_number_19 rfl ?_
      obtain ⟨z22, hz22, hF⟩ := ob hF
      refine v_iald 23 X 4 hz22 rfl dX4_number_22 rfl ?_
      obtain ⟨z23, hz23, hF⟩ := ob hF
      refine v_mSi 26 X 1 [.int z22] (w_X4_isDigit z22 _ hz23) q1480 q1481 q95 q1482 hdX4_isDigit pass_no ⟨rfl, rfl⟩ ⟨Nat.le_of_ble_eq_true rfl, Nat.le_of_ble_eq_true rfl⟩ ⟨Nat.le_refl 0, Nat.le_refl 0⟩ rfl rfl (Nat.le_of_ble_eq_true rfl) dX4_number_23 rfl ?_
      refine v_if_ne 29 36 X dX4_number_26 rfl (by decide) (fun h26 => ?_) (fun h26 => ?_)
      · replace hF := ifn h26 hF
        refine v_iconst (v := 0) 37 X dX4_number_36 rfl ki_0 ?_
        refine v_istore_n 38 [(3, .int 0), (0, .ref (a 0)), (1, .int v1), (2, .int v2)] X dX4_number_37 rfl rfl (by decide) rfl ?_
        refine v_aload_n 39 X 1 dX4_number_38 rfl rfl rfl ?_
        refine v_get 42 X in_X4 0 12 rfl rfl (by decide) q1184 rfl rfl dX4_number_39 rfl ?_
        refine v_istore 44 [(4, .int z8.2.1), (3, .int 0), (0, .ref (a 0)), (1, .int v1), (2, .int v2)] X dX4_number_42 rfl (by decide) rfl ?_
        obtain ⟨z44, hz44, hF⟩ := ob hF
        refine v_lv [2, 3, 4, 1, 0] rfl (w_X4_number_44 X v1 v2 _ (0, z8.2.1) _ hz44 ?_)
        refine v_aload_n 87 X 0 dX4_number_86 rfl rfl rfl ?_
        refine v_aload_n 88 X 0 dX4_number_87 rfl rfl rfl ?_
        refine v_get 91 X in_X4 0 4 rfl rfl (by decide) q1176 rfl rfl dX4_number_88 rfl ?_
        refine v_aload_n 92 X 0 dX4_number_91 rfl rfl rfl ?_
        refine v_get 95 X in_X4 0 12 rfl rfl (by decide) q1184 rfl rfl dX4_number_92 rfl ?_
        obtain ⟨z95, hz95, hF⟩ := ob hF
        refine v_iald 96 X 4 hz95 rfl dX4_number_95 rfl ?_
        refine v_bipush (v := 48) 98 X dX4_number_96 rfl kb_48 ?_
        refine v_icmp_ne 101 114 X dX4_number_98 rfl (by decide) (fun h98 => ?_) (fun h98 => ?_)
        · replace hF := ifn h98 hF
          exact v_lv [1, 2, 3] rfl (w_X4_number_j114 X hr v1 v2 z44 hF)
        · replace hF := ifp h98 hF
          refine v_aload_n 102 X 0 dX4_number_101 rfl rfl rfl ?_
          refine v_get 105 X in_X4 0 13 rfl rfl (by decide) q1185 rfl rfl dX4_number_102 rfl ?_
          refine v_aload_n 106 X 0 dX4_number_105 rfl rfl rfl ?_
          refine v_get 109 X in_X4 0 12 rfl rfl (by decide) q1184 rfl rfl dX4_number_106 rfl ?_
          refine v_iconst (v := 1) 110 X dX4_number_109 rfl ki_1 ?_
          refine v_iadd 111 X dX4_number_110 rfl ?_
          refine v_icmp_gt 114 123 X dX4_number_111 rfl (by decide) (fun h111 => ?_) (fun h111 => ?_)
          · replace hF := ifp h111 hF
            refine v_iconst (v := 1) 124 X dX4_number_123 rfl ki_1 ?_
            refine v_goto 128 X dX4_number_124 (by decide) ?_
            refine v_put 131 (MW D a now past kept text queue isMet clusterOf fresh saved length met clusters z8.2.1 z8.2.2 1) X in_X4 tyX4_ok nmX4 0 14 rfl rfl (by decide) q1186 rfl rfl rfl rfl rfl (Nat.le_of_ble_eq_true rfl) dX4_number_128 rfl rfl ?_
            refine v_iload_n 132 X 3 dX4_number_131 rfl rfl rfl ?_
            obtain rfl := Option.some.inj hF
            exact v_iret X hr ⟨rfl, rfl⟩ (Nat.zero_le _) (Nat.zero_le _) dX4_number_132
          · replace hF := ifn h111 hF
            exact v_lv [1, 2, 3] rfl (w_X4_number_j114 X hr v1 v2 z44 hF)
      · replace hF := ifp h26 hF
        refine v_aload_n 30 X 0 dX4_number_29 rfl rfl rfl ?_
        refine v_iconst (v := 1) 31 X dX4_number_30 rfl ki_1 ?_
        refine v_put 34 (MW D a now past kept text queue isMet clusterOf fresh saved length met clusters z8.2.1 z8.2.2 1) X in_X4 tyX4_ok nmX4 0 14 rfl rfl (by decide) q1186 rfl rfl rfl rfl rfl (Nat.le_of_ble_eq_true rfl) dX4_number_31 rfl rfl ?_
        refine v_iconst (v := 0) 35 X dX4_number_34 rfl ki_0 ?_
        obtain rfl := Option.some.inj hF
        exact v_iret X hr ⟨rfl, rfl⟩ (Nat.zero_le _) (Nat.zero_le _) dX4_number_35
theorem w_X4_readsSize (r : (Nat → Int32) × Int32 × Int32 × Int32) (hF : M_readsSize now text length frm ende wrong = some r) : CTv l yX4_readsSize cX4_readsSize 3 (Option.none : Option Jvm.ClassFile.FieldType) rmX4_readsSize D (MW D a now past kept text queue isMet clusterOf fresh saved length met clusters frm ende wrong) [.ref (a 0)] NoX (fun u => u = (MW D a r.1 past kept text queue isMet clusterOf fresh saved length met clusters r.2.1 r.2.2.1 r.2.2.2)) := by
  refine m_v (by decide) (Nat.le_of_ble_eq_true rfl) ?_
  intro p e s m args below meth c A B
  obtain ⟨X, hr, -, -, -, -⟩ := B
  replace X : CX p s m args meth c D A cX4_readsSize 3 "DyeLatticeModel" := X
  refine v_lv (lv' := [(0, .ref (a 0))]) [0] rfl ?_
  unfold M_readsSize at hF
  refine v_aload_n 1 X 0 dX4_readsSize_0 rfl rfl rfl ?_
  refine v_iconst (v := 2) 2 X dX4_readsSize_1 rfl ki_2 ?_
  refine v_bipush (v := 10) 4 X dX4_readsSize_2 rfl kb_10 ?_
  obtain ⟨z4, hz4, hF⟩ := ob hF
  refine v_mVi 7 X 2 [.int 2, .int 10] (w_X4_number 2 10 _ hz4) q1501 q1503 qs75 q95 q1504 hdX4_number 0 rfl rfl pass_no ⟨rfl, rfl⟩ ⟨Nat.le_of_ble_eq_true rfl, Nat.le_of_ble_eq_true rfl⟩ ⟨Nat.le_refl 0, Nat.le_refl 0⟩ rfl rfl (Nat.le_of_ble_eq_true rfl) dX4_readsSize_4 rfl ?_
  refine v_istore_n 8 [(1, .int z4.1), (0, .ref (a 0))] X dX4_readsSize_7 rfl rfl (by decide) rfl ?_
  refine v_aload_n 9 X 1 dX4_readsSize_8 rfl rfl rfl ?_
  refine v_iconst (v := 2) 10 X dX4_readsSize_9 rfl ki_2 ?_
  refine v_bipush (v := 8) 12 X dX4_readsSize_10 rfl kb_8 ?_
  obtain ⟨z12, hz12, hF⟩ := ob hF
  refine v_mVi 15 X 2 [.int 2, .int 8] (w_X4_number 2 8 _ hz12) q1501 q1503 qs75 q95 q1504 hdX4_number 0 rfl rfl pass_no ⟨rfl, rfl⟩ ⟨Nat.le_of_ble_eq_true rfl, Nat.le_of_ble_eq_true rfl⟩ ⟨Nat.le_refl 0, Nat.le_refl 0⟩ rfl rfl (Nat.le_of_ble_eq_true rfl) dX4_readsSize_12 rfl ?_
  refine v_istore_n 16 [(2, .int z12.1), (1, .int z4.1), (0, .ref (a 0))] X dX4_readsSize_15 rfl rfl (by decide) rfl ?_
  refine v_aload_n 17 X 2 dX4_readsSize_16 rfl rfl rfl ?_
  refine v_get 20 X in_X4 0 14 rfl rfl (by decide) q1186 rfl rfl dX4_readsSize_17 rfl ?_
  refine v_if_ne 23 29 X dX4_readsSize_20 rfl (by decide) (fun h20 => ?_) (fun h20 => ?_)
  · replace hF := ifn h20 hF
    obtain rfl := Option.some.inj hF
    exact v_vret X hr rfl (Nat.zero_le _) (Nat.zero_le _) dX4_readsSize_29
  · replace hF := ifp h20 hF
    refine v_aload_n 24 X 2 dX4_readsSize_23 rfl rfl rfl ?_
    refine v_iload_n 25 X 1 dX4_readsSize_24 rfl rfl rfl ?_
    refine v_iload_n 26 X 0 dX4_readsSize_25 rfl rfl rfl ?_
    obtain ⟨z26, hz26, hF⟩ := ob hF
    refine v_mVv 29 X 2 [.int z4.1, .int z12.1] (w_X4_sizes z4.1 z12.1 _ hz26) q1168 q1170 qs36 q95 q1171 hdX4_sizes 0 rfl rfl pass_no ⟨rfl, rfl⟩ ⟨Nat.le_of_ble_eq_true rfl, Nat.le_of_ble_eq_true rfl⟩ ⟨Nat.le_refl 0, Nat.le_refl 0⟩ rfl rfl (Nat.le_of_ble_eq_true rfl) dX4_readsSize_26 rfl ?_
    obtain rfl := Option.some.inj hF
    exact v_vret X hr rfl (Nat.zero_le _) (Nat.zero_le _) dX4_readsSize_29
theorem w_X4_longer_j68 (X : CX p s m args meth c D A cX4_longer 8 "DyeLatticeModel") (hr : meth.sig.returnType = (Option.some Jvm.ClassFile.FieldType.long)) {r : Int64} (v5 : Int32) (s0 : Int64) (hF : M_longer_j68 v5 s0 = some r) : V p l e rmX4_longer s m args below meth c D A 8 (MQ below (va_Ql (fun r1 u => r1 = r ∧ u = (MW D a now past kept text queue isMet clusterOf fresh saved length met clusters frm ende wrong)) (Wd D A) A) args s rmX4_longer.cells rmX4_longer.slots A) (MW D a now past kept text queue isMet clusterOf fresh saved length met clusters frm ende wrong) 0 0 68 [(5, .int v5)] [.long s0] := by
  unfold M_longer_j68 at hF
  refine v_lstore 70 [(6, .long s0), (5, .int v5)] X dX4_longer_68 rfl (by decide) rfl ?_
  refine v_iload 72 X 1 dX4_longer_70 rfl rfl ?_
  refine v_if_ne 75 80 X dX4_longer_72 rfl (by decide) (fun h72 => ?_) (fun h72 => ?_)
  · replace hF := ifn h72 hF
    refine v_ldc2 83 X q1491 dX4_longer_80 rfl ?_
    refine v_lload 85 X 0 dX4_longer_83 rfl rfl ?_
    refine v_lmul 86 X dX4_longer_85 rfl ?_
    refine v_iload 88 X 1 dX4_longer_86 rfl rfl ?_
    refine v_i2l 89 X dX4_longer_88 rfl ?_
    refine v_ladd 90 X dX4_longer_89 rfl ?_
    refine v_ldc2 93 X q1492 dX4_longer_90 rfl ?_
    refine v_lsub 94 X dX4_longer_93 rfl ?_
    refine v_lconst (v := 1) 95 X dX4_longer_94 rfl (by decide) ?_
    refine v_ladd 96 X dX4_longer_95 rfl ?_
    obtain rfl := Option.some.inj hF
    exact v_lret X hr ⟨rfl, rfl⟩ (Nat.zero_le _) (Nat.zero_le _) dX4_longer_96
  · replace hF := ifp h72 hF
    refine v_lload 77 X 0 dX4_longer_75 rfl rfl ?_
    refine v_goto 96 X dX4_longer_77 (by decide) ?_
    obtain rfl := Option.some.inj hF
    exact v_lret X hr ⟨rfl, rfl⟩ (Nat.zero_le _) (Nat.zero_le _) dX4_longer_96
theorem w_X4_longer_j40 (X : CX p s m args meth c D A cX4_longer 8 "DyeLatticeModel") (hr : meth.sig.returnType = (Option.some Jvm.ClassFile.FieldType.long)) {r : Int64} (v4 : Int32) (v5 : Int32) (s0 : Int64) (hF : M_longer_j40 v4 v5 s0 = some r) : V p l e rmX4_longer s m args below meth c D A 8 (MQ below (va_Ql (fun r1 u => r1 = r ∧ u = (MW D a now past kept text queue isMet clusterOf fresh saved length met clusters frm ende wrong)) (Wd D A) A) args s rmX4_longer.cells rmX4_longer.slots A) (MW D a now past kept text queue isMet clusterOf fresh saved length met clusters frm ende wrong) 0 0 40 [(4, .int v4), (5, .int v5)] [.long s0] := by
  unfold M_longer_j40 at hF
  refine v_lstore 42 [(6, .long s0), (4, .int v4), (5, .int v5)] X dX4_longer_40 rfl (by decide) rfl ?_
  refine v_iload 44 X 1 dX4_longer_42 rfl rfl ?_
  refine v_if_ne 47 52 X dX4_longer_44 rfl (by decide) (fun h44 => ?_) (fun h44 => ?_)
  · replace hF := ifn h44 hF
    refine v_ldc2 55 X q1491 dX4_longer_52 rfl ?_
    refine v_lload 57 X 0 dX4_longer_55 rfl rfl ?_
    refine v_lmul 58 X dX4_longer_57 rfl ?_
    refine v_iload 60 X 1 dX4_longer_58 rfl rfl ?_
    refine v_i2l 61 X dX4_longer_60 rfl ?_
    refine v_ladd 62 X dX4_longer_61 rfl ?_
    refine v_ldc2 65 X q1492 dX4_longer_62 rfl ?_
    refine v_lsub 66 X dX4_longer_65 rfl ?_
    refine v_lconst (v := 1) 67 X dX4_longer_66 rfl (by decide) ?_
    refine v_ladd 68 X dX4_longer_67 rfl ?_
    exact v_lv [2] rfl (w_X4_longer_j68 X hr v5 ((((27 * s0) + (Int32.toInt64 v4)) - 97) + 1) hF)
  · replace hF := ifp h44 hF
    refine v_lload 49 X 0 dX4_longer_47 rfl rfl ?_
    refine v_goto 68 X dX4_longer_49 (by decide) ?_
    exact v_lv [2] rfl (w_X4_longer_j68 X hr v5 s0 hF)
theorem w_X4_longer (v0 : Int64) (v2 : Int32) (v3 : Int32) (v4 : Int32) (v5 : Int32) (r : Int64) (hF : M_longer v0 v2 v3 v4 v5 = some r) : CTl l yX4_longer cX4_longer 8 (Option.some Jvm.ClassFile.FieldType.long) rmX4_longer D (MW D a now past kept text queue isMet clusterOf fresh saved length met clusters frm ende wrong) [.long v0, .int v2, .int v3, .int v4, .int v5] NoX (fun r1 u => r1 = r ∧ u = (MW D a now past kept text queue isMet clusterOf fresh saved length met clusters frm ende wrong)) := by
  refine m_l (by decide) (Nat.le_of_ble_eq_true rfl) ?_
  intro p e s m args below meth c A B
  obtain ⟨X, hr, -, -, -, -⟩ := B
  replace X : CX p s m args meth c D A cX4_longer 8 "DyeLatticeModel" := X
  refine v_lv (lv' := [(0, .long v0), (2, .int v2), (3, .int v3), (4, .int v4), (5, .int v5)]) [0, 1, 2, 3, 4] rfl ?_
  unfold M_longer at hF
  refine v_ldc2 3 X q1491 dX4_longer_0 rfl ?_
  refine v_lload_n 4 X 0 dX4_longer_3 rfl rfl rfl ?_
  refine v_lmul 5 X dX4_longer_4 rfl ?_
  refine v_iload_n 6 X 1 dX4_longer_5 rfl rfl rfl ?_
  refine v_i2l 7 X dX4_longer_6 rfl ?_
  refine v_ladd 8 X dX4_longer_7 rfl ?_
  refine v_ldc2 11 X q1492 dX4_longer_8 rfl ?_
  refine v_lsub 12 X dX4_longer_11 rfl ?_
  refine v_lconst (v := 1) 13 X dX4_longer_12 rfl (by decide) ?_
  refine v_ladd 14 X dX4_longer_13 rfl ?_
  refine v_lstore 16 [(6, .long ((((27 * v0) + (Int32.toInt64 v2)) - 97) + 1)), (0, .long v0), (2, .int v2), (3, .int v3), (4, .int v4), (5, .int v5)] X dX4_longer_14 rfl (by decide) rfl ?_
  refine v_iload_n 17 X 3 dX4_longer_16 rfl rfl rfl ?_
  refine v_if_ne 20 25 X dX4_longer_17 rfl (by decide) (fun h17 => ?_) (fun h17 => ?_)
  · replace hF := ifn h17 hF
    refine v_ldc2 28 X q1491 dX4_longer_25 rfl ?_
    refine v_lload 30 X 0 dX4_longer_28 rfl rfl ?_
    refine v_lmul 31 X dX4_longer_30 rfl ?_
    refine v_iload_n 32 X 3 dX4_longer_31 rfl rfl rfl ?_
    refine v_i2l 33 X dX4_longer_32 rfl ?_
    refine v_ladd 34 X dX4_longer_33 rfl ?_
    refine v_ldc2 37 X q1492 dX4_longer_34 rfl ?_
    refine v_lsub 38 X dX4_longer_37 rfl ?_
    refine v_lconst (v := 1) 39 X dX4_longer_38 rfl (by decide) ?_
    refine v_ladd 40 X dX4_longer_39 rfl ?_
    exact v_lv [4, 5] rfl (w_X4_longer_j40 X hr v4 v5 ((((27 * ((((27 * v0) + (Int32.toInt64 v2)) - 97) + 1)) + (Int32.toInt64 v3)) - 97) + 1) hF)
  · replace hF := ifp h17 hF
    refine v_lload 22 X 0 dX4_longer_20 rfl rfl ?_
    refine v_goto 40 X dX4_longer_22 (by decide) ?_
    exact v_lv [4, 5] rfl (w_X4_longer_j40 X hr v4 v5 ((((27 * v0) + (Int32.toInt64 v2)) - 97) + 1) hF)
theorem w_X4_kindTold_j122 (X : CX p s m args meth c D A cX4_kindTold 8 "DyeLatticeModel") (hr : meth.sig.returnType = (Option.some Jvm.ClassFile.FieldType.int)) {r : Int32 × Int32 × Int32 × Int32} (s0 : Int32) (hF : M_kindTold_j122 text length frm ende wrong s0 = some r) : V p l e rmX4_kindTold s m args below meth c D A 8 (MQ below (va_Qi (fun r1 u => r1 = r.1 ∧ u = (MW D a now past kept text queue isMet clusterOf fresh saved length met clusters r.2.1 r.2.2.1 r.2.2.2)) (Wd D A) A) args s rmX4_kindTold.cells rmX4_kindTold.slots A) (MW D a now past kept text queue isMet clusterOf fresh saved length met clusters frm ende wrong) 0 0 122 [(0, .ref (a 0))] [.int s0] := by
  unfold M_kindTold_j122 at hF
  refine v_istore 124 [(7, .int s0), (0, .ref (a 0))] X dX4_kindTold_122 rfl (by decide) rfl ?_
  refine v_aload_n 125 X 1 dX4_kindTold_124 rfl rfl rfl ?_
  refine v_aload_n 126 X 1 dX4_kindTold_125 rfl rfl rfl ?_
  refine v_get 129 X in_X4 0 14 rfl rfl (by decide) q1186 rfl rfl dX4_kindTold_126 rfl ?_
  refine v_if_ne 132 139 X dX4_kindTold_129 rfl (by decide) (fun h129 => ?_) (fun h129 => ?_)
  · replace hF := ifn h129 hF
    refine v_iconst (v := 1) 140 X dX4_kindTold_139 rfl ki_1 ?_
    refine v_goto 144 X dX4_kindTold_140 (by decide) ?_
    refine v_put 147 (MW D a now past kept text queue isMet clusterOf fresh saved length met clusters frm ende 1) X in_X4 tyX4_ok nmX4 0 14 rfl rfl (by decide) q1186 rfl rfl rfl rfl rfl (Nat.le_of_ble_eq_true rfl) dX4_kindTold_144 rfl rfl ?_
    refine v_iload 149 X 0 dX4_kindTold_147 rfl rfl ?_
    obtain rfl := Option.some.inj hF
    exact v_iret X hr ⟨rfl, rfl⟩ (Nat.zero_le _) (Nat.zero_le _) dX4_kindTold_149
  · replace hF := ifp h129 hF
    refine v_iload 134 X 0 dX4_kindTold_132 rfl rfl ?_
    refine v_bipush (v := (-9)) 136 X dX4_kindTold_134 rfl kb_m9 ?_
    refine v_icmp_ne 139 143 X dX4_kindTold_136 rfl (by decide) (fun h136 => ?_) (fun h136 => ?_)
    · replace hF := ifn h136 hF
      refine v_iconst (v := 0) 144 X dX4_kindTold_143 rfl ki_0 ?_
      refine v_put 147 (MW D a now past kept text queue isMet clusterOf fresh saved length met clusters frm ende 0) X in_X4 tyX4_ok nmX4 0 14 rfl rfl (by decide) q1186 rfl rfl rfl rfl rfl (Nat.le_of_ble_eq_true rfl) dX4_kindTold_144 rfl rfl ?_
      refine v_iload 149 X 0 dX4_kindTold_147 rfl rfl ?_
      obtain rfl := Option.some.inj hF
      exact v_iret X hr ⟨rfl, rfl⟩ (Nat.zero_le _) (Nat.zero_le _) dX4_kindTold_149
    · replace hF := ifp h136 hF
      refine v_iconst (v := 1) 140 X dX4_kindTold_139 rfl ki_1 ?_
      refine v_goto 144 X dX4_kindTold_140 (by decide) ?_
      refine v_put 147 (MW D a now past kept text queue isMet clusterOf fresh saved length met clusters frm ende 1) X in_X4 tyX4_ok nmX4 0 14 rfl rfl (by decide) q1186 rfl rfl rfl rfl rfl (Nat.le_of_ble_eq_true rfl) dX4_kindTold_144 rfl rfl ?_
      refine v_iload 149 X 0 dX4_kindTold_147 rfl rfl ?_
      obtain rfl := Option.some.inj hF
      exact v_iret X hr ⟨rfl, rfl⟩ (Nat.zero_le _) (Nat.zero_le _) dX4_kindTold_149
theorem w_X4_kindTold_j24 (X : CX p s m args meth c D A cX4_kindTold 8 "DyeLatticeModel") (hr : meth.sig.returnType = (Option.some Jvm.ClassFile.FieldType.int)) {r : Int32 × Int32 × Int32 × Int32} (s0 : Int64) (hF : M_kindTold_j24 text length frm ende wrong s0 = some r) : V p l e rmX4_kindTold s m args below meth c D A 8 (MQ below (va_Qi (fun r1 u => r1 = r.1 ∧ u = (MW D a now past kept text queue isMet clusterOf fresh saved length met clusters r.2.1 r.2.2.1 r.2.2.2)) (Wd D A) A) args s rmX4_kindTold.cells rmX4_kindTold.slots A) (MW D a now past kept text queue isMet clusterOf fresh saved length met clusters frm ende wrong) 0 0 24 [(0, .ref (a 0))] [.long s0] := by
  unfold M_kindTold_j24 at hF
  refine v_lstore_n 25 [(1, .long s0), (0, .ref (a 0))] X dX4_kindTold_24 rfl rfl (by decide) rfl ?_
  refine v_bipush (v := 115) 27 X dX4_kindTold_25 rfl kb_115 ?_
  refine v_bipush (v := 113) 29 X dX4_kindTold_27 rfl kb_113 ?_
  refine v_bipush (v := 117) 31 X dX4_kindTold_29 rfl kb_117 ?_
  refine v_bipush (v := 97) 33 X dX4_kindTold_31 rfl kb_97 ?_
  obtain ⟨z33, hz33, hF⟩ := ob hF
  refine v_mSl 36 X 4 [.int 115, .int 113, .int 117, .int 97] (w_X4_spelled 115 113 117 97 _ hz33) q1494 q1495 q95 q1496 hdX4_spelled pass_no ⟨rfl, rfl⟩ ⟨Nat.le_of_ble_eq_true rfl, Nat.le_of_ble_eq_true rfl⟩ ⟨Nat.le_refl 0, Nat.le_refl 0⟩ rfl rfl (Nat.le_of_ble_eq_true rfl) dX4_kindTold_33 rfl ?_
  refine v_bipush (v := 114) 38 X dX4_kindTold_36 rfl kb_114 ?_
  refine v_bipush (v := 101) 40 X dX4_kindTold_38 rfl kb_101 ?_
  refine v_iconst (v := 0) 41 X dX4_kindTold_40 rfl ki_0 ?_
  refine v_iconst (v := 0) 42 X dX4_kindTold_41 rfl ki_0 ?_
  obtain ⟨z42, hz42, hF⟩ := ob hF
  refine v_mSl 45 X 5 [.long z33, .int 114, .int 101, .int 0, .int 0] (w_X4_longer z33 114 101 0 0 _ hz42) q1509 q1510 q95 q1511 hdX4_longer pass_no ⟨rfl, rfl⟩ ⟨Nat.le_of_ble_eq_true rfl, Nat.le_of_ble_eq_true rfl⟩ ⟨Nat.le_refl 0, Nat.le_refl 0⟩ rfl rfl (Nat.le_of_ble_eq_true rfl) dX4_kindTold_42 rfl ?_
  refine v_lstore_n 46 [(3, .long z42), (1, .long s0), (0, .ref (a 0))] X dX4_kindTold_45 rfl rfl (by decide) rfl ?_
  refine v_bipush (v := 116) 48 X dX4_kindTold_46 rfl kb_116 ?_
  refine v_bipush (v := 114) 50 X dX4_kindTold_48 rfl kb_114 ?_
  refine v_bipush (v := 105) 52 X dX4_kindTold_50 rfl kb_105 ?_
  refine v_bipush (v := 97) 54 X dX4_kindTold_52 rfl kb_97 ?_
  obtain ⟨z54, hz54, hF⟩ := ob hF
  refine v_mSl 57 X 4 [.int 116, .int 114, .int 105, .int 97] (w_X4_spelled 116 114 105 97 _ hz54) q1494 q1495 q95 q1496 hdX4_spelled pass_no ⟨rfl, rfl⟩ ⟨Nat.le_of_ble_eq_true rfl, Nat.le_of_ble_eq_true rfl⟩ ⟨Nat.le_refl 0, Nat.le_refl 0⟩ rfl rfl (Nat.le_of_ble_eq_true rfl) dX4_kindTold_54 rfl ?_
  refine v_bipush (v := 110) 59 X dX4_kindTold_57 rfl kb_110 ?_
  refine v_bipush (v := 103) 61 X dX4_kindTold_59 rfl kb_103 ?_
  refine v_bipush (v := 117) 63 X dX4_kindTold_61 rfl kb_117 ?_
  refine v_bipush (v := 108) 65 X dX4_kindTold_63 rfl kb_108 ?_
  obtain ⟨z65, hz65, hF⟩ := ob hF
  refine v_mSl 68 X 5 [.long z54, .int 110, .int 103, .int 117, .int 108] (w_X4_longer z54 110 103 117 108 _ hz65) q1509 q1510 q95 q1511 hdX4_longer pass_no ⟨rfl, rfl⟩ ⟨Nat.le_of_ble_eq_true rfl, Nat.le_of_ble_eq_true rfl⟩ ⟨Nat.le_refl 0, Nat.le_refl 0⟩ rfl rfl (Nat.le_of_ble_eq_true rfl) dX4_kindTold_65 rfl ?_
  refine v_bipush (v := 97) 70 X dX4_kindTold_68 rfl kb_97 ?_
  refine v_bipush (v := 114) 72 X dX4_kindTold_70 rfl kb_114 ?_
  refine v_iconst (v := 0) 73 X dX4_kindTold_72 rfl ki_0 ?_
  refine v_iconst (v := 0) 74 X dX4_kindTold_73 rfl ki_0 ?_
  obtain ⟨z74, hz74, hF⟩ := ob hF
  refine v_mSl 77 X 5 [.long z65, .int 97, .int 114, .int 0, .int 0] (w_X4_longer z65 97 114 0 0 _ hz74) q1509 q1510 q95 q1511 hdX4_longer pass_no ⟨rfl, rfl⟩ ⟨Nat.le_of_ble_eq_true rfl, Nat.le_of_ble_eq_true rfl⟩ ⟨Nat.le_refl 0, Nat.le_refl 0⟩ rfl rfl (Nat.le_of_ble_eq_true rfl) dX4_kindTold_74 rfl ?_
  refine v_lstore 79 [(5, .long z74), (3, .long z42), (1, .long s0), (0, .ref (a 0))] X dX4_kindTold_77 rfl (by decide) rfl ?_
  refine v_lload_n 80 X 2 dX4_kindTold_79 rfl rfl rfl ?_
  refine v_lload_n 81 X 1 dX4_kindTold_80 rfl rfl rfl ?_
  refine v_lcmp 82 X dX4_kindTold_81 rfl ?_
  refine v_if_ne 85 89 X dX4_kindTold_82 rfl (by decide) (fun h82 => ?_) (fun h82 => ?_)
  · replace hF := ifn h82 hF
    refine v_lload_n 90 X 2 dX4_kindTold_89 rfl rfl rfl ?_
    refine v_lload 92 X 0 dX4_kindTold_90 rfl rfl ?_
    refine v_lcmp 93 X dX4_kindTold_92 rfl ?_
    refine v_if_ne 96 100 X dX4_kindTold_93 rfl (by decide) (fun h93 => ?_) (fun h93 => ?_)
    · replace hF := ifn h93 hF
      refine v_lload_n 101 X 2 dX4_kindTold_100 rfl rfl rfl ?_
      refine v_bipush (v := 102) 103 X dX4_kindTold_101 rfl kb_102 ?_
      refine v_bipush (v := 117) 105 X dX4_kindTold_103 rfl kb_117 ?_
      refine v_bipush (v := 108) 107 X dX4_kindTold_105 rfl kb_108 ?_
      refine v_bipush (v := 108) 109 X dX4_kindTold_107 rfl kb_108 ?_
      obtain ⟨z109, hz109, hF⟩ := ob hF
      refine v_mSl 112 X 4 [.int 102, .int 117, .int 108, .int 108] (w_X4_spelled 102 117 108 108 _ hz109) q1494 q1495 q95 q1496 hdX4_spelled pass_no ⟨rfl, rfl⟩ ⟨Nat.le_of_ble_eq_true rfl, Nat.le_of_ble_eq_true rfl⟩ ⟨Nat.le_refl 0, Nat.le_refl 0⟩ rfl rfl (Nat.le_of_ble_eq_true rfl) dX4_kindTold_109 rfl ?_
      refine v_lcmp 113 X dX4_kindTold_112 rfl ?_
      refine v_if_ne 116 120 X dX4_kindTold_113 rfl (by decide) (fun h113 => ?_) (fun h113 => ?_)
      · replace hF := ifn h113 hF
        refine v_bipush (v := (-9)) 122 X dX4_kindTold_120 rfl kb_m9 ?_
        exact v_lv [3] rfl (w_X4_kindTold_j122 X hr (-9) hF)
      · replace hF := ifp h113 hF
        refine v_iconst (v := 2) 117 X dX4_kindTold_116 rfl ki_2 ?_
        refine v_goto 122 X dX4_kindTold_117 (by decide) ?_
        exact v_lv [3] rfl (w_X4_kindTold_j122 X hr 2 hF)
    · replace hF := ifp h93 hF
      refine v_iconst (v := 1) 97 X dX4_kindTold_96 rfl ki_1 ?_
      refine v_goto 122 X dX4_kindTold_97 (by decide) ?_
      exact v_lv [3] rfl (w_X4_kindTold_j122 X hr 1 hF)
  · replace hF := ifp h82 hF
    refine v_iconst (v := 0) 86 X dX4_kindTold_85 rfl ki_0 ?_
    refine v_goto 122 X dX4_kindTold_86 (by decide) ?_
    exact v_lv [3] rfl (w_X4_kindTold_j122 X hr 0 hF)
theorem w_X4_kindTold (r : Int32 × Int32 × Int32 × Int32) (hF : M_kindTold text length frm ende wrong = some r) : CTi l yX4_kindTold cX4_kindTold 8 (Option.some Jvm.ClassFile.FieldType.int) rmX4_kindTold D (MW D a now past kept text queue isMet clusterOf fresh saved length met clusters frm ende wrong) [.ref (a 0)] NoX (fun r1 u => r1 = r.1 ∧ u = (MW D a now past kept text queue isMet clusterOf fresh saved length met clusters r.2.1 r.2.2.1 r.2.2.2)) := by
  refine m_i (by decide) (Nat.le_of_ble_eq_true rfl) ?_
  intro p e s m args below meth c A B
  obtain ⟨X, hr, -, -, -, -⟩ := B
  replace X : CX p s m args meth c D A cX4_kindTold 8 "DyeLatticeModel" := X
  refine v_lv (lv' := [(0, .ref (a 0))]) [0] rfl ?_
  unfold M_kindTold at hF
  refine v_aload_n 1 X 0 dX4_kindTold_0 rfl rfl rfl ?_
  refine v_get 4 X in_X4 0 14 rfl rfl (by decide) q1186 rfl rfl dX4_kindTold_1 rfl ?_
  refine v_if_ne 7 14 X dX4_kindTold_4 rfl (by decide) (fun h4 => ?_) (fun h4 => ?_)
  · replace hF := ifn h4 hF
    refine v_ldc2 17 X q1493 dX4_kindTold_14 rfl ?_
    refine v_goto 24 X dX4_kindTold_17 (by decide) ?_
    exact v_lv [0] rfl (w_X4_kindTold_j24 X hr (-1) hF)
  · replace hF := ifp h4 hF
    refine v_aload_n 8 X 0 dX4_kindTold_7 rfl rfl rfl ?_
    obtain ⟨z8, hz8, hF⟩ := ob hF
    refine v_mVi 11 X 0 [] (w_X4_goes _ hz8) q1473 q1475 qs71 q95 q1476 hdX4_goes 0 rfl rfl pass_no ⟨rfl, rfl⟩ ⟨Nat.le_of_ble_eq_true rfl, Nat.le_of_ble_eq_true rfl⟩ ⟨Nat.le_refl 0, Nat.le_refl 0⟩ rfl rfl (Nat.le_of_ble_eq_true rfl) dX4_kindTold_8 rfl ?_
    refine v_if_ne 14 20 X dX4_kindTold_11 rfl (by decide) (fun h11 => ?_) (fun h11 => ?_)
    · replace hF := ifn h11 hF
      refine v_aload_n 21 X 0 dX4_kindTold_20 rfl rfl rfl ?_
      obtain ⟨z21, hz21, hF⟩ := ob hF
      refine v_mVl 24 X 0 [] (w_X4_word _ hz21) q1487 q1489 qs73 q95 q1490 hdX4_word 0 rfl rfl pass_no ⟨rfl, rfl⟩ ⟨Nat.le_of_ble_eq_true rfl, Nat.le_of_ble_eq_true rfl⟩ ⟨Nat.le_refl 0, Nat.le_refl 0⟩ rfl rfl (Nat.le_of_ble_eq_true rfl) dX4_kindTold_21 rfl ?_
      exact v_lv [0] rfl (w_X4_kindTold_j24 X hr z21 hF)
    · replace hF := ifp h11 hF
      refine v_ldc2 17 X q1493 dX4_kindTold_14 rfl ?_
      refine v_goto 24 X dX4_kindTold_17 (by decide) ?_
      exact v_lv [0] rfl (w_X4_kindTold_j24 X hr (-1) hF)
end
