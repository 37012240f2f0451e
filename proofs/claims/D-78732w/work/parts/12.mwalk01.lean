set_option maxRecDepth 100000
set_option maxHeartbeats 4000000
section
variable {p : Program} {l : Launch} {e : Env} {s : State} {m : MethodId} {args : Array Value} {below : List Frame} {meth : Method} {c : Code} {D : va_G} {A : Nat → Prop} {Q : State → Prop} {a : Nat → Nat} {now past kept text queue isMet clusterOf fresh : Nat → Int32} {saved length met clusters frm ende wrong : Int32}
theorem w_X4_run_37 (X : CX p s m args meth c D A cX4_run 4 "DyeLatticeModel") (v1 : Int32) : ∀ (n : Nat) (x : Int32 × Int32 × (Nat → Int32) × (Nat → Int32)) (o : (Int32 × (Nat → Int32) × (Nat → Int32))), loopN (fun x => M_run_37 v1 x.1 x.2.1 x.2.2.1 x.2.2.2) n x = some o → (V p l e rmX4_run s m args below meth c D A 4 Q (MW D a o.2.1 past kept text queue isMet clusterOf o.2.2 saved length met clusters frm ende wrong) 0 0 55 [(2, .int o.1)] []) → V p l e rmX4_run s m args below meth c D A 4 Q (MW D a x.2.2.1 past kept text queue isMet clusterOf x.2.2.2 saved length met clusters frm ende wrong) 0 0 37 [(0, .ref (a 0)), (1, .int v1), (2, .int x.1), (3, .int x.2.1)] [] := by
  refine v_loop (fun (x : Int32 × Int32 × (Nat → Int32) × (Nat → Int32)) => V p l e rmX4_run s m args below meth c D A 4 Q (MW D a x.2.2.1 past kept text queue isMet clusterOf x.2.2.2 saved length met clusters frm ende wrong) 0 0 37 [(0, .ref (a 0)), (1, .int v1), (2, .int x.1), (3, .int x.2.1)] []) (fun (o : (Int32 × (Nat → Int32) × (Nat → Int32))) => V p l e rmX4_run s m args below meth c D A 4 Q (MW D a o.2.1 past kept text queue isMet clusterOf o.2.2 saved length met clusters frm ende wrong) 0 0 55 [(2, .int o.1)] []) ?_
  rintro ⟨v2, v3, now, fresh⟩ r hF hI hO
  replace hF : M_run_37 v1 v2 v3 now fresh = some r := hF
  show V p l e rmX4_run s m args below meth c D A 4 Q (MW D a now past kept text queue isMet clusterOf fresh saved length met clusters frm ende wrong) 0 0 37 [(0, .ref (a 0)), (1, .int v1), (2, .int v2), (3, .int v3)] []
  unfold M_run_37 at hF
  refine v_iload_n 38 X 3 dX4_run_37 rfl rfl rfl ?_
  refine v_iload_n 39 X 1 dX4_run_38 rfl rfl rfl ?_
  refine v_icmp_ge 42 55 X dX4_run_39 rfl (by decide) (fun h39 => ?_) (fun h39 => ?_)
  · replace hF := ifp h39 hF
    obtain rfl := Option.some.inj hF
    exact v_lv [2] rfl (hO _ rfl)
  · replace hF := ifn h39 hF
    refine v_iload_n 43 X 2 dX4_run_42 rfl rfl rfl ?_
    refine v_aload_n 44 X 0 dX4_run_43 rfl rfl rfl ?_
    obtain ⟨z44, hz44, hF⟩ := ob hF
    refine v_mVi 47 X 0 [] (w_X4_steps _ hz44) q1321 q1323 qs50 q95 q1324 hdX4_steps 0 rfl rfl pass_no ⟨rfl, rfl⟩ ⟨Nat.le_of_ble_eq_true rfl, Nat.le_of_ble_eq_true rfl⟩ ⟨Nat.le_refl 0, Nat.le_refl 0⟩ rfl rfl (Nat.le_of_ble_eq_true rfl) dX4_run_44 rfl ?_
    refine v_iadd 48 X dX4_run_47 rfl ?_
    refine v_istore_n 49 [(2, .int (v2 + z44.1)), (0, .ref (a 0)), (1, .int v1), (3, .int v3)] X dX4_run_48 rfl rfl (by decide) rfl ?_
    refine v_iinc (v := (v3 + 1)) 52 [(3, .int (v3 + 1)), (2, .int (v2 + z44.1)), (0, .ref (a 0)), (1, .int v1)] X 3 dX4_run_49 rfl rfl (by rfl) (by decide) rfl ?_
    refine v_goto 37 X dX4_run_52 (by decide) ?_
    obtain rfl := Option.some.inj hF
    exact v_lv [2, 3, 1, 0] rfl (hI _ rfl)
theorem w_X4_run (v1 : Int32) (r : Int32 × (Nat → Int32) × (Nat → Int32) × (Nat → Int32) × Int32) (hF : M_run now past fresh saved v1 = some r) : CTi l yX4_run cX4_run 4 (Option.some Jvm.ClassFile.FieldType.int) rmX4_run D (MW D a now past kept text queue isMet clusterOf fresh saved length met clusters frm ende wrong) [.ref (a 0), .int v1] NoX (fun r1 u => r1 = r.1 ∧ u = (MW D a r.2.1 r.2.2.1 kept text queue isMet clusterOf r.2.2.2.1 r.2.2.2.2 length met clusters frm ende wrong)) := by
  refine m_i (by decide) (Nat.le_of_ble_eq_true rfl) ?_
  intro p e s m args below meth c A B
  obtain ⟨X, hr, -, -, -, -⟩ := B
  replace X : CX p s m args meth c D A cX4_run 4 "DyeLatticeModel" := X
  refine v_lv (lv' := [(0, .ref (a 0)), (1, .int v1)]) [0, 1] rfl ?_
  unfold M_run at hF
  refine v_iload_n 1 X 1 dX4_run_0 rfl rfl rfl ?_
  refine v_iconst (v := 1) 2 X dX4_run_1 rfl ki_1 ?_
  refine v_bipush (v := 60) 4 X dX4_run_2 rfl kb_60 ?_
  obtain ⟨z4, hz4, hF⟩ := ob hF
  refine v_mSi 7 X 3 [.int v1, .int 1, .int 60] (w_X4_within v1 1 60 _ hz4) q1226 q1227 q95 q1228 hdX4_within pass_no ⟨rfl, rfl⟩ ⟨Nat.le_of_ble_eq_true rfl, Nat.le_of_ble_eq_true rfl⟩ ⟨Nat.le_refl 0, Nat.le_refl 0⟩ rfl rfl (Nat.le_of_ble_eq_true rfl) dX4_run_4 rfl ?_
  refine v_if_ne 10 12 X dX4_run_7 rfl (by decide) (fun h7 => ?_) (fun h7 => ?_)
  · replace hF := ifn h7 hF
    refine v_aload_n 13 X 0 dX4_run_12 rfl rfl rfl ?_
    refine v_get 16 X in_X4 0 0 rfl rfl (by decide) q1172 rfl rfl dX4_run_13 rfl ?_
    refine v_iconst (v := 5) 17 X dX4_run_16 rfl ki_5 ?_
    obtain ⟨z17, hz17, hF⟩ := ob hF
    refine v_iald 18 X 1 hz17 rfl dX4_run_17 rfl ?_
    refine v_iload_n 19 X 1 dX4_run_18 rfl rfl rfl ?_
    refine v_iadd 20 X dX4_run_19 rfl ?_
    refine v_sipush (v := 1000) 23 X dX4_run_20 rfl ks_1000 ?_
    refine v_icmp_le 26 29 X dX4_run_23 rfl (by decide) (fun h23 => ?_) (fun h23 => ?_)
    · replace hF := ifp h23 hF
      refine v_aload_n 30 X 0 dX4_run_29 rfl rfl rfl ?_
      obtain ⟨z30, hz30, hF⟩ := ob hF
      refine v_mVv 33 X 0 [] (w_X4_saves _ hz30) q1229 q1231 qs37 q95 q1232 hdX4_saves 0 rfl rfl pass_no ⟨rfl, rfl⟩ ⟨Nat.le_of_ble_eq_true rfl, Nat.le_of_ble_eq_true rfl⟩ ⟨Nat.le_refl 0, Nat.le_refl 0⟩ rfl rfl (Nat.le_of_ble_eq_true rfl) dX4_run_30 rfl ?_
      refine v_iconst (v := 0) 34 X dX4_run_33 rfl ki_0 ?_
      refine v_istore_n 35 [(2, .int 0), (0, .ref (a 0)), (1, .int v1)] X dX4_run_34 rfl rfl (by decide) rfl ?_
      refine v_iconst (v := 0) 36 X dX4_run_35 rfl ki_0 ?_
      refine v_istore_n 37 [(3, .int 0), (2, .int 0), (0, .ref (a 0)), (1, .int v1)] X dX4_run_36 rfl rfl (by decide) rfl ?_
      obtain ⟨z37, hz37, hF⟩ := ob hF
      refine v_lv [2, 3, 1, 0] rfl (w_X4_run_37 X v1 _ (0, 0, now, fresh) _ hz37 ?_)
      refine v_iload_n 56 X 0 dX4_run_55 rfl rfl rfl ?_
      obtain rfl := Option.some.inj hF
      exact v_iret X hr ⟨rfl, rfl⟩ (Nat.zero_le _) (Nat.zero_le _) dX4_run_56
    · replace hF := ifn h23 hF
      refine v_bipush (v := (-3)) 28 X dX4_run_26 rfl kb_m3 ?_
      obtain rfl := Option.some.inj hF
      exact v_iret X hr ⟨rfl, rfl⟩ (Nat.zero_le _) (Nat.zero_le _) dX4_run_28
  · replace hF := ifp h7 hF
    refine v_iconst (v := (-1)) 11 X dX4_run_10 rfl ki_m1 ?_
    obtain rfl := Option.some.inj hF
    exact v_iret X hr ⟨rfl, rfl⟩ (Nat.zero_le _) (Nat.zero_le _) dX4_run_11
theorem w_X4_rinse_8_j35 (X : CX p s m args meth c D A cX4_rinse 3 "DyeLatticeModel") (v2 : Int32) (s0 : Int32) (s1 : Int32) {r : (Int32 × Int32 × (Nat → Int32)) ⊕ (Int32 × (Nat → Int32))} (hI : ∀ y, r = .inl y → V p l e rmX4_rinse s m args below meth c D A 3 Q (MW D a y.2.2 past kept text queue isMet clusterOf fresh saved length met clusters frm ende wrong) 0 0 8 [(0, .ref (a 0)), (1, .int y.1), (2, .int y.2.1)] []) (hO : ∀ y, r = .inr y → (V p l e rmX4_rinse s m args below meth c D A 3 Q (MW D a y.2 past kept text queue isMet clusterOf fresh saved length met clusters frm ende wrong) 0 0 65 [(0, .ref (a 0)), (1, .int y.1)] [])) (hF : M_rinse_8_j35 now v2 s0 s1 = some r) : V p l e rmX4_rinse s m args below meth c D A 3 Q (MW D a now past kept text queue isMet clusterOf fresh saved length met clusters frm ende wrong) 0 0 35 [(0, .ref (a 0)), (2, .int v2)] [.int s1, .int s0] := by
  unfold M_rinse_8_j35 at hF
  refine v_iadd 36 X dX4_rinse_35 rfl ?_
  refine v_istore_n 37 [(1, .int (s0 + s1)), (0, .ref (a 0)), (2, .int v2)] X dX4_rinse_36 rfl rfl (by decide) rfl ?_
  refine v_aload_n 38 X 1 dX4_rinse_37 rfl rfl rfl ?_
  refine v_get 41 X in_X4 0 0 rfl rfl (by decide) q1172 rfl rfl dX4_rinse_38 rfl ?_
  refine v_sipush (v := 487) 44 X dX4_rinse_41 rfl ks_487 ?_
  refine v_iload_n 45 X 2 dX4_rinse_44 rfl rfl rfl ?_
  refine v_iadd 46 X dX4_rinse_45 rfl ?_
  refine v_iconst (v := 0) 47 X dX4_rinse_46 rfl ki_0 ?_
  obtain ⟨z47, hz47, hF⟩ := ob hF
  refine v_iast 48 (MW D a z47 past kept text queue isMet clusterOf fresh saved length met clusters frm ende wrong) X 1 hz47 rfl dX4_rinse_47 rfl rfl ?_
  refine v_aload_n 49 X 1 dX4_rinse_48 rfl rfl rfl ?_
  refine v_get 52 X in_X4 0 0 rfl rfl (by decide) q1172 rfl rfl dX4_rinse_49 rfl ?_
  refine v_sipush (v := 567) 55 X dX4_rinse_52 rfl ks_567 ?_
  refine v_iload_n 56 X 2 dX4_rinse_55 rfl rfl rfl ?_
  refine v_iadd 57 X dX4_rinse_56 rfl ?_
  refine v_iconst (v := 0) 58 X dX4_rinse_57 rfl ki_0 ?_
  obtain ⟨z58, hz58, hF⟩ := ob hF
  refine v_iast 59 (MW D a z58 past kept text queue isMet clusterOf fresh saved length met clusters frm ende wrong) X 1 hz58 rfl dX4_rinse_58 rfl rfl ?_
  refine v_iinc (v := (v2 + 1)) 62 [(2, .int (v2 + 1)), (1, .int (s0 + s1)), (0, .ref (a 0))] X 2 dX4_rinse_59 rfl rfl (by rfl) (by decide) rfl ?_
  refine v_goto 8 X dX4_rinse_62 (by decide) ?_
  obtain rfl := Option.some.inj hF
  exact v_lv [2, 1, 0] rfl (hI _ rfl)
theorem w_X4_rinse_8 (X : CX p s m args meth c D A cX4_rinse 3 "DyeLatticeModel") : ∀ (n : Nat) (x : Int32 × Int32 × (Nat → Int32)) (o : (Int32 × (Nat → Int32))), loopN (fun x => M_rinse_8 x.1 x.2.1 x.2.2) n x = some o → (V p l e rmX4_rinse s m args below meth c D A 3 Q (MW D a o.2 past kept text queue isMet clusterOf fresh saved length met clusters frm ende wrong) 0 0 65 [(0, .ref (a 0)), (1, .int o.1)] []) → V p l e rmX4_rinse s m args below meth c D A 3 Q (MW D a x.2.2 past kept text queue isMet clusterOf fresh saved length met clusters frm ende wrong) 0 0 8 [(0, .ref (a 0)), (1, .int x.1), (2, .int x.2.1)] [] := by
  refine v_loop (fun (x : Int32 × Int32 × (Nat → Int32)) => V p l e rmX4_rinse s m args below meth c D A 3 Q (MW D a x.2.2 past kept text queue isMet clusterOf fresh saved length met clusters frm ende wrong) 0 0 8 [(0, .ref (a 0)), (1, .int x.1), (2, .int x.2.1)] []) (fun (o : (Int32 × (Nat → Int32))) => V p l e rmX4_rinse s m args below meth c D A 3 Q (MW D a o.2 past kept text queue isMet clusterOf fresh saved length met clusters frm ende wrong) 0 0 65 [(0, .ref (a 0)), (1, .int o.1)] []) ?_
  rintro ⟨v1, v2, now⟩ r hF hI hO
  replace hF : M_rinse_8 v1 v2 now = some r := hF
  show V p l e rmX4_rinse s m args below meth c D A 3 Q (MW D a now past kept text queue isMet clusterOf fresh saved length met clusters frm ende wrong) 0 0 8 [(0, .ref (a 0)), (1, .int v1), (2, .int v2)] []
  unfold M_rinse_8 at hF
  refine v_iload_n 9 X 2 dX4_rinse_8 rfl rfl rfl ?_
  refine v_aload_n 10 X 0 dX4_rinse_9 rfl rfl rfl ?_
  obtain ⟨z10, hz10, hF⟩ := ob hF
  refine v_mVi 13 X 0 [] (w_X4_cells _ hz10) q1233 q1235 qs38 q95 q1236 hdX4_cells 0 rfl rfl pass_no ⟨rfl, rfl⟩ ⟨Nat.le_of_ble_eq_true rfl, Nat.le_of_ble_eq_true rfl⟩ ⟨Nat.le_refl 0, Nat.le_refl 0⟩ rfl rfl (Nat.le_of_ble_eq_true rfl) dX4_rinse_10 rfl ?_
  refine v_icmp_ge 16 65 X dX4_rinse_13 rfl (by decide) (fun h13 => ?_) (fun h13 => ?_)
  · replace hF := ifp h13 hF
    obtain rfl := Option.some.inj hF
    exact v_lv [0, 1] rfl (hO _ rfl)
  · replace hF := ifn h13 hF
    refine v_iload_n 17 X 1 dX4_rinse_16 rfl rfl rfl ?_
    refine v_aload_n 18 X 0 dX4_rinse_17 rfl rfl rfl ?_
    refine v_get 21 X in_X4 0 0 rfl rfl (by decide) q1172 rfl rfl dX4_rinse_18 rfl ?_
    refine v_sipush (v := 487) 24 X dX4_rinse_21 rfl ks_487 ?_
    refine v_iload_n 25 X 2 dX4_rinse_24 rfl rfl rfl ?_
    refine v_iadd 26 X dX4_rinse_25 rfl ?_
    obtain ⟨z26, hz26, hF⟩ := ob hF
    refine v_iald 27 X 1 hz26 rfl dX4_rinse_26 rfl ?_
    refine v_if_ne 30 34 X dX4_rinse_27 rfl (by decide) (fun h27 => ?_) (fun h27 => ?_)
    · replace hF := ifn h27 hF
      refine v_iconst (v := 1) 35 X dX4_rinse_34 rfl ki_1 ?_
      exact v_lv [0, 2] rfl (w_X4_rinse_8_j35 X v2 v1 1 hI hO hF)
    · replace hF := ifp h27 hF
      refine v_iconst (v := 0) 31 X dX4_rinse_30 rfl ki_0 ?_
      refine v_goto 35 X dX4_rinse_31 (by decide) ?_
      exact v_lv [0, 2] rfl (w_X4_rinse_8_j35 X v2 v1 0 hI hO hF)
theorem w_X4_rinse (r : Int32 × (Nat → Int32) × (Nat → Int32) × Int32) (hF : M_rinse now past saved = some r) : CTi l yX4_rinse cX4_rinse 3 (Option.some Jvm.ClassFile.FieldType.int) rmX4_rinse D (MW D a now past kept text queue isMet clusterOf fresh saved length met clusters frm ende wrong) [.ref (a 0)] NoX (fun r1 u => r1 = r.1 ∧ u = (MW D a r.2.1 r.2.2.1 kept text queue isMet clusterOf fresh r.2.2.2 length met clusters frm ende wrong)) := by
  refine m_i (by decide) (Nat.le_of_ble_eq_true rfl) ?_
  intro p e s m args below meth c A B
  obtain ⟨X, hr, -, -, -, -⟩ := B
  replace X : CX p s m args meth c D A cX4_rinse 3 "DyeLatticeModel" := X
  refine v_lv (lv' := [(0, .ref (a 0))]) [0] rfl ?_
  unfold M_rinse at hF
  refine v_aload_n 1 X 0 dX4_rinse_0 rfl rfl rfl ?_
  obtain ⟨z1, hz1, hF⟩ := ob hF
  refine v_mVv 4 X 0 [] (w_X4_saves _ hz1) q1229 q1231 qs37 q95 q1232 hdX4_saves 0 rfl rfl pass_no ⟨rfl, rfl⟩ ⟨Nat.le_of_ble_eq_true rfl, Nat.le_of_ble_eq_true rfl⟩ ⟨Nat.le_refl 0, Nat.le_refl 0⟩ rfl rfl (Nat.le_of_ble_eq_true rfl) dX4_rinse_1 rfl ?_
  refine v_iconst (v := 0) 5 X dX4_rinse_4 rfl ki_0 ?_
  refine v_istore_n 6 [(1, .int 0), (0, .ref (a 0))] X dX4_rinse_5 rfl rfl (by decide) rfl ?_
  refine v_iconst (v := 0) 7 X dX4_rinse_6 rfl ki_0 ?_
  refine v_istore_n 8 [(2, .int 0), (1, .int 0), (0, .ref (a 0))] X dX4_rinse_7 rfl rfl (by decide) rfl ?_
  obtain ⟨z8, hz8, hF⟩ := ob hF
  refine v_lv [2, 1, 0] rfl (w_X4_rinse_8 X _ (0, 0, now) _ hz8 ?_)
  refine v_aload_n 66 X 0 dX4_rinse_65 rfl rfl rfl ?_
  refine v_get 69 X in_X4 0 0 rfl rfl (by decide) q1172 rfl rfl dX4_rinse_66 rfl ?_
  refine v_iconst (v := 5) 70 X dX4_rinse_69 rfl ki_5 ?_
  refine v_iconst (v := 0) 71 X dX4_rinse_70 rfl ki_0 ?_
  obtain ⟨z71, hz71, hF⟩ := ob hF
  refine v_iast 72 (MW D a z71 z1.1 kept text queue isMet clusterOf fresh z1.2 length met clusters frm ende wrong) X 1 hz71 rfl dX4_rinse_71 rfl rfl ?_
  refine v_iload_n 73 X 1 dX4_rinse_72 rfl rfl rfl ?_
  obtain rfl := Option.some.inj hF
  exact v_iret X hr ⟨rfl, rfl⟩ (Nat.zero_le _) (Nat.zero_le _) dX4_rinse_73
theorem w_X4_forgets_7 (X : CX p s m args meth c D A cX4_forgets 2 "DyeLatticeModel") : ∀ (n : Nat) (x : Int32 × (Nat → Int32)) (o : ((Nat → Int32))), loopN (fun x => M_forgets_7 x.1 x.2) n x = some o → (V p l e rmX4_forgets s m args below meth c D A 2 Q (MW D a now past kept text queue o clusterOf fresh saved length met clusters frm ende wrong) 0 0 26 [] []) → V p l e rmX4_forgets s m args below meth c D A 2 Q (MW D a now past kept text queue x.2 clusterOf fresh saved length met clusters frm ende wrong) 0 0 7 [(0, .ref (a 0)), (1, .int x.1)] [] := by
  refine v_loop (fun (x : Int32 × (Nat → Int32)) => V p l e rmX4_forgets s m args below meth c D A 2 Q (MW D a now past kept text queue x.2 clusterOf fresh saved length met clusters frm ende wrong) 0 0 7 [(0, .ref (a 0)), (1, .int x.1)] []) (fun (o : ((Nat → Int32))) => V p l e rmX4_forgets s m args below meth c D A 2 Q (MW D a now past kept text queue o clusterOf fresh saved length met clusters frm ende wrong) 0 0 26 [] []) ?_
  rintro ⟨v1, isMet⟩ r hF hI hO
  replace hF : M_forgets_7 v1 isMet = some r := hF
  show V p l e rmX4_forgets s m args below meth c D A 2 Q (MW D a now past kept text queue isMet clusterOf fresh saved length met clusters frm ende wrong) 0 0 7 [(0, .ref (a 0)), (1, .int v1)] []
  unfold M_forgets_7 at hF
  refine v_iload_n 8 X 1 dX4_forgets_7 rfl rfl rfl ?_
  refine v_bipush (v := 80) 10 X dX4_forgets_8 rfl kb_80 ?_
  refine v_icmp_ge 13 26 X dX4_forgets_10 rfl (by decide) (fun h10 => ?_) (fun h10 => ?_)
  · replace hF := ifp h10 hF
    obtain rfl := Option.some.inj hF
    exact v_lv [] rfl (hO _ rfl)
  · replace hF := ifn h10 hF
    refine v_aload_n 14 X 0 dX4_forgets_13 rfl rfl rfl ?_
    refine v_get 17 X in_X4 0 7 rfl rfl (by decide) q1179 rfl rfl dX4_forgets_14 rfl ?_
    refine v_iload_n 18 X 1 dX4_forgets_17 rfl rfl rfl ?_
    refine v_iconst (v := 0) 19 X dX4_forgets_18 rfl ki_0 ?_
    obtain ⟨z19, hz19, hF⟩ := ob hF
    refine v_zast 20 (MW D a now past kept text queue z19 clusterOf fresh saved length met clusters frm ende wrong) X 6 hz19 rfl dX4_forgets_19 rfl rfl ?_
    refine v_iinc (v := (v1 + 1)) 23 [(1, .int (v1 + 1)), (0, .ref (a 0))] X 1 dX4_forgets_20 rfl rfl (by rfl) (by decide) rfl ?_
    refine v_goto 7 X dX4_forgets_23 (by decide) ?_
    obtain rfl := Option.some.inj hF
    exact v_lv [1, 0] rfl (hI _ rfl)
theorem w_X4_forgets (r : (Nat → Int32) × Int32) (hF : M_forgets isMet met = some r) : CTv l yX4_forgets cX4_forgets 2 (Option.none : Option Jvm.ClassFile.FieldType) rmX4_forgets D (MW D a now past kept text queue isMet clusterOf fresh saved length met clusters frm ende wrong) [.ref (a 0)] NoX (fun u => u = (MW D a now past kept text queue r.1 clusterOf fresh saved length r.2 clusters frm ende wrong)) := by
  refine m_v (by decide) (Nat.le_of_ble_eq_true rfl) ?_
  intro p e s m args below meth c A B
  obtain ⟨X, hr, -, -, -, -⟩ := B
  replace X : CX p s m args meth c D A cX4_forgets 2 "DyeLatticeModel" := X
  refine v_lv (lv' := [(0, .ref (a 0))]) [0] rfl ?_
  unfold M_forgets at hF
  refine v_aload_n 1 X 0 dX4_forgets_0 rfl rfl rfl ?_
  refine v_iconst (v := 0) 2 X dX4_forgets_1 rfl ki_0 ?_
  refine v_put 5 (MW D a now past kept text queue isMet clusterOf fresh saved length 0 clusters frm ende wrong) X in_X4 tyX4_ok nmX4 0 8 rfl rfl (by decide) q1180 rfl rfl rfl rfl rfl (Nat.le_of_ble_eq_true rfl) dX4_forgets_2 rfl rfl ?_
  refine v_iconst (v := 0) 6 X dX4_forgets_5 rfl ki_0 ?_
  refine v_istore_n 7 [(1, .int 0), (0, .ref (a 0))] X dX4_forgets_6 rfl rfl (by decide) rfl ?_
  obtain ⟨z7, hz7, hF⟩ := ob hF
  refine v_lv [1, 0] rfl (w_X4_forgets_7 X _ (0, isMet) _ hz7 ?_)
  obtain rfl := Option.some.inj hF
  exact v_vret X hr rfl (Nat.zero_le _) (Nat.zero_le _) dX4_forgets_26
theorem w_X4_meets (v1 : Int32) (v2 : Int32) (v3 : Int32) (r : (Nat → Int32) × (Nat → Int32) × Int32) (hF : M_meets now queue isMet met v1 v2 v3 = some r) : CTv l yX4_meets cX4_meets 4 (Option.none : Option Jvm.ClassFile.FieldType) rmX4_meets D (MW D a now past kept text queue isMet clusterOf fresh saved length met clusters frm ende wrong) [.ref (a 0), .int v1, .int v2, .int v3] NoX (fun u => u = (MW D a now past kept text r.1 r.2.1 clusterOf fresh saved length r.2.2 clusters frm ende wrong)) := by
  refine m_v (by decide) (Nat.le_of_ble_eq_true rfl) ?_
  intro p e s m args below meth c A B
  obtain ⟨X, hr, -, -, -, -⟩ := B
  replace X : CX p s m args meth c D A cX4_meets 4 "DyeLatticeModel" := X
  refine v_lv (lv' := [(0, .ref (a 0)), (1, .int v1), (2, .int v2), (3, .int v3)]) [0, 1, 2, 3] rfl ?_
  unfold M_meets at hF
  refine v_iload_n 1 X 1 dX4_meets_0 rfl rfl rfl ?_
  refine v_bipush (v := (-9)) 3 X dX4_meets_1 rfl kb_m9 ?_
  refine v_icmp_eq 6 56 X dX4_meets_3 rfl (by decide) (fun h3 => ?_) (fun h3 => ?_)
  · replace hF := ifp h3 hF
    obtain rfl := Option.some.inj hF
    exact v_vret X hr rfl (Nat.zero_le _) (Nat.zero_le _) dX4_meets_56
  · replace hF := ifn h3 hF
    refine v_iload_n 7 X 1 dX4_meets_6 rfl rfl rfl ?_
    refine v_iload_n 8 X 3 dX4_meets_7 rfl rfl rfl ?_
    refine v_icmp_eq 11 56 X dX4_meets_8 rfl (by decide) (fun h8 => ?_) (fun h8 => ?_)
    · replace hF := ifp h8 hF
      obtain rfl := Option.some.inj hF
      exact v_vret X hr rfl (Nat.zero_le _) (Nat.zero_le _) dX4_meets_56
    · replace hF := ifn h8 hF
      refine v_aload_n 12 X 0 dX4_meets_11 rfl rfl rfl ?_
      refine v_get 15 X in_X4 0 7 rfl rfl (by decide) q1179 rfl rfl dX4_meets_12 rfl ?_
      refine v_iload_n 16 X 1 dX4_meets_15 rfl rfl rfl ?_
      obtain ⟨z16, hz16, hF⟩ := ob hF
      refine v_zald 17 X 6 hz16 rfl dX4_meets_16 rfl ?_
      refine v_if_ne 20 56 X dX4_meets_17 rfl (by decide) (fun h17 => ?_) (fun h17 => ?_)
      · replace hF := ifn h17 hF
        obtain rfl := Option.some.inj hF
        exact v_vret X hr rfl (Nat.zero_le _) (Nat.zero_le _) dX4_meets_56
      · replace hF := ifp h17 hF
        refine v_aload_n 21 X 0 dX4_meets_20 rfl rfl rfl ?_
        refine v_iload_n 22 X 1 dX4_meets_21 rfl rfl rfl ?_
        refine v_iload_n 23 X 2 dX4_meets_22 rfl rfl rfl ?_
        obtain ⟨z23, hz23, hF⟩ := ob hF
        refine v_mVi 26 X 2 [.int v1, .int v2] (w_X4_isOpen v1 v2 _ hz23) q1278 q1280 qs46 q95 q1281 hdX4_isOpen 0 rfl rfl pass_no ⟨rfl, rfl⟩ ⟨Nat.le_of_ble_eq_true rfl, Nat.le_of_ble_eq_true rfl⟩ ⟨Nat.le_refl 0, Nat.le_refl 0⟩ rfl rfl (Nat.le_of_ble_eq_true rfl) dX4_meets_23 rfl ?_
        refine v_if_eq 29 56 X dX4_meets_26 rfl (by decide) (fun h26 => ?_) (fun h26 => ?_)
        · replace hF := ifp h26 hF
          obtain rfl := Option.some.inj hF
          exact v_vret X hr rfl (Nat.zero_le _) (Nat.zero_le _) dX4_meets_56
        · replace hF := ifn h26 hF
          refine v_aload_n 30 X 0 dX4_meets_29 rfl rfl rfl ?_
          refine v_get 33 X in_X4 0 7 rfl rfl (by decide) q1179 rfl rfl dX4_meets_30 rfl ?_
          refine v_iload_n 34 X 1 dX4_meets_33 rfl rfl rfl ?_
          refine v_iconst (v := 1) 35 X dX4_meets_34 rfl ki_1 ?_
          obtain ⟨z35, hz35, hF⟩ := ob hF
          refine v_zast 36 (MW D a now past kept text queue z35 clusterOf fresh saved length met clusters frm ende wrong) X 6 hz35 rfl dX4_meets_35 rfl rfl ?_
          refine v_aload_n 37 X 0 dX4_meets_36 rfl rfl rfl ?_
          refine v_get 40 X in_X4 0 6 rfl rfl (by decide) q1178 rfl rfl dX4_meets_37 rfl ?_
          refine v_aload_n 41 X 0 dX4_meets_40 rfl rfl rfl ?_
          refine v_get 44 X in_X4 0 8 rfl rfl (by decide) q1180 rfl rfl dX4_meets_41 rfl ?_
          refine v_iload_n 45 X 1 dX4_meets_44 rfl rfl rfl ?_
          obtain ⟨z45, hz45, hF⟩ := ob hF
          refine v_iast 46 (MW D a now past kept text z45 z35 clusterOf fresh saved length met clusters frm ende wrong) X 5 hz45 rfl dX4_meets_45 rfl rfl ?_
          refine v_aload_n 47 X 0 dX4_meets_46 rfl rfl rfl ?_
          refine v_dup 48 X dX4_meets_47 rfl rfl ?_
          refine v_get 51 X in_X4 0 8 rfl rfl (by decide) q1180 rfl rfl dX4_meets_48 rfl ?_
          refine v_iconst (v := 1) 52 X dX4_meets_51 rfl ki_1 ?_
          refine v_iadd 53 X dX4_meets_52 rfl ?_
          refine v_put 56 (MW D a now past kept text z45 z35 clusterOf fresh saved length (met + 1) clusters frm ende wrong) X in_X4 tyX4_ok nmX4 0 8 rfl rfl (by decide) q1180 rfl rfl rfl rfl rfl (Nat.le_of_ble_eq_true rfl) dX4_meets_53 rfl rfl ?_
          obtain rfl := Option.some.inj hF
          exact v_vret X hr rfl (Nat.zero_le _) (Nat.zero_le _) dX4_meets_56
theorem w_X4_first_j47 (X : CX p s m args meth c D A cX4_first 4 "DyeLatticeModel") (hr : meth.sig.returnType = (Option.some Jvm.ClassFile.FieldType.int)) {r : Int32} (v1 : Int32) (v2 : Int32) (s0 : Int32) (s1 : Int32) (hF : M_first_j47 now v1 v2 s0 s1 = some r) : V p l e rmX4_first s m args below meth c D A 4 (MQ below (va_Qi (fun r1 u => r1 = r ∧ u = (MW D a now past kept text queue isMet clusterOf fresh saved length met clusters frm ende wrong)) (Wd D A) A) args s rmX4_first.cells rmX4_first.slots A) (MW D a now past kept text queue isMet clusterOf fresh saved length met clusters frm ende wrong) 0 0 47 [(0, .ref (a 0)), (1, .int v1), (2, .int v2)] [.int s1, .int s0] := by
  unfold M_first_j47 at hF
  refine v_isub 48 X dX4_first_47 rfl ?_
  refine v_istore_n 49 [(3, .int (s0 - s1)), (0, .ref (a 0)), (1, .int v1), (2, .int v2)] X dX4_first_48 rfl rfl (by decide) rfl ?_
  refine v_aload_n 50 X 1 dX4_first_49 rfl rfl rfl ?_
  refine v_iload_n 51 X 0 dX4_first_50 rfl rfl rfl ?_
  obtain ⟨z51, hz51, hF⟩ := ob hF
  refine v_mVi 54 X 1 [.int (s0 - s1)] (w_X4_isCell (s0 - s1) _ hz51) q1253 q1255 qs42 q95 q1256 hdX4_isCell 0 rfl rfl pass_no ⟨rfl, rfl⟩ ⟨Nat.le_of_ble_eq_true rfl, Nat.le_of_ble_eq_true rfl⟩ ⟨Nat.le_refl 0, Nat.le_refl 0⟩ rfl rfl (Nat.le_of_ble_eq_true rfl) dX4_first_51 rfl ?_
  refine v_if_eq 57 71 X dX4_first_54 rfl (by decide) (fun h54 => ?_) (fun h54 => ?_)
  · replace hF := ifp h54 hF
    refine v_bipush (v := (-9)) 73 X dX4_first_71 rfl kb_m9 ?_
    obtain rfl := Option.some.inj hF
    exact v_iret X hr ⟨rfl, rfl⟩ (Nat.zero_le _) (Nat.zero_le _) dX4_first_73
  · replace hF := ifn h54 hF
    refine v_aload_n 58 X 1 dX4_first_57 rfl rfl rfl ?_
    refine v_iload_n 59 X 0 dX4_first_58 rfl rfl rfl ?_
    refine v_iload_n 60 X 3 dX4_first_59 rfl rfl rfl ?_
    obtain ⟨z60, hz60, hF⟩ := ob hF
    refine v_mVi 63 X 2 [.int (s0 - s1), .int v2] (w_X4_second (s0 - s1) v2 _ hz60) q1249 q1251 qs41 q95 q1252 hdX4_second 0 rfl rfl pass_no ⟨rfl, rfl⟩ ⟨Nat.le_of_ble_eq_true rfl, Nat.le_of_ble_eq_true rfl⟩ ⟨Nat.le_refl 0, Nat.le_refl 0⟩ rfl rfl (Nat.le_of_ble_eq_true rfl) dX4_first_60 rfl ?_
    refine v_iload_n 64 X 2 dX4_first_63 rfl rfl rfl ?_
    refine v_icmp_ne 67 71 X dX4_first_64 rfl (by decide) (fun h64 => ?_) (fun h64 => ?_)
    · replace hF := ifn h64 hF
      refine v_bipush (v := (-9)) 73 X dX4_first_71 rfl kb_m9 ?_
      obtain rfl := Option.some.inj hF
      exact v_iret X hr ⟨rfl, rfl⟩ (Nat.zero_le _) (Nat.zero_le _) dX4_first_73
    · replace hF := ifp h64 hF
      refine v_iload_n 68 X 0 dX4_first_67 rfl rfl rfl ?_
      refine v_goto 73 X dX4_first_68 (by decide) ?_
      obtain rfl := Option.some.inj hF
      exact v_iret X hr ⟨rfl, rfl⟩ (Nat.zero_le _) (Nat.zero_le _) dX4_first_73
theorem w_X4_first (v1 : Int32) (v2 : Int32) (r : Int32) (hF : M_first now v1 v2 = some r) : CTi l yX4_first cX4_first 4 (Option.some Jvm.ClassFile.FieldType.int) rmX4_first D (MW D a now past kept text queue isMet clusterOf fresh saved length met clusters frm ende wrong) [.ref (a 0), .int v1, .int v2] NoX (fun r1 u => r1 = r ∧ u = (MW D a now past kept text queue isMet clusterOf fresh saved length met clusters frm ende wrong)) := by
  refine m_i (by decide) (Nat.le_of_ble_eq_true rfl) ?_
  intro p e s m args below meth c A B
  obtain ⟨X, hr, -, -, -, -⟩ := B
  replace X : CX p s m args meth c D A cX4_first 4 "DyeLatticeModel" := X
  refine v_lv (lv' := [(0, .ref (a 0)), (1, .int v1), (2, .int v2)]) [0, 1, 2] rfl ?_
  unfold M_first at hF
  refine v_iload_n 1 X 1 dX4_first_0 rfl rfl rfl ?_
  refine v_iload_n 2 X 2 dX4_first_1 rfl rfl rfl ?_
  refine v_if_ne 5 9 X dX4_first_2 rfl (by decide) (fun h2 => ?_) (fun h2 => ?_)
  · replace hF := ifn h2 hF
    refine v_iload_n 10 X 2 dX4_first_9 rfl rfl rfl ?_
    refine v_iconst (v := 1) 11 X dX4_first_10 rfl ki_1 ?_
    refine v_icmp_ne 14 23 X dX4_first_11 rfl (by decide) (fun h11 => ?_) (fun h11 => ?_)
    · replace hF := ifn h11 hF
      refine v_iload_n 24 X 2 dX4_first_23 rfl rfl rfl ?_
      refine v_iconst (v := 2) 25 X dX4_first_24 rfl ki_2 ?_
      refine v_icmp_ne 28 39 X dX4_first_25 rfl (by decide) (fun h25 => ?_) (fun h25 => ?_)
      · replace hF := ifn h25 hF
        refine v_aload_n 40 X 0 dX4_first_39 rfl rfl rfl ?_
        refine v_get 43 X in_X4 0 0 rfl rfl (by decide) q1172 rfl rfl dX4_first_40 rfl ?_
        refine v_iconst (v := 0) 44 X dX4_first_43 rfl ki_0 ?_
        obtain ⟨z44, hz44, hF⟩ := ob hF
        refine v_iald 45 X 1 hz44 rfl dX4_first_44 rfl ?_
        refine v_iconst (v := 1) 46 X dX4_first_45 rfl ki_1 ?_
        refine v_iadd 47 X dX4_first_46 rfl ?_
        exact v_lv [0, 1, 2] rfl (w_X4_first_j47 X hr v1 v2 v1 (z44 + 1) hF)
      · replace hF := ifp h25 hF
        refine v_aload_n 29 X 0 dX4_first_28 rfl rfl rfl ?_
        refine v_get 32 X in_X4 0 0 rfl rfl (by decide) q1172 rfl rfl dX4_first_29 rfl ?_
        refine v_iconst (v := 0) 33 X dX4_first_32 rfl ki_0 ?_
        obtain ⟨z33, hz33, hF⟩ := ob hF
        refine v_iald 34 X 1 hz33 rfl dX4_first_33 rfl ?_
        refine v_iconst (v := 1) 35 X dX4_first_34 rfl ki_1 ?_
        refine v_isub 36 X dX4_first_35 rfl ?_
        refine v_goto 47 X dX4_first_36 (by decide) ?_
        exact v_lv [0, 1, 2] rfl (w_X4_first_j47 X hr v1 v2 v1 (z33 - 1) hF)
    · replace hF := ifp h11 hF
      refine v_aload_n 15 X 0 dX4_first_14 rfl rfl rfl ?_
      refine v_get 18 X in_X4 0 0 rfl rfl (by decide) q1172 rfl rfl dX4_first_15 rfl ?_
      refine v_iconst (v := 0) 19 X dX4_first_18 rfl ki_0 ?_
      obtain ⟨z19, hz19, hF⟩ := ob hF
      refine v_iald 20 X 1 hz19 rfl dX4_first_19 rfl ?_
      refine v_goto 47 X dX4_first_20 (by decide) ?_
      exact v_lv [0, 1, 2] rfl (w_X4_first_j47 X hr v1 v2 v1 z19 hF)
  · replace hF := ifp h2 hF
    refine v_iconst (v := 1) 6 X dX4_first_5 rfl ki_1 ?_
    refine v_goto 47 X dX4_first_6 (by decide) ?_
    exact v_lv [0, 1, 2] rfl (w_X4_first_j47 X hr v1 v2 v1 1 hF)
theorem w_X4_walks_24_j86 (X : CX p s m args meth c D A cX4_walks 9 "DyeLatticeModel") (v1 : Int32) (v2 : Int32) (v3 : Int32) (v4 : Int32) (v5 : Int32) (v6 : Int32) {r : (Int32 × (Nat → Int32) × (Nat → Int32) × Int32) ⊕ ((Nat → Int32) × (Nat → Int32) × Int32)} (hI : ∀ y, r = .inl y → V p l e rmX4_walks s m args below meth c D A 9 Q (MW D a now past kept text y.2.1 y.2.2.1 clusterOf fresh saved length y.2.2.2 clusters frm ende wrong) 0 0 24 [(0, .ref (a 0)), (1, .int v1), (2, .int v2), (3, .int v3), (4, .int v4), (5, .int v5), (6, .int y.1)] []) (hO : ∀ y, r = .inr y → (V p l e rmX4_walks s m args below meth c D A 9 Q (MW D a now past kept text y.1 y.2.1 clusterOf fresh saved length y.2.2 clusters frm ende wrong) 0 0 148 [(0, .ref (a 0)), (1, .int v1), (2, .int v2), (3, .int v3), (4, .int v4)] [])) (hF : M_walks_24_j86 now queue isMet met v1 v2 v3 v4 v5 v6 = some r) : V p l e rmX4_walks s m args below meth c D A 9 Q (MW D a now past kept text queue isMet clusterOf fresh saved length met clusters frm ende wrong) 0 0 86 [(0, .ref (a 0)), (1, .int v1), (2, .int v2), (3, .int v3), (4, .int v4), (5, .int v5), (6, .int v6)] [] := by
  unfold M_walks_24_j86 at hF
  refine v_aload_n 87 X 0 dX4_walks_86 rfl rfl rfl ?_
  refine v_iload 89 X 5 dX4_walks_87 rfl rfl ?_
  refine v_iload 91 X 6 dX4_walks_89 rfl rfl ?_
  obtain ⟨z91, hz91, hF⟩ := ob hF
  refine v_mVi 94 X 2 [.int v5, .int v6] (w_X4_first v5 v6 _ hz91) q1365 q1367 qs59 q95 q1368 hdX4_first 0 rfl rfl pass_no ⟨rfl, rfl⟩ ⟨Nat.le_of_ble_eq_true rfl, Nat.le_of_ble_eq_true rfl⟩ ⟨Nat.le_refl 0, Nat.le_refl 0⟩ rfl rfl (Nat.le_of_ble_eq_true rfl) dX4_walks_91 rfl ?_
  refine v_istore 96 [(8, .int z91), (0, .ref (a 0)), (1, .int v1), (2, .int v2), (3, .int v3), (4, .int v4), (5, .int v5), (6, .int v6)] X dX4_walks_94 rfl (by decide) rfl ?_
  refine v_iload 98 X 0 dX4_walks_96 rfl rfl ?_
  refine v_bipush (v := (-9)) 100 X dX4_walks_98 rfl kb_m9 ?_
  refine v_icmp_eq 103 142 X dX4_walks_100 rfl (by decide) (fun h100 => ?_) (fun h100 => ?_)
  · replace hF := ifp h100 hF
    refine v_iinc (v := (v6 + 1)) 145 [(6, .int (v6 + 1)), (8, .int z91), (0, .ref (a 0)), (1, .int v1), (2, .int v2), (3, .int v3), (4, .int v4), (5, .int v5)] X 7 dX4_walks_142 rfl rfl (by rfl) (by decide) rfl ?_
    refine v_goto 24 X dX4_walks_145 (by decide) ?_
    obtain rfl := Option.some.inj hF
    exact v_lv [2, 3, 4, 5, 6, 7, 0] rfl (hI _ rfl)
  · replace hF := ifn h100 hF
    refine v_iload_n 104 X 4 dX4_walks_103 rfl rfl rfl ?_
    refine v_if_eq 107 122 X dX4_walks_104 rfl (by decide) (fun h104 => ?_) (fun h104 => ?_)
    · replace hF := ifp h104 hF
      refine v_aload_n 123 X 1 dX4_walks_122 rfl rfl rfl ?_
      refine v_iload 125 X 0 dX4_walks_123 rfl rfl ?_
      refine v_iload 127 X 7 dX4_walks_125 rfl rfl ?_
      refine v_iconst (v := 0) 128 X dX4_walks_127 rfl ki_0 ?_
      obtain ⟨z128, hz128, hF⟩ := ob hF
      refine v_mVi 131 X 3 [.int z91, .int v6, .int 0] (w_X4_lets z91 v6 0 _ hz128) q1329 q1331 qs52 q95 q1332 hdX4_lets 0 rfl rfl pass_no ⟨rfl, rfl⟩ ⟨Nat.le_of_ble_eq_true rfl, Nat.le_of_ble_eq_true rfl⟩ ⟨Nat.le_refl 0, Nat.le_refl 0⟩ rfl rfl (Nat.le_of_ble_eq_true rfl) dX4_walks_128 rfl ?_
      refine v_if_eq 134 142 X dX4_walks_131 rfl (by decide) (fun h131 => ?_) (fun h131 => ?_)
      · replace hF := ifp h131 hF
        refine v_iinc (v := (v6 + 1)) 145 [(6, .int (v6 + 1)), (8, .int z91), (0, .ref (a 0)), (1, .int v1), (2, .int v2), (3, .int v3), (4, .int v4), (5, .int v5)] X 7 dX4_walks_142 rfl rfl (by rfl) (by decide) rfl ?_
        refine v_goto 24 X dX4_walks_145 (by decide) ?_
        obtain rfl := Option.some.inj hF
        exact v_lv [2, 3, 4, 5, 6, 7, 0] rfl (hI _ rfl)
      · replace hF := ifn h131 hF
        refine v_aload_n 135 X 1 dX4_walks_134 rfl rfl rfl ?_
        refine v_iload 137 X 0 dX4_walks_135 rfl rfl ?_
        refine v_iload_n 138 X 2 dX4_walks_137 rfl rfl rfl ?_
        refine v_iload_n 139 X 3 dX4_walks_138 rfl rfl rfl ?_
        obtain ⟨z139, hz139, hF⟩ := ob hF
        refine v_mVv 142 X 3 [.int z91, .int v1, .int v2] (w_X4_meets z91 v1 v2 _ hz139) q1357 q1359 qs57 q95 q1360 hdX4_meets 0 rfl rfl pass_no ⟨rfl, rfl⟩ ⟨Nat.le_of_ble_eq_true rfl, Nat.le_of_ble_eq_true rfl⟩ ⟨Nat.le_refl 0, Nat.le_refl 0⟩ rfl rfl (Nat.le_of_ble_eq_true rfl) dX4_walks_139 rfl ?_
        refine v_iinc (v := (v6 + 1)) 145 [(6, .int (v6 + 1)), (8, .int z91), (0, .ref (a 0)), (1, .int v1), (2, .int v2), (3, .int v3), (4, .int v4), (5, .int v5)] X 7 dX4_walks_142 rfl rfl (by rfl) (by decide) rfl ?_
        refine v_goto 24 X dX4_walks_145 (by decide) ?_
        obtain rfl := Option.some.inj hF
        exact v_lv [2, 3, 4, 5, 6, 7, 0] rfl (hI _ rfl)
    · replace hF := ifn h104 hF
      refine v_aload_n 108 X 1 dX4_walks_107 rfl rfl rfl ?_
      refine v_iload 110 X 0 dX4_walks_108 rfl rfl ?_
      refine v_iload 112 X 7 dX4_walks_110 rfl rfl ?_
      obtain ⟨z112, hz112, hF⟩ := ob hF
      refine v_mVi 115 X 2 [.int z91, .int v6] (w_X4_valveOf z91 v6 _ hz112) q1286 q1288 qs47 q95 q1289 hdX4_valveOf 0 rfl rfl pass_no ⟨rfl, rfl⟩ ⟨Nat.le_of_ble_eq_true rfl, Nat.le_of_ble_eq_true rfl⟩ ⟨Nat.le_refl 0, Nat.le_refl 0⟩ rfl rfl (Nat.le_of_ble_eq_true rfl) dX4_walks_112 rfl ?_
      refine v_iconst (v := 1) 116 X dX4_walks_115 rfl ki_1 ?_
      refine v_icmp_eq 119 142 X dX4_walks_116 rfl (by decide) (fun h116 => ?_) (fun h116 => ?_)
      · replace hF := ifp h116 hF
        refine v_iinc (v := (v6 + 1)) 145 [(6, .int (v6 + 1)), (8, .int z91), (0, .ref (a 0)), (1, .int v1), (2, .int v2), (3, .int v3), (4, .int v4), (5, .int v5)] X 7 dX4_walks_142 rfl rfl (by rfl) (by decide) rfl ?_
        refine v_goto 24 X dX4_walks_145 (by decide) ?_
        obtain rfl := Option.some.inj hF
        exact v_lv [2, 3, 4, 5, 6, 7, 0] rfl (hI _ rfl)
      · replace hF := ifn h116 hF
        refine v_goto 134 X dX4_walks_119 (by decide) ?_
        refine v_aload_n 135 X 1 dX4_walks_134 rfl rfl rfl ?_
        refine v_iload 137 X 0 dX4_walks_135 rfl rfl ?_
        refine v_iload_n 138 X 2 dX4_walks_137 rfl rfl rfl ?_
        refine v_iload_n 139 X 3 dX4_walks_138 rfl rfl rfl ?_
        obtain ⟨z139, hz139, hF⟩ := ob hF
        refine v_mVv 142 X 3 [.int z91, .int v1, .int v2] (w_X4_meets z91 v1 v2 _ hz139) q1357 q1359 qs57 q95 q1360 hdX4_meets 0 rfl rfl pass_no ⟨rfl, rfl⟩ ⟨Nat.le_of_ble_eq_true rfl, Nat.le_of_ble_eq_true rfl⟩ ⟨Nat.le_refl 0, Nat.le_refl 0⟩ rfl rfl (Nat.le_of_ble_eq_true rfl) dX4_walks_139 rfl ?_
        refine v_iinc (v := (v6 + 1)) 145 [(6, .int (v6 + 1)), (8, .int z91), (0, .ref (a 0)), (1, .int v1), (2, .int v2), (3, .int v3), (4, .int v4), (5, .int v5)] X 7 dX4_walks_142 rfl rfl (by rfl) (by decide) rfl ?_
        refine v_goto 24 X dX4_walks_145 (by decide) ?_
        obtain rfl := Option.some.inj hF
        exact v_lv [2, 3, 4, 5, 6, 7, 0] rfl (hI _ rfl)
theorem w_X4_walks_24 (X : CX p s m args meth c D A cX4_walks 9 "DyeLatticeModel") (v1 : Int32) (v2 : Int32) (v3 : Int32) (v4 : Int32) (v5 : Int32) : ∀ (n : Nat) (x : Int32 × (Nat → Int32) × (Nat → Int32) × Int32) (o : ((Nat → Int32) × (Nat → Int32) × Int32)), loopN (fun x => M_walks_24 v1 v2 v3 v4 v5 now x.1 x.2.1 x.2.2.1 x.2.2.2) n x = some o → (V p l e rmX4_walks s m args below meth c D A 9 Q (MW D a now past kept text o.1 o.2.1 clusterOf fresh saved length o.2.2 clusters frm ende wrong) 0 0 148 [(0, .ref (a 0)), (1, .int v1), (2, .int v2), (3, .int v3), (4, .int v4)] []) → V p l e rmX4_walks s m args below meth c D A 9 Q (MW D a now past kept text x.2.1 x.2.2.1 clusterOf fresh saved length x.2.2.2 clusters frm ende wrong) 0 0 24 [(0, .ref (a 0)), (1, .int v1), (2, .int v2), (3, .int v3), (4, .int v4), (5, .int v5), (6, .int x.1)] [] := by
  refine v_loop (fun (x : Int32 × (Nat → Int32) × (Nat → Int32) × Int32) => V p l e rmX4_walks s m args below meth c D A 9 Q (MW D a now past kept text x.2.1 x.2.2.1 clusterOf fresh saved length x.2.2.2 clusters frm ende wrong) 0 0 24 [(0, .ref (a 0)), (1, .int v1), (2, .int v2), (3, .int v3), (4, .int v4), (5, .int v5), (6, .int x.1)] []) (fun (o : ((Nat → Int32) × (Nat → Int32) × Int32)) => V p l e rmX4_walks s m args below meth c D A 9 Q (MW D a now past kept text o.1 o.2.1 clusterOf fresh saved length o.2.2 clusters frm ende wrong) 0 0 148 [(0, .ref (a 0)), (1, .int v1), (2, .int v2), (3, .int v3), (4, .int v4)] []) ?_
  rintro ⟨v6, queue, isMet, met⟩ r hF hI hO
  replace hF : M_walks_24 v1 v2 v3 v4 v5 now v6 queue isMet met = some r := hF
  show V p l e rmX4_walks s m args below meth c D A 9 Q (MW D a now past kept text queue isMet clusterOf fresh saved length met clusters frm ende wrong) 0 0 24 [(0, .ref (a 0)), (1, .int v1), (2, .int v2), (3, .int v3), (4, .int v4), (5, .int v5), (6, .int v6)] []
  unfold M_walks_24 at hF
  refine v_iload 26 X 6 dX4_walks_24 rfl rfl ?_
  refine v_iconst (v := 4) 27 X dX4_walks_26 rfl ki_4 ?_
  refine v_icmp_ge 30 148 X dX4_walks_27 rfl (by decide) (fun h27 => ?_) (fun h27 => ?_)
  · replace hF := ifp h27 hF
    obtain rfl := Option.some.inj hF
    exact v_lv [0, 1, 2, 3, 4] rfl (hO _ rfl)
  · replace hF := ifn h27 hF
    refine v_aload_n 31 X 0 dX4_walks_30 rfl rfl rfl ?_
    refine v_iload 33 X 5 dX4_walks_31 rfl rfl ?_
    refine v_iload 35 X 6 dX4_walks_33 rfl rfl ?_
    obtain ⟨z35, hz35, hF⟩ := ob hF
    refine v_mVi 38 X 2 [.int v5, .int v6] (w_X4_second v5 v6 _ hz35) q1249 q1251 qs41 q95 q1252 hdX4_second 0 rfl rfl pass_no ⟨rfl, rfl⟩ ⟨Nat.le_of_ble_eq_true rfl, Nat.le_of_ble_eq_true rfl⟩ ⟨Nat.le_refl 0, Nat.le_refl 0⟩ rfl rfl (Nat.le_of_ble_eq_true rfl) dX4_walks_35 rfl ?_
    refine v_istore 40 [(7, .int z35), (0, .ref (a 0)), (1, .int v1), (2, .int v2), (3, .int v3), (4, .int v4), (5, .int v5), (6, .int v6)] X dX4_walks_38 rfl (by decide) rfl ?_
    refine v_iload 42 X 0 dX4_walks_40 rfl rfl ?_
    refine v_bipush (v := (-9)) 44 X dX4_walks_42 rfl kb_m9 ?_
    refine v_icmp_eq 47 86 X dX4_walks_44 rfl (by decide) (fun h44 => ?_) (fun h44 => ?_)
    · replace hF := ifp h44 hF
      exact v_lv [1, 2, 3, 4, 5, 6, 7] rfl (w_X4_walks_24_j86 X v1 v2 v3 v4 v5 v6 hI hO hF)
    · replace hF := ifn h44 hF
      refine v_iload_n 48 X 4 dX4_walks_47 rfl rfl rfl ?_
      refine v_if_eq 51 66 X dX4_walks_48 rfl (by decide) (fun h48 => ?_) (fun h48 => ?_)
      · replace hF := ifp h48 hF
        refine v_aload_n 67 X 1 dX4_walks_66 rfl rfl rfl ?_
        refine v_iload 69 X 6 dX4_walks_67 rfl rfl ?_
        refine v_iload 71 X 7 dX4_walks_69 rfl rfl ?_
        refine v_iconst (v := 1) 72 X dX4_walks_71 rfl ki_1 ?_
        obtain ⟨z72, hz72, hF⟩ := ob hF
        refine v_mVi 75 X 3 [.int v5, .int v6, .int 1] (w_X4_lets v5 v6 1 _ hz72) q1329 q1331 qs52 q95 q1332 hdX4_lets 0 rfl rfl pass_no ⟨rfl, rfl⟩ ⟨Nat.le_of_ble_eq_true rfl, Nat.le_of_ble_eq_true rfl⟩ ⟨Nat.le_refl 0, Nat.le_refl 0⟩ rfl rfl (Nat.le_of_ble_eq_true rfl) dX4_walks_72 rfl ?_
        refine v_if_eq 78 86 X dX4_walks_75 rfl (by decide) (fun h75 => ?_) (fun h75 => ?_)
        · replace hF := ifp h75 hF
          exact v_lv [1, 2, 3, 4, 5, 6, 7] rfl (w_X4_walks_24_j86 X v1 v2 v3 v4 v5 v6 hI hO hF)
        · replace hF := ifn h75 hF
          refine v_aload_n 79 X 1 dX4_walks_78 rfl rfl rfl ?_
          refine v_iload 81 X 0 dX4_walks_79 rfl rfl ?_
          refine v_iload_n 82 X 2 dX4_walks_81 rfl rfl rfl ?_
          refine v_iload_n 83 X 3 dX4_walks_82 rfl rfl rfl ?_
          obtain ⟨z83, hz83, hF⟩ := ob hF
          refine v_mVv 86 X 3 [.int z35, .int v1, .int v2] (w_X4_meets z35 v1 v2 _ hz83) q1357 q1359 qs57 q95 q1360 hdX4_meets 0 rfl rfl pass_no ⟨rfl, rfl⟩ ⟨Nat.le_of_ble_eq_true rfl, Nat.le_of_ble_eq_true rfl⟩ ⟨Nat.le_refl 0, Nat.le_refl 0⟩ rfl rfl (Nat.le_of_ble_eq_true rfl) dX4_walks_83 rfl ?_
          exact v_lv [1, 2, 3, 4, 5, 6, 7] rfl (w_X4_walks_24_j86 X v1 v2 v3 v4 v5 v6 hI hO hF)
      · replace hF := ifn h48 hF
        refine v_aload_n 52 X 1 dX4_walks_51 rfl rfl rfl ?_
        refine v_iload 54 X 6 dX4_walks_52 rfl rfl ?_
        refine v_iload 56 X 7 dX4_walks_54 rfl rfl ?_
        obtain ⟨z56, hz56, hF⟩ := ob hF
        refine v_mVi 59 X 2 [.int v5, .int v6] (w_X4_valveOf v5 v6 _ hz56) q1286 q1288 qs47 q95 q1289 hdX4_valveOf 0 rfl rfl pass_no ⟨rfl, rfl⟩ ⟨Nat.le_of_ble_eq_true rfl, Nat.le_of_ble_eq_true rfl⟩ ⟨Nat.le_refl 0, Nat.le_refl 0⟩ rfl rfl (Nat.le_of_ble_eq_true rfl) dX4_walks_56 rfl ?_
        refine v_iconst (v := 1) 60 X dX4_walks_59 rfl ki_1 ?_
        refine v_icmp_eq 63 86 X dX4_walks_60 rfl (by decide) (fun h60 => ?_) (fun h60 => ?_)
        · replace hF := ifp h60 hF
          exact v_lv [1, 2, 3, 4, 5, 6, 7] rfl (w_X4_walks_24_j86 X v1 v2 v3 v4 v5 v6 hI hO hF)
        · replace hF := ifn h60 hF
          refine v_goto 78 X dX4_walks_63 (by decide) ?_
          refine v_aload_n 79 X 1 dX4_walks_78 rfl rfl rfl ?_
          refine v_iload 81 X 0 dX4_walks_79 rfl rfl ?_
          refine v_iload_n 82 X 2 dX4_walks_81 rfl rfl rfl ?_
          refine v_iload_n 83 X 3 dX4_walks_82 rfl rfl rfl ?_
          obtain ⟨z83, hz83, hF⟩ := ob hF
          refine v_mVv 86 X 3 [.int z35, .int v1, .int v2] (w_X4_meets z35 v1 v2 _ hz83) q1357 q1359 qs57 q95 q1360 hdX4_meets 0 rfl rfl pass_no ⟨rfl, rfl⟩ ⟨Nat.le_of_ble_eq_true rfl, Nat.le_of_ble_eq_true rfl⟩ ⟨Nat.le_refl 0, Nat.le_refl 0⟩ rfl rfl (Nat.le_of_ble_eq_true rfl) dX4_walks_83 rfl ?_
          exact v_lv [1, 2, 3, 4, 5, 6, 7] rfl (w_X4_walks_24_j86 X v1 v2 v3 v4 v5 v6 hI hO hF)
theorem w_X4_walks_3 (X : CX p s m args meth c D A cX4_walks 9 "DyeLatticeModel") (v1 : Int32) (v2 : Int32) (v3 : Int32) : ∀ (n : Nat) (x : Int32 × (Nat → Int32) × (Nat → Int32) × Int32) (o : ((Nat → Int32) × (Nat → Int32) × Int32)), loopN (fun x => M_walks_3 v1 v2 v3 now x.1 x.2.1 x.2.2.1 x.2.2.2) n x = some o → (V p l e rmX4_walks s m args below meth c D A 9 Q (MW D a now past kept text o.1 o.2.1 clusterOf fresh saved length o.2.2 clusters frm ende wrong) 0 0 154 [] []) → V p l e rmX4_walks s m args below meth c D A 9 Q (MW D a now past kept text x.2.1 x.2.2.1 clusterOf fresh saved length x.2.2.2 clusters frm ende wrong) 0 0 3 [(0, .ref (a 0)), (1, .int v1), (2, .int v2), (3, .int v3), (4, .int x.1)] [] := by
  refine v_loop (fun (x : Int32 × (Nat → Int32) × (Nat → Int32) × Int32) => V p l e rmX4_walks s m args below meth c D A 9 Q (MW D a now past kept text x.2.1 x.2.2.1 clusterOf fresh saved length x.2.2.2 clusters frm ende wrong) 0 0 3 [(0, .ref (a 0)), (1, .int v1), (2, .int v2), (3, .int v3), (4, .int x.1)] []) (fun (o : ((Nat → Int32) × (Nat → Int32) × Int32)) => V p l e rmX4_walks s m args below meth c D A 9 Q (MW D a now past kept text o.1 o.2.1 clusterOf fresh saved length o.2.2 clusters frm ende wrong) 0 0 154 [] []) ?_
  rintro ⟨v4, queue, isMet, met⟩ r hF hI hO
  replace hF : M_walks_3 v1 v2 v3 now v4 queue isMet met = some r := hF
  show V p l e rmX4_walks s m args below meth c D A 9 Q (MW D a now past kept text queue isMet clusterOf fresh saved length met clusters frm ende wrong) 0 0 3 [(0, .ref (a 0)), (1, .int v1), (2, .int v2), (3, .int v3), (4, .int v4)] []
  unfold M_walks_3 at hF
  refine v_iload 5 X 4 dX4_walks_3 rfl rfl ?_
  refine v_aload_n 6 X 0 dX4_walks_5 rfl rfl rfl ?_
  refine v_get 9 X in_X4 0 8 rfl rfl (by decide) q1180 rfl rfl dX4_walks_6 rfl ?_
  refine v_icmp_ge 12 154 X dX4_walks_9 rfl (by decide) (fun h9 => ?_) (fun h9 => ?_)
  · replace hF := ifp h9 hF
    obtain rfl := Option.some.inj hF
    exact v_lv [] rfl (hO _ rfl)
  · replace hF := ifn h9 hF
    refine v_aload_n 13 X 0 dX4_walks_12 rfl rfl rfl ?_
    refine v_get 16 X in_X4 0 6 rfl rfl (by decide) q1178 rfl rfl dX4_walks_13 rfl ?_
    refine v_iload 18 X 4 dX4_walks_16 rfl rfl ?_
    obtain ⟨z18, hz18, hF⟩ := ob hF
    refine v_iald 19 X 5 hz18 rfl dX4_walks_18 rfl ?_
    refine v_istore 21 [(5, .int z18), (0, .ref (a 0)), (1, .int v1), (2, .int v2), (3, .int v3), (4, .int v4)] X dX4_walks_19 rfl (by decide) rfl ?_
    refine v_iconst (v := 0) 22 X dX4_walks_21 rfl ki_0 ?_
    refine v_istore 24 [(6, .int 0), (5, .int z18), (0, .ref (a 0)), (1, .int v1), (2, .int v2), (3, .int v3), (4, .int v4)] X dX4_walks_22 rfl (by decide) rfl ?_
    obtain ⟨z24, hz24, hF⟩ := ob hF
    refine v_lv [2, 3, 4, 5, 6, 1, 0] rfl (w_X4_walks_24 X v1 v2 v3 v4 z18 _ (0, queue, isMet, met) _ hz24 ?_)
    refine v_iinc (v := (v4 + 1)) 151 [(4, .int (v4 + 1)), (0, .ref (a 0)), (1, .int v1), (2, .int v2), (3, .int v3)] X 4 dX4_walks_148 rfl rfl (by rfl) (by decide) rfl ?_
    refine v_goto 3 X dX4_walks_151 (by decide) ?_
    obtain rfl := Option.some.inj hF
    exact v_lv [1, 2, 3, 4, 0] rfl (hI _ rfl)
theorem w_X4_walks (v1 : Int32) (v2 : Int32) (v3 : Int32) (r : (Nat → Int32) × (Nat → Int32) × Int32) (hF : M_walks now queue isMet met v1 v2 v3 = some r) : CTv l yX4_walks cX4_walks 9 (Option.none : Option Jvm.ClassFile.FieldType) rmX4_walks D (MW D a now past kept text queue isMet clusterOf fresh saved length met clusters frm ende wrong) [.ref (a 0), .int v1, .int v2, .int v3] NoX (fun u => u = (MW D a now past kept text r.1 r.2.1 clusterOf fresh saved length r.2.2 clusters frm ende wrong)) := by
  refine m_v (by decide) (Nat.le_of_ble_eq_true rfl) ?_
  intro p e s m args below meth c A B
  obtain ⟨X, hr, -, -, -, -⟩ := B
  replace X : CX p s m args meth c D A cX4_walks 9 "DyeLatticeModel" := X
  refine v_lv (lv' := [(0, .ref (a 0)), (1, .int v1), (2, .int v2), (3, .int v3)]) [0, 1, 2, 3] rfl ?_
  unfold M_walks at hF
  refine v_iconst (v := 0) 1 X dX4_walks_0 rfl ki_0 ?_
  refine v_istore 3 [(4, .int 0), (0, .ref (a 0)), (1, .int v1), (2, .int v2), (3, .int v3)] X dX4_walks_1 rfl (by decide) rfl ?_
  obtain ⟨z3, hz3, hF⟩ := ob hF
  refine v_lv [1, 2, 3, 4, 0] rfl (w_X4_walks_3 X v1 v2 v3 _ (0, queue, isMet, met) _ hz3 ?_)
  obtain rfl := Option.some.inj hF
  exact v_vret X hr rfl (Nat.zero_le _) (Nat.zero_le _) dX4_walks_154
theorem w_X4_laysClusters_7 (X : CX p s m args meth c D A cX4_laysClusters 4 "DyeLatticeModel") (v1 : Int32) : ∀ (n : Nat) (x : Int32 × (Nat → Int32)) (o : ((Nat → Int32))), loopN (fun x => M_laysClusters_7 v1 now x.1 x.2) n x = some o → (V p l e rmX4_laysClusters s m args below meth c D A 4 Q (MW D a now past kept text queue isMet o fresh saved length met clusters frm ende wrong) 0 0 29 [(0, .ref (a 0)), (1, .int v1)] []) → V p l e rmX4_laysClusters s m args below meth c D A 4 Q (MW D a now past kept text queue isMet x.2 fresh saved length met clusters frm ende wrong) 0 0 7 [(0, .ref (a 0)), (1, .int v1), (2, .int x.1)] [] := by
  refine v_loop (fun (x : Int32 × (Nat → Int32)) => V p l e rmX4_laysClusters s m args below meth c D A 4 Q (MW D a now past kept text queue isMet x.2 fresh saved length met clusters frm ende wrong) 0 0 7 [(0, .ref (a 0)), (1, .int v1), (2, .int x.1)] []) (fun (o : ((Nat → Int32))) => V p l e rmX4_laysClusters s m args below meth c D A 4 Q (MW D a now past kept text queue isMet o fresh saved length met clusters frm ende wrong) 0 0 29 [(0, .ref (a 0)), (1, .int v1)] []) ?_
  rintro ⟨v2, clusterOf⟩ r hF hI hO
  replace hF : M_laysClusters_7 v1 now v2 clusterOf = some r := hF
  show V p l e rmX4_laysClusters s m args below meth c D A 4 Q (MW D a now past kept text queue isMet clusterOf fresh saved length met clusters frm ende wrong) 0 0 7 [(0, .ref (a 0)), (1, .int v1), (2, .int v2)] []
  unfold M_laysClusters_7 at hF
  refine v_iload_n 8 X 2 dX4_laysClusters_7 rfl rfl rfl ?_
  refine v_aload_n 9 X 0 dX4_laysClusters_8 rfl rfl rfl ?_
  obtain ⟨z9, hz9, hF⟩ := ob hF
  refine v_mVi 12 X 0 [] (w_X4_cells _ hz9) q1233 q1235 qs38 q95 q1236 hdX4_cells 0 rfl rfl pass_no ⟨rfl, rfl⟩ ⟨Nat.le_of_ble_eq_true rfl, Nat.le_of_ble_eq_true rfl⟩ ⟨Nat.le_refl 0, Nat.le_refl 0⟩ rfl rfl (Nat.le_of_ble_eq_true rfl) dX4_laysClusters_9 rfl ?_
  refine v_icmp_ge 15 29 X dX4_laysClusters_12 rfl (by decide) (fun h12 => ?_) (fun h12 => ?_)
  · replace hF := ifp h12 hF
    obtain rfl := Option.some.inj hF
    exact v_lv [0, 1] rfl (hO _ rfl)
  · replace hF := ifn h12 hF
    refine v_aload_n 16 X 0 dX4_laysClusters_15 rfl rfl rfl ?_
    refine v_get 19 X in_X4 0 9 rfl rfl (by decide) q1181 rfl rfl dX4_laysClusters_16 rfl ?_
    refine v_iload_n 20 X 2 dX4_laysClusters_19 rfl rfl rfl ?_
    refine v_bipush (v := (-9)) 22 X dX4_laysClusters_20 rfl kb_m9 ?_
    obtain ⟨z22, hz22, hF⟩ := ob hF
    refine v_iast 23 (MW D a now past kept text queue isMet z22 fresh saved length met clusters frm ende wrong) X 7 hz22 rfl dX4_laysClusters_22 rfl rfl ?_
    refine v_iinc (v := (v2 + 1)) 26 [(2, .int (v2 + 1)), (0, .ref (a 0)), (1, .int v1)] X 2 dX4_laysClusters_23 rfl rfl (by rfl) (by decide) rfl ?_
    refine v_goto 7 X dX4_laysClusters_26 (by decide) ?_
    obtain rfl := Option.some.inj hF
    exact v_lv [1, 2, 0] rfl (hI _ rfl)
theorem w_X4_laysClusters_81 (X : CX p s m args meth c D A cX4_laysClusters 4 "DyeLatticeModel") (v1 : Int32) (v2 : Int32) : ∀ (n : Nat) (x : Int32 × (Nat → Int32)) (o : ((Nat → Int32))), loopN (fun x => M_laysClusters_81 v1 v2 queue met clusters x.1 x.2) n x = some o → (V p l e rmX4_laysClusters s m args below meth c D A 4 Q (MW D a now past kept text queue isMet o fresh saved length met clusters frm ende wrong) 0 0 110 [(0, .ref (a 0)), (1, .int v1), (2, .int v2)] []) → V p l e rmX4_laysClusters s m args below meth c D A 4 Q (MW D a now past kept text queue isMet x.2 fresh saved length met clusters frm ende wrong) 0 0 81 [(0, .ref (a 0)), (1, .int v1), (2, .int v2), (3, .int x.1)] [] := by
  refine v_loop (fun (x : Int32 × (Nat → Int32)) => V p l e rmX4_laysClusters s m args below meth c D A 4 Q (MW D a now past kept text queue isMet x.2 fresh saved length met clusters frm ende wrong) 0 0 81 [(0, .ref (a 0)), (1, .int v1), (2, .int v2), (3, .int x.1)] []) (fun (o : ((Nat → Int32))) => V p l e rmX4_laysClusters s m args below meth c D A 4 Q (MW D a now past kept text queue isMet o fresh saved length met clusters frm ende wrong) 0 0 110 [(0, .ref (a 0)), (1, .int v1), (2, .int v2)] []) ?_
  rintro ⟨v3, clusterOf⟩ r hF hI hO
  replace hF : M_laysClusters_81 v1 v2 queue met clusters v3 clusterOf = some r := hF
  show V p l e rmX4_laysClusters s m args below meth c D A 4 Q (MW D a now past kept text queue isMet clusterOf fresh saved length met clusters frm ende wrong) 0 0 81 [(0, .ref (a 0)), (1, .int v1), (2, .int v2), (3, .int v3)] []
  unfold M_laysClusters_81 at hF
  refine v_iload_n 82 X 3 dX4_laysClusters_81 rfl rfl rfl ?_
  refine v_aload_n 83 X 0 dX4_laysClusters_82 rfl rfl rfl ?_
  refine v_get 86 X in_X4 0 8 rfl rfl (by decide) q1180 rfl rfl dX4_laysClusters_83 rfl ?_
  refine v_icmp_ge 89 110 X dX4_laysClusters_86 rfl (by decide) (fun h86 => ?_) (fun h86 => ?_)
  · replace hF := ifp h86 hF
    obtain rfl := Option.some.inj hF
    exact v_lv [0, 1, 2] rfl (hO _ rfl)
  · replace hF := ifn h86 hF
    refine v_aload_n 90 X 0 dX4_laysClusters_89 rfl rfl rfl ?_
    refine v_get 93 X in_X4 0 9 rfl rfl (by decide) q1181 rfl rfl dX4_laysClusters_90 rfl ?_
    refine v_aload_n 94 X 0 dX4_laysClusters_93 rfl rfl rfl ?_
    refine v_get 97 X in_X4 0 6 rfl rfl (by decide) q1178 rfl rfl dX4_laysClusters_94 rfl ?_
    refine v_iload_n 98 X 3 dX4_laysClusters_97 rfl rfl rfl ?_
    obtain ⟨z98, hz98, hF⟩ := ob hF
    refine v_iald 99 X 5 hz98 rfl dX4_laysClusters_98 rfl ?_
    refine v_aload_n 100 X 0 dX4_laysClusters_99 rfl rfl rfl ?_
    refine v_get 103 X in_X4 0 10 rfl rfl (by decide) q1182 rfl rfl dX4_laysClusters_100 rfl ?_
    obtain ⟨z103, hz103, hF⟩ := ob hF
    refine v_iast 104 (MW D a now past kept text queue isMet z103 fresh saved length met clusters frm ende wrong) X 7 hz103 rfl dX4_laysClusters_103 rfl rfl ?_
    refine v_iinc (v := (v3 + 1)) 107 [(3, .int (v3 + 1)), (0, .ref (a 0)), (1, .int v1), (2, .int v2)] X 3 dX4_laysClusters_104 rfl rfl (by rfl) (by decide) rfl ?_
    refine v_goto 81 X dX4_laysClusters_107 (by decide) ?_
    obtain rfl := Option.some.inj hF
    exact v_lv [1, 2, 3, 0] rfl (hI _ rfl)
theorem w_X4_laysClusters_31 (X : CX p s m args meth c D A cX4_laysClusters 4 "DyeLatticeModel") (v1 : Int32) : ∀ (n : Nat) (x : Int32 × (Nat → Int32) × (Nat → Int32) × (Nat → Int32) × Int32 × Int32) (o : ((Nat → Int32) × (Nat → Int32) × (Nat → Int32) × Int32 × Int32)), loopN (fun x => M_laysClusters_31 v1 now x.1 x.2.1 x.2.2.1 x.2.2.2.1 x.2.2.2.2.1 x.2.2.2.2.2) n x = some o → (V p l e rmX4_laysClusters s m args below meth c D A 4 Q (MW D a now past kept text o.1 o.2.1 o.2.2.1 fresh saved length o.2.2.2.1 o.2.2.2.2 frm ende wrong) 0 0 126 [] []) → V p l e rmX4_laysClusters s m args below meth c D A 4 Q (MW D a now past kept text x.2.1 x.2.2.1 x.2.2.2.1 fresh saved length x.2.2.2.2.1 x.2.2.2.2.2 frm ende wrong) 0 0 31 [(0, .ref (a 0)), (1, .int v1), (2, .int x.1)] [] := by
  refine v_loop (fun (x : Int32 × (Nat → Int32) × (Nat → Int32) × (Nat → Int32) × Int32 × Int32) => V p l e rmX4_laysClusters s m args below meth c D A 4 Q (MW D a now past kept text x.2.1 x.2.2.1 x.2.2.2.1 fresh saved length x.2.2.2.2.1 x.2.2.2.2.2 frm ende wrong) 0 0 31 [(0, .ref (a 0)), (1, .int v1), (2, .int x.1)] []) (fun (o : ((Nat → Int32) × (Nat → Int32) × (Nat → Int32) × Int32 × Int32)) => V p l e rmX4_laysClusters s m args below meth c D A 4 Q (MW D a now past kept text o.1 o.2.1 o.2.2.1 fresh saved length o.2.2.2.1 o.2.2.2.2 frm ende wrong) 0 0 126 [] []) ?_
  rintro ⟨v2, queue, isMet, clusterOf, met, clusters⟩ r hF hI hO
  replace hF : M_laysClusters_31 v1 now v2 queue isMet clusterOf met clusters = some r := hF
  show V p l e rmX4_laysClusters s m args below meth c D A 4 Q (MW D a now past kept text queue isMet clusterOf fresh saved length met clusters frm ende wrong) 0 0 31 [(0, .ref (a 0)), (1, .int v1), (2, .int v2)] []
  unfold M_laysClusters_31 at hF
  refine v_iload_n 32 X 2 dX4_laysClusters_31 rfl rfl rfl ?_
  refine v_aload_n 33 X 0 dX4_laysClusters_32 rfl rfl rfl ?_
  obtain ⟨z33, hz33, hF⟩ := ob hF
  refine v_mVi 36 X 0 [] (w_X4_cells _ hz33) q1233 q1235 qs38 q95 q1236 hdX4_cells 0 rfl rfl pass_no ⟨rfl, rfl⟩ ⟨Nat.le_of_ble_eq_true rfl, Nat.le_of_ble_eq_true rfl⟩ ⟨Nat.le_refl 0, Nat.le_refl 0⟩ rfl rfl (Nat.le_of_ble_eq_true rfl) dX4_laysClusters_33 rfl ?_
  refine v_icmp_ge 39 126 X dX4_laysClusters_36 rfl (by decide) (fun h36 => ?_) (fun h36 => ?_)
  · replace hF := ifp h36 hF
    obtain rfl := Option.some.inj hF
    exact v_lv [] rfl (hO _ rfl)
  · replace hF := ifn h36 hF
    refine v_aload_n 40 X 0 dX4_laysClusters_39 rfl rfl rfl ?_
    refine v_iload_n 41 X 2 dX4_laysClusters_40 rfl rfl rfl ?_
    refine v_iload_n 42 X 1 dX4_laysClusters_41 rfl rfl rfl ?_
    obtain ⟨z42, hz42, hF⟩ := ob hF
    refine v_mVi 45 X 2 [.int v2, .int v1] (w_X4_isOpen v2 v1 _ hz42) q1278 q1280 qs46 q95 q1281 hdX4_isOpen 0 rfl rfl pass_no ⟨rfl, rfl⟩ ⟨Nat.le_of_ble_eq_true rfl, Nat.le_of_ble_eq_true rfl⟩ ⟨Nat.le_refl 0, Nat.le_refl 0⟩ rfl rfl (Nat.le_of_ble_eq_true rfl) dX4_laysClusters_42 rfl ?_
    refine v_if_eq 48 120 X dX4_laysClusters_45 rfl (by decide) (fun h45 => ?_) (fun h45 => ?_)
    · replace hF := ifp h45 hF
      refine v_iinc (v := (v2 + 1)) 123 [(2, .int (v2 + 1)), (0, .ref (a 0)), (1, .int v1)] X 2 dX4_laysClusters_120 rfl rfl (by rfl) (by decide) rfl ?_
      refine v_goto 31 X dX4_laysClusters_123 (by decide) ?_
      obtain rfl := Option.some.inj hF
      exact v_lv [1, 2, 0] rfl (hI _ rfl)
    · replace hF := ifn h45 hF
      refine v_aload_n 49 X 0 dX4_laysClusters_48 rfl rfl rfl ?_
      refine v_get 52 X in_X4 0 9 rfl rfl (by decide) q1181 rfl rfl dX4_laysClusters_49 rfl ?_
      refine v_iload_n 53 X 2 dX4_laysClusters_52 rfl rfl rfl ?_
      obtain ⟨z53, hz53, hF⟩ := ob hF
      refine v_iald 54 X 7 hz53 rfl dX4_laysClusters_53 rfl ?_
      refine v_bipush (v := (-9)) 56 X dX4_laysClusters_54 rfl kb_m9 ?_
      refine v_icmp_ne 59 120 X dX4_laysClusters_56 rfl (by decide) (fun h56 => ?_) (fun h56 => ?_)
      · replace hF := ifn h56 hF
        refine v_iinc (v := (v2 + 1)) 123 [(2, .int (v2 + 1)), (0, .ref (a 0)), (1, .int v1)] X 2 dX4_laysClusters_120 rfl rfl (by rfl) (by decide) rfl ?_
        refine v_goto 31 X dX4_laysClusters_123 (by decide) ?_
        obtain rfl := Option.some.inj hF
        exact v_lv [1, 2, 0] rfl (hI _ rfl)
      · replace hF := ifp h56 hF
        refine v_aload_n 60 X 0 dX4_laysClusters_59 rfl rfl rfl ?_
        obtain ⟨z60, hz60, hF⟩ := ob hF
        refine v_mVv 63 X 0 [] (w_X4_forgets _ hz60) q1353 q1355 qs56 q95 q1356 hdX4_forgets 0 rfl rfl pass_no ⟨rfl, rfl⟩ ⟨Nat.le_of_ble_eq_true rfl, Nat.le_of_ble_eq_true rfl⟩ ⟨Nat.le_refl 0, Nat.le_refl 0⟩ rfl rfl (Nat.le_of_ble_eq_true rfl) dX4_laysClusters_60 rfl ?_
        refine v_aload_n 64 X 0 dX4_laysClusters_63 rfl rfl rfl ?_
        refine v_iload_n 65 X 2 dX4_laysClusters_64 rfl rfl rfl ?_
        refine v_iload_n 66 X 1 dX4_laysClusters_65 rfl rfl rfl ?_
        refine v_bipush (v := (-9)) 68 X dX4_laysClusters_66 rfl kb_m9 ?_
        obtain ⟨z68, hz68, hF⟩ := ob hF
        refine v_mVv 71 X 3 [.int v2, .int v1, .int (-9)] (w_X4_meets v2 v1 (-9) _ hz68) q1357 q1359 qs57 q95 q1360 hdX4_meets 0 rfl rfl pass_no ⟨rfl, rfl⟩ ⟨Nat.le_of_ble_eq_true rfl, Nat.le_of_ble_eq_true rfl⟩ ⟨Nat.le_refl 0, Nat.le_refl 0⟩ rfl rfl (Nat.le_of_ble_eq_true rfl) dX4_laysClusters_68 rfl ?_
        refine v_aload_n 72 X 0 dX4_laysClusters_71 rfl rfl rfl ?_
        refine v_iload_n 73 X 1 dX4_laysClusters_72 rfl rfl rfl ?_
        refine v_bipush (v := (-9)) 75 X dX4_laysClusters_73 rfl kb_m9 ?_
        refine v_iconst (v := 1) 76 X dX4_laysClusters_75 rfl ki_1 ?_
        obtain ⟨z76, hz76, hF⟩ := ob hF
        refine v_mVv 79 X 3 [.int v1, .int (-9), .int 1] (w_X4_walks v1 (-9) 1 _ hz76) q1361 q1363 qs58 q95 q1364 hdX4_walks 0 rfl rfl pass_no ⟨rfl, rfl⟩ ⟨Nat.le_of_ble_eq_true rfl, Nat.le_of_ble_eq_true rfl⟩ ⟨Nat.le_refl 0, Nat.le_refl 0⟩ rfl rfl (Nat.le_of_ble_eq_true rfl) dX4_laysClusters_76 rfl ?_
        refine v_iconst (v := 0) 80 X dX4_laysClusters_79 rfl ki_0 ?_
        refine v_istore_n 81 [(3, .int 0), (0, .ref (a 0)), (1, .int v1), (2, .int v2)] X dX4_laysClusters_80 rfl rfl (by decide) rfl ?_
        obtain ⟨z81, hz81, hF⟩ := ob hF
        refine v_lv [1, 2, 3, 0] rfl (w_X4_laysClusters_81 X v1 v2 _ (0, clusterOf) _ hz81 ?_)
        refine v_aload_n 111 X 0 dX4_laysClusters_110 rfl rfl rfl ?_
        refine v_dup 112 X dX4_laysClusters_111 rfl rfl ?_
        refine v_get 115 X in_X4 0 10 rfl rfl (by decide) q1182 rfl rfl dX4_laysClusters_112 rfl ?_
        refine v_iconst (v := 1) 116 X dX4_laysClusters_115 rfl ki_1 ?_
        refine v_iadd 117 X dX4_laysClusters_116 rfl ?_
        refine v_put 120 (MW D a now past kept text z76.1 z76.2.1 z81 fresh saved length z76.2.2 (clusters + 1) frm ende wrong) X in_X4 tyX4_ok nmX4 0 10 rfl rfl (by decide) q1182 rfl rfl rfl rfl rfl (Nat.le_of_ble_eq_true rfl) dX4_laysClusters_117 rfl rfl ?_
        refine v_iinc (v := (v2 + 1)) 123 [(2, .int (v2 + 1)), (0, .ref (a 0)), (1, .int v1)] X 2 dX4_laysClusters_120 rfl rfl (by rfl) (by decide) rfl ?_
        refine v_goto 31 X dX4_laysClusters_123 (by decide) ?_
        obtain rfl := Option.some.inj hF
        exact v_lv [1, 2, 0] rfl (hI _ rfl)
theorem w_X4_laysClusters (v1 : Int32) (r : (Nat → Int32) × (Nat → Int32) × (Nat → Int32) × Int32 × Int32) (hF : M_laysClusters now queue isMet clusterOf met clusters v1 = some r) : CTv l yX4_laysClusters cX4_laysClusters 4 (Option.none : Option Jvm.ClassFile.FieldType) rmX4_laysClusters D (MW D a now past kept text queue isMet clusterOf fresh saved length met clusters frm ende wrong) [.ref (a 0), .int v1] NoX (fun u => u = (MW D a now past kept text r.1 r.2.1 r.2.2.1 fresh saved length r.2.2.2.1 r.2.2.2.2 frm ende wrong)) := by
  refine m_v (by decide) (Nat.le_of_ble_eq_true rfl) ?_
  intro p e s m args below meth c A B
  obtain ⟨X, hr, -, -, -, -⟩ := B
  replace X : CX p s m args meth c D A cX4_laysClusters 4 "DyeLatticeModel" := X
  refine v_lv (lv' := [(0, .ref (a 0)), (1, .int v1)]) [0, 1] rfl ?_
  unfold M_laysClusters at hF
  refine v_aload_n 1 X 0 dX4_laysClusters_0 rfl rfl rfl ?_
  refine v_iconst (v := 0) 2 X dX4_laysClusters_1 rfl ki_0 ?_
  refine v_put 5 (MW D a now past kept text queue isMet clusterOf fresh saved length met 0 frm ende wrong) X in_X4 tyX4_ok nmX4 0 10 rfl rfl (by decide) q1182 rfl rfl rfl rfl rfl (Nat.le_of_ble_eq_true rfl) dX4_laysClusters_2 rfl rfl ?_
  refine v_iconst (v := 0) 6 X dX4_laysClusters_5 rfl ki_0 ?_
  refine v_istore_n 7 [(2, .int 0), (0, .ref (a 0)), (1, .int v1)] X dX4_laysClusters_6 rfl rfl (by decide) rfl ?_
  obtain ⟨z7, hz7, hF⟩ := ob hF
  refine v_lv [1, 2, 0] rfl (w_X4_laysClusters_7 X v1 _ (0, clusterOf) _ hz7 ?_)
  refine v_iconst (v := 0) 30 X dX4_laysClusters_29 rfl ki_0 ?_
  refine v_istore_n 31 [(2, .int 0), (0, .ref (a 0)), (1, .int v1)] X dX4_laysClusters_30 rfl rfl (by decide) rfl ?_
  obtain ⟨z31, hz31, hF⟩ := ob hF
  refine v_lv [1, 2, 0] rfl (w_X4_laysClusters_31 X v1 _ (0, queue, isMet, z7, met, 0) _ hz31 ?_)
  obtain rfl := Option.some.inj hF
  exact v_vret X hr rfl (Nat.zero_le _) (Nat.zero_le _) dX4_laysClusters_126
theorem w_X4_clogged_4 (X : CX p s m args meth c D A cX4_clogged 3 "DyeLatticeModel") : ∀ (n : Nat) (x : Int32 × Int32) (o : (Int32)), loopN (fun x => M_clogged_4 now x.1 x.2) n x = some o → (V p l e rmX4_clogged s m args below meth c D A 3 Q (MW D a now past kept text queue isMet clusterOf fresh saved length met clusters frm ende wrong) 0 0 31 [(1, .int o)] []) → V p l e rmX4_clogged s m args below meth c D A 3 Q (MW D a now past kept text queue isMet clusterOf fresh saved length met clusters frm ende wrong) 0 0 4 [(0, .ref (a 0)), (1, .int x.1), (2, .int x.2)] [] := by
  refine v_loop (fun (x : Int32 × Int32) => V p l e rmX4_clogged s m args below meth c D A 3 Q (MW D a now past kept text queue isMet clusterOf fresh saved length met clusters frm ende wrong) 0 0 4 [(0, .ref (a 0)), (1, .int x.1), (2, .int x.2)] []) (fun (o : (Int32)) => V p l e rmX4_clogged s m args below meth c D A 3 Q (MW D a now past kept text queue isMet clusterOf fresh saved length met clusters frm ende wrong) 0 0 31 [(1, .int o)] []) ?_
  rintro ⟨v1, v2⟩ r hF hI hO
  replace hF : M_clogged_4 now v1 v2 = some r := hF
  show V p l e rmX4_clogged s m args below meth c D A 3 Q (MW D a now past kept text queue isMet clusterOf fresh saved length met clusters frm ende wrong) 0 0 4 [(0, .ref (a 0)), (1, .int v1), (2, .int v2)] []
  unfold M_clogged_4 at hF
  refine v_iload_n 5 X 2 dX4_clogged_4 rfl rfl rfl ?_
  refine v_aload_n 6 X 0 dX4_clogged_5 rfl rfl rfl ?_
  obtain ⟨z6, hz6, hF⟩ := ob hF
  refine v_mVi 9 X 0 [] (w_X4_cells _ hz6) q1233 q1235 qs38 q95 q1236 hdX4_cells 0 rfl rfl pass_no ⟨rfl, rfl⟩ ⟨Nat.le_of_ble_eq_true rfl, Nat.le_of_ble_eq_true rfl⟩ ⟨Nat.le_refl 0, Nat.le_refl 0⟩ rfl rfl (Nat.le_of_ble_eq_true rfl) dX4_clogged_6 rfl ?_
  refine v_icmp_ge 12 31 X dX4_clogged_9 rfl (by decide) (fun h9 => ?_) (fun h9 => ?_)
  · replace hF := ifp h9 hF
    obtain rfl := Option.some.inj hF
    exact v_lv [1] rfl (hO _ rfl)
  · replace hF := ifn h9 hF
    refine v_iload_n 13 X 1 dX4_clogged_12 rfl rfl rfl ?_
    refine v_aload_n 14 X 0 dX4_clogged_13 rfl rfl rfl ?_
    refine v_get 17 X in_X4 0 0 rfl rfl (by decide) q1172 rfl rfl dX4_clogged_14 rfl ?_
    refine v_sipush (v := 567) 20 X dX4_clogged_17 rfl ks_567 ?_
    refine v_iload_n 21 X 2 dX4_clogged_20 rfl rfl rfl ?_
    refine v_iadd 22 X dX4_clogged_21 rfl ?_
    obtain ⟨z22, hz22, hF⟩ := ob hF
    refine v_iald 23 X 1 hz22 rfl dX4_clogged_22 rfl ?_
    refine v_iadd 24 X dX4_clogged_23 rfl ?_
    refine v_istore_n 25 [(1, .int (v1 + z22)), (0, .ref (a 0)), (2, .int v2)] X dX4_clogged_24 rfl rfl (by decide) rfl ?_
    refine v_iinc (v := (v2 + 1)) 28 [(2, .int (v2 + 1)), (1, .int (v1 + z22)), (0, .ref (a 0))] X 2 dX4_clogged_25 rfl rfl (by rfl) (by decide) rfl ?_
    refine v_goto 4 X dX4_clogged_28 (by decide) ?_
    obtain rfl := Option.some.inj hF
    exact v_lv [2, 1, 0] rfl (hI _ rfl)
theorem w_X4_clogged (r : Int32) (hF : M_clogged now = some r) : CTi l yX4_clogged cX4_clogged 3 (Option.some Jvm.ClassFile.FieldType.int) rmX4_clogged D (MW D a now past kept text queue isMet clusterOf fresh saved length met clusters frm ende wrong) [.ref (a 0)] NoX (fun r1 u => r1 = r ∧ u = (MW D a now past kept text queue isMet clusterOf fresh saved length met clusters frm ende wrong)) := by
  refine m_i (by decide) (Nat.le_of_ble_eq_true rfl) ?_
  intro p e s m args below meth c A B
  obtain ⟨X, hr, -, -, -, -⟩ := B
  replace X : CX p s m args meth c D A cX4_clogged 3 "DyeLatticeModel" := X
  refine v_lv (lv' := [(0, .ref (a 0))]) [0] rfl ?_
  unfold M_clogged at hF
  refine v_iconst (v := 0) 1 X dX4_clogged_0 rfl ki_0 ?_
  refine v_istore_n 2 [(1, .int 0), (0, .ref (a 0))] X dX4_clogged_1 rfl rfl (by decide) rfl ?_
  refine v_iconst (v := 0) 3 X dX4_clogged_2 rfl ki_0 ?_
  refine v_istore_n 4 [(2, .int 0), (1, .int 0), (0, .ref (a 0))] X dX4_clogged_3 rfl rfl (by decide) rfl ?_
  obtain ⟨z4, hz4, hF⟩ := ob hF
  refine v_lv [2, 1, 0] rfl (w_X4_clogged_4 X _ (0, 0) _ hz4 ?_)
  refine v_iload_n 32 X 0 dX4_clogged_31 rfl rfl rfl ?_
  obtain rfl := Option.some.inj hF
  exact v_iret X hr ⟨rfl, rfl⟩ (Nat.zero_le _) (Nat.zero_le _) dX4_clogged_32
theorem w_X4_count (v1 : Int32) (r : Int32 × (Nat → Int32) × (Nat → Int32) × (Nat → Int32) × Int32 × Int32) (hF : M_count now queue isMet clusterOf saved length met clusters v1 = some r) : CTi l yX4_count cX4_count 2 (Option.some Jvm.ClassFile.FieldType.int) rmX4_count D (MW D a now past kept text queue isMet clusterOf fresh saved length met clusters frm ende wrong) [.ref (a 0), .int v1] NoX (fun r1 u => r1 = r.1 ∧ u = (MW D a now past kept text r.2.1 r.2.2.1 r.2.2.2.1 fresh saved length r.2.2.2.2.1 r.2.2.2.2.2 frm ende wrong)) := by
  refine m_i (by decide) (Nat.le_of_ble_eq_true rfl) ?_
  intro p e s m args below meth c A B
  obtain ⟨X, hr, -, -, -, -⟩ := B
  replace X : CX p s m args meth c D A cX4_count 2 "DyeLatticeModel" := X
  refine v_lv (lv' := [(0, .ref (a 0)), (1, .int v1)]) [0, 1] rfl ?_
  unfold M_count at hF
  refine v_iload_n 1 X 1 dX4_count_0 rfl rfl rfl ?_
  refine v_iconst (v := 0) 2 X dX4_count_1 rfl ki_0 ?_
  refine v_iconst (v := 5) 3 X dX4_count_2 rfl ki_5 ?_
  obtain ⟨z3, hz3, hF⟩ := ob hF
  refine v_mSi 6 X 3 [.int v1, .int 0, .int 5] (w_X4_within v1 0 5 _ hz3) q1226 q1227 q95 q1228 hdX4_within pass_no ⟨rfl, rfl⟩ ⟨Nat.le_of_ble_eq_true rfl, Nat.le_of_ble_eq_true rfl⟩ ⟨Nat.le_refl 0, Nat.le_refl 0⟩ rfl rfl (Nat.le_of_ble_eq_true rfl) dX4_count_3 rfl ?_
  refine v_if_eq 9 16 X dX4_count_6 rfl (by decide) (fun h6 => ?_) (fun h6 => ?_)
  · replace hF := ifp h6 hF
    refine v_aload_n 17 X 0 dX4_count_16 rfl rfl rfl ?_
    refine v_aload_n 18 X 0 dX4_count_17 rfl rfl rfl ?_
    refine v_get 21 X in_X4 0 0 rfl rfl (by decide) q1172 rfl rfl dX4_count_18 rfl ?_
    refine v_iconst (v := 3) 22 X dX4_count_21 rfl ki_3 ?_
    obtain ⟨z22, hz22, hF⟩ := ob hF
    refine v_iald 23 X 1 hz22 rfl dX4_count_22 rfl ?_
    obtain ⟨z23, hz23, hF⟩ := ob hF
    refine v_mVv 26 X 1 [.int z22] (w_X4_laysClusters z22 _ hz23) q1349 q1351 qs55 q95 q1352 hdX4_laysClusters 0 rfl rfl pass_no ⟨rfl, rfl⟩ ⟨Nat.le_of_ble_eq_true rfl, Nat.le_of_ble_eq_true rfl⟩ ⟨Nat.le_refl 0, Nat.le_refl 0⟩ rfl rfl (Nat.le_of_ble_eq_true rfl) dX4_count_23 rfl ?_
    refine v_iload_n 27 X 1 dX4_count_26 rfl rfl rfl ?_
    by_cases h27_6 : v1 = 6
    · replace hF := ifp h27_6 hF
      refine v_tableAt 68 X 6 h27_6 dX4_count_27 (by decide) (by decide) (by rfl) (by decide) ?_
      refine v_aload_n 69 X 0 dX4_count_68 rfl rfl rfl ?_
      obtain ⟨z69, hz69, hF⟩ := ob hF
      refine v_mVi 72 X 0 [] (w_X4_bonds _ hz69) q1245 q1247 qs40 q95 q1248 hdX4_bonds 0 rfl rfl pass_no ⟨rfl, rfl⟩ ⟨Nat.le_of_ble_eq_true rfl, Nat.le_of_ble_eq_true rfl⟩ ⟨Nat.le_refl 0, Nat.le_refl 0⟩ rfl rfl (Nat.le_of_ble_eq_true rfl) dX4_count_69 rfl ?_
      obtain rfl := Option.some.inj hF
      exact v_iret X hr ⟨rfl, rfl⟩ (Nat.zero_le _) (Nat.zero_le _) dX4_count_72
    · replace hF := ifn h27_6 hF
      by_cases h27_7 : v1 = 7
      · replace hF := ifp h27_7 hF
        refine v_tableAt 73 X 7 h27_7 dX4_count_27 (by decide) (by decide) (by rfl) (by decide) ?_
        refine v_aload_n 74 X 0 dX4_count_73 rfl rfl rfl ?_
        refine v_aload_n 75 X 0 dX4_count_74 rfl rfl rfl ?_
        refine v_get 78 X in_X4 0 0 rfl rfl (by decide) q1172 rfl rfl dX4_count_75 rfl ?_
        refine v_iconst (v := 3) 79 X dX4_count_78 rfl ki_3 ?_
        obtain ⟨z79, hz79, hF⟩ := ob hF
        refine v_iald 80 X 1 hz79 rfl dX4_count_79 rfl ?_
        obtain ⟨z80, hz80, hF⟩ := ob hF
        refine v_mVi 83 X 1 [.int z79] (w_X4_openAt z79 _ hz80) q1274 q1276 qs45 q95 q1277 hdX4_openAt 0 rfl rfl pass_no ⟨rfl, rfl⟩ ⟨Nat.le_of_ble_eq_true rfl, Nat.le_of_ble_eq_true rfl⟩ ⟨Nat.le_refl 0, Nat.le_refl 0⟩ rfl rfl (Nat.le_of_ble_eq_true rfl) dX4_count_80 rfl ?_
        obtain rfl := Option.some.inj hF
        exact v_iret X hr ⟨rfl, rfl⟩ (Nat.zero_le _) (Nat.zero_le _) dX4_count_83
      · replace hF := ifn h27_7 hF
        by_cases h27_8 : v1 = 8
        · replace hF := ifp h27_8 hF
          refine v_tableAt 84 X 8 h27_8 dX4_count_27 (by decide) (by decide) (by rfl) (by decide) ?_
          refine v_aload_n 85 X 0 dX4_count_84 rfl rfl rfl ?_
          refine v_get 88 X in_X4 0 10 rfl rfl (by decide) q1182 rfl rfl dX4_count_85 rfl ?_
          obtain rfl := Option.some.inj hF
          exact v_iret X hr ⟨rfl, rfl⟩ (Nat.zero_le _) (Nat.zero_le _) dX4_count_88
        · replace hF := ifn h27_8 hF
          by_cases h27_9 : v1 = 9
          · replace hF := ifp h27_9 hF
            refine v_tableAt 89 X 9 h27_9 dX4_count_27 (by decide) (by decide) (by rfl) (by decide) ?_
            refine v_aload_n 90 X 0 dX4_count_89 rfl rfl rfl ?_
            obtain ⟨z90, hz90, hF⟩ := ob hF
            refine v_mVi 93 X 0 [] (w_X4_clogged _ hz90) q1369 q1371 qs60 q95 q1372 hdX4_clogged 0 rfl rfl pass_no ⟨rfl, rfl⟩ ⟨Nat.le_of_ble_eq_true rfl, Nat.le_of_ble_eq_true rfl⟩ ⟨Nat.le_refl 0, Nat.le_refl 0⟩ rfl rfl (Nat.le_of_ble_eq_true rfl) dX4_count_90 rfl ?_
            obtain rfl := Option.some.inj hF
            exact v_iret X hr ⟨rfl, rfl⟩ (Nat.zero_le _) (Nat.zero_le _) dX4_count_93
          · replace hF := ifn h27_9 hF
            by_cases h27_10 : v1 = 10
            · replace hF := ifp h27_10 hF
              refine v_tableAt 94 X 10 h27_10 dX4_count_27 (by decide) (by decide) (by rfl) (by decide) ?_
              refine v_aload_n 95 X 0 dX4_count_94 rfl rfl rfl ?_
              obtain ⟨z95, hz95, hF⟩ := ob hF
              refine v_mVi 98 X 0 [] (w_X4_pairs _ hz95) q1309 q1311 qs49 q95 q1312 hdX4_pairs 0 rfl rfl pass_no ⟨rfl, rfl⟩ ⟨Nat.le_of_ble_eq_true rfl, Nat.le_of_ble_eq_true rfl⟩ ⟨Nat.le_refl 0, Nat.le_refl 0⟩ rfl rfl (Nat.le_of_ble_eq_true rfl) dX4_count_95 rfl ?_
              obtain rfl := Option.some.inj hF
              exact v_iret X hr ⟨rfl, rfl⟩ (Nat.zero_le _) (Nat.zero_le _) dX4_count_98
            · replace hF := ifn h27_10 hF
              by_cases h27_11 : v1 = 11
              · replace hF := ifp h27_11 hF
                refine v_tableAt 99 X 11 h27_11 dX4_count_27 (by decide) (by decide) (by rfl) (by decide) ?_
                refine v_aload_n 100 X 0 dX4_count_99 rfl rfl rfl ?_
                refine v_get 103 X in_X4 0 3 rfl rfl (by decide) q1175 rfl rfl dX4_count_100 rfl ?_
                obtain rfl := Option.some.inj hF
                exact v_iret X hr ⟨rfl, rfl⟩ (Nat.zero_le _) (Nat.zero_le _) dX4_count_103
              · replace hF := ifn h27_11 hF
                by_cases h27_12 : v1 = 12
                · replace hF := ifp h27_12 hF
                  refine v_tableAt 104 X 12 h27_12 dX4_count_27 (by decide) (by decide) (by rfl) (by decide) ?_
                  refine v_aload_n 105 X 0 dX4_count_104 rfl rfl rfl ?_
                  refine v_get 108 X in_X4 0 5 rfl rfl (by decide) q1177 rfl rfl dX4_count_105 rfl ?_
                  obtain rfl := Option.some.inj hF
                  exact v_iret X hr ⟨rfl, rfl⟩ (Nat.zero_le _) (Nat.zero_le _) dX4_count_108
                · replace hF := ifn h27_12 hF
                  refine v_tableNo 109 X dX4_count_27 ?_ (by decide) ?_
                  · refine Classical.byContradiction (fun hh => ?_)
                    have hc : (v1).toInt = 6 ∨ (v1).toInt = 7 ∨ (v1).toInt = 8 ∨ (v1).toInt = 9 ∨ (v1).toInt = 10 ∨ (v1).toInt = 11 ∨ (v1).toInt = 12 := by omega
                    rcases hc with hc | hc | hc | hc | hc | hc | hc
                    · exact h27_6 (i32_of hc)
                    · exact h27_7 (i32_of hc)
                    · exact h27_8 (i32_of hc)
                    · exact h27_9 (i32_of hc)
                    · exact h27_10 (i32_of hc)
                    · exact h27_11 (i32_of hc)
                    · exact h27_12 (i32_of hc)
                  refine v_iconst (v := (-1)) 110 X dX4_count_109 rfl ki_m1 ?_
                  obtain rfl := Option.some.inj hF
                  exact v_iret X hr ⟨rfl, rfl⟩ (Nat.zero_le _) (Nat.zero_le _) dX4_count_110
  · replace hF := ifn h6 hF
    refine v_aload_n 10 X 0 dX4_count_9 rfl rfl rfl ?_
    refine v_get 13 X in_X4 0 0 rfl rfl (by decide) q1172 rfl rfl dX4_count_10 rfl ?_
    refine v_iload_n 14 X 1 dX4_count_13 rfl rfl rfl ?_
    obtain ⟨z14, hz14, hF⟩ := ob hF
    refine v_iald 15 X 1 hz14 rfl dX4_count_14 rfl ?_
    obtain rfl := Option.some.inj hF
    exact v_iret X hr ⟨rfl, rfl⟩ (Nat.zero_le _) (Nat.zero_le _) dX4_count_15
theorem w_X4_endsAt_15 (X : CX p s m args meth c D A cX4_endsAt 6 "DyeLatticeModel") (v1 : Int32) (v3 : Int32) : ∀ (n : Nat) (x : Int32 × Int32) (o : (Int32)), loopN (fun x => M_endsAt_15 v1 v3 now x.1 x.2) n x = some o → (V p l e rmX4_endsAt s m args below meth c D A 6 Q (MW D a now past kept text queue isMet clusterOf fresh saved length met clusters frm ende wrong) 0 0 62 [(0, .ref (a 0)), (1, .int v1), (2, .int o), (3, .int v3)] []) → V p l e rmX4_endsAt s m args below meth c D A 6 Q (MW D a now past kept text queue isMet clusterOf fresh saved length met clusters frm ende wrong) 0 0 15 [(0, .ref (a 0)), (1, .int v1), (2, .int x.1), (3, .int v3), (4, .int x.2)] [] := by
  refine v_loop (fun (x : Int32 × Int32) => V p l e rmX4_endsAt s m args below meth c D A 6 Q (MW D a now past kept text queue isMet clusterOf fresh saved length met clusters frm ende wrong) 0 0 15 [(0, .ref (a 0)), (1, .int v1), (2, .int x.1), (3, .int v3), (4, .int x.2)] []) (fun (o : (Int32)) => V p l e rmX4_endsAt s m args below meth c D A 6 Q (MW D a now past kept text queue isMet clusterOf fresh saved length met clusters frm ende wrong) 0 0 62 [(0, .ref (a 0)), (1, .int v1), (2, .int o), (3, .int v3)] []) ?_
  rintro ⟨v2, v4⟩ r hF hI hO
  replace hF : M_endsAt_15 v1 v3 now v2 v4 = some r := hF
  show V p l e rmX4_endsAt s m args below meth c D A 6 Q (MW D a now past kept text queue isMet clusterOf fresh saved length met clusters frm ende wrong) 0 0 15 [(0, .ref (a 0)), (1, .int v1), (2, .int v2), (3, .int v3), (4, .int v4)] []
  unfold M_endsAt_15 at hF
  refine v_iload 17 X 4 dX4_endsAt_15 rfl rfl ?_
  refine v_iconst (v := 4) 18 X dX4_endsAt_17 rfl ki_4 ?_
  refine v_icmp_ge 21 62 X dX4_endsAt_18 rfl (by decide) (fun h18 => ?_) (fun h18 => ?_)
  · replace hF := ifp h18 hF
    obtain rfl := Option.some.inj hF
    exact v_lv [0, 1, 2, 3] rfl (hO _ rfl)
  · replace hF := ifn h18 hF
    refine v_aload_n 22 X 0 dX4_endsAt_21 rfl rfl rfl ?_
    refine v_iload_n 23 X 3 dX4_endsAt_22 rfl rfl rfl ?_
    refine v_iload 25 X 4 dX4_endsAt_23 rfl rfl ?_
    obtain ⟨z25, hz25, hF⟩ := ob hF
    refine v_mVi 28 X 2 [.int v3, .int v4] (w_X4_second v3 v4 _ hz25) q1249 q1251 qs41 q95 q1252 hdX4_second 0 rfl rfl pass_no ⟨rfl, rfl⟩ ⟨Nat.le_of_ble_eq_true rfl, Nat.le_of_ble_eq_true rfl⟩ ⟨Nat.le_refl 0, Nat.le_refl 0⟩ rfl rfl (Nat.le_of_ble_eq_true rfl) dX4_endsAt_25 rfl ?_
    refine v_istore 30 [(5, .int z25), (0, .ref (a 0)), (1, .int v1), (2, .int v2), (3, .int v3), (4, .int v4)] X dX4_endsAt_28 rfl (by decide) rfl ?_
    refine v_iload_n 31 X 3 dX4_endsAt_30 rfl rfl rfl ?_
    refine v_iload 33 X 0 dX4_endsAt_31 rfl rfl ?_
    refine v_bipush (v := (-9)) 35 X dX4_endsAt_33 rfl kb_m9 ?_
    refine v_icmp_eq 38 53 X dX4_endsAt_35 rfl (by decide) (fun h35 => ?_) (fun h35 => ?_)
    · replace hF := ifp h35 hF
      refine v_iconst (v := 0) 54 X dX4_endsAt_53 rfl ki_0 ?_
      refine v_iadd 55 X dX4_endsAt_54 rfl ?_
      refine v_istore_n 56 [(2, .int (v2 + 0)), (5, .int z25), (0, .ref (a 0)), (1, .int v1), (3, .int v3), (4, .int v4)] X dX4_endsAt_55 rfl rfl (by decide) rfl ?_
      refine v_iinc (v := (v4 + 1)) 59 [(4, .int (v4 + 1)), (2, .int (v2 + 0)), (5, .int z25), (0, .ref (a 0)), (1, .int v1), (3, .int v3)] X 5 dX4_endsAt_56 rfl rfl (by rfl) (by decide) rfl ?_
      refine v_goto 15 X dX4_endsAt_59 (by decide) ?_
      obtain rfl := Option.some.inj hF
      exact v_lv [3, 4, 1, 5, 0] rfl (hI _ rfl)
    · replace hF := ifn h35 hF
      refine v_iload_n 39 X 4 dX4_endsAt_38 rfl rfl rfl ?_
      refine v_iload_n 40 X 2 dX4_endsAt_39 rfl rfl rfl ?_
      refine v_icmp_eq 43 49 X dX4_endsAt_40 rfl (by decide) (fun h40 => ?_) (fun h40 => ?_)
      · replace hF := ifp h40 hF
        refine v_iconst (v := 1) 50 X dX4_endsAt_49 rfl ki_1 ?_
        refine v_goto 54 X dX4_endsAt_50 (by decide) ?_
        refine v_iadd 55 X dX4_endsAt_54 rfl ?_
        refine v_istore_n 56 [(2, .int (v2 + 1)), (5, .int z25), (0, .ref (a 0)), (1, .int v1), (3, .int v3), (4, .int v4)] X dX4_endsAt_55 rfl rfl (by decide) rfl ?_
        refine v_iinc (v := (v4 + 1)) 59 [(4, .int (v4 + 1)), (2, .int (v2 + 1)), (5, .int z25), (0, .ref (a 0)), (1, .int v1), (3, .int v3)] X 5 dX4_endsAt_56 rfl rfl (by rfl) (by decide) rfl ?_
        refine v_goto 15 X dX4_endsAt_59 (by decide) ?_
        obtain rfl := Option.some.inj hF
        exact v_lv [3, 4, 1, 5, 0] rfl (hI _ rfl)
      · replace hF := ifn h40 hF
        refine v_iload 45 X 0 dX4_endsAt_43 rfl rfl ?_
        refine v_iload_n 46 X 2 dX4_endsAt_45 rfl rfl rfl ?_
        refine v_icmp_ne 49 53 X dX4_endsAt_46 rfl (by decide) (fun h46 => ?_) (fun h46 => ?_)
        · replace hF := ifn h46 hF
          refine v_iconst (v := 0) 54 X dX4_endsAt_53 rfl ki_0 ?_
          refine v_iadd 55 X dX4_endsAt_54 rfl ?_
          refine v_istore_n 56 [(2, .int (v2 + 0)), (5, .int z25), (0, .ref (a 0)), (1, .int v1), (3, .int v3), (4, .int v4)] X dX4_endsAt_55 rfl rfl (by decide) rfl ?_
          refine v_iinc (v := (v4 + 1)) 59 [(4, .int (v4 + 1)), (2, .int (v2 + 0)), (5, .int z25), (0, .ref (a 0)), (1, .int v1), (3, .int v3)] X 5 dX4_endsAt_56 rfl rfl (by rfl) (by decide) rfl ?_
          refine v_goto 15 X dX4_endsAt_59 (by decide) ?_
          obtain rfl := Option.some.inj hF
          exact v_lv [3, 4, 1, 5, 0] rfl (hI _ rfl)
        · replace hF := ifp h46 hF
          refine v_iconst (v := 1) 50 X dX4_endsAt_49 rfl ki_1 ?_
          refine v_goto 54 X dX4_endsAt_50 (by decide) ?_
          refine v_iadd 55 X dX4_endsAt_54 rfl ?_
          refine v_istore_n 56 [(2, .int (v2 + 1)), (5, .int z25), (0, .ref (a 0)), (1, .int v1), (3, .int v3), (4, .int v4)] X dX4_endsAt_55 rfl rfl (by decide) rfl ?_
          refine v_iinc (v := (v4 + 1)) 59 [(4, .int (v4 + 1)), (2, .int (v2 + 1)), (5, .int z25), (0, .ref (a 0)), (1, .int v1), (3, .int v3)] X 5 dX4_endsAt_56 rfl rfl (by rfl) (by decide) rfl ?_
          refine v_goto 15 X dX4_endsAt_59 (by decide) ?_
          obtain rfl := Option.some.inj hF
          exact v_lv [3, 4, 1, 5, 0] rfl (hI _ rfl)
theorem w_X4_endsAt_4 (X : CX p s m args meth c D A cX4_endsAt 6 "DyeLatticeModel") (v1 : Int32) : ∀ (n : Nat) (x : Int32 × Int32) (o : (Int32)), loopN (fun x => M_endsAt_4 v1 now x.1 x.2) n x = some o → (V p l e rmX4_endsAt s m args below meth c D A 6 Q (MW D a now past kept text queue isMet clusterOf fresh saved length met clusters frm ende wrong) 0 0 68 [(2, .int o)] []) → V p l e rmX4_endsAt s m args below meth c D A 6 Q (MW D a now past kept text queue isMet clusterOf fresh saved length met clusters frm ende wrong) 0 0 4 [(0, .ref (a 0)), (1, .int v1), (2, .int x.1), (3, .int x.2)] [] := by
  refine v_loop (fun (x : Int32 × Int32) => V p l e rmX4_endsAt s m args below meth c D A 6 Q (MW D a now past kept text queue isMet clusterOf fresh saved length met clusters frm ende wrong) 0 0 4 [(0, .ref (a 0)), (1, .int v1), (2, .int x.1), (3, .int x.2)] []) (fun (o : (Int32)) => V p l e rmX4_endsAt s m args below meth c D A 6 Q (MW D a now past kept text queue isMet clusterOf fresh saved length met clusters frm ende wrong) 0 0 68 [(2, .int o)] []) ?_
  rintro ⟨v2, v3⟩ r hF hI hO
  replace hF : M_endsAt_4 v1 now v2 v3 = some r := hF
  show V p l e rmX4_endsAt s m args below meth c D A 6 Q (MW D a now past kept text queue isMet clusterOf fresh saved length met clusters frm ende wrong) 0 0 4 [(0, .ref (a 0)), (1, .int v1), (2, .int v2), (3, .int v3)] []
  unfold M_endsAt_4 at hF
  refine v_iload_n 5 X 3 dX4_endsAt_4 rfl rfl rfl ?_
  refine v_aload_n 6 X 0 dX4_endsAt_5 rfl rfl rfl ?_
  obtain ⟨z6, hz6, hF⟩ := ob hF
  refine v_mVi 9 X 0 [] (w_X4_cells _ hz6) q1233 q1235 qs38 q95 q1236 hdX4_cells 0 rfl rfl pass_no ⟨rfl, rfl⟩ ⟨Nat.le_of_ble_eq_true rfl, Nat.le_of_ble_eq_true rfl⟩ ⟨Nat.le_refl 0, Nat.le_refl 0⟩ rfl rfl (Nat.le_of_ble_eq_true rfl) dX4_endsAt_6 rfl ?_
  refine v_icmp_ge 12 68 X dX4_endsAt_9 rfl (by decide) (fun h9 => ?_) (fun h9 => ?_)
  · replace hF := ifp h9 hF
    obtain rfl := Option.some.inj hF
    exact v_lv [2] rfl (hO _ rfl)
  · replace hF := ifn h9 hF
    refine v_iconst (v := 0) 13 X dX4_endsAt_12 rfl ki_0 ?_
    refine v_istore 15 [(4, .int 0), (0, .ref (a 0)), (1, .int v1), (2, .int v2), (3, .int v3)] X dX4_endsAt_13 rfl (by decide) rfl ?_
    obtain ⟨z15, hz15, hF⟩ := ob hF
    refine v_lv [1, 2, 3, 4, 0] rfl (w_X4_endsAt_15 X v1 v3 _ (v2, 0) _ hz15 ?_)
    refine v_iinc (v := (v3 + 1)) 65 [(3, .int (v3 + 1)), (0, .ref (a 0)), (1, .int v1), (2, .int z15)] X 3 dX4_endsAt_62 rfl rfl (by rfl) (by decide) rfl ?_
    refine v_goto 4 X dX4_endsAt_65 (by decide) ?_
    obtain rfl := Option.some.inj hF
    exact v_lv [1, 2, 3, 0] rfl (hI _ rfl)
theorem w_X4_endsAt (v1 : Int32) (r : Int32) (hF : M_endsAt now v1 = some r) : CTi l yX4_endsAt cX4_endsAt 6 (Option.some Jvm.ClassFile.FieldType.int) rmX4_endsAt D (MW D a now past kept text queue isMet clusterOf fresh saved length met clusters frm ende wrong) [.ref (a 0), .int v1] NoX (fun r1 u => r1 = r ∧ u = (MW D a now past kept text queue isMet clusterOf fresh saved length met clusters frm ende wrong)) := by
  refine m_i (by decide) (Nat.le_of_ble_eq_true rfl) ?_
  intro p e s m args below meth c A B
  obtain ⟨X, hr, -, -, -, -⟩ := B
  replace X : CX p s m args meth c D A cX4_endsAt 6 "DyeLatticeModel" := X
  refine v_lv (lv' := [(0, .ref (a 0)), (1, .int v1)]) [0, 1] rfl ?_
  unfold M_endsAt at hF
  refine v_iconst (v := 0) 1 X dX4_endsAt_0 rfl ki_0 ?_
  refine v_istore_n 2 [(2, .int 0), (0, .ref (a 0)), (1, .int v1)] X dX4_endsAt_1 rfl rfl (by decide) rfl ?_
  refine v_iconst (v := 0) 3 X dX4_endsAt_2 rfl ki_0 ?_
  refine v_istore_n 4 [(3, .int 0), (2, .int 0), (0, .ref (a 0)), (1, .int v1)] X dX4_endsAt_3 rfl rfl (by decide) rfl ?_
  obtain ⟨z4, hz4, hF⟩ := ob hF
  refine v_lv [2, 3, 1, 0] rfl (w_X4_endsAt_4 X v1 _ (0, 0) _ hz4 ?_)
  refine v_iload_n 69 X 0 dX4_endsAt_68 rfl rfl rfl ?_
  obtain rfl := Option.some.inj hF
  exact v_iret X hr ⟨rfl, rfl⟩ (Nat.zero_le _) (Nat.zero_le _) dX4_endsAt_69
theorem w_X4_cell (v1 : Int32) (v2 : Int32) (r : Int32 × (Nat → Int32) × (Nat → Int32) × (Nat → Int32) × Int32 × Int32) (hF : M_cell now queue isMet clusterOf met clusters v1 v2 = some r) : CTi l yX4_cell cX4_cell 3 (Option.some Jvm.ClassFile.FieldType.int) rmX4_cell D (MW D a now past kept text queue isMet clusterOf fresh saved length met clusters frm ende wrong) [.ref (a 0), .int v1, .int v2] NoX (fun r1 u => r1 = r.1 ∧ u = (MW D a now past kept text r.2.1 r.2.2.1 r.2.2.2.1 fresh saved length r.2.2.2.2.1 r.2.2.2.2.2 frm ende wrong)) := by
  refine m_i (by decide) (Nat.le_of_ble_eq_true rfl) ?_
  intro p e s m args below meth c A B
  obtain ⟨X, hr, -, -, -, -⟩ := B
  replace X : CX p s m args meth c D A cX4_cell 3 "DyeLatticeModel" := X
  refine v_lv (lv' := [(0, .ref (a 0)), (1, .int v1), (2, .int v2)]) [0, 1, 2] rfl ?_
  unfold M_cell at hF
  refine v_aload_n 1 X 0 dX4_cell_0 rfl rfl rfl ?_
  refine v_iload_n 2 X 1 dX4_cell_1 rfl rfl rfl ?_
  obtain ⟨z2, hz2, hF⟩ := ob hF
  refine v_mVi 5 X 1 [.int v1] (w_X4_isCell v1 _ hz2) q1253 q1255 qs42 q95 q1256 hdX4_isCell 0 rfl rfl pass_no ⟨rfl, rfl⟩ ⟨Nat.le_of_ble_eq_true rfl, Nat.le_of_ble_eq_true rfl⟩ ⟨Nat.le_refl 0, Nat.le_refl 0⟩ rfl rfl (Nat.le_of_ble_eq_true rfl) dX4_cell_2 rfl ?_
  refine v_if_ne 8 10 X dX4_cell_5 rfl (by decide) (fun h5 => ?_) (fun h5 => ?_)
  · replace hF := ifn h5 hF
    refine v_aload_n 11 X 0 dX4_cell_10 rfl rfl rfl ?_
    refine v_aload_n 12 X 0 dX4_cell_11 rfl rfl rfl ?_
    refine v_get 15 X in_X4 0 0 rfl rfl (by decide) q1172 rfl rfl dX4_cell_12 rfl ?_
    refine v_iconst (v := 3) 16 X dX4_cell_15 rfl ki_3 ?_
    obtain ⟨z16, hz16, hF⟩ := ob hF
    refine v_iald 17 X 1 hz16 rfl dX4_cell_16 rfl ?_
    obtain ⟨z17, hz17, hF⟩ := ob hF
    refine v_mVv 20 X 1 [.int z16] (w_X4_laysClusters z16 _ hz17) q1349 q1351 qs55 q95 q1352 hdX4_laysClusters 0 rfl rfl pass_no ⟨rfl, rfl⟩ ⟨Nat.le_of_ble_eq_true rfl, Nat.le_of_ble_eq_true rfl⟩ ⟨Nat.le_refl 0, Nat.le_refl 0⟩ rfl rfl (Nat.le_of_ble_eq_true rfl) dX4_cell_17 rfl ?_
    refine v_iload_n 21 X 2 dX4_cell_20 rfl rfl rfl ?_
    by_cases h21_0 : v2 = 0
    · replace hF := ifp h21_0 hF
      refine v_tableAt 64 X 0 h21_0 dX4_cell_21 (by decide) (by decide) (by rfl) (by decide) ?_
      refine v_aload_n 65 X 0 dX4_cell_64 rfl rfl rfl ?_
      refine v_get 68 X in_X4 0 0 rfl rfl (by decide) q1172 rfl rfl dX4_cell_65 rfl ?_
      refine v_bipush (v := 7) 70 X dX4_cell_68 rfl kb_7 ?_
      refine v_iload_n 71 X 1 dX4_cell_70 rfl rfl rfl ?_
      refine v_iadd 72 X dX4_cell_71 rfl ?_
      obtain ⟨z72, hz72, hF⟩ := ob hF
      refine v_iald 73 X 1 hz72 rfl dX4_cell_72 rfl ?_
      obtain rfl := Option.some.inj hF
      exact v_iret X hr ⟨rfl, rfl⟩ (Nat.zero_le _) (Nat.zero_le _) dX4_cell_73
    · replace hF := ifn h21_0 hF
      by_cases h21_1 : v2 = 1
      · replace hF := ifp h21_1 hF
        refine v_tableAt 74 X 1 h21_1 dX4_cell_21 (by decide) (by decide) (by rfl) (by decide) ?_
        refine v_aload_n 75 X 0 dX4_cell_74 rfl rfl rfl ?_
        refine v_iload_n 76 X 1 dX4_cell_75 rfl rfl rfl ?_
        refine v_aload_n 77 X 0 dX4_cell_76 rfl rfl rfl ?_
        refine v_get 80 X in_X4 0 0 rfl rfl (by decide) q1172 rfl rfl dX4_cell_77 rfl ?_
        refine v_iconst (v := 3) 81 X dX4_cell_80 rfl ki_3 ?_
        obtain ⟨z81, hz81, hF⟩ := ob hF
        refine v_iald 82 X 1 hz81 rfl dX4_cell_81 rfl ?_
        obtain ⟨z82, hz82, hF⟩ := ob hF
        refine v_mVi 85 X 2 [.int v1, .int z81] (w_X4_isOpen v1 z81 _ hz82) q1278 q1280 qs46 q95 q1281 hdX4_isOpen 0 rfl rfl pass_no ⟨rfl, rfl⟩ ⟨Nat.le_of_ble_eq_true rfl, Nat.le_of_ble_eq_true rfl⟩ ⟨Nat.le_refl 0, Nat.le_refl 0⟩ rfl rfl (Nat.le_of_ble_eq_true rfl) dX4_cell_82 rfl ?_
        refine v_if_eq 88 92 X dX4_cell_85 rfl (by decide) (fun h85 => ?_) (fun h85 => ?_)
        · replace hF := ifp h85 hF
          refine v_iconst (v := 0) 93 X dX4_cell_92 rfl ki_0 ?_
          obtain rfl := Option.some.inj hF
          exact v_iret X hr ⟨rfl, rfl⟩ (Nat.zero_le _) (Nat.zero_le _) dX4_cell_93
        · replace hF := ifn h85 hF
          refine v_iconst (v := 1) 89 X dX4_cell_88 rfl ki_1 ?_
          refine v_goto 93 X dX4_cell_89 (by decide) ?_
          obtain rfl := Option.some.inj hF
          exact v_iret X hr ⟨rfl, rfl⟩ (Nat.zero_le _) (Nat.zero_le _) dX4_cell_93
      · replace hF := ifn h21_1 hF
        by_cases h21_2 : v2 = 2
        · replace hF := ifp h21_2 hF
          refine v_tableAt 94 X 2 h21_2 dX4_cell_21 (by decide) (by decide) (by rfl) (by decide) ?_
          refine v_aload_n 95 X 0 dX4_cell_94 rfl rfl rfl ?_
          refine v_get 98 X in_X4 0 0 rfl rfl (by decide) q1172 rfl rfl dX4_cell_95 rfl ?_
          refine v_sipush (v := 407) 101 X dX4_cell_98 rfl ks_407 ?_
          refine v_iload_n 102 X 1 dX4_cell_101 rfl rfl rfl ?_
          refine v_iadd 103 X dX4_cell_102 rfl ?_
          obtain ⟨z103, hz103, hF⟩ := ob hF
          refine v_iald 104 X 1 hz103 rfl dX4_cell_103 rfl ?_
          obtain rfl := Option.some.inj hF
          exact v_iret X hr ⟨rfl, rfl⟩ (Nat.zero_le _) (Nat.zero_le _) dX4_cell_104
        · replace hF := ifn h21_2 hF
          by_cases h21_3 : v2 = 3
          · replace hF := ifp h21_3 hF
            refine v_tableAt 105 X 3 h21_3 dX4_cell_21 (by decide) (by decide) (by rfl) (by decide) ?_
            refine v_aload_n 106 X 0 dX4_cell_105 rfl rfl rfl ?_
            refine v_get 109 X in_X4 0 0 rfl rfl (by decide) q1172 rfl rfl dX4_cell_106 rfl ?_
            refine v_sipush (v := 487) 112 X dX4_cell_109 rfl ks_487 ?_
            refine v_iload_n 113 X 1 dX4_cell_112 rfl rfl rfl ?_
            refine v_iadd 114 X dX4_cell_113 rfl ?_
            obtain ⟨z114, hz114, hF⟩ := ob hF
            refine v_iald 115 X 1 hz114 rfl dX4_cell_114 rfl ?_
            obtain rfl := Option.some.inj hF
            exact v_iret X hr ⟨rfl, rfl⟩ (Nat.zero_le _) (Nat.zero_le _) dX4_cell_115
          · replace hF := ifn h21_3 hF
            by_cases h21_4 : v2 = 4
            · replace hF := ifp h21_4 hF
              refine v_tableAt 116 X 4 h21_4 dX4_cell_21 (by decide) (by decide) (by rfl) (by decide) ?_
              refine v_aload_n 117 X 0 dX4_cell_116 rfl rfl rfl ?_
              refine v_get 120 X in_X4 0 0 rfl rfl (by decide) q1172 rfl rfl dX4_cell_117 rfl ?_
              refine v_sipush (v := 567) 123 X dX4_cell_120 rfl ks_567 ?_
              refine v_iload_n 124 X 1 dX4_cell_123 rfl rfl rfl ?_
              refine v_iadd 125 X dX4_cell_124 rfl ?_
              obtain ⟨z125, hz125, hF⟩ := ob hF
              refine v_iald 126 X 1 hz125 rfl dX4_cell_125 rfl ?_
              obtain rfl := Option.some.inj hF
              exact v_iret X hr ⟨rfl, rfl⟩ (Nat.zero_le _) (Nat.zero_le _) dX4_cell_126
            · replace hF := ifn h21_4 hF
              by_cases h21_5 : v2 = 5
              · replace hF := ifp h21_5 hF
                refine v_tableAt 127 X 5 h21_5 dX4_cell_21 (by decide) (by decide) (by rfl) (by decide) ?_
                refine v_aload_n 128 X 0 dX4_cell_127 rfl rfl rfl ?_
                refine v_get 131 X in_X4 0 9 rfl rfl (by decide) q1181 rfl rfl dX4_cell_128 rfl ?_
                refine v_iload_n 132 X 1 dX4_cell_131 rfl rfl rfl ?_
                obtain ⟨z132, hz132, hF⟩ := ob hF
                refine v_iald 133 X 7 hz132 rfl dX4_cell_132 rfl ?_
                obtain rfl := Option.some.inj hF
                exact v_iret X hr ⟨rfl, rfl⟩ (Nat.zero_le _) (Nat.zero_le _) dX4_cell_133
              · replace hF := ifn h21_5 hF
                by_cases h21_6 : v2 = 6
                · replace hF := ifp h21_6 hF
                  refine v_tableAt 134 X 6 h21_6 dX4_cell_21 (by decide) (by decide) (by rfl) (by decide) ?_
                  refine v_aload_n 135 X 0 dX4_cell_134 rfl rfl rfl ?_
                  refine v_iload_n 136 X 1 dX4_cell_135 rfl rfl rfl ?_
                  obtain ⟨z136, hz136, hF⟩ := ob hF
                  refine v_mVi 139 X 1 [.int v1] (w_X4_endsAt v1 _ hz136) q1377 q1379 qs61 q95 q1380 hdX4_endsAt 0 rfl rfl pass_no ⟨rfl, rfl⟩ ⟨Nat.le_of_ble_eq_true rfl, Nat.le_of_ble_eq_true rfl⟩ ⟨Nat.le_refl 0, Nat.le_refl 0⟩ rfl rfl (Nat.le_of_ble_eq_true rfl) dX4_cell_136 rfl ?_
                  obtain rfl := Option.some.inj hF
                  exact v_iret X hr ⟨rfl, rfl⟩ (Nat.zero_le _) (Nat.zero_le _) dX4_cell_139
                · replace hF := ifn h21_6 hF
                  refine v_tableNo 140 X dX4_cell_21 ?_ (by decide) ?_
                  · refine Classical.byContradiction (fun hh => ?_)
                    have hc : (v2).toInt = 0 ∨ (v2).toInt = 1 ∨ (v2).toInt = 2 ∨ (v2).toInt = 3 ∨ (v2).toInt = 4 ∨ (v2).toInt = 5 ∨ (v2).toInt = 6 := by omega
                    rcases hc with hc | hc | hc | hc | hc | hc | hc
                    · exact h21_0 (i32_of hc)
                    · exact h21_1 (i32_of hc)
                    · exact h21_2 (i32_of hc)
                    · exact h21_3 (i32_of hc)
                    · exact h21_4 (i32_of hc)
                    · exact h21_5 (i32_of hc)
                    · exact h21_6 (i32_of hc)
                  refine v_iconst (v := (-1)) 141 X dX4_cell_140 rfl ki_m1 ?_
                  obtain rfl := Option.some.inj hF
                  exact v_iret X hr ⟨rfl, rfl⟩ (Nat.zero_le _) (Nat.zero_le _) dX4_cell_141
  · replace hF := ifp h5 hF
    refine v_iconst (v := (-1)) 9 X dX4_cell_8 rfl ki_m1 ?_
    obtain rfl := Option.some.inj hF
    exact v_iret X hr ⟨rfl, rfl⟩ (Nat.zero_le _) (Nat.zero_le _) dX4_cell_9
theorem w_X4_valve (v1 : Int32) (v2 : Int32) (r : Int32) (hF : M_valve now v1 v2 = some r) : CTi l yX4_valve cX4_valve 3 (Option.some Jvm.ClassFile.FieldType.int) rmX4_valve D (MW D a now past kept text queue isMet clusterOf fresh saved length met clusters frm ende wrong) [.ref (a 0), .int v1, .int v2] NoX (fun r1 u => r1 = r ∧ u = (MW D a now past kept text queue isMet clusterOf fresh saved length met clusters frm ende wrong)) := by
  refine m_i (by decide) (Nat.le_of_ble_eq_true rfl) ?_
  intro p e s m args below meth c A B
  obtain ⟨X, hr, -, -, -, -⟩ := B
  replace X : CX p s m args meth c D A cX4_valve 3 "DyeLatticeModel" := X
  refine v_lv (lv' := [(0, .ref (a 0)), (1, .int v1), (2, .int v2)]) [0, 1, 2] rfl ?_
  unfold M_valve at hF
  refine v_aload_n 1 X 0 dX4_valve_0 rfl rfl rfl ?_
  refine v_iload_n 2 X 1 dX4_valve_1 rfl rfl rfl ?_
  refine v_iload_n 3 X 2 dX4_valve_2 rfl rfl rfl ?_
  obtain ⟨z3, hz3, hF⟩ := ob hF
  refine v_mVi 6 X 2 [.int v1, .int v2] (w_X4_second v1 v2 _ hz3) q1249 q1251 qs41 q95 q1252 hdX4_second 0 rfl rfl pass_no ⟨rfl, rfl⟩ ⟨Nat.le_of_ble_eq_true rfl, Nat.le_of_ble_eq_true rfl⟩ ⟨Nat.le_refl 0, Nat.le_refl 0⟩ rfl rfl (Nat.le_of_ble_eq_true rfl) dX4_valve_3 rfl ?_
  refine v_bipush (v := (-9)) 8 X dX4_valve_6 rfl kb_m9 ?_
  refine v_icmp_ne 11 15 X dX4_valve_8 rfl (by decide) (fun h8 => ?_) (fun h8 => ?_)
  · replace hF := ifn h8 hF
    refine v_aload_n 16 X 0 dX4_valve_15 rfl rfl rfl ?_
    refine v_iload_n 17 X 1 dX4_valve_16 rfl rfl rfl ?_
    refine v_iload_n 18 X 2 dX4_valve_17 rfl rfl rfl ?_
    obtain ⟨z18, hz18, hF⟩ := ob hF
    refine v_mVi 21 X 2 [.int v1, .int v2] (w_X4_valveOf v1 v2 _ hz18) q1286 q1288 qs47 q95 q1289 hdX4_valveOf 0 rfl rfl pass_no ⟨rfl, rfl⟩ ⟨Nat.le_of_ble_eq_true rfl, Nat.le_of_ble_eq_true rfl⟩ ⟨Nat.le_refl 0, Nat.le_refl 0⟩ rfl rfl (Nat.le_of_ble_eq_true rfl) dX4_valve_18 rfl ?_
    obtain rfl := Option.some.inj hF
    exact v_iret X hr ⟨rfl, rfl⟩ (Nat.zero_le _) (Nat.zero_le _) dX4_valve_21
  · replace hF := ifp h8 hF
    refine v_iconst (v := (-1)) 12 X dX4_valve_11 rfl ki_m1 ?_
    refine v_goto 21 X dX4_valve_12 (by decide) ?_
    obtain rfl := Option.some.inj hF
    exact v_iret X hr ⟨rfl, rfl⟩ (Nat.zero_le _) (Nat.zero_le _) dX4_valve_21
theorem w_X4_dyed (v1 : Int32) (r : Int32) (hF : M_dyed now v1 = some r) : CTi l yX4_dyed cX4_dyed 2 (Option.some Jvm.ClassFile.FieldType.int) rmX4_dyed D (MW D a now past kept text queue isMet clusterOf fresh saved length met clusters frm ende wrong) [.ref (a 0), .int v1] NoX (fun r1 u => r1 = r ∧ u = (MW D a now past kept text queue isMet clusterOf fresh saved length met clusters frm ende wrong)) := by
  refine m_i (by decide) (Nat.le_of_ble_eq_true rfl) ?_
  intro p e s m args below meth c A B
  obtain ⟨X, hr, -, -, -, -⟩ := B
  replace X : CX p s m args meth c D A cX4_dyed 2 "DyeLatticeModel" := X
  refine v_lv (lv' := [(0, .ref (a 0)), (1, .int v1)]) [0, 1] rfl ?_
  unfold M_dyed at hF
  refine v_iload_n 1 X 1 dX4_dyed_0 rfl rfl rfl ?_
  refine v_iconst (v := 0) 2 X dX4_dyed_1 rfl ki_0 ?_
  refine v_iconst (v := 2) 3 X dX4_dyed_2 rfl ki_2 ?_
  obtain ⟨z3, hz3, hF⟩ := ob hF
  refine v_mSi 6 X 3 [.int v1, .int 0, .int 2] (w_X4_within v1 0 2 _ hz3) q1226 q1227 q95 q1228 hdX4_within pass_no ⟨rfl, rfl⟩ ⟨Nat.le_of_ble_eq_true rfl, Nat.le_of_ble_eq_true rfl⟩ ⟨Nat.le_refl 0, Nat.le_refl 0⟩ rfl rfl (Nat.le_of_ble_eq_true rfl) dX4_dyed_3 rfl ?_
  refine v_if_eq 9 20 X dX4_dyed_6 rfl (by decide) (fun h6 => ?_) (fun h6 => ?_)
  · replace hF := ifp h6 hF
    refine v_iconst (v := (-1)) 21 X dX4_dyed_20 rfl ki_m1 ?_
    obtain rfl := Option.some.inj hF
    exact v_iret X hr ⟨rfl, rfl⟩ (Nat.zero_le _) (Nat.zero_le _) dX4_dyed_21
  · replace hF := ifn h6 hF
    refine v_aload_n 10 X 0 dX4_dyed_9 rfl rfl rfl ?_
    refine v_sipush (v := 487) 13 X dX4_dyed_10 rfl ks_487 ?_
    refine v_iload_n 14 X 1 dX4_dyed_13 rfl rfl rfl ?_
    obtain ⟨z14, hz14, hF⟩ := ob hF
    refine v_mVi 17 X 2 [.int 487, .int v1] (w_X4_withDye 487 v1 _ hz14) q1301 q1303 qs48 q95 q1304 hdX4_withDye 0 rfl rfl pass_no ⟨rfl, rfl⟩ ⟨Nat.le_of_ble_eq_true rfl, Nat.le_of_ble_eq_true rfl⟩ ⟨Nat.le_refl 0, Nat.le_refl 0⟩ rfl rfl (Nat.le_of_ble_eq_true rfl) dX4_dyed_14 rfl ?_
    refine v_goto 21 X dX4_dyed_17 (by decide) ?_
    obtain rfl := Option.some.inj hF
    exact v_iret X hr ⟨rfl, rfl⟩ (Nat.zero_le _) (Nat.zero_le _) dX4_dyed_21
theorem w_X4_reach_17 (X : CX p s m args meth c D A cX4_reach 3 "DyeLatticeModel") (v1 : Int32) : ∀ (n : Nat) (x : Int32 × (Nat → Int32) × (Nat → Int32) × Int32) (o : ((Nat → Int32) × (Nat → Int32) × Int32)), loopN (fun x => M_reach_17 v1 now x.1 x.2.1 x.2.2.1 x.2.2.2) n x = some o → (V p l e rmX4_reach s m args below meth c D A 3 Q (MW D a now past kept text o.1 o.2.1 clusterOf fresh saved length o.2.2 clusters frm ende wrong) 0 0 61 [(0, .ref (a 0))] []) → V p l e rmX4_reach s m args below meth c D A 3 Q (MW D a now past kept text x.2.1 x.2.2.1 clusterOf fresh saved length x.2.2.2 clusters frm ende wrong) 0 0 17 [(0, .ref (a 0)), (1, .int v1), (2, .int x.1)] [] := by
  refine v_loop (fun (x : Int32 × (Nat → Int32) × (Nat → Int32) × Int32) => V p l e rmX4_reach s m args below meth c D A 3 Q (MW D a now past kept text x.2.1 x.2.2.1 clusterOf fresh saved length x.2.2.2 clusters frm ende wrong) 0 0 17 [(0, .ref (a 0)), (1, .int v1), (2, .int x.1)] []) (fun (o : ((Nat → Int32) × (Nat → Int32) × Int32)) => V p l e rmX4_reach s m args below meth c D A 3 Q (MW D a now past kept text o.1 o.2.1 clusterOf fresh saved length o.2.2 clusters frm ende wrong) 0 0 61 [(0, .ref (a 0))] []) ?_
  rintro ⟨v2, queue, isMet, met⟩ r hF hI hO
  replace hF : M_reach_17 v1 now v2 queue isMet met = some r := hF
  show V p l e rmX4_reach s m args below meth c D A 3 Q (MW D a now past kept text queue isMet clusterOf fresh saved length met clusters frm ende wrong) 0 0 17 [(0, .ref (a 0)), (1, .int v1), (2, .int v2)] []
  unfold M_reach_17 at hF
  refine v_iload_n 18 X 2 dX4_reach_17 rfl rfl rfl ?_
  refine v_aload_n 19 X 0 dX4_reach_18 rfl rfl rfl ?_
  obtain ⟨z19, hz19, hF⟩ := ob hF
  refine v_mVi 22 X 0 [] (w_X4_cells _ hz19) q1233 q1235 qs38 q95 q1236 hdX4_cells 0 rfl rfl pass_no ⟨rfl, rfl⟩ ⟨Nat.le_of_ble_eq_true rfl, Nat.le_of_ble_eq_true rfl⟩ ⟨Nat.le_refl 0, Nat.le_refl 0⟩ rfl rfl (Nat.le_of_ble_eq_true rfl) dX4_reach_19 rfl ?_
  refine v_icmp_ge 25 61 X dX4_reach_22 rfl (by decide) (fun h22 => ?_) (fun h22 => ?_)
  · replace hF := ifp h22 hF
    obtain rfl := Option.some.inj hF
    exact v_lv [0] rfl (hO _ rfl)
  · replace hF := ifn h22 hF
    refine v_aload_n 26 X 0 dX4_reach_25 rfl rfl rfl ?_
    refine v_get 29 X in_X4 0 0 rfl rfl (by decide) q1172 rfl rfl dX4_reach_26 rfl ?_
    refine v_sipush (v := 407) 32 X dX4_reach_29 rfl ks_407 ?_
    refine v_iload_n 33 X 2 dX4_reach_32 rfl rfl rfl ?_
    refine v_iadd 34 X dX4_reach_33 rfl ?_
    obtain ⟨z34, hz34, hF⟩ := ob hF
    refine v_iald 35 X 1 hz34 rfl dX4_reach_34 rfl ?_
    refine v_iload_n 36 X 1 dX4_reach_35 rfl rfl rfl ?_
    obtain ⟨z36, hz36, hF⟩ := ob hF
    refine v_mSi 39 X 2 [.int z34, .int v1] (w_X4_has z34 v1 _ hz36) q1298 q1299 q95 q1300 hdX4_has pass_no ⟨rfl, rfl⟩ ⟨Nat.le_of_ble_eq_true rfl, Nat.le_of_ble_eq_true rfl⟩ ⟨Nat.le_refl 0, Nat.le_refl 0⟩ rfl rfl (Nat.le_of_ble_eq_true rfl) dX4_reach_36 rfl ?_
    refine v_if_eq 42 55 X dX4_reach_39 rfl (by decide) (fun h39 => ?_) (fun h39 => ?_)
    · replace hF := ifp h39 hF
      refine v_iinc (v := (v2 + 1)) 58 [(2, .int (v2 + 1)), (0, .ref (a 0)), (1, .int v1)] X 2 dX4_reach_55 rfl rfl (by rfl) (by decide) rfl ?_
      refine v_goto 17 X dX4_reach_58 (by decide) ?_
      obtain rfl := Option.some.inj hF
      exact v_lv [1, 2, 0] rfl (hI _ rfl)
    · replace hF := ifn h39 hF
      refine v_aload_n 43 X 0 dX4_reach_42 rfl rfl rfl ?_
      refine v_iload_n 44 X 2 dX4_reach_43 rfl rfl rfl ?_
      refine v_aload_n 45 X 0 dX4_reach_44 rfl rfl rfl ?_
      refine v_get 48 X in_X4 0 0 rfl rfl (by decide) q1172 rfl rfl dX4_reach_45 rfl ?_
      refine v_iconst (v := 3) 49 X dX4_reach_48 rfl ki_3 ?_
      obtain ⟨z49, hz49, hF⟩ := ob hF
      refine v_iald 50 X 1 hz49 rfl dX4_reach_49 rfl ?_
      refine v_bipush (v := (-9)) 52 X dX4_reach_50 rfl kb_m9 ?_
      obtain ⟨z52, hz52, hF⟩ := ob hF
      refine v_mVv 55 X 3 [.int v2, .int z49, .int (-9)] (w_X4_meets v2 z49 (-9) _ hz52) q1357 q1359 qs57 q95 q1360 hdX4_meets 0 rfl rfl pass_no ⟨rfl, rfl⟩ ⟨Nat.le_of_ble_eq_true rfl, Nat.le_of_ble_eq_true rfl⟩ ⟨Nat.le_refl 0, Nat.le_refl 0⟩ rfl rfl (Nat.le_of_ble_eq_true rfl) dX4_reach_52 rfl ?_
      refine v_iinc (v := (v2 + 1)) 58 [(2, .int (v2 + 1)), (0, .ref (a 0)), (1, .int v1)] X 2 dX4_reach_55 rfl rfl (by rfl) (by decide) rfl ?_
      refine v_goto 17 X dX4_reach_58 (by decide) ?_
      obtain rfl := Option.some.inj hF
      exact v_lv [1, 2, 0] rfl (hI _ rfl)
theorem w_X4_reach (v1 : Int32) (r : Int32 × (Nat → Int32) × (Nat → Int32) × Int32) (hF : M_reach now queue isMet met v1 = some r) : CTi l yX4_reach cX4_reach 3 (Option.some Jvm.ClassFile.FieldType.int) rmX4_reach D (MW D a now past kept text queue isMet clusterOf fresh saved length met clusters frm ende wrong) [.ref (a 0), .int v1] NoX (fun r1 u => r1 = r.1 ∧ u = (MW D a now past kept text r.2.1 r.2.2.1 clusterOf fresh saved length r.2.2.2 clusters frm ende wrong)) := by
  refine m_i (by decide) (Nat.le_of_ble_eq_true rfl) ?_
  intro p e s m args below meth c A B
  obtain ⟨X, hr, -, -, -, -⟩ := B
  replace X : CX p s m args meth c D A cX4_reach 3 "DyeLatticeModel" := X
  refine v_lv (lv' := [(0, .ref (a 0)), (1, .int v1)]) [0, 1] rfl ?_
  unfold M_reach at hF
  refine v_iload_n 1 X 1 dX4_reach_0 rfl rfl rfl ?_
  refine v_iconst (v := 0) 2 X dX4_reach_1 rfl ki_0 ?_
  refine v_iconst (v := 2) 3 X dX4_reach_2 rfl ki_2 ?_
  obtain ⟨z3, hz3, hF⟩ := ob hF
  refine v_mSi 6 X 3 [.int v1, .int 0, .int 2] (w_X4_within v1 0 2 _ hz3) q1226 q1227 q95 q1228 hdX4_within pass_no ⟨rfl, rfl⟩ ⟨Nat.le_of_ble_eq_true rfl, Nat.le_of_ble_eq_true rfl⟩ ⟨Nat.le_refl 0, Nat.le_refl 0⟩ rfl rfl (Nat.le_of_ble_eq_true rfl) dX4_reach_3 rfl ?_
  refine v_if_ne 9 11 X dX4_reach_6 rfl (by decide) (fun h6 => ?_) (fun h6 => ?_)
  · replace hF := ifn h6 hF
    refine v_aload_n 12 X 0 dX4_reach_11 rfl rfl rfl ?_
    obtain ⟨z12, hz12, hF⟩ := ob hF
    refine v_mVv 15 X 0 [] (w_X4_forgets _ hz12) q1353 q1355 qs56 q95 q1356 hdX4_forgets 0 rfl rfl pass_no ⟨rfl, rfl⟩ ⟨Nat.le_of_ble_eq_true rfl, Nat.le_of_ble_eq_true rfl⟩ ⟨Nat.le_refl 0, Nat.le_refl 0⟩ rfl rfl (Nat.le_of_ble_eq_true rfl) dX4_reach_12 rfl ?_
    refine v_iconst (v := 0) 16 X dX4_reach_15 rfl ki_0 ?_
    refine v_istore_n 17 [(2, .int 0), (0, .ref (a 0)), (1, .int v1)] X dX4_reach_16 rfl rfl (by decide) rfl ?_
    obtain ⟨z17, hz17, hF⟩ := ob hF
    refine v_lv [1, 2, 0] rfl (w_X4_reach_17 X v1 _ (0, queue, z12.1, z12.2) _ hz17 ?_)
    refine v_aload_n 62 X 0 dX4_reach_61 rfl rfl rfl ?_
    refine v_aload_n 63 X 0 dX4_reach_62 rfl rfl rfl ?_
    refine v_get 66 X in_X4 0 0 rfl rfl (by decide) q1172 rfl rfl dX4_reach_63 rfl ?_
    refine v_iconst (v := 3) 67 X dX4_reach_66 rfl ki_3 ?_
    obtain ⟨z67, hz67, hF⟩ := ob hF
    refine v_iald 68 X 1 hz67 rfl dX4_reach_67 rfl ?_
    refine v_bipush (v := (-9)) 70 X dX4_reach_68 rfl kb_m9 ?_
    refine v_iconst (v := 0) 71 X dX4_reach_70 rfl ki_0 ?_
    obtain ⟨z71, hz71, hF⟩ := ob hF
    refine v_mVv 74 X 3 [.int z67, .int (-9), .int 0] (w_X4_walks z67 (-9) 0 _ hz71) q1361 q1363 qs58 q95 q1364 hdX4_walks 0 rfl rfl pass_no ⟨rfl, rfl⟩ ⟨Nat.le_of_ble_eq_true rfl, Nat.le_of_ble_eq_true rfl⟩ ⟨Nat.le_refl 0, Nat.le_refl 0⟩ rfl rfl (Nat.le_of_ble_eq_true rfl) dX4_reach_71 rfl ?_
    refine v_aload_n 75 X 0 dX4_reach_74 rfl rfl rfl ?_
    refine v_get 78 X in_X4 0 8 rfl rfl (by decide) q1180 rfl rfl dX4_reach_75 rfl ?_
    obtain rfl := Option.some.inj hF
    exact v_iret X hr ⟨rfl, rfl⟩ (Nat.zero_le _) (Nat.zero_le _) dX4_reach_78
  · replace hF := ifp h6 hF
    refine v_iconst (v := (-1)) 10 X dX4_reach_9 rfl ki_m1 ?_
    obtain rfl := Option.some.inj hF
    exact v_iret X hr ⟨rfl, rfl⟩ (Nat.zero_le _) (Nat.zero_le _) dX4_reach_10
theorem w_X4_keeps_2 (X : CX p s m args meth c D A cX4_keeps 2 "DyeLatticeModel") : ∀ (n : Nat) (x : Int32 × (Nat → Int32)) (o : ((Nat → Int32))), loopN (fun x => M_keeps_2 now x.1 x.2) n x = some o → (V p l e rmX4_keeps s m args below meth c D A 2 Q (MW D a now past o text queue isMet clusterOf fresh saved length met clusters frm ende wrong) 0 0 27 [] []) → V p l e rmX4_keeps s m args below meth c D A 2 Q (MW D a now past x.2 text queue isMet clusterOf fresh saved length met clusters frm ende wrong) 0 0 2 [(0, .ref (a 0)), (1, .int x.1)] [] := by
  refine v_loop (fun (x : Int32 × (Nat → Int32)) => V p l e rmX4_keeps s m args below meth c D A 2 Q (MW D a now past x.2 text queue isMet clusterOf fresh saved length met clusters frm ende wrong) 0 0 2 [(0, .ref (a 0)), (1, .int x.1)] []) (fun (o : ((Nat → Int32))) => V p l e rmX4_keeps s m args below meth c D A 2 Q (MW D a now past o text queue isMet clusterOf fresh saved length met clusters frm ende wrong) 0 0 27 [] []) ?_
  rintro ⟨v1, kept⟩ r hF hI hO
  replace hF : M_keeps_2 now v1 kept = some r := hF
  show V p l e rmX4_keeps s m args below meth c D A 2 Q (MW D a now past kept text queue isMet clusterOf fresh saved length met clusters frm ende wrong) 0 0 2 [(0, .ref (a 0)), (1, .int v1)] []
  unfold M_keeps_2 at hF
  refine v_iload_n 3 X 1 dX4_keeps_2 rfl rfl rfl ?_
  refine v_sipush (v := 647) 6 X dX4_keeps_3 rfl ks_647 ?_
  refine v_icmp_ge 9 27 X dX4_keeps_6 rfl (by decide) (fun h6 => ?_) (fun h6 => ?_)
  · replace hF := ifp h6 hF
    obtain rfl := Option.some.inj hF
    exact v_lv [] rfl (hO _ rfl)
  · replace hF := ifn h6 hF
    refine v_aload_n 10 X 0 dX4_keeps_9 rfl rfl rfl ?_
    refine v_get 13 X in_X4 0 2 rfl rfl (by decide) q1174 rfl rfl dX4_keeps_10 rfl ?_
    refine v_iload_n 14 X 1 dX4_keeps_13 rfl rfl rfl ?_
    refine v_aload_n 15 X 0 dX4_keeps_14 rfl rfl rfl ?_
    refine v_get 18 X in_X4 0 0 rfl rfl (by decide) q1172 rfl rfl dX4_keeps_15 rfl ?_
    refine v_iload_n 19 X 1 dX4_keeps_18 rfl rfl rfl ?_
    obtain ⟨z19, hz19, hF⟩ := ob hF
    refine v_iald 20 X 1 hz19 rfl dX4_keeps_19 rfl ?_
    obtain ⟨z20, hz20, hF⟩ := ob hF
    refine v_iast 21 (MW D a now past z20 text queue isMet clusterOf fresh saved length met clusters frm ende wrong) X 3 hz20 rfl dX4_keeps_20 rfl rfl ?_
    refine v_iinc (v := (v1 + 1)) 24 [(1, .int (v1 + 1)), (0, .ref (a 0))] X 1 dX4_keeps_21 rfl rfl (by rfl) (by decide) rfl ?_
    refine v_goto 2 X dX4_keeps_24 (by decide) ?_
    obtain rfl := Option.some.inj hF
    exact v_lv [1, 0] rfl (hI _ rfl)
theorem w_X4_keeps (r : (Nat → Int32)) (hF : M_keeps now kept = some r) : CTv l yX4_keeps cX4_keeps 2 (Option.none : Option Jvm.ClassFile.FieldType) rmX4_keeps D (MW D a now past kept text queue isMet clusterOf fresh saved length met clusters frm ende wrong) [.ref (a 0)] NoX (fun u => u = (MW D a now past r text queue isMet clusterOf fresh saved length met clusters frm ende wrong)) := by
  refine m_v (by decide) (Nat.le_of_ble_eq_true rfl) ?_
  intro p e s m args below meth c A B
  obtain ⟨X, hr, -, -, -, -⟩ := B
  replace X : CX p s m args meth c D A cX4_keeps 2 "DyeLatticeModel" := X
  refine v_lv (lv' := [(0, .ref (a 0))]) [0] rfl ?_
  unfold M_keeps at hF
  refine v_iconst (v := 0) 1 X dX4_keeps_0 rfl ki_0 ?_
  refine v_istore_n 2 [(1, .int 0), (0, .ref (a 0))] X dX4_keeps_1 rfl rfl (by decide) rfl ?_
  obtain ⟨z2, hz2, hF⟩ := ob hF
  refine v_lv [1, 0] rfl (w_X4_keeps_2 X _ (0, kept) _ hz2 ?_)
  obtain rfl := Option.some.inj hF
  exact v_vret X hr rfl (Nat.zero_le _) (Nat.zero_le _) dX4_keeps_27
theorem w_X4_returns_2 (X : CX p s m args meth c D A cX4_returns 2 "DyeLatticeModel") : ∀ (n : Nat) (x : Int32 × (Nat → Int32)) (o : ((Nat → Int32))), loopN (fun x => M_returns_2 kept x.1 x.2) n x = some o → (V p l e rmX4_returns s m args below meth c D A 2 Q (MW D a o past kept text queue isMet clusterOf fresh saved length met clusters frm ende wrong) 0 0 27 [] []) → V p l e rmX4_returns s m args below meth c D A 2 Q (MW D a x.2 past kept text queue isMet clusterOf fresh saved length met clusters frm ende wrong) 0 0 2 [(0, .ref (a 0)), (1, .int x.1)] [] := by
  refine v_loop (fun (x : Int32 × (Nat → Int32)) => V p l e rmX4_returns s m args below meth c D A 2 Q (MW D a x.2 past kept text queue isMet clusterOf fresh saved length met clusters frm ende wrong) 0 0 2 [(0, .ref (a 0)), (1, .int x.1)] []) (fun (o : ((Nat → Int32))) => V p l e rmX4_returns s m args below meth c D A 2 Q (MW D a o past kept text queue isMet clusterOf fresh saved length met clusters frm ende wrong) 0 0 27 [] []) ?_
  rintro ⟨v1, now⟩ r hF hI hO
  replace hF : M_returns_2 kept v1 now = some r := hF
  show V p l e rmX4_returns s m args below meth c D A 2 Q (MW D a now past kept text queue isMet clusterOf fresh saved length met clusters frm ende wrong) 0 0 2 [(0, .ref (a 0)), (1, .int v1)] []
  unfold M_returns_2 at hF
  refine v_iload_n 3 X 1 dX4_returns_2 rfl rfl rfl ?_
  refine v_sipush (v := 647) 6 X dX4_returns_3 rfl ks_647 ?_
  refine v_icmp_ge 9 27 X dX4_returns_6 rfl (by decide) (fun h6 => ?_) (fun h6 => ?_)
  · replace hF := ifp h6 hF
    obtain rfl := Option.some.inj hF
    exact v_lv [] rfl (hO _ rfl)
  · replace hF := ifn h6 hF
    refine v_aload_n 10 X 0 dX4_returns_9 rfl rfl rfl ?_
    refine v_get 13 X in_X4 0 0 rfl rfl (by decide) q1172 rfl rfl dX4_returns_10 rfl ?_
    refine v_iload_n 14 X 1 dX4_returns_13 rfl rfl rfl ?_
    refine v_aload_n 15 X 0 dX4_returns_14 rfl rfl rfl ?_
    refine v_get 18 X in_X4 0 2 rfl rfl (by decide) q1174 rfl rfl dX4_returns_15 rfl ?_
    refine v_iload_n 19 X 1 dX4_returns_18 rfl rfl rfl ?_
    obtain ⟨z19, hz19, hF⟩ := ob hF
    refine v_iald 20 X 3 hz19 rfl dX4_returns_19 rfl ?_
    obtain ⟨z20, hz20, hF⟩ := ob hF
    refine v_iast 21 (MW D a z20 past kept text queue isMet clusterOf fresh saved length met clusters frm ende wrong) X 1 hz20 rfl dX4_returns_20 rfl rfl ?_
    refine v_iinc (v := (v1 + 1)) 24 [(1, .int (v1 + 1)), (0, .ref (a 0))] X 1 dX4_returns_21 rfl rfl (by rfl) (by decide) rfl ?_
    refine v_goto 2 X dX4_returns_24 (by decide) ?_
    obtain rfl := Option.some.inj hF
    exact v_lv [1, 0] rfl (hI _ rfl)
theorem w_X4_returns (r : (Nat → Int32)) (hF : M_returns now kept = some r) : CTv l yX4_returns cX4_returns 2 (Option.none : Option Jvm.ClassFile.FieldType) rmX4_returns D (MW D a now past kept text queue isMet clusterOf fresh saved length met clusters frm ende wrong) [.ref (a 0)] NoX (fun u => u = (MW D a r past kept text queue isMet clusterOf fresh saved length met clusters frm ende wrong)) := by
  refine m_v (by decide) (Nat.le_of_ble_eq_true rfl) ?_
  intro p e s m args below meth c A B
  obtain ⟨X, hr, -, -, -, -⟩ := B
  replace X : CX p s m args meth c D A cX4_returns 2 "DyeLatticeModel" := X
  refine v_lv (lv' := [(0, .ref (a 0))]) [0] rfl ?_
  unfold M_returns at hF
  refine v_iconst (v := 0) 1 X dX4_returns_0 rfl ki_0 ?_
  refine v_istore_n 2 [(1, .int 0), (0, .ref (a 0))] X dX4_returns_1 rfl rfl (by decide) rfl ?_
  obtain ⟨z2, hz2, hF⟩ := ob hF
  refine v_lv [1, 0] rfl (w_X4_returns_2 X _ (0, now) _ hz2 ?_)
  obtain rfl := Option.some.inj hF
  exact v_vret X hr rfl (Nat.zero_le _) (Nat.zero_le _) dX4_returns_27
theorem w_X4_arrival_25 (X : CX p s m args meth c D A cX4_arrival 5 "DyeLatticeModel") (v1 : Int32) (v2 : Int32) : ∀ (n : Nat) (x : Int32 × (Nat → Int32) × (Nat → Int32)) (o : (Int32 × (Nat → Int32) × (Nat → Int32))), loopN (fun x => M_arrival_25 v1 v2 x.1 x.2.1 x.2.2) n x = some o → (V p l e rmX4_arrival s m args below meth c D A 5 Q (MW D a o.2.1 past kept text queue isMet clusterOf o.2.2 saved length met clusters frm ende wrong) 0 0 60 [(0, .ref (a 0)), (3, .int o.1)] []) → V p l e rmX4_arrival s m args below meth c D A 5 Q (MW D a x.2.1 past kept text queue isMet clusterOf x.2.2 saved length met clusters frm ende wrong) 0 0 25 [(0, .ref (a 0)), (1, .int v1), (2, .int v2), (3, .int x.1)] [] := by
  refine v_loop (fun (x : Int32 × (Nat → Int32) × (Nat → Int32)) => V p l e rmX4_arrival s m args below meth c D A 5 Q (MW D a x.2.1 past kept text queue isMet clusterOf x.2.2 saved length met clusters frm ende wrong) 0 0 25 [(0, .ref (a 0)), (1, .int v1), (2, .int v2), (3, .int x.1)] []) (fun (o : (Int32 × (Nat → Int32) × (Nat → Int32))) => V p l e rmX4_arrival s m args below meth c D A 5 Q (MW D a o.2.1 past kept text queue isMet clusterOf o.2.2 saved length met clusters frm ende wrong) 0 0 60 [(0, .ref (a 0)), (3, .int o.1)] []) ?_
  rintro ⟨v3, now, fresh⟩ r hF hI hO
  replace hF : M_arrival_25 v1 v2 v3 now fresh = some r := hF
  show V p l e rmX4_arrival s m args below meth c D A 5 Q (MW D a now past kept text queue isMet clusterOf fresh saved length met clusters frm ende wrong) 0 0 25 [(0, .ref (a 0)), (1, .int v1), (2, .int v2), (3, .int v3)] []
  unfold M_arrival_25 at hF
  refine v_iload_n 26 X 3 dX4_arrival_25 rfl rfl rfl ?_
  refine v_bipush (v := 60) 28 X dX4_arrival_26 rfl kb_60 ?_
  refine v_icmp_gt 31 60 X dX4_arrival_28 rfl (by decide) (fun h28 => ?_) (fun h28 => ?_)
  · replace hF := ifp h28 hF
    obtain rfl := Option.some.inj hF
    exact v_lv [0, 3] rfl (hO _ rfl)
  · replace hF := ifn h28 hF
    refine v_aload_n 32 X 0 dX4_arrival_31 rfl rfl rfl ?_
    refine v_get 35 X in_X4 0 0 rfl rfl (by decide) q1172 rfl rfl dX4_arrival_32 rfl ?_
    refine v_sipush (v := 487) 38 X dX4_arrival_35 rfl ks_487 ?_
    refine v_iload_n 39 X 2 dX4_arrival_38 rfl rfl rfl ?_
    refine v_iadd 40 X dX4_arrival_39 rfl ?_
    obtain ⟨z40, hz40, hF⟩ := ob hF
    refine v_iald 41 X 1 hz40 rfl dX4_arrival_40 rfl ?_
    refine v_iload_n 42 X 1 dX4_arrival_41 rfl rfl rfl ?_
    obtain ⟨z42, hz42, hF⟩ := ob hF
    refine v_mSi 45 X 2 [.int z40, .int v1] (w_X4_has z40 v1 _ hz42) q1298 q1299 q95 q1300 hdX4_has pass_no ⟨rfl, rfl⟩ ⟨Nat.le_of_ble_eq_true rfl, Nat.le_of_ble_eq_true rfl⟩ ⟨Nat.le_refl 0, Nat.le_refl 0⟩ rfl rfl (Nat.le_of_ble_eq_true rfl) dX4_arrival_42 rfl ?_
    refine v_if_ne 48 60 X dX4_arrival_45 rfl (by decide) (fun h45 => ?_) (fun h45 => ?_)
    · replace hF := ifn h45 hF
      obtain rfl := Option.some.inj hF
      exact v_lv [0, 3] rfl (hO _ rfl)
    · replace hF := ifp h45 hF
      refine v_aload_n 49 X 0 dX4_arrival_48 rfl rfl rfl ?_
      obtain ⟨z49, hz49, hF⟩ := ob hF
      refine v_mVi 52 X 0 [] (w_X4_steps _ hz49) q1321 q1323 qs50 q95 q1324 hdX4_steps 0 rfl rfl pass_no ⟨rfl, rfl⟩ ⟨Nat.le_of_ble_eq_true rfl, Nat.le_of_ble_eq_true rfl⟩ ⟨Nat.le_refl 0, Nat.le_refl 0⟩ rfl rfl (Nat.le_of_ble_eq_true rfl) dX4_arrival_49 rfl ?_
      refine v_istore 54 [(4, .int z49.1), (0, .ref (a 0)), (1, .int v1), (2, .int v2), (3, .int v3)] X dX4_arrival_52 rfl (by decide) rfl ?_
      refine v_iinc (v := (v3 + 1)) 57 [(3, .int (v3 + 1)), (4, .int z49.1), (0, .ref (a 0)), (1, .int v1), (2, .int v2)] X 4 dX4_arrival_54 rfl rfl (by rfl) (by decide) rfl ?_
      refine v_goto 25 X dX4_arrival_57 (by decide) ?_
      obtain rfl := Option.some.inj hF
      exact v_lv [2, 3, 4, 0] rfl (hI _ rfl)
theorem w_X4_arrival (v1 : Int32) (v2 : Int32) (r : Int32 × (Nat → Int32) × (Nat → Int32) × (Nat → Int32)) (hF : M_arrival now kept fresh v1 v2 = some r) : CTi l yX4_arrival cX4_arrival 5 (Option.some Jvm.ClassFile.FieldType.int) rmX4_arrival D (MW D a now past kept text queue isMet clusterOf fresh saved length met clusters frm ende wrong) [.ref (a 0), .int v1, .int v2] NoX (fun r1 u => r1 = r.1 ∧ u = (MW D a r.2.1 past r.2.2.1 text queue isMet clusterOf r.2.2.2 saved length met clusters frm ende wrong)) := by
  refine m_i (by decide) (Nat.le_of_ble_eq_true rfl) ?_
  intro p e s m args below meth c A B
  obtain ⟨X, hr, -, -, -, -⟩ := B
  replace X : CX p s m args meth c D A cX4_arrival 5 "DyeLatticeModel" := X
  refine v_lv (lv' := [(0, .ref (a 0)), (1, .int v1), (2, .int v2)]) [0, 1, 2] rfl ?_
  unfold M_arrival at hF
  refine v_iload_n 1 X 1 dX4_arrival_0 rfl rfl rfl ?_
  refine v_iconst (v := 0) 2 X dX4_arrival_1 rfl ki_0 ?_
  refine v_iconst (v := 2) 3 X dX4_arrival_2 rfl ki_2 ?_
  obtain ⟨z3, hz3, hF⟩ := ob hF
  refine v_mSi 6 X 3 [.int v1, .int 0, .int 2] (w_X4_within v1 0 2 _ hz3) q1226 q1227 q95 q1228 hdX4_within pass_no ⟨rfl, rfl⟩ ⟨Nat.le_of_ble_eq_true rfl, Nat.le_of_ble_eq_true rfl⟩ ⟨Nat.le_refl 0, Nat.le_refl 0⟩ rfl rfl (Nat.le_of_ble_eq_true rfl) dX4_arrival_3 rfl ?_
  refine v_if_eq 9 17 X dX4_arrival_6 rfl (by decide) (fun h6 => ?_) (fun h6 => ?_)
  · replace hF := ifp h6 hF
    refine v_iconst (v := (-1)) 18 X dX4_arrival_17 rfl ki_m1 ?_
    obtain rfl := Option.some.inj hF
    exact v_iret X hr ⟨rfl, rfl⟩ (Nat.zero_le _) (Nat.zero_le _) dX4_arrival_18
  · replace hF := ifn h6 hF
    refine v_aload_n 10 X 0 dX4_arrival_9 rfl rfl rfl ?_
    refine v_iload_n 11 X 2 dX4_arrival_10 rfl rfl rfl ?_
    obtain ⟨z11, hz11, hF⟩ := ob hF
    refine v_mVi 14 X 1 [.int v2] (w_X4_isCell v2 _ hz11) q1253 q1255 qs42 q95 q1256 hdX4_isCell 0 rfl rfl pass_no ⟨rfl, rfl⟩ ⟨Nat.le_of_ble_eq_true rfl, Nat.le_of_ble_eq_true rfl⟩ ⟨Nat.le_refl 0, Nat.le_refl 0⟩ rfl rfl (Nat.le_of_ble_eq_true rfl) dX4_arrival_11 rfl ?_
    refine v_if_ne 17 19 X dX4_arrival_14 rfl (by decide) (fun h14 => ?_) (fun h14 => ?_)
    · replace hF := ifn h14 hF
      refine v_aload_n 20 X 0 dX4_arrival_19 rfl rfl rfl ?_
      obtain ⟨z20, hz20, hF⟩ := ob hF
      refine v_mVv 23 X 0 [] (w_X4_keeps _ hz20) q1397 q1399 qs62 q95 q1400 hdX4_keeps 0 rfl rfl pass_no ⟨rfl, rfl⟩ ⟨Nat.le_of_ble_eq_true rfl, Nat.le_of_ble_eq_true rfl⟩ ⟨Nat.le_refl 0, Nat.le_refl 0⟩ rfl rfl (Nat.le_of_ble_eq_true rfl) dX4_arrival_20 rfl ?_
      refine v_iconst (v := 0) 24 X dX4_arrival_23 rfl ki_0 ?_
      refine v_istore_n 25 [(3, .int 0), (0, .ref (a 0)), (1, .int v1), (2, .int v2)] X dX4_arrival_24 rfl rfl (by decide) rfl ?_
      obtain ⟨z25, hz25, hF⟩ := ob hF
      refine v_lv [1, 2, 3, 0] rfl (w_X4_arrival_25 X v1 v2 _ (0, now, fresh) _ hz25 ?_)
      refine v_aload_n 61 X 0 dX4_arrival_60 rfl rfl rfl ?_
      obtain ⟨z61, hz61, hF⟩ := ob hF
      refine v_mVv 64 X 0 [] (w_X4_returns _ hz61) q1401 q1403 qs63 q95 q1404 hdX4_returns 0 rfl rfl pass_no ⟨rfl, rfl⟩ ⟨Nat.le_of_ble_eq_true rfl, Nat.le_of_ble_eq_true rfl⟩ ⟨Nat.le_refl 0, Nat.le_refl 0⟩ rfl rfl (Nat.le_of_ble_eq_true rfl) dX4_arrival_61 rfl ?_
      refine v_iload_n 65 X 1 dX4_arrival_64 rfl rfl rfl ?_
      refine v_bipush (v := 60) 67 X dX4_arrival_65 rfl kb_60 ?_
      refine v_icmp_le 70 75 X dX4_arrival_67 rfl (by decide) (fun h67 => ?_) (fun h67 => ?_)
      · replace hF := ifp h67 hF
        refine v_iload_n 76 X 1 dX4_arrival_75 rfl rfl rfl ?_
        obtain rfl := Option.some.inj hF
        exact v_iret X hr ⟨rfl, rfl⟩ (Nat.zero_le _) (Nat.zero_le _) dX4_arrival_76
      · replace hF := ifn h67 hF
        refine v_bipush (v := (-9)) 72 X dX4_arrival_70 rfl kb_m9 ?_
        refine v_goto 76 X dX4_arrival_72 (by decide) ?_
        obtain rfl := Option.some.inj hF
        exact v_iret X hr ⟨rfl, rfl⟩ (Nat.zero_le _) (Nat.zero_le _) dX4_arrival_76
    · replace hF := ifp h14 hF
      refine v_iconst (v := (-1)) 18 X dX4_arrival_17 rfl ki_m1 ?_
      obtain rfl := Option.some.inj hF
      exact v_iret X hr ⟨rfl, rfl⟩ (Nat.zero_le _) (Nat.zero_le _) dX4_arrival_18
theorem w_X4_sizeOf_4 (X : CX p s m args meth c D A cX4_sizeOf 4 "DyeLatticeModel") (v1 : Int32) : ∀ (n : Nat) (x : Int32 × Int32) (o : (Int32)), loopN (fun x => M_sizeOf_4 v1 now clusterOf x.1 x.2) n x = some o → (V p l e rmX4_sizeOf s m args below meth c D A 4 Q (MW D a now past kept text queue isMet clusterOf fresh saved length met clusters frm ende wrong) 0 0 36 [(2, .int o)] []) → V p l e rmX4_sizeOf s m args below meth c D A 4 Q (MW D a now past kept text queue isMet clusterOf fresh saved length met clusters frm ende wrong) 0 0 4 [(0, .ref (a 0)), (1, .int v1), (2, .int x.1), (3, .int x.2)] [] := by
  refine v_loop (fun (x : Int32 × Int32) => V p l e rmX4_sizeOf s m args below meth c D A 4 Q (MW D a now past kept text queue isMet clusterOf fresh saved length met clusters frm ende wrong) 0 0 4 [(0, .ref (a 0)), (1, .int v1), (2, .int x.1), (3, .int x.2)] []) (fun (o : (Int32)) => V p l e rmX4_sizeOf s m args below meth c D A 4 Q (MW D a now past kept text queue isMet clusterOf fresh saved length met clusters frm ende wrong) 0 0 36 [(2, .int o)] []) ?_
  rintro ⟨v2, v3⟩ r hF hI hO
  replace hF : M_sizeOf_4 v1 now clusterOf v2 v3 = some r := hF
  show V p l e rmX4_sizeOf s m args below meth c D A 4 Q (MW D a now past kept text queue isMet clusterOf fresh saved length met clusters frm ende wrong) 0 0 4 [(0, .ref (a 0)), (1, .int v1), (2, .int v2), (3, .int v3)] []
  unfold M_sizeOf_4 at hF
  refine v_iload_n 5 X 3 dX4_sizeOf_4 rfl rfl rfl ?_
  refine v_aload_n 6 X 0 dX4_sizeOf_5 rfl rfl rfl ?_
  obtain ⟨z6, hz6, hF⟩ := ob hF
  refine v_mVi 9 X 0 [] (w_X4_cells _ hz6) q1233 q1235 qs38 q95 q1236 hdX4_cells 0 rfl rfl pass_no ⟨rfl, rfl⟩ ⟨Nat.le_of_ble_eq_true rfl, Nat.le_of_ble_eq_true rfl⟩ ⟨Nat.le_refl 0, Nat.le_refl 0⟩ rfl rfl (Nat.le_of_ble_eq_true rfl) dX4_sizeOf_6 rfl ?_
  refine v_icmp_ge 12 36 X dX4_sizeOf_9 rfl (by decide) (fun h9 => ?_) (fun h9 => ?_)
  · replace hF := ifp h9 hF
    obtain rfl := Option.some.inj hF
    exact v_lv [2] rfl (hO _ rfl)
  · replace hF := ifn h9 hF
    refine v_iload_n 13 X 2 dX4_sizeOf_12 rfl rfl rfl ?_
    refine v_aload_n 14 X 0 dX4_sizeOf_13 rfl rfl rfl ?_
    refine v_get 17 X in_X4 0 9 rfl rfl (by decide) q1181 rfl rfl dX4_sizeOf_14 rfl ?_
    refine v_iload_n 18 X 3 dX4_sizeOf_17 rfl rfl rfl ?_
    obtain ⟨z18, hz18, hF⟩ := ob hF
    refine v_iald 19 X 7 hz18 rfl dX4_sizeOf_18 rfl ?_
    refine v_iload_n 20 X 1 dX4_sizeOf_19 rfl rfl rfl ?_
    refine v_icmp_ne 23 27 X dX4_sizeOf_20 rfl (by decide) (fun h20 => ?_) (fun h20 => ?_)
    · replace hF := ifn h20 hF
      refine v_iconst (v := 0) 28 X dX4_sizeOf_27 rfl ki_0 ?_
      refine v_iadd 29 X dX4_sizeOf_28 rfl ?_
      refine v_istore_n 30 [(2, .int (v2 + 0)), (0, .ref (a 0)), (1, .int v1), (3, .int v3)] X dX4_sizeOf_29 rfl rfl (by decide) rfl ?_
      refine v_iinc (v := (v3 + 1)) 33 [(3, .int (v3 + 1)), (2, .int (v2 + 0)), (0, .ref (a 0)), (1, .int v1)] X 3 dX4_sizeOf_30 rfl rfl (by rfl) (by decide) rfl ?_
      refine v_goto 4 X dX4_sizeOf_33 (by decide) ?_
      obtain rfl := Option.some.inj hF
      exact v_lv [2, 3, 1, 0] rfl (hI _ rfl)
    · replace hF := ifp h20 hF
      refine v_iconst (v := 1) 24 X dX4_sizeOf_23 rfl ki_1 ?_
      refine v_goto 28 X dX4_sizeOf_24 (by decide) ?_
      refine v_iadd 29 X dX4_sizeOf_28 rfl ?_
      refine v_istore_n 30 [(2, .int (v2 + 1)), (0, .ref (a 0)), (1, .int v1), (3, .int v3)] X dX4_sizeOf_29 rfl rfl (by decide) rfl ?_
      refine v_iinc (v := (v3 + 1)) 33 [(3, .int (v3 + 1)), (2, .int (v2 + 1)), (0, .ref (a 0)), (1, .int v1)] X 3 dX4_sizeOf_30 rfl rfl (by rfl) (by decide) rfl ?_
      refine v_goto 4 X dX4_sizeOf_33 (by decide) ?_
      obtain rfl := Option.some.inj hF
      exact v_lv [2, 3, 1, 0] rfl (hI _ rfl)
theorem w_X4_sizeOf (v1 : Int32) (r : Int32) (hF : M_sizeOf now clusterOf v1 = some r) : CTi l yX4_sizeOf cX4_sizeOf 4 (Option.some Jvm.ClassFile.FieldType.int) rmX4_sizeOf D (MW D a now past kept text queue isMet clusterOf fresh saved length met clusters frm ende wrong) [.ref (a 0), .int v1] NoX (fun r1 u => r1 = r ∧ u = (MW D a now past kept text queue isMet clusterOf fresh saved length met clusters frm ende wrong)) := by
  refine m_i (by decide) (Nat.le_of_ble_eq_true rfl) ?_
  intro p e s m args below meth c A B
  obtain ⟨X, hr, -, -, -, -⟩ := B
  replace X : CX p s m args meth c D A cX4_sizeOf 4 "DyeLatticeModel" := X
  refine v_lv (lv' := [(0, .ref (a 0)), (1, .int v1)]) [0, 1] rfl ?_
  unfold M_sizeOf at hF
  refine v_iconst (v := 0) 1 X dX4_sizeOf_0 rfl ki_0 ?_
  refine v_istore_n 2 [(2, .int 0), (0, .ref (a 0)), (1, .int v1)] X dX4_sizeOf_1 rfl rfl (by decide) rfl ?_
  refine v_iconst (v := 0) 3 X dX4_sizeOf_2 rfl ki_0 ?_
  refine v_istore_n 4 [(3, .int 0), (2, .int 0), (0, .ref (a 0)), (1, .int v1)] X dX4_sizeOf_3 rfl rfl (by decide) rfl ?_
  obtain ⟨z4, hz4, hF⟩ := ob hF
  refine v_lv [2, 3, 1, 0] rfl (w_X4_sizeOf_4 X v1 _ (0, 0) _ hz4 ?_)
  refine v_iload_n 37 X 0 dX4_sizeOf_36 rfl rfl rfl ?_
  obtain rfl := Option.some.inj hF
  exact v_iret X hr ⟨rfl, rfl⟩ (Nat.zero_le _) (Nat.zero_le _) dX4_sizeOf_37
theorem w_X4_grainsOf_4 (X : CX p s m args meth c D A cX4_grainsOf 4 "DyeLatticeModel") (v1 : Int32) : ∀ (n : Nat) (x : Int32 × Int32) (o : (Int32)), loopN (fun x => M_grainsOf_4 v1 now clusterOf x.1 x.2) n x = some o → (V p l e rmX4_grainsOf s m args below meth c D A 4 Q (MW D a now past kept text queue isMet clusterOf fresh saved length met clusters frm ende wrong) 0 0 44 [(2, .int o)] []) → V p l e rmX4_grainsOf s m args below meth c D A 4 Q (MW D a now past kept text queue isMet clusterOf fresh saved length met clusters frm ende wrong) 0 0 4 [(0, .ref (a 0)), (1, .int v1), (2, .int x.1), (3, .int x.2)] [] := by
  refine v_loop (fun (x : Int32 × Int32) => V p l e rmX4_grainsOf s m args below meth c D A 4 Q (MW D a now past kept text queue isMet clusterOf fresh saved length met clusters frm ende wrong) 0 0 4 [(0, .ref (a 0)), (1, .int v1), (2, .int x.1), (3, .int x.2)] []) (fun (o : (Int32)) => V p l e rmX4_grainsOf s m args below meth c D A 4 Q (MW D a now past kept text queue isMet clusterOf fresh saved length met clusters frm ende wrong) 0 0 44 [(2, .int o)] []) ?_
  rintro ⟨v2, v3⟩ r hF hI hO
  replace hF : M_grainsOf_4 v1 now clusterOf v2 v3 = some r := hF
  show V p l e rmX4_grainsOf s m args below meth c D A 4 Q (MW D a now past kept text queue isMet clusterOf fresh saved length met clusters frm ende wrong) 0 0 4 [(0, .ref (a 0)), (1, .int v1), (2, .int v2), (3, .int v3)] []
  unfold M_grainsOf_4 at hF
  refine v_iload_n 5 X 3 dX4_grainsOf_4 rfl rfl rfl ?_
  refine v_aload_n 6 X 0 dX4_grainsOf_5 rfl rfl rfl ?_
  obtain ⟨z6, hz6, hF⟩ := ob hF
  refine v_mVi 9 X 0 [] (w_X4_cells _ hz6) q1233 q1235 qs38 q95 q1236 hdX4_cells 0 rfl rfl pass_no ⟨rfl, rfl⟩ ⟨Nat.le_of_ble_eq_true rfl, Nat.le_of_ble_eq_true rfl⟩ ⟨Nat.le_refl 0, Nat.le_refl 0⟩ rfl rfl (Nat.le_of_ble_eq_true rfl) dX4_grainsOf_6 rfl ?_
  refine v_icmp_ge 12 44 X dX4_grainsOf_9 rfl (by decide) (fun h9 => ?_) (fun h9 => ?_)
  · replace hF := ifp h9 hF
    obtain rfl := Option.some.inj hF
    exact v_lv [2] rfl (hO _ rfl)
  · replace hF := ifn h9 hF
    refine v_iload_n 13 X 2 dX4_grainsOf_12 rfl rfl rfl ?_
    refine v_aload_n 14 X 0 dX4_grainsOf_13 rfl rfl rfl ?_
    refine v_get 17 X in_X4 0 9 rfl rfl (by decide) q1181 rfl rfl dX4_grainsOf_14 rfl ?_
    refine v_iload_n 18 X 3 dX4_grainsOf_17 rfl rfl rfl ?_
    obtain ⟨z18, hz18, hF⟩ := ob hF
    refine v_iald 19 X 7 hz18 rfl dX4_grainsOf_18 rfl ?_
    refine v_iload_n 20 X 1 dX4_grainsOf_19 rfl rfl rfl ?_
    refine v_icmp_ne 23 35 X dX4_grainsOf_20 rfl (by decide) (fun h20 => ?_) (fun h20 => ?_)
    · replace hF := ifn h20 hF
      refine v_iconst (v := 0) 36 X dX4_grainsOf_35 rfl ki_0 ?_
      refine v_iadd 37 X dX4_grainsOf_36 rfl ?_
      refine v_istore_n 38 [(2, .int (v2 + 0)), (0, .ref (a 0)), (1, .int v1), (3, .int v3)] X dX4_grainsOf_37 rfl rfl (by decide) rfl ?_
      refine v_iinc (v := (v3 + 1)) 41 [(3, .int (v3 + 1)), (2, .int (v2 + 0)), (0, .ref (a 0)), (1, .int v1)] X 3 dX4_grainsOf_38 rfl rfl (by rfl) (by decide) rfl ?_
      refine v_goto 4 X dX4_grainsOf_41 (by decide) ?_
      obtain rfl := Option.some.inj hF
      exact v_lv [2, 3, 1, 0] rfl (hI _ rfl)
    · replace hF := ifp h20 hF
      refine v_aload_n 24 X 0 dX4_grainsOf_23 rfl rfl rfl ?_
      refine v_get 27 X in_X4 0 0 rfl rfl (by decide) q1172 rfl rfl dX4_grainsOf_24 rfl ?_
      refine v_bipush (v := 7) 29 X dX4_grainsOf_27 rfl kb_7 ?_
      refine v_iload_n 30 X 3 dX4_grainsOf_29 rfl rfl rfl ?_
      refine v_iadd 31 X dX4_grainsOf_30 rfl ?_
      obtain ⟨z31, hz31, hF⟩ := ob hF
      refine v_iald 32 X 1 hz31 rfl dX4_grainsOf_31 rfl ?_
      refine v_goto 36 X dX4_grainsOf_32 (by decide) ?_
      refine v_iadd 37 X dX4_grainsOf_36 rfl ?_
      refine v_istore_n 38 [(2, .int (v2 + z31)), (0, .ref (a 0)), (1, .int v1), (3, .int v3)] X dX4_grainsOf_37 rfl rfl (by decide) rfl ?_
      refine v_iinc (v := (v3 + 1)) 41 [(3, .int (v3 + 1)), (2, .int (v2 + z31)), (0, .ref (a 0)), (1, .int v1)] X 3 dX4_grainsOf_38 rfl rfl (by rfl) (by decide) rfl ?_
      refine v_goto 4 X dX4_grainsOf_41 (by decide) ?_
      obtain rfl := Option.some.inj hF
      exact v_lv [2, 3, 1, 0] rfl (hI _ rfl)
theorem w_X4_grainsOf (v1 : Int32) (r : Int32) (hF : M_grainsOf now clusterOf v1 = some r) : CTi l yX4_grainsOf cX4_grainsOf 4 (Option.some Jvm.ClassFile.FieldType.int) rmX4_grainsOf D (MW D a now past kept text queue isMet clusterOf fresh saved length met clusters frm ende wrong) [.ref (a 0), .int v1] NoX (fun r1 u => r1 = r ∧ u = (MW D a now past kept text queue isMet clusterOf fresh saved length met clusters frm ende wrong)) := by
  refine m_i (by decide) (Nat.le_of_ble_eq_true rfl) ?_
  intro p e s m args below meth c A B
  obtain ⟨X, hr, -, -, -, -⟩ := B
  replace X : CX p s m args meth c D A cX4_grainsOf 4 "DyeLatticeModel" := X
  refine v_lv (lv' := [(0, .ref (a 0)), (1, .int v1)]) [0, 1] rfl ?_
  unfold M_grainsOf at hF
  refine v_iconst (v := 0) 1 X dX4_grainsOf_0 rfl ki_0 ?_
  refine v_istore_n 2 [(2, .int 0), (0, .ref (a 0)), (1, .int v1)] X dX4_grainsOf_1 rfl rfl (by decide) rfl ?_
  refine v_iconst (v := 0) 3 X dX4_grainsOf_2 rfl ki_0 ?_
  refine v_istore_n 4 [(3, .int 0), (2, .int 0), (0, .ref (a 0)), (1, .int v1)] X dX4_grainsOf_3 rfl rfl (by decide) rfl ?_
  obtain ⟨z4, hz4, hF⟩ := ob hF
  refine v_lv [2, 3, 1, 0] rfl (w_X4_grainsOf_4 X v1 _ (0, 0) _ hz4 ?_)
  refine v_iload_n 45 X 0 dX4_grainsOf_44 rfl rfl rfl ?_
  obtain rfl := Option.some.inj hF
  exact v_iret X hr ⟨rfl, rfl⟩ (Nat.zero_le _) (Nat.zero_le _) dX4_grainsOf_45
theorem w_X4_sidesOf_4_j73 (X : CX p s m args meth c D A cX4_sidesOf 4 "DyeLatticeModel") (v1 : Int32) (v3 : Int32) (s0 : Int32) (s1 : Int32) (s2 : Int32) {r : (Int32 × Int32) ⊕ (Int32)} (hI : ∀ y, r = .inl y → V p l e rmX4_sidesOf s m args below meth c D A 4 Q (MW D a now past kept text queue isMet clusterOf fresh saved length met clusters frm ende wrong) 0 0 4 [(0, .ref (a 0)), (1, .int v1), (2, .int y.1), (3, .int y.2)] []) (hO : ∀ y, r = .inr y → (V p l e rmX4_sidesOf s m args below meth c D A 4 Q (MW D a now past kept text queue isMet clusterOf fresh saved length met clusters frm ende wrong) 0 0 108 [(2, .int y)] [])) (hF : M_sidesOf_4_j73 now clusterOf v1 v3 s0 s1 s2 = some r) : V p l e rmX4_sidesOf s m args below meth c D A 4 Q (MW D a now past kept text queue isMet clusterOf fresh saved length met clusters frm ende wrong) 0 0 73 [(0, .ref (a 0)), (1, .int v1), (3, .int v3)] [.int s2, .int s1, .int s0] := by
  unfold M_sidesOf_4_j73 at hF
  refine v_ior 74 X dX4_sidesOf_73 rfl ?_
  refine v_iload_n 75 X 2 dX4_sidesOf_74 rfl rfl rfl ?_
  refine v_aload_n 76 X 0 dX4_sidesOf_75 rfl rfl rfl ?_
  refine v_get 79 X in_X4 0 0 rfl rfl (by decide) q1172 rfl rfl dX4_sidesOf_76 rfl ?_
  refine v_iconst (v := 0) 80 X dX4_sidesOf_79 rfl ki_0 ?_
  obtain ⟨z80, hz80, hF⟩ := ob hF
  refine v_iald 81 X 1 hz80 rfl dX4_sidesOf_80 rfl ?_
  obtain ⟨z81, hz81, hF⟩ := ob hF
  refine v_idiv 82 X hz81 dX4_sidesOf_81 rfl ?_
  refine v_aload_n 83 X 0 dX4_sidesOf_82 rfl rfl rfl ?_
  refine v_get 86 X in_X4 0 0 rfl rfl (by decide) q1172 rfl rfl dX4_sidesOf_83 rfl ?_
  refine v_iconst (v := 1) 87 X dX4_sidesOf_86 rfl ki_1 ?_
  obtain ⟨z87, hz87, hF⟩ := ob hF
  refine v_iald 88 X 1 hz87 rfl dX4_sidesOf_87 rfl ?_
  refine v_iconst (v := 1) 89 X dX4_sidesOf_88 rfl ki_1 ?_
  refine v_isub 90 X dX4_sidesOf_89 rfl ?_
  refine v_icmp_ne 93 98 X dX4_sidesOf_90 rfl (by decide) (fun h90 => ?_) (fun h90 => ?_)
  · replace hF := ifn h90 hF
    refine v_iconst (v := 0) 99 X dX4_sidesOf_98 rfl ki_0 ?_
    refine v_ior 100 X dX4_sidesOf_99 rfl ?_
    refine v_ior 101 X dX4_sidesOf_100 rfl ?_
    refine v_istore_n 102 [(2, .int (s0 ||| ((s1 ||| s2) ||| 0))), (0, .ref (a 0)), (1, .int v1), (3, .int v3)] X dX4_sidesOf_101 rfl rfl (by decide) rfl ?_
    refine v_iinc (v := (v3 + 1)) 105 [(3, .int (v3 + 1)), (2, .int (s0 ||| ((s1 ||| s2) ||| 0))), (0, .ref (a 0)), (1, .int v1)] X 3 dX4_sidesOf_102 rfl rfl (by rfl) (by decide) rfl ?_
    refine v_goto 4 X dX4_sidesOf_105 (by decide) ?_
    obtain rfl := Option.some.inj hF
    exact v_lv [2, 3, 1, 0] rfl (hI _ rfl)
  · replace hF := ifp h90 hF
    refine v_bipush (v := 8) 95 X dX4_sidesOf_93 rfl kb_8 ?_
    refine v_goto 99 X dX4_sidesOf_95 (by decide) ?_
    refine v_ior 100 X dX4_sidesOf_99 rfl ?_
    refine v_ior 101 X dX4_sidesOf_100 rfl ?_
    refine v_istore_n 102 [(2, .int (s0 ||| ((s1 ||| s2) ||| 8))), (0, .ref (a 0)), (1, .int v1), (3, .int v3)] X dX4_sidesOf_101 rfl rfl (by decide) rfl ?_
    refine v_iinc (v := (v3 + 1)) 105 [(3, .int (v3 + 1)), (2, .int (s0 ||| ((s1 ||| s2) ||| 8))), (0, .ref (a 0)), (1, .int v1)] X 3 dX4_sidesOf_102 rfl rfl (by rfl) (by decide) rfl ?_
    refine v_goto 4 X dX4_sidesOf_105 (by decide) ?_
    obtain rfl := Option.some.inj hF
    exact v_lv [2, 3, 1, 0] rfl (hI _ rfl)
theorem w_X4_sidesOf_4_j36 (X : CX p s m args meth c D A cX4_sidesOf 4 "DyeLatticeModel") (v1 : Int32) (v3 : Int32) (s0 : Int32) (s1 : Int32) {r : (Int32 × Int32) ⊕ (Int32)} (hI : ∀ y, r = .inl y → V p l e rmX4_sidesOf s m args below meth c D A 4 Q (MW D a now past kept text queue isMet clusterOf fresh saved length met clusters frm ende wrong) 0 0 4 [(0, .ref (a 0)), (1, .int v1), (2, .int y.1), (3, .int y.2)] []) (hO : ∀ y, r = .inr y → (V p l e rmX4_sidesOf s m args below meth c D A 4 Q (MW D a now past kept text queue isMet clusterOf fresh saved length met clusters frm ende wrong) 0 0 108 [(2, .int y)] [])) (hF : M_sidesOf_4_j36 now clusterOf v1 v3 s0 s1 = some r) : V p l e rmX4_sidesOf s m args below meth c D A 4 Q (MW D a now past kept text queue isMet clusterOf fresh saved length met clusters frm ende wrong) 0 0 36 [(0, .ref (a 0)), (1, .int v1), (3, .int v3)] [.int s1, .int s0] := by
  unfold M_sidesOf_4_j36 at hF
  refine v_aload_n 37 X 0 dX4_sidesOf_36 rfl rfl rfl ?_
  refine v_iload_n 38 X 2 dX4_sidesOf_37 rfl rfl rfl ?_
  obtain ⟨z38, hz38, hF⟩ := ob hF
  refine v_mVi 41 X 1 [.int v3] (w_X4_column v3 _ hz38) q1257 q1259 qs43 q95 q1260 hdX4_column 0 rfl rfl pass_no ⟨rfl, rfl⟩ ⟨Nat.le_of_ble_eq_true rfl, Nat.le_of_ble_eq_true rfl⟩ ⟨Nat.le_refl 0, Nat.le_refl 0⟩ rfl rfl (Nat.le_of_ble_eq_true rfl) dX4_sidesOf_38 rfl ?_
  refine v_aload_n 42 X 0 dX4_sidesOf_41 rfl rfl rfl ?_
  refine v_get 45 X in_X4 0 0 rfl rfl (by decide) q1172 rfl rfl dX4_sidesOf_42 rfl ?_
  refine v_iconst (v := 0) 46 X dX4_sidesOf_45 rfl ki_0 ?_
  obtain ⟨z46, hz46, hF⟩ := ob hF
  refine v_iald 47 X 1 hz46 rfl dX4_sidesOf_46 rfl ?_
  refine v_iconst (v := 1) 48 X dX4_sidesOf_47 rfl ki_1 ?_
  refine v_isub 49 X dX4_sidesOf_48 rfl ?_
  refine v_icmp_ne 52 56 X dX4_sidesOf_49 rfl (by decide) (fun h49 => ?_) (fun h49 => ?_)
  · replace hF := ifn h49 hF
    refine v_iconst (v := 0) 57 X dX4_sidesOf_56 rfl ki_0 ?_
    refine v_ior 58 X dX4_sidesOf_57 rfl ?_
    refine v_iload_n 59 X 2 dX4_sidesOf_58 rfl rfl rfl ?_
    refine v_aload_n 60 X 0 dX4_sidesOf_59 rfl rfl rfl ?_
    refine v_get 63 X in_X4 0 0 rfl rfl (by decide) q1172 rfl rfl dX4_sidesOf_60 rfl ?_
    refine v_iconst (v := 0) 64 X dX4_sidesOf_63 rfl ki_0 ?_
    obtain ⟨z64, hz64, hF⟩ := ob hF
    refine v_iald 65 X 1 hz64 rfl dX4_sidesOf_64 rfl ?_
    refine v_icmp_ge 68 72 X dX4_sidesOf_65 rfl (by decide) (fun h65 => ?_) (fun h65 => ?_)
    · replace hF := ifp h65 hF
      refine v_iconst (v := 0) 73 X dX4_sidesOf_72 rfl ki_0 ?_
      exact v_lv [0, 1, 2] rfl (w_X4_sidesOf_4_j73 X v1 v3 s0 (s1 ||| 0) 0 hI hO hF)
    · replace hF := ifn h65 hF
      refine v_iconst (v := 4) 69 X dX4_sidesOf_68 rfl ki_4 ?_
      refine v_goto 73 X dX4_sidesOf_69 (by decide) ?_
      exact v_lv [0, 1, 2] rfl (w_X4_sidesOf_4_j73 X v1 v3 s0 (s1 ||| 0) 4 hI hO hF)
  · replace hF := ifp h49 hF
    refine v_iconst (v := 2) 53 X dX4_sidesOf_52 rfl ki_2 ?_
    refine v_goto 57 X dX4_sidesOf_53 (by decide) ?_
    refine v_ior 58 X dX4_sidesOf_57 rfl ?_
    refine v_iload_n 59 X 2 dX4_sidesOf_58 rfl rfl rfl ?_
    refine v_aload_n 60 X 0 dX4_sidesOf_59 rfl rfl rfl ?_
    refine v_get 63 X in_X4 0 0 rfl rfl (by decide) q1172 rfl rfl dX4_sidesOf_60 rfl ?_
    refine v_iconst (v := 0) 64 X dX4_sidesOf_63 rfl ki_0 ?_
    obtain ⟨z64, hz64, hF⟩ := ob hF
    refine v_iald 65 X 1 hz64 rfl dX4_sidesOf_64 rfl ?_
    refine v_icmp_ge 68 72 X dX4_sidesOf_65 rfl (by decide) (fun h65 => ?_) (fun h65 => ?_)
    · replace hF := ifp h65 hF
      refine v_iconst (v := 0) 73 X dX4_sidesOf_72 rfl ki_0 ?_
      exact v_lv [0, 1, 2] rfl (w_X4_sidesOf_4_j73 X v1 v3 s0 (s1 ||| 2) 0 hI hO hF)
    · replace hF := ifn h65 hF
      refine v_iconst (v := 4) 69 X dX4_sidesOf_68 rfl ki_4 ?_
      refine v_goto 73 X dX4_sidesOf_69 (by decide) ?_
      exact v_lv [0, 1, 2] rfl (w_X4_sidesOf_4_j73 X v1 v3 s0 (s1 ||| 2) 4 hI hO hF)
theorem w_X4_sidesOf_4 (X : CX p s m args meth c D A cX4_sidesOf 4 "DyeLatticeModel") (v1 : Int32) : ∀ (n : Nat) (x : Int32 × Int32) (o : (Int32)), loopN (fun x => M_sidesOf_4 v1 now clusterOf x.1 x.2) n x = some o → (V p l e rmX4_sidesOf s m args below meth c D A 4 Q (MW D a now past kept text queue isMet clusterOf fresh saved length met clusters frm ende wrong) 0 0 108 [(2, .int o)] []) → V p l e rmX4_sidesOf s m args below meth c D A 4 Q (MW D a now past kept text queue isMet clusterOf fresh saved length met clusters frm ende wrong) 0 0 4 [(0, .ref (a 0)), (1, .int v1), (2, .int x.1), (3, .int x.2)] [] := by
  refine v_loop (fun (x : Int32 × Int32) => V p l e rmX4_sidesOf s m args below meth c D A 4 Q (MW D a now past kept text queue isMet clusterOf fresh saved length met clusters frm ende wrong) 0 0 4 [(0, .ref (a 0)), (1, .int v1), (2, .int x.1), (3, .int x.2)] []) (fun (o : (Int32)) => V p l e rmX4_sidesOf s m args below meth c D A 4 Q (MW D a now past kept text queue isMet clusterOf fresh saved length met clusters frm ende wrong) 0 0 108 [(2, .int o)] []) ?_
  rintro ⟨v2, v3⟩ r hF hI hO
  replace hF : M_sidesOf_4 v1 now clusterOf v2 v3 = some r := hF
  show V p l e rmX4_sidesOf s m args below meth c D A 4 Q (MW D a now past kept text queue isMet clusterOf fresh saved length met clusters frm ende wrong) 0 0 4 [(0, .ref (a 0)), (1, .int v1), (2, .int v2), (3, .int v3)] []
  unfold M_sidesOf_4 at hF
  refine v_iload_n 5 X 3 dX4_sidesOf_4 rfl rfl rfl ?_
  refine v_aload_n 6 X 0 dX4_sidesOf_5 rfl rfl rfl ?_
  obtain ⟨z6, hz6, hF⟩ := ob hF
  refine v_mVi 9 X 0 [] (w_X4_cells _ hz6) q1233 q1235 qs38 q95 q1236 hdX4_cells 0 rfl rfl pass_no ⟨rfl, rfl⟩ ⟨Nat.le_of_ble_eq_true rfl, Nat.le_of_ble_eq_true rfl⟩ ⟨Nat.le_refl 0, Nat.le_refl 0⟩ rfl rfl (Nat.le_of_ble_eq_true rfl) dX4_sidesOf_6 rfl ?_
  refine v_icmp_ge 12 108 X dX4_sidesOf_9 rfl (by decide) (fun h9 => ?_) (fun h9 => ?_)
  · replace hF := ifp h9 hF
    obtain rfl := Option.some.inj hF
    exact v_lv [2] rfl (hO _ rfl)
  · replace hF := ifn h9 hF
    refine v_aload_n 13 X 0 dX4_sidesOf_12 rfl rfl rfl ?_
    refine v_get 16 X in_X4 0 9 rfl rfl (by decide) q1181 rfl rfl dX4_sidesOf_13 rfl ?_
    refine v_iload_n 17 X 3 dX4_sidesOf_16 rfl rfl rfl ?_
    obtain ⟨z17, hz17, hF⟩ := ob hF
    refine v_iald 18 X 7 hz17 rfl dX4_sidesOf_17 rfl ?_
    refine v_iload_n 19 X 1 dX4_sidesOf_18 rfl rfl rfl ?_
    refine v_icmp_ne 22 102 X dX4_sidesOf_19 rfl (by decide) (fun h19 => ?_) (fun h19 => ?_)
    · replace hF := ifn h19 hF
      refine v_iinc (v := (v3 + 1)) 105 [(3, .int (v3 + 1)), (0, .ref (a 0)), (1, .int v1), (2, .int v2)] X 3 dX4_sidesOf_102 rfl rfl (by rfl) (by decide) rfl ?_
      refine v_goto 4 X dX4_sidesOf_105 (by decide) ?_
      obtain rfl := Option.some.inj hF
      exact v_lv [1, 2, 3, 0] rfl (hI _ rfl)
    · replace hF := ifp h19 hF
      refine v_iload_n 23 X 2 dX4_sidesOf_22 rfl rfl rfl ?_
      refine v_aload_n 24 X 0 dX4_sidesOf_23 rfl rfl rfl ?_
      refine v_iload_n 25 X 3 dX4_sidesOf_24 rfl rfl rfl ?_
      obtain ⟨z25, hz25, hF⟩ := ob hF
      refine v_mVi 28 X 1 [.int v3] (w_X4_column v3 _ hz25) q1257 q1259 qs43 q95 q1260 hdX4_column 0 rfl rfl pass_no ⟨rfl, rfl⟩ ⟨Nat.le_of_ble_eq_true rfl, Nat.le_of_ble_eq_true rfl⟩ ⟨Nat.le_refl 0, Nat.le_refl 0⟩ rfl rfl (Nat.le_of_ble_eq_true rfl) dX4_sidesOf_25 rfl ?_
      refine v_if_ne 31 35 X dX4_sidesOf_28 rfl (by decide) (fun h28 => ?_) (fun h28 => ?_)
      · replace hF := ifn h28 hF
        refine v_iconst (v := 0) 36 X dX4_sidesOf_35 rfl ki_0 ?_
        exact v_lv [0, 1, 3] rfl (w_X4_sidesOf_4_j36 X v1 v3 v2 0 hI hO hF)
      · replace hF := ifp h28 hF
        refine v_iconst (v := 1) 32 X dX4_sidesOf_31 rfl ki_1 ?_
        refine v_goto 36 X dX4_sidesOf_32 (by decide) ?_
        exact v_lv [0, 1, 3] rfl (w_X4_sidesOf_4_j36 X v1 v3 v2 1 hI hO hF)
theorem w_X4_sidesOf (v1 : Int32) (r : Int32) (hF : M_sidesOf now clusterOf v1 = some r) : CTi l yX4_sidesOf cX4_sidesOf 4 (Option.some Jvm.ClassFile.FieldType.int) rmX4_sidesOf D (MW D a now past kept text queue isMet clusterOf fresh saved length met clusters frm ende wrong) [.ref (a 0), .int v1] NoX (fun r1 u => r1 = r ∧ u = (MW D a now past kept text queue isMet clusterOf fresh saved length met clusters frm ende wrong)) := by
  refine m_i (by decide) (Nat.le_of_ble_eq_true rfl) ?_
  intro p e s m args below meth c A B
  obtain ⟨X, hr, -, -, -, -⟩ := B
  replace X : CX p s m args meth c D A cX4_sidesOf 4 "DyeLatticeModel" := X
  refine v_lv (lv' := [(0, .ref (a 0)), (1, .int v1)]) [0, 1] rfl ?_
  unfold M_sidesOf at hF
  refine v_iconst (v := 0) 1 X dX4_sidesOf_0 rfl ki_0 ?_
  refine v_istore_n 2 [(2, .int 0), (0, .ref (a 0)), (1, .int v1)] X dX4_sidesOf_1 rfl rfl (by decide) rfl ?_
  refine v_iconst (v := 0) 3 X dX4_sidesOf_2 rfl ki_0 ?_
  refine v_istore_n 4 [(3, .int 0), (2, .int 0), (0, .ref (a 0)), (1, .int v1)] X dX4_sidesOf_3 rfl rfl (by decide) rfl ?_
  obtain ⟨z4, hz4, hF⟩ := ob hF
  refine v_lv [2, 3, 1, 0] rfl (w_X4_sidesOf_4 X v1 _ (0, 0) _ hz4 ?_)
  refine v_iload_n 109 X 0 dX4_sidesOf_108 rfl rfl rfl ?_
  obtain rfl := Option.some.inj hF
  exact v_iret X hr ⟨rfl, rfl⟩ (Nat.zero_le _) (Nat.zero_le _) dX4_sidesOf_109
theorem w_X4_bondsOf_17_j77 (X : CX p s m args meth c D A cX4_bondsOf 8 "DyeLatticeModel") (v1 : Int32) (v2 : Int32) (v3 : Int32) (v4 : Int32) (v5 : Int32) (s0 : Int32) {r : (Int32 × Int32) ⊕ (Int32)} (hI : ∀ y, r = .inl y → V p l e rmX4_bondsOf s m args below meth c D A 8 Q (MW D a now past kept text queue isMet clusterOf fresh saved length met clusters frm ende wrong) 0 0 17 [(0, .ref (a 0)), (1, .int v1), (2, .int v2), (3, .int y.1), (4, .int v4), (5, .int y.2)] []) (hO : ∀ y, r = .inr y → (V p l e rmX4_bondsOf s m args below meth c D A 8 Q (MW D a now past kept text queue isMet clusterOf fresh saved length met clusters frm ende wrong) 0 0 116 [(0, .ref (a 0)), (1, .int v1), (2, .int v2), (3, .int y), (4, .int v4)] [])) (hF : M_bondsOf_17_j77 now clusterOf v1 v2 v3 v4 v5 s0 = some r) : V p l e rmX4_bondsOf s m args below meth c D A 8 Q (MW D a now past kept text queue isMet clusterOf fresh saved length met clusters frm ende wrong) 0 0 77 [(0, .ref (a 0)), (1, .int v1), (2, .int v2), (3, .int v3), (4, .int v4), (5, .int v5)] [.int s0] := by
  unfold M_bondsOf_17_j77 at hF
  refine v_istore 79 [(7, .int s0), (0, .ref (a 0)), (1, .int v1), (2, .int v2), (3, .int v3), (4, .int v4), (5, .int v5)] X dX4_bondsOf_77 rfl (by decide) rfl ?_
  refine v_iload_n 80 X 4 dX4_bondsOf_79 rfl rfl rfl ?_
  refine v_iload 82 X 0 dX4_bondsOf_80 rfl rfl ?_
  refine v_iload_n 83 X 3 dX4_bondsOf_82 rfl rfl rfl ?_
  refine v_icmp_ne 86 107 X dX4_bondsOf_83 rfl (by decide) (fun h83 => ?_) (fun h83 => ?_)
  · replace hF := ifn h83 hF
    refine v_iconst (v := 0) 108 X dX4_bondsOf_107 rfl ki_0 ?_
    refine v_iadd 109 X dX4_bondsOf_108 rfl ?_
    refine v_istore_n 110 [(3, .int (v3 + 0)), (7, .int s0), (0, .ref (a 0)), (1, .int v1), (2, .int v2), (4, .int v4), (5, .int v5)] X dX4_bondsOf_109 rfl rfl (by decide) rfl ?_
    refine v_iinc (v := (v5 + 1)) 113 [(5, .int (v5 + 1)), (3, .int (v3 + 0)), (7, .int s0), (0, .ref (a 0)), (1, .int v1), (2, .int v2), (4, .int v4)] X 6 dX4_bondsOf_110 rfl rfl (by rfl) (by decide) rfl ?_
    refine v_goto 17 X dX4_bondsOf_113 (by decide) ?_
    obtain rfl := Option.some.inj hF
    exact v_lv [3, 4, 5, 1, 6, 0] rfl (hI _ rfl)
  · replace hF := ifp h83 hF
    refine v_iload_n 87 X 3 dX4_bondsOf_86 rfl rfl rfl ?_
    refine v_iconst (v := 1) 88 X dX4_bondsOf_87 rfl ki_1 ?_
    refine v_icmp_eq 91 103 X dX4_bondsOf_88 rfl (by decide) (fun h88 => ?_) (fun h88 => ?_)
    · replace hF := ifp h88 hF
      refine v_iconst (v := 1) 104 X dX4_bondsOf_103 rfl ki_1 ?_
      refine v_goto 108 X dX4_bondsOf_104 (by decide) ?_
      refine v_iadd 109 X dX4_bondsOf_108 rfl ?_
      refine v_istore_n 110 [(3, .int (v3 + 1)), (7, .int s0), (0, .ref (a 0)), (1, .int v1), (2, .int v2), (4, .int v4), (5, .int v5)] X dX4_bondsOf_109 rfl rfl (by decide) rfl ?_
      refine v_iinc (v := (v5 + 1)) 113 [(5, .int (v5 + 1)), (3, .int (v3 + 1)), (7, .int s0), (0, .ref (a 0)), (1, .int v1), (2, .int v2), (4, .int v4)] X 6 dX4_bondsOf_110 rfl rfl (by rfl) (by decide) rfl ?_
      refine v_goto 17 X dX4_bondsOf_113 (by decide) ?_
      obtain rfl := Option.some.inj hF
      exact v_lv [3, 4, 5, 1, 6, 0] rfl (hI _ rfl)
    · replace hF := ifn h88 hF
      refine v_aload_n 92 X 1 dX4_bondsOf_91 rfl rfl rfl ?_
      refine v_iload 94 X 5 dX4_bondsOf_92 rfl rfl ?_
      refine v_iload 96 X 6 dX4_bondsOf_94 rfl rfl ?_
      obtain ⟨z96, hz96, hF⟩ := ob hF
      refine v_mVi 99 X 2 [.int v4, .int v5] (w_X4_valveOf v4 v5 _ hz96) q1286 q1288 qs47 q95 q1289 hdX4_valveOf 0 rfl rfl pass_no ⟨rfl, rfl⟩ ⟨Nat.le_of_ble_eq_true rfl, Nat.le_of_ble_eq_true rfl⟩ ⟨Nat.le_refl 0, Nat.le_refl 0⟩ rfl rfl (Nat.le_of_ble_eq_true rfl) dX4_bondsOf_96 rfl ?_
      refine v_iconst (v := 1) 100 X dX4_bondsOf_99 rfl ki_1 ?_
      refine v_icmp_eq 103 107 X dX4_bondsOf_100 rfl (by decide) (fun h100 => ?_) (fun h100 => ?_)
      · replace hF := ifp h100 hF
        refine v_iconst (v := 0) 108 X dX4_bondsOf_107 rfl ki_0 ?_
        refine v_iadd 109 X dX4_bondsOf_108 rfl ?_
        refine v_istore_n 110 [(3, .int (v3 + 0)), (7, .int s0), (0, .ref (a 0)), (1, .int v1), (2, .int v2), (4, .int v4), (5, .int v5)] X dX4_bondsOf_109 rfl rfl (by decide) rfl ?_
        refine v_iinc (v := (v5 + 1)) 113 [(5, .int (v5 + 1)), (3, .int (v3 + 0)), (7, .int s0), (0, .ref (a 0)), (1, .int v1), (2, .int v2), (4, .int v4)] X 6 dX4_bondsOf_110 rfl rfl (by rfl) (by decide) rfl ?_
        refine v_goto 17 X dX4_bondsOf_113 (by decide) ?_
        obtain rfl := Option.some.inj hF
        exact v_lv [3, 4, 5, 1, 6, 0] rfl (hI _ rfl)
      · replace hF := ifn h100 hF
        refine v_iconst (v := 1) 104 X dX4_bondsOf_103 rfl ki_1 ?_
        refine v_goto 108 X dX4_bondsOf_104 (by decide) ?_
        refine v_iadd 109 X dX4_bondsOf_108 rfl ?_
        refine v_istore_n 110 [(3, .int (v3 + 1)), (7, .int s0), (0, .ref (a 0)), (1, .int v1), (2, .int v2), (4, .int v4), (5, .int v5)] X dX4_bondsOf_109 rfl rfl (by decide) rfl ?_
        refine v_iinc (v := (v5 + 1)) 113 [(5, .int (v5 + 1)), (3, .int (v3 + 1)), (7, .int s0), (0, .ref (a 0)), (1, .int v1), (2, .int v2), (4, .int v4)] X 6 dX4_bondsOf_110 rfl rfl (by rfl) (by decide) rfl ?_
        refine v_goto 17 X dX4_bondsOf_113 (by decide) ?_
        obtain rfl := Option.some.inj hF
        exact v_lv [3, 4, 5, 1, 6, 0] rfl (hI _ rfl)
theorem w_X4_bondsOf_17 (X : CX p s m args meth c D A cX4_bondsOf 8 "DyeLatticeModel") (v1 : Int32) (v2 : Int32) (v4 : Int32) : ∀ (n : Nat) (x : Int32 × Int32) (o : (Int32)), loopN (fun x => M_bondsOf_17 v1 v2 v4 now clusterOf x.1 x.2) n x = some o → (V p l e rmX4_bondsOf s m args below meth c D A 8 Q (MW D a now past kept text queue isMet clusterOf fresh saved length met clusters frm ende wrong) 0 0 116 [(0, .ref (a 0)), (1, .int v1), (2, .int v2), (3, .int o), (4, .int v4)] []) → V p l e rmX4_bondsOf s m args below meth c D A 8 Q (MW D a now past kept text queue isMet clusterOf fresh saved length met clusters frm ende wrong) 0 0 17 [(0, .ref (a 0)), (1, .int v1), (2, .int v2), (3, .int x.1), (4, .int v4), (5, .int x.2)] [] := by
  refine v_loop (fun (x : Int32 × Int32) => V p l e rmX4_bondsOf s m args below meth c D A 8 Q (MW D a now past kept text queue isMet clusterOf fresh saved length met clusters frm ende wrong) 0 0 17 [(0, .ref (a 0)), (1, .int v1), (2, .int v2), (3, .int x.1), (4, .int v4), (5, .int x.2)] []) (fun (o : (Int32)) => V p l e rmX4_bondsOf s m args below meth c D A 8 Q (MW D a now past kept text queue isMet clusterOf fresh saved length met clusters frm ende wrong) 0 0 116 [(0, .ref (a 0)), (1, .int v1), (2, .int v2), (3, .int o), (4, .int v4)] []) ?_
  rintro ⟨v3, v5⟩ r hF hI hO
  replace hF : M_bondsOf_17 v1 v2 v4 now clusterOf v3 v5 = some r := hF
  show V p l e rmX4_bondsOf s m args below meth c D A 8 Q (MW D a now past kept text queue isMet clusterOf fresh saved length met clusters frm ende wrong) 0 0 17 [(0, .ref (a 0)), (1, .int v1), (2, .int v2), (3, .int v3), (4, .int v4), (5, .int v5)] []
  unfold M_bondsOf_17 at hF
  refine v_iload 19 X 5 dX4_bondsOf_17 rfl rfl ?_
  refine v_iconst (v := 4) 20 X dX4_bondsOf_19 rfl ki_4 ?_
  refine v_icmp_ge 23 116 X dX4_bondsOf_20 rfl (by decide) (fun h20 => ?_) (fun h20 => ?_)
  · replace hF := ifp h20 hF
    obtain rfl := Option.some.inj hF
    exact v_lv [0, 1, 2, 3, 4] rfl (hO _ rfl)
  · replace hF := ifn h20 hF
    refine v_aload_n 24 X 0 dX4_bondsOf_23 rfl rfl rfl ?_
    refine v_iload 26 X 4 dX4_bondsOf_24 rfl rfl ?_
    refine v_iload 28 X 5 dX4_bondsOf_26 rfl rfl ?_
    obtain ⟨z28, hz28, hF⟩ := ob hF
    refine v_mVi 31 X 2 [.int v4, .int v5] (w_X4_second v4 v5 _ hz28) q1249 q1251 qs41 q95 q1252 hdX4_second 0 rfl rfl pass_no ⟨rfl, rfl⟩ ⟨Nat.le_of_ble_eq_true rfl, Nat.le_of_ble_eq_true rfl⟩ ⟨Nat.le_refl 0, Nat.le_refl 0⟩ rfl rfl (Nat.le_of_ble_eq_true rfl) dX4_bondsOf_28 rfl ?_
    refine v_istore 33 [(6, .int z28), (0, .ref (a 0)), (1, .int v1), (2, .int v2), (3, .int v3), (4, .int v4), (5, .int v5)] X dX4_bondsOf_31 rfl (by decide) rfl ?_
    refine v_iload 35 X 0 dX4_bondsOf_33 rfl rfl ?_
    refine v_bipush (v := (-9)) 37 X dX4_bondsOf_35 rfl kb_m9 ?_
    refine v_icmp_ne 40 44 X dX4_bondsOf_37 rfl (by decide) (fun h37 => ?_) (fun h37 => ?_)
    · replace hF := ifn h37 hF
      refine v_aload_n 45 X 1 dX4_bondsOf_44 rfl rfl rfl ?_
      refine v_get 48 X in_X4 0 9 rfl rfl (by decide) q1181 rfl rfl dX4_bondsOf_45 rfl ?_
      refine v_iload 50 X 5 dX4_bondsOf_48 rfl rfl ?_
      obtain ⟨z50, hz50, hF⟩ := ob hF
      refine v_iald 51 X 7 hz50 rfl dX4_bondsOf_50 rfl ?_
      refine v_iload_n 52 X 2 dX4_bondsOf_51 rfl rfl rfl ?_
      refine v_icmp_ne 55 59 X dX4_bondsOf_52 rfl (by decide) (fun h52 => ?_) (fun h52 => ?_)
      · replace hF := ifn h52 hF
        refine v_iconst (v := 0) 60 X dX4_bondsOf_59 rfl ki_0 ?_
        refine v_aload_n 61 X 1 dX4_bondsOf_60 rfl rfl rfl ?_
        refine v_get 64 X in_X4 0 9 rfl rfl (by decide) q1181 rfl rfl dX4_bondsOf_61 rfl ?_
        refine v_iload 66 X 0 dX4_bondsOf_64 rfl rfl ?_
        obtain ⟨z66, hz66, hF⟩ := ob hF
        refine v_iald 67 X 7 hz66 rfl dX4_bondsOf_66 rfl ?_
        refine v_iload_n 68 X 2 dX4_bondsOf_67 rfl rfl rfl ?_
        refine v_icmp_ne 71 75 X dX4_bondsOf_68 rfl (by decide) (fun h68 => ?_) (fun h68 => ?_)
        · replace hF := ifn h68 hF
          refine v_iconst (v := 0) 76 X dX4_bondsOf_75 rfl ki_0 ?_
          refine v_iadd 77 X dX4_bondsOf_76 rfl ?_
          exact v_lv [1, 2, 3, 4, 5, 6] rfl (w_X4_bondsOf_17_j77 X v1 v2 v3 v4 v5 (0 + 0) hI hO hF)
        · replace hF := ifp h68 hF
          refine v_iconst (v := 1) 72 X dX4_bondsOf_71 rfl ki_1 ?_
          refine v_goto 76 X dX4_bondsOf_72 (by decide) ?_
          refine v_iadd 77 X dX4_bondsOf_76 rfl ?_
          exact v_lv [1, 2, 3, 4, 5, 6] rfl (w_X4_bondsOf_17_j77 X v1 v2 v3 v4 v5 (0 + 1) hI hO hF)
      · replace hF := ifp h52 hF
        refine v_iconst (v := 1) 56 X dX4_bondsOf_55 rfl ki_1 ?_
        refine v_goto 60 X dX4_bondsOf_56 (by decide) ?_
        refine v_aload_n 61 X 1 dX4_bondsOf_60 rfl rfl rfl ?_
        refine v_get 64 X in_X4 0 9 rfl rfl (by decide) q1181 rfl rfl dX4_bondsOf_61 rfl ?_
        refine v_iload 66 X 0 dX4_bondsOf_64 rfl rfl ?_
        obtain ⟨z66, hz66, hF⟩ := ob hF
        refine v_iald 67 X 7 hz66 rfl dX4_bondsOf_66 rfl ?_
        refine v_iload_n 68 X 2 dX4_bondsOf_67 rfl rfl rfl ?_
        refine v_icmp_ne 71 75 X dX4_bondsOf_68 rfl (by decide) (fun h68 => ?_) (fun h68 => ?_)
        · replace hF := ifn h68 hF
          refine v_iconst (v := 0) 76 X dX4_bondsOf_75 rfl ki_0 ?_
          refine v_iadd 77 X dX4_bondsOf_76 rfl ?_
          exact v_lv [1, 2, 3, 4, 5, 6] rfl (w_X4_bondsOf_17_j77 X v1 v2 v3 v4 v5 (1 + 0) hI hO hF)
        · replace hF := ifp h68 hF
          refine v_iconst (v := 1) 72 X dX4_bondsOf_71 rfl ki_1 ?_
          refine v_goto 76 X dX4_bondsOf_72 (by decide) ?_
          refine v_iadd 77 X dX4_bondsOf_76 rfl ?_
          exact v_lv [1, 2, 3, 4, 5, 6] rfl (w_X4_bondsOf_17_j77 X v1 v2 v3 v4 v5 (1 + 1) hI hO hF)
    · replace hF := ifp h37 hF
      refine v_iconst (v := 0) 41 X dX4_bondsOf_40 rfl ki_0 ?_
      refine v_goto 77 X dX4_bondsOf_41 (by decide) ?_
      exact v_lv [1, 2, 3, 4, 5, 6] rfl (w_X4_bondsOf_17_j77 X v1 v2 v3 v4 v5 0 hI hO hF)
theorem w_X4_bondsOf_5 (X : CX p s m args meth c D A cX4_bondsOf 8 "DyeLatticeModel") (v1 : Int32) (v2 : Int32) : ∀ (n : Nat) (x : Int32 × Int32) (o : (Int32)), loopN (fun x => M_bondsOf_5 v1 v2 now clusterOf x.1 x.2) n x = some o → (V p l e rmX4_bondsOf s m args below meth c D A 8 Q (MW D a now past kept text queue isMet clusterOf fresh saved length met clusters frm ende wrong) 0 0 122 [(3, .int o)] []) → V p l e rmX4_bondsOf s m args below meth c D A 8 Q (MW D a now past kept text queue isMet clusterOf fresh saved length met clusters frm ende wrong) 0 0 5 [(0, .ref (a 0)), (1, .int v1), (2, .int v2), (3, .int x.1), (4, .int x.2)] [] := by
  refine v_loop (fun (x : Int32 × Int32) => V p l e rmX4_bondsOf s m args below meth c D A 8 Q (MW D a now past kept text queue isMet clusterOf fresh saved length met clusters frm ende wrong) 0 0 5 [(0, .ref (a 0)), (1, .int v1), (2, .int v2), (3, .int x.1), (4, .int x.2)] []) (fun (o : (Int32)) => V p l e rmX4_bondsOf s m args below meth c D A 8 Q (MW D a now past kept text queue isMet clusterOf fresh saved length met clusters frm ende wrong) 0 0 122 [(3, .int o)] []) ?_
  rintro ⟨v3, v4⟩ r hF hI hO
  replace hF : M_bondsOf_5 v1 v2 now clusterOf v3 v4 = some r := hF
  show V p l e rmX4_bondsOf s m args below meth c D A 8 Q (MW D a now past kept text queue isMet clusterOf fresh saved length met clusters frm ende wrong) 0 0 5 [(0, .ref (a 0)), (1, .int v1), (2, .int v2), (3, .int v3), (4, .int v4)] []
  unfold M_bondsOf_5 at hF
  refine v_iload 7 X 4 dX4_bondsOf_5 rfl rfl ?_
  refine v_aload_n 8 X 0 dX4_bondsOf_7 rfl rfl rfl ?_
  obtain ⟨z8, hz8, hF⟩ := ob hF
  refine v_mVi 11 X 0 [] (w_X4_cells _ hz8) q1233 q1235 qs38 q95 q1236 hdX4_cells 0 rfl rfl pass_no ⟨rfl, rfl⟩ ⟨Nat.le_of_ble_eq_true rfl, Nat.le_of_ble_eq_true rfl⟩ ⟨Nat.le_refl 0, Nat.le_refl 0⟩ rfl rfl (Nat.le_of_ble_eq_true rfl) dX4_bondsOf_8 rfl ?_
  refine v_icmp_ge 14 122 X dX4_bondsOf_11 rfl (by decide) (fun h11 => ?_) (fun h11 => ?_)
  · replace hF := ifp h11 hF
    obtain rfl := Option.some.inj hF
    exact v_lv [3] rfl (hO _ rfl)
  · replace hF := ifn h11 hF
    refine v_iconst (v := 0) 15 X dX4_bondsOf_14 rfl ki_0 ?_
    refine v_istore 17 [(5, .int 0), (0, .ref (a 0)), (1, .int v1), (2, .int v2), (3, .int v3), (4, .int v4)] X dX4_bondsOf_15 rfl (by decide) rfl ?_
    obtain ⟨z17, hz17, hF⟩ := ob hF
    refine v_lv [1, 2, 3, 4, 5, 0] rfl (w_X4_bondsOf_17 X v1 v2 v4 _ (v3, 0) _ hz17 ?_)
    refine v_iinc (v := (v4 + 1)) 119 [(4, .int (v4 + 1)), (0, .ref (a 0)), (1, .int v1), (2, .int v2), (3, .int z17)] X 4 dX4_bondsOf_116 rfl rfl (by rfl) (by decide) rfl ?_
    refine v_goto 5 X dX4_bondsOf_119 (by decide) ?_
    obtain rfl := Option.some.inj hF
    exact v_lv [1, 2, 3, 4, 0] rfl (hI _ rfl)
theorem w_X4_bondsOf (v1 : Int32) (v2 : Int32) (r : Int32) (hF : M_bondsOf now clusterOf v1 v2 = some r) : CTi l yX4_bondsOf cX4_bondsOf 8 (Option.some Jvm.ClassFile.FieldType.int) rmX4_bondsOf D (MW D a now past kept text queue isMet clusterOf fresh saved length met clusters frm ende wrong) [.ref (a 0), .int v1, .int v2] NoX (fun r1 u => r1 = r ∧ u = (MW D a now past kept text queue isMet clusterOf fresh saved length met clusters frm ende wrong)) := by
  refine m_i (by decide) (Nat.le_of_ble_eq_true rfl) ?_
  intro p e s m args below meth c A B
  obtain ⟨X, hr, -, -, -, -⟩ := B
  replace X : CX p s m args meth c D A cX4_bondsOf 8 "DyeLatticeModel" := X
  refine v_lv (lv' := [(0, .ref (a 0)), (1, .int v1), (2, .int v2)]) [0, 1, 2] rfl ?_
  unfold M_bondsOf at hF
  refine v_iconst (v := 0) 1 X dX4_bondsOf_0 rfl ki_0 ?_
  refine v_istore_n 2 [(3, .int 0), (0, .ref (a 0)), (1, .int v1), (2, .int v2)] X dX4_bondsOf_1 rfl rfl (by decide) rfl ?_
  refine v_iconst (v := 0) 3 X dX4_bondsOf_2 rfl ki_0 ?_
  refine v_istore 5 [(4, .int 0), (3, .int 0), (0, .ref (a 0)), (1, .int v1), (2, .int v2)] X dX4_bondsOf_3 rfl (by decide) rfl ?_
  obtain ⟨z5, hz5, hF⟩ := ob hF
  refine v_lv [2, 3, 4, 1, 0] rfl (w_X4_bondsOf_5 X v1 v2 _ (0, 0) _ hz5 ?_)
  refine v_iload_n 123 X 0 dX4_bondsOf_122 rfl rfl rfl ?_
  obtain rfl := Option.some.inj hF
  exact v_iret X hr ⟨rfl, rfl⟩ (Nat.zero_le _) (Nat.zero_le _) dX4_bondsOf_123
end
