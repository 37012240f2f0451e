set_option maxRecDepth 100000
set_option maxHeartbeats 4000000
section
variable {p : Program} {l : Launch} {e : Env} {s : State} {m : MethodId} {args : Array Value} {below : List Frame} {meth : Method} {c : Code} {D : va_G} {A : Nat → Prop} {Q : State → Prop} {a : Nat → Nat} {now past kept text queue isMet clusterOf fresh : Nat → Int32} {saved length met clusters frm ende wrong : Int32}
theorem w_X4_readsRow_16 (X : CX p s m args meth c D A cX4_readsRow 4 "DyeLatticeModel") (v1 : Int32) : ∀ (n : Nat) (x : Int32 × (Nat → Int32) × Int32 × Int32 × Int32) (o : ((Nat → Int32) × Int32 × Int32 × Int32)), loopN (fun x => M_readsRow_16 v1 text length x.1 x.2.1 x.2.2.1 x.2.2.2.1 x.2.2.2.2) n x = some o → (V p l e rmX4_readsRow s m args below meth c D A 4 Q (MW D a o.1 past kept text queue isMet clusterOf fresh saved length met clusters o.2.1 o.2.2.1 o.2.2.2) 0 0 73 [] []) → V p l e rmX4_readsRow s m args below meth c D A 4 Q (MW D a x.2.1 past kept text queue isMet clusterOf fresh saved length met clusters x.2.2.1 x.2.2.2.1 x.2.2.2.2) 0 0 16 [(0, .ref (a 0)), (1, .int v1), (2, .int x.1)] [] := by
  refine v_loop (fun (x : Int32 × (Nat → Int32) × Int32 × Int32 × Int32) => V p l e rmX4_readsRow s m args below meth c D A 4 Q (MW D a x.2.1 past kept text queue isMet clusterOf fresh saved length met clusters x.2.2.1 x.2.2.2.1 x.2.2.2.2) 0 0 16 [(0, .ref (a 0)), (1, .int v1), (2, .int x.1)] []) (fun (o : ((Nat → Int32) × Int32 × Int32 × Int32)) => V p l e rmX4_readsRow s m args below meth c D A 4 Q (MW D a o.1 past kept text queue isMet clusterOf fresh saved length met clusters o.2.1 o.2.2.1 o.2.2.2) 0 0 73 [] []) ?_
  rintro ⟨v2, now, frm, ende, wrong⟩ r hF hI hO
  replace hF : M_readsRow_16 v1 text length v2 now frm ende wrong = some r := hF
  show V p l e rmX4_readsRow s m args below meth c D A 4 Q (MW D a now past kept text queue isMet clusterOf fresh saved length met clusters frm ende wrong) 0 0 16 [(0, .ref (a 0)), (1, .int v1), (2, .int v2)] []
  unfold M_readsRow_16 at hF
  refine v_iload_n 17 X 2 dX4_readsRow_16 rfl rfl rfl ?_
  refine v_aload_n 18 X 0 dX4_readsRow_17 rfl rfl rfl ?_
  refine v_get 21 X in_X4 0 0 rfl rfl (by decide) q1172 rfl rfl dX4_readsRow_18 rfl ?_
  refine v_iconst (v := 0) 22 X dX4_readsRow_21 rfl ki_0 ?_
  obtain ⟨z22, hz22, hF⟩ := ob hF
  refine v_iald 23 X 1 hz22 rfl dX4_readsRow_22 rfl ?_
  refine v_icmp_ge 26 73 X dX4_readsRow_23 rfl (by decide) (fun h23 => ?_) (fun h23 => ?_)
  · replace hF := ifp h23 hF
    obtain rfl := Option.some.inj hF
    exact v_lv [] rfl (hO _ rfl)
  · replace hF := ifn h23 hF
    refine v_aload_n 27 X 0 dX4_readsRow_26 rfl rfl rfl ?_
    refine v_get 30 X in_X4 0 14 rfl rfl (by decide) q1186 rfl rfl dX4_readsRow_27 rfl ?_
    refine v_if_ne 33 73 X dX4_readsRow_30 rfl (by decide) (fun h30 => ?_) (fun h30 => ?_)
    · replace hF := ifn h30 hF
      obtain rfl := Option.some.inj hF
      exact v_lv [] rfl (hO _ rfl)
    · replace hF := ifp h30 hF
      refine v_aload_n 34 X 0 dX4_readsRow_33 rfl rfl rfl ?_
      refine v_iconst (v := 0) 35 X dX4_readsRow_34 rfl ki_0 ?_
      refine v_bipush (v := 99) 37 X dX4_readsRow_35 rfl kb_99 ?_
      obtain ⟨z37, hz37, hF⟩ := ob hF
      refine v_mVi 40 X 2 [.int 0, .int 99] (w_X4_number 0 99 _ hz37) q1501 q1503 qs75 q95 q1504 hdX4_number 0 rfl rfl pass_no ⟨rfl, rfl⟩ ⟨Nat.le_of_ble_eq_true rfl, Nat.le_of_ble_eq_true rfl⟩ ⟨Nat.le_refl 0, Nat.le_refl 0⟩ rfl rfl (Nat.le_of_ble_eq_true rfl) dX4_readsRow_37 rfl ?_
      refine v_istore_n 41 [(3, .int z37.1), (0, .ref (a 0)), (1, .int v1), (2, .int v2)] X dX4_readsRow_40 rfl rfl (by decide) rfl ?_
      refine v_aload_n 42 X 1 dX4_readsRow_41 rfl rfl rfl ?_
      refine v_get 45 X in_X4 0 14 rfl rfl (by decide) q1186 rfl rfl dX4_readsRow_42 rfl ?_
      refine v_if_ne 48 67 X dX4_readsRow_45 rfl (by decide) (fun h45 => ?_) (fun h45 => ?_)
      · replace hF := ifn h45 hF
        refine v_iinc (v := (v2 + 1)) 70 [(2, .int (v2 + 1)), (3, .int z37.1), (0, .ref (a 0)), (1, .int v1)] X 3 dX4_readsRow_67 rfl rfl (by rfl) (by decide) rfl ?_
        refine v_goto 16 X dX4_readsRow_70 (by decide) ?_
        obtain rfl := Option.some.inj hF
        exact v_lv [2, 3, 0] rfl (hI _ rfl)
      · replace hF := ifp h45 hF
        refine v_aload_n 49 X 1 dX4_readsRow_48 rfl rfl rfl ?_
        refine v_get 52 X in_X4 0 0 rfl rfl (by decide) q1172 rfl rfl dX4_readsRow_49 rfl ?_
        refine v_bipush (v := 7) 54 X dX4_readsRow_52 rfl kb_7 ?_
        refine v_iload_n 55 X 2 dX4_readsRow_54 rfl rfl rfl ?_
        refine v_aload_n 56 X 1 dX4_readsRow_55 rfl rfl rfl ?_
        refine v_get 59 X in_X4 0 0 rfl rfl (by decide) q1172 rfl rfl dX4_readsRow_56 rfl ?_
        refine v_iconst (v := 0) 60 X dX4_readsRow_59 rfl ki_0 ?_
        obtain ⟨z60, hz60, hF⟩ := ob hF
        refine v_iald 61 X 1 hz60 rfl dX4_readsRow_60 rfl ?_
        refine v_imul 62 X dX4_readsRow_61 rfl ?_
        refine v_iadd 63 X dX4_readsRow_62 rfl ?_
        refine v_iload_n 64 X 3 dX4_readsRow_63 rfl rfl rfl ?_
        refine v_iadd 65 X dX4_readsRow_64 rfl ?_
        refine v_iload_n 66 X 0 dX4_readsRow_65 rfl rfl rfl ?_
        obtain ⟨z66, hz66, hF⟩ := ob hF
        refine v_iast 67 (MW D a z66 past kept text queue isMet clusterOf fresh saved length met clusters z37.2.1 z37.2.2.1 z37.2.2.2) X 1 hz66 rfl dX4_readsRow_66 rfl rfl ?_
        refine v_iinc (v := (v2 + 1)) 70 [(2, .int (v2 + 1)), (3, .int z37.1), (0, .ref (a 0)), (1, .int v1)] X 3 dX4_readsRow_67 rfl rfl (by rfl) (by decide) rfl ?_
        refine v_goto 16 X dX4_readsRow_70 (by decide) ?_
        obtain rfl := Option.some.inj hF
        exact v_lv [2, 3, 0] rfl (hI _ rfl)
theorem w_X4_readsRow (r : (Nat → Int32) × Int32 × Int32 × Int32) (hF : M_readsRow now text length frm ende wrong = some r) : CTv l yX4_readsRow cX4_readsRow 4 (Option.none : Option Jvm.ClassFile.FieldType) rmX4_readsRow D (MW D a now past kept text queue isMet clusterOf fresh saved length met clusters frm ende wrong) [.ref (a 0)] NoX (fun u => u = (MW D a r.1 past kept text queue isMet clusterOf fresh saved length met clusters r.2.1 r.2.2.1 r.2.2.2)) := by
  refine m_v (by decide) (Nat.le_of_ble_eq_true rfl) ?_
  intro p e s m args below meth c A B
  obtain ⟨X, hr, -, -, -, -⟩ := B
  replace X : CX p s m args meth c D A cX4_readsRow 4 "DyeLatticeModel" := X
  refine v_lv (lv' := [(0, .ref (a 0))]) [0] rfl ?_
  unfold M_readsRow at hF
  refine v_aload_n 1 X 0 dX4_readsRow_0 rfl rfl rfl ?_
  refine v_iconst (v := 0) 2 X dX4_readsRow_1 rfl ki_0 ?_
  refine v_aload_n 3 X 0 dX4_readsRow_2 rfl rfl rfl ?_
  refine v_get 6 X in_X4 0 0 rfl rfl (by decide) q1172 rfl rfl dX4_readsRow_3 rfl ?_
  refine v_iconst (v := 1) 7 X dX4_readsRow_6 rfl ki_1 ?_
  obtain ⟨z7, hz7, hF⟩ := ob hF
  refine v_iald 8 X 1 hz7 rfl dX4_readsRow_7 rfl ?_
  refine v_iconst (v := 1) 9 X dX4_readsRow_8 rfl ki_1 ?_
  refine v_isub 10 X dX4_readsRow_9 rfl ?_
  obtain ⟨z10, hz10, hF⟩ := ob hF
  refine v_mVi 13 X 2 [.int 0, .int (z7 - 1)] (w_X4_number 0 (z7 - 1) _ hz10) q1501 q1503 qs75 q95 q1504 hdX4_number 0 rfl rfl pass_no ⟨rfl, rfl⟩ ⟨Nat.le_of_ble_eq_true rfl, Nat.le_of_ble_eq_true rfl⟩ ⟨Nat.le_refl 0, Nat.le_refl 0⟩ rfl rfl (Nat.le_of_ble_eq_true rfl) dX4_readsRow_10 rfl ?_
  refine v_istore_n 14 [(1, .int z10.1), (0, .ref (a 0))] X dX4_readsRow_13 rfl rfl (by decide) rfl ?_
  refine v_iconst (v := 0) 15 X dX4_readsRow_14 rfl ki_0 ?_
  refine v_istore_n 16 [(2, .int 0), (1, .int z10.1), (0, .ref (a 0))] X dX4_readsRow_15 rfl rfl (by decide) rfl ?_
  obtain ⟨z16, hz16, hF⟩ := ob hF
  refine v_lv [2, 1, 0] rfl (w_X4_readsRow_16 X z10.1 _ (0, now, z10.2.1, z10.2.2.1, z10.2.2.2) _ hz16 ?_)
  obtain rfl := Option.some.inj hF
  exact v_vret X hr rfl (Nat.zero_le _) (Nat.zero_le _) dX4_readsRow_73
theorem w_X4_valveTold_j151 (X : CX p s m args meth c D A cX4_valveTold 8 "DyeLatticeModel") (hr : meth.sig.returnType = (Option.some Jvm.ClassFile.FieldType.int)) {r : Int32 × Int32 × Int32 × Int32} (s0 : Int32) (hF : M_valveTold_j151 text length frm ende wrong s0 = some r) : V p l e rmX4_valveTold s m args below meth c D A 8 (MQ below (va_Qi (fun r1 u => r1 = r.1 ∧ u = (MW D a now past kept text queue isMet clusterOf fresh saved length met clusters r.2.1 r.2.2.1 r.2.2.2)) (Wd D A) A) args s rmX4_valveTold.cells rmX4_valveTold.slots A) (MW D a now past kept text queue isMet clusterOf fresh saved length met clusters frm ende wrong) 0 0 151 [(0, .ref (a 0))] [.int s0] := by
  unfold M_valveTold_j151 at hF
  refine v_istore 153 [(7, .int s0), (0, .ref (a 0))] X dX4_valveTold_151 rfl (by decide) rfl ?_
  refine v_aload_n 154 X 1 dX4_valveTold_153 rfl rfl rfl ?_
  refine v_aload_n 155 X 1 dX4_valveTold_154 rfl rfl rfl ?_
  refine v_get 158 X in_X4 0 14 rfl rfl (by decide) q1186 rfl rfl dX4_valveTold_155 rfl ?_
  refine v_if_ne 161 168 X dX4_valveTold_158 rfl (by decide) (fun h158 => ?_) (fun h158 => ?_)
  · replace hF := ifn h158 hF
    refine v_iconst (v := 1) 169 X dX4_valveTold_168 rfl ki_1 ?_
    refine v_goto 173 X dX4_valveTold_169 (by decide) ?_
    refine v_put 176 (MW D a now past kept text queue isMet clusterOf fresh saved length met clusters frm ende 1) X in_X4 tyX4_ok nmX4 0 14 rfl rfl (by decide) q1186 rfl rfl rfl rfl rfl (Nat.le_of_ble_eq_true rfl) dX4_valveTold_173 rfl rfl ?_
    refine v_iload 178 X 0 dX4_valveTold_176 rfl rfl ?_
    obtain rfl := Option.some.inj hF
    exact v_iret X hr ⟨rfl, rfl⟩ (Nat.zero_le _) (Nat.zero_le _) dX4_valveTold_178
  · replace hF := ifp h158 hF
    refine v_iload 163 X 0 dX4_valveTold_161 rfl rfl ?_
    refine v_bipush (v := (-9)) 165 X dX4_valveTold_163 rfl kb_m9 ?_
    refine v_icmp_ne 168 172 X dX4_valveTold_165 rfl (by decide) (fun h165 => ?_) (fun h165 => ?_)
    · replace hF := ifn h165 hF
      refine v_iconst (v := 0) 173 X dX4_valveTold_172 rfl ki_0 ?_
      refine v_put 176 (MW D a now past kept text queue isMet clusterOf fresh saved length met clusters frm ende 0) X in_X4 tyX4_ok nmX4 0 14 rfl rfl (by decide) q1186 rfl rfl rfl rfl rfl (Nat.le_of_ble_eq_true rfl) dX4_valveTold_173 rfl rfl ?_
      refine v_iload 178 X 0 dX4_valveTold_176 rfl rfl ?_
      obtain rfl := Option.some.inj hF
      exact v_iret X hr ⟨rfl, rfl⟩ (Nat.zero_le _) (Nat.zero_le _) dX4_valveTold_178
    · replace hF := ifp h165 hF
      refine v_iconst (v := 1) 169 X dX4_valveTold_168 rfl ki_1 ?_
      refine v_goto 173 X dX4_valveTold_169 (by decide) ?_
      refine v_put 176 (MW D a now past kept text queue isMet clusterOf fresh saved length met clusters frm ende 1) X in_X4 tyX4_ok nmX4 0 14 rfl rfl (by decide) q1186 rfl rfl rfl rfl rfl (Nat.le_of_ble_eq_true rfl) dX4_valveTold_173 rfl rfl ?_
      refine v_iload 178 X 0 dX4_valveTold_176 rfl rfl ?_
      obtain rfl := Option.some.inj hF
      exact v_iret X hr ⟨rfl, rfl⟩ (Nat.zero_le _) (Nat.zero_le _) dX4_valveTold_178
theorem w_X4_valveTold_j24 (X : CX p s m args meth c D A cX4_valveTold 8 "DyeLatticeModel") (hr : meth.sig.returnType = (Option.some Jvm.ClassFile.FieldType.int)) {r : Int32 × Int32 × Int32 × Int32} (s0 : Int64) (hF : M_valveTold_j24 text length frm ende wrong s0 = some r) : V p l e rmX4_valveTold s m args below meth c D A 8 (MQ below (va_Qi (fun r1 u => r1 = r.1 ∧ u = (MW D a now past kept text queue isMet clusterOf fresh saved length met clusters r.2.1 r.2.2.1 r.2.2.2)) (Wd D A) A) args s rmX4_valveTold.cells rmX4_valveTold.slots A) (MW D a now past kept text queue isMet clusterOf fresh saved length met clusters frm ende wrong) 0 0 24 [(0, .ref (a 0))] [.long s0] := by
  unfold M_valveTold_j24 at hF
  refine v_lstore_n 25 [(1, .long s0), (0, .ref (a 0))] X dX4_valveTold_24 rfl rfl (by decide) rfl ?_
  refine v_bipush (v := 102) 27 X dX4_valveTold_25 rfl kb_102 ?_
  refine v_bipush (v := 111) 29 X dX4_valveTold_27 rfl kb_111 ?_
  refine v_bipush (v := 114) 31 X dX4_valveTold_29 rfl kb_114 ?_
  refine v_bipush (v := 116) 33 X dX4_valveTold_31 rfl kb_116 ?_
  obtain ⟨z33, hz33, hF⟩ := ob hF
  refine v_mSl 36 X 4 [.int 102, .int 111, .int 114, .int 116] (w_X4_spelled 102 111 114 116 _ hz33) q1494 q1495 q95 q1496 hdX4_spelled pass_no ⟨rfl, rfl⟩ ⟨Nat.le_of_ble_eq_true rfl, Nat.le_of_ble_eq_true rfl⟩ ⟨Nat.le_refl 0, Nat.le_refl 0⟩ rfl rfl (Nat.le_of_ble_eq_true rfl) dX4_valveTold_33 rfl ?_
  refine v_bipush (v := 104) 38 X dX4_valveTold_36 rfl kb_104 ?_
  refine v_iconst (v := 0) 39 X dX4_valveTold_38 rfl ki_0 ?_
  refine v_iconst (v := 0) 40 X dX4_valveTold_39 rfl ki_0 ?_
  refine v_iconst (v := 0) 41 X dX4_valveTold_40 rfl ki_0 ?_
  obtain ⟨z41, hz41, hF⟩ := ob hF
  refine v_mSl 44 X 5 [.long z33, .int 104, .int 0, .int 0, .int 0] (w_X4_longer z33 104 0 0 0 _ hz41) q1509 q1510 q95 q1511 hdX4_longer pass_no ⟨rfl, rfl⟩ ⟨Nat.le_of_ble_eq_true rfl, Nat.le_of_ble_eq_true rfl⟩ ⟨Nat.le_refl 0, Nat.le_refl 0⟩ rfl rfl (Nat.le_of_ble_eq_true rfl) dX4_valveTold_41 rfl ?_
  refine v_lstore_n 45 [(3, .long z41), (1, .long s0), (0, .ref (a 0))] X dX4_valveTold_44 rfl rfl (by decide) rfl ?_
  refine v_bipush (v := 98) 47 X dX4_valveTold_45 rfl kb_98 ?_
  refine v_bipush (v := 101) 49 X dX4_valveTold_47 rfl kb_101 ?_
  refine v_bipush (v := 97) 51 X dX4_valveTold_49 rfl kb_97 ?_
  refine v_bipush (v := 116) 53 X dX4_valveTold_51 rfl kb_116 ?_
  obtain ⟨z53, hz53, hF⟩ := ob hF
  refine v_mSl 56 X 4 [.int 98, .int 101, .int 97, .int 116] (w_X4_spelled 98 101 97 116 _ hz53) q1494 q1495 q95 q1496 hdX4_spelled pass_no ⟨rfl, rfl⟩ ⟨Nat.le_of_ble_eq_true rfl, Nat.le_of_ble_eq_true rfl⟩ ⟨Nat.le_refl 0, Nat.le_refl 0⟩ rfl rfl (Nat.le_of_ble_eq_true rfl) dX4_valveTold_53 rfl ?_
  refine v_bipush (v := 105) 58 X dX4_valveTold_56 rfl kb_105 ?_
  refine v_bipush (v := 110) 60 X dX4_valveTold_58 rfl kb_110 ?_
  refine v_bipush (v := 103) 62 X dX4_valveTold_60 rfl kb_103 ?_
  refine v_iconst (v := 0) 63 X dX4_valveTold_62 rfl ki_0 ?_
  obtain ⟨z63, hz63, hF⟩ := ob hF
  refine v_mSl 66 X 5 [.long z53, .int 105, .int 110, .int 103, .int 0] (w_X4_longer z53 105 110 103 0 _ hz63) q1509 q1510 q95 q1511 hdX4_longer pass_no ⟨rfl, rfl⟩ ⟨Nat.le_of_ble_eq_true rfl, Nat.le_of_ble_eq_true rfl⟩ ⟨Nat.le_refl 0, Nat.le_refl 0⟩ rfl rfl (Nat.le_of_ble_eq_true rfl) dX4_valveTold_63 rfl ?_
  refine v_lstore 68 [(5, .long z63), (3, .long z41), (1, .long s0), (0, .ref (a 0))] X dX4_valveTold_66 rfl (by decide) rfl ?_
  refine v_lload_n 69 X 2 dX4_valveTold_68 rfl rfl rfl ?_
  refine v_bipush (v := 102) 71 X dX4_valveTold_69 rfl kb_102 ?_
  refine v_bipush (v := 114) 73 X dX4_valveTold_71 rfl kb_114 ?_
  refine v_bipush (v := 101) 75 X dX4_valveTold_73 rfl kb_101 ?_
  refine v_bipush (v := 101) 77 X dX4_valveTold_75 rfl kb_101 ?_
  obtain ⟨z77, hz77, hF⟩ := ob hF
  refine v_mSl 80 X 4 [.int 102, .int 114, .int 101, .int 101] (w_X4_spelled 102 114 101 101 _ hz77) q1494 q1495 q95 q1496 hdX4_spelled pass_no ⟨rfl, rfl⟩ ⟨Nat.le_of_ble_eq_true rfl, Nat.le_of_ble_eq_true rfl⟩ ⟨Nat.le_refl 0, Nat.le_refl 0⟩ rfl rfl (Nat.le_of_ble_eq_true rfl) dX4_valveTold_77 rfl ?_
  refine v_lcmp 81 X dX4_valveTold_80 rfl ?_
  refine v_if_ne 84 88 X dX4_valveTold_81 rfl (by decide) (fun h81 => ?_) (fun h81 => ?_)
  · replace hF := ifn h81 hF
    refine v_lload_n 89 X 2 dX4_valveTold_88 rfl rfl rfl ?_
    refine v_bipush (v := 115) 91 X dX4_valveTold_89 rfl kb_115 ?_
    refine v_bipush (v := 104) 93 X dX4_valveTold_91 rfl kb_104 ?_
    refine v_bipush (v := 117) 95 X dX4_valveTold_93 rfl kb_117 ?_
    refine v_bipush (v := 116) 97 X dX4_valveTold_95 rfl kb_116 ?_
    obtain ⟨z97, hz97, hF⟩ := ob hF
    refine v_mSl 100 X 4 [.int 115, .int 104, .int 117, .int 116] (w_X4_spelled 115 104 117 116 _ hz97) q1494 q1495 q95 q1496 hdX4_spelled pass_no ⟨rfl, rfl⟩ ⟨Nat.le_of_ble_eq_true rfl, Nat.le_of_ble_eq_true rfl⟩ ⟨Nat.le_refl 0, Nat.le_refl 0⟩ rfl rfl (Nat.le_of_ble_eq_true rfl) dX4_valveTold_97 rfl ?_
    refine v_lcmp 101 X dX4_valveTold_100 rfl ?_
    refine v_if_ne 104 108 X dX4_valveTold_101 rfl (by decide) (fun h101 => ?_) (fun h101 => ?_)
    · replace hF := ifn h101 hF
      refine v_lload_n 109 X 2 dX4_valveTold_108 rfl rfl rfl ?_
      refine v_lload_n 110 X 1 dX4_valveTold_109 rfl rfl rfl ?_
      refine v_lcmp 111 X dX4_valveTold_110 rfl ?_
      refine v_if_ne 114 118 X dX4_valveTold_111 rfl (by decide) (fun h111 => ?_) (fun h111 => ?_)
      · replace hF := ifn h111 hF
        refine v_lload_n 119 X 2 dX4_valveTold_118 rfl rfl rfl ?_
        refine v_bipush (v := 98) 121 X dX4_valveTold_119 rfl kb_98 ?_
        refine v_bipush (v := 97) 123 X dX4_valveTold_121 rfl kb_97 ?_
        refine v_bipush (v := 99) 125 X dX4_valveTold_123 rfl kb_99 ?_
        refine v_bipush (v := 107) 127 X dX4_valveTold_125 rfl kb_107 ?_
        obtain ⟨z127, hz127, hF⟩ := ob hF
        refine v_mSl 130 X 4 [.int 98, .int 97, .int 99, .int 107] (w_X4_spelled 98 97 99 107 _ hz127) q1494 q1495 q95 q1496 hdX4_spelled pass_no ⟨rfl, rfl⟩ ⟨Nat.le_of_ble_eq_true rfl, Nat.le_of_ble_eq_true rfl⟩ ⟨Nat.le_refl 0, Nat.le_refl 0⟩ rfl rfl (Nat.le_of_ble_eq_true rfl) dX4_valveTold_127 rfl ?_
        refine v_lcmp 131 X dX4_valveTold_130 rfl ?_
        refine v_if_ne 134 138 X dX4_valveTold_131 rfl (by decide) (fun h131 => ?_) (fun h131 => ?_)
        · replace hF := ifn h131 hF
          refine v_lload_n 139 X 2 dX4_valveTold_138 rfl rfl rfl ?_
          refine v_lload 141 X 0 dX4_valveTold_139 rfl rfl ?_
          refine v_lcmp 142 X dX4_valveTold_141 rfl ?_
          refine v_if_ne 145 149 X dX4_valveTold_142 rfl (by decide) (fun h142 => ?_) (fun h142 => ?_)
          · replace hF := ifn h142 hF
            refine v_bipush (v := (-9)) 151 X dX4_valveTold_149 rfl kb_m9 ?_
            exact v_lv [3] rfl (w_X4_valveTold_j151 X hr (-9) hF)
          · replace hF := ifp h142 hF
            refine v_iconst (v := 4) 146 X dX4_valveTold_145 rfl ki_4 ?_
            refine v_goto 151 X dX4_valveTold_146 (by decide) ?_
            exact v_lv [3] rfl (w_X4_valveTold_j151 X hr 4 hF)
        · replace hF := ifp h131 hF
          refine v_iconst (v := 3) 135 X dX4_valveTold_134 rfl ki_3 ?_
          refine v_goto 151 X dX4_valveTold_135 (by decide) ?_
          exact v_lv [3] rfl (w_X4_valveTold_j151 X hr 3 hF)
      · replace hF := ifp h111 hF
        refine v_iconst (v := 2) 115 X dX4_valveTold_114 rfl ki_2 ?_
        refine v_goto 151 X dX4_valveTold_115 (by decide) ?_
        exact v_lv [3] rfl (w_X4_valveTold_j151 X hr 2 hF)
    · replace hF := ifp h101 hF
      refine v_iconst (v := 1) 105 X dX4_valveTold_104 rfl ki_1 ?_
      refine v_goto 151 X dX4_valveTold_105 (by decide) ?_
      exact v_lv [3] rfl (w_X4_valveTold_j151 X hr 1 hF)
  · replace hF := ifp h81 hF
    refine v_iconst (v := 0) 85 X dX4_valveTold_84 rfl ki_0 ?_
    refine v_goto 151 X dX4_valveTold_85 (by decide) ?_
    exact v_lv [3] rfl (w_X4_valveTold_j151 X hr 0 hF)
theorem w_X4_valveTold (r : Int32 × Int32 × Int32 × Int32) (hF : M_valveTold text length frm ende wrong = some r) : CTi l yX4_valveTold cX4_valveTold 8 (Option.some Jvm.ClassFile.FieldType.int) rmX4_valveTold D (MW D a now past kept text queue isMet clusterOf fresh saved length met clusters frm ende wrong) [.ref (a 0)] NoX (fun r1 u => r1 = r.1 ∧ u = (MW D a now past kept text queue isMet clusterOf fresh saved length met clusters r.2.1 r.2.2.1 r.2.2.2)) := by
  refine m_i (by decide) (Nat.le_of_ble_eq_true rfl) ?_
  intro p e s m args below meth c A B
  obtain ⟨X, hr, -, -, -, -⟩ := B
  replace X : CX p s m args meth c D A cX4_valveTold 8 "DyeLatticeModel" := X
  refine v_lv (lv' := [(0, .ref (a 0))]) [0] rfl ?_
  unfold M_valveTold at hF
  refine v_aload_n 1 X 0 dX4_valveTold_0 rfl rfl rfl ?_
  refine v_get 4 X in_X4 0 14 rfl rfl (by decide) q1186 rfl rfl dX4_valveTold_1 rfl ?_
  refine v_if_ne 7 14 X dX4_valveTold_4 rfl (by decide) (fun h4 => ?_) (fun h4 => ?_)
  · replace hF := ifn h4 hF
    refine v_ldc2 17 X q1493 dX4_valveTold_14 rfl ?_
    refine v_goto 24 X dX4_valveTold_17 (by decide) ?_
    exact v_lv [0] rfl (w_X4_valveTold_j24 X hr (-1) hF)
  · replace hF := ifp h4 hF
    refine v_aload_n 8 X 0 dX4_valveTold_7 rfl rfl rfl ?_
    obtain ⟨z8, hz8, hF⟩ := ob hF
    refine v_mVi 11 X 0 [] (w_X4_goes _ hz8) q1473 q1475 qs71 q95 q1476 hdX4_goes 0 rfl rfl pass_no ⟨rfl, rfl⟩ ⟨Nat.le_of_ble_eq_true rfl, Nat.le_of_ble_eq_true rfl⟩ ⟨Nat.le_refl 0, Nat.le_refl 0⟩ rfl rfl (Nat.le_of_ble_eq_true rfl) dX4_valveTold_8 rfl ?_
    refine v_if_ne 14 20 X dX4_valveTold_11 rfl (by decide) (fun h11 => ?_) (fun h11 => ?_)
    · replace hF := ifn h11 hF
      refine v_aload_n 21 X 0 dX4_valveTold_20 rfl rfl rfl ?_
      obtain ⟨z21, hz21, hF⟩ := ob hF
      refine v_mVl 24 X 0 [] (w_X4_word _ hz21) q1487 q1489 qs73 q95 q1490 hdX4_word 0 rfl rfl pass_no ⟨rfl, rfl⟩ ⟨Nat.le_of_ble_eq_true rfl, Nat.le_of_ble_eq_true rfl⟩ ⟨Nat.le_refl 0, Nat.le_refl 0⟩ rfl rfl (Nat.le_of_ble_eq_true rfl) dX4_valveTold_21 rfl ?_
      exact v_lv [0] rfl (w_X4_valveTold_j24 X hr z21 hF)
    · replace hF := ifp h11 hF
      refine v_ldc2 17 X q1493 dX4_valveTold_14 rfl ?_
      refine v_goto 24 X dX4_valveTold_17 (by decide) ?_
      exact v_lv [0] rfl (w_X4_valveTold_j24 X hr (-1) hF)
theorem w_X4_readsValve_j43 (X : CX p s m args meth c D A cX4_readsValve 4 "DyeLatticeModel") (hr : meth.sig.returnType = (Option.none : Option Jvm.ClassFile.FieldType)) {r : (Nat → Int32) × Int32 × Int32 × Int32} (v1 : Int32) (v2 : Int32) (s1 : Int32) (hF : M_readsValve_j43 now text length frm ende wrong v1 v2 s1 = some r) : V p l e rmX4_readsValve s m args below meth c D A 4 (MQ below (va_Qv (fun u => u = (MW D a r.1 past kept text queue isMet clusterOf fresh saved length met clusters r.2.1 r.2.2.1 r.2.2.2)) (Wd D A) A) args s rmX4_readsValve.cells rmX4_readsValve.slots A) (MW D a now past kept text queue isMet clusterOf fresh saved length met clusters frm ende wrong) 0 0 43 [(0, .ref (a 0)), (1, .int v1), (2, .int v2)] [.int s1, .ref (a 0)] := by
  unfold M_readsValve_j43 at hF
  obtain ⟨z43, hz43, hF⟩ := ob hF
  refine v_topi (zck_s hz43).1 ?_
  refine v_put 46 (MW D a now past kept text queue isMet clusterOf fresh saved length met clusters frm ende z43) X in_X4 tyX4_ok nmX4 0 14 rfl rfl (by decide) q1186 rfl rfl rfl (zck_s hz43).2.1 (zck_s hz43).2.2 (Nat.le_of_ble_eq_true rfl) dX4_readsValve_43 rfl rfl ?_
  refine v_aload_n 47 X 0 dX4_readsValve_46 rfl rfl rfl ?_
  obtain ⟨z47, hz47, hF⟩ := ob hF
  refine v_mVi 50 X 0 [] (w_X4_valveTold _ hz47) q1520 q1522 qs79 q95 q1523 hdX4_valveTold 0 rfl rfl pass_no ⟨rfl, rfl⟩ ⟨Nat.le_of_ble_eq_true rfl, Nat.le_of_ble_eq_true rfl⟩ ⟨Nat.le_refl 0, Nat.le_refl 0⟩ rfl rfl (Nat.le_of_ble_eq_true rfl) dX4_readsValve_47 rfl ?_
  refine v_istore_n 51 [(3, .int z47.1), (0, .ref (a 0)), (1, .int v1), (2, .int v2)] X dX4_readsValve_50 rfl rfl (by decide) rfl ?_
  refine v_aload_n 52 X 1 dX4_readsValve_51 rfl rfl rfl ?_
  refine v_get 55 X in_X4 0 14 rfl rfl (by decide) q1186 rfl rfl dX4_readsValve_52 rfl ?_
  refine v_if_ne 58 72 X dX4_readsValve_55 rfl (by decide) (fun h55 => ?_) (fun h55 => ?_)
  · replace hF := ifn h55 hF
    obtain rfl := Option.some.inj hF
    exact v_vret X hr rfl (Nat.zero_le _) (Nat.zero_le _) dX4_readsValve_72
  · replace hF := ifp h55 hF
    refine v_aload_n 59 X 1 dX4_readsValve_58 rfl rfl rfl ?_
    refine v_get 62 X in_X4 0 0 rfl rfl (by decide) q1172 rfl rfl dX4_readsValve_59 rfl ?_
    refine v_bipush (v := 87) 64 X dX4_readsValve_62 rfl kb_87 ?_
    refine v_iconst (v := 4) 65 X dX4_readsValve_64 rfl ki_4 ?_
    refine v_iload_n 66 X 2 dX4_readsValve_65 rfl rfl rfl ?_
    refine v_imul 67 X dX4_readsValve_66 rfl ?_
    refine v_iadd 68 X dX4_readsValve_67 rfl ?_
    refine v_iload_n 69 X 3 dX4_readsValve_68 rfl rfl rfl ?_
    refine v_iadd 70 X dX4_readsValve_69 rfl ?_
    refine v_iload_n 71 X 0 dX4_readsValve_70 rfl rfl rfl ?_
    obtain ⟨z71, hz71, hF⟩ := ob hF
    refine v_iast 72 (MW D a z71 past kept text queue isMet clusterOf fresh saved length met clusters z47.2.1 z47.2.2.1 z47.2.2.2) X 1 hz71 rfl dX4_readsValve_71 rfl rfl ?_
    obtain rfl := Option.some.inj hF
    exact v_vret X hr rfl (Nat.zero_le _) (Nat.zero_le _) dX4_readsValve_72
theorem w_X4_readsValve (r : (Nat → Int32) × Int32 × Int32 × Int32) (hF : M_readsValve now text length frm ende wrong = some r) : CTv l yX4_readsValve cX4_readsValve 4 (Option.none : Option Jvm.ClassFile.FieldType) rmX4_readsValve D (MW D a now past kept text queue isMet clusterOf fresh saved length met clusters frm ende wrong) [.ref (a 0)] NoX (fun u => u = (MW D a r.1 past kept text queue isMet clusterOf fresh saved length met clusters r.2.1 r.2.2.1 r.2.2.2)) := by
  refine m_v (by decide) (Nat.le_of_ble_eq_true rfl) ?_
  intro p e s m args below meth c A B
  obtain ⟨X, hr, -, -, -, -⟩ := B
  replace X : CX p s m args meth c D A cX4_readsValve 4 "DyeLatticeModel" := X
  refine v_lv (lv' := [(0, .ref (a 0))]) [0] rfl ?_
  unfold M_readsValve at hF
  refine v_aload_n 1 X 0 dX4_readsValve_0 rfl rfl rfl ?_
  refine v_iconst (v := 0) 2 X dX4_readsValve_1 rfl ki_0 ?_
  refine v_aload_n 3 X 0 dX4_readsValve_2 rfl rfl rfl ?_
  obtain ⟨z3, hz3, hF⟩ := ob hF
  refine v_mVi 6 X 0 [] (w_X4_cells _ hz3) q1233 q1235 qs38 q95 q1236 hdX4_cells 0 rfl rfl pass_no ⟨rfl, rfl⟩ ⟨Nat.le_of_ble_eq_true rfl, Nat.le_of_ble_eq_true rfl⟩ ⟨Nat.le_refl 0, Nat.le_refl 0⟩ rfl rfl (Nat.le_of_ble_eq_true rfl) dX4_readsValve_3 rfl ?_
  refine v_iconst (v := 1) 7 X dX4_readsValve_6 rfl ki_1 ?_
  refine v_isub 8 X dX4_readsValve_7 rfl ?_
  obtain ⟨z8, hz8, hF⟩ := ob hF
  refine v_mVi 11 X 2 [.int 0, .int (z3 - 1)] (w_X4_number 0 (z3 - 1) _ hz8) q1501 q1503 qs75 q95 q1504 hdX4_number 0 rfl rfl pass_no ⟨rfl, rfl⟩ ⟨Nat.le_of_ble_eq_true rfl, Nat.le_of_ble_eq_true rfl⟩ ⟨Nat.le_refl 0, Nat.le_refl 0⟩ rfl rfl (Nat.le_of_ble_eq_true rfl) dX4_readsValve_8 rfl ?_
  refine v_istore_n 12 [(1, .int z8.1), (0, .ref (a 0))] X dX4_readsValve_11 rfl rfl (by decide) rfl ?_
  refine v_aload_n 13 X 1 dX4_readsValve_12 rfl rfl rfl ?_
  refine v_iconst (v := 0) 14 X dX4_readsValve_13 rfl ki_0 ?_
  refine v_iconst (v := 3) 15 X dX4_readsValve_14 rfl ki_3 ?_
  obtain ⟨z15, hz15, hF⟩ := ob hF
  refine v_mVi 18 X 2 [.int 0, .int 3] (w_X4_number 0 3 _ hz15) q1501 q1503 qs75 q95 q1504 hdX4_number 0 rfl rfl pass_no ⟨rfl, rfl⟩ ⟨Nat.le_of_ble_eq_true rfl, Nat.le_of_ble_eq_true rfl⟩ ⟨Nat.le_refl 0, Nat.le_refl 0⟩ rfl rfl (Nat.le_of_ble_eq_true rfl) dX4_readsValve_15 rfl ?_
  refine v_istore_n 19 [(2, .int z15.1), (1, .int z8.1), (0, .ref (a 0))] X dX4_readsValve_18 rfl rfl (by decide) rfl ?_
  refine v_aload_n 20 X 2 dX4_readsValve_19 rfl rfl rfl ?_
  refine v_aload_n 21 X 2 dX4_readsValve_20 rfl rfl rfl ?_
  refine v_get 24 X in_X4 0 14 rfl rfl (by decide) q1186 rfl rfl dX4_readsValve_21 rfl ?_
  refine v_if_ne 27 38 X dX4_readsValve_24 rfl (by decide) (fun h24 => ?_) (fun h24 => ?_)
  · replace hF := ifn h24 hF
    refine v_iconst (v := 1) 39 X dX4_readsValve_38 rfl ki_1 ?_
    refine v_goto 43 X dX4_readsValve_39 (by decide) ?_
    exact v_lv [2, 1, 0] rfl (w_X4_readsValve_j43 X hr z8.1 z15.1 1 hF)
  · replace hF := ifp h24 hF
    refine v_aload_n 28 X 2 dX4_readsValve_27 rfl rfl rfl ?_
    refine v_iload_n 29 X 1 dX4_readsValve_28 rfl rfl rfl ?_
    refine v_iload_n 30 X 0 dX4_readsValve_29 rfl rfl rfl ?_
    obtain ⟨z30, hz30, hF⟩ := ob hF
    refine v_mVi 33 X 2 [.int z8.1, .int z15.1] (w_X4_second z8.1 z15.1 _ hz30) q1249 q1251 qs41 q95 q1252 hdX4_second 0 rfl rfl pass_no ⟨rfl, rfl⟩ ⟨Nat.le_of_ble_eq_true rfl, Nat.le_of_ble_eq_true rfl⟩ ⟨Nat.le_refl 0, Nat.le_refl 0⟩ rfl rfl (Nat.le_of_ble_eq_true rfl) dX4_readsValve_30 rfl ?_
    refine v_bipush (v := (-9)) 35 X dX4_readsValve_33 rfl kb_m9 ?_
    refine v_icmp_ne 38 42 X dX4_readsValve_35 rfl (by decide) (fun h35 => ?_) (fun h35 => ?_)
    · replace hF := ifn h35 hF
      refine v_iconst (v := 0) 43 X dX4_readsValve_42 rfl ki_0 ?_
      exact v_lv [2, 1, 0] rfl (w_X4_readsValve_j43 X hr z8.1 z15.1 0 hF)
    · replace hF := ifp h35 hF
      refine v_iconst (v := 1) 39 X dX4_readsValve_38 rfl ki_1 ?_
      refine v_goto 43 X dX4_readsValve_39 (by decide) ?_
      exact v_lv [2, 1, 0] rfl (w_X4_readsValve_j43 X hr z8.1 z15.1 1 hF)
theorem w_X4_readsSource_j49 (X : CX p s m args meth c D A cX4_readsSource 3 "DyeLatticeModel") (hr : meth.sig.returnType = (Option.none : Option Jvm.ClassFile.FieldType)) {r : (Nat → Int32) × Int32 × Int32 × Int32} (v1 : Int32) (v2 : Int32) (s1 : Int32) (hF : M_readsSource_j49 now text length frm ende wrong v1 v2 s1 = some r) : V p l e rmX4_readsSource s m args below meth c D A 3 (MQ below (va_Qv (fun u => u = (MW D a r.1 past kept text queue isMet clusterOf fresh saved length met clusters r.2.1 r.2.2.1 r.2.2.2)) (Wd D A) A) args s rmX4_readsSource.cells rmX4_readsSource.slots A) (MW D a now past kept text queue isMet clusterOf fresh saved length met clusters frm ende wrong) 0 0 49 [(0, .ref (a 0)), (1, .int v1), (2, .int v2)] [.int s1, .ref (a 0)] := by
  unfold M_readsSource_j49 at hF
  obtain ⟨z49, hz49, hF⟩ := ob hF
  refine v_topi (zck_s hz49).1 ?_
  refine v_put 52 (MW D a now past kept text queue isMet clusterOf fresh saved length met clusters frm ende z49) X in_X4 tyX4_ok nmX4 0 14 rfl rfl (by decide) q1186 rfl rfl rfl (zck_s hz49).2.1 (zck_s hz49).2.2 (Nat.le_of_ble_eq_true rfl) dX4_readsSource_49 rfl rfl ?_
  refine v_aload_n 53 X 0 dX4_readsSource_52 rfl rfl rfl ?_
  refine v_get 56 X in_X4 0 14 rfl rfl (by decide) q1186 rfl rfl dX4_readsSource_53 rfl ?_
  refine v_if_ne 59 75 X dX4_readsSource_56 rfl (by decide) (fun h56 => ?_) (fun h56 => ?_)
  · replace hF := ifn h56 hF
    obtain rfl := Option.some.inj hF
    exact v_vret X hr rfl (Nat.zero_le _) (Nat.zero_le _) dX4_readsSource_75
  · replace hF := ifp h56 hF
    refine v_aload_n 60 X 0 dX4_readsSource_59 rfl rfl rfl ?_
    refine v_get 63 X in_X4 0 0 rfl rfl (by decide) q1172 rfl rfl dX4_readsSource_60 rfl ?_
    refine v_sipush (v := 407) 66 X dX4_readsSource_63 rfl ks_407 ?_
    refine v_iload_n 67 X 1 dX4_readsSource_66 rfl rfl rfl ?_
    refine v_iadd 68 X dX4_readsSource_67 rfl ?_
    refine v_dup2 69 X dX4_readsSource_68 rfl rfl rfl ?_
    obtain ⟨z69, hz69, hF⟩ := ob hF
    refine v_iald 70 X 1 hz69 rfl dX4_readsSource_69 rfl ?_
    refine v_iconst (v := 1) 71 X dX4_readsSource_70 rfl ki_1 ?_
    refine v_iload_n 72 X 2 dX4_readsSource_71 rfl rfl rfl ?_
    refine v_ishl 73 X dX4_readsSource_72 rfl ?_
    refine v_iadd 74 X dX4_readsSource_73 rfl ?_
    obtain ⟨z74, hz74, hF⟩ := ob hF
    refine v_iast 75 (MW D a z74 past kept text queue isMet clusterOf fresh saved length met clusters frm ende z49) X 1 hz74 rfl dX4_readsSource_74 rfl rfl ?_
    obtain rfl := Option.some.inj hF
    exact v_vret X hr rfl (Nat.zero_le _) (Nat.zero_le _) dX4_readsSource_75
theorem w_X4_readsSource (r : (Nat → Int32) × Int32 × Int32 × Int32) (hF : M_readsSource now text length frm ende wrong = some r) : CTv l yX4_readsSource cX4_readsSource 3 (Option.none : Option Jvm.ClassFile.FieldType) rmX4_readsSource D (MW D a now past kept text queue isMet clusterOf fresh saved length met clusters frm ende wrong) [.ref (a 0)] NoX (fun u => u = (MW D a r.1 past kept text queue isMet clusterOf fresh saved length met clusters r.2.1 r.2.2.1 r.2.2.2)) := by
  refine m_v (by decide) (Nat.le_of_ble_eq_true rfl) ?_
  intro p e s m args below meth c A B
  obtain ⟨X, hr, -, -, -, -⟩ := B
  replace X : CX p s m args meth c D A cX4_readsSource 3 "DyeLatticeModel" := X
  refine v_lv (lv' := [(0, .ref (a 0))]) [0] rfl ?_
  unfold M_readsSource at hF
  refine v_aload_n 1 X 0 dX4_readsSource_0 rfl rfl rfl ?_
  refine v_iconst (v := 0) 2 X dX4_readsSource_1 rfl ki_0 ?_
  refine v_aload_n 3 X 0 dX4_readsSource_2 rfl rfl rfl ?_
  obtain ⟨z3, hz3, hF⟩ := ob hF
  refine v_mVi 6 X 0 [] (w_X4_cells _ hz3) q1233 q1235 qs38 q95 q1236 hdX4_cells 0 rfl rfl pass_no ⟨rfl, rfl⟩ ⟨Nat.le_of_ble_eq_true rfl, Nat.le_of_ble_eq_true rfl⟩ ⟨Nat.le_refl 0, Nat.le_refl 0⟩ rfl rfl (Nat.le_of_ble_eq_true rfl) dX4_readsSource_3 rfl ?_
  refine v_iconst (v := 1) 7 X dX4_readsSource_6 rfl ki_1 ?_
  refine v_isub 8 X dX4_readsSource_7 rfl ?_
  obtain ⟨z8, hz8, hF⟩ := ob hF
  refine v_mVi 11 X 2 [.int 0, .int (z3 - 1)] (w_X4_number 0 (z3 - 1) _ hz8) q1501 q1503 qs75 q95 q1504 hdX4_number 0 rfl rfl pass_no ⟨rfl, rfl⟩ ⟨Nat.le_of_ble_eq_true rfl, Nat.le_of_ble_eq_true rfl⟩ ⟨Nat.le_refl 0, Nat.le_refl 0⟩ rfl rfl (Nat.le_of_ble_eq_true rfl) dX4_readsSource_8 rfl ?_
  refine v_istore_n 12 [(1, .int z8.1), (0, .ref (a 0))] X dX4_readsSource_11 rfl rfl (by decide) rfl ?_
  refine v_aload_n 13 X 1 dX4_readsSource_12 rfl rfl rfl ?_
  refine v_iconst (v := 0) 14 X dX4_readsSource_13 rfl ki_0 ?_
  refine v_iconst (v := 2) 15 X dX4_readsSource_14 rfl ki_2 ?_
  obtain ⟨z15, hz15, hF⟩ := ob hF
  refine v_mVi 18 X 2 [.int 0, .int 2] (w_X4_number 0 2 _ hz15) q1501 q1503 qs75 q95 q1504 hdX4_number 0 rfl rfl pass_no ⟨rfl, rfl⟩ ⟨Nat.le_of_ble_eq_true rfl, Nat.le_of_ble_eq_true rfl⟩ ⟨Nat.le_refl 0, Nat.le_refl 0⟩ rfl rfl (Nat.le_of_ble_eq_true rfl) dX4_readsSource_15 rfl ?_
  refine v_istore_n 19 [(2, .int z15.1), (1, .int z8.1), (0, .ref (a 0))] X dX4_readsSource_18 rfl rfl (by decide) rfl ?_
  refine v_aload_n 20 X 2 dX4_readsSource_19 rfl rfl rfl ?_
  refine v_aload_n 21 X 2 dX4_readsSource_20 rfl rfl rfl ?_
  refine v_get 24 X in_X4 0 14 rfl rfl (by decide) q1186 rfl rfl dX4_readsSource_21 rfl ?_
  refine v_if_ne 27 44 X dX4_readsSource_24 rfl (by decide) (fun h24 => ?_) (fun h24 => ?_)
  · replace hF := ifn h24 hF
    refine v_iconst (v := 1) 45 X dX4_readsSource_44 rfl ki_1 ?_
    refine v_goto 49 X dX4_readsSource_45 (by decide) ?_
    exact v_lv [2, 1, 0] rfl (w_X4_readsSource_j49 X hr z8.1 z15.1 1 hF)
  · replace hF := ifp h24 hF
    refine v_aload_n 28 X 2 dX4_readsSource_27 rfl rfl rfl ?_
    refine v_get 31 X in_X4 0 0 rfl rfl (by decide) q1172 rfl rfl dX4_readsSource_28 rfl ?_
    refine v_sipush (v := 407) 34 X dX4_readsSource_31 rfl ks_407 ?_
    refine v_iload_n 35 X 1 dX4_readsSource_34 rfl rfl rfl ?_
    refine v_iadd 36 X dX4_readsSource_35 rfl ?_
    obtain ⟨z36, hz36, hF⟩ := ob hF
    refine v_iald 37 X 1 hz36 rfl dX4_readsSource_36 rfl ?_
    refine v_iload_n 38 X 0 dX4_readsSource_37 rfl rfl rfl ?_
    obtain ⟨z38, hz38, hF⟩ := ob hF
    refine v_mSi 41 X 2 [.int z36, .int z15.1] (w_X4_has z36 z15.1 _ hz38) q1298 q1299 q95 q1300 hdX4_has pass_no ⟨rfl, rfl⟩ ⟨Nat.le_of_ble_eq_true rfl, Nat.le_of_ble_eq_true rfl⟩ ⟨Nat.le_refl 0, Nat.le_refl 0⟩ rfl rfl (Nat.le_of_ble_eq_true rfl) dX4_readsSource_38 rfl ?_
    refine v_if_eq 44 48 X dX4_readsSource_41 rfl (by decide) (fun h41 => ?_) (fun h41 => ?_)
    · replace hF := ifp h41 hF
      refine v_iconst (v := 0) 49 X dX4_readsSource_48 rfl ki_0 ?_
      exact v_lv [2, 1, 0] rfl (w_X4_readsSource_j49 X hr z8.1 z15.1 0 hF)
    · replace hF := ifn h41 hF
      refine v_iconst (v := 1) 45 X dX4_readsSource_44 rfl ki_1 ?_
      refine v_goto 49 X dX4_readsSource_45 (by decide) ?_
      exact v_lv [2, 1, 0] rfl (w_X4_readsSource_j49 X hr z8.1 z15.1 1 hF)
theorem w_X4_takes (v1 : Int32) (r : Int32 × Int32 × Int32) (hF : M_takes text length frm ende wrong v1 = some r) : CTv l yX4_takes cX4_takes 2 (Option.none : Option Jvm.ClassFile.FieldType) rmX4_takes D (MW D a now past kept text queue isMet clusterOf fresh saved length met clusters frm ende wrong) [.ref (a 0), .int v1] NoX (fun u => u = (MW D a now past kept text queue isMet clusterOf fresh saved length met clusters r.1 r.2.1 r.2.2)) := by
  refine m_v (by decide) (Nat.le_of_ble_eq_true rfl) ?_
  intro p e s m args below meth c A B
  obtain ⟨X, hr, -, -, -, -⟩ := B
  replace X : CX p s m args meth c D A cX4_takes 2 "DyeLatticeModel" := X
  refine v_lv (lv' := [(0, .ref (a 0)), (1, .int v1)]) [0, 1] rfl ?_
  unfold M_takes at hF
  refine v_aload_n 1 X 0 dX4_takes_0 rfl rfl rfl ?_
  refine v_aload_n 2 X 0 dX4_takes_1 rfl rfl rfl ?_
  refine v_get 5 X in_X4 0 14 rfl rfl (by decide) q1186 rfl rfl dX4_takes_2 rfl ?_
  refine v_if_ne 8 28 X dX4_takes_5 rfl (by decide) (fun h5 => ?_) (fun h5 => ?_)
  · replace hF := ifn h5 hF
    refine v_iconst (v := 1) 29 X dX4_takes_28 rfl ki_1 ?_
    refine v_goto 33 X dX4_takes_29 (by decide) ?_
    refine v_put 36 (MW D a now past kept text queue isMet clusterOf fresh saved length met clusters frm ende 1) X in_X4 tyX4_ok nmX4 0 14 rfl rfl (by decide) q1186 rfl rfl rfl rfl rfl (Nat.le_of_ble_eq_true rfl) dX4_takes_33 rfl rfl ?_
    obtain rfl := Option.some.inj hF
    exact v_vret X hr rfl (Nat.zero_le _) (Nat.zero_le _) dX4_takes_36
  · replace hF := ifp h5 hF
    refine v_aload_n 9 X 0 dX4_takes_8 rfl rfl rfl ?_
    obtain ⟨z9, hz9, hF⟩ := ob hF
    refine v_mVi 12 X 0 [] (w_X4_goes _ hz9) q1473 q1475 qs71 q95 q1476 hdX4_goes 0 rfl rfl pass_no ⟨rfl, rfl⟩ ⟨Nat.le_of_ble_eq_true rfl, Nat.le_of_ble_eq_true rfl⟩ ⟨Nat.le_refl 0, Nat.le_refl 0⟩ rfl rfl (Nat.le_of_ble_eq_true rfl) dX4_takes_9 rfl ?_
    refine v_if_eq 15 28 X dX4_takes_12 rfl (by decide) (fun h12 => ?_) (fun h12 => ?_)
    · replace hF := ifp h12 hF
      refine v_iconst (v := 1) 29 X dX4_takes_28 rfl ki_1 ?_
      refine v_goto 33 X dX4_takes_29 (by decide) ?_
      refine v_put 36 (MW D a now past kept text queue isMet clusterOf fresh saved length met clusters z9.2.1 z9.2.2 1) X in_X4 tyX4_ok nmX4 0 14 rfl rfl (by decide) q1186 rfl rfl rfl rfl rfl (Nat.le_of_ble_eq_true rfl) dX4_takes_33 rfl rfl ?_
      obtain rfl := Option.some.inj hF
      exact v_vret X hr rfl (Nat.zero_le _) (Nat.zero_le _) dX4_takes_36
    · replace hF := ifn h12 hF
      refine v_aload_n 16 X 0 dX4_takes_15 rfl rfl rfl ?_
      refine v_get 19 X in_X4 0 4 rfl rfl (by decide) q1176 rfl rfl dX4_takes_16 rfl ?_
      refine v_aload_n 20 X 0 dX4_takes_19 rfl rfl rfl ?_
      refine v_get 23 X in_X4 0 12 rfl rfl (by decide) q1184 rfl rfl dX4_takes_20 rfl ?_
      obtain ⟨z23, hz23, hF⟩ := ob hF
      refine v_iald 24 X 4 hz23 rfl dX4_takes_23 rfl ?_
      refine v_iload_n 25 X 1 dX4_takes_24 rfl rfl rfl ?_
      refine v_icmp_eq 28 32 X dX4_takes_25 rfl (by decide) (fun h25 => ?_) (fun h25 => ?_)
      · replace hF := ifp h25 hF
        refine v_iconst (v := 0) 33 X dX4_takes_32 rfl ki_0 ?_
        refine v_put 36 (MW D a now past kept text queue isMet clusterOf fresh saved length met clusters z9.2.1 z9.2.2 0) X in_X4 tyX4_ok nmX4 0 14 rfl rfl (by decide) q1186 rfl rfl rfl rfl rfl (Nat.le_of_ble_eq_true rfl) dX4_takes_33 rfl rfl ?_
        obtain rfl := Option.some.inj hF
        exact v_vret X hr rfl (Nat.zero_le _) (Nat.zero_le _) dX4_takes_36
      · replace hF := ifn h25 hF
        refine v_iconst (v := 1) 29 X dX4_takes_28 rfl ki_1 ?_
        refine v_goto 33 X dX4_takes_29 (by decide) ?_
        refine v_put 36 (MW D a now past kept text queue isMet clusterOf fresh saved length met clusters z9.2.1 z9.2.2 1) X in_X4 tyX4_ok nmX4 0 14 rfl rfl (by decide) q1186 rfl rfl rfl rfl rfl (Nat.le_of_ble_eq_true rfl) dX4_takes_33 rfl rfl ?_
        obtain rfl := Option.some.inj hF
        exact v_vret X hr rfl (Nat.zero_le _) (Nat.zero_le _) dX4_takes_36
theorem w_X4_readsItem_j252 (X : CX p s m args meth c D A cX4_readsItem 5 "DyeLatticeModel") (hr : meth.sig.returnType = (Option.none : Option Jvm.ClassFile.FieldType)) {r : (Nat → Int32) × Int32 × Int32 × Int32} (hF : M_readsItem_j252 now text length frm ende wrong = some r) : V p l e rmX4_readsItem s m args below meth c D A 5 (MQ below (va_Qv (fun u => u = (MW D a r.1 past kept text queue isMet clusterOf fresh saved length met clusters r.2.1 r.2.2.1 r.2.2.2)) (Wd D A) A) args s rmX4_readsItem.cells rmX4_readsItem.slots A) (MW D a now past kept text queue isMet clusterOf fresh saved length met clusters frm ende wrong) 0 0 252 [(0, .ref (a 0))] [] := by
  unfold M_readsItem_j252 at hF
  refine v_aload_n 253 X 0 dX4_readsItem_252 rfl rfl rfl ?_
  refine v_bipush (v := 59) 255 X dX4_readsItem_253 rfl kb_59 ?_
  obtain ⟨z255, hz255, hF⟩ := ob hF
  refine v_mVv 258 X 1 [.int 59] (w_X4_takes 59 _ hz255) q1528 q1530 qs81 q95 q1531 hdX4_takes 0 rfl rfl pass_no ⟨rfl, rfl⟩ ⟨Nat.le_of_ble_eq_true rfl, Nat.le_of_ble_eq_true rfl⟩ ⟨Nat.le_refl 0, Nat.le_refl 0⟩ rfl rfl (Nat.le_of_ble_eq_true rfl) dX4_readsItem_255 rfl ?_
  obtain rfl := Option.some.inj hF
  exact v_vret X hr rfl (Nat.zero_le _) (Nat.zero_le _) dX4_readsItem_258
theorem w_X4_readsItem_j32 (X : CX p s m args meth c D A cX4_readsItem 5 "DyeLatticeModel") (hr : meth.sig.returnType = (Option.none : Option Jvm.ClassFile.FieldType)) {r : (Nat → Int32) × Int32 × Int32 × Int32} (v2 : Int64) (hF : M_readsItem_j32 now text length frm ende wrong v2 = some r) : V p l e rmX4_readsItem s m args below meth c D A 5 (MQ below (va_Qv (fun u => u = (MW D a r.1 past kept text queue isMet clusterOf fresh saved length met clusters r.2.1 r.2.2.1 r.2.2.2)) (Wd D A) A) args s rmX4_readsItem.cells rmX4_readsItem.slots A) (MW D a now past kept text queue isMet clusterOf fresh saved length met clusters frm ende wrong) 0 0 32 [(0, .ref (a 0)), (2, .long v2)] [] := by
  unfold M_readsItem_j32 at hF
  refine v_lload_n 33 X 1 dX4_readsItem_32 rfl rfl rfl ?_
  refine v_bipush (v := 107) 35 X dX4_readsItem_33 rfl kb_107 ?_
  refine v_bipush (v := 105) 37 X dX4_readsItem_35 rfl kb_105 ?_
  refine v_bipush (v := 110) 39 X dX4_readsItem_37 rfl kb_110 ?_
  refine v_bipush (v := 100) 41 X dX4_readsItem_39 rfl kb_100 ?_
  obtain ⟨z41, hz41, hF⟩ := ob hF
  refine v_mSl 44 X 4 [.int 107, .int 105, .int 110, .int 100] (w_X4_spelled 107 105 110 100 _ hz41) q1494 q1495 q95 q1496 hdX4_spelled pass_no ⟨rfl, rfl⟩ ⟨Nat.le_of_ble_eq_true rfl, Nat.le_of_ble_eq_true rfl⟩ ⟨Nat.le_refl 0, Nat.le_refl 0⟩ rfl rfl (Nat.le_of_ble_eq_true rfl) dX4_readsItem_41 rfl ?_
  refine v_lcmp 45 X dX4_readsItem_44 rfl ?_
  refine v_if_ne 48 70 X dX4_readsItem_45 rfl (by decide) (fun h45 => ?_) (fun h45 => ?_)
  · replace hF := ifn h45 hF
    refine v_lload_n 71 X 1 dX4_readsItem_70 rfl rfl rfl ?_
    refine v_bipush (v := 114) 73 X dX4_readsItem_71 rfl kb_114 ?_
    refine v_bipush (v := 111) 75 X dX4_readsItem_73 rfl kb_111 ?_
    refine v_bipush (v := 119) 77 X dX4_readsItem_75 rfl kb_119 ?_
    refine v_iconst (v := 0) 78 X dX4_readsItem_77 rfl ki_0 ?_
    obtain ⟨z78, hz78, hF⟩ := ob hF
    refine v_mSl 81 X 4 [.int 114, .int 111, .int 119, .int 0] (w_X4_spelled 114 111 119 0 _ hz78) q1494 q1495 q95 q1496 hdX4_spelled pass_no ⟨rfl, rfl⟩ ⟨Nat.le_of_ble_eq_true rfl, Nat.le_of_ble_eq_true rfl⟩ ⟨Nat.le_refl 0, Nat.le_refl 0⟩ rfl rfl (Nat.le_of_ble_eq_true rfl) dX4_readsItem_78 rfl ?_
    refine v_lcmp 82 X dX4_readsItem_81 rfl ?_
    refine v_if_ne 85 92 X dX4_readsItem_82 rfl (by decide) (fun h82 => ?_) (fun h82 => ?_)
    · replace hF := ifn h82 hF
      refine v_lload_n 93 X 1 dX4_readsItem_92 rfl rfl rfl ?_
      refine v_bipush (v := 102) 95 X dX4_readsItem_93 rfl kb_102 ?_
      refine v_bipush (v := 105) 97 X dX4_readsItem_95 rfl kb_105 ?_
      refine v_bipush (v := 108) 99 X dX4_readsItem_97 rfl kb_108 ?_
      refine v_bipush (v := 108) 101 X dX4_readsItem_99 rfl kb_108 ?_
      obtain ⟨z101, hz101, hF⟩ := ob hF
      refine v_mSl 104 X 4 [.int 102, .int 105, .int 108, .int 108] (w_X4_spelled 102 105 108 108 _ hz101) q1494 q1495 q95 q1496 hdX4_spelled pass_no ⟨rfl, rfl⟩ ⟨Nat.le_of_ble_eq_true rfl, Nat.le_of_ble_eq_true rfl⟩ ⟨Nat.le_refl 0, Nat.le_refl 0⟩ rfl rfl (Nat.le_of_ble_eq_true rfl) dX4_readsItem_101 rfl ?_
      refine v_lcmp 105 X dX4_readsItem_104 rfl ?_
      refine v_if_ne 108 134 X dX4_readsItem_105 rfl (by decide) (fun h105 => ?_) (fun h105 => ?_)
      · replace hF := ifn h105 hF
        refine v_lload_n 135 X 1 dX4_readsItem_134 rfl rfl rfl ?_
        refine v_bipush (v := 118) 137 X dX4_readsItem_135 rfl kb_118 ?_
        refine v_bipush (v := 97) 139 X dX4_readsItem_137 rfl kb_97 ?_
        refine v_bipush (v := 108) 141 X dX4_readsItem_139 rfl kb_108 ?_
        refine v_bipush (v := 118) 143 X dX4_readsItem_141 rfl kb_118 ?_
        obtain ⟨z143, hz143, hF⟩ := ob hF
        refine v_mSl 146 X 4 [.int 118, .int 97, .int 108, .int 118] (w_X4_spelled 118 97 108 118 _ hz143) q1494 q1495 q95 q1496 hdX4_spelled pass_no ⟨rfl, rfl⟩ ⟨Nat.le_of_ble_eq_true rfl, Nat.le_of_ble_eq_true rfl⟩ ⟨Nat.le_refl 0, Nat.le_refl 0⟩ rfl rfl (Nat.le_of_ble_eq_true rfl) dX4_readsItem_143 rfl ?_
        refine v_bipush (v := 101) 148 X dX4_readsItem_146 rfl kb_101 ?_
        refine v_iconst (v := 0) 149 X dX4_readsItem_148 rfl ki_0 ?_
        refine v_iconst (v := 0) 150 X dX4_readsItem_149 rfl ki_0 ?_
        refine v_iconst (v := 0) 151 X dX4_readsItem_150 rfl ki_0 ?_
        obtain ⟨z151, hz151, hF⟩ := ob hF
        refine v_mSl 154 X 5 [.long z143, .int 101, .int 0, .int 0, .int 0] (w_X4_longer z143 101 0 0 0 _ hz151) q1509 q1510 q95 q1511 hdX4_longer pass_no ⟨rfl, rfl⟩ ⟨Nat.le_of_ble_eq_true rfl, Nat.le_of_ble_eq_true rfl⟩ ⟨Nat.le_refl 0, Nat.le_refl 0⟩ rfl rfl (Nat.le_of_ble_eq_true rfl) dX4_readsItem_151 rfl ?_
        refine v_lcmp 155 X dX4_readsItem_154 rfl ?_
        refine v_if_ne 158 165 X dX4_readsItem_155 rfl (by decide) (fun h155 => ?_) (fun h155 => ?_)
        · replace hF := ifn h155 hF
          refine v_lload_n 166 X 1 dX4_readsItem_165 rfl rfl rfl ?_
          refine v_bipush (v := 115) 168 X dX4_readsItem_166 rfl kb_115 ?_
          refine v_bipush (v := 111) 170 X dX4_readsItem_168 rfl kb_111 ?_
          refine v_bipush (v := 117) 172 X dX4_readsItem_170 rfl kb_117 ?_
          refine v_bipush (v := 114) 174 X dX4_readsItem_172 rfl kb_114 ?_
          obtain ⟨z174, hz174, hF⟩ := ob hF
          refine v_mSl 177 X 4 [.int 115, .int 111, .int 117, .int 114] (w_X4_spelled 115 111 117 114 _ hz174) q1494 q1495 q95 q1496 hdX4_spelled pass_no ⟨rfl, rfl⟩ ⟨Nat.le_of_ble_eq_true rfl, Nat.le_of_ble_eq_true rfl⟩ ⟨Nat.le_refl 0, Nat.le_refl 0⟩ rfl rfl (Nat.le_of_ble_eq_true rfl) dX4_readsItem_174 rfl ?_
          refine v_bipush (v := 99) 179 X dX4_readsItem_177 rfl kb_99 ?_
          refine v_bipush (v := 101) 181 X dX4_readsItem_179 rfl kb_101 ?_
          refine v_iconst (v := 0) 182 X dX4_readsItem_181 rfl ki_0 ?_
          refine v_iconst (v := 0) 183 X dX4_readsItem_182 rfl ki_0 ?_
          obtain ⟨z183, hz183, hF⟩ := ob hF
          refine v_mSl 186 X 5 [.long z174, .int 99, .int 101, .int 0, .int 0] (w_X4_longer z174 99 101 0 0 _ hz183) q1509 q1510 q95 q1511 hdX4_longer pass_no ⟨rfl, rfl⟩ ⟨Nat.le_of_ble_eq_true rfl, Nat.le_of_ble_eq_true rfl⟩ ⟨Nat.le_refl 0, Nat.le_refl 0⟩ rfl rfl (Nat.le_of_ble_eq_true rfl) dX4_readsItem_183 rfl ?_
          refine v_lcmp 187 X dX4_readsItem_186 rfl ?_
          refine v_if_ne 190 197 X dX4_readsItem_187 rfl (by decide) (fun h187 => ?_) (fun h187 => ?_)
          · replace hF := ifn h187 hF
            refine v_lload_n 198 X 1 dX4_readsItem_197 rfl rfl rfl ?_
            refine v_bipush (v := 97) 200 X dX4_readsItem_198 rfl kb_97 ?_
            refine v_bipush (v := 116) 202 X dX4_readsItem_200 rfl kb_116 ?_
            refine v_iconst (v := 0) 203 X dX4_readsItem_202 rfl ki_0 ?_
            refine v_iconst (v := 0) 204 X dX4_readsItem_203 rfl ki_0 ?_
            obtain ⟨z204, hz204, hF⟩ := ob hF
            refine v_mSl 207 X 4 [.int 97, .int 116, .int 0, .int 0] (w_X4_spelled 97 116 0 0 _ hz204) q1494 q1495 q95 q1496 hdX4_spelled pass_no ⟨rfl, rfl⟩ ⟨Nat.le_of_ble_eq_true rfl, Nat.le_of_ble_eq_true rfl⟩ ⟨Nat.le_refl 0, Nat.le_refl 0⟩ rfl rfl (Nat.le_of_ble_eq_true rfl) dX4_readsItem_204 rfl ?_
            refine v_lcmp 208 X dX4_readsItem_207 rfl ?_
            refine v_if_ne 211 247 X dX4_readsItem_208 rfl (by decide) (fun h208 => ?_) (fun h208 => ?_)
            · replace hF := ifn h208 hF
              refine v_aload_n 248 X 0 dX4_readsItem_247 rfl rfl rfl ?_
              refine v_iconst (v := 1) 249 X dX4_readsItem_248 rfl ki_1 ?_
              refine v_put 252 (MW D a now past kept text queue isMet clusterOf fresh saved length met clusters frm ende 1) X in_X4 tyX4_ok nmX4 0 14 rfl rfl (by decide) q1186 rfl rfl rfl rfl rfl (Nat.le_of_ble_eq_true rfl) dX4_readsItem_249 rfl rfl ?_
              exact v_lv [0] rfl (w_X4_readsItem_j252 X hr hF)
            · replace hF := ifp h208 hF
              refine v_aload_n 212 X 0 dX4_readsItem_211 rfl rfl rfl ?_
              refine v_iconst (v := 0) 213 X dX4_readsItem_212 rfl ki_0 ?_
              refine v_bipush (v := 100) 215 X dX4_readsItem_213 rfl kb_100 ?_
              obtain ⟨z215, hz215, hF⟩ := ob hF
              refine v_mVi 218 X 2 [.int 0, .int 100] (w_X4_number 0 100 _ hz215) q1501 q1503 qs75 q95 q1504 hdX4_number 0 rfl rfl pass_no ⟨rfl, rfl⟩ ⟨Nat.le_of_ble_eq_true rfl, Nat.le_of_ble_eq_true rfl⟩ ⟨Nat.le_refl 0, Nat.le_refl 0⟩ rfl rfl (Nat.le_of_ble_eq_true rfl) dX4_readsItem_215 rfl ?_
              refine v_istore 220 [(4, .int z215.1), (0, .ref (a 0)), (2, .long v2)] X dX4_readsItem_218 rfl (by decide) rfl ?_
              refine v_aload_n 221 X 1 dX4_readsItem_220 rfl rfl rfl ?_
              refine v_get 224 X in_X4 0 0 rfl rfl (by decide) q1172 rfl rfl dX4_readsItem_221 rfl ?_
              refine v_iconst (v := 3) 225 X dX4_readsItem_224 rfl ki_3 ?_
              refine v_aload_n 226 X 1 dX4_readsItem_225 rfl rfl rfl ?_
              refine v_get 229 X in_X4 0 14 rfl rfl (by decide) q1186 rfl rfl dX4_readsItem_226 rfl ?_
              refine v_if_eq 232 241 X dX4_readsItem_229 rfl (by decide) (fun h229 => ?_) (fun h229 => ?_)
              · replace hF := ifp h229 hF
                refine v_iload 243 X 0 dX4_readsItem_241 rfl rfl ?_
                obtain ⟨z243, hz243, hF⟩ := ob hF
                refine v_iast 244 (MW D a z243 past kept text queue isMet clusterOf fresh saved length met clusters z215.2.1 z215.2.2.1 z215.2.2.2) X 1 hz243 rfl dX4_readsItem_243 rfl rfl ?_
                refine v_goto 252 X dX4_readsItem_244 (by decide) ?_
                exact v_lv [1] rfl (w_X4_readsItem_j252 X hr hF)
              · replace hF := ifn h229 hF
                refine v_aload_n 233 X 1 dX4_readsItem_232 rfl rfl rfl ?_
                refine v_get 236 X in_X4 0 0 rfl rfl (by decide) q1172 rfl rfl dX4_readsItem_233 rfl ?_
                refine v_iconst (v := 3) 237 X dX4_readsItem_236 rfl ki_3 ?_
                obtain ⟨z237, hz237, hF⟩ := ob hF
                refine v_iald 238 X 1 hz237 rfl dX4_readsItem_237 rfl ?_
                refine v_goto 243 X dX4_readsItem_238 (by decide) ?_
                obtain ⟨z243, hz243, hF⟩ := ob hF
                refine v_iast 244 (MW D a z243 past kept text queue isMet clusterOf fresh saved length met clusters z215.2.1 z215.2.2.1 z215.2.2.2) X 1 hz243 rfl dX4_readsItem_243 rfl rfl ?_
                refine v_goto 252 X dX4_readsItem_244 (by decide) ?_
                exact v_lv [1] rfl (w_X4_readsItem_j252 X hr hF)
          · replace hF := ifp h187 hF
            refine v_aload_n 191 X 0 dX4_readsItem_190 rfl rfl rfl ?_
            obtain ⟨z191, hz191, hF⟩ := ob hF
            refine v_mVv 194 X 0 [] (w_X4_readsSource _ hz191) q1524 q1526 qs80 q95 q1527 hdX4_readsSource 0 rfl rfl pass_no ⟨rfl, rfl⟩ ⟨Nat.le_of_ble_eq_true rfl, Nat.le_of_ble_eq_true rfl⟩ ⟨Nat.le_refl 0, Nat.le_refl 0⟩ rfl rfl (Nat.le_of_ble_eq_true rfl) dX4_readsItem_191 rfl ?_
            refine v_goto 252 X dX4_readsItem_194 (by decide) ?_
            exact v_lv [0] rfl (w_X4_readsItem_j252 X hr hF)
        · replace hF := ifp h155 hF
          refine v_aload_n 159 X 0 dX4_readsItem_158 rfl rfl rfl ?_
          obtain ⟨z159, hz159, hF⟩ := ob hF
          refine v_mVv 162 X 0 [] (w_X4_readsValve _ hz159) q1516 q1518 qs78 q95 q1519 hdX4_readsValve 0 rfl rfl pass_no ⟨rfl, rfl⟩ ⟨Nat.le_of_ble_eq_true rfl, Nat.le_of_ble_eq_true rfl⟩ ⟨Nat.le_refl 0, Nat.le_refl 0⟩ rfl rfl (Nat.le_of_ble_eq_true rfl) dX4_readsItem_159 rfl ?_
          refine v_goto 252 X dX4_readsItem_162 (by decide) ?_
          exact v_lv [0] rfl (w_X4_readsItem_j252 X hr hF)
      · replace hF := ifp h105 hF
        refine v_aload_n 109 X 0 dX4_readsItem_108 rfl rfl rfl ?_
        refine v_iconst (v := 0) 110 X dX4_readsItem_109 rfl ki_0 ?_
        refine v_sipush (v := 9999) 113 X dX4_readsItem_110 rfl ks_9999 ?_
        obtain ⟨z113, hz113, hF⟩ := ob hF
        refine v_mVi 116 X 2 [.int 0, .int 9999] (w_X4_number 0 9999 _ hz113) q1501 q1503 qs75 q95 q1504 hdX4_number 0 rfl rfl pass_no ⟨rfl, rfl⟩ ⟨Nat.le_of_ble_eq_true rfl, Nat.le_of_ble_eq_true rfl⟩ ⟨Nat.le_refl 0, Nat.le_refl 0⟩ rfl rfl (Nat.le_of_ble_eq_true rfl) dX4_readsItem_113 rfl ?_
        refine v_istore 118 [(4, .int z113.1), (0, .ref (a 0)), (2, .long v2)] X dX4_readsItem_116 rfl (by decide) rfl ?_
        refine v_aload_n 119 X 1 dX4_readsItem_118 rfl rfl rfl ?_
        refine v_get 122 X in_X4 0 14 rfl rfl (by decide) q1186 rfl rfl dX4_readsItem_119 rfl ?_
        refine v_if_ne 125 131 X dX4_readsItem_122 rfl (by decide) (fun h122 => ?_) (fun h122 => ?_)
        · replace hF := ifn h122 hF
          refine v_goto 252 X dX4_readsItem_131 (by decide) ?_
          exact v_lv [1] rfl (w_X4_readsItem_j252 X hr hF)
        · replace hF := ifp h122 hF
          refine v_aload_n 126 X 1 dX4_readsItem_125 rfl rfl rfl ?_
          refine v_iload 128 X 0 dX4_readsItem_126 rfl rfl ?_
          obtain ⟨z128, hz128, hF⟩ := ob hF
          refine v_mVv 131 X 1 [.int z113.1] (w_X4_fills z113.1 _ hz128) q1269 q1271 qs44 q95 q1272 hdX4_fills 0 rfl rfl pass_no ⟨rfl, rfl⟩ ⟨Nat.le_of_ble_eq_true rfl, Nat.le_of_ble_eq_true rfl⟩ ⟨Nat.le_refl 0, Nat.le_refl 0⟩ rfl rfl (Nat.le_of_ble_eq_true rfl) dX4_readsItem_128 rfl ?_
          refine v_goto 252 X dX4_readsItem_131 (by decide) ?_
          exact v_lv [1] rfl (w_X4_readsItem_j252 X hr hF)
    · replace hF := ifp h82 hF
      refine v_aload_n 86 X 0 dX4_readsItem_85 rfl rfl rfl ?_
      obtain ⟨z86, hz86, hF⟩ := ob hF
      refine v_mVv 89 X 0 [] (w_X4_readsRow _ hz86) q1512 q1514 qs77 q95 q1515 hdX4_readsRow 0 rfl rfl pass_no ⟨rfl, rfl⟩ ⟨Nat.le_of_ble_eq_true rfl, Nat.le_of_ble_eq_true rfl⟩ ⟨Nat.le_refl 0, Nat.le_refl 0⟩ rfl rfl (Nat.le_of_ble_eq_true rfl) dX4_readsItem_86 rfl ?_
      refine v_goto 252 X dX4_readsItem_89 (by decide) ?_
      exact v_lv [0] rfl (w_X4_readsItem_j252 X hr hF)
  · replace hF := ifp h45 hF
    refine v_aload_n 49 X 0 dX4_readsItem_48 rfl rfl rfl ?_
    obtain ⟨z49, hz49, hF⟩ := ob hF
    refine v_mVi 52 X 0 [] (w_X4_kindTold _ hz49) q1505 q1507 qs76 q95 q1508 hdX4_kindTold 0 rfl rfl pass_no ⟨rfl, rfl⟩ ⟨Nat.le_of_ble_eq_true rfl, Nat.le_of_ble_eq_true rfl⟩ ⟨Nat.le_refl 0, Nat.le_refl 0⟩ rfl rfl (Nat.le_of_ble_eq_true rfl) dX4_readsItem_49 rfl ?_
    refine v_istore 54 [(4, .int z49.1), (0, .ref (a 0)), (2, .long v2)] X dX4_readsItem_52 rfl (by decide) rfl ?_
    refine v_aload_n 55 X 1 dX4_readsItem_54 rfl rfl rfl ?_
    refine v_get 58 X in_X4 0 14 rfl rfl (by decide) q1186 rfl rfl dX4_readsItem_55 rfl ?_
    refine v_if_ne 61 67 X dX4_readsItem_58 rfl (by decide) (fun h58 => ?_) (fun h58 => ?_)
    · replace hF := ifn h58 hF
      refine v_goto 252 X dX4_readsItem_67 (by decide) ?_
      exact v_lv [1] rfl (w_X4_readsItem_j252 X hr hF)
    · replace hF := ifp h58 hF
      refine v_aload_n 62 X 1 dX4_readsItem_61 rfl rfl rfl ?_
      refine v_iload 64 X 0 dX4_readsItem_62 rfl rfl ?_
      obtain ⟨z64, hz64, hF⟩ := ob hF
      refine v_mVv 67 X 1 [.int z49.1] (w_X4_kinds z49.1 _ hz64) q1241 q1243 qs39 q95 q1244 hdX4_kinds 0 rfl rfl pass_no ⟨rfl, rfl⟩ ⟨Nat.le_of_ble_eq_true rfl, Nat.le_of_ble_eq_true rfl⟩ ⟨Nat.le_refl 0, Nat.le_refl 0⟩ rfl rfl (Nat.le_of_ble_eq_true rfl) dX4_readsItem_64 rfl ?_
      refine v_goto 252 X dX4_readsItem_67 (by decide) ?_
      exact v_lv [1] rfl (w_X4_readsItem_j252 X hr hF)
theorem w_X4_readsItem (v1 : Int32) (r : (Nat → Int32) × Int32 × Int32 × Int32) (hF : M_readsItem now text length frm ende wrong v1 = some r) : CTv l yX4_readsItem cX4_readsItem 5 (Option.none : Option Jvm.ClassFile.FieldType) rmX4_readsItem D (MW D a now past kept text queue isMet clusterOf fresh saved length met clusters frm ende wrong) [.ref (a 0), .int v1] NoX (fun u => u = (MW D a r.1 past kept text queue isMet clusterOf fresh saved length met clusters r.2.1 r.2.2.1 r.2.2.2)) := by
  refine m_v (by decide) (Nat.le_of_ble_eq_true rfl) ?_
  intro p e s m args below meth c A B
  obtain ⟨X, hr, -, -, -, -⟩ := B
  replace X : CX p s m args meth c D A cX4_readsItem 5 "DyeLatticeModel" := X
  refine v_lv (lv' := [(0, .ref (a 0)), (1, .int v1)]) [0, 1] rfl ?_
  unfold M_readsItem at hF
  refine v_aload_n 1 X 0 dX4_readsItem_0 rfl rfl rfl ?_
  obtain ⟨z1, hz1, hF⟩ := ob hF
  refine v_mVl 4 X 0 [] (w_X4_word _ hz1) q1487 q1489 qs73 q95 q1490 hdX4_word 0 rfl rfl pass_no ⟨rfl, rfl⟩ ⟨Nat.le_of_ble_eq_true rfl, Nat.le_of_ble_eq_true rfl⟩ ⟨Nat.le_refl 0, Nat.le_refl 0⟩ rfl rfl (Nat.le_of_ble_eq_true rfl) dX4_readsItem_1 rfl ?_
  refine v_lstore_n 5 [(2, .long z1), (0, .ref (a 0)), (1, .int v1)] X dX4_readsItem_4 rfl rfl (by decide) rfl ?_
  refine v_lload_n 6 X 0 dX4_readsItem_5 rfl rfl rfl ?_
  refine v_bipush (v := 115) 8 X dX4_readsItem_6 rfl kb_115 ?_
  refine v_bipush (v := 105) 10 X dX4_readsItem_8 rfl kb_105 ?_
  refine v_bipush (v := 122) 12 X dX4_readsItem_10 rfl kb_122 ?_
  refine v_bipush (v := 101) 14 X dX4_readsItem_12 rfl kb_101 ?_
  obtain ⟨z14, hz14, hF⟩ := ob hF
  refine v_mSl 17 X 4 [.int 115, .int 105, .int 122, .int 101] (w_X4_spelled 115 105 122 101 _ hz14) q1494 q1495 q95 q1496 hdX4_spelled pass_no ⟨rfl, rfl⟩ ⟨Nat.le_of_ble_eq_true rfl, Nat.le_of_ble_eq_true rfl⟩ ⟨Nat.le_refl 0, Nat.le_refl 0⟩ rfl rfl (Nat.le_of_ble_eq_true rfl) dX4_readsItem_14 rfl ?_
  refine v_lcmp 18 X dX4_readsItem_17 rfl ?_
  refine v_if_ne 21 32 X dX4_readsItem_18 rfl (by decide) (fun h18 => ?_) (fun h18 => ?_)
  · replace hF := ifn h18 hF
    exact v_lv [1, 0] rfl (w_X4_readsItem_j32 X hr z1 hF)
  · replace hF := ifp h18 hF
    refine v_iload_n 22 X 2 dX4_readsItem_21 rfl rfl rfl ?_
    refine v_if_ne 25 32 X dX4_readsItem_22 rfl (by decide) (fun h22 => ?_) (fun h22 => ?_)
    · replace hF := ifn h22 hF
      exact v_lv [1, 0] rfl (w_X4_readsItem_j32 X hr z1 hF)
    · replace hF := ifp h22 hF
      refine v_aload_n 26 X 1 dX4_readsItem_25 rfl rfl rfl ?_
      obtain ⟨z26, hz26, hF⟩ := ob hF
      refine v_mVv 29 X 0 [] (w_X4_readsSize _ hz26) q1497 q1499 qs74 q95 q1500 hdX4_readsSize 0 rfl rfl pass_no ⟨rfl, rfl⟩ ⟨Nat.le_of_ble_eq_true rfl, Nat.le_of_ble_eq_true rfl⟩ ⟨Nat.le_refl 0, Nat.le_refl 0⟩ rfl rfl (Nat.le_of_ble_eq_true rfl) dX4_readsItem_26 rfl ?_
      refine v_goto 252 X dX4_readsItem_29 (by decide) ?_
      exact v_lv [1] rfl (w_X4_readsItem_j252 X hr hF)
theorem w_X4_loads_2 (X : CX p s m args meth c D A cX4_loads 3 "DyeLatticeModel") : ∀ (n : Nat) (x : Int32 × (Nat → Int32) × (Nat → Int32)) (o : ((Nat → Int32) × (Nat → Int32))), loopN (fun x => M_loads_2 x.1 x.2.1 x.2.2) n x = some o → (V p l e rmX4_loads s m args below meth c D A 3 Q (MW D a o.1 past o.2 text queue isMet clusterOf fresh saved length met clusters frm ende wrong) 0 0 41 [(0, .ref (a 0))] []) → V p l e rmX4_loads s m args below meth c D A 3 Q (MW D a x.2.1 past x.2.2 text queue isMet clusterOf fresh saved length met clusters frm ende wrong) 0 0 2 [(0, .ref (a 0)), (1, .int x.1)] [] := by
  refine v_loop (fun (x : Int32 × (Nat → Int32) × (Nat → Int32)) => V p l e rmX4_loads s m args below meth c D A 3 Q (MW D a x.2.1 past x.2.2 text queue isMet clusterOf fresh saved length met clusters frm ende wrong) 0 0 2 [(0, .ref (a 0)), (1, .int x.1)] []) (fun (o : ((Nat → Int32) × (Nat → Int32))) => V p l e rmX4_loads s m args below meth c D A 3 Q (MW D a o.1 past o.2 text queue isMet clusterOf fresh saved length met clusters frm ende wrong) 0 0 41 [(0, .ref (a 0))] []) ?_
  rintro ⟨v1, now, kept⟩ r hF hI hO
  replace hF : M_loads_2 v1 now kept = some r := hF
  show V p l e rmX4_loads s m args below meth c D A 3 Q (MW D a now past kept text queue isMet clusterOf fresh saved length met clusters frm ende wrong) 0 0 2 [(0, .ref (a 0)), (1, .int v1)] []
  unfold M_loads_2 at hF
  refine v_iload_n 3 X 1 dX4_loads_2 rfl rfl rfl ?_
  refine v_sipush (v := 647) 6 X dX4_loads_3 rfl ks_647 ?_
  refine v_icmp_ge 9 41 X dX4_loads_6 rfl (by decide) (fun h6 => ?_) (fun h6 => ?_)
  · replace hF := ifp h6 hF
    obtain rfl := Option.some.inj hF
    exact v_lv [0] rfl (hO _ rfl)
  · replace hF := ifn h6 hF
    refine v_aload_n 10 X 0 dX4_loads_9 rfl rfl rfl ?_
    refine v_get 13 X in_X4 0 0 rfl rfl (by decide) q1172 rfl rfl dX4_loads_10 rfl ?_
    refine v_iload_n 14 X 1 dX4_loads_13 rfl rfl rfl ?_
    obtain ⟨z14, hz14, hF⟩ := ob hF
    refine v_iald 15 X 1 hz14 rfl dX4_loads_14 rfl ?_
    refine v_istore_n 16 [(2, .int z14), (0, .ref (a 0)), (1, .int v1)] X dX4_loads_15 rfl rfl (by decide) rfl ?_
    refine v_aload_n 17 X 1 dX4_loads_16 rfl rfl rfl ?_
    refine v_get 20 X in_X4 0 0 rfl rfl (by decide) q1172 rfl rfl dX4_loads_17 rfl ?_
    refine v_iload_n 21 X 2 dX4_loads_20 rfl rfl rfl ?_
    refine v_aload_n 22 X 1 dX4_loads_21 rfl rfl rfl ?_
    refine v_get 25 X in_X4 0 2 rfl rfl (by decide) q1174 rfl rfl dX4_loads_22 rfl ?_
    refine v_iload_n 26 X 2 dX4_loads_25 rfl rfl rfl ?_
    obtain ⟨z26, hz26, hF⟩ := ob hF
    refine v_iald 27 X 3 hz26 rfl dX4_loads_26 rfl ?_
    obtain ⟨z27, hz27, hF⟩ := ob hF
    refine v_iast 28 (MW D a z27 past kept text queue isMet clusterOf fresh saved length met clusters frm ende wrong) X 1 hz27 rfl dX4_loads_27 rfl rfl ?_
    refine v_aload_n 29 X 1 dX4_loads_28 rfl rfl rfl ?_
    refine v_get 32 X in_X4 0 2 rfl rfl (by decide) q1174 rfl rfl dX4_loads_29 rfl ?_
    refine v_iload_n 33 X 2 dX4_loads_32 rfl rfl rfl ?_
    refine v_iload_n 34 X 0 dX4_loads_33 rfl rfl rfl ?_
    obtain ⟨z34, hz34, hF⟩ := ob hF
    refine v_iast 35 (MW D a z27 past z34 text queue isMet clusterOf fresh saved length met clusters frm ende wrong) X 3 hz34 rfl dX4_loads_34 rfl rfl ?_
    refine v_iinc (v := (v1 + 1)) 38 [(1, .int (v1 + 1)), (2, .int z14), (0, .ref (a 0))] X 2 dX4_loads_35 rfl rfl (by rfl) (by decide) rfl ?_
    refine v_goto 2 X dX4_loads_38 (by decide) ?_
    obtain rfl := Option.some.inj hF
    exact v_lv [2, 0] rfl (hI _ rfl)
theorem w_X4_loads (r : (Nat → Int32) × (Nat → Int32) × (Nat → Int32) × Int32) (hF : M_loads now past kept saved = some r) : CTv l yX4_loads cX4_loads 3 (Option.none : Option Jvm.ClassFile.FieldType) rmX4_loads D (MW D a now past kept text queue isMet clusterOf fresh saved length met clusters frm ende wrong) [.ref (a 0)] NoX (fun u => u = (MW D a r.1 r.2.1 r.2.2.1 text queue isMet clusterOf fresh r.2.2.2 length met clusters frm ende wrong)) := by
  refine m_v (by decide) (Nat.le_of_ble_eq_true rfl) ?_
  intro p e s m args below meth c A B
  obtain ⟨X, hr, -, -, -, -⟩ := B
  replace X : CX p s m args meth c D A cX4_loads 3 "DyeLatticeModel" := X
  refine v_lv (lv' := [(0, .ref (a 0))]) [0] rfl ?_
  unfold M_loads at hF
  refine v_iconst (v := 0) 1 X dX4_loads_0 rfl ki_0 ?_
  refine v_istore_n 2 [(1, .int 0), (0, .ref (a 0))] X dX4_loads_1 rfl rfl (by decide) rfl ?_
  obtain ⟨z2, hz2, hF⟩ := ob hF
  refine v_lv [1, 0] rfl (w_X4_loads_2 X _ (0, now, kept) _ hz2 ?_)
  refine v_aload_n 42 X 0 dX4_loads_41 rfl rfl rfl ?_
  obtain ⟨z42, hz42, hF⟩ := ob hF
  refine v_mVv 45 X 0 [] (w_X4_saves _ hz42) q1229 q1231 qs37 q95 q1232 hdX4_saves 0 rfl rfl pass_no ⟨rfl, rfl⟩ ⟨Nat.le_of_ble_eq_true rfl, Nat.le_of_ble_eq_true rfl⟩ ⟨Nat.le_refl 0, Nat.le_refl 0⟩ rfl rfl (Nat.le_of_ble_eq_true rfl) dX4_loads_42 rfl ?_
  refine v_aload_n 46 X 0 dX4_loads_45 rfl rfl rfl ?_
  obtain ⟨z46, hz46, hF⟩ := ob hF
  refine v_mVv 49 X 0 [] (w_X4_returns _ hz46) q1401 q1403 qs63 q95 q1404 hdX4_returns 0 rfl rfl pass_no ⟨rfl, rfl⟩ ⟨Nat.le_of_ble_eq_true rfl, Nat.le_of_ble_eq_true rfl⟩ ⟨Nat.le_refl 0, Nat.le_refl 0⟩ rfl rfl (Nat.le_of_ble_eq_true rfl) dX4_loads_46 rfl ?_
  obtain rfl := Option.some.inj hF
  exact v_vret X hr rfl (Nat.zero_le _) (Nat.zero_le _) dX4_loads_49
theorem w_X4_load_20 (X : CX p s m args meth c D A cX4_load 2 "DyeLatticeModel") : ∀ (n : Nat) (x : Int32 × (Nat → Int32) × Int32 × Int32 × Int32) (o : (Int32 × (Nat → Int32) × Int32 × Int32 × Int32)), loopN (fun x => M_load_20 text length x.1 x.2.1 x.2.2.1 x.2.2.2.1 x.2.2.2.2) n x = some o → (V p l e rmX4_load s m args below meth c D A 2 Q (MW D a o.2.1 past kept text queue isMet clusterOf fresh saved length met clusters o.2.2.1 o.2.2.2.1 o.2.2.2.2) 0 0 45 [(0, .ref (a 0)), (1, .int o.1)] []) → V p l e rmX4_load s m args below meth c D A 2 Q (MW D a x.2.1 past kept text queue isMet clusterOf fresh saved length met clusters x.2.2.1 x.2.2.2.1 x.2.2.2.2) 0 0 20 [(0, .ref (a 0)), (1, .int x.1)] [] := by
  refine v_loop (fun (x : Int32 × (Nat → Int32) × Int32 × Int32 × Int32) => V p l e rmX4_load s m args below meth c D A 2 Q (MW D a x.2.1 past kept text queue isMet clusterOf fresh saved length met clusters x.2.2.1 x.2.2.2.1 x.2.2.2.2) 0 0 20 [(0, .ref (a 0)), (1, .int x.1)] []) (fun (o : (Int32 × (Nat → Int32) × Int32 × Int32 × Int32)) => V p l e rmX4_load s m args below meth c D A 2 Q (MW D a o.2.1 past kept text queue isMet clusterOf fresh saved length met clusters o.2.2.1 o.2.2.2.1 o.2.2.2.2) 0 0 45 [(0, .ref (a 0)), (1, .int o.1)] []) ?_
  rintro ⟨v1, now, frm, ende, wrong⟩ r hF hI hO
  replace hF : M_load_20 text length v1 now frm ende wrong = some r := hF
  show V p l e rmX4_load s m args below meth c D A 2 Q (MW D a now past kept text queue isMet clusterOf fresh saved length met clusters frm ende wrong) 0 0 20 [(0, .ref (a 0)), (1, .int v1)] []
  unfold M_load_20 at hF
  refine v_aload_n 21 X 0 dX4_load_20 rfl rfl rfl ?_
  refine v_get 24 X in_X4 0 14 rfl rfl (by decide) q1186 rfl rfl dX4_load_21 rfl ?_
  refine v_if_ne 27 45 X dX4_load_24 rfl (by decide) (fun h24 => ?_) (fun h24 => ?_)
  · replace hF := ifn h24 hF
    obtain rfl := Option.some.inj hF
    exact v_lv [0, 1] rfl (hO _ rfl)
  · replace hF := ifp h24 hF
    refine v_aload_n 28 X 0 dX4_load_27 rfl rfl rfl ?_
    obtain ⟨z28, hz28, hF⟩ := ob hF
    refine v_mVi 31 X 0 [] (w_X4_goes _ hz28) q1473 q1475 qs71 q95 q1476 hdX4_goes 0 rfl rfl pass_no ⟨rfl, rfl⟩ ⟨Nat.le_of_ble_eq_true rfl, Nat.le_of_ble_eq_true rfl⟩ ⟨Nat.le_refl 0, Nat.le_refl 0⟩ rfl rfl (Nat.le_of_ble_eq_true rfl) dX4_load_28 rfl ?_
    refine v_if_eq 34 45 X dX4_load_31 rfl (by decide) (fun h31 => ?_) (fun h31 => ?_)
    · replace hF := ifp h31 hF
      obtain rfl := Option.some.inj hF
      exact v_lv [0, 1] rfl (hO _ rfl)
    · replace hF := ifn h31 hF
      refine v_aload_n 35 X 0 dX4_load_34 rfl rfl rfl ?_
      refine v_iload_n 36 X 1 dX4_load_35 rfl rfl rfl ?_
      obtain ⟨z36, hz36, hF⟩ := ob hF
      refine v_mVv 39 X 1 [.int v1] (w_X4_readsItem v1 _ hz36) q1483 q1485 qs72 q95 q1486 hdX4_readsItem 0 rfl rfl pass_no ⟨rfl, rfl⟩ ⟨Nat.le_of_ble_eq_true rfl, Nat.le_of_ble_eq_true rfl⟩ ⟨Nat.le_refl 0, Nat.le_refl 0⟩ rfl rfl (Nat.le_of_ble_eq_true rfl) dX4_load_36 rfl ?_
      refine v_iinc (v := (v1 + 1)) 42 [(1, .int (v1 + 1)), (0, .ref (a 0))] X 1 dX4_load_39 rfl rfl (by rfl) (by decide) rfl ?_
      refine v_goto 20 X dX4_load_42 (by decide) ?_
      obtain rfl := Option.some.inj hF
      exact v_lv [1, 0] rfl (hI _ rfl)
theorem w_X4_load (r : Int32 × (Nat → Int32) × (Nat → Int32) × (Nat → Int32) × Int32 × Int32 × Int32 × Int32 × Int32) (hF : M_load now past kept text saved length frm ende wrong = some r) : CTi l yX4_load cX4_load 2 (Option.some Jvm.ClassFile.FieldType.int) rmX4_load D (MW D a now past kept text queue isMet clusterOf fresh saved length met clusters frm ende wrong) [.ref (a 0)] NoX (fun r1 u => r1 = r.1 ∧ u = (MW D a r.2.1 r.2.2.1 r.2.2.2.1 text queue isMet clusterOf fresh r.2.2.2.2.1 r.2.2.2.2.2.1 met clusters r.2.2.2.2.2.2.1 r.2.2.2.2.2.2.2.1 r.2.2.2.2.2.2.2.2)) := by
  refine m_i (by decide) (Nat.le_of_ble_eq_true rfl) ?_
  intro p e s m args below meth c A B
  obtain ⟨X, hr, -, -, -, -⟩ := B
  replace X : CX p s m args meth c D A cX4_load 2 "DyeLatticeModel" := X
  refine v_lv (lv' := [(0, .ref (a 0))]) [0] rfl ?_
  unfold M_load at hF
  refine v_aload_n 1 X 0 dX4_load_0 rfl rfl rfl ?_
  obtain ⟨z1, hz1, hF⟩ := ob hF
  refine v_mVv 4 X 0 [] (w_X4_keeps _ hz1) q1397 q1399 qs62 q95 q1400 hdX4_keeps 0 rfl rfl pass_no ⟨rfl, rfl⟩ ⟨Nat.le_of_ble_eq_true rfl, Nat.le_of_ble_eq_true rfl⟩ ⟨Nat.le_refl 0, Nat.le_refl 0⟩ rfl rfl (Nat.le_of_ble_eq_true rfl) dX4_load_1 rfl ?_
  refine v_aload_n 5 X 0 dX4_load_4 rfl rfl rfl ?_
  obtain ⟨z5, hz5, hF⟩ := ob hF
  refine v_mVv 8 X 0 [] (w_X4_begins _ hz5) q1164 q1166 qs35 q95 q1167 hdX4_begins 0 rfl rfl pass_no ⟨rfl, rfl⟩ ⟨Nat.le_of_ble_eq_true rfl, Nat.le_of_ble_eq_true rfl⟩ ⟨Nat.le_refl 0, Nat.le_refl 0⟩ rfl rfl (Nat.le_of_ble_eq_true rfl) dX4_load_5 rfl ?_
  refine v_aload_n 9 X 0 dX4_load_8 rfl rfl rfl ?_
  refine v_iconst (v := 0) 10 X dX4_load_9 rfl ki_0 ?_
  refine v_put 13 (MW D a z5 past z1 text queue isMet clusterOf fresh saved length met clusters frm 0 wrong) X in_X4 tyX4_ok nmX4 0 13 rfl rfl (by decide) q1185 rfl rfl rfl rfl rfl (Nat.le_of_ble_eq_true rfl) dX4_load_10 rfl rfl ?_
  refine v_aload_n 14 X 0 dX4_load_13 rfl rfl rfl ?_
  refine v_iconst (v := 0) 15 X dX4_load_14 rfl ki_0 ?_
  refine v_put 18 (MW D a z5 past z1 text queue isMet clusterOf fresh saved length met clusters frm 0 0) X in_X4 tyX4_ok nmX4 0 14 rfl rfl (by decide) q1186 rfl rfl rfl rfl rfl (Nat.le_of_ble_eq_true rfl) dX4_load_15 rfl rfl ?_
  refine v_iconst (v := 0) 19 X dX4_load_18 rfl ki_0 ?_
  refine v_istore_n 20 [(1, .int 0), (0, .ref (a 0))] X dX4_load_19 rfl rfl (by decide) rfl ?_
  obtain ⟨z20, hz20, hF⟩ := ob hF
  refine v_lv [1, 0] rfl (w_X4_load_20 X _ (0, z5, frm, 0, 0) _ hz20 ?_)
  refine v_aload_n 46 X 0 dX4_load_45 rfl rfl rfl ?_
  refine v_get 49 X in_X4 0 14 rfl rfl (by decide) q1186 rfl rfl dX4_load_46 rfl ?_
  refine v_if_eq 52 64 X dX4_load_49 rfl (by decide) (fun h49 => ?_) (fun h49 => ?_)
  · replace hF := ifp h49 hF
    refine v_aload_n 65 X 0 dX4_load_64 rfl rfl rfl ?_
    obtain ⟨z65, hz65, hF⟩ := ob hF
    refine v_mVv 68 X 0 [] (w_X4_loads _ hz65) q1532 q1534 qs82 q95 q1535 hdX4_loads 0 rfl rfl pass_no ⟨rfl, rfl⟩ ⟨Nat.le_of_ble_eq_true rfl, Nat.le_of_ble_eq_true rfl⟩ ⟨Nat.le_refl 0, Nat.le_refl 0⟩ rfl rfl (Nat.le_of_ble_eq_true rfl) dX4_load_65 rfl ?_
    refine v_aload_n 69 X 0 dX4_load_68 rfl rfl rfl ?_
    refine v_iconst (v := 0) 70 X dX4_load_69 rfl ki_0 ?_
    refine v_put 73 (MW D a z65.1 z65.2.1 z65.2.2.1 text queue isMet clusterOf fresh z65.2.2.2 0 met clusters z20.2.2.1 z20.2.2.2.1 z20.2.2.2.2) X in_X4 tyX4_ok nmX4 0 5 rfl rfl (by decide) q1177 rfl rfl rfl rfl rfl (Nat.le_of_ble_eq_true rfl) dX4_load_70 rfl rfl ?_
    refine v_iload_n 74 X 1 dX4_load_73 rfl rfl rfl ?_
    obtain rfl := Option.some.inj hF
    exact v_iret X hr ⟨rfl, rfl⟩ (Nat.zero_le _) (Nat.zero_le _) dX4_load_74
  · replace hF := ifn h49 hF
    refine v_aload_n 53 X 0 dX4_load_52 rfl rfl rfl ?_
    obtain ⟨z53, hz53, hF⟩ := ob hF
    refine v_mVv 56 X 0 [] (w_X4_returns _ hz53) q1401 q1403 qs63 q95 q1404 hdX4_returns 0 rfl rfl pass_no ⟨rfl, rfl⟩ ⟨Nat.le_of_ble_eq_true rfl, Nat.le_of_ble_eq_true rfl⟩ ⟨Nat.le_refl 0, Nat.le_refl 0⟩ rfl rfl (Nat.le_of_ble_eq_true rfl) dX4_load_53 rfl ?_
    refine v_bipush (v := (-10)) 58 X dX4_load_56 rfl kb_m10 ?_
    refine v_aload_n 59 X 0 dX4_load_58 rfl rfl rfl ?_
    refine v_get 62 X in_X4 0 12 rfl rfl (by decide) q1184 rfl rfl dX4_load_59 rfl ?_
    refine v_isub 63 X dX4_load_62 rfl ?_
    obtain rfl := Option.some.inj hF
    exact v_iret X hr ⟨rfl, rfl⟩ (Nat.zero_le _) (Nat.zero_le _) dX4_load_63
end
