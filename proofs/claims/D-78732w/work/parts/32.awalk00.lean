set_option maxRecDepth 100000
set_option maxHeartbeats 4000000
section
variable {p : Program} {l : Launch} {e : Env} {s : State} {m : MethodId} {args : Array Value} {below : List Frame} {meth : Method} {c : Code} {D : va_G} {A : Nat → Prop} {Q : State → Prop} {ws : va_W} {t1 t2 bm bc a0 hq tx he ne b0u : Nat} {el : Nat → Option Nat} {hd tl : Int32} {hs : List Nat} {fst fsu : List Value} {k0 k1 k2 : Int32} {mk clu : Nat → Int32} {b0 b1 b2 b3 b4 b5 n n4 kd : Nat} {cols rows thr bt tm rea : Int32} {gr so dy cg : Nat → Int32} {vl : Nat → Nat}
theorem w_J2_inc (ws : va_W) (v0 : Int32) (v1 : Int32) (r : Int32) (hF : J2_inc v0 v1 = some r) : CTi l yJ2_inc cJ2_inc 2 (Option.some Jvm.ClassFile.FieldType.int) rmJ2_inc D ws [.int v0, .int v1] (NoX) (fun r1 u => r1 = r ∧ u = ws) := by
  refine m_i (by decide) (Nat.le_of_ble_eq_true rfl) ?_
  intro p e s m args below meth c A B
  obtain ⟨X, hr, hAm, -, hnm, hnmd⟩ := B
  replace X : CX p s m args meth c D A cJ2_inc 2 "java/util/ArrayDeque" := X
  refine v_lv (lv' := [(0, .int v0), (1, .int v1)]) [0, 1] rfl ?_
  unfold J2_inc at hF
  refine v_iinc (v := (v0 + 1)) 3 [(0, .int (v0 + 1)), (1, .int v1)] X 0 dJ2_inc_0 rfl rfl (by rfl) (by decide) rfl ?_
  refine v_iload_n 4 X 0 dJ2_inc_3 rfl rfl rfl ?_
  refine v_iload_n 5 X 1 dJ2_inc_4 rfl rfl rfl ?_
  refine v_icmp_lt 8 10 X dJ2_inc_5 rfl (by decide) (fun h5 => ?_) (fun h5 => ?_)
  · replace hF := ifp h5 hF
    refine v_iload_n 11 X 0 dJ2_inc_10 rfl rfl rfl ?_
    obtain rfl := Option.some.inj hF
    exact v_iret X hr ⟨rfl, rfl⟩ (Nat.le_of_ble_eq_true rfl) (Nat.le_of_ble_eq_true rfl) dJ2_inc_11
  · replace hF := ifn h5 hF
    refine v_iconst (v := 0) 9 X dJ2_inc_8 rfl ki_0 ?_
    refine v_istore_n 10 [(0, .int 0), (1, .int v1)] X dJ2_inc_9 rfl rfl (by decide) rfl ?_
    refine v_iload_n 11 X 0 dJ2_inc_10 rfl rfl rfl ?_
    obtain rfl := Option.some.inj hF
    exact v_iret X hr ⟨rfl, rfl⟩ (Nat.le_of_ble_eq_true rfl) (Nat.le_of_ble_eq_true rfl) dJ2_inc_11
theorem w_J2_dec (ws : va_W) (v0 : Int32) (v1 : Int32) (r : Int32) (hF : J2_dec v0 v1 = some r) : CTi l yJ2_dec cJ2_dec 2 (Option.some Jvm.ClassFile.FieldType.int) rmJ2_dec D ws [.int v0, .int v1] (NoX) (fun r1 u => r1 = r ∧ u = ws) := by
  refine m_i (by decide) (Nat.le_of_ble_eq_true rfl) ?_
  intro p e s m args below meth c A B
  obtain ⟨X, hr, hAm, -, hnm, hnmd⟩ := B
  replace X : CX p s m args meth c D A cJ2_dec 2 "java/util/ArrayDeque" := X
  refine v_lv (lv' := [(0, .int v0), (1, .int v1)]) [0, 1] rfl ?_
  unfold J2_dec at hF
  refine v_iinc (v := (v0 + (-1))) 3 [(0, .int (v0 + (-1))), (1, .int v1)] X 0 dJ2_dec_0 rfl rfl (by rfl) (by decide) rfl ?_
  refine v_iload_n 4 X 0 dJ2_dec_3 rfl rfl rfl ?_
  refine v_if_ge 7 11 X dJ2_dec_4 rfl (by decide) (fun h4 => ?_) (fun h4 => ?_)
  · replace hF := ifp h4 hF
    refine v_iload_n 12 X 0 dJ2_dec_11 rfl rfl rfl ?_
    obtain rfl := Option.some.inj hF
    exact v_iret X hr ⟨rfl, rfl⟩ (Nat.le_of_ble_eq_true rfl) (Nat.le_of_ble_eq_true rfl) dJ2_dec_12
  · replace hF := ifn h4 hF
    refine v_iload_n 8 X 1 dJ2_dec_7 rfl rfl rfl ?_
    refine v_iconst (v := 1) 9 X dJ2_dec_8 rfl ki_1 ?_
    refine v_isub 10 X dJ2_dec_9 rfl ?_
    refine v_istore_n 11 [(0, .int (v1 - 1)), (1, .int v1)] X dJ2_dec_10 rfl rfl (by decide) rfl ?_
    refine v_iload_n 12 X 0 dJ2_dec_11 rfl rfl rfl ?_
    obtain rfl := Option.some.inj hF
    exact v_iret X hr ⟨rfl, rfl⟩ (Nat.le_of_ble_eq_true rfl) (Nat.le_of_ble_eq_true rfl) dJ2_dec_12
theorem w_J2_sub (ws : va_W) (v0 : Int32) (v1 : Int32) (v2 : Int32) (r : Int32) (hF : J2_sub v0 v1 v2 = some r) : CTi l yJ2_sub cJ2_sub 3 (Option.some Jvm.ClassFile.FieldType.int) rmJ2_sub D ws [.int v0, .int v1, .int v2] (NoX) (fun r1 u => r1 = r ∧ u = ws) := by
  refine m_i (by decide) (Nat.le_of_ble_eq_true rfl) ?_
  intro p e s m args below meth c A B
  obtain ⟨X, hr, hAm, -, hnm, hnmd⟩ := B
  replace X : CX p s m args meth c D A cJ2_sub 3 "java/util/ArrayDeque" := X
  refine v_lv (lv' := [(0, .int v0), (1, .int v1), (2, .int v2)]) [0, 1, 2] rfl ?_
  unfold J2_sub at hF
  refine v_iload_n 1 X 0 dJ2_sub_0 rfl rfl rfl ?_
  refine v_iload_n 2 X 1 dJ2_sub_1 rfl rfl rfl ?_
  refine v_isub 3 X dJ2_sub_2 rfl ?_
  refine v_dup 4 X dJ2_sub_3 rfl rfl ?_
  refine v_istore_n 5 [(0, .int (v0 - v1)), (1, .int v1), (2, .int v2)] X dJ2_sub_4 rfl rfl (by decide) rfl ?_
  refine v_if_ge 8 12 X dJ2_sub_5 rfl (by decide) (fun h5 => ?_) (fun h5 => ?_)
  · replace hF := ifp h5 hF
    refine v_iload_n 13 X 0 dJ2_sub_12 rfl rfl rfl ?_
    obtain rfl := Option.some.inj hF
    exact v_iret X hr ⟨rfl, rfl⟩ (Nat.le_of_ble_eq_true rfl) (Nat.le_of_ble_eq_true rfl) dJ2_sub_13
  · replace hF := ifn h5 hF
    refine v_iload_n 9 X 0 dJ2_sub_8 rfl rfl rfl ?_
    refine v_iload_n 10 X 2 dJ2_sub_9 rfl rfl rfl ?_
    refine v_iadd 11 X dJ2_sub_10 rfl ?_
    refine v_istore_n 12 [(0, .int ((v0 - v1) + v2)), (1, .int v1), (2, .int v2)] X dJ2_sub_11 rfl rfl (by decide) rfl ?_
    refine v_iload_n 13 X 0 dJ2_sub_12 rfl rfl rfl ?_
    obtain rfl := Option.some.inj hF
    exact v_iret X hr ⟨rfl, rfl⟩ (Nat.le_of_ble_eq_true rfl) (Nat.le_of_ble_eq_true rfl) dJ2_sub_13
theorem w_J1_init (ws : va_W) (v0 : Nat) (r : Unit) (hF : J1_init = some r) : CTv l yJ1_init cJ1_init 1 (Option.none : Option Jvm.ClassFile.FieldType) rmJ1_init D ws [.ref v0] (NoX) (fun u => u = ws) := by
  refine m_v (by decide) (Nat.le_of_ble_eq_true rfl) ?_
  intro p e s m args below meth c A B
  obtain ⟨X, hr, hAm, -, hnm, hnmd⟩ := B
  replace X : CX p s m args meth c D A cJ1_init 1 "java/util/AbstractCollection" := X
  refine v_lv (lv' := [(0, .ref v0)]) [0] rfl ?_
  unfold J1_init at hF
  refine v_aload_n 1 X 0 dJ1_init_0 rfl rfl rfl ?_
  refine v_objInit 4 X q200 (Nat.le_of_ble_eq_true rfl) (Nat.le_of_ble_eq_true rfl) dJ1_init_1 rfl ?_
  obtain rfl := Option.some.inj hF
  exact v_vret X hr rfl (Nat.le_of_ble_eq_true rfl) (Nat.le_of_ble_eq_true rfl) dJ1_init_4
theorem w_J2_init (r : Nat × (Nat → Option Nat)) (hF : J2_init = some r) : CTv l yJ2_init cJ2_init 1 (Option.none : Option Jvm.ClassFile.FieldType) rmJ2_init D ([(hq, .inr (8, [.null, .int 0, .int 0]))]) [.ref hq] (AMB D) (fun u => ∃ qa1 : Nat, u = ([(hq, .inr (8, [.ref qa1, .int 0, .int 0])), (qa1, .inl (D.1 103, r.1, .inr (.inr (.inr (.inr r.2)))))])) := by
  refine m_v (by decide) (Nat.le_of_ble_eq_true rfl) ?_
  intro p e s m args below meth c A B
  obtain ⟨X, hr, hAm, -, hnm, hnmd⟩ := B
  replace X : CX p s m args meth c D A cJ2_init 1 "java/util/ArrayDeque" := X
  refine v_lv (lv' := [(0, .ref hq)]) [0] rfl ?_
  unfold J2_init at hF
  refine v_aload_n 1 X 0 dJ2_init_0 rfl rfl rfl ?_
  obtain ⟨z1, hz1, hF⟩ := ob hF
  refine vc_Iv (wr := ([(hq, .inr (8, [.null, .int 0, .int 0]))])) 4 0 0 X 0 [] [] [0] ([] : va_W) rfl rfl (by decide) (by decide) (by decide) (w_J1_init ([] : va_W) hq _ hz1) q197 q198 rfl q89 q199 hdJ1_init.2 pass_no ⟨Nat.le_of_ble_eq_true rfl, Nat.le_of_ble_eq_true rfl⟩ ⟨(Nat.le_of_ble_eq_true rfl), (Nat.le_of_ble_eq_true rfl)⟩ rfl rfl (Nat.le_of_ble_eq_true rfl) dJ2_init_1 rfl rfl rfl (fun u1 e1 => ?_)
  subst e1
  refine v_ws (ws' := ([(hq, .inr (8, [.null, .int 0, .int 0]))])) [0] (by decide) rfl ?_
  refine v_aload_n 5 X 0 dJ2_init_4 rfl rfl rfl ?_
  refine v_bipush (v := 17) 7 X dJ2_init_5 rfl kb_17 ?_
  obtain ⟨z7, hz7, hF⟩ := ob hF
  refine v_newq (mx := 17) (t0 := 3) 10 1 17 X hAm hz7 q201 q202 rfl (Nat.le_of_ble_eq_true rfl) (Nat.le_of_ble_eq_true rfl) (Nat.le_of_ble_eq_true rfl) dJ2_init_7 rfl rfl rfl (fun q7 => ?_)
  refine v_ws (ws' := ([(hq, .inr (8, [.null, .int 0, .int 0])), (q7, .inl (D.1 103, z7, .inr (.inr (.inr (.inr (fun _ => none))))))])) [0, 1] (by decide) rfl ?_
  refine v_put 13 ([(hq, .inr (8, [.ref q7, .int 0, .int 0])), (q7, .inl (D.1 103, z7, .inr (.inr (.inr (.inr (fun _ => none))))))]) X in_J2 tyJ2_ok nmJ2 0 0 rfl rfl (by decide) q203 rfl rfl rfl rfl rfl (Nat.le_of_ble_eq_true rfl) dJ2_init_10 rfl rfl ?_
  obtain rfl := Option.some.inj hF
  exact v_vret X hr ⟨q7, rfl⟩ (Nat.le_of_ble_eq_true rfl) (Nat.le_of_ble_eq_true rfl) dJ2_init_13
theorem w_J2_elementAt (v1 : Int32) (r : Nat) (hF : J2_elementAt ne el v1 = some r) : CTr l yJ2_elementAt cJ2_elementAt 2 (Option.some (Jvm.ClassFile.FieldType.object "java/lang/Object")) rmJ2_elementAt D ([(he, .inl (D.1 103, ne, .inr (.inr (.inr (.inr el)))))]) [.ref he, .int v1] (AMB D) (fun a1 u => a1 = r ∧ u = ([(he, .inl (D.1 103, ne, .inr (.inr (.inr (.inr el)))))])) := by
  refine m_r (by decide) (Nat.le_of_ble_eq_true rfl) ?_
  intro p e s m args below meth c A B
  obtain ⟨X, hr, hAm, -, hnm, hnmd⟩ := B
  replace X : CX p s m args meth c D A cJ2_elementAt 2 "java/util/ArrayDeque" := X
  refine v_lv (lv' := [(0, .ref he), (1, .int v1)]) [0, 1] rfl ?_
  unfold J2_elementAt at hF
  refine v_aload_n 1 X 0 dJ2_elementAt_0 rfl rfl rfl ?_
  refine v_iload_n 2 X 1 dJ2_elementAt_1 rfl rfl rfl ?_
  obtain ⟨z2, hz2, hF⟩ := ob hF
  refine v_aldQ (C := "java/lang/Object") 3 X 0 3 hz2 rfl rfl dJ2_elementAt_2 rfl ?_
  obtain rfl := Option.some.inj hF
  refine v_aret (post := (fun r : Nat => (fun a1 u => a1 = r ∧ u = ([(he, .inl (D.1 103, ne, .inr (.inr (.inr (.inr el)))))]))) z2) X hr (Or.inl ⟨_, rfl⟩) ?_ ?_ ?_ dJ2_elementAt_3
  · exact ⟨rfl, rfl⟩
  · exact Nat.le_of_ble_eq_true rfl
  · exact Nat.le_of_ble_eq_true rfl
theorem w_J2_size (r : Int32) (hF : J2_size ne hd tl = some r) : CTi l yJ2_size cJ2_size 1 (Option.some Jvm.ClassFile.FieldType.int) rmJ2_size D ([(hq, .inr (8, [.ref he, .int hd, .int tl])), (he, .inl (D.1 103, ne, .inr (.inr (.inr (.inr el)))))]) [.ref hq] (AMB D) (fun r1 u => r1 = r ∧ u = ([(hq, .inr (8, [.ref he, .int hd, .int tl])), (he, .inl (D.1 103, ne, .inr (.inr (.inr (.inr el)))))])) := by
  refine m_i (by decide) (Nat.le_of_ble_eq_true rfl) ?_
  intro p e s m args below meth c A B
  obtain ⟨X, hr, hAm, -, hnm, hnmd⟩ := B
  replace X : CX p s m args meth c D A cJ2_size 1 "java/util/ArrayDeque" := X
  refine v_lv (lv' := [(0, .ref hq)]) [0] rfl ?_
  unfold J2_size at hF
  refine v_aload_n 1 X 0 dJ2_size_0 rfl rfl rfl ?_
  refine v_get 4 X in_J2 0 2 rfl rfl (by decide) q205 rfl rfl dJ2_size_1 rfl ?_
  refine v_aload_n 5 X 0 dJ2_size_4 rfl rfl rfl ?_
  refine v_get 8 X in_J2 0 1 rfl rfl (by decide) q204 rfl rfl dJ2_size_5 rfl ?_
  refine v_aload_n 9 X 0 dJ2_size_8 rfl rfl rfl ?_
  refine v_get 12 X in_J2 0 0 rfl rfl (by decide) q203 rfl rfl dJ2_size_9 rfl ?_
  refine v_alen 13 X 1 3 rfl rfl rfl dJ2_size_12 rfl ?_
  obtain ⟨z13, hz13, hF⟩ := ob hF
  refine v_mSi 16 X 3 [.int tl, .int hd, .int (nI ne)] (w_J2_sub ([(hq, .inr (8, [.ref he, .int hd, .int tl])), (he, .inl (D.1 103, ne, .inr (.inr (.inr (.inr el)))))]) tl hd (nI ne) _ hz13) q277 q278 q90 q279 hdJ2_sub pass_no ⟨rfl, rfl⟩ ⟨Nat.le_of_ble_eq_true rfl, Nat.le_of_ble_eq_true rfl⟩ ⟨(Nat.le_of_ble_eq_true rfl), (Nat.le_of_ble_eq_true rfl)⟩ rfl rfl (Nat.le_of_ble_eq_true rfl) dJ2_size_13 rfl ?_
  obtain rfl := Option.some.inj hF
  exact v_iret X hr ⟨rfl, rfl⟩ (Nat.le_of_ble_eq_true rfl) (Nat.le_of_ble_eq_true rfl) dJ2_size_16
theorem w_J2_isEmpty (r : Int32) (hF : J2_isEmpty hd tl = some r) : CTi l yJ2_isEmpty cJ2_isEmpty 1 (Option.some Jvm.ClassFile.FieldType.boolean) rmJ2_isEmpty D ([(hq, .inr (8, [.ref he, .int hd, .int tl])), (he, .inl (D.1 103, ne, .inr (.inr (.inr (.inr el)))))]) [.ref hq] (AMB D) (fun r1 u => r1 = r ∧ u = ([(hq, .inr (8, [.ref he, .int hd, .int tl])), (he, .inl (D.1 103, ne, .inr (.inr (.inr (.inr el)))))])) := by
  refine m_i (by decide) (Nat.le_of_ble_eq_true rfl) ?_
  intro p e s m args below meth c A B
  obtain ⟨X, hr, hAm, -, hnm, hnmd⟩ := B
  replace X : CX p s m args meth c D A cJ2_isEmpty 1 "java/util/ArrayDeque" := X
  refine v_lv (lv' := [(0, .ref hq)]) [0] rfl ?_
  unfold J2_isEmpty at hF
  refine v_aload_n 1 X 0 dJ2_isEmpty_0 rfl rfl rfl ?_
  refine v_get 4 X in_J2 0 1 rfl rfl (by decide) q204 rfl rfl dJ2_isEmpty_1 rfl ?_
  refine v_aload_n 5 X 0 dJ2_isEmpty_4 rfl rfl rfl ?_
  refine v_get 8 X in_J2 0 2 rfl rfl (by decide) q205 rfl rfl dJ2_isEmpty_5 rfl ?_
  refine v_icmp_ne 11 15 X dJ2_isEmpty_8 rfl (by decide) (fun h8 => ?_) (fun h8 => ?_)
  · replace hF := ifn h8 hF
    refine v_iconst (v := 0) 16 X dJ2_isEmpty_15 rfl ki_0 ?_
    obtain rfl := Option.some.inj hF
    exact v_zret X hr rfl ⟨rfl, rfl⟩ (Nat.le_of_ble_eq_true rfl) (Nat.le_of_ble_eq_true rfl) dJ2_isEmpty_16
  · replace hF := ifp h8 hF
    refine v_iconst (v := 1) 12 X dJ2_isEmpty_11 rfl ki_1 ?_
    refine v_goto 16 X dJ2_isEmpty_12 (by decide) ?_
    obtain rfl := Option.some.inj hF
    exact v_zret X hr rfl ⟨rfl, rfl⟩ (Nat.le_of_ble_eq_true rfl) (Nat.le_of_ble_eq_true rfl) dJ2_isEmpty_16
theorem w_J2_pollFirst (r : Nat × Int32 × (Nat → Option Nat)) (hF : J2_pollFirst ne el hd = some r) : CTr l yJ2_pollFirst cJ2_pollFirst 4 (Option.some (Jvm.ClassFile.FieldType.object "java/lang/Object")) rmJ2_pollFirst D ([(hq, .inr (8, [.ref he, .int hd, .int tl])), (he, .inl (D.1 103, ne, .inr (.inr (.inr (.inr el)))))]) [.ref hq] (AMB D) (fun a1 u => a1 = r.1 ∧ u = ([(hq, .inr (8, [.ref he, .int r.2.1, .int tl])), (he, .inl (D.1 103, ne, .inr (.inr (.inr (.inr r.2.2)))))])) := by
  refine m_r (by decide) (Nat.le_of_ble_eq_true rfl) ?_
  intro p e s m args below meth c A B
  obtain ⟨X, hr, hAm, -, hnm, hnmd⟩ := B
  replace X : CX p s m args meth c D A cJ2_pollFirst 4 "java/util/ArrayDeque" := X
  refine v_lv (lv' := [(0, .ref hq)]) [0] rfl ?_
  unfold J2_pollFirst at hF
  refine v_aload_n 1 X 0 dJ2_pollFirst_0 rfl rfl rfl ?_
  refine v_get 4 X in_J2 0 0 rfl rfl (by decide) q203 rfl rfl dJ2_pollFirst_1 rfl ?_
  refine v_dup 5 X dJ2_pollFirst_4 rfl rfl ?_
  refine v_astore_n 6 [(1, .ref he), (0, .ref hq)] X dJ2_pollFirst_5 rfl rfl (by decide) rfl ?_
  refine v_aload_n 7 X 1 dJ2_pollFirst_6 rfl rfl rfl ?_
  refine v_get 10 X in_J2 0 1 rfl rfl (by decide) q204 rfl rfl dJ2_pollFirst_7 rfl ?_
  refine v_dup 11 X dJ2_pollFirst_10 rfl rfl ?_
  refine v_istore_n 12 [(2, .int hd), (1, .ref he), (0, .ref hq)] X dJ2_pollFirst_11 rfl rfl (by decide) rfl ?_
  obtain ⟨z12, hz12, hF⟩ := ob hF
  refine vc_Sr (wr := ([(hq, .inr (8, [.ref he, .int hd, .int tl]))])) 15 0 0 X 2 [.ref he, .int hd] [1] [0] ([(he, .inl (D.1 103, ne, .inr (.inr (.inr (.inr el)))))]) rfl rfl (by decide) (by decide) (by decide) (w_J2_elementAt hd _ hz12) q288 q289 q90 q290 hdJ2_elementAt (pass_amb hAm) ⟨Nat.le_of_ble_eq_true rfl, Nat.le_of_ble_eq_true rfl⟩ ⟨(Nat.le_of_ble_eq_true rfl), (Nat.le_of_ble_eq_true rfl)⟩ rfl rfl (Nat.le_of_ble_eq_true rfl) dJ2_pollFirst_12 rfl rfl rfl (fun a12 u12 e12 => ?_)
  obtain ⟨e121, rfl⟩ := e12
  have e122 := e121.symm
  subst e122
  refine v_ws (ws' := ([(hq, .inr (8, [.ref he, .int hd, .int tl])), (he, .inl (D.1 103, ne, .inr (.inr (.inr (.inr el)))))])) [0, 1] (by decide) rfl ?_
  refine v_astore_n 16 [(3, .ref z12), (2, .int hd), (1, .ref he), (0, .ref hq)] X dJ2_pollFirst_15 rfl rfl (by decide) rfl ?_
  refine v_aload_n 17 X 0 dJ2_pollFirst_16 rfl rfl rfl ?_
  refine v_ifnull 20 X dJ2_pollFirst_17 rfl ?_
  refine v_aload_n 21 X 2 dJ2_pollFirst_20 rfl rfl rfl ?_
  refine v_iload_n 22 X 1 dJ2_pollFirst_21 rfl rfl rfl ?_
  refine v_null 23 X dJ2_pollFirst_22 rfl ?_
  obtain ⟨z23, hz23, hF⟩ := ob hF
  refine v_astQn (E := "java/lang/Object") 24 ([(hq, .inr (8, [.ref he, .int hd, .int tl])), (he, .inl (D.1 103, ne, .inr (.inr (.inr (.inr z23)))))]) X 1 3 hz23 rfl rfl dJ2_pollFirst_23 rfl rfl ?_
  refine v_aload_n 25 X 3 dJ2_pollFirst_24 rfl rfl rfl ?_
  refine v_iload_n 26 X 1 dJ2_pollFirst_25 rfl rfl rfl ?_
  refine v_aload_n 27 X 2 dJ2_pollFirst_26 rfl rfl rfl ?_
  refine v_alen 28 X 1 3 rfl rfl rfl dJ2_pollFirst_27 rfl ?_
  obtain ⟨z28, hz28, hF⟩ := ob hF
  refine v_mSi 31 X 2 [.int hd, .int (nI ne)] (w_J2_inc ([(hq, .inr (8, [.ref he, .int hd, .int tl])), (he, .inl (D.1 103, ne, .inr (.inr (.inr (.inr z23)))))]) hd (nI ne) _ hz28) q291 q292 q90 q293 hdJ2_inc pass_no ⟨rfl, rfl⟩ ⟨Nat.le_of_ble_eq_true rfl, Nat.le_of_ble_eq_true rfl⟩ ⟨(Nat.le_of_ble_eq_true rfl), (Nat.le_of_ble_eq_true rfl)⟩ rfl rfl (Nat.le_of_ble_eq_true rfl) dJ2_pollFirst_28 rfl ?_
  refine v_put 34 ([(hq, .inr (8, [.ref he, .int z28, .int tl])), (he, .inl (D.1 103, ne, .inr (.inr (.inr (.inr z23)))))]) X in_J2 tyJ2_ok nmJ2 0 1 rfl rfl (by decide) q204 rfl rfl rfl rfl rfl (Nat.le_of_ble_eq_true rfl) dJ2_pollFirst_31 rfl rfl ?_
  refine v_aload_n 35 X 0 dJ2_pollFirst_34 rfl rfl rfl ?_
  obtain rfl := Option.some.inj hF
  refine v_aret (post := (fun r : Nat × Int32 × (Nat → Option Nat) => (fun a1 u => a1 = r.1 ∧ u = ([(hq, .inr (8, [.ref he, .int r.2.1, .int tl])), (he, .inl (D.1 103, ne, .inr (.inr (.inr (.inr r.2.2)))))]))) (z12, z28, z23)) X hr (Or.inl ⟨_, rfl⟩) ?_ ?_ ?_ dJ2_pollFirst_35
  · exact ⟨rfl, rfl⟩
  · exact Nat.le_of_ble_eq_true rfl
  · exact Nat.le_of_ble_eq_true rfl
theorem w_J2_pollLast (r : Nat × Int32 × (Nat → Option Nat)) (hF : J2_pollLast ne el tl = some r) : CTr l yJ2_pollLast cJ2_pollLast 4 (Option.some (Jvm.ClassFile.FieldType.object "java/lang/Object")) rmJ2_pollLast D ([(hq, .inr (8, [.ref he, .int hd, .int tl])), (he, .inl (D.1 103, ne, .inr (.inr (.inr (.inr el)))))]) [.ref hq] (AMB D) (fun a1 u => a1 = r.1 ∧ u = ([(hq, .inr (8, [.ref he, .int hd, .int r.2.1])), (he, .inl (D.1 103, ne, .inr (.inr (.inr (.inr r.2.2)))))])) := by
  refine m_r (by decide) (Nat.le_of_ble_eq_true rfl) ?_
  intro p e s m args below meth c A B
  obtain ⟨X, hr, hAm, -, hnm, hnmd⟩ := B
  replace X : CX p s m args meth c D A cJ2_pollLast 4 "java/util/ArrayDeque" := X
  refine v_lv (lv' := [(0, .ref hq)]) [0] rfl ?_
  unfold J2_pollLast at hF
  refine v_aload_n 1 X 0 dJ2_pollLast_0 rfl rfl rfl ?_
  refine v_get 4 X in_J2 0 0 rfl rfl (by decide) q203 rfl rfl dJ2_pollLast_1 rfl ?_
  refine v_dup 5 X dJ2_pollLast_4 rfl rfl ?_
  refine v_astore_n 6 [(1, .ref he), (0, .ref hq)] X dJ2_pollLast_5 rfl rfl (by decide) rfl ?_
  refine v_aload_n 7 X 1 dJ2_pollLast_6 rfl rfl rfl ?_
  refine v_get 10 X in_J2 0 2 rfl rfl (by decide) q205 rfl rfl dJ2_pollLast_7 rfl ?_
  refine v_aload_n 11 X 0 dJ2_pollLast_10 rfl rfl rfl ?_
  refine v_alen 12 X 1 3 rfl rfl rfl dJ2_pollLast_11 rfl ?_
  obtain ⟨z12, hz12, hF⟩ := ob hF
  refine v_mSi 15 X 2 [.int tl, .int (nI ne)] (w_J2_dec ([(hq, .inr (8, [.ref he, .int hd, .int tl])), (he, .inl (D.1 103, ne, .inr (.inr (.inr (.inr el)))))]) tl (nI ne) _ hz12) q991 q992 q90 q993 hdJ2_dec pass_no ⟨rfl, rfl⟩ ⟨Nat.le_of_ble_eq_true rfl, Nat.le_of_ble_eq_true rfl⟩ ⟨(Nat.le_of_ble_eq_true rfl), (Nat.le_of_ble_eq_true rfl)⟩ rfl rfl (Nat.le_of_ble_eq_true rfl) dJ2_pollLast_12 rfl ?_
  refine v_dup 16 X dJ2_pollLast_15 rfl rfl ?_
  refine v_istore_n 17 [(2, .int z12), (1, .ref he), (0, .ref hq)] X dJ2_pollLast_16 rfl rfl (by decide) rfl ?_
  obtain ⟨z17, hz17, hF⟩ := ob hF
  refine vc_Sr (wr := ([(hq, .inr (8, [.ref he, .int hd, .int tl]))])) 20 0 0 X 2 [.ref he, .int z12] [1] [0] ([(he, .inl (D.1 103, ne, .inr (.inr (.inr (.inr el)))))]) rfl rfl (by decide) (by decide) (by decide) (w_J2_elementAt z12 _ hz17) q288 q289 q90 q290 hdJ2_elementAt (pass_amb hAm) ⟨Nat.le_of_ble_eq_true rfl, Nat.le_of_ble_eq_true rfl⟩ ⟨(Nat.le_of_ble_eq_true rfl), (Nat.le_of_ble_eq_true rfl)⟩ rfl rfl (Nat.le_of_ble_eq_true rfl) dJ2_pollLast_17 rfl rfl rfl (fun a17 u17 e17 => ?_)
  obtain ⟨e171, rfl⟩ := e17
  have e172 := e171.symm
  subst e172
  refine v_ws (ws' := ([(hq, .inr (8, [.ref he, .int hd, .int tl])), (he, .inl (D.1 103, ne, .inr (.inr (.inr (.inr el)))))])) [0, 1] (by decide) rfl ?_
  refine v_astore_n 21 [(3, .ref z17), (2, .int z12), (1, .ref he), (0, .ref hq)] X dJ2_pollLast_20 rfl rfl (by decide) rfl ?_
  refine v_aload_n 22 X 0 dJ2_pollLast_21 rfl rfl rfl ?_
  refine v_ifnull 25 X dJ2_pollLast_22 rfl ?_
  refine v_aload_n 26 X 2 dJ2_pollLast_25 rfl rfl rfl ?_
  refine v_aload_n 27 X 3 dJ2_pollLast_26 rfl rfl rfl ?_
  refine v_iload_n 28 X 1 dJ2_pollLast_27 rfl rfl rfl ?_
  refine v_dup_x1 29 X dJ2_pollLast_28 rfl rfl rfl ?_
  refine v_put 32 ([(hq, .inr (8, [.ref he, .int hd, .int z12])), (he, .inl (D.1 103, ne, .inr (.inr (.inr (.inr el)))))]) X in_J2 tyJ2_ok nmJ2 0 2 rfl rfl (by decide) q205 rfl rfl rfl rfl rfl (Nat.le_of_ble_eq_true rfl) dJ2_pollLast_29 rfl rfl ?_
  refine v_null 33 X dJ2_pollLast_32 rfl ?_
  obtain ⟨z33, hz33, hF⟩ := ob hF
  refine v_astQn (E := "java/lang/Object") 34 ([(hq, .inr (8, [.ref he, .int hd, .int z12])), (he, .inl (D.1 103, ne, .inr (.inr (.inr (.inr z33)))))]) X 1 3 hz33 rfl rfl dJ2_pollLast_33 rfl rfl ?_
  refine v_aload_n 35 X 0 dJ2_pollLast_34 rfl rfl rfl ?_
  obtain rfl := Option.some.inj hF
  refine v_aret (post := (fun r : Nat × Int32 × (Nat → Option Nat) => (fun a1 u => a1 = r.1 ∧ u = ([(hq, .inr (8, [.ref he, .int hd, .int r.2.1])), (he, .inl (D.1 103, ne, .inr (.inr (.inr (.inr r.2.2)))))]))) (z17, z12, z33)) X hr (Or.inl ⟨_, rfl⟩) ?_ ?_ ?_ dJ2_pollLast_35
  · exact ⟨rfl, rfl⟩
  · exact Nat.le_of_ble_eq_true rfl
  · exact Nat.le_of_ble_eq_true rfl
theorem w_J2_removeFirst (r : Nat × Int32 × (Nat → Option Nat)) (hF : J2_removeFirst ne el hd = some r) : CTr l yJ2_removeFirst cJ2_removeFirst 2 (Option.some (Jvm.ClassFile.FieldType.object "java/lang/Object")) rmJ2_removeFirst D ([(hq, .inr (8, [.ref he, .int hd, .int tl])), (he, .inl (D.1 103, ne, .inr (.inr (.inr (.inr el)))))]) [.ref hq] (AMB D) (fun a1 u => a1 = r.1 ∧ u = ([(hq, .inr (8, [.ref he, .int r.2.1, .int tl])), (he, .inl (D.1 103, ne, .inr (.inr (.inr (.inr r.2.2)))))])) := by
  refine m_r (by decide) (Nat.le_of_ble_eq_true rfl) ?_
  intro p e s m args below meth c A B
  obtain ⟨X, hr, hAm, -, hnm, hnmd⟩ := B
  replace X : CX p s m args meth c D A cJ2_removeFirst 2 "java/util/ArrayDeque" := X
  refine v_lv (lv' := [(0, .ref hq)]) [0] rfl ?_
  unfold J2_removeFirst at hF
  refine v_aload_n 1 X 0 dJ2_removeFirst_0 rfl rfl rfl ?_
  obtain ⟨z1, hz1, hF⟩ := ob hF
  refine vc_Vr (wr := ([] : va_W)) 4 0 0 X 0 [] [0, 1] [] ([(hq, .inr (8, [.ref he, .int hd, .int tl])), (he, .inl (D.1 103, ne, .inr (.inr (.inr (.inr el)))))]) rfl rfl (by decide) (by decide) (by decide) (w_J2_pollFirst _ hz1) q284 q285 q286 q90 q287 hdJ2_pollFirst 0 rfl rfl (pass_amb hAm) ⟨Nat.le_of_ble_eq_true rfl, Nat.le_of_ble_eq_true rfl⟩ ⟨(Nat.le_of_ble_eq_true rfl), (Nat.le_of_ble_eq_true rfl)⟩ rfl rfl (Nat.le_of_ble_eq_true rfl) dJ2_removeFirst_1 rfl rfl rfl (fun a1 u1 e1 => ?_)
  obtain ⟨e11, rfl⟩ := e1
  have e12 := e11.symm
  subst e12
  refine v_ws (ws' := ([(hq, .inr (8, [.ref he, .int z1.2.1, .int tl])), (he, .inl (D.1 103, ne, .inr (.inr (.inr (.inr z1.2.2)))))])) [0, 1] (by decide) rfl ?_
  refine v_astore_n 5 [(1, .ref z1.1), (0, .ref hq)] X dJ2_removeFirst_4 rfl rfl (by decide) rfl ?_
  refine v_aload_n 6 X 0 dJ2_removeFirst_5 rfl rfl rfl ?_
  refine v_ifnonnull 17 X dJ2_removeFirst_6 (by decide) ?_
  refine v_aload_n 18 X 0 dJ2_removeFirst_17 rfl rfl rfl ?_
  obtain rfl := Option.some.inj hF
  refine v_aret (post := (fun r : Nat × Int32 × (Nat → Option Nat) => (fun a1 u => a1 = r.1 ∧ u = ([(hq, .inr (8, [.ref he, .int r.2.1, .int tl])), (he, .inl (D.1 103, ne, .inr (.inr (.inr (.inr r.2.2)))))]))) (z1.1, z1.2.1, z1.2.2)) X hr (Or.inl ⟨_, rfl⟩) ?_ ?_ ?_ dJ2_removeFirst_18
  · exact ⟨rfl, rfl⟩
  · exact Nat.le_of_ble_eq_true rfl
  · exact Nat.le_of_ble_eq_true rfl
theorem w_J2_removeLast (r : Nat × Int32 × (Nat → Option Nat)) (hF : J2_removeLast ne el tl = some r) : CTr l yJ2_removeLast cJ2_removeLast 2 (Option.some (Jvm.ClassFile.FieldType.object "java/lang/Object")) rmJ2_removeLast D ([(hq, .inr (8, [.ref he, .int hd, .int tl])), (he, .inl (D.1 103, ne, .inr (.inr (.inr (.inr el)))))]) [.ref hq] (AMB D) (fun a1 u => a1 = r.1 ∧ u = ([(hq, .inr (8, [.ref he, .int hd, .int r.2.1])), (he, .inl (D.1 103, ne, .inr (.inr (.inr (.inr r.2.2)))))])) := by
  refine m_r (by decide) (Nat.le_of_ble_eq_true rfl) ?_
  intro p e s m args below meth c A B
  obtain ⟨X, hr, hAm, -, hnm, hnmd⟩ := B
  replace X : CX p s m args meth c D A cJ2_removeLast 2 "java/util/ArrayDeque" := X
  refine v_lv (lv' := [(0, .ref hq)]) [0] rfl ?_
  unfold J2_removeLast at hF
  refine v_aload_n 1 X 0 dJ2_removeLast_0 rfl rfl rfl ?_
  obtain ⟨z1, hz1, hF⟩ := ob hF
  refine vc_Vr (wr := ([] : va_W)) 4 0 0 X 0 [] [0, 1] [] ([(hq, .inr (8, [.ref he, .int hd, .int tl])), (he, .inl (D.1 103, ne, .inr (.inr (.inr (.inr el)))))]) rfl rfl (by decide) (by decide) (by decide) (w_J2_pollLast _ hz1) q987 q988 q989 q90 q990 hdJ2_pollLast 0 rfl rfl (pass_amb hAm) ⟨Nat.le_of_ble_eq_true rfl, Nat.le_of_ble_eq_true rfl⟩ ⟨(Nat.le_of_ble_eq_true rfl), (Nat.le_of_ble_eq_true rfl)⟩ rfl rfl (Nat.le_of_ble_eq_true rfl) dJ2_removeLast_1 rfl rfl rfl (fun a1 u1 e1 => ?_)
  obtain ⟨e11, rfl⟩ := e1
  have e12 := e11.symm
  subst e12
  refine v_ws (ws' := ([(hq, .inr (8, [.ref he, .int hd, .int z1.2.1])), (he, .inl (D.1 103, ne, .inr (.inr (.inr (.inr z1.2.2)))))])) [0, 1] (by decide) rfl ?_
  refine v_astore_n 5 [(1, .ref z1.1), (0, .ref hq)] X dJ2_removeLast_4 rfl rfl (by decide) rfl ?_
  refine v_aload_n 6 X 0 dJ2_removeLast_5 rfl rfl rfl ?_
  refine v_ifnonnull 17 X dJ2_removeLast_6 (by decide) ?_
  refine v_aload_n 18 X 0 dJ2_removeLast_17 rfl rfl rfl ?_
  obtain rfl := Option.some.inj hF
  refine v_aret (post := (fun r : Nat × Int32 × (Nat → Option Nat) => (fun a1 u => a1 = r.1 ∧ u = ([(hq, .inr (8, [.ref he, .int hd, .int r.2.1])), (he, .inl (D.1 103, ne, .inr (.inr (.inr (.inr r.2.2)))))]))) (z1.1, z1.2.1, z1.2.2)) X hr (Or.inl ⟨_, rfl⟩) ?_ ?_ ?_ dJ2_removeLast_18
  · exact ⟨rfl, rfl⟩
  · exact Nat.le_of_ble_eq_true rfl
  · exact Nat.le_of_ble_eq_true rfl
theorem w_J2_addLast (r : Int32 × (Nat → Option Nat)) (hF : J2_addLast b0 ne el hd tl = some r) : CTv l yJ2_addLast cJ2_addLast 3 (Option.none : Option Jvm.ClassFile.FieldType) rmJ2_addLast D ([(hq, .inr (8, [.ref he, .int hd, .int tl])), (he, .inl (D.1 103, ne, .inr (.inr (.inr (.inr el))))), (b0, .inr (1, fst))]) [.ref hq, .ref b0] (AMB D) (fun u => u = ([(hq, .inr (8, [.ref he, .int hd, .int r.1])), (he, .inl (D.1 103, ne, .inr (.inr (.inr (.inr r.2))))), (b0, .inr (1, fst))])) := by
  refine m_v (by decide) (Nat.le_of_ble_eq_true rfl) ?_
  intro p e s m args below meth c A B
  obtain ⟨X, hr, hAm, -, hnm, hnmd⟩ := B
  replace X : CX p s m args meth c D A cJ2_addLast 3 "java/util/ArrayDeque" := X
  refine v_lv (lv' := [(0, .ref hq), (1, .ref b0)]) [0, 1] rfl ?_
  unfold J2_addLast at hF
  refine v_aload_n 1 X 1 dJ2_addLast_0 rfl rfl rfl ?_
  refine v_ifnonnull 12 X dJ2_addLast_1 (by decide) ?_
  refine v_aload_n 13 X 0 dJ2_addLast_12 rfl rfl rfl ?_
  refine v_get 16 X in_J2 0 0 rfl rfl (by decide) q203 rfl rfl dJ2_addLast_13 rfl ?_
  refine v_astore_n 17 [(2, .ref he), (0, .ref hq), (1, .ref b0)] X dJ2_addLast_16 rfl rfl (by decide) rfl ?_
  refine v_aload_n 18 X 0 dJ2_addLast_17 rfl rfl rfl ?_
  refine v_aload_n 19 X 1 dJ2_addLast_18 rfl rfl rfl ?_
  refine v_get 22 X in_J2 0 2 rfl rfl (by decide) q205 rfl rfl dJ2_addLast_19 rfl ?_
  refine v_aload_n 23 X 2 dJ2_addLast_22 rfl rfl rfl ?_
  obtain ⟨z23, hz23, hF⟩ := ob hF
  refine v_astQ (E := "java/lang/Object") 24 ([(hq, .inr (8, [.ref he, .int hd, .int tl])), (he, .inl (D.1 103, ne, .inr (.inr (.inr (.inr z23))))), (b0, .inr (1, fst))]) X hAm 1 3 2 1 hz23 rfl rfl q1549 rfl rfl dJ2_addLast_23 rfl rfl ?_
  refine v_aload_n 25 X 1 dJ2_addLast_24 rfl rfl rfl ?_
  refine v_get 28 X in_J2 0 1 rfl rfl (by decide) q204 rfl rfl dJ2_addLast_25 rfl ?_
  refine v_aload_n 29 X 1 dJ2_addLast_28 rfl rfl rfl ?_
  refine v_aload_n 30 X 1 dJ2_addLast_29 rfl rfl rfl ?_
  refine v_get 33 X in_J2 0 2 rfl rfl (by decide) q205 rfl rfl dJ2_addLast_30 rfl ?_
  refine v_aload_n 34 X 0 dJ2_addLast_33 rfl rfl rfl ?_
  refine v_alen 35 X 1 3 rfl rfl rfl dJ2_addLast_34 rfl ?_
  obtain ⟨z35, hz35, hF⟩ := ob hF
  refine v_mSi 38 X 2 [.int tl, .int (nI ne)] (w_J2_inc ([(hq, .inr (8, [.ref he, .int hd, .int tl])), (he, .inl (D.1 103, ne, .inr (.inr (.inr (.inr z23))))), (b0, .inr (1, fst))]) tl (nI ne) _ hz35) q291 q292 q90 q293 hdJ2_inc pass_no ⟨rfl, rfl⟩ ⟨Nat.le_of_ble_eq_true rfl, Nat.le_of_ble_eq_true rfl⟩ ⟨(Nat.le_of_ble_eq_true rfl), (Nat.le_of_ble_eq_true rfl)⟩ rfl rfl (Nat.le_of_ble_eq_true rfl) dJ2_addLast_35 rfl ?_
  refine v_dup_x1 39 X dJ2_addLast_38 rfl rfl rfl ?_
  refine v_put 42 ([(hq, .inr (8, [.ref he, .int hd, .int z35])), (he, .inl (D.1 103, ne, .inr (.inr (.inr (.inr z23))))), (b0, .inr (1, fst))]) X in_J2 tyJ2_ok nmJ2 0 2 rfl rfl (by decide) q205 rfl rfl rfl rfl rfl (Nat.le_of_ble_eq_true rfl) dJ2_addLast_39 rfl rfl ?_
  refine v_icmp_ne 45 50 X dJ2_addLast_42 rfl (by decide) (fun h42 => ?_) (fun h42 => ?_)
  · replace hF := ifn h42 hF
    obtain rfl := Option.some.inj hF
    exact v_vret X hr rfl (Nat.le_of_ble_eq_true rfl) (Nat.le_of_ble_eq_true rfl) dJ2_addLast_50
  · replace hF := ifp h42 hF
    cases hF
theorem w_X0_replace (r : Int32 × Int32 × (Nat → Option Nat)) (hF : C_replace b0 ne el hd tl hs = some r) : CTv l yX0_replace cX0_replace 3 (Option.none : Option Jvm.ClassFile.FieldType) rmX0_replace D ([(a0, .inr (0, [.ref b0, .ref hq, .ref tx])), (b0, .inr (1, fst)), (hq, .inr (8, [.ref he, .int hd, .int tl])), (he, .inl (D.1 103, ne, .inr (.inr (.inr (.inr el))))), (b0u, .inr (1, fsu))]) [.ref a0, .ref b0u] (HX D hs) (fun u => u = ([(a0, .inr (0, [.ref b0u, .ref hq, .ref tx])), (b0, .inr (1, fst)), (hq, .inr (8, [.ref he, .int r.1, .int r.2.1])), (he, .inl (D.1 103, ne, .inr (.inr (.inr (.inr r.2.2))))), (b0u, .inr (1, fsu))])) := by
  refine m_v (by decide) (Nat.le_of_ble_eq_true rfl) ?_
  intro p e s m args below meth c A B
  obtain ⟨X, hr, hAm, -, hnm, hnmd⟩ := B
  obtain ⟨hAm, hH⟩ := hAm
  replace X : CX p s m args meth c D A cX0_replace 3 "DyeLattice" := X
  refine v_lv (lv' := [(0, .ref a0), (1, .ref b0u)]) [0, 1] rfl ?_
  unfold C_replace at hF
  refine v_aload_n 1 X 0 dX0_replace_0 rfl rfl rfl ?_
  refine v_get 4 X in_X0 0 1 rfl rfl (by decide) q246 rfl rfl dX0_replace_1 rfl ?_
  obtain ⟨z4, hz4, hF⟩ := ob hF
  refine vc_Vi (wr := ([(a0, .inr (0, [.ref b0, .ref hq, .ref tx])), (b0, .inr (1, fst)), (b0u, .inr (1, fsu))])) 7 0 0 X 0 [] [2, 3] [0, 1, 4] ([(hq, .inr (8, [.ref he, .int hd, .int tl])), (he, .inl (D.1 103, ne, .inr (.inr (.inr (.inr el)))))]) rfl rfl (by decide) (by decide) (by decide) (w_J2_size _ hz4) q273 q274 q275 q90 q276 hdJ2_size 2 rfl rfl (pass_amb hAm) ⟨Nat.le_of_ble_eq_true rfl, Nat.le_of_ble_eq_true rfl⟩ ⟨(Nat.le_of_ble_eq_true rfl), (Nat.le_of_ble_eq_true rfl)⟩ rfl rfl (Nat.le_of_ble_eq_true rfl) dX0_replace_4 rfl rfl rfl (fun r4 u4 e4 => ?_)
  obtain ⟨e41, rfl⟩ := e4
  have e42 := e41.symm
  subst e42
  refine v_ws (ws' := ([(a0, .inr (0, [.ref b0, .ref hq, .ref tx])), (b0, .inr (1, fst)), (b0u, .inr (1, fsu)), (hq, .inr (8, [.ref he, .int hd, .int tl])), (he, .inl (D.1 103, ne, .inr (.inr (.inr (.inr el)))))])) [0, 1, 2, 3, 4] (by decide) rfl ?_
  refine v_iconst (v := 5) 8 X dX0_replace_7 rfl ki_5 ?_
  refine v_icmp_ne 11 22 X dX0_replace_8 rfl (by decide) (fun h8 => ?_) (fun h8 => ?_)
  · replace hF := ifn h8 hF
    refine v_aload_n 23 X 0 dX0_replace_22 rfl rfl rfl ?_
    refine v_get 26 X in_X0 0 1 rfl rfl (by decide) q246 rfl rfl dX0_replace_23 rfl ?_
    refine v_aload_n 27 X 0 dX0_replace_26 rfl rfl rfl ?_
    refine v_get 30 X in_X0 0 0 rfl rfl (by decide) q245 rfl rfl dX0_replace_27 rfl ?_
    obtain ⟨z30, hz30, hF⟩ := ob hF
    refine vc_Vv (wr := ([(a0, .inr (0, [.ref b0, .ref hq, .ref tx])), (b0u, .inr (1, fsu))])) 33 0 0 X 1 [.ref b0] [3, 4, 1] [0, 2] ([(hq, .inr (8, [.ref he, .int hd, .int tl])), (he, .inl (D.1 103, ne, .inr (.inr (.inr (.inr el))))), (b0, .inr (1, fst))]) rfl rfl (by decide) (by decide) (by decide) (w_J2_addLast _ hz30) q294 q295 q296 q90 q297 hdJ2_addLast 3 rfl rfl (pass_amb hAm) ⟨Nat.le_of_ble_eq_true rfl, Nat.le_of_ble_eq_true rfl⟩ ⟨(Nat.le_of_ble_eq_true rfl), (Nat.le_of_ble_eq_true rfl)⟩ rfl rfl (Nat.le_of_ble_eq_true rfl) dX0_replace_30 rfl rfl rfl (fun u30 e30 => ?_)
    subst e30
    refine v_ws (ws' := ([(a0, .inr (0, [.ref b0, .ref hq, .ref tx])), (b0u, .inr (1, fsu)), (hq, .inr (8, [.ref he, .int hd, .int z30.1])), (he, .inl (D.1 103, ne, .inr (.inr (.inr (.inr z30.2))))), (b0, .inr (1, fst))])) [0, 1, 2, 3, 4] (by decide) rfl ?_
    refine v_aload_n 34 X 0 dX0_replace_33 rfl rfl rfl ?_
    refine v_aload_n 35 X 1 dX0_replace_34 rfl rfl rfl ?_
    refine v_put 38 ([(a0, .inr (0, [.ref b0u, .ref hq, .ref tx])), (b0u, .inr (1, fsu)), (hq, .inr (8, [.ref he, .int hd, .int z30.1])), (he, .inl (D.1 103, ne, .inr (.inr (.inr (.inr z30.2))))), (b0, .inr (1, fst))]) X in_X0 tyX0_ok nmX0 0 0 rfl rfl (by decide) q245 rfl rfl rfl rfl rfl (Nat.le_of_ble_eq_true rfl) dX0_replace_35 rfl rfl ?_
    obtain rfl := Option.some.inj hF
    refine v_ws (ws' := ([(a0, .inr (0, [.ref b0u, .ref hq, .ref tx])), (b0, .inr (1, fst)), (hq, .inr (8, [.ref he, .int hd, .int z30.1])), (he, .inl (D.1 103, ne, .inr (.inr (.inr (.inr z30.2))))), (b0u, .inr (1, fsu))])) [0, 4, 2, 3, 1] (by decide) rfl ?_
    exact v_vret X hr rfl (Nat.le_of_ble_eq_true rfl) (Nat.le_of_ble_eq_true rfl) dX0_replace_38
  · replace hF := ifp h8 hF
    refine v_aload_n 12 X 0 dX0_replace_11 rfl rfl rfl ?_
    refine v_get 15 X in_X0 0 1 rfl rfl (by decide) q246 rfl rfl dX0_replace_12 rfl ?_
    obtain ⟨z15, hz15, hF⟩ := ob hF
    refine vc_Vr (wr := ([(a0, .inr (0, [.ref b0, .ref hq, .ref tx])), (b0, .inr (1, fst)), (b0u, .inr (1, fsu))])) 18 0 0 X 0 [] [3, 4] [0, 1, 2] ([(hq, .inr (8, [.ref he, .int hd, .int tl])), (he, .inl (D.1 103, ne, .inr (.inr (.inr (.inr el)))))]) rfl rfl (by decide) (by decide) (by decide) (w_J2_removeFirst _ hz15) q280 q281 q282 q90 q283 hdJ2_removeFirst 3 rfl rfl (pass_amb hAm) ⟨Nat.le_of_ble_eq_true rfl, Nat.le_of_ble_eq_true rfl⟩ ⟨(Nat.le_of_ble_eq_true rfl), (Nat.le_of_ble_eq_true rfl)⟩ rfl rfl (Nat.le_of_ble_eq_true rfl) dX0_replace_15 rfl rfl rfl (fun a15 u15 e15 => ?_)
    obtain ⟨e151, rfl⟩ := e15
    have e152 := e151.symm
    subst e152
    refine v_ws (ws' := ([(a0, .inr (0, [.ref b0, .ref hq, .ref tx])), (b0, .inr (1, fst)), (b0u, .inr (1, fsu)), (hq, .inr (8, [.ref he, .int z15.2.1, .int tl])), (he, .inl (D.1 103, ne, .inr (.inr (.inr (.inr z15.2.2)))))])) [0, 1, 2, 3, 4] (by decide) rfl ?_
    obtain ⟨z18, hz18, hF⟩ := ob hF
    refine v_castH 21 X (hH _ (memA_s hz18)) q119 dX0_replace_18 rfl ?_
    refine v_astore_n 22 [(2, .ref z15.1), (0, .ref a0), (1, .ref b0u)] X dX0_replace_21 rfl rfl (by decide) rfl ?_
    refine v_aload_n 23 X 1 dX0_replace_22 rfl rfl rfl ?_
    refine v_get 26 X in_X0 0 1 rfl rfl (by decide) q246 rfl rfl dX0_replace_23 rfl ?_
    refine v_aload_n 27 X 1 dX0_replace_26 rfl rfl rfl ?_
    refine v_get 30 X in_X0 0 0 rfl rfl (by decide) q245 rfl rfl dX0_replace_27 rfl ?_
    obtain ⟨z30, hz30, hF⟩ := ob hF
    refine vc_Vv (wr := ([(a0, .inr (0, [.ref b0, .ref hq, .ref tx])), (b0u, .inr (1, fsu))])) 33 0 0 X 1 [.ref b0] [3, 4, 1] [0, 2] ([(hq, .inr (8, [.ref he, .int z15.2.1, .int tl])), (he, .inl (D.1 103, ne, .inr (.inr (.inr (.inr z15.2.2))))), (b0, .inr (1, fst))]) rfl rfl (by decide) (by decide) (by decide) (w_J2_addLast _ hz30) q294 q295 q296 q90 q297 hdJ2_addLast 3 rfl rfl (pass_amb hAm) ⟨Nat.le_of_ble_eq_true rfl, Nat.le_of_ble_eq_true rfl⟩ ⟨(Nat.le_of_ble_eq_true rfl), (Nat.le_of_ble_eq_true rfl)⟩ rfl rfl (Nat.le_of_ble_eq_true rfl) dX0_replace_30 rfl rfl rfl (fun u30 e30 => ?_)
    subst e30
    refine v_ws (ws' := ([(a0, .inr (0, [.ref b0, .ref hq, .ref tx])), (b0u, .inr (1, fsu)), (hq, .inr (8, [.ref he, .int z15.2.1, .int z30.1])), (he, .inl (D.1 103, ne, .inr (.inr (.inr (.inr z30.2))))), (b0, .inr (1, fst))])) [0, 1, 2, 3, 4] (by decide) rfl ?_
    refine v_aload_n 34 X 1 dX0_replace_33 rfl rfl rfl ?_
    refine v_aload_n 35 X 2 dX0_replace_34 rfl rfl rfl ?_
    refine v_put 38 ([(a0, .inr (0, [.ref b0u, .ref hq, .ref tx])), (b0u, .inr (1, fsu)), (hq, .inr (8, [.ref he, .int z15.2.1, .int z30.1])), (he, .inl (D.1 103, ne, .inr (.inr (.inr (.inr z30.2))))), (b0, .inr (1, fst))]) X in_X0 tyX0_ok nmX0 0 0 rfl rfl (by decide) q245 rfl rfl rfl rfl rfl (Nat.le_of_ble_eq_true rfl) dX0_replace_35 rfl rfl ?_
    obtain rfl := Option.some.inj hF
    refine v_ws (ws' := ([(a0, .inr (0, [.ref b0u, .ref hq, .ref tx])), (b0, .inr (1, fst)), (hq, .inr (8, [.ref he, .int z15.2.1, .int z30.1])), (he, .inl (D.1 103, ne, .inr (.inr (.inr (.inr z30.2))))), (b0u, .inr (1, fsu))])) [0, 4, 2, 3, 1] (by decide) rfl ?_
    exact v_vret X hr rfl (Nat.le_of_ble_eq_true rfl) (Nat.le_of_ble_eq_true rfl) dX0_replace_38
theorem w_X0_undo (r : Int32 × Nat × Int32 × (Nat → Option Nat)) (hF : C_undo b0 ne el hd tl hs = some r) : CTi l yX0_undo cX0_undo 1 (Option.some Jvm.ClassFile.FieldType.int) rmX0_undo D ([(a0, .inr (0, [.ref b0, .ref hq, .ref tx])), (hq, .inr (8, [.ref he, .int hd, .int tl])), (he, .inl (D.1 103, ne, .inr (.inr (.inr (.inr el)))))]) [.ref a0] (HX D hs) (fun r1 u => r1 = r.1 ∧ u = ([(a0, .inr (0, [.ref r.2.1, .ref hq, .ref tx])), (hq, .inr (8, [.ref he, .int hd, .int r.2.2.1])), (he, .inl (D.1 103, ne, .inr (.inr (.inr (.inr r.2.2.2)))))])) := by
  refine m_i (by decide) (Nat.le_of_ble_eq_true rfl) ?_
  intro p e s m args below meth c A B
  obtain ⟨X, hr, hAm, -, hnm, hnmd⟩ := B
  obtain ⟨hAm, hH⟩ := hAm
  replace X : CX p s m args meth c D A cX0_undo 1 "DyeLattice" := X
  refine v_lv (lv' := [(0, .ref a0)]) [0] rfl ?_
  unfold C_undo at hF
  refine v_aload_n 1 X 0 dX0_undo_0 rfl rfl rfl ?_
  refine v_get 4 X in_X0 0 1 rfl rfl (by decide) q246 rfl rfl dX0_undo_1 rfl ?_
  obtain ⟨z4, hz4, hF⟩ := ob hF
  refine vc_Vi (wr := ([(a0, .inr (0, [.ref b0, .ref hq, .ref tx]))])) 7 0 0 X 0 [] [1, 2] [0] ([(hq, .inr (8, [.ref he, .int hd, .int tl])), (he, .inl (D.1 103, ne, .inr (.inr (.inr (.inr el)))))]) rfl rfl (by decide) (by decide) (by decide) (w_J2_isEmpty _ hz4) q979 q980 q981 q90 q982 hdJ2_isEmpty 1 rfl rfl (pass_amb hAm) ⟨Nat.le_of_ble_eq_true rfl, Nat.le_of_ble_eq_true rfl⟩ ⟨(Nat.le_of_ble_eq_true rfl), (Nat.le_of_ble_eq_true rfl)⟩ rfl rfl (Nat.le_of_ble_eq_true rfl) dX0_undo_4 rfl rfl rfl (fun r4 u4 e4 => ?_)
  obtain ⟨e41, rfl⟩ := e4
  have e42 := e41.symm
  subst e42
  refine v_ws (ws' := ([(a0, .inr (0, [.ref b0, .ref hq, .ref tx])), (hq, .inr (8, [.ref he, .int hd, .int tl])), (he, .inl (D.1 103, ne, .inr (.inr (.inr (.inr el)))))])) [0, 1, 2] (by decide) rfl ?_
  refine v_if_eq 10 13 X dX0_undo_7 rfl (by decide) (fun h7 => ?_) (fun h7 => ?_)
  · replace hF := ifp h7 hF
    refine v_aload_n 14 X 0 dX0_undo_13 rfl rfl rfl ?_
    refine v_aload_n 15 X 0 dX0_undo_14 rfl rfl rfl ?_
    refine v_get 18 X in_X0 0 1 rfl rfl (by decide) q246 rfl rfl dX0_undo_15 rfl ?_
    obtain ⟨z18, hz18, hF⟩ := ob hF
    refine vc_Vr (wr := ([(a0, .inr (0, [.ref b0, .ref hq, .ref tx]))])) 21 0 0 X 0 [] [1, 2] [0] ([(hq, .inr (8, [.ref he, .int hd, .int tl])), (he, .inl (D.1 103, ne, .inr (.inr (.inr (.inr el)))))]) rfl rfl (by decide) (by decide) (by decide) (w_J2_removeLast _ hz18) q983 q984 q985 q90 q986 hdJ2_removeLast 1 rfl rfl (pass_amb hAm) ⟨Nat.le_of_ble_eq_true rfl, Nat.le_of_ble_eq_true rfl⟩ ⟨(Nat.le_of_ble_eq_true rfl), (Nat.le_of_ble_eq_true rfl)⟩ rfl rfl (Nat.le_of_ble_eq_true rfl) dX0_undo_18 rfl rfl rfl (fun a18 u18 e18 => ?_)
    obtain ⟨e181, rfl⟩ := e18
    have e182 := e181.symm
    subst e182
    refine v_ws (ws' := ([(a0, .inr (0, [.ref b0, .ref hq, .ref tx])), (hq, .inr (8, [.ref he, .int hd, .int z18.2.1])), (he, .inl (D.1 103, ne, .inr (.inr (.inr (.inr z18.2.2)))))])) [0, 1, 2] (by decide) rfl ?_
    obtain ⟨z21, hz21, hF⟩ := ob hF
    refine v_castH 24 X (hH _ (memA_s hz21)) q119 dX0_undo_21 rfl ?_
    refine v_put 27 ([(a0, .inr (0, [.ref z18.1, .ref hq, .ref tx])), (hq, .inr (8, [.ref he, .int hd, .int z18.2.1])), (he, .inl (D.1 103, ne, .inr (.inr (.inr (.inr z18.2.2)))))]) X in_X0 tyX0_ok nmX0 0 0 rfl rfl (by decide) q245 rfl rfl rfl rfl rfl (Nat.le_of_ble_eq_true rfl) dX0_undo_24 rfl rfl ?_
    refine v_aload_n 28 X 0 dX0_undo_27 rfl rfl rfl ?_
    refine v_get 31 X in_X0 0 1 rfl rfl (by decide) q246 rfl rfl dX0_undo_28 rfl ?_
    obtain ⟨z31, hz31, hF⟩ := ob hF
    refine vc_Vi (wr := ([(a0, .inr (0, [.ref z18.1, .ref hq, .ref tx]))])) 34 0 0 X 0 [] [1, 2] [0] ([(hq, .inr (8, [.ref he, .int hd, .int z18.2.1])), (he, .inl (D.1 103, ne, .inr (.inr (.inr (.inr z18.2.2)))))]) rfl rfl (by decide) (by decide) (by decide) (w_J2_size _ hz31) q273 q274 q275 q90 q276 hdJ2_size 1 rfl rfl (pass_amb hAm) ⟨Nat.le_of_ble_eq_true rfl, Nat.le_of_ble_eq_true rfl⟩ ⟨(Nat.le_of_ble_eq_true rfl), (Nat.le_of_ble_eq_true rfl)⟩ rfl rfl (Nat.le_of_ble_eq_true rfl) dX0_undo_31 rfl rfl rfl (fun r31 u31 e31 => ?_)
    obtain ⟨e311, rfl⟩ := e31
    have e312 := e311.symm
    subst e312
    refine v_ws (ws' := ([(a0, .inr (0, [.ref z18.1, .ref hq, .ref tx])), (hq, .inr (8, [.ref he, .int hd, .int z18.2.1])), (he, .inl (D.1 103, ne, .inr (.inr (.inr (.inr z18.2.2)))))])) [0, 1, 2] (by decide) rfl ?_
    obtain rfl := Option.some.inj hF
    exact v_iret X hr ⟨rfl, rfl⟩ (Nat.le_of_ble_eq_true rfl) (Nat.le_of_ble_eq_true rfl) dX0_undo_34
  · replace hF := ifn h7 hF
    refine v_bipush (v := (-2)) 12 X dX0_undo_10 rfl kb_m2 ?_
    obtain rfl := Option.some.inj hF
    exact v_iret X hr ⟨rfl, rfl⟩ (Nat.le_of_ble_eq_true rfl) (Nat.le_of_ble_eq_true rfl) dX0_undo_12
theorem w_X0_act (r : Int32 × Int32 × Nat × Int32 × Int32 × Int32 × Int32 × Nat × (Nat → Int32) × Nat × (Nat → Nat) × (Nat → Int32) × (Nat → Int32) × (Nat → Int32) × Int32 × Int32 × (Nat → Option Nat)) (hF : C_act cols rows thr bt tm rea kd n n4 vl gr so dy cg b0 ne el hd tl hs = some r) : CTr l yX0_act cX0_act 1 (Option.some (Jvm.ClassFile.FieldType.object "DyeLattice$Lattice")) rmX0_act D ([(a0, .inr (0, [.ref b0, .ref hq, .ref tx]))] ++ LW D b0 b1 b2 b3 b4 b5 n n4 cols rows kd thr bt tm rea gr vl so dy cg ++ [(hq, .inr (8, [.ref he, .int hd, .int tl])), (he, .inl (D.1 103, ne, .inr (.inr (.inr (.inr el)))))]) [.ref a0] (HX D hs) (fun a1 u => ∃ qa1 qa2 qa3 qa4 qa5 qa6 : Nat, a1 = qa1 ∧ u = ([(a0, .inr (0, [.ref qa1, .ref hq, .ref tx]))] ++ LW D qa1 qa2 qa3 qa4 qa5 qa6 r.2.2.2.2.2.2.2.1 r.2.2.2.2.2.2.2.2.2.1 r.1 r.2.1 r.2.2.1 r.2.2.2.1 r.2.2.2.2.1 r.2.2.2.2.2.1 r.2.2.2.2.2.2.1 r.2.2.2.2.2.2.2.2.1 r.2.2.2.2.2.2.2.2.2.2.1 r.2.2.2.2.2.2.2.2.2.2.2.1 r.2.2.2.2.2.2.2.2.2.2.2.2.1 r.2.2.2.2.2.2.2.2.2.2.2.2.2.1 ++ [(hq, .inr (8, [.ref he, .int r.2.2.2.2.2.2.2.2.2.2.2.2.2.2.1, .int r.2.2.2.2.2.2.2.2.2.2.2.2.2.2.2.1])), (he, .inl (D.1 103, ne, .inr (.inr (.inr (.inr r.2.2.2.2.2.2.2.2.2.2.2.2.2.2.2.2)))))] ++ LW D b0 b1 b2 b3 b4 b5 n n4 cols rows kd thr bt tm rea gr vl so dy cg)) := by
  refine m_r (by decide) (Nat.le_of_ble_eq_true rfl) ?_
  intro p e s m args below meth c A B
  obtain ⟨X, hr, hAm, -, hnm, hnmd⟩ := B
  obtain ⟨hAm, hH⟩ := hAm
  replace X : CX p s m args meth c D A cX0_act 1 "DyeLattice" := X
  refine v_lv (lv' := [(0, .ref a0)]) [0] rfl ?_
  unfold C_act at hF
  refine v_aload_n 1 X 0 dX0_act_0 rfl rfl rfl ?_
  refine v_aload_n 2 X 0 dX0_act_1 rfl rfl rfl ?_
  refine v_get 5 X in_X0 0 0 rfl rfl (by decide) q245 rfl rfl dX0_act_2 rfl ?_
  obtain ⟨z5, hz5, hF⟩ := ob hF
  refine vc_Vr (wr := ([(a0, .inr (0, [.ref b0, .ref hq, .ref tx])), (hq, .inr (8, [.ref he, .int hd, .int tl])), (he, .inl (D.1 103, ne, .inr (.inr (.inr (.inr el)))))])) 8 6 652 X 0 [] [1, 2, 3, 4, 5, 6] [0, 7, 8] (LW D b0 b1 b2 b3 b4 b5 n n4 cols rows kd thr bt tm rea gr vl so dy cg) rfl rfl (by decide) (by decide) (by decide) (w_X1_copy _ hz5) q356 q357 q358 q85 q359 hdX1_copy 1 rfl rfl (pass_amb hAm) ⟨Nat.le_of_ble_eq_true rfl, Nat.le_of_ble_eq_true rfl⟩ ⟨(Nat.le_of_ble_eq_true rfl), (Nat.le_of_ble_eq_true rfl)⟩ rfl rfl (Nat.le_of_ble_eq_true rfl) dX0_act_5 rfl rfl rfl (fun a5 u5 e5 => ?_)
  obtain ⟨q5_6, q5_7, q5_8, q5_9, q5_10, q5_11, e51, rfl⟩ := e5
  have e52 := e51.symm
  subst e52
  refine v_ws (ws' := ([(a0, .inr (0, [.ref b0, .ref hq, .ref tx])), (hq, .inr (8, [.ref he, .int hd, .int tl])), (he, .inl (D.1 103, ne, .inr (.inr (.inr (.inr el)))))] ++ LW D b0 b1 b2 b3 b4 b5 n n4 cols rows kd thr bt tm rea gr vl so dy cg ++ LW D q5_6 q5_7 q5_8 q5_9 q5_10 q5_11 z5.2.2.2.2.2.2.2.1 z5.2.2.2.2.2.2.2.2.2.1 z5.1 z5.2.1 z5.2.2.1 z5.2.2.2.1 z5.2.2.2.2.1 z5.2.2.2.2.2.1 z5.2.2.2.2.2.2.1 z5.2.2.2.2.2.2.2.2.1 z5.2.2.2.2.2.2.2.2.2.2.1 z5.2.2.2.2.2.2.2.2.2.2.2.1 z5.2.2.2.2.2.2.2.2.2.2.2.2.1 z5.2.2.2.2.2.2.2.2.2.2.2.2.2)) [0, 1, 2, 3, 4, 5, 6, 7, 8, 9, 10, 11, 12, 13, 14] (by decide) rfl ?_
  obtain ⟨z8, hz8, hF⟩ := ob hF
  refine vc_Vv (wr := ([(b1, .inl (D.1 100, n, .inl gr)), (b2, .inl (D.1 104, n4, .inr (.inr (.inr (.inr (vArr D vl)))))), (b3, .inl (D.1 100, n, .inl so)), (b4, .inl (D.1 100, n, .inl dy)), (b5, .inl (D.1 101, n, .inl cg)), (q5_7, .inl (D.1 100, z5.2.2.2.2.2.2.2.1, .inl z5.2.2.2.2.2.2.2.2.1)), (q5_8, .inl (D.1 104, z5.2.2.2.2.2.2.2.2.2.1, .inr (.inr (.inr (.inr (vArr D z5.2.2.2.2.2.2.2.2.2.2.1)))))), (q5_9, .inl (D.1 100, z5.2.2.2.2.2.2.2.1, .inl z5.2.2.2.2.2.2.2.2.2.2.2.1)), (q5_10, .inl (D.1 100, z5.2.2.2.2.2.2.2.1, .inl z5.2.2.2.2.2.2.2.2.2.2.2.2.1)), (q5_11, .inl (D.1 101, z5.2.2.2.2.2.2.2.1, .inl z5.2.2.2.2.2.2.2.2.2.2.2.2.2))])) 11 6 652 X 1 [.ref q5_6] [0, 3, 1, 2, 9] [4, 5, 6, 7, 8, 10, 11, 12, 13, 14] ([(a0, .inr (0, [.ref b0, .ref hq, .ref tx])), (b0, .inr (1, [.int cols, .int rows, .ref (adK D kd), .int thr, .int bt, .int tm, .int rea, .ref b1, .ref b2, .ref b3, .ref b4, .ref b5])), (hq, .inr (8, [.ref he, .int hd, .int tl])), (he, .inl (D.1 103, ne, .inr (.inr (.inr (.inr el))))), (q5_6, .inr (1, [.int z5.1, .int z5.2.1, .ref (adK D z5.2.2.1), .int z5.2.2.2.1, .int z5.2.2.2.2.1, .int z5.2.2.2.2.2.1, .int z5.2.2.2.2.2.2.1, .ref q5_7, .ref q5_8, .ref q5_9, .ref q5_10, .ref q5_11]))]) rfl rfl (by decide) (by decide) (by decide) (w_X0_replace _ hz8) q269 q271 qs0 q84 q272 hdX0_replace 0 rfl rfl (hx_pass hAm hH) ⟨Nat.le_of_ble_eq_true rfl, Nat.le_of_ble_eq_true rfl⟩ ⟨(Nat.le_of_ble_eq_true rfl), (Nat.le_of_ble_eq_true rfl)⟩ rfl rfl (Nat.le_of_ble_eq_true rfl) dX0_act_8 rfl rfl rfl (fun u8 e8 => ?_)
  subst e8
  refine v_ws (ws' := ([(b1, .inl (D.1 100, n, .inl gr)), (b2, .inl (D.1 104, n4, .inr (.inr (.inr (.inr (vArr D vl)))))), (b3, .inl (D.1 100, n, .inl so)), (b4, .inl (D.1 100, n, .inl dy)), (b5, .inl (D.1 101, n, .inl cg)), (q5_7, .inl (D.1 100, z5.2.2.2.2.2.2.2.1, .inl z5.2.2.2.2.2.2.2.2.1)), (q5_8, .inl (D.1 104, z5.2.2.2.2.2.2.2.2.2.1, .inr (.inr (.inr (.inr (vArr D z5.2.2.2.2.2.2.2.2.2.2.1)))))), (q5_9, .inl (D.1 100, z5.2.2.2.2.2.2.2.1, .inl z5.2.2.2.2.2.2.2.2.2.2.2.1)), (q5_10, .inl (D.1 100, z5.2.2.2.2.2.2.2.1, .inl z5.2.2.2.2.2.2.2.2.2.2.2.2.1)), (q5_11, .inl (D.1 101, z5.2.2.2.2.2.2.2.1, .inl z5.2.2.2.2.2.2.2.2.2.2.2.2.2)), (a0, .inr (0, [.ref q5_6, .ref hq, .ref tx])), (b0, .inr (1, [.int cols, .int rows, .ref (adK D kd), .int thr, .int bt, .int tm, .int rea, .ref b1, .ref b2, .ref b3, .ref b4, .ref b5])), (hq, .inr (8, [.ref he, .int z8.1, .int z8.2.1])), (he, .inl (D.1 103, ne, .inr (.inr (.inr (.inr z8.2.2))))), (q5_6, .inr (1, [.int z5.1, .int z5.2.1, .ref (adK D z5.2.2.1), .int z5.2.2.2.1, .int z5.2.2.2.2.1, .int z5.2.2.2.2.2.1, .int z5.2.2.2.2.2.2.1, .ref q5_7, .ref q5_8, .ref q5_9, .ref q5_10, .ref q5_11]))])) [0, 1, 2, 3, 4, 5, 6, 7, 8, 9, 10, 11, 12, 13, 14] (by decide) rfl ?_
  refine v_aload_n 12 X 0 dX0_act_11 rfl rfl rfl ?_
  refine v_get 15 X in_X0 10 0 rfl rfl (by decide) q245 rfl rfl dX0_act_12 rfl ?_
  obtain rfl := Option.some.inj hF
  refine v_ws (ws' := ([(a0, .inr (0, [.ref q5_6, .ref hq, .ref tx]))] ++ LW D q5_6 q5_7 q5_8 q5_9 q5_10 q5_11 z5.2.2.2.2.2.2.2.1 z5.2.2.2.2.2.2.2.2.2.1 z5.1 z5.2.1 z5.2.2.1 z5.2.2.2.1 z5.2.2.2.2.1 z5.2.2.2.2.2.1 z5.2.2.2.2.2.2.1 z5.2.2.2.2.2.2.2.2.1 z5.2.2.2.2.2.2.2.2.2.2.1 z5.2.2.2.2.2.2.2.2.2.2.2.1 z5.2.2.2.2.2.2.2.2.2.2.2.2.1 z5.2.2.2.2.2.2.2.2.2.2.2.2.2 ++ [(hq, .inr (8, [.ref he, .int z8.1, .int z8.2.1])), (he, .inl (D.1 103, ne, .inr (.inr (.inr (.inr z8.2.2)))))] ++ LW D b0 b1 b2 b3 b4 b5 n n4 cols rows kd thr bt tm rea gr vl so dy cg)) [10, 14, 5, 6, 7, 8, 9, 12, 13, 11, 0, 1, 2, 3, 4] (by decide) rfl ?_
  refine v_aret (post := (fun r : Int32 × Int32 × Nat × Int32 × Int32 × Int32 × Int32 × Nat × (Nat → Int32) × Nat × (Nat → Nat) × (Nat → Int32) × (Nat → Int32) × (Nat → Int32) × Int32 × Int32 × (Nat → Option Nat) => (fun a1 u => ∃ qa1 qa2 qa3 qa4 qa5 qa6 : Nat, a1 = qa1 ∧ u = ([(a0, .inr (0, [.ref qa1, .ref hq, .ref tx]))] ++ LW D qa1 qa2 qa3 qa4 qa5 qa6 r.2.2.2.2.2.2.2.1 r.2.2.2.2.2.2.2.2.2.1 r.1 r.2.1 r.2.2.1 r.2.2.2.1 r.2.2.2.2.1 r.2.2.2.2.2.1 r.2.2.2.2.2.2.1 r.2.2.2.2.2.2.2.2.1 r.2.2.2.2.2.2.2.2.2.2.1 r.2.2.2.2.2.2.2.2.2.2.2.1 r.2.2.2.2.2.2.2.2.2.2.2.2.1 r.2.2.2.2.2.2.2.2.2.2.2.2.2.1 ++ [(hq, .inr (8, [.ref he, .int r.2.2.2.2.2.2.2.2.2.2.2.2.2.2.1, .int r.2.2.2.2.2.2.2.2.2.2.2.2.2.2.2.1])), (he, .inl (D.1 103, ne, .inr (.inr (.inr (.inr r.2.2.2.2.2.2.2.2.2.2.2.2.2.2.2.2)))))] ++ LW D b0 b1 b2 b3 b4 b5 n n4 cols rows kd thr bt tm rea gr vl so dy cg))) (z5.1, z5.2.1, z5.2.2.1, z5.2.2.2.1, z5.2.2.2.2.1, z5.2.2.2.2.2.1, z5.2.2.2.2.2.2.1, z5.2.2.2.2.2.2.2.1, z5.2.2.2.2.2.2.2.2.1, z5.2.2.2.2.2.2.2.2.2.1, z5.2.2.2.2.2.2.2.2.2.2.1, z5.2.2.2.2.2.2.2.2.2.2.2.1, z5.2.2.2.2.2.2.2.2.2.2.2.2.1, z5.2.2.2.2.2.2.2.2.2.2.2.2.2, z8.1, z8.2.1, z8.2.2)) X hr (Or.inl ⟨_, rfl⟩) ?_ ?_ ?_ dX0_act_15
  · exact ⟨q5_6, q5_7, q5_8, q5_9, q5_10, q5_11, rfl, rfl⟩
  · exact Nat.le_of_ble_eq_true rfl
  · exact Nat.le_of_ble_eq_true rfl
theorem w_X0_changeKind (v1 : Int32) (r : Nat × (Nat → Nat)) (hF : C_changeKind n4 vl v1 = some r) : CTv l yX0_changeKind cX0_changeKind 2 (Option.none : Option Jvm.ClassFile.FieldType) rmX0_changeKind D (LW D b0 b1 b2 b3 b4 b5 n n4 cols rows kd thr bt tm rea gr vl so dy cg) [.ref b0, .int v1] (AMB D) (fun u => u = (LW D b0 b1 b2 b3 b4 b5 n n4 cols rows r.1 thr bt tm rea gr r.2 so dy cg)) := by
  refine m_v (by decide) (Nat.le_of_ble_eq_true rfl) ?_
  intro p e s m args below meth c A B
  obtain ⟨X, hr, hAm, -, hnm, hnmd⟩ := B
  replace X : CX p s m args meth c D A cX0_changeKind 2 "DyeLattice" := X
  refine v_lv (lv' := [(0, .ref b0), (1, .int v1)]) [0, 1] rfl ?_
  unfold C_changeKind at hF
  refine v_aload_n 1 X 0 dX0_changeKind_0 rfl rfl rfl ?_
  refine v_iload_n 2 X 1 dX0_changeKind_1 rfl rfl rfl ?_
  obtain ⟨z2, hz2, hF⟩ := ob hF
  refine vc_Sr (wr := (LW D b0 b1 b2 b3 b4 b5 n n4 cols rows kd thr bt tm rea gr vl so dy cg)) 5 1 3 X 1 [.int v1] [] [0, 1, 2, 3, 4, 5] ([] : va_W) rfl rfl (by decide) (by decide) (by decide) (w_X2_of hz2) q365 q366 q87 q367 hdX2_of (pass_amb hAm) ⟨Nat.le_of_ble_eq_true rfl, Nat.le_of_ble_eq_true rfl⟩ ⟨(Nat.le_of_ble_eq_true rfl), (Nat.le_of_ble_eq_true rfl)⟩ rfl rfl (Nat.le_of_ble_eq_true rfl) dX0_changeKind_2 rfl rfl rfl (fun a2 u2 e2 => ?_)
  obtain ⟨rfl, rfl⟩ := e2
  refine v_ws (ws' := (LW D b0 b1 b2 b3 b4 b5 n n4 cols rows kd thr bt tm rea gr vl so dy cg)) [0, 1, 2, 3, 4, 5] (by decide) rfl ?_
  refine v_putN 8 (LW D b0 b1 b2 b3 b4 b5 n n4 cols rows z2 thr bt tm rea gr vl so dy cg) X hAm in_X1 tyX1_ok nmX1 0 2 rfl rfl (by decide) q142 rfl rfl rfl rfl rfl (Nat.le_of_ble_eq_true rfl) dX0_changeKind_5 rfl rfl ?_
  refine v_aload_n 9 X 0 dX0_changeKind_8 rfl rfl rfl ?_
  obtain ⟨z9, hz9, hF⟩ := ob hF
  refine v_mVv 12 X 0 [] (w_X1_freeValves _ hz9) q381 q130 q131 q85 q132 hdX1_freeValves 0 rfl rfl (pass_amb hAm) ⟨rfl, rfl⟩ ⟨Nat.le_of_ble_eq_true rfl, Nat.le_of_ble_eq_true rfl⟩ ⟨(Nat.le_of_ble_eq_true rfl), (Nat.le_of_ble_eq_true rfl)⟩ rfl rfl (Nat.le_of_ble_eq_true rfl) dX0_changeKind_9 rfl ?_
  obtain rfl := Option.some.inj hF
  exact v_vret X hr rfl (Nat.le_of_ble_eq_true rfl) (Nat.le_of_ble_eq_true rfl) dX0_changeKind_12
theorem w_X0_setSize (v1 : Int32) (v2 : Int32) (r : ((Int32 × Int32 × Int32 × (Nat → Option Nat)) ⊕ (Int32 × Int32 × Int32 × Nat × Int32 × Int32 × Int32 × Int32 × Nat × (Nat → Int32) × Nat × (Nat → Nat) × (Nat → Int32) × (Nat → Int32) × (Nat → Int32) × Int32 × Int32 × (Nat → Option Nat)))) (hF : C_setSize thr bt rea kd b0 ne el hd tl hs v1 v2 = some r) : CTi l yX0_setSize cX0_setSize 3 (Option.some Jvm.ClassFile.FieldType.int) rmX0_setSize D ([(a0, .inr (0, [.ref b0, .ref hq, .ref tx]))] ++ LW D b0 b1 b2 b3 b4 b5 n n4 cols rows kd thr bt tm rea gr vl so dy cg ++ [(hq, .inr (8, [.ref he, .int hd, .int tl])), (he, .inl (D.1 103, ne, .inr (.inr (.inr (.inr el)))))]) [.ref a0, .int v1, .int v2] (HX D hs) (fun r1 u => match r with | (.inl x) => r1 = x.1 ∧ u = ([(a0, .inr (0, [.ref b0, .ref hq, .ref tx]))] ++ LW D b0 b1 b2 b3 b4 b5 n n4 cols rows kd thr bt tm rea gr vl so dy cg ++ [(hq, .inr (8, [.ref he, .int x.2.1, .int x.2.2.1])), (he, .inl (D.1 103, ne, .inr (.inr (.inr (.inr x.2.2.2)))))]) | (.inr x) => ∃ qa1 qa2 qa3 qa4 qa5 qa6 : Nat, r1 = x.1 ∧ u = ([(a0, .inr (0, [.ref qa1, .ref hq, .ref tx]))] ++ LW D qa1 qa2 qa3 qa4 qa5 qa6 x.2.2.2.2.2.2.2.2.1 x.2.2.2.2.2.2.2.2.2.2.1 x.2.1 x.2.2.1 x.2.2.2.1 x.2.2.2.2.1 x.2.2.2.2.2.1 x.2.2.2.2.2.2.1 x.2.2.2.2.2.2.2.1 x.2.2.2.2.2.2.2.2.2.1 x.2.2.2.2.2.2.2.2.2.2.2.1 x.2.2.2.2.2.2.2.2.2.2.2.2.1 x.2.2.2.2.2.2.2.2.2.2.2.2.2.1 x.2.2.2.2.2.2.2.2.2.2.2.2.2.2.1 ++ [(hq, .inr (8, [.ref he, .int x.2.2.2.2.2.2.2.2.2.2.2.2.2.2.2.1, .int x.2.2.2.2.2.2.2.2.2.2.2.2.2.2.2.2.1])), (he, .inl (D.1 103, ne, .inr (.inr (.inr (.inr x.2.2.2.2.2.2.2.2.2.2.2.2.2.2.2.2.2)))))] ++ LW D b0 b1 b2 b3 b4 b5 n n4 cols rows kd thr bt tm rea gr vl so dy cg)) := by
  refine m_i (by decide) (Nat.le_of_ble_eq_true rfl) ?_
  intro p e s m args below meth c A B
  obtain ⟨X, hr, hAm, -, hnm, hnmd⟩ := B
  obtain ⟨hAm, hH⟩ := hAm
  replace X : CX p s m args meth c D A cX0_setSize 3 "DyeLattice" := X
  refine v_lv (lv' := [(0, .ref a0), (1, .int v1), (2, .int v2)]) [0, 1, 2] rfl ?_
  unfold C_setSize at hF
  refine v_iload_n 1 X 1 dX0_setSize_0 rfl rfl rfl ?_
  refine v_iconst (v := 2) 2 X dX0_setSize_1 rfl ki_2 ?_
  refine v_bipush (v := 10) 4 X dX0_setSize_2 rfl kb_10 ?_
  obtain ⟨z4, hz4, hF⟩ := ob hF
  refine v_mSi 7 X 3 [.int v1, .int 2, .int 10] (w_X0_isBetween ([(a0, .inr (0, [.ref b0, .ref hq, .ref tx]))] ++ LW D b0 b1 b2 b3 b4 b5 n n4 cols rows kd thr bt tm rea gr vl so dy cg ++ [(hq, .inr (8, [.ref he, .int hd, .int tl])), (he, .inl (D.1 103, ne, .inr (.inr (.inr (.inr el)))))]) v1 2 10 _ hz4) q260 q261 q84 q262 hdX0_isBetween pass_no ⟨rfl, rfl⟩ ⟨Nat.le_of_ble_eq_true rfl, Nat.le_of_ble_eq_true rfl⟩ ⟨(Nat.le_of_ble_eq_true rfl), (Nat.le_of_ble_eq_true rfl)⟩ rfl rfl (Nat.le_of_ble_eq_true rfl) dX0_setSize_4 rfl ?_
  refine v_if_eq 10 20 X dX0_setSize_7 rfl (by decide) (fun h7 => ?_) (fun h7 => ?_)
  · replace hF := ifp h7 hF
    refine v_iconst (v := (-1)) 21 X dX0_setSize_20 rfl ki_m1 ?_
    obtain rfl := Option.some.inj hF
    exact v_iret X hr ⟨rfl, rfl⟩ (Nat.le_of_ble_eq_true rfl) (Nat.le_of_ble_eq_true rfl) dX0_setSize_21
  · replace hF := ifn h7 hF
    refine v_iload_n 11 X 2 dX0_setSize_10 rfl rfl rfl ?_
    refine v_iconst (v := 2) 12 X dX0_setSize_11 rfl ki_2 ?_
    refine v_bipush (v := 8) 14 X dX0_setSize_12 rfl kb_8 ?_
    obtain ⟨z14, hz14, hF⟩ := ob hF
    refine v_mSi 17 X 3 [.int v2, .int 2, .int 8] (w_X0_isBetween ([(a0, .inr (0, [.ref b0, .ref hq, .ref tx]))] ++ LW D b0 b1 b2 b3 b4 b5 n n4 cols rows kd thr bt tm rea gr vl so dy cg ++ [(hq, .inr (8, [.ref he, .int hd, .int tl])), (he, .inl (D.1 103, ne, .inr (.inr (.inr (.inr el)))))]) v2 2 8 _ hz14) q260 q261 q84 q262 hdX0_isBetween pass_no ⟨rfl, rfl⟩ ⟨Nat.le_of_ble_eq_true rfl, Nat.le_of_ble_eq_true rfl⟩ ⟨(Nat.le_of_ble_eq_true rfl), (Nat.le_of_ble_eq_true rfl)⟩ rfl rfl (Nat.le_of_ble_eq_true rfl) dX0_setSize_14 rfl ?_
    refine v_if_ne 20 22 X dX0_setSize_17 rfl (by decide) (fun h17 => ?_) (fun h17 => ?_)
    · replace hF := ifn h17 hF
      refine v_aload_n 23 X 0 dX0_setSize_22 rfl rfl rfl ?_
      refine v_aload_n 24 X 0 dX0_setSize_23 rfl rfl rfl ?_
      refine v_get 27 X in_X0 0 0 rfl rfl (by decide) q245 rfl rfl dX0_setSize_24 rfl ?_
      refine v_iload_n 28 X 1 dX0_setSize_27 rfl rfl rfl ?_
      refine v_iload_n 29 X 2 dX0_setSize_28 rfl rfl rfl ?_
      obtain ⟨z29, hz29, hF⟩ := ob hF
      refine vc_Vr (wr := ([(a0, .inr (0, [.ref b0, .ref hq, .ref tx])), (hq, .inr (8, [.ref he, .int hd, .int tl])), (he, .inl (D.1 103, ne, .inr (.inr (.inr (.inr el)))))])) 32 6 652 X 2 [.int v1, .int v2] [1, 2, 3, 4, 5, 6] [0, 7, 8] (LW D b0 b1 b2 b3 b4 b5 n n4 cols rows kd thr bt tm rea gr vl so dy cg) rfl rfl (by decide) (by decide) (by decide) (w_X1_resized v1 v2 _ hz29) q263 q264 q265 q85 q266 hdX1_resized 1 rfl rfl (pass_amb hAm) ⟨Nat.le_of_ble_eq_true rfl, Nat.le_of_ble_eq_true rfl⟩ ⟨(Nat.le_of_ble_eq_true rfl), (Nat.le_of_ble_eq_true rfl)⟩ rfl rfl (Nat.le_of_ble_eq_true rfl) dX0_setSize_29 rfl rfl rfl (fun a29 u29 e29 => ?_)
      obtain ⟨q29_6, q29_7, q29_8, q29_9, q29_10, q29_11, e291, rfl⟩ := e29
      have e292 := e291.symm
      subst e292
      refine v_ws (ws' := ([(a0, .inr (0, [.ref b0, .ref hq, .ref tx])), (hq, .inr (8, [.ref he, .int hd, .int tl])), (he, .inl (D.1 103, ne, .inr (.inr (.inr (.inr el)))))] ++ LW D b0 b1 b2 b3 b4 b5 n n4 cols rows kd thr bt tm rea gr vl so dy cg ++ LW D q29_6 q29_7 q29_8 q29_9 q29_10 q29_11 z29.2.2.2.2.2.2.2.1 z29.2.2.2.2.2.2.2.2.2.1 z29.1 z29.2.1 z29.2.2.1 z29.2.2.2.1 z29.2.2.2.2.1 z29.2.2.2.2.2.1 z29.2.2.2.2.2.2.1 z29.2.2.2.2.2.2.2.2.1 z29.2.2.2.2.2.2.2.2.2.2.1 z29.2.2.2.2.2.2.2.2.2.2.2.1 z29.2.2.2.2.2.2.2.2.2.2.2.2.1 z29.2.2.2.2.2.2.2.2.2.2.2.2.2)) [0, 1, 2, 3, 4, 5, 6, 7, 8, 9, 10, 11, 12, 13, 14] (by decide) rfl ?_
      obtain ⟨z32, hz32, hF⟩ := ob hF
      refine vc_Vv (wr := ([(b1, .inl (D.1 100, n, .inl gr)), (b2, .inl (D.1 104, n4, .inr (.inr (.inr (.inr (vArr D vl)))))), (b3, .inl (D.1 100, n, .inl so)), (b4, .inl (D.1 100, n, .inl dy)), (b5, .inl (D.1 101, n, .inl cg)), (q29_7, .inl (D.1 100, z29.2.2.2.2.2.2.2.1, .inl z29.2.2.2.2.2.2.2.2.1)), (q29_8, .inl (D.1 104, z29.2.2.2.2.2.2.2.2.2.1, .inr (.inr (.inr (.inr (vArr D z29.2.2.2.2.2.2.2.2.2.2.1)))))), (q29_9, .inl (D.1 100, z29.2.2.2.2.2.2.2.1, .inl z29.2.2.2.2.2.2.2.2.2.2.2.1)), (q29_10, .inl (D.1 100, z29.2.2.2.2.2.2.2.1, .inl z29.2.2.2.2.2.2.2.2.2.2.2.2.1)), (q29_11, .inl (D.1 101, z29.2.2.2.2.2.2.2.1, .inl z29.2.2.2.2.2.2.2.2.2.2.2.2.2))])) 35 6 652 X 1 [.ref q29_6] [0, 3, 1, 2, 9] [4, 5, 6, 7, 8, 10, 11, 12, 13, 14] ([(a0, .inr (0, [.ref b0, .ref hq, .ref tx])), (b0, .inr (1, [.int cols, .int rows, .ref (adK D kd), .int thr, .int bt, .int tm, .int rea, .ref b1, .ref b2, .ref b3, .ref b4, .ref b5])), (hq, .inr (8, [.ref he, .int hd, .int tl])), (he, .inl (D.1 103, ne, .inr (.inr (.inr (.inr el))))), (q29_6, .inr (1, [.int z29.1, .int z29.2.1, .ref (adK D z29.2.2.1), .int z29.2.2.2.1, .int z29.2.2.2.2.1, .int z29.2.2.2.2.2.1, .int z29.2.2.2.2.2.2.1, .ref q29_7, .ref q29_8, .ref q29_9, .ref q29_10, .ref q29_11]))]) rfl rfl (by decide) (by decide) (by decide) (w_X0_replace _ hz32) q269 q271 qs0 q84 q272 hdX0_replace 0 rfl rfl (hx_pass hAm hH) ⟨Nat.le_of_ble_eq_true rfl, Nat.le_of_ble_eq_true rfl⟩ ⟨(Nat.le_of_ble_eq_true rfl), (Nat.le_of_ble_eq_true rfl)⟩ rfl rfl (Nat.le_of_ble_eq_true rfl) dX0_setSize_32 rfl rfl rfl (fun u32 e32 => ?_)
      subst e32
      refine v_ws (ws' := ([(b1, .inl (D.1 100, n, .inl gr)), (b2, .inl (D.1 104, n4, .inr (.inr (.inr (.inr (vArr D vl)))))), (b3, .inl (D.1 100, n, .inl so)), (b4, .inl (D.1 100, n, .inl dy)), (b5, .inl (D.1 101, n, .inl cg)), (q29_7, .inl (D.1 100, z29.2.2.2.2.2.2.2.1, .inl z29.2.2.2.2.2.2.2.2.1)), (q29_8, .inl (D.1 104, z29.2.2.2.2.2.2.2.2.2.1, .inr (.inr (.inr (.inr (vArr D z29.2.2.2.2.2.2.2.2.2.2.1)))))), (q29_9, .inl (D.1 100, z29.2.2.2.2.2.2.2.1, .inl z29.2.2.2.2.2.2.2.2.2.2.2.1)), (q29_10, .inl (D.1 100, z29.2.2.2.2.2.2.2.1, .inl z29.2.2.2.2.2.2.2.2.2.2.2.2.1)), (q29_11, .inl (D.1 101, z29.2.2.2.2.2.2.2.1, .inl z29.2.2.2.2.2.2.2.2.2.2.2.2.2)), (a0, .inr (0, [.ref q29_6, .ref hq, .ref tx])), (b0, .inr (1, [.int cols, .int rows, .ref (adK D kd), .int thr, .int bt, .int tm, .int rea, .ref b1, .ref b2, .ref b3, .ref b4, .ref b5])), (hq, .inr (8, [.ref he, .int z32.1, .int z32.2.1])), (he, .inl (D.1 103, ne, .inr (.inr (.inr (.inr z32.2.2))))), (q29_6, .inr (1, [.int z29.1, .int z29.2.1, .ref (adK D z29.2.2.1), .int z29.2.2.2.1, .int z29.2.2.2.2.1, .int z29.2.2.2.2.2.1, .int z29.2.2.2.2.2.2.1, .ref q29_7, .ref q29_8, .ref q29_9, .ref q29_10, .ref q29_11]))])) [0, 1, 2, 3, 4, 5, 6, 7, 8, 9, 10, 11, 12, 13, 14] (by decide) rfl ?_
      refine v_aload_n 36 X 0 dX0_setSize_35 rfl rfl rfl ?_
      refine v_get 39 X in_X0 10 0 rfl rfl (by decide) q245 rfl rfl dX0_setSize_36 rfl ?_
      have hz39 : L_cells z29.2.2.2.2.2.2.2.1 = some (nI z29.2.2.2.2.2.2.2.1) := rfl
      refine vc_Vi (wr := ([(b1, .inl (D.1 100, n, .inl gr)), (b2, .inl (D.1 104, n4, .inr (.inr (.inr (.inr (vArr D vl)))))), (b3, .inl (D.1 100, n, .inl so)), (b4, .inl (D.1 100, n, .inl dy)), (b5, .inl (D.1 101, n, .inl cg)), (a0, .inr (0, [.ref q29_6, .ref hq, .ref tx])), (b0, .inr (1, [.int cols, .int rows, .ref (adK D kd), .int thr, .int bt, .int tm, .int rea, .ref b1, .ref b2, .ref b3, .ref b4, .ref b5])), (hq, .inr (8, [.ref he, .int z32.1, .int z32.2.1])), (he, .inl (D.1 103, ne, .inr (.inr (.inr (.inr z32.2.2)))))])) 42 6 652 X 0 [] [14, 5, 6, 7, 8, 9] [0, 1, 2, 3, 4, 10, 11, 12, 13] (LW D q29_6 q29_7 q29_8 q29_9 q29_10 q29_11 z29.2.2.2.2.2.2.2.1 z29.2.2.2.2.2.2.2.2.2.1 z29.1 z29.2.1 z29.2.2.1 z29.2.2.2.1 z29.2.2.2.2.1 z29.2.2.2.2.2.1 z29.2.2.2.2.2.2.1 z29.2.2.2.2.2.2.2.2.1 z29.2.2.2.2.2.2.2.2.2.2.1 z29.2.2.2.2.2.2.2.2.2.2.2.1 z29.2.2.2.2.2.2.2.2.2.2.2.2.1 z29.2.2.2.2.2.2.2.2.2.2.2.2.2) rfl rfl (by decide) (by decide) (by decide) (w_X1_cells _ hz39) q344 q345 q346 q85 q347 hdX1_cells 14 rfl rfl (pass_amb hAm) ⟨Nat.le_of_ble_eq_true rfl, Nat.le_of_ble_eq_true rfl⟩ ⟨(Nat.le_of_ble_eq_true rfl), (Nat.le_of_ble_eq_true rfl)⟩ rfl rfl (Nat.le_of_ble_eq_true rfl) dX0_setSize_39 rfl rfl rfl (fun r39 u39 e39 => ?_)
      obtain ⟨e391, rfl⟩ := e39
      have e392 := e391.symm
      subst e392
      refine v_ws (ws' := ([(b1, .inl (D.1 100, n, .inl gr)), (b2, .inl (D.1 104, n4, .inr (.inr (.inr (.inr (vArr D vl)))))), (b3, .inl (D.1 100, n, .inl so)), (b4, .inl (D.1 100, n, .inl dy)), (b5, .inl (D.1 101, n, .inl cg)), (a0, .inr (0, [.ref q29_6, .ref hq, .ref tx])), (b0, .inr (1, [.int cols, .int rows, .ref (adK D kd), .int thr, .int bt, .int tm, .int rea, .ref b1, .ref b2, .ref b3, .ref b4, .ref b5])), (hq, .inr (8, [.ref he, .int z32.1, .int z32.2.1])), (he, .inl (D.1 103, ne, .inr (.inr (.inr (.inr z32.2.2)))))] ++ LW D q29_6 q29_7 q29_8 q29_9 q29_10 q29_11 z29.2.2.2.2.2.2.2.1 z29.2.2.2.2.2.2.2.2.2.1 z29.1 z29.2.1 z29.2.2.1 z29.2.2.2.1 z29.2.2.2.2.1 z29.2.2.2.2.2.1 z29.2.2.2.2.2.2.1 z29.2.2.2.2.2.2.2.2.1 z29.2.2.2.2.2.2.2.2.2.2.1 z29.2.2.2.2.2.2.2.2.2.2.2.1 z29.2.2.2.2.2.2.2.2.2.2.2.2.1 z29.2.2.2.2.2.2.2.2.2.2.2.2.2)) [0, 1, 2, 3, 4, 5, 6, 7, 8, 9, 10, 11, 12, 13, 14] (by decide) rfl ?_
      obtain rfl := Option.some.inj hF
      refine v_ws (ws' := ([(a0, .inr (0, [.ref q29_6, .ref hq, .ref tx]))] ++ LW D q29_6 q29_7 q29_8 q29_9 q29_10 q29_11 z29.2.2.2.2.2.2.2.1 z29.2.2.2.2.2.2.2.2.2.1 z29.1 z29.2.1 z29.2.2.1 z29.2.2.2.1 z29.2.2.2.2.1 z29.2.2.2.2.2.1 z29.2.2.2.2.2.2.1 z29.2.2.2.2.2.2.2.2.1 z29.2.2.2.2.2.2.2.2.2.2.1 z29.2.2.2.2.2.2.2.2.2.2.2.1 z29.2.2.2.2.2.2.2.2.2.2.2.2.1 z29.2.2.2.2.2.2.2.2.2.2.2.2.2 ++ [(hq, .inr (8, [.ref he, .int z32.1, .int z32.2.1])), (he, .inl (D.1 103, ne, .inr (.inr (.inr (.inr z32.2.2)))))] ++ LW D b0 b1 b2 b3 b4 b5 n n4 cols rows kd thr bt tm rea gr vl so dy cg)) [5, 9, 10, 11, 12, 13, 14, 7, 8, 6, 0, 1, 2, 3, 4] (by decide) rfl ?_
      exact v_iret X hr ⟨q29_6, q29_7, q29_8, q29_9, q29_10, q29_11, rfl, rfl⟩ (Nat.le_of_ble_eq_true rfl) (Nat.le_of_ble_eq_true rfl) dX0_setSize_42
    · replace hF := ifp h17 hF
      refine v_iconst (v := (-1)) 21 X dX0_setSize_20 rfl ki_m1 ?_
      obtain rfl := Option.some.inj hF
      exact v_iret X hr ⟨rfl, rfl⟩ (Nat.le_of_ble_eq_true rfl) (Nat.le_of_ble_eq_true rfl) dX0_setSize_21
end
